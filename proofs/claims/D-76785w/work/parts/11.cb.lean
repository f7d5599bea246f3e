/-! printed by gen/cgen.py: methods of the component, lifted and walked (2) -/
set_option maxRecDepth 100000
set_option maxHeartbeats 4000000
section
variable {p : Program} {l : Launch} {e : Env} {s : State} {m : MethodId} {args : Array Value} {below : List Frame} {meth : Method} {c : Code} {G : gG} {Rp : gM → gM → Nat → Prop} {mc ms : Nat}
section
variable {r : Unit} {Sf : gS}
def fX10_init (l0 : Nat) (l1 : Int32) (l2 : Int32) (S : gS) : gO Unit :=
  bd (wr S l0 6 0 (.int l1)) fun S2 =>
  bd (wr S2 l0 6 1 (.int l2)) fun S3 =>
  some ((), S3, 0, 0)
theorem wX10_init_b0 (hk : rOK Rp) (hJ : JDK l G Rp) (hc : gC p s m args meth c G RX10 "<init>" cX10_init 3 (none)) (l0 : Nat) (l1 : Int32) (l2 : Int32) (S : gS) (H : Heap) (locs : List Loc) (ls : Array Slot) (kc ks C N : Nat) (hkc : kc + C ≤ mc) (hks : ks + N ≤ ms) (hH : hp G Rp S H) (hS : va_S G.2.2.2 s.heap H locs) (hl : lv_has ls 3 [(0, .ref l0), (1, .int l1), (2, .int l2)]) (hf : fX10_init l0 l1 l2 S = some (r, Sf, C, N)) : W p l e (gR 1 40 mc ms) s m args below meth c H locs kc ks (gQ below G Rp none Sf args s mc ms) (F0 m 0 ls []) := by
  obtain ⟨hx, hb, hr, hlk, hml, hown, hts, hE, hA, hnm⟩ := hc
  have hc : gC p s m args meth c G RX10 "<init>" cX10_init 3 (none) := ⟨hx, hb, hr, hlk, hml, hown, hts, hE, hA, hnm⟩
  unfold fX10_init at hf
  refine lv_aload_n (pc := 0) hx hb dX10_init_0 rfl (lv_at hl 0 rfl) ?_
  refine W.objInit  hx hb hown (hts _ q1243) (hts _ q169) (hts _ q170) rfl (by rw [hml]; exact hl.1) rfl dX10_init_1 (Nat.le_of_ble_eq_true rfl) (Nat.le_of_ble_eq_true rfl) ?_
  refine W.eq (g2 := F0 m 4 ls []) rfl ?_
  refine lv_aload_n (pc := 4) hx hb dX10_init_4 rfl (lv_at hl 0 rfl) ?_
  refine lv_iload_n (pc := 5) hx hb dX10_init_5 rfl (lv_at hl 1 rfl) ?_
  obtain ⟨S2, e2, hf⟩ := bdo hf
  refine g_putF (pc := 6) (o := (some l0)) (a := l0) (ci := 6) (k := 0) (v := .int l1) (C := RX10) (T := TX10) (N := 5) (ty := .int) hx hb hts hown hE hk hH hS rfl in_X10 tyX10_ok nmX10 rfl (by decide) (hts _ q1244) (fun _ h9 => h9) rfl hnm rfl rfl rfl rfl rfl e2 dX10_init_6 (fun H locs hH hS => ?_)
  refine lv_aload_n (pc := 9) hx hb dX10_init_9 rfl (lv_at hl 0 rfl) ?_
  refine lv_iload_n (pc := 10) hx hb dX10_init_10 rfl (lv_at hl 2 rfl) ?_
  obtain ⟨S3, e3, hf⟩ := bdo hf
  refine g_putF (pc := 11) (o := (some l0)) (a := l0) (ci := 6) (k := 1) (v := .int l2) (C := RX10) (T := TX10) (N := 5) (ty := .int) hx hb hts hown hE hk hH hS rfl in_X10 tyX10_ok nmX10 rfl (by decide) (hts _ q1247) (fun _ h9 => h9) rfl hnm rfl rfl rfl rfl rfl e3 dX10_init_11 (fun H locs hH hS => ?_)
  exact g_vret (pc := 14) hx hb hr hlk hH hS hkc hks hf dX10_init_14
theorem mX10_init {l : Launch} {G : gG} {Rp : gM → gM → Nat → Prop} (hk : rOK Rp) (hJ : JDK l G Rp) {S S2 : gS} {r2 : Unit} {C N : Nat} {l0 : Nat} {l1 : Int32} {l2 : Int32} (hf : fX10_init l0 l1 l2 S = some (r2, S2, C, N)) : gMet l yX10_init cX10_init 3 (none) 1 40 G Rp [.ref l0, .int l1, .int l2] S none S2 C N := by
  refine g_start (by decide) (Nat.le_of_ble_eq_true rfl) (fun p e s m args below meth c ls hc hl hH => ?_)
  have hl : lv_has ls 3 [(0, .ref l0), (1, .int l1), (2, .int l2)] := hl
  exact wX10_init_b0 hk hJ hc l0 l1 l2 S _ _ ls 0 0 C N (by omega) (by omega) hH va_S.rf (lv_sub hl [0, 1, 2] rfl) hf
end
section
variable {r : Unit} {Sf : gS}
def fX10_init_2 (l0 : Nat) (l1 : Option Nat) (S : gS) : gO Unit :=
  bd l1 fun a1 =>
  bd (rdI S a1 6 0) fun v2 =>
  bd (rdI S a1 6 1) fun v3 =>
  gb (fX10_init l0 v2 v3 S) fun _ S4 =>
  bd (rdI S4 a1 6 2) fun v5 =>
  bd (wr S4 l0 6 2 (.int v5)) fun S6 =>
  bd (rdI S6 a1 6 3) fun v7 =>
  bd (wr S6 l0 6 3 (.int v7)) fun S8 =>
  bd (rdI S8 a1 6 4) fun v9 =>
  bd (wrz S8 l0 6 4 v9) fun S10 =>
  some ((), S10, 0, 0)
theorem wX10_init_2_b0 (hk : rOK Rp) (hJ : JDK l G Rp) (hc : gC p s m args meth c G RX10 "<init>" cX10_init_2 2 (none)) (l0 : Nat) (l1 : Option Nat) (S : gS) (H : Heap) (locs : List Loc) (ls : Array Slot) (kc ks C N : Nat) (hkc : kc + C ≤ mc) (hks : ks + N ≤ ms) (hH : hp G Rp S H) (hS : va_S G.2.2.2 s.heap H locs) (hl : lv_has ls 2 [(0, .ref l0), (1, va_rf l1)]) (hf : fX10_init_2 l0 l1 S = some (r, Sf, C, N)) : W p l e (gR 2 62 mc ms) s m args below meth c H locs kc ks (gQ below G Rp none Sf args s mc ms) (F0 m 0 ls []) := by
  obtain ⟨hx, hb, hr, hlk, hml, hown, hts, hE, hA, hnm⟩ := hc
  have hc : gC p s m args meth c G RX10 "<init>" cX10_init_2 2 (none) := ⟨hx, hb, hr, hlk, hml, hown, hts, hE, hA, hnm⟩
  unfold fX10_init_2 at hf
  refine lv_aload_n (pc := 0) hx hb dX10_init_2_0 rfl (lv_at hl 0 rfl) ?_
  refine g_aload_n (pc := 1) (o := l1) hx hb dX10_init_2_1 rfl (lv_at hl 1 rfl) ?_
  obtain ⟨a1, ea1, hf⟩ := bdo hf
  obtain ⟨v2, e2, hf⟩ := bdo hf
  refine g_get (pc := 2) (o := l1) (a := a1) (ci := 6) (k := 0) (v := .int v2) (C := RX10) (T := TX10) (N := 5) hx hb hts hown hE hk hH in_X10 rfl (by decide) (hts _ q1244) (fun _ h9 => h9) ea1 (rdI_o e2) dX10_init_2_2 ?_
  refine g_aload_n (pc := 5) (o := l1) hx hb dX10_init_2_5 rfl (lv_at hl 1 rfl) ?_
  obtain ⟨v3, e3, hf⟩ := bdo hf
  refine g_get (pc := 6) (o := l1) (a := a1) (ci := 6) (k := 1) (v := .int v3) (C := RX10) (T := TX10) (N := 5) hx hb hts hown hE hk hH in_X10 rfl (by decide) (hts _ q1247) (fun _ h9 => h9) ea1 (rdI_o e3) dX10_init_2_6 ?_
  obtain ⟨_, S4, c4, n4, c2_4, n2_4, e4, hf, hC4, hN4⟩ := gbo hf
  refine g_callI (pc := 9) (o := (some l0)) (b := l0) (As := [.int v2, .int v3]) (rest := []) hc (mX10_init hk hJ (l0 := l0) (l1 := v2) (l2 := v3) e4) (cwI 2 hts (lw_meth q1242) rfl rfl rfl (hts _ q134) (hts _ q2698) (hts _ q1241) rfl hdiX10_init ⟨Nat.le_of_ble_eq_true rfl, Nat.le_of_ble_eq_true rfl⟩) rfl rfl hl.1 rfl (lv_room (Nat.le_of_ble_eq_true rfl)) dX10_init_2_9 hH hS (by omega) (by omega) (fun H locs hH hS => ?_)
  have hkc : kc + c4 + c2_4 ≤ mc := by omega
  have hks : ks + n4 + n2_4 ≤ ms := by omega
  refine lv_aload_n (pc := 12) hx hb dX10_init_2_12 rfl (lv_at hl 0 rfl) ?_
  refine g_aload_n (pc := 13) (o := l1) hx hb dX10_init_2_13 rfl (lv_at hl 1 rfl) ?_
  obtain ⟨v5, e5, hf⟩ := bdo hf
  refine g_get (pc := 14) (o := l1) (a := a1) (ci := 6) (k := 2) (v := .int v5) (C := RX10) (T := TX10) (N := 5) hx hb hts hown hE hk hH in_X10 rfl (by decide) (hts _ q1250) (fun _ h9 => h9) ea1 (rdI_o e5) dX10_init_2_14 ?_
  obtain ⟨S6, e6, hf⟩ := bdo hf
  refine g_put (pc := 17) (o := (some l0)) (a := l0) (ci := 6) (k := 2) (v := .int v5) (C := RX10) (T := TX10) (N := 5) (ty := .int) hx hb hts hown hE hk hH hS rfl in_X10 tyX10_ok nmX10 rfl (by decide) (hts _ q1250) (fun _ h9 => h9) rfl rfl rfl rfl rfl e6 dX10_init_2_17 (fun H locs hH hS => ?_)
  refine lv_aload_n (pc := 20) hx hb dX10_init_2_20 rfl (lv_at hl 0 rfl) ?_
  refine g_aload_n (pc := 21) (o := l1) hx hb dX10_init_2_21 rfl (lv_at hl 1 rfl) ?_
  obtain ⟨v7, e7, hf⟩ := bdo hf
  refine g_get (pc := 22) (o := l1) (a := a1) (ci := 6) (k := 3) (v := .int v7) (C := RX10) (T := TX10) (N := 5) hx hb hts hown hE hk hH in_X10 rfl (by decide) (hts _ q1253) (fun _ h9 => h9) ea1 (rdI_o e7) dX10_init_2_22 ?_
  obtain ⟨S8, e8, hf⟩ := bdo hf
  refine g_put (pc := 25) (o := (some l0)) (a := l0) (ci := 6) (k := 3) (v := .int v7) (C := RX10) (T := TX10) (N := 5) (ty := .int) hx hb hts hown hE hk hH hS rfl in_X10 tyX10_ok nmX10 rfl (by decide) (hts _ q1253) (fun _ h9 => h9) rfl rfl rfl rfl rfl e8 dX10_init_2_25 (fun H locs hH hS => ?_)
  refine lv_aload_n (pc := 28) hx hb dX10_init_2_28 rfl (lv_at hl 0 rfl) ?_
  refine g_aload_n (pc := 29) (o := l1) hx hb dX10_init_2_29 rfl (lv_at hl 1 rfl) ?_
  obtain ⟨v9, e9, hf⟩ := bdo hf
  refine g_get (pc := 30) (o := l1) (a := a1) (ci := 6) (k := 4) (v := .int v9) (C := RX10) (T := TX10) (N := 5) hx hb hts hown hE hk hH in_X10 rfl (by decide) (hts _ q1256) (fun _ h9 => h9) ea1 (rdI_o e9) dX10_init_2_30 ?_
  obtain ⟨S10, e10, hf⟩ := bdo hf
  refine g_put (pc := 33) (o := (some l0)) (a := l0) (ci := 6) (k := 4) (v := .int v9) (C := RX10) (T := TX10) (N := 5) (ty := .boolean) hx hb hts hown hE hk hH hS rfl in_X10 tyX10_ok nmX10 rfl (by decide) (hts _ q1256) (fun _ h9 => h9) rfl rfl (nar_z (wrz_o e10).1) (fit_z (wrz_o e10).1) rfl (wrz_o e10).2 dX10_init_2_33 (fun H locs hH hS => ?_)
  exact g_vret (pc := 36) hx hb hr hlk hH hS hkc hks hf dX10_init_2_36
theorem mX10_init_2 {l : Launch} {G : gG} {Rp : gM → gM → Nat → Prop} (hk : rOK Rp) (hJ : JDK l G Rp) {S S2 : gS} {r2 : Unit} {C N : Nat} {l0 : Nat} {l1 : Option Nat} (hf : fX10_init_2 l0 l1 S = some (r2, S2, C, N)) : gMet l yX10_init_2 cX10_init_2 2 (none) 2 62 G Rp [.ref l0, va_rf l1] S none S2 C N := by
  refine g_start (by decide) (by simp [lg_sl, va_rf_cat, cat_i, cat_j, cat_r]) (fun p e s m args below meth c ls hc hl hH => ?_)
  have hl : lv_has ls 2 [(0, .ref l0), (1, va_rf l1)] := by simpa [lv_args, va_rf_cat, cat_i, cat_j, cat_r] using hl
  exact wX10_init_2_b0 hk hJ hc l0 l1 S _ _ ls 0 0 C N (by omega) (by omega) hH va_S.rf (lv_sub hl [0, 1] rfl) hf
end
section
variable {r : Option Nat} {Sf : gS}
def fX1_becomes_b82 : Nat → Nat → (Option Nat) → (Option Nat) → gS → gO (Option Nat)
  | 0, _, _, _, _ => none
  | n + 1, l0, l1, l2, S =>
    bd l2 fun a2 =>
    gb (nI6_hasNext a2 S) fun v1 S1 =>
    if v1 = 0 then
      bd (rdR S1 l0 1 2) fun v4 =>
      bd l1 fun a5 =>
      bd (rdR S1 a5 1 2) fun v6 =>
      bd v4 fun a8 =>
      gb (nAL_addAll a8 v6 S1) fun v7 S7 =>
      bd (rdR S7 l0 1 3) fun v9 =>
      bd (rdR S7 a5 1 3) fun v10 =>
      bd v9 fun a12 =>
      gb (nLL_addAll a12 v10 S7) fun v11 S11 =>
      bd (rdR S11 a5 1 4) fun v13 =>
      bd (wr S11 l0 1 4 (va_rf v13)) fun S14 =>
      bd (rdI S14 a5 1 5) fun v15 =>
      bd (wr S14 l0 1 5 (.int v15)) fun S16 =>
      bd (rdI S16 a5 1 6) fun v17 =>
      bd (wr S16 l0 1 6 (.int v17)) fun S18 =>
      some ((some l0), S18, 0, 0)
    else
      gb (nI6_next a2 S1) fun v19 S19 =>
      bd (ckc S19 v19 6) fun _ =>
      bd (rdR S19 l0 1 1) fun v21 =>
      nw S19 (cO 6 [.int 0, .int 0, .int 0, .int 0, .int 0]) 5 fun S22 =>
      gb (fX10_init_2 S19.2 v19 S22) fun _ S23 =>
      bd v21 fun a25 =>
      gb (nAL_add a25 (some S19.2) S23) fun v24 S24 =>
      fX1_becomes_b82 n l0 l1 l2 S24
theorem wX1_becomes_b82 (hk : rOK Rp) (hJ : JDK l G Rp) (hc : gC p s m args meth c G RX1 "becomes" cX1_becomes 4 (some (.object "CreditBroker$World"))) : ∀ (n : Nat) (l0 : Nat) (l1 : Option Nat) (l2 : Option Nat) (S : gS) (H : Heap) (locs : List Loc) (ls : Array Slot) (kc ks C N : Nat), kc + C ≤ mc → ks + N ≤ ms → hp G Rp S H → va_S G.2.2.2 s.heap H locs → lv_has ls 4 [(0, .ref l0), (1, va_rf l1), (2, va_rf l2)] → fX1_becomes_b82 n l0 l1 l2 S = some (r, Sf, C, N) → W p l e (gR 17 586 mc ms) s m args below meth c H locs kc ks (gQ below G Rp (some (va_rf r)) Sf args s mc ms) (F0 m 82 ls []) := by
  obtain ⟨hx, hb, hr, hlk, hml, hown, hts, hE, hA, hnm⟩ := hc
  have hc : gC p s m args meth c G RX1 "becomes" cX1_becomes 4 (some (.object "CreditBroker$World")) := ⟨hx, hb, hr, hlk, hml, hown, hts, hE, hA, hnm⟩
  intro n
  induction n with
  | zero => intro l0 l1 l2 S H locs ls kc ks C N _ _ _ _ _ hf; exact absurd hf (fun h => by cases h)
  | succ n ih =>
    intro l0 l1 l2 S H locs ls kc ks C N hkc hks hH hS hl hf
    rw [fX1_becomes_b82] at hf
    refine g_aload_n (pc := 82) (o := l2) hx hb dX1_becomes_82 rfl (lv_at hl 2 rfl) ?_
    obtain ⟨a2, ea2, hf⟩ := bdo hf
    obtain ⟨v1, S1, c1, n1, c2_1, n2_1, e1, hf, hC1, hN1⟩ := gbo hf
    refine g_callF (pc := 83) (o := l2) (b := a2) (As := []) (rest := []) (st1 := [.int v1]) (ci := 21) (q := (RJ26, TJ26, 4)) hc (j_nI6_hasNext hJ a2 S v1 S1 c1 n1 e1) (va_cwF 0 hts (lw_app (lw_of4 q1318 q1339 q1341 q135) (lw_meth q1343)) rfl rfl rfl (hE.2.1.2.2.2.2.2 _ _ _ hdx_hasNext.1 q1320 q1319 q1342 q1340 q1338) hdx_hasNext.2 ⟨Nat.le_of_ble_eq_true rfl, Nat.le_of_ble_eq_true rfl⟩) rfl rfl (j_recv hJ _ _ _ _ 6 _ _ hE hH hS (adtR (t := 6) (show bd _ _ = some _ from e1)).choose_spec) ea2 rfl hl.1 rfl rfl (lv_room (Nat.le_of_ble_eq_true rfl)) dX1_becomes_83 hH hS (by omega) (by omega) (fun H locs hH hS => ?_)
    have hkc : kc + c1 + c2_1 ≤ mc := by omega
    have hks : ks + n1 + n2_1 ≤ ms := by omega
    refine lv_if_eq (pc := 88) (tgt := 120) hx hb dX1_becomes_88 (by decide) (fun c3 => ?_) (fun c3 => ?_)
    · rw [if_pos c3] at hf
      refine lv_aload_n (pc := 120) hx hb dX1_becomes_120 rfl (lv_at hl 0 rfl) ?_
      obtain ⟨v4, e4, hf⟩ := bdo hf
      refine g_get (pc := 121) (o := (some l0)) (a := l0) (ci := 1) (k := 2) (v := va_rf v4) (C := RX1) (T := TX1) (N := 7) hx hb hts hown hE hk hH in_X1 rfl (by decide) (hts _ q235) (fun _ h9 => h9) rfl (rdR_o e4) dX1_becomes_121 ?_
      refine g_aload_n (pc := 124) (o := l1) hx hb dX1_becomes_124 rfl (lv_at hl 1 rfl) ?_
      obtain ⟨a5, ea5, hf⟩ := bdo hf
      obtain ⟨v6, e6, hf⟩ := bdo hf
      refine g_get (pc := 125) (o := l1) (a := a5) (ci := 1) (k := 2) (v := va_rf v6) (C := RX1) (T := TX1) (N := 7) hx hb hts hown hE hk hH in_X1 rfl (by decide) (hts _ q235) (fun _ h9 => h9) ea5 (rdR_o e6) dX1_becomes_125 ?_
      obtain ⟨a8, ea8, hf⟩ := bdo hf
      obtain ⟨v7, S7, c7, n7, c2_7, n2_7, e7, hf, hC7, hN7⟩ := gbo hf
      refine g_callV (pc := 128) (o := v4) (b := a8) (As := [va_rf v6]) (rest := []) (st1 := [.int v7]) hc (j_nAL_addAll hJ a8 v6 S1 v7 S7 c7 n7 e7) (cwV 1 hts (lw_V q2699 q2700 q2701 q101 q2702) rfl rfl rfl hdJ2_addAll ⟨Nat.le_of_ble_eq_true rfl, Nat.le_of_ble_eq_true rfl⟩) (j_recv hJ _ _ _ _ 0 _ _ hE hH hS (adtR (t := 0) (show bd _ _ = some _ from e7)).choose_spec) ea8 rfl hl.1 rfl rfl (lv_room (Nat.le_of_ble_eq_true rfl)) dX1_becomes_128 hH hS (by omega) (by omega) (fun H locs hH hS => ?_)
      have hkc : kc + c1 + c7 + c2_7 ≤ mc := by omega
      have hks : ks + n1 + n7 + n2_7 ≤ ms := by omega
      refine lv_pop (pc := 131) hx hb dX1_becomes_131 rfl ?_
      refine lv_aload_n (pc := 132) hx hb dX1_becomes_132 rfl (lv_at hl 0 rfl) ?_
      obtain ⟨v9, e9, hf⟩ := bdo hf
      refine g_get (pc := 133) (o := (some l0)) (a := l0) (ci := 1) (k := 3) (v := va_rf v9) (C := RX1) (T := TX1) (N := 7) hx hb hts hown hE hk hH in_X1 rfl (by decide) (hts _ q237) (fun _ h9 => h9) rfl (rdR_o e9) dX1_becomes_133 ?_
      refine g_aload_n (pc := 136) (o := l1) hx hb dX1_becomes_136 rfl (lv_at hl 1 rfl) ?_
      obtain ⟨v10, e10, hf⟩ := bdo hf
      refine g_get (pc := 137) (o := l1) (a := a5) (ci := 1) (k := 3) (v := va_rf v10) (C := RX1) (T := TX1) (N := 7) hx hb hts hown hE hk hH in_X1 rfl (by decide) (hts _ q237) (fun _ h9 => h9) ea5 (rdR_o e10) dX1_becomes_137 ?_
      obtain ⟨a12, ea12, hf⟩ := bdo hf
      obtain ⟨v11, S11, c11, n11, c2_11, n2_11, e11, hf, hC11, hN11⟩ := gbo hf
      refine g_callV (pc := 140) (o := v9) (b := a12) (As := [va_rf v10]) (rest := []) (st1 := [.int v11]) hc (j_nLL_addAll hJ a12 v10 S7 v11 S11 c11 n11 e11) (cwV 1 hts (lw_V q2740 q2741 q2742 q103 q2743) rfl rfl rfl hdJ4_addAll ⟨Nat.le_of_ble_eq_true rfl, Nat.le_of_ble_eq_true rfl⟩) (j_recv hJ _ _ _ _ 1 _ _ hE hH hS (adtR (t := 1) (show bd _ _ = some _ from e11)).choose_spec) ea12 rfl hl.1 rfl rfl (lv_room (Nat.le_of_ble_eq_true rfl)) dX1_becomes_140 hH hS (by omega) (by omega) (fun H locs hH hS => ?_)
      have hkc : kc + c1 + c7 + c11 + c2_11 ≤ mc := by omega
      have hks : ks + n1 + n7 + n11 + n2_11 ≤ ms := by omega
      refine lv_pop (pc := 143) hx hb dX1_becomes_143 rfl ?_
      refine lv_aload_n (pc := 144) hx hb dX1_becomes_144 rfl (lv_at hl 0 rfl) ?_
      refine g_aload_n (pc := 145) (o := l1) hx hb dX1_becomes_145 rfl (lv_at hl 1 rfl) ?_
      obtain ⟨v13, e13, hf⟩ := bdo hf
      refine g_get (pc := 146) (o := l1) (a := a5) (ci := 1) (k := 4) (v := va_rf v13) (C := RX1) (T := TX1) (N := 7) hx hb hts hown hE hk hH in_X1 rfl (by decide) (hts _ q239) (fun _ h9 => h9) ea5 (rdR_o e13) dX1_becomes_146 ?_
      obtain ⟨S14, e14, hf⟩ := bdo hf
      refine g_put (pc := 149) (o := (some l0)) (a := l0) (ci := 1) (k := 4) (v := va_rf v13) (C := RX1) (T := TX1) (N := 7) (ty := .object "CreditBroker$Pattern") hx hb hts hown hE hk hH hS rfl in_X1 tyX1_ok nmX1 rfl (by decide) (hts _ q239) (fun _ h9 => h9) rfl rfl (nar_rf _ _) (fit_rf _ _) rfl e14 dX1_becomes_149 (fun H locs hH hS => ?_)
      refine lv_aload_n (pc := 152) hx hb dX1_becomes_152 rfl (lv_at hl 0 rfl) ?_
      refine g_aload_n (pc := 153) (o := l1) hx hb dX1_becomes_153 rfl (lv_at hl 1 rfl) ?_
      obtain ⟨v15, e15, hf⟩ := bdo hf
      refine g_get (pc := 154) (o := l1) (a := a5) (ci := 1) (k := 5) (v := .int v15) (C := RX1) (T := TX1) (N := 7) hx hb hts hown hE hk hH in_X1 rfl (by decide) (hts _ q241) (fun _ h9 => h9) ea5 (rdI_o e15) dX1_becomes_154 ?_
      obtain ⟨S16, e16, hf⟩ := bdo hf
      refine g_put (pc := 157) (o := (some l0)) (a := l0) (ci := 1) (k := 5) (v := .int v15) (C := RX1) (T := TX1) (N := 7) (ty := .int) hx hb hts hown hE hk hH hS rfl in_X1 tyX1_ok nmX1 rfl (by decide) (hts _ q241) (fun _ h9 => h9) rfl rfl rfl rfl rfl e16 dX1_becomes_157 (fun H locs hH hS => ?_)
      refine lv_aload_n (pc := 160) hx hb dX1_becomes_160 rfl (lv_at hl 0 rfl) ?_
      refine g_aload_n (pc := 161) (o := l1) hx hb dX1_becomes_161 rfl (lv_at hl 1 rfl) ?_
      obtain ⟨v17, e17, hf⟩ := bdo hf
      refine g_get (pc := 162) (o := l1) (a := a5) (ci := 1) (k := 6) (v := .int v17) (C := RX1) (T := TX1) (N := 7) hx hb hts hown hE hk hH in_X1 rfl (by decide) (hts _ q243) (fun _ h9 => h9) ea5 (rdI_o e17) dX1_becomes_162 ?_
      obtain ⟨S18, e18, hf⟩ := bdo hf
      refine g_put (pc := 165) (o := (some l0)) (a := l0) (ci := 1) (k := 6) (v := .int v17) (C := RX1) (T := TX1) (N := 7) (ty := .int) hx hb hts hown hE hk hH hS rfl in_X1 tyX1_ok nmX1 rfl (by decide) (hts _ q243) (fun _ h9 => h9) rfl rfl rfl rfl rfl e18 dX1_becomes_165 (fun H locs hH hS => ?_)
      refine lv_aload_n (pc := 168) hx hb dX1_becomes_168 rfl (lv_at hl 0 rfl) ?_
      exact g_aret (pc := 169) (v := (some l0)) hx hb hr (Or.inl ⟨_, rfl⟩) hlk hH hS hkc hks hf dX1_becomes_169
    · rw [if_neg c3] at hf
      refine g_aload_n (pc := 91) (o := l2) hx hb dX1_becomes_91 rfl (lv_at hl 2 rfl) ?_
      obtain ⟨v19, S19, c19, n19, c2_19, n2_19, e19, hf, hC19, hN19⟩ := gbo hf
      refine g_callF (pc := 92) (o := l2) (b := a2) (As := []) (rest := []) (st1 := [va_rf v19]) (ci := 21) (q := (RJ26, TJ26, 4)) hc (j_nI6_next hJ a2 S1 v19 S19 c19 n19 e19) (va_cwF 0 hts (lw_app (lw_of4 q1364 q1472 q1474 q135) (lw_meth q1476)) rfl rfl rfl (hE.2.1.2.2.2.2.2 _ _ _ hdx_next.1 q1366 q1365 q1475 q1473 q1338) hdx_next.2 ⟨Nat.le_of_ble_eq_true rfl, Nat.le_of_ble_eq_true rfl⟩) rfl rfl (j_recv hJ _ _ _ _ 6 _ _ hE hH hS (adtR (t := 6) (show bd _ _ = some _ from e19)).choose_spec) ea2 rfl hl.1 rfl rfl (lv_room (Nat.le_of_ble_eq_true rfl)) dX1_becomes_92 hH hS (by omega) (by omega) (fun H locs hH hS => ?_)
      have hkc : kc + c1 + c19 + c2_19 ≤ mc := by omega
      have hks : ks + n1 + n19 + n2_19 ≤ ms := by omega
      obtain ⟨_, e20, hf⟩ := bdo hf
      refine g_cast (pc := 97) (o := v19) (ci := 6) (C := RX10) (T := TX10) (N := 5) hx hb hts hown hE hk hH rfl q1767 e20 dX1_becomes_97 ?_
      refine g_astore_n (pc := 100) (i := 3) (o := v19) (lv' := [(3, va_rf v19), (0, .ref l0), (1, va_rf l1), (2, va_rf l2)]) hx hb dX1_becomes_100 rfl hl (by decide) (by simp [va_rf_cat, cat_i, cat_j, cat_r] <;> rfl) (fun ls hl => ?_)
      refine lv_aload_n (pc := 101) hx hb dX1_becomes_101 rfl (lv_at hl 1 rfl) ?_
      obtain ⟨v21, e21, hf⟩ := bdo hf
      refine g_get (pc := 102) (o := (some l0)) (a := l0) (ci := 1) (k := 1) (v := va_rf v21) (C := RX1) (T := TX1) (N := 7) hx hb hts hown hE hk hH in_X1 rfl (by decide) (hts _ q233) (fun _ h9 => h9) rfl (rdR_o e21) dX1_becomes_102 ?_
      obtain ⟨S22, c2_22, n2_22, eS22, hf, hC22, hN22⟩ := nwo hf
      refine g_newo (pc := 105) (ci := 6) (C := RX10) (T := TX10) (N := 5) (fs := [.int 0, .int 0, .int 0, .int 0, .int 0]) hx hb hts hown hE hA hk hH hS in_X10 tyX10_ok q1767 q1239 q134 rfl (fun j hj => by rcases (show j = 0 ∨ j = 1 ∨ j = 2 ∨ j = 3 ∨ j = 4 by omega) with rfl | rfl | rfl | rfl | rfl <;> rfl) eS22 (Nat.le_trans (by omega) hkc) (Nat.le_trans (by omega) hks) dX1_becomes_105 (fun H hH hS => ?_)
      have hkc : kc + c1 + c19 + 1 + c2_22 ≤ mc := by omega
      have hks : ks + n1 + n19 + 5 + n2_22 ≤ ms := by omega
      refine lv_dup (pc := 108) hx hb dX1_becomes_108 rfl ?_
      refine g_aload_n (pc := 109) (o := v19) hx hb dX1_becomes_109 rfl (lv_at hl 0 rfl) ?_
      obtain ⟨_, S23, c23, n23, c2_23, n2_23, e23, hf, hC23, hN23⟩ := gbo hf
      refine g_callI (pc := 110) (o := (some S19.2)) (b := S19.2) (As := [va_rf v19]) (rest := [.ref S19.2, va_rf v21]) hc (mX10_init_2 hk hJ (l0 := S19.2) (l1 := v19) e23) (cwI 1 hts (lw_meth q2697) rfl rfl rfl (hts _ q134) (hts _ q2695) (hts _ q2696) rfl hdiX10_init_2 ⟨Nat.le_of_ble_eq_true rfl, Nat.le_of_ble_eq_true rfl⟩) rfl rfl hl.1 rfl (lv_room (by simp [va_rf_cat, cat_i, cat_j, cat_r])) dX1_becomes_110 hH hS (by omega) (by omega) (fun H locs hH hS => ?_)
      have hkc : kc + c1 + c19 + 1 + c23 + c2_23 ≤ mc := by omega
      have hks : ks + n1 + n19 + 5 + n23 + n2_23 ≤ ms := by omega
      obtain ⟨a25, ea25, hf⟩ := bdo hf
      obtain ⟨v24, S24, c24, n24, c2_24, n2_24, e24, hf, hC24, hN24⟩ := gbo hf
      refine g_callV (pc := 113) (o := v21) (b := a25) (As := [.ref S19.2]) (rest := []) (st1 := [.int v24]) hc (j_nAL_add hJ a25 (some S19.2) S23 v24 S24 c24 n24 e24) (cwV 1 hts (lw_V q1577 q1040 q1041 q101 q1042) rfl rfl rfl hdJ2_add ⟨Nat.le_of_ble_eq_true rfl, Nat.le_of_ble_eq_true rfl⟩) (j_recv hJ _ _ _ _ 0 _ _ hE hH hS (adtR (t := 0) (show bd _ _ = some _ from e24)).choose_spec) ea25 rfl hl.1 rfl rfl (lv_room (Nat.le_of_ble_eq_true rfl)) dX1_becomes_113 hH hS (by omega) (by omega) (fun H locs hH hS => ?_)
      have hkc : kc + c1 + c19 + 1 + c23 + c24 + c2_24 ≤ mc := by omega
      have hks : ks + n1 + n19 + 5 + n23 + n24 + n2_24 ≤ ms := by omega
      refine lv_pop (pc := 116) hx hb dX1_becomes_116 rfl ?_
      refine lv_goto (pc := 117) (tgt := 82) hx hb dX1_becomes_117 (by decide) ?_
      exact ih l0 l1 l2 S24 _ _ ls _ _ _ _ hkc hks hH hS (lv_sub hl [1, 2, 3] rfl) hf
def fX1_becomes_b36 : Nat → Nat → (Option Nat) → (Option Nat) → gS → gO (Option Nat)
  | 0, _, _, _, _ => none
  | n + 1, l0, l1, l2, S =>
    bd l2 fun a2 =>
    gb (nI6_hasNext a2 S) fun v1 S1 =>
    if v1 = 0 then
      bd l1 fun a4 =>
      bd (rdR S1 a4 1 1) fun v5 =>
      bd v5 fun a7 =>
      gb (nAL_iter a7  S1) fun v6 S6 =>
      fX1_becomes_b82 FU l0 l1 v6 S6
    else
      gb (nI6_next a2 S1) fun v8 S8 =>
      bd (ckc S8 v8 3) fun _ =>
      bd (rdR S8 l0 1 0) fun v10 =>
      nw S8 (cO 3 [.int 0, .null, .int 0, .int 0, .int 0, .int 0, .int 0, .null, .null, .int 0, .int 0, .int 0, .int 0]) 13 fun S11 =>
      gb (fX8_init_2 S8.2 v8 S11) fun _ S12 =>
      bd v10 fun a14 =>
      gb (nAL_add a14 (some S8.2) S12) fun v13 S13 =>
      fX1_becomes_b36 n l0 l1 l2 S13
theorem wX1_becomes_b36 (hk : rOK Rp) (hJ : JDK l G Rp) (hc : gC p s m args meth c G RX1 "becomes" cX1_becomes 4 (some (.object "CreditBroker$World"))) : ∀ (n : Nat) (l0 : Nat) (l1 : Option Nat) (l2 : Option Nat) (S : gS) (H : Heap) (locs : List Loc) (ls : Array Slot) (kc ks C N : Nat), kc + C ≤ mc → ks + N ≤ ms → hp G Rp S H → va_S G.2.2.2 s.heap H locs → lv_has ls 4 [(0, .ref l0), (1, va_rf l1), (2, va_rf l2)] → fX1_becomes_b36 n l0 l1 l2 S = some (r, Sf, C, N) → W p l e (gR 17 586 mc ms) s m args below meth c H locs kc ks (gQ below G Rp (some (va_rf r)) Sf args s mc ms) (F0 m 36 ls []) := by
  obtain ⟨hx, hb, hr, hlk, hml, hown, hts, hE, hA, hnm⟩ := hc
  have hc : gC p s m args meth c G RX1 "becomes" cX1_becomes 4 (some (.object "CreditBroker$World")) := ⟨hx, hb, hr, hlk, hml, hown, hts, hE, hA, hnm⟩
  intro n
  induction n with
  | zero => intro l0 l1 l2 S H locs ls kc ks C N _ _ _ _ _ hf; exact absurd hf (fun h => by cases h)
  | succ n ih =>
    intro l0 l1 l2 S H locs ls kc ks C N hkc hks hH hS hl hf
    rw [fX1_becomes_b36] at hf
    refine g_aload_n (pc := 36) (o := l2) hx hb dX1_becomes_36 rfl (lv_at hl 2 rfl) ?_
    obtain ⟨a2, ea2, hf⟩ := bdo hf
    obtain ⟨v1, S1, c1, n1, c2_1, n2_1, e1, hf, hC1, hN1⟩ := gbo hf
    refine g_callF (pc := 37) (o := l2) (b := a2) (As := []) (rest := []) (st1 := [.int v1]) (ci := 21) (q := (RJ26, TJ26, 4)) hc (j_nI6_hasNext hJ a2 S v1 S1 c1 n1 e1) (va_cwF 0 hts (lw_app (lw_of4 q1318 q1339 q1341 q135) (lw_meth q1343)) rfl rfl rfl (hE.2.1.2.2.2.2.2 _ _ _ hdx_hasNext.1 q1320 q1319 q1342 q1340 q1338) hdx_hasNext.2 ⟨Nat.le_of_ble_eq_true rfl, Nat.le_of_ble_eq_true rfl⟩) rfl rfl (j_recv hJ _ _ _ _ 6 _ _ hE hH hS (adtR (t := 6) (show bd _ _ = some _ from e1)).choose_spec) ea2 rfl hl.1 rfl rfl (lv_room (Nat.le_of_ble_eq_true rfl)) dX1_becomes_37 hH hS (by omega) (by omega) (fun H locs hH hS => ?_)
    have hkc : kc + c1 + c2_1 ≤ mc := by omega
    have hks : ks + n1 + n2_1 ≤ ms := by omega
    refine lv_if_eq (pc := 42) (tgt := 74) hx hb dX1_becomes_42 (by decide) (fun c3 => ?_) (fun c3 => ?_)
    · rw [if_pos c3] at hf
      refine g_aload_n (pc := 74) (o := l1) hx hb dX1_becomes_74 rfl (lv_at hl 1 rfl) ?_
      obtain ⟨a4, ea4, hf⟩ := bdo hf
      obtain ⟨v5, e5, hf⟩ := bdo hf
      refine g_get (pc := 75) (o := l1) (a := a4) (ci := 1) (k := 1) (v := va_rf v5) (C := RX1) (T := TX1) (N := 7) hx hb hts hown hE hk hH in_X1 rfl (by decide) (hts _ q233) (fun _ h9 => h9) ea4 (rdR_o e5) dX1_becomes_75 ?_
      obtain ⟨a7, ea7, hf⟩ := bdo hf
      obtain ⟨v6, S6, c6, n6, c2_6, n2_6, e6, hf, hC6, hN6⟩ := gbo hf
      refine g_callV (pc := 78) (o := v5) (b := a7) (As := []) (rest := []) (st1 := [va_rf v6]) hc (j_nAL_iter hJ a7  S1 v6 S6 c6 n6 e6) (cwV 0 hts (lw_V q1292 q1293 q1294 q101 q1295) rfl rfl rfl hdJ2_iterator ⟨Nat.le_of_ble_eq_true rfl, Nat.le_of_ble_eq_true rfl⟩) (j_recv hJ _ _ _ _ 0 _ _ hE hH hS (adtR (t := 0) (show bd _ _ = some _ from e6)).choose_spec) ea7 rfl hl.1 rfl rfl (lv_room (Nat.le_of_ble_eq_true rfl)) dX1_becomes_78 hH hS (by omega) (by omega) (fun H locs hH hS => ?_)
      have hkc : kc + c1 + c6 + c2_6 ≤ mc := by omega
      have hks : ks + n1 + n6 + n2_6 ≤ ms := by omega
      refine g_astore_n (pc := 81) (i := 2) (o := v6) (lv' := [(2, va_rf v6), (0, .ref l0), (1, va_rf l1)]) hx hb dX1_becomes_81 rfl hl (by decide) (by simp [va_rf_cat, cat_i, cat_j, cat_r] <;> rfl) (fun ls hl => ?_)
      exact wX1_becomes_b82 hk hJ hc FU l0 l1 v6 S6 _ _ ls _ _ _ _ hkc hks hH hS (lv_sub hl [1, 2, 0] rfl) hf
    · rw [if_neg c3] at hf
      refine g_aload_n (pc := 45) (o := l2) hx hb dX1_becomes_45 rfl (lv_at hl 2 rfl) ?_
      obtain ⟨v8, S8, c8, n8, c2_8, n2_8, e8, hf, hC8, hN8⟩ := gbo hf
      refine g_callF (pc := 46) (o := l2) (b := a2) (As := []) (rest := []) (st1 := [va_rf v8]) (ci := 21) (q := (RJ26, TJ26, 4)) hc (j_nI6_next hJ a2 S1 v8 S8 c8 n8 e8) (va_cwF 0 hts (lw_app (lw_of4 q1364 q1472 q1474 q135) (lw_meth q1476)) rfl rfl rfl (hE.2.1.2.2.2.2.2 _ _ _ hdx_next.1 q1366 q1365 q1475 q1473 q1338) hdx_next.2 ⟨Nat.le_of_ble_eq_true rfl, Nat.le_of_ble_eq_true rfl⟩) rfl rfl (j_recv hJ _ _ _ _ 6 _ _ hE hH hS (adtR (t := 6) (show bd _ _ = some _ from e8)).choose_spec) ea2 rfl hl.1 rfl rfl (lv_room (Nat.le_of_ble_eq_true rfl)) dX1_becomes_46 hH hS (by omega) (by omega) (fun H locs hH hS => ?_)
      have hkc : kc + c1 + c8 + c2_8 ≤ mc := by omega
      have hks : ks + n1 + n8 + n2_8 ≤ ms := by omega
      obtain ⟨_, e9, hf⟩ := bdo hf
      refine g_cast (pc := 51) (o := v8) (ci := 3) (C := RX8) (T := TX8) (N := 13) hx hb hts hown hE hk hH rfl q1291 e9 dX1_becomes_51 ?_
      refine g_astore_n (pc := 54) (i := 3) (o := v8) (lv' := [(3, va_rf v8), (0, .ref l0), (1, va_rf l1), (2, va_rf l2)]) hx hb dX1_becomes_54 rfl hl (by decide) (by simp [va_rf_cat, cat_i, cat_j, cat_r] <;> rfl) (fun ls hl => ?_)
      refine lv_aload_n (pc := 55) hx hb dX1_becomes_55 rfl (lv_at hl 1 rfl) ?_
      obtain ⟨v10, e10, hf⟩ := bdo hf
      refine g_get (pc := 56) (o := (some l0)) (a := l0) (ci := 1) (k := 0) (v := va_rf v10) (C := RX1) (T := TX1) (N := 7) hx hb hts hown hE hk hH in_X1 rfl (by decide) (hts _ q231) (fun _ h9 => h9) rfl (rdR_o e10) dX1_becomes_56 ?_
      obtain ⟨S11, c2_11, n2_11, eS11, hf, hC11, hN11⟩ := nwo hf
      refine g_newo (pc := 59) (ci := 3) (C := RX8) (T := TX8) (N := 13) (fs := [.int 0, .null, .int 0, .int 0, .int 0, .int 0, .int 0, .null, .null, .int 0, .int 0, .int 0, .int 0]) hx hb hts hown hE hA hk hH hS in_X8 tyX8_ok q1291 q1136 q131 rfl (fun j hj => by rcases (show j = 0 ∨ j = 1 ∨ j = 2 ∨ j = 3 ∨ j = 4 ∨ j = 5 ∨ j = 6 ∨ j = 7 ∨ j = 8 ∨ j = 9 ∨ j = 10 ∨ j = 11 ∨ j = 12 by omega) with rfl | rfl | rfl | rfl | rfl | rfl | rfl | rfl | rfl | rfl | rfl | rfl | rfl <;> rfl) eS11 (Nat.le_trans (by omega) hkc) (Nat.le_trans (by omega) hks) dX1_becomes_59 (fun H hH hS => ?_)
      have hkc : kc + c1 + c8 + 1 + c2_11 ≤ mc := by omega
      have hks : ks + n1 + n8 + 13 + n2_11 ≤ ms := by omega
      refine lv_dup (pc := 62) hx hb dX1_becomes_62 rfl ?_
      refine g_aload_n (pc := 63) (o := v8) hx hb dX1_becomes_63 rfl (lv_at hl 0 rfl) ?_
      obtain ⟨_, S12, c12, n12, c2_12, n2_12, e12, hf, hC12, hN12⟩ := gbo hf
      refine g_callI (pc := 64) (o := (some S8.2)) (b := S8.2) (As := [va_rf v8]) (rest := [.ref S8.2, va_rf v10]) hc (mX8_init_2 hk hJ (l0 := S8.2) (l1 := v8) e12) (cwI 1 hts (lw_meth q2614) rfl rfl rfl (hts _ q131) (hts _ q2694) (hts _ q2613) rfl hdiX8_init_2 ⟨Nat.le_of_ble_eq_true rfl, Nat.le_of_ble_eq_true rfl⟩) rfl rfl hl.1 rfl (lv_room (by simp [va_rf_cat, cat_i, cat_j, cat_r])) dX1_becomes_64 hH hS (by omega) (by omega) (fun H locs hH hS => ?_)
      have hkc : kc + c1 + c8 + 1 + c12 + c2_12 ≤ mc := by omega
      have hks : ks + n1 + n8 + 13 + n12 + n2_12 ≤ ms := by omega
      obtain ⟨a14, ea14, hf⟩ := bdo hf
      obtain ⟨v13, S13, c13, n13, c2_13, n2_13, e13, hf, hC13, hN13⟩ := gbo hf
      refine g_callV (pc := 67) (o := v10) (b := a14) (As := [.ref S8.2]) (rest := []) (st1 := [.int v13]) hc (j_nAL_add hJ a14 (some S8.2) S12 v13 S13 c13 n13 e13) (cwV 1 hts (lw_V q1577 q1040 q1041 q101 q1042) rfl rfl rfl hdJ2_add ⟨Nat.le_of_ble_eq_true rfl, Nat.le_of_ble_eq_true rfl⟩) (j_recv hJ _ _ _ _ 0 _ _ hE hH hS (adtR (t := 0) (show bd _ _ = some _ from e13)).choose_spec) ea14 rfl hl.1 rfl rfl (lv_room (Nat.le_of_ble_eq_true rfl)) dX1_becomes_67 hH hS (by omega) (by omega) (fun H locs hH hS => ?_)
      have hkc : kc + c1 + c8 + 1 + c12 + c13 + c2_13 ≤ mc := by omega
      have hks : ks + n1 + n8 + 13 + n12 + n13 + n2_13 ≤ ms := by omega
      refine lv_pop (pc := 70) hx hb dX1_becomes_70 rfl ?_
      refine lv_goto (pc := 71) (tgt := 36) hx hb dX1_becomes_71 (by decide) ?_
      exact ih l0 l1 l2 S13 _ _ ls _ _ _ _ hkc hks hH hS (lv_sub hl [1, 2, 3] rfl) hf
def fX1_becomes (l0 : Nat) (l1 : Option Nat) (S : gS) : gO (Option Nat) :=
  bd (rdR S l0 1 0) fun v1 =>
  bd v1 fun a3 =>
  gb (nAL_clear a3  S) fun _ S2 =>
  bd (rdR S2 l0 1 1) fun v4 =>
  bd v4 fun a6 =>
  gb (nAL_clear a6  S2) fun _ S5 =>
  bd (rdR S5 l0 1 2) fun v7 =>
  bd v7 fun a9 =>
  gb (nAL_clear a9  S5) fun _ S8 =>
  bd (rdR S8 l0 1 3) fun v10 =>
  bd v10 fun a12 =>
  gb (nLL_clear a12  S8) fun _ S11 =>
  bd l1 fun a13 =>
  bd (rdR S11 a13 1 0) fun v14 =>
  bd v14 fun a16 =>
  gb (nAL_iter a16  S11) fun v15 S15 =>
  fX1_becomes_b36 FU l0 l1 v15 S15
theorem wX1_becomes_b0 (hk : rOK Rp) (hJ : JDK l G Rp) (hc : gC p s m args meth c G RX1 "becomes" cX1_becomes 4 (some (.object "CreditBroker$World"))) (l0 : Nat) (l1 : Option Nat) (S : gS) (H : Heap) (locs : List Loc) (ls : Array Slot) (kc ks C N : Nat) (hkc : kc + C ≤ mc) (hks : ks + N ≤ ms) (hH : hp G Rp S H) (hS : va_S G.2.2.2 s.heap H locs) (hl : lv_has ls 4 [(0, .ref l0), (1, va_rf l1)]) (hf : fX1_becomes l0 l1 S = some (r, Sf, C, N)) : W p l e (gR 17 586 mc ms) s m args below meth c H locs kc ks (gQ below G Rp (some (va_rf r)) Sf args s mc ms) (F0 m 0 ls []) := by
  obtain ⟨hx, hb, hr, hlk, hml, hown, hts, hE, hA, hnm⟩ := hc
  have hc : gC p s m args meth c G RX1 "becomes" cX1_becomes 4 (some (.object "CreditBroker$World")) := ⟨hx, hb, hr, hlk, hml, hown, hts, hE, hA, hnm⟩
  unfold fX1_becomes at hf
  refine lv_aload_n (pc := 0) hx hb dX1_becomes_0 rfl (lv_at hl 0 rfl) ?_
  obtain ⟨v1, e1, hf⟩ := bdo hf
  refine g_get (pc := 1) (o := (some l0)) (a := l0) (ci := 1) (k := 0) (v := va_rf v1) (C := RX1) (T := TX1) (N := 7) hx hb hts hown hE hk hH in_X1 rfl (by decide) (hts _ q231) (fun _ h9 => h9) rfl (rdR_o e1) dX1_becomes_1 ?_
  obtain ⟨a3, ea3, hf⟩ := bdo hf
  obtain ⟨_, S2, c2, n2, c2_2, n2_2, e2, hf, hC2, hN2⟩ := gbo hf
  refine g_callV (pc := 4) (o := v1) (b := a3) (As := []) (rest := []) (st1 := []) hc (j_nAL_clear hJ a3  S () S2 c2 n2 e2) (cwV 0 hts (lw_V q2686 q2687 q2688 q101 q2689) rfl rfl rfl hdJ2_clear ⟨Nat.le_of_ble_eq_true rfl, Nat.le_of_ble_eq_true rfl⟩) (j_recv hJ _ _ _ _ 0 _ _ hE hH hS (adtR (t := 0) (show bd _ _ = some _ from e2)).choose_spec) ea3 rfl hl.1 rfl rfl (lv_room (Nat.le_of_ble_eq_true rfl)) dX1_becomes_4 hH hS (by omega) (by omega) (fun H locs hH hS => ?_)
  have hkc : kc + c2 + c2_2 ≤ mc := by omega
  have hks : ks + n2 + n2_2 ≤ ms := by omega
  refine lv_aload_n (pc := 7) hx hb dX1_becomes_7 rfl (lv_at hl 0 rfl) ?_
  obtain ⟨v4, e4, hf⟩ := bdo hf
  refine g_get (pc := 8) (o := (some l0)) (a := l0) (ci := 1) (k := 1) (v := va_rf v4) (C := RX1) (T := TX1) (N := 7) hx hb hts hown hE hk hH in_X1 rfl (by decide) (hts _ q233) (fun _ h9 => h9) rfl (rdR_o e4) dX1_becomes_8 ?_
  obtain ⟨a6, ea6, hf⟩ := bdo hf
  obtain ⟨_, S5, c5, n5, c2_5, n2_5, e5, hf, hC5, hN5⟩ := gbo hf
  refine g_callV (pc := 11) (o := v4) (b := a6) (As := []) (rest := []) (st1 := []) hc (j_nAL_clear hJ a6  S2 () S5 c5 n5 e5) (cwV 0 hts (lw_V q2686 q2687 q2688 q101 q2689) rfl rfl rfl hdJ2_clear ⟨Nat.le_of_ble_eq_true rfl, Nat.le_of_ble_eq_true rfl⟩) (j_recv hJ _ _ _ _ 0 _ _ hE hH hS (adtR (t := 0) (show bd _ _ = some _ from e5)).choose_spec) ea6 rfl hl.1 rfl rfl (lv_room (Nat.le_of_ble_eq_true rfl)) dX1_becomes_11 hH hS (by omega) (by omega) (fun H locs hH hS => ?_)
  have hkc : kc + c2 + c5 + c2_5 ≤ mc := by omega
  have hks : ks + n2 + n5 + n2_5 ≤ ms := by omega
  refine lv_aload_n (pc := 14) hx hb dX1_becomes_14 rfl (lv_at hl 0 rfl) ?_
  obtain ⟨v7, e7, hf⟩ := bdo hf
  refine g_get (pc := 15) (o := (some l0)) (a := l0) (ci := 1) (k := 2) (v := va_rf v7) (C := RX1) (T := TX1) (N := 7) hx hb hts hown hE hk hH in_X1 rfl (by decide) (hts _ q235) (fun _ h9 => h9) rfl (rdR_o e7) dX1_becomes_15 ?_
  obtain ⟨a9, ea9, hf⟩ := bdo hf
  obtain ⟨_, S8, c8, n8, c2_8, n2_8, e8, hf, hC8, hN8⟩ := gbo hf
  refine g_callV (pc := 18) (o := v7) (b := a9) (As := []) (rest := []) (st1 := []) hc (j_nAL_clear hJ a9  S5 () S8 c8 n8 e8) (cwV 0 hts (lw_V q2686 q2687 q2688 q101 q2689) rfl rfl rfl hdJ2_clear ⟨Nat.le_of_ble_eq_true rfl, Nat.le_of_ble_eq_true rfl⟩) (j_recv hJ _ _ _ _ 0 _ _ hE hH hS (adtR (t := 0) (show bd _ _ = some _ from e8)).choose_spec) ea9 rfl hl.1 rfl rfl (lv_room (Nat.le_of_ble_eq_true rfl)) dX1_becomes_18 hH hS (by omega) (by omega) (fun H locs hH hS => ?_)
  have hkc : kc + c2 + c5 + c8 + c2_8 ≤ mc := by omega
  have hks : ks + n2 + n5 + n8 + n2_8 ≤ ms := by omega
  refine lv_aload_n (pc := 21) hx hb dX1_becomes_21 rfl (lv_at hl 0 rfl) ?_
  obtain ⟨v10, e10, hf⟩ := bdo hf
  refine g_get (pc := 22) (o := (some l0)) (a := l0) (ci := 1) (k := 3) (v := va_rf v10) (C := RX1) (T := TX1) (N := 7) hx hb hts hown hE hk hH in_X1 rfl (by decide) (hts _ q237) (fun _ h9 => h9) rfl (rdR_o e10) dX1_becomes_22 ?_
  obtain ⟨a12, ea12, hf⟩ := bdo hf
  obtain ⟨_, S11, c11, n11, c2_11, n2_11, e11, hf, hC11, hN11⟩ := gbo hf
  refine g_callV (pc := 25) (o := v10) (b := a12) (As := []) (rest := []) (st1 := []) hc (j_nLL_clear hJ a12  S8 () S11 c11 n11 e11) (cwV 0 hts (lw_V q2690 q2691 q2692 q103 q2693) rfl rfl rfl hdJ4_clear ⟨Nat.le_of_ble_eq_true rfl, Nat.le_of_ble_eq_true rfl⟩) (j_recv hJ _ _ _ _ 1 _ _ hE hH hS (adtR (t := 1) (show bd _ _ = some _ from e11)).choose_spec) ea12 rfl hl.1 rfl rfl (lv_room (Nat.le_of_ble_eq_true rfl)) dX1_becomes_25 hH hS (by omega) (by omega) (fun H locs hH hS => ?_)
  have hkc : kc + c2 + c5 + c8 + c11 + c2_11 ≤ mc := by omega
  have hks : ks + n2 + n5 + n8 + n11 + n2_11 ≤ ms := by omega
  refine g_aload_n (pc := 28) (o := l1) hx hb dX1_becomes_28 rfl (lv_at hl 1 rfl) ?_
  obtain ⟨a13, ea13, hf⟩ := bdo hf
  obtain ⟨v14, e14, hf⟩ := bdo hf
  refine g_get (pc := 29) (o := l1) (a := a13) (ci := 1) (k := 0) (v := va_rf v14) (C := RX1) (T := TX1) (N := 7) hx hb hts hown hE hk hH in_X1 rfl (by decide) (hts _ q231) (fun _ h9 => h9) ea13 (rdR_o e14) dX1_becomes_29 ?_
  obtain ⟨a16, ea16, hf⟩ := bdo hf
  obtain ⟨v15, S15, c15, n15, c2_15, n2_15, e15, hf, hC15, hN15⟩ := gbo hf
  refine g_callV (pc := 32) (o := v14) (b := a16) (As := []) (rest := []) (st1 := [va_rf v15]) hc (j_nAL_iter hJ a16  S11 v15 S15 c15 n15 e15) (cwV 0 hts (lw_V q1292 q1293 q1294 q101 q1295) rfl rfl rfl hdJ2_iterator ⟨Nat.le_of_ble_eq_true rfl, Nat.le_of_ble_eq_true rfl⟩) (j_recv hJ _ _ _ _ 0 _ _ hE hH hS (adtR (t := 0) (show bd _ _ = some _ from e15)).choose_spec) ea16 rfl hl.1 rfl rfl (lv_room (Nat.le_of_ble_eq_true rfl)) dX1_becomes_32 hH hS (by omega) (by omega) (fun H locs hH hS => ?_)
  have hkc : kc + c2 + c5 + c8 + c11 + c15 + c2_15 ≤ mc := by omega
  have hks : ks + n2 + n5 + n8 + n11 + n15 + n2_15 ≤ ms := by omega
  refine g_astore_n (pc := 35) (i := 2) (o := v15) (lv' := [(2, va_rf v15), (0, .ref l0), (1, va_rf l1)]) hx hb dX1_becomes_35 rfl hl (by decide) (by simp [va_rf_cat, cat_i, cat_j, cat_r] <;> rfl) (fun ls hl => ?_)
  exact wX1_becomes_b36 hk hJ hc FU l0 l1 v15 S15 _ _ ls _ _ _ _ hkc hks hH hS (lv_sub hl [1, 2, 0] rfl) hf
theorem mX1_becomes {l : Launch} {G : gG} {Rp : gM → gM → Nat → Prop} (hk : rOK Rp) (hJ : JDK l G Rp) {S S2 : gS} {r2 : Option Nat} {C N : Nat} {l0 : Nat} {l1 : Option Nat} (hf : fX1_becomes l0 l1 S = some (r2, S2, C, N)) : gMet l yX1_becomes cX1_becomes 4 (some (.object "CreditBroker$World")) 17 586 G Rp [.ref l0, va_rf l1] S (some (va_rf r2)) S2 C N := by
  refine g_start (by decide) (by simp [lg_sl, va_rf_cat, cat_i, cat_j, cat_r]) (fun p e s m args below meth c ls hc hl hH => ?_)
  have hl : lv_has ls 4 [(0, .ref l0), (1, va_rf l1)] := by simpa [lv_args, va_rf_cat, cat_i, cat_j, cat_r] using hl
  exact wX1_becomes_b0 hk hJ hc l0 l1 S _ _ ls 0 0 C N (by omega) (by omega) hH va_S.rf (lv_sub hl [0, 1] rfl) hf
end
section
variable {r : Int32} {Sf : gS}
def fX0_back (l0 : Nat) (S : gS) : gO Int32 :=
  bd (rdI S l0 0 2) fun v1 =>
  if v1 = 0 then
    bd (chk S l0 0) fun _ =>
    gb (fX0_no l0 (-85) S) fun v7 S7 =>
    some (v7, S7, 0, 0)
  else
    bd (rdR S l0 0 0) fun v3 =>
    bd (rdR S l0 0 1) fun v4 =>
    bd v3 fun a6 =>
    bd (chk S a6 1) fun _ =>
    gb (fX1_becomes a6 v4 S) fun v5 S5 =>
    some (nI 1, S5, 0, 0)
theorem wX0_back_b0 (hk : rOK Rp) (hJ : JDK l G Rp) (hc : gC p s m args meth c G RX0 "back" cX0_back 1 (some .int)) (l0 : Nat) (S : gS) (H : Heap) (locs : List Loc) (ls : Array Slot) (kc ks C N : Nat) (hkc : kc + C ≤ mc) (hks : ks + N ≤ ms) (hH : hp G Rp S H) (hS : va_S G.2.2.2 s.heap H locs) (hl : lv_has ls 1 [(0, .ref l0)]) (hf : fX0_back l0 S = some (r, Sf, C, N)) : W p l e (gR 18 609 mc ms) s m args below meth c H locs kc ks (gQ below G Rp (some (.int r)) Sf args s mc ms) (F0 m 0 ls []) := by
  obtain ⟨hx, hb, hr, hlk, hml, hown, hts, hE, hA, hnm⟩ := hc
  have hc : gC p s m args meth c G RX0 "back" cX0_back 1 (some .int) := ⟨hx, hb, hr, hlk, hml, hown, hts, hE, hA, hnm⟩
  unfold fX0_back at hf
  refine lv_aload_n (pc := 0) hx hb dX0_back_0 rfl (lv_at hl 0 rfl) ?_
  obtain ⟨v1, e1, hf⟩ := bdo hf
  refine g_get (pc := 1) (o := (some l0)) (a := l0) (ci := 0) (k := 2) (v := .int v1) (C := RX0) (T := TX0) (N := 7) hx hb hts hown hE hk hH in_X0 rfl (by decide) (hts _ q274) (fun _ h9 => h9) rfl (rdI_o e1) dX0_back_1 ?_
  refine lv_if_ne (pc := 4) (tgt := 14) hx hb dX0_back_4 (by decide) (fun c2 => ?_) (fun c2 => ?_)
  · rw [if_neg c2] at hf
    refine lv_aload_n (pc := 14) hx hb dX0_back_14 rfl (lv_at hl 0 rfl) ?_
    obtain ⟨v3, e3, hf⟩ := bdo hf
    refine g_get (pc := 15) (o := (some l0)) (a := l0) (ci := 0) (k := 0) (v := va_rf v3) (C := RX0) (T := TX0) (N := 7) hx hb hts hown hE hk hH in_X0 rfl (by decide) (hts _ q272) (fun _ h9 => h9) rfl (rdR_o e3) dX0_back_15 ?_
    refine lv_aload_n (pc := 18) hx hb dX0_back_18 rfl (lv_at hl 0 rfl) ?_
    obtain ⟨v4, e4, hf⟩ := bdo hf
    refine g_get (pc := 19) (o := (some l0)) (a := l0) (ci := 0) (k := 1) (v := va_rf v4) (C := RX0) (T := TX0) (N := 7) hx hb hts hown hE hk hH in_X0 rfl (by decide) (hts _ q273) (fun _ h9 => h9) rfl (rdR_o e4) dX0_back_19 ?_
    obtain ⟨a6, ea6, hf⟩ := bdo hf
    obtain ⟨_, ek5, hf⟩ := bdo hf
    obtain ⟨v5, S5, c5, n5, c2_5, n2_5, e5, hf, hC5, hN5⟩ := gbo hf
    refine g_callV (pc := 22) (o := v3) (b := a6) (As := [va_rf v4]) (rest := []) (st1 := [va_rf v5]) hc (mX1_becomes hk hJ (l0 := a6) (l1 := v4) e5) (cwV 1 hts (lw_V q2682 q2683 q2684 q98 q2685) rfl rfl rfl hdX1_becomes ⟨Nat.le_of_ble_eq_true rfl, Nat.le_of_ble_eq_true rfl⟩) (g_recv hE hk hH (ci := 1) (q := (RX1, TX1, 7)) rfl (chk_o ek5).choose_spec) ea6 rfl hl.1 rfl rfl (lv_room (Nat.le_of_ble_eq_true rfl)) dX0_back_22 hH hS (by omega) (by omega) (fun H locs hH hS => ?_)
    have hkc : kc + c5 + c2_5 ≤ mc := by omega
    have hks : ks + n5 + n2_5 ≤ ms := by omega
    refine lv_pop (pc := 25) hx hb dX0_back_25 (va_rf_cat _) ?_
    refine lv_iconst (pc := 26) (v := nI 1) hx hb dX0_back_26 rfl ?_
    exact g_iret (pc := 27) hx hb hr hlk hH hS hkc hks hf dX0_back_27
  · rw [if_pos c2] at hf
    refine lv_aload_n (pc := 7) hx hb dX0_back_7 rfl (lv_at hl 0 rfl) ?_
    refine lv_bipush (pc := 8) (v := -85) hx hb dX0_back_8 gkbm85 ?_
    obtain ⟨_, ek7, hf⟩ := bdo hf
    obtain ⟨v7, S7, c7, n7, c2_7, n2_7, e7, hf, hC7, hN7⟩ := gbo hf
    refine g_callV (pc := 10) (o := (some l0)) (b := l0) (As := [.int (-85)]) (rest := []) (st1 := [.int v7]) hc (mX0_no hk hJ (l0 := l0) (l1 := (-85)) e7) (cwV 1 hts (lw_V q398 q400 qs2 q97 q401) rfl rfl rfl hdX0_no ⟨Nat.le_of_ble_eq_true rfl, Nat.le_of_ble_eq_true rfl⟩) (g_recv hE hk hH (ci := 0) (q := (RX0, TX0, 7)) rfl (chk_o ek7).choose_spec) rfl rfl hl.1 rfl rfl (lv_room (Nat.le_of_ble_eq_true rfl)) dX0_back_10 hH hS (by omega) (by omega) (fun H locs hH hS => ?_)
    have hkc : kc + c7 + c2_7 ≤ mc := by omega
    have hks : ks + n7 + n2_7 ≤ ms := by omega
    exact g_iret (pc := 13) hx hb hr hlk hH hS hkc hks hf dX0_back_13
theorem mX0_back {l : Launch} {G : gG} {Rp : gM → gM → Nat → Prop} (hk : rOK Rp) (hJ : JDK l G Rp) {S S2 : gS} {r2 : Int32} {C N : Nat} {l0 : Nat} (hf : fX0_back l0 S = some (r2, S2, C, N)) : gMet l yX0_back cX0_back 1 (some .int) 18 609 G Rp [.ref l0] S (some (.int r2)) S2 C N := by
  refine g_start (by decide) (Nat.le_of_ble_eq_true rfl) (fun p e s m args below meth c ls hc hl hH => ?_)
  have hl : lv_has ls 1 [(0, .ref l0)] := hl
  exact wX0_back_b0 hk hJ hc l0 S _ _ ls 0 0 C N (by omega) (by omega) hH va_S.rf (lv_sub hl [0] rfl) hf
end
section
variable {r : Int32} {Sf : gS}
def fX0_isQueue (l0 : Nat) (l1 : Int32) (S : gS) : gO Int32 :=
  bd (rdR S l0 0 0) fun v1 =>
  bd v1 fun a2 =>
  bd (rdR S a2 1 0) fun v3 =>
  bd v3 fun a5 =>
  gb (nAL_size a5  S) fun v4 S4 =>
  gb (fX0_isIn l1 (nI 0) (v4 - (nI 1)) S4) fun v6 S6 =>
  zg v6 S6
theorem wX0_isQueue_b0 (hk : rOK Rp) (hJ : JDK l G Rp) (hc : gC p s m args meth c G RX0 "isQueue" cX0_isQueue 2 (some .boolean)) (l0 : Nat) (l1 : Int32) (S : gS) (H : Heap) (locs : List Loc) (ls : Array Slot) (kc ks C N : Nat) (hkc : kc + C ≤ mc) (hks : ks + N ≤ ms) (hH : hp G Rp S H) (hS : va_S G.2.2.2 s.heap H locs) (hl : lv_has ls 2 [(0, .ref l0), (1, .int l1)]) (hf : fX0_isQueue l0 l1 S = some (r, Sf, C, N)) : W p l e (gR 15 540 mc ms) s m args below meth c H locs kc ks (gQ below G Rp (some (.int r)) Sf args s mc ms) (F0 m 0 ls []) := by
  obtain ⟨hx, hb, hr, hlk, hml, hown, hts, hE, hA, hnm⟩ := hc
  have hc : gC p s m args meth c G RX0 "isQueue" cX0_isQueue 2 (some .boolean) := ⟨hx, hb, hr, hlk, hml, hown, hts, hE, hA, hnm⟩
  unfold fX0_isQueue at hf
  refine lv_iload_n (pc := 0) hx hb dX0_isQueue_0 rfl (lv_at hl 1 rfl) ?_
  refine lv_iconst (pc := 1) (v := nI 0) hx hb dX0_isQueue_1 rfl ?_
  refine lv_aload_n (pc := 2) hx hb dX0_isQueue_2 rfl (lv_at hl 0 rfl) ?_
  obtain ⟨v1, e1, hf⟩ := bdo hf
  refine g_get (pc := 3) (o := (some l0)) (a := l0) (ci := 0) (k := 0) (v := va_rf v1) (C := RX0) (T := TX0) (N := 7) hx hb hts hown hE hk hH in_X0 rfl (by decide) (hts _ q272) (fun _ h9 => h9) rfl (rdR_o e1) dX0_isQueue_3 ?_
  obtain ⟨a2, ea2, hf⟩ := bdo hf
  obtain ⟨v3, e3, hf⟩ := bdo hf
  refine g_get (pc := 6) (o := v1) (a := a2) (ci := 1) (k := 0) (v := va_rf v3) (C := RX1) (T := TX1) (N := 7) hx hb hts hown hE hk hH in_X1 rfl (by decide) (hts _ q232) (fun _ h9 => h9) ea2 (rdR_o e3) dX0_isQueue_6 ?_
  obtain ⟨a5, ea5, hf⟩ := bdo hf
  obtain ⟨v4, S4, c4, n4, c2_4, n2_4, e4, hf, hC4, hN4⟩ := gbo hf
  refine g_callV (pc := 9) (o := v3) (b := a5) (As := []) (rest := [.int (nI 0), .int l1]) (st1 := [.int v4, .int (nI 0), .int l1]) hc (j_nAL_size hJ a5  S v4 S4 c4 n4 e4) (cwV 0 hts (lw_V q1134 q1120 q1121 q101 q1122) rfl rfl rfl hdJ2_size ⟨Nat.le_of_ble_eq_true rfl, Nat.le_of_ble_eq_true rfl⟩) (j_recv hJ _ _ _ _ 0 _ _ hE hH hS (adtR (t := 0) (show bd _ _ = some _ from e4)).choose_spec) ea5 rfl hl.1 rfl rfl (lv_room (Nat.le_of_ble_eq_true rfl)) dX0_isQueue_9 hH hS (by omega) (by omega) (fun H locs hH hS => ?_)
  have hkc : kc + c4 + c2_4 ≤ mc := by omega
  have hks : ks + n4 + n2_4 ≤ ms := by omega
  refine lv_iconst (pc := 12) (v := nI 1) hx hb dX0_isQueue_12 rfl ?_
  refine lv_isub (pc := 13) hx hb dX0_isQueue_13 ?_
  obtain ⟨v6, S6, c6, n6, c2_6, n2_6, e6, hf, hC6, hN6⟩ := gbo hf
  refine g_callS (pc := 14) (As := [.int l1, .int (nI 0), .int (v4 - (nI 1))]) (rest := []) (st1 := [.int v6]) hc (mX0_isIn hk hJ (l0 := l1) (l1 := (nI 0)) (l2 := (v4 - (nI 1))) e6) (va_cwS 3 hts (lw_S q395 q396 q97 q397) rfl rfl rfl hdX0_isIn ⟨Nat.le_of_ble_eq_true rfl, Nat.le_of_ble_eq_true rfl⟩) rfl hl.1 rfl rfl (lv_room (Nat.le_of_ble_eq_true rfl)) dX0_isQueue_14 hH hS (by omega) (by omega) (fun H locs hH hS => ?_)
  have hkc : kc + c4 + c6 + c2_6 ≤ mc := by omega
  have hks : ks + n4 + n6 + n2_6 ≤ ms := by omega
  exact g_zret (pc := 17) hx hb hr hlk hH hS hkc hks hf dX0_isQueue_17
theorem mX0_isQueue {l : Launch} {G : gG} {Rp : gM → gM → Nat → Prop} (hk : rOK Rp) (hJ : JDK l G Rp) {S S2 : gS} {r2 : Int32} {C N : Nat} {l0 : Nat} {l1 : Int32} (hf : fX0_isQueue l0 l1 S = some (r2, S2, C, N)) : gMet l yX0_isQueue cX0_isQueue 2 (some .boolean) 15 540 G Rp [.ref l0, .int l1] S (some (.int r2)) S2 C N := by
  refine g_start (by decide) (Nat.le_of_ble_eq_true rfl) (fun p e s m args below meth c ls hc hl hH => ?_)
  have hl : lv_has ls 2 [(0, .ref l0), (1, .int l1)] := hl
  exact wX0_isQueue_b0 hk hJ hc l0 l1 S _ _ ls 0 0 C N (by omega) (by omega) hH va_S.rf (lv_sub hl [0, 1] rfl) hf
end
section
variable {r : Option Nat} {Sf : gS}
def fX0_queue_2 (l0 : Nat) (l1 : Int32) (S : gS) : gO (Option Nat) :=
  bd (rdR S l0 0 0) fun v1 =>
  bd v1 fun a2 =>
  bd (rdR S a2 1 0) fun v3 =>
  bd v3 fun a5 =>
  gb (nAL_get a5 l1 S) fun v4 S4 =>
  bd (ckc S4 v4 3) fun _ =>
  some (v4, S4, 0, 0)
theorem wX0_queue_2_b0 (hk : rOK Rp) (hJ : JDK l G Rp) (hc : gC p s m args meth c G RX0 "queue" cX0_queue_2 2 (some (.object "CreditBroker$Queue"))) (l0 : Nat) (l1 : Int32) (S : gS) (H : Heap) (locs : List Loc) (ls : Array Slot) (kc ks C N : Nat) (hkc : kc + C ≤ mc) (hks : ks + N ≤ ms) (hH : hp G Rp S H) (hS : va_S G.2.2.2 s.heap H locs) (hl : lv_has ls 2 [(0, .ref l0), (1, .int l1)]) (hf : fX0_queue_2 l0 l1 S = some (r, Sf, C, N)) : W p l e (gR 15 540 mc ms) s m args below meth c H locs kc ks (gQ below G Rp (some (va_rf r)) Sf args s mc ms) (F0 m 0 ls []) := by
  obtain ⟨hx, hb, hr, hlk, hml, hown, hts, hE, hA, hnm⟩ := hc
  have hc : gC p s m args meth c G RX0 "queue" cX0_queue_2 2 (some (.object "CreditBroker$Queue")) := ⟨hx, hb, hr, hlk, hml, hown, hts, hE, hA, hnm⟩
  unfold fX0_queue_2 at hf
  refine lv_aload_n (pc := 0) hx hb dX0_queue_2_0 rfl (lv_at hl 0 rfl) ?_
  obtain ⟨v1, e1, hf⟩ := bdo hf
  refine g_get (pc := 1) (o := (some l0)) (a := l0) (ci := 0) (k := 0) (v := va_rf v1) (C := RX0) (T := TX0) (N := 7) hx hb hts hown hE hk hH in_X0 rfl (by decide) (hts _ q272) (fun _ h9 => h9) rfl (rdR_o e1) dX0_queue_2_1 ?_
  obtain ⟨a2, ea2, hf⟩ := bdo hf
  obtain ⟨v3, e3, hf⟩ := bdo hf
  refine g_get (pc := 4) (o := v1) (a := a2) (ci := 1) (k := 0) (v := va_rf v3) (C := RX1) (T := TX1) (N := 7) hx hb hts hown hE hk hH in_X1 rfl (by decide) (hts _ q232) (fun _ h9 => h9) ea2 (rdR_o e3) dX0_queue_2_4 ?_
  refine lv_iload_n (pc := 7) hx hb dX0_queue_2_7 rfl (lv_at hl 1 rfl) ?_
  obtain ⟨a5, ea5, hf⟩ := bdo hf
  obtain ⟨v4, S4, c4, n4, c2_4, n2_4, e4, hf, hC4, hN4⟩ := gbo hf
  refine g_callV (pc := 8) (o := v3) (b := a5) (As := [.int l1]) (rest := []) (st1 := [va_rf v4]) hc (j_nAL_get hJ a5 l1 S v4 S4 c4 n4 e4) (cwV 1 hts (lw_V q1222 q1223 q1224 q101 q1225) rfl rfl rfl hdJ2_get ⟨Nat.le_of_ble_eq_true rfl, Nat.le_of_ble_eq_true rfl⟩) (j_recv hJ _ _ _ _ 0 _ _ hE hH hS (adtR (t := 0) (show bd _ _ = some _ from e4)).choose_spec) ea5 rfl hl.1 rfl rfl (lv_room (Nat.le_of_ble_eq_true rfl)) dX0_queue_2_8 hH hS (by omega) (by omega) (fun H locs hH hS => ?_)
  have hkc : kc + c4 + c2_4 ≤ mc := by omega
  have hks : ks + n4 + n2_4 ≤ ms := by omega
  obtain ⟨_, e6, hf⟩ := bdo hf
  refine g_cast (pc := 11) (o := v4) (ci := 3) (C := RX8) (T := TX8) (N := 13) hx hb hts hown hE hk hH rfl q1135 e6 dX0_queue_2_11 ?_
  exact g_aret (pc := 14) (v := v4) hx hb hr (Or.inl ⟨_, rfl⟩) hlk hH hS hkc hks hf dX0_queue_2_14
theorem mX0_queue_2 {l : Launch} {G : gG} {Rp : gM → gM → Nat → Prop} (hk : rOK Rp) (hJ : JDK l G Rp) {S S2 : gS} {r2 : Option Nat} {C N : Nat} {l0 : Nat} {l1 : Int32} (hf : fX0_queue_2 l0 l1 S = some (r2, S2, C, N)) : gMet l yX0_queue_2 cX0_queue_2 2 (some (.object "CreditBroker$Queue")) 15 540 G Rp [.ref l0, .int l1] S (some (va_rf r2)) S2 C N := by
  refine g_start (by decide) (Nat.le_of_ble_eq_true rfl) (fun p e s m args below meth c ls hc hl hH => ?_)
  have hl : lv_has ls 2 [(0, .ref l0), (1, .int l1)] := hl
  exact wX0_queue_2_b0 hk hJ hc l0 l1 S _ _ ls 0 0 C N (by omega) (by omega) hH va_S.rf (lv_sub hl [0, 1] rfl) hf
end
section
variable {r : Int32} {Sf : gS}
def fX8_keys_b4 (G : gG) : Nat → Nat → (Option Nat) → Int32 → Int32 → gS → gO Int32
  | 0, _, _, _, _, _ => none
  | n + 1, l0, l1, l2, l3, S =>
    bd (rdR S l0 3 7) fun v1 =>
    bd v1 fun a3 =>
    gb (nAL_size a3  S) fun v2 S2 =>
    if v2 ≤ l3 then
      some (l2, S2, 0, 0)
    else
      bd (rdR S2 l0 3 7) fun v5 =>
      bd v5 fun a7 =>
      gb (nAL_get a7 l3 S2) fun v6 S6 =>
      bd (ckc S6 v6 4) fun _ =>
      bd l1 fun a10 =>
      gb (fdis G a10 v6 S6) fun v9 S9 =>
      if v9 = 0 then
        fX8_keys_b4 G n l0 l1 (l2 ||| (nI 0)) (l3 + (nI 1)) S9
      else
        bd (rdR S9 l0 3 7) fun v12 =>
        bd v12 fun a14 =>
        gb (nAL_get a14 l3 S9) fun v13 S13 =>
        bd (ckc S13 v13 4) fun _ =>
        bd v13 fun a16 =>
        bd (rdR S13 a16 4 0) fun v17 =>
        bd v17 fun a18 =>
        bd (rdI S13 a18 5 1) fun v19 =>
        fX8_keys_b4 G n l0 l1 (l2 ||| ((nI 1) <<< (v19 &&& 31))) (l3 + (nI 1)) S13
theorem wX8_keys_b4 (hk : rOK Rp) (hJ : JDK l G Rp) (hc : gC p s m args meth c G RX8 "keys" cX8_keys 4 (some .int)) : ∀ (n : Nat) (l0 : Nat) (l1 : Option Nat) (l2 : Int32) (l3 : Int32) (S : gS) (H : Heap) (locs : List Loc) (ls : Array Slot) (kc ks C N : Nat), kc + C ≤ mc → ks + N ≤ ms → hp G Rp S H → va_S G.2.2.2 s.heap H locs → lv_has ls 4 [(0, .ref l0), (1, va_rf l1), (2, .int l2), (3, .int l3)] → fX8_keys_b4 G n l0 l1 l2 l3 S = some (r, Sf, C, N) → W p l e (gR 15 540 mc ms) s m args below meth c H locs kc ks (gQ below G Rp (some (.int r)) Sf args s mc ms) (F0 m 4 ls []) := by
  obtain ⟨hx, hb, hr, hlk, hml, hown, hts, hE, hA, hnm⟩ := hc
  have hc : gC p s m args meth c G RX8 "keys" cX8_keys 4 (some .int) := ⟨hx, hb, hr, hlk, hml, hown, hts, hE, hA, hnm⟩
  intro n
  induction n with
  | zero => intro l0 l1 l2 l3 S H locs ls kc ks C N _ _ _ _ _ hf; exact absurd hf (fun h => by cases h)
  | succ n ih =>
    intro l0 l1 l2 l3 S H locs ls kc ks C N hkc hks hH hS hl hf
    rw [fX8_keys_b4] at hf
    refine lv_iload_n (pc := 4) hx hb dX8_keys_4 rfl (lv_at hl 3 rfl) ?_
    refine lv_aload_n (pc := 5) hx hb dX8_keys_5 rfl (lv_at hl 0 rfl) ?_
    obtain ⟨v1, e1, hf⟩ := bdo hf
    refine g_get (pc := 6) (o := (some l0)) (a := l0) (ci := 3) (k := 7) (v := va_rf v1) (C := RX8) (T := TX8) (N := 13) hx hb hts hown hE hk hH in_X8 rfl (by decide) (hts _ q1167) (fun _ h9 => h9) rfl (rdR_o e1) dX8_keys_6 ?_
    obtain ⟨a3, ea3, hf⟩ := bdo hf
    obtain ⟨v2, S2, c2, n2, c2_2, n2_2, e2, hf, hC2, hN2⟩ := gbo hf
    refine g_callV (pc := 9) (o := v1) (b := a3) (As := []) (rest := [.int l3]) (st1 := [.int v2, .int l3]) hc (j_nAL_size hJ a3  S v2 S2 c2 n2 e2) (cwV 0 hts (lw_V q1605 q1120 q1121 q101 q1122) rfl rfl rfl hdJ2_size ⟨Nat.le_of_ble_eq_true rfl, Nat.le_of_ble_eq_true rfl⟩) (j_recv hJ _ _ _ _ 0 _ _ hE hH hS (adtR (t := 0) (show bd _ _ = some _ from e2)).choose_spec) ea3 rfl hl.1 rfl rfl (lv_room (Nat.le_of_ble_eq_true rfl)) dX8_keys_9 hH hS (by omega) (by omega) (fun H locs hH hS => ?_)
    have hkc : kc + c2 + c2_2 ≤ mc := by omega
    have hks : ks + n2 + n2_2 ≤ ms := by omega
    refine lv_icmp_ge (pc := 12) (tgt := 67) hx hb dX8_keys_12 (by decide) (fun c4 => ?_) (fun c4 => ?_)
    · rw [if_pos c4] at hf
      refine lv_iload_n (pc := 67) hx hb dX8_keys_67 rfl (lv_at hl 2 rfl) ?_
      exact g_iret (pc := 68) hx hb hr hlk hH hS hkc hks hf dX8_keys_68
    · rw [if_neg c4] at hf
      refine lv_iload_n (pc := 15) hx hb dX8_keys_15 rfl (lv_at hl 2 rfl) ?_
      refine g_aload_n (pc := 16) (o := l1) hx hb dX8_keys_16 rfl (lv_at hl 1 rfl) ?_
      refine lv_aload_n (pc := 17) hx hb dX8_keys_17 rfl (lv_at hl 0 rfl) ?_
      obtain ⟨v5, e5, hf⟩ := bdo hf
      refine g_get (pc := 18) (o := (some l0)) (a := l0) (ci := 3) (k := 7) (v := va_rf v5) (C := RX8) (T := TX8) (N := 13) hx hb hts hown hE hk hH in_X8 rfl (by decide) (hts _ q1167) (fun _ h9 => h9) rfl (rdR_o e5) dX8_keys_18 ?_
      refine lv_iload_n (pc := 21) hx hb dX8_keys_21 rfl (lv_at hl 3 rfl) ?_
      obtain ⟨a7, ea7, hf⟩ := bdo hf
      obtain ⟨v6, S6, c6, n6, c2_6, n2_6, e6, hf, hC6, hN6⟩ := gbo hf
      refine g_callV (pc := 22) (o := v5) (b := a7) (As := [.int l3]) (rest := [va_rf l1, .int l2]) (st1 := [va_rf v6, va_rf l1, .int l2]) hc (j_nAL_get hJ a7 l3 S2 v6 S6 c6 n6 e6) (cwV 1 hts (lw_V q1757 q1223 q1224 q101 q1225) rfl rfl rfl hdJ2_get ⟨Nat.le_of_ble_eq_true rfl, Nat.le_of_ble_eq_true rfl⟩) (j_recv hJ _ _ _ _ 0 _ _ hE hH hS (adtR (t := 0) (show bd _ _ = some _ from e6)).choose_spec) ea7 rfl hl.1 rfl rfl (lv_room (by simp [va_rf_cat, cat_i, cat_j, cat_r])) dX8_keys_22 hH hS (by omega) (by omega) (fun H locs hH hS => ?_)
      have hkc : kc + c2 + c6 + c2_6 ≤ mc := by omega
      have hks : ks + n2 + n6 + n2_6 ≤ ms := by omega
      obtain ⟨_, e8, hf⟩ := bdo hf
      refine g_cast (pc := 25) (o := v6) (ci := 4) (C := RX16) (T := TX16) (N := 6) hx hb hts hown hE hk hH rfl q1758 e8 dX8_keys_25 ?_
      obtain ⟨a10, ea10, hf⟩ := bdo hf
      obtain ⟨v9, S9, c9, n9, c2_9, n2_9, e9, hf, hC9, hN9⟩ := gbo hf
      refine gP_is (pc := 28) (o := l1) (b := a10) (x0 := v6) (rest := [.int l2]) (st1 := [.int v9, .int l2]) hc hk hJ e9 q1861 (Nat.le_of_ble_eq_true rfl) (Nat.le_of_ble_eq_true rfl) ea10 hl.1 rfl rfl (lv_room (Nat.le_of_ble_eq_true rfl)) dX8_keys_28 hH hS (by omega) (by omega) (fun H locs hH hS => ?_)
      have hkc : kc + c2 + c6 + c9 + c2_9 ≤ mc := by omega
      have hks : ks + n2 + n6 + n9 + n2_9 ≤ ms := by omega
      refine lv_if_eq (pc := 33) (tgt := 58) hx hb dX8_keys_33 (by decide) (fun c11 => ?_) (fun c11 => ?_)
      · rw [if_pos c11] at hf
        refine lv_iconst (pc := 58) (v := nI 0) hx hb dX8_keys_58 rfl ?_
        refine lv_ior (pc := 59) hx hb dX8_keys_59 ?_
        refine lv_istore_n (pc := 60) (i := 2) (lv' := [(2, .int (l2 ||| (nI 0))), (0, .ref l0), (1, va_rf l1), (3, .int l3)]) hx hb dX8_keys_60 rfl hl (by decide) (by simp [va_rf_cat, cat_i, cat_j, cat_r] <;> rfl) (fun ls hl => ?_)
        refine lv_iinc (pc := 61) (v := l3 + (nI 1)) (lv' := [(3, .int (l3 + (nI 1))), (2, .int (l2 ||| (nI 0))), (0, .ref l0), (1, va_rf l1)]) hx hb dX8_keys_61 hl (k := 3) rfl rfl (by decide) rfl (fun ls hl => ?_)
        refine lv_goto (pc := 64) (tgt := 4) hx hb dX8_keys_64 (by decide) ?_
        exact ih l0 l1 (l2 ||| (nI 0)) (l3 + (nI 1)) S9 _ _ ls _ _ _ _ hkc hks hH hS (lv_sub hl [2, 3, 1, 0] rfl) hf
      · rw [if_neg c11] at hf
        refine lv_iconst (pc := 36) (v := nI 1) hx hb dX8_keys_36 rfl ?_
        refine lv_aload_n (pc := 37) hx hb dX8_keys_37 rfl (lv_at hl 0 rfl) ?_
        obtain ⟨v12, e12, hf⟩ := bdo hf
        refine g_get (pc := 38) (o := (some l0)) (a := l0) (ci := 3) (k := 7) (v := va_rf v12) (C := RX8) (T := TX8) (N := 13) hx hb hts hown hE hk hH in_X8 rfl (by decide) (hts _ q1167) (fun _ h9 => h9) rfl (rdR_o e12) dX8_keys_38 ?_
        refine lv_iload_n (pc := 41) hx hb dX8_keys_41 rfl (lv_at hl 3 rfl) ?_
        obtain ⟨a14, ea14, hf⟩ := bdo hf
        obtain ⟨v13, S13, c13, n13, c2_13, n2_13, e13, hf, hC13, hN13⟩ := gbo hf
        refine g_callV (pc := 42) (o := v12) (b := a14) (As := [.int l3]) (rest := [.int (nI 1), .int l2]) (st1 := [va_rf v13, .int (nI 1), .int l2]) hc (j_nAL_get hJ a14 l3 S9 v13 S13 c13 n13 e13) (cwV 1 hts (lw_V q1757 q1223 q1224 q101 q1225) rfl rfl rfl hdJ2_get ⟨Nat.le_of_ble_eq_true rfl, Nat.le_of_ble_eq_true rfl⟩) (j_recv hJ _ _ _ _ 0 _ _ hE hH hS (adtR (t := 0) (show bd _ _ = some _ from e13)).choose_spec) ea14 rfl hl.1 rfl rfl (lv_room (Nat.le_of_ble_eq_true rfl)) dX8_keys_42 hH hS (by omega) (by omega) (fun H locs hH hS => ?_)
        have hkc : kc + c2 + c6 + c9 + c13 + c2_13 ≤ mc := by omega
        have hks : ks + n2 + n6 + n9 + n13 + n2_13 ≤ ms := by omega
        obtain ⟨_, e15, hf⟩ := bdo hf
        refine g_cast (pc := 45) (o := v13) (ci := 4) (C := RX16) (T := TX16) (N := 6) hx hb hts hown hE hk hH rfl q1758 e15 dX8_keys_45 ?_
        obtain ⟨a16, ea16, hf⟩ := bdo hf
        obtain ⟨v17, e17, hf⟩ := bdo hf
        refine g_get (pc := 48) (o := v13) (a := a16) (ci := 4) (k := 0) (v := va_rf v17) (C := RX16) (T := TX16) (N := 6) hx hb hts hown hE hk hH in_X16 rfl (by decide) (hts _ q1711) (fun _ h9 => h9) ea16 (rdR_o e17) dX8_keys_48 ?_
        obtain ⟨a18, ea18, hf⟩ := bdo hf
        obtain ⟨v19, e19, hf⟩ := bdo hf
        refine g_get (pc := 51) (o := v17) (a := a18) (ci := 5) (k := 1) (v := .int v19) (C := RX11) (T := TX11) (N := 6) hx hb hts hown hE hk hH in_X11 rfl (by decide) (hts _ q1551) (fun _ h9 => h9) ea18 (rdI_o e19) dX8_keys_51 ?_
        refine lv_ishl (pc := 54) hx hb dX8_keys_54 ?_
        refine lv_goto (pc := 55) (tgt := 59) hx hb dX8_keys_55 (by decide) ?_
        refine lv_ior (pc := 59) hx hb dX8_keys_59 ?_
        refine lv_istore_n (pc := 60) (i := 2) (lv' := [(2, .int (l2 ||| ((nI 1) <<< (v19 &&& 31)))), (0, .ref l0), (1, va_rf l1), (3, .int l3)]) hx hb dX8_keys_60 rfl hl (by decide) (by simp [va_rf_cat, cat_i, cat_j, cat_r] <;> rfl) (fun ls hl => ?_)
        refine lv_iinc (pc := 61) (v := l3 + (nI 1)) (lv' := [(3, .int (l3 + (nI 1))), (2, .int (l2 ||| ((nI 1) <<< (v19 &&& 31)))), (0, .ref l0), (1, va_rf l1)]) hx hb dX8_keys_61 hl (k := 3) rfl rfl (by decide) rfl (fun ls hl => ?_)
        refine lv_goto (pc := 64) (tgt := 4) hx hb dX8_keys_64 (by decide) ?_
        exact ih l0 l1 (l2 ||| ((nI 1) <<< (v19 &&& 31))) (l3 + (nI 1)) S13 _ _ ls _ _ _ _ hkc hks hH hS (lv_sub hl [2, 3, 1, 0] rfl) hf
def fX8_keys (G : gG) (l0 : Nat) (l1 : Option Nat) (S : gS) : gO Int32 :=
  fX8_keys_b4 G FU l0 l1 (nI 0) (nI 0) S
theorem wX8_keys_b0 (hk : rOK Rp) (hJ : JDK l G Rp) (hc : gC p s m args meth c G RX8 "keys" cX8_keys 4 (some .int)) (l0 : Nat) (l1 : Option Nat) (S : gS) (H : Heap) (locs : List Loc) (ls : Array Slot) (kc ks C N : Nat) (hkc : kc + C ≤ mc) (hks : ks + N ≤ ms) (hH : hp G Rp S H) (hS : va_S G.2.2.2 s.heap H locs) (hl : lv_has ls 4 [(0, .ref l0), (1, va_rf l1)]) (hf : fX8_keys G l0 l1 S = some (r, Sf, C, N)) : W p l e (gR 15 540 mc ms) s m args below meth c H locs kc ks (gQ below G Rp (some (.int r)) Sf args s mc ms) (F0 m 0 ls []) := by
  obtain ⟨hx, hb, hr, hlk, hml, hown, hts, hE, hA, hnm⟩ := hc
  have hc : gC p s m args meth c G RX8 "keys" cX8_keys 4 (some .int) := ⟨hx, hb, hr, hlk, hml, hown, hts, hE, hA, hnm⟩
  unfold fX8_keys at hf
  refine lv_iconst (pc := 0) (v := nI 0) hx hb dX8_keys_0 rfl ?_
  refine lv_istore_n (pc := 1) (i := 2) (lv' := [(2, .int (nI 0)), (0, .ref l0), (1, va_rf l1)]) hx hb dX8_keys_1 rfl hl (by decide) (by simp [va_rf_cat, cat_i, cat_j, cat_r] <;> rfl) (fun ls hl => ?_)
  refine lv_iconst (pc := 2) (v := nI 0) hx hb dX8_keys_2 rfl ?_
  refine lv_istore_n (pc := 3) (i := 3) (lv' := [(3, .int (nI 0)), (2, .int (nI 0)), (0, .ref l0), (1, va_rf l1)]) hx hb dX8_keys_3 rfl hl (by decide) rfl (fun ls hl => ?_)
  exact wX8_keys_b4 hk hJ hc FU l0 l1 (nI 0) (nI 0) S _ _ ls _ _ _ _ hkc hks hH hS (lv_sub hl [2, 3, 1, 0] rfl) hf
theorem mX8_keys {l : Launch} {G : gG} {Rp : gM → gM → Nat → Prop} (hk : rOK Rp) (hJ : JDK l G Rp) {S S2 : gS} {r2 : Int32} {C N : Nat} {l0 : Nat} {l1 : Option Nat} (hf : fX8_keys G l0 l1 S = some (r2, S2, C, N)) : gMet l yX8_keys cX8_keys 4 (some .int) 15 540 G Rp [.ref l0, va_rf l1] S (some (.int r2)) S2 C N := by
  refine g_start (by decide) (by simp [lg_sl, va_rf_cat, cat_i, cat_j, cat_r]) (fun p e s m args below meth c ls hc hl hH => ?_)
  have hl : lv_has ls 4 [(0, .ref l0), (1, va_rf l1)] := by simpa [lv_args, va_rf_cat, cat_i, cat_j, cat_r] using hl
  exact wX8_keys_b0 hk hJ hc l0 l1 S _ _ ls 0 0 C N (by omega) (by omega) hH va_S.rf (lv_sub hl [0, 1] rfl) hf
end
section
variable {r : Option Nat} {Sf : gS}
def fX8_mays_b24 : Nat → Nat → Int32 → (Option Nat) → gS → gO (Option Nat)
  | 0, _, _, _, _ => none
  | n + 1, l1, l2, l3, S =>
    bd l3 fun a2 =>
    gb (nI6_hasNext a2 S) fun v1 S1 =>
    if v1 = 0 then
      some ((some l1), S1, 0, 0)
    else
      gb (nI6_next a2 S1) fun v4 S4 =>
      bd (ckc S4 v4 4) fun _ =>
      bd v4 fun a6 =>
      bd (rdR S4 a6 4 0) fun v7 =>
      bd v7 fun a8 =>
      bd (rdI S4 a8 5 1) fun v9 =>
      bd (rdI S4 a6 4 1) fun v10 =>
      if v10 = 0 then
        if (l2 &&& ((nI 1) <<< (v9 &&& 31))) = 0 then
          gb (nPQ_add l1 v4 S4) fun v13 S13 =>
          fX8_mays_b24 n l1 (l2 ||| ((nI 1) <<< (v9 &&& 31))) l3 S13
        else
          fX8_mays_b24 n l1 (l2 ||| ((nI 1) <<< (v9 &&& 31))) l3 S4
      else
        fX8_mays_b24 n l1 (l2 ||| ((nI 1) <<< (v9 &&& 31))) l3 S4
theorem wX8_mays_b24 (hk : rOK Rp) (hJ : JDK l G Rp) (hc : gC p s m args meth c G RX8 "mays" cX8_mays 6 (some (.object "java/util/PriorityQueue"))) : ∀ (n : Nat) (l1 : Nat) (l2 : Int32) (l3 : Option Nat) (S : gS) (H : Heap) (locs : List Loc) (ls : Array Slot) (kc ks C N : Nat), kc + C ≤ mc → ks + N ≤ ms → hp G Rp S H → va_S G.2.2.2 s.heap H locs → lv_has ls 6 [(1, .ref l1), (2, .int l2), (3, va_rf l3)] → fX8_mays_b24 n l1 l2 l3 S = some (r, Sf, C, N) → W p l e (gR 15 540 mc ms) s m args below meth c H locs kc ks (gQ below G Rp (some (va_rf r)) Sf args s mc ms) (F0 m 24 ls []) := by
  obtain ⟨hx, hb, hr, hlk, hml, hown, hts, hE, hA, hnm⟩ := hc
  have hc : gC p s m args meth c G RX8 "mays" cX8_mays 6 (some (.object "java/util/PriorityQueue")) := ⟨hx, hb, hr, hlk, hml, hown, hts, hE, hA, hnm⟩
  intro n
  induction n with
  | zero => intro l1 l2 l3 S H locs ls kc ks C N _ _ _ _ _ hf; exact absurd hf (fun h => by cases h)
  | succ n ih =>
    intro l1 l2 l3 S H locs ls kc ks C N hkc hks hH hS hl hf
    rw [fX8_mays_b24] at hf
    refine g_aload_n (pc := 24) (o := l3) hx hb dX8_mays_24 rfl (lv_at hl 2 rfl) ?_
    obtain ⟨a2, ea2, hf⟩ := bdo hf
    obtain ⟨v1, S1, c1, n1, c2_1, n2_1, e1, hf, hC1, hN1⟩ := gbo hf
    refine g_callF (pc := 25) (o := l3) (b := a2) (As := []) (rest := []) (st1 := [.int v1]) (ci := 21) (q := (RJ26, TJ26, 4)) hc (j_nI6_hasNext hJ a2 S v1 S1 c1 n1 e1) (va_cwF 0 hts (lw_app (lw_of4 q1964 q1339 q1341 q135) (lw_meth q1343)) rfl rfl rfl (hE.2.1.2.2.2.2.2 _ _ _ hdx_hasNext.1 q1320 q1319 q1342 q1340 q1338) hdx_hasNext.2 ⟨Nat.le_of_ble_eq_true rfl, Nat.le_of_ble_eq_true rfl⟩) rfl rfl (j_recv hJ _ _ _ _ 6 _ _ hE hH hS (adtR (t := 6) (show bd _ _ = some _ from e1)).choose_spec) ea2 rfl hl.1 rfl rfl (lv_room (Nat.le_of_ble_eq_true rfl)) dX8_mays_25 hH hS (by omega) (by omega) (fun H locs hH hS => ?_)
    have hkc : kc + c1 + c2_1 ≤ mc := by omega
    have hks : ks + n1 + n2_1 ≤ ms := by omega
    refine lv_if_eq (pc := 30) (tgt := 86) hx hb dX8_mays_30 (by decide) (fun c3 => ?_) (fun c3 => ?_)
    · rw [if_pos c3] at hf
      refine lv_aload_n (pc := 86) hx hb dX8_mays_86 rfl (lv_at hl 0 rfl) ?_
      exact g_aret (pc := 87) (v := (some l1)) hx hb hr (Or.inl ⟨_, rfl⟩) hlk hH hS hkc hks hf dX8_mays_87
    · rw [if_neg c3] at hf
      refine g_aload_n (pc := 33) (o := l3) hx hb dX8_mays_33 rfl (lv_at hl 2 rfl) ?_
      obtain ⟨v4, S4, c4, n4, c2_4, n2_4, e4, hf, hC4, hN4⟩ := gbo hf
      refine g_callF (pc := 34) (o := l3) (b := a2) (As := []) (rest := []) (st1 := [va_rf v4]) (ci := 21) (q := (RJ26, TJ26, 4)) hc (j_nI6_next hJ a2 S1 v4 S4 c4 n4 e4) (va_cwF 0 hts (lw_app (lw_of4 q1966 q1472 q1474 q135) (lw_meth q1476)) rfl rfl rfl (hE.2.1.2.2.2.2.2 _ _ _ hdx_next.1 q1366 q1365 q1475 q1473 q1338) hdx_next.2 ⟨Nat.le_of_ble_eq_true rfl, Nat.le_of_ble_eq_true rfl⟩) rfl rfl (j_recv hJ _ _ _ _ 6 _ _ hE hH hS (adtR (t := 6) (show bd _ _ = some _ from e4)).choose_spec) ea2 rfl hl.1 rfl rfl (lv_room (Nat.le_of_ble_eq_true rfl)) dX8_mays_34 hH hS (by omega) (by omega) (fun H locs hH hS => ?_)
      have hkc : kc + c1 + c4 + c2_4 ≤ mc := by omega
      have hks : ks + n1 + n4 + n2_4 ≤ ms := by omega
      obtain ⟨_, e5, hf⟩ := bdo hf
      refine g_cast (pc := 39) (o := v4) (ci := 4) (C := RX16) (T := TX16) (N := 6) hx hb hts hown hE hk hH rfl q1758 e5 dX8_mays_39 ?_
      refine g_astore (pc := 42) (i := 4) (o := v4) (lv' := [(4, va_rf v4), (1, .ref l1), (2, .int l2), (3, va_rf l3)]) hx hb dX8_mays_42 hl (by decide) (by simp [va_rf_cat, cat_i, cat_j, cat_r] <;> rfl) (fun ls hl => ?_)
      refine lv_iconst (pc := 44) (v := nI 1) hx hb dX8_mays_44 rfl ?_
      refine g_aload (pc := 45) (o := v4) hx hb dX8_mays_45 (lv_at hl 0 rfl) ?_
      obtain ⟨a6, ea6, hf⟩ := bdo hf
      obtain ⟨v7, e7, hf⟩ := bdo hf
      refine g_get (pc := 47) (o := v4) (a := a6) (ci := 4) (k := 0) (v := va_rf v7) (C := RX16) (T := TX16) (N := 6) hx hb hts hown hE hk hH in_X16 rfl (by decide) (hts _ q1711) (fun _ h9 => h9) ea6 (rdR_o e7) dX8_mays_47 ?_
      obtain ⟨a8, ea8, hf⟩ := bdo hf
      obtain ⟨v9, e9, hf⟩ := bdo hf
      refine g_get (pc := 50) (o := v7) (a := a8) (ci := 5) (k := 1) (v := .int v9) (C := RX11) (T := TX11) (N := 6) hx hb hts hown hE hk hH in_X11 rfl (by decide) (hts _ q1551) (fun _ h9 => h9) ea8 (rdI_o e9) dX8_mays_50 ?_
      refine lv_ishl (pc := 53) hx hb dX8_mays_53 ?_
      refine lv_istore (pc := 54) (i := 5) (lv' := [(5, .int ((nI 1) <<< (v9 &&& 31))), (4, va_rf v4), (1, .ref l1), (2, .int l2), (3, va_rf l3)]) hx hb dX8_mays_54 hl (by decide) (by simp [va_rf_cat, cat_i, cat_j, cat_r] <;> rfl) (fun ls hl => ?_)
      refine g_aload (pc := 56) (o := v4) hx hb dX8_mays_56 (lv_at hl 1 rfl) ?_
      obtain ⟨v10, e10, hf⟩ := bdo hf
      refine g_get (pc := 58) (o := v4) (a := a6) (ci := 4) (k := 1) (v := .int v10) (C := RX16) (T := TX16) (N := 6) hx hb hts hown hE hk hH in_X16 rfl (by decide) (hts _ q1714) (fun _ h9 => h9) ea6 (rdI_o e10) dX8_mays_58 ?_
      refine lv_if_ne (pc := 61) (tgt := 78) hx hb dX8_mays_61 (by decide) (fun c11 => ?_) (fun c11 => ?_)
      · rw [if_neg c11] at hf
        refine lv_iload_n (pc := 78) hx hb dX8_mays_78 rfl (lv_at hl 3 rfl) ?_
        refine lv_iload (pc := 79) hx hb dX8_mays_79 (lv_at hl 0 rfl) ?_
        refine lv_ior (pc := 81) hx hb dX8_mays_81 ?_
        refine lv_istore_n (pc := 82) (i := 2) (lv' := [(2, .int (l2 ||| ((nI 1) <<< (v9 &&& 31)))), (5, .int ((nI 1) <<< (v9 &&& 31))), (4, va_rf v4), (1, .ref l1), (3, va_rf l3)]) hx hb dX8_mays_82 rfl hl (by decide) rfl (fun ls hl => ?_)
        refine lv_goto (pc := 83) (tgt := 24) hx hb dX8_mays_83 (by decide) ?_
        exact ih l1 (l2 ||| ((nI 1) <<< (v9 &&& 31))) l3 S4 _ _ ls _ _ _ _ hkc hks hH hS (lv_sub hl [3, 0, 4] rfl) hf
      · rw [if_pos c11] at hf
        refine lv_iload_n (pc := 64) hx hb dX8_mays_64 rfl (lv_at hl 3 rfl) ?_
        refine lv_iload (pc := 65) hx hb dX8_mays_65 (lv_at hl 0 rfl) ?_
        refine lv_iand (pc := 67) hx hb dX8_mays_67 ?_
        refine lv_if_ne (pc := 68) (tgt := 78) hx hb dX8_mays_68 (by decide) (fun c12 => ?_) (fun c12 => ?_)
        · rw [if_neg c12] at hf
          refine lv_iload_n (pc := 78) hx hb dX8_mays_78 rfl (lv_at hl 3 rfl) ?_
          refine lv_iload (pc := 79) hx hb dX8_mays_79 (lv_at hl 0 rfl) ?_
          refine lv_ior (pc := 81) hx hb dX8_mays_81 ?_
          refine lv_istore_n (pc := 82) (i := 2) (lv' := [(2, .int (l2 ||| ((nI 1) <<< (v9 &&& 31)))), (5, .int ((nI 1) <<< (v9 &&& 31))), (4, va_rf v4), (1, .ref l1), (3, va_rf l3)]) hx hb dX8_mays_82 rfl hl (by decide) rfl (fun ls hl => ?_)
          refine lv_goto (pc := 83) (tgt := 24) hx hb dX8_mays_83 (by decide) ?_
          exact ih l1 (l2 ||| ((nI 1) <<< (v9 &&& 31))) l3 S4 _ _ ls _ _ _ _ hkc hks hH hS (lv_sub hl [3, 0, 4] rfl) hf
        · rw [if_pos c12] at hf
          refine lv_aload_n (pc := 71) hx hb dX8_mays_71 rfl (lv_at hl 2 rfl) ?_
          refine g_aload (pc := 72) (o := v4) hx hb dX8_mays_72 (lv_at hl 1 rfl) ?_
          obtain ⟨v13, S13, c13, n13, c2_13, n2_13, e13, hf, hC13, hN13⟩ := gbo hf
          refine g_callV (pc := 74) (o := (some l1)) (b := l1) (As := [va_rf v4]) (rest := []) (st1 := [.int v13]) hc (j_nPQ_add hJ l1 v4 S4 v13 S13 c13 n13 e13) (cwV 1 hts (lw_V q2468 q2469 q2470 q156 q2471) rfl rfl rfl hdJ36_add ⟨Nat.le_of_ble_eq_true rfl, Nat.le_of_ble_eq_true rfl⟩) (j_recv hJ _ _ _ _ 2 _ _ hE hH hS (adtR (t := 2) (show bd _ _ = some _ from e13)).choose_spec) rfl rfl hl.1 rfl rfl (lv_room (Nat.le_of_ble_eq_true rfl)) dX8_mays_74 hH hS (by omega) (by omega) (fun H locs hH hS => ?_)
          have hkc : kc + c1 + c4 + c13 + c2_13 ≤ mc := by omega
          have hks : ks + n1 + n4 + n13 + n2_13 ≤ ms := by omega
          refine lv_pop (pc := 77) hx hb dX8_mays_77 rfl ?_
          refine lv_iload_n (pc := 78) hx hb dX8_mays_78 rfl (lv_at hl 3 rfl) ?_
          refine lv_iload (pc := 79) hx hb dX8_mays_79 (lv_at hl 0 rfl) ?_
          refine lv_ior (pc := 81) hx hb dX8_mays_81 ?_
          refine lv_istore_n (pc := 82) (i := 2) (lv' := [(2, .int (l2 ||| ((nI 1) <<< (v9 &&& 31)))), (5, .int ((nI 1) <<< (v9 &&& 31))), (4, va_rf v4), (1, .ref l1), (3, va_rf l3)]) hx hb dX8_mays_82 rfl hl (by decide) rfl (fun ls hl => ?_)
          refine lv_goto (pc := 83) (tgt := 24) hx hb dX8_mays_83 (by decide) ?_
          exact ih l1 (l2 ||| ((nI 1) <<< (v9 &&& 31))) l3 S13 _ _ ls _ _ _ _ hkc hks hH hS (lv_sub hl [3, 0, 4] rfl) hf
def fX8_mays (l0 : Nat) (S : gS) : gO (Option Nat) :=
  nw S (cO 17 [.null, .int 0, .null, .int 0]) 4 fun S1 =>
  bd (rdR S1 l0 3 8) fun v2 =>
  gb (nPQ_init S.2 (nI 20) v2 S1) fun _ S3 =>
  bd (rdR S3 l0 3 7) fun v4 =>
  bd v4 fun a6 =>
  gb (nAL_iter a6  S3) fun v5 S5 =>
  fX8_mays_b24 FU S.2 (nI 0) v5 S5
theorem wX8_mays_b0 (hk : rOK Rp) (hJ : JDK l G Rp) (hc : gC p s m args meth c G RX8 "mays" cX8_mays 6 (some (.object "java/util/PriorityQueue"))) (l0 : Nat) (S : gS) (H : Heap) (locs : List Loc) (ls : Array Slot) (kc ks C N : Nat) (hkc : kc + C ≤ mc) (hks : ks + N ≤ ms) (hH : hp G Rp S H) (hS : va_S G.2.2.2 s.heap H locs) (hl : lv_has ls 6 [(0, .ref l0)]) (hf : fX8_mays l0 S = some (r, Sf, C, N)) : W p l e (gR 15 540 mc ms) s m args below meth c H locs kc ks (gQ below G Rp (some (va_rf r)) Sf args s mc ms) (F0 m 0 ls []) := by
  obtain ⟨hx, hb, hr, hlk, hml, hown, hts, hE, hA, hnm⟩ := hc
  have hc : gC p s m args meth c G RX8 "mays" cX8_mays 6 (some (.object "java/util/PriorityQueue")) := ⟨hx, hb, hr, hlk, hml, hown, hts, hE, hA, hnm⟩
  unfold fX8_mays at hf
  obtain ⟨S1, c2_1, n2_1, eS1, hf, hC1, hN1⟩ := nwo hf
  refine g_newo (pc := 0) (ci := 17) (C := RJ36) (T := TJ36) (N := 4) (fs := [.null, .int 0, .null, .int 0]) hx hb hts hown hE hA hk hH hS in_J36 tyJ36_ok q2443 q2157 q156 rfl (fun j hj => by rcases (show j = 0 ∨ j = 1 ∨ j = 2 ∨ j = 3 by omega) with rfl | rfl | rfl | rfl <;> rfl) eS1 (Nat.le_trans (by omega) hkc) (Nat.le_trans (by omega) hks) dX8_mays_0 (fun H hH hS => ?_)
  have hkc : kc + 1 + c2_1 ≤ mc := by omega
  have hks : ks + 4 + n2_1 ≤ ms := by omega
  refine lv_dup (pc := 3) hx hb dX8_mays_3 rfl ?_
  refine lv_bipush (pc := 4) (v := nI 20) hx hb dX8_mays_4 gkb20 ?_
  refine lv_aload_n (pc := 6) hx hb dX8_mays_6 rfl (lv_at hl 0 rfl) ?_
  obtain ⟨v2, e2, hf⟩ := bdo hf
  refine g_get (pc := 7) (o := (some l0)) (a := l0) (ci := 3) (k := 8) (v := va_rf v2) (C := RX8) (T := TX8) (N := 13) hx hb hts hown hE hk hH in_X8 rfl (by decide) (hts _ q1170) (fun _ h9 => h9) rfl (rdR_o e2) dX8_mays_7 ?_
  obtain ⟨_, S3, c3, n3, c2_3, n2_3, e3, hf, hC3, hN3⟩ := gbo hf
  refine g_callI (pc := 10) (o := (some S.2)) (b := S.2) (As := [.int (nI 20), va_rf v2]) (rest := [.ref S.2]) hc (j_nPQ_init hJ S.2 (nI 20) v2 S1 () S3 c3 n3 e3) (cwI 2 hts (lw_meth q2446) rfl rfl rfl (hts _ q156) (hts _ q2444) (hts _ q2445) rfl hdiJ36_init ⟨Nat.le_of_ble_eq_true rfl, Nat.le_of_ble_eq_true rfl⟩) rfl rfl hl.1 rfl (lv_room (Nat.le_of_ble_eq_true rfl)) dX8_mays_10 hH hS (by omega) (by omega) (fun H locs hH hS => ?_)
  have hkc : kc + 1 + c3 + c2_3 ≤ mc := by omega
  have hks : ks + 4 + n3 + n2_3 ≤ ms := by omega
  refine lv_astore_n (pc := 13) (i := 1) (lv' := [(1, .ref S.2), (0, .ref l0)]) hx hb dX8_mays_13 rfl hl (by decide) rfl (fun ls hl => ?_)
  refine lv_iconst (pc := 14) (v := nI 0) hx hb dX8_mays_14 rfl ?_
  refine lv_istore_n (pc := 15) (i := 2) (lv' := [(2, .int (nI 0)), (1, .ref S.2), (0, .ref l0)]) hx hb dX8_mays_15 rfl hl (by decide) rfl (fun ls hl => ?_)
  refine lv_aload_n (pc := 16) hx hb dX8_mays_16 rfl (lv_at hl 2 rfl) ?_
  obtain ⟨v4, e4, hf⟩ := bdo hf
  refine g_get (pc := 17) (o := (some l0)) (a := l0) (ci := 3) (k := 7) (v := va_rf v4) (C := RX8) (T := TX8) (N := 13) hx hb hts hown hE hk hH in_X8 rfl (by decide) (hts _ q1167) (fun _ h9 => h9) rfl (rdR_o e4) dX8_mays_17 ?_
  obtain ⟨a6, ea6, hf⟩ := bdo hf
  obtain ⟨v5, S5, c5, n5, c2_5, n2_5, e5, hf, hC5, hN5⟩ := gbo hf
  refine g_callV (pc := 20) (o := v4) (b := a6) (As := []) (rest := []) (st1 := [va_rf v5]) hc (j_nAL_iter hJ a6  S3 v5 S5 c5 n5 e5) (cwV 0 hts (lw_V q1962 q1293 q1294 q101 q1295) rfl rfl rfl hdJ2_iterator ⟨Nat.le_of_ble_eq_true rfl, Nat.le_of_ble_eq_true rfl⟩) (j_recv hJ _ _ _ _ 0 _ _ hE hH hS (adtR (t := 0) (show bd _ _ = some _ from e5)).choose_spec) ea6 rfl hl.1 rfl rfl (lv_room (Nat.le_of_ble_eq_true rfl)) dX8_mays_20 hH hS (by omega) (by omega) (fun H locs hH hS => ?_)
  have hkc : kc + 1 + c3 + c5 + c2_5 ≤ mc := by omega
  have hks : ks + 4 + n3 + n5 + n2_5 ≤ ms := by omega
  refine g_astore_n (pc := 23) (i := 3) (o := v5) (lv' := [(3, va_rf v5), (2, .int (nI 0)), (1, .ref S.2), (0, .ref l0)]) hx hb dX8_mays_23 rfl hl (by decide) rfl (fun ls hl => ?_)
  exact wX8_mays_b24 hk hJ hc FU S.2 (nI 0) v5 S5 _ _ ls _ _ _ _ hkc hks hH hS (lv_sub hl [2, 1, 0] rfl) hf
theorem mX8_mays {l : Launch} {G : gG} {Rp : gM → gM → Nat → Prop} (hk : rOK Rp) (hJ : JDK l G Rp) {S S2 : gS} {r2 : Option Nat} {C N : Nat} {l0 : Nat} (hf : fX8_mays l0 S = some (r2, S2, C, N)) : gMet l yX8_mays cX8_mays 6 (some (.object "java/util/PriorityQueue")) 15 540 G Rp [.ref l0] S (some (va_rf r2)) S2 C N := by
  refine g_start (by decide) (Nat.le_of_ble_eq_true rfl) (fun p e s m args below meth c ls hc hl hH => ?_)
  have hl : lv_has ls 6 [(0, .ref l0)] := hl
  exact wX8_mays_b0 hk hJ hc l0 S _ _ ls 0 0 C N (by omega) (by omega) hH va_S.rf (lv_sub hl [0] rfl) hf
end
section
variable {r : Int32} {Sf : gS}
def fX0_blocked_b40 (G : gG) : Nat → Int32 → (Option Nat) → gS → gO Int32
  | 0, _, _, _ => none
  | n + 1, l3, l4, S =>
    bd l4 fun a2 =>
    gb (nI8_hasNext a2 S) fun v1 S1 =>
    if v1 = 0 then
      some (l3, S1, 0, 0)
    else
      gb (nI8_next a2 S1) fun v4 S4 =>
      bd (ckc S4 v4 4) fun _ =>
      bd v4 fun a6 =>
      bd (rdR S4 a6 4 0) fun v7 =>
      bd v7 fun a8 =>
      bd (rdI S4 a8 5 1) fun v9 =>
      fX0_blocked_b40 G n (l3 &&& (((nI 1) <<< (v9 &&& 31)) ^^^ (-1))) l4 S4
theorem wX0_blocked_b40 (hk : rOK Rp) (hJ : JDK l G Rp) (hc : gC p s m args meth c G RX0 "blocked" cX0_blocked 6 (some .int)) (hnd : s.methodNamed? yX0_blocked = some m) : ∀ (n : Nat) (l3 : Int32) (l4 : Option Nat) (S : gS) (H : Heap) (locs : List Loc) (ls : Array Slot) (kc ks C N : Nat), kc + C ≤ mc → ks + N ≤ ms → hp G Rp S H → va_S G.2.2.2 s.heap H locs → lv_has ls 6 [(3, .int l3), (4, va_rf l4)] → fX0_blocked_b40 G n l3 l4 S = some (r, Sf, C, N) → W p l e (gR 16 3300 mc ms) s m args below meth c H locs kc ks (gQ below G Rp (some (.int r)) Sf args s mc ms) (F0 m 40 ls []) := by
  obtain ⟨hx, hb, hr, hlk, hml, hown, hts, hE, hA, hnm⟩ := hc
  have hc : gC p s m args meth c G RX0 "blocked" cX0_blocked 6 (some .int) := ⟨hx, hb, hr, hlk, hml, hown, hts, hE, hA, hnm⟩
  intro n
  induction n with
  | zero => intro l3 l4 S H locs ls kc ks C N _ _ _ _ _ hf; exact absurd hf (fun h => by cases h)
  | succ n ih =>
    intro l3 l4 S H locs ls kc ks C N hkc hks hH hS hl hf
    rw [fX0_blocked_b40] at hf
    refine g_aload (pc := 40) (o := l4) hx hb dX0_blocked_40 (lv_at hl 1 rfl) ?_
    obtain ⟨a2, ea2, hf⟩ := bdo hf
    obtain ⟨v1, S1, c1, n1, c2_1, n2_1, e1, hf, hC1, hN1⟩ := gbo hf
    refine g_callF (pc := 42) (o := l4) (b := a2) (As := []) (rest := []) (st1 := [.int v1]) (ci := 23) (q := (RJ39, TJ39, 6)) hc (j_nI8_hasNext hJ a2 S v1 S1 c1 n1 e1) (va_cwF 0 hts (lw_app (lw_of4 q2060 q1354 q1356 q160) (lw_meth q1358)) rfl rfl rfl (hE.2.1.2.2.2.2.2 _ _ _ hdx_hasNext.1 q1320 q1319 q1357 q1355 q1353) hdx_hasNext.2 ⟨Nat.le_of_ble_eq_true rfl, Nat.le_of_ble_eq_true rfl⟩) rfl rfl (j_recv hJ _ _ _ _ 8 _ _ hE hH hS (adtR (t := 8) (show bd _ _ = some _ from e1)).choose_spec) ea2 rfl hl.1 rfl rfl (lv_room (Nat.le_of_ble_eq_true rfl)) dX0_blocked_42 hH hS (by omega) (by omega) (fun H locs hH hS => ?_)
    have hkc : kc + c1 + c2_1 ≤ mc := by omega
    have hks : ks + n1 + n2_1 ≤ ms := by omega
    refine lv_if_eq (pc := 47) (tgt := 80) hx hb dX0_blocked_47 (by decide) (fun c3 => ?_) (fun c3 => ?_)
    · rw [if_pos c3] at hf
      refine lv_iload_n (pc := 80) hx hb dX0_blocked_80 rfl (lv_at hl 0 rfl) ?_
      exact g_iret (pc := 81) hx hb hr hlk hH hS hkc hks hf dX0_blocked_81
    · rw [if_neg c3] at hf
      refine g_aload (pc := 50) (o := l4) hx hb dX0_blocked_50 (lv_at hl 1 rfl) ?_
      obtain ⟨v4, S4, c4, n4, c2_4, n2_4, e4, hf, hC4, hN4⟩ := gbo hf
      refine g_callF (pc := 52) (o := l4) (b := a2) (As := []) (rest := []) (st1 := [va_rf v4]) (ci := 23) (q := (RJ39, TJ39, 6)) hc (j_nI8_next hJ a2 S1 v4 S4 c4 n4 e4) (va_cwF 0 hts (lw_app (lw_of4 q2062 q1495 q1497 q160) (lw_meth q1499)) rfl rfl rfl (hE.2.1.2.2.2.2.2 _ _ _ hdx_next.1 q1366 q1365 q1498 q1496 q1353) hdx_next.2 ⟨Nat.le_of_ble_eq_true rfl, Nat.le_of_ble_eq_true rfl⟩) rfl rfl (j_recv hJ _ _ _ _ 8 _ _ hE hH hS (adtR (t := 8) (show bd _ _ = some _ from e4)).choose_spec) ea2 rfl hl.1 rfl rfl (lv_room (Nat.le_of_ble_eq_true rfl)) dX0_blocked_52 hH hS (by omega) (by omega) (fun H locs hH hS => ?_)
      have hkc : kc + c1 + c4 + c2_4 ≤ mc := by omega
      have hks : ks + n1 + n4 + n2_4 ≤ ms := by omega
      obtain ⟨_, e5, hf⟩ := bdo hf
      refine g_cast (pc := 57) (o := v4) (ci := 4) (C := RX16) (T := TX16) (N := 6) hx hb hts hown hE hk hH rfl q1956 e5 dX0_blocked_57 ?_
      refine g_astore (pc := 60) (i := 5) (o := v4) (lv' := [(5, va_rf v4), (3, .int l3), (4, va_rf l4)]) hx hb dX0_blocked_60 hl (by decide) (by simp [va_rf_cat, cat_i, cat_j, cat_r] <;> rfl) (fun ls hl => ?_)
      refine lv_iload_n (pc := 62) hx hb dX0_blocked_62 rfl (lv_at hl 1 rfl) ?_
      refine lv_iconst (pc := 63) (v := nI 1) hx hb dX0_blocked_63 rfl ?_
      refine g_aload (pc := 64) (o := v4) hx hb dX0_blocked_64 (lv_at hl 0 rfl) ?_
      obtain ⟨a6, ea6, hf⟩ := bdo hf
      obtain ⟨v7, e7, hf⟩ := bdo hf
      refine g_get (pc := 66) (o := v4) (a := a6) (ci := 4) (k := 0) (v := va_rf v7) (C := RX16) (T := TX16) (N := 6) hx hb hts hown hE hk hH in_X16 rfl (by decide) (hts _ q1712) (fun _ h9 => h9) ea6 (rdR_o e7) dX0_blocked_66 ?_
      obtain ⟨a8, ea8, hf⟩ := bdo hf
      obtain ⟨v9, e9, hf⟩ := bdo hf
      refine g_get (pc := 69) (o := v7) (a := a8) (ci := 5) (k := 1) (v := .int v9) (C := RX11) (T := TX11) (N := 6) hx hb hts hown hE hk hH in_X11 rfl (by decide) (hts _ q1552) (fun _ h9 => h9) ea8 (rdI_o e9) dX0_blocked_69 ?_
      refine lv_ishl (pc := 72) hx hb dX0_blocked_72 ?_
      refine lv_iconst (pc := 73) (v := -1) hx hb dX0_blocked_73 rfl ?_
      refine lv_ixor (pc := 74) hx hb dX0_blocked_74 ?_
      refine lv_iand (pc := 75) hx hb dX0_blocked_75 ?_
      refine lv_istore_n (pc := 76) (i := 3) (lv' := [(3, .int (l3 &&& (((nI 1) <<< (v9 &&& 31)) ^^^ (-1)))), (5, va_rf v4), (4, va_rf l4)]) hx hb dX0_blocked_76 rfl hl (by decide) rfl (fun ls hl => ?_)
      refine lv_goto (pc := 77) (tgt := 40) hx hb dX0_blocked_77 (by decide) ?_
      exact ih (l3 &&& (((nI 1) <<< (v9 &&& 31)) ^^^ (-1))) l4 S4 _ _ ls _ _ _ _ hkc hks hH hS (lv_sub hl [0, 2] rfl) hf
def fX0_blocked (G : gG) (l0 : Nat) (l1 : Int32) (S : gS) : gO Int32 :=
  bd (chk S l0 0) fun _ =>
  gb (fX0_isQueue l0 l1 S) fun v1 S1 =>
  if v1 = 0 then
    bd (chk S1 l0 0) fun _ =>
    gb (fX0_no l0 (-82) S1) fun v10 S10 =>
    some (v10, S10, 0, 0)
  else
    bd (chk S1 l0 0) fun _ =>
    gb (fX0_queue_2 l0 l1 S1) fun v3 S3 =>
    bd v3 fun a6 =>
    bd (chk S3 a6 3) fun _ =>
    gb (fX8_keys G a6 (some (G.2.2.1 6)) S3) fun v5 S5 =>
    bd (chk S5 a6 3) fun _ =>
    gb (fX8_mays a6 S5) fun v7 S7 =>
    bd v7 fun a9 =>
    gb (nPQ_iter a9  S7) fun v8 S8 =>
    fX0_blocked_b40 G FU v5 v8 S8
theorem wX0_blocked_b0 (hk : rOK Rp) (hJ : JDK l G Rp) (hc : gC p s m args meth c G RX0 "blocked" cX0_blocked 6 (some .int)) (hnd : s.methodNamed? yX0_blocked = some m) (l0 : Nat) (l1 : Int32) (S : gS) (H : Heap) (locs : List Loc) (ls : Array Slot) (kc ks C N : Nat) (hkc : kc + C ≤ mc) (hks : ks + N ≤ ms) (hH : hp G Rp S H) (hS : va_S G.2.2.2 s.heap H locs) (hl : lv_has ls 6 [(0, .ref l0), (1, .int l1)]) (hf : fX0_blocked G l0 l1 S = some (r, Sf, C, N)) : W p l e (gR 16 3300 mc ms) s m args below meth c H locs kc ks (gQ below G Rp (some (.int r)) Sf args s mc ms) (F0 m 0 ls []) := by
  obtain ⟨hx, hb, hr, hlk, hml, hown, hts, hE, hA, hnm⟩ := hc
  have hc : gC p s m args meth c G RX0 "blocked" cX0_blocked 6 (some .int) := ⟨hx, hb, hr, hlk, hml, hown, hts, hE, hA, hnm⟩
  unfold fX0_blocked at hf
  refine lv_aload_n (pc := 0) hx hb dX0_blocked_0 rfl (lv_at hl 0 rfl) ?_
  refine lv_iload_n (pc := 1) hx hb dX0_blocked_1 rfl (lv_at hl 1 rfl) ?_
  obtain ⟨_, ek1, hf⟩ := bdo hf
  obtain ⟨v1, S1, c1, n1, c2_1, n2_1, e1, hf, hC1, hN1⟩ := gbo hf
  refine g_callV (pc := 2) (o := (some l0)) (b := l0) (As := [.int l1]) (rest := []) (st1 := [.int v1]) hc (mX0_isQueue hk hJ (l0 := l0) (l1 := l1) e1) (cwV 1 hts (lw_V q1214 q1216 qs17 q97 q1217) rfl rfl rfl hdX0_isQueue ⟨Nat.le_of_ble_eq_true rfl, Nat.le_of_ble_eq_true rfl⟩) (g_recv hE hk hH (ci := 0) (q := (RX0, TX0, 7)) rfl (chk_o ek1).choose_spec) rfl rfl hl.1 rfl rfl (lv_room (Nat.le_of_ble_eq_true rfl)) dX0_blocked_2 hH hS (by omega) (by omega) (fun H locs hH hS => ?_)
  have hkc : kc + c1 + c2_1 ≤ mc := by omega
  have hks : ks + n1 + n2_1 ≤ ms := by omega
  refine lv_if_ne (pc := 5) (tgt := 15) hx hb dX0_blocked_5 (by decide) (fun c2 => ?_) (fun c2 => ?_)
  · rw [if_neg c2] at hf
    refine lv_aload_n (pc := 15) hx hb dX0_blocked_15 rfl (lv_at hl 0 rfl) ?_
    refine lv_iload_n (pc := 16) hx hb dX0_blocked_16 rfl (lv_at hl 1 rfl) ?_
    obtain ⟨_, ek3, hf⟩ := bdo hf
    obtain ⟨v3, S3, c3, n3, c2_3, n2_3, e3, hf, hC3, hN3⟩ := gbo hf
    refine g_callV (pc := 17) (o := (some l0)) (b := l0) (As := [.int l1]) (rest := []) (st1 := [va_rf v3]) hc (mX0_queue_2 hk hJ (l0 := l0) (l1 := l1) e3) (cwV 1 hts (lw_V q1218 q1220 qs18 q97 q1221) rfl rfl rfl hdX0_queue_2 ⟨Nat.le_of_ble_eq_true rfl, Nat.le_of_ble_eq_true rfl⟩) (g_recv hE hk hH (ci := 0) (q := (RX0, TX0, 7)) rfl (chk_o ek3).choose_spec) rfl rfl hl.1 rfl rfl (lv_room (Nat.le_of_ble_eq_true rfl)) dX0_blocked_17 hH hS (by omega) (by omega) (fun H locs hH hS => ?_)
    have hkc : kc + c1 + c3 + c2_3 ≤ mc := by omega
    have hks : ks + n1 + n3 + n2_3 ≤ ms := by omega
    refine g_astore_n (pc := 20) (i := 2) (o := v3) (lv' := [(2, va_rf v3), (0, .ref l0), (1, .int l1)]) hx hb dX0_blocked_20 rfl hl (by decide) rfl (fun ls hl => ?_)
    refine g_aload_n (pc := 21) (o := v3) hx hb dX0_blocked_21 rfl (lv_at hl 0 rfl) ?_
    refine g_lamConst (pc := 22) hx hb hml (gE_L hE).2.2.2.2.2.2.1 hnd hl.1 (by simp [gR, va_rf_cat, cat_i, cat_j, cat_r]) dX0_blocked_22 ?_
    obtain ⟨a6, ea6, hf⟩ := bdo hf
    obtain ⟨_, ek5, hf⟩ := bdo hf
    obtain ⟨v5, S5, c5, n5, c2_5, n2_5, e5, hf, hC5, hN5⟩ := gbo hf
    refine g_callV (pc := 27) (o := v3) (b := a6) (As := [.ref (G.2.2.1 6)]) (rest := []) (st1 := [.int v5]) hc (mX8_keys hk hJ (l0 := a6) (l1 := (some (G.2.2.1 6))) e5) (cwV 1 hts (lw_V q2570 q2571 q2572 q131 q2573) rfl rfl rfl hdX8_keys ⟨Nat.le_of_ble_eq_true rfl, Nat.le_of_ble_eq_true rfl⟩) (g_recv hE hk hH (ci := 3) (q := (RX8, TX8, 13)) rfl (chk_o ek5).choose_spec) ea6 rfl hl.1 rfl rfl (lv_room (Nat.le_of_ble_eq_true rfl)) dX0_blocked_27 hH hS (by omega) (by omega) (fun H locs hH hS => ?_)
    have hkc : kc + c1 + c3 + c5 + c2_5 ≤ mc := by omega
    have hks : ks + n1 + n3 + n5 + n2_5 ≤ ms := by omega
    refine lv_istore_n (pc := 30) (i := 3) (lv' := [(3, .int v5), (2, va_rf v3), (0, .ref l0), (1, .int l1)]) hx hb dX0_blocked_30 rfl hl (by decide) (by simp [va_rf_cat, cat_i, cat_j, cat_r] <;> rfl) (fun ls hl => ?_)
    refine g_aload_n (pc := 31) (o := v3) hx hb dX0_blocked_31 rfl (lv_at hl 1 rfl) ?_
    obtain ⟨_, ek7, hf⟩ := bdo hf
    obtain ⟨v7, S7, c7, n7, c2_7, n2_7, e7, hf, hC7, hN7⟩ := gbo hf
    refine g_callV (pc := 32) (o := v3) (b := a6) (As := []) (rest := []) (st1 := [va_rf v7]) hc (mX8_mays hk hJ (l0 := a6) e7) (cwV 0 hts (lw_V q2439 q2440 q2441 q131 q2442) rfl rfl rfl hdX8_mays ⟨Nat.le_of_ble_eq_true rfl, Nat.le_of_ble_eq_true rfl⟩) (g_recv hE hk hH (ci := 3) (q := (RX8, TX8, 13)) rfl (chk_o ek7).choose_spec) ea6 rfl hl.1 rfl rfl (lv_room (Nat.le_of_ble_eq_true rfl)) dX0_blocked_32 hH hS (by omega) (by omega) (fun H locs hH hS => ?_)
    have hkc : kc + c1 + c3 + c5 + c7 + c2_7 ≤ mc := by omega
    have hks : ks + n1 + n3 + n5 + n7 + n2_7 ≤ ms := by omega
    obtain ⟨a9, ea9, hf⟩ := bdo hf
    obtain ⟨v8, S8, c8, n8, c2_8, n2_8, e8, hf, hC8, hN8⟩ := gbo hf
    refine g_callV (pc := 35) (o := v7) (b := a9) (As := []) (rest := []) (st1 := [va_rf v8]) hc (j_nPQ_iter hJ a9  S7 v8 S8 c8 n8 e8) (cwV 0 hts (lw_V q2574 q2575 q2576 q156 q2577) rfl rfl rfl hdJ36_iterator ⟨Nat.le_of_ble_eq_true rfl, Nat.le_of_ble_eq_true rfl⟩) (j_recv hJ _ _ _ _ 2 _ _ hE hH hS (adtR (t := 2) (show bd _ _ = some _ from e8)).choose_spec) ea9 rfl hl.1 rfl rfl (lv_room (Nat.le_of_ble_eq_true rfl)) dX0_blocked_35 hH hS (by omega) (by omega) (fun H locs hH hS => ?_)
    have hkc : kc + c1 + c3 + c5 + c7 + c8 + c2_8 ≤ mc := by omega
    have hks : ks + n1 + n3 + n5 + n7 + n8 + n2_8 ≤ ms := by omega
    refine g_astore (pc := 38) (i := 4) (o := v8) (lv' := [(4, va_rf v8), (3, .int v5), (2, va_rf v3), (0, .ref l0), (1, .int l1)]) hx hb dX0_blocked_38 hl (by decide) rfl (fun ls hl => ?_)
    exact wX0_blocked_b40 hk hJ hc hnd FU v5 v8 S8 _ _ ls _ _ _ _ hkc hks hH hS (lv_sub hl [1, 0] rfl) hf
  · rw [if_pos c2] at hf
    refine lv_aload_n (pc := 8) hx hb dX0_blocked_8 rfl (lv_at hl 0 rfl) ?_
    refine lv_bipush (pc := 9) (v := -82) hx hb dX0_blocked_9 gkbm82 ?_
    obtain ⟨_, ek10, hf⟩ := bdo hf
    obtain ⟨v10, S10, c10, n10, c2_10, n2_10, e10, hf, hC10, hN10⟩ := gbo hf
    refine g_callV (pc := 11) (o := (some l0)) (b := l0) (As := [.int (-82)]) (rest := []) (st1 := [.int v10]) hc (mX0_no hk hJ (l0 := l0) (l1 := (-82)) e10) (cwV 1 hts (lw_V q398 q400 qs2 q97 q401) rfl rfl rfl hdX0_no ⟨Nat.le_of_ble_eq_true rfl, Nat.le_of_ble_eq_true rfl⟩) (g_recv hE hk hH (ci := 0) (q := (RX0, TX0, 7)) rfl (chk_o ek10).choose_spec) rfl rfl hl.1 rfl rfl (lv_room (Nat.le_of_ble_eq_true rfl)) dX0_blocked_11 hH hS (by omega) (by omega) (fun H locs hH hS => ?_)
    have hkc : kc + c1 + c10 + c2_10 ≤ mc := by omega
    have hks : ks + n1 + n10 + n2_10 ≤ ms := by omega
    exact g_iret (pc := 14) hx hb hr hlk hH hS hkc hks hf dX0_blocked_14
theorem mX0_blocked {l : Launch} {G : gG} {Rp : gM → gM → Nat → Prop} (hk : rOK Rp) (hJ : JDK l G Rp) {S S2 : gS} {r2 : Int32} {C N : Nat} {l0 : Nat} {l1 : Int32} (hf : fX0_blocked G l0 l1 S = some (r2, S2, C, N)) : gMet l yX0_blocked cX0_blocked 6 (some .int) 16 3300 G Rp [.ref l0, .int l1] S (some (.int r2)) S2 C N := by
  refine g_startN (by decide) (Nat.le_of_ble_eq_true rfl) (fun p e s m args below meth c ls hnd hc hl hH => ?_)
  have hl : lv_has ls 6 [(0, .ref l0), (1, .int l1)] := hl
  exact wX0_blocked_b0 hk hJ hc hnd l0 l1 S _ _ ls 0 0 C N (by omega) (by omega) hH va_S.rf (lv_sub hl [0, 1] rfl) hf
end
section
variable {r : Int32} {Sf : gS}
def fX0_bury_b67 (k33 : Int32 → Int32 → (Option Nat) → gS → gO Int32) (l1 : Int32) (l2 : Int32) (l3 : Option Nat) (S : gS) : gO Int32 :=
  bd l3 fun a2 =>
  gb (nI7_remove a2 S) fun _ S1 =>
  k33 l1 (l2 + (nI 1)) l3 S1
theorem wX0_bury_b67 (hk : rOK Rp) (hJ : JDK l G Rp) (hc : gC p s m args meth c G RX0 "bury" cX0_bury 5 (some .int)) (k33 : Int32 → Int32 → (Option Nat) → gS → gO Int32) (h33 : ∀ (l1 : Int32) (l2 : Int32) (l3 : Option Nat) (S : gS) (H : Heap) (locs : List Loc) (ls : Array Slot) (kc ks C N : Nat), kc + C ≤ mc → ks + N ≤ ms → hp G Rp S H → va_S G.2.2.2 s.heap H locs → lv_has ls 5 [(1, .int l1), (2, .int l2), (3, va_rf l3)] → k33 l1 l2 l3 S = some (r, Sf, C, N) → W p l e (gR 16 561 mc ms) s m args below meth c H locs kc ks (gQ below G Rp (some (.int r)) Sf args s mc ms) (F0 m 33 ls [])) (l1 : Int32) (l2 : Int32) (l3 : Option Nat) (S : gS) (H : Heap) (locs : List Loc) (ls : Array Slot) (kc ks C N : Nat) (hkc : kc + C ≤ mc) (hks : ks + N ≤ ms) (hH : hp G Rp S H) (hS : va_S G.2.2.2 s.heap H locs) (hl : lv_has ls 5 [(1, .int l1), (2, .int l2), (3, va_rf l3)]) (hf : fX0_bury_b67 k33 l1 l2 l3 S = some (r, Sf, C, N)) : W p l e (gR 16 561 mc ms) s m args below meth c H locs kc ks (gQ below G Rp (some (.int r)) Sf args s mc ms) (F0 m 67 ls []) := by
  obtain ⟨hx, hb, hr, hlk, hml, hown, hts, hE, hA, hnm⟩ := hc
  have hc : gC p s m args meth c G RX0 "bury" cX0_bury 5 (some .int) := ⟨hx, hb, hr, hlk, hml, hown, hts, hE, hA, hnm⟩
  unfold fX0_bury_b67 at hf
  refine g_aload_n (pc := 67) (o := l3) hx hb dX0_bury_67 rfl (lv_at hl 2 rfl) ?_
  obtain ⟨a2, ea2, hf⟩ := bdo hf
  obtain ⟨_, S1, c1, n1, c2_1, n2_1, e1, hf, hC1, hN1⟩ := gbo hf
  refine g_callF (pc := 68) (o := l3) (b := a2) (As := []) (rest := []) (st1 := []) (ci := 22) (q := (RJ32, TJ32, 5)) hc (j_nI7_remove hJ a2 S () S1 c1 n1 e1) (va_cwF 0 hts (lw_app (lw_of4 q2064 q2139 q2141 q152) (lw_meth q2143)) rfl rfl rfl (hE.2.1.2.2.2.2.2 _ _ _ hdx_remove.1 q2066 q2065 q2142 q2140 q1347) hdx_remove.2 ⟨Nat.le_of_ble_eq_true rfl, Nat.le_of_ble_eq_true rfl⟩) rfl rfl (j_recv hJ _ _ _ _ 7 _ _ hE hH hS (adtR (t := 7) (show bd _ _ = some _ from e1)).choose_spec) ea2 rfl hl.1 rfl rfl (lv_room (Nat.le_of_ble_eq_true rfl)) dX0_bury_68 hH hS (by omega) (by omega) (fun H locs hH hS => ?_)
  have hkc : kc + c1 + c2_1 ≤ mc := by omega
  have hks : ks + n1 + n2_1 ≤ ms := by omega
  refine lv_iinc (pc := 73) (v := l2 + (nI 1)) (lv' := [(2, .int (l2 + (nI 1))), (1, .int l1), (3, va_rf l3)]) hx hb dX0_bury_73 hl (k := 1) rfl rfl (by decide) rfl (fun ls hl => ?_)
  refine lv_goto (pc := 76) (tgt := 33) hx hb dX0_bury_76 (by decide) ?_
  exact h33 l1 (l2 + (nI 1)) l3 S1 _ _ ls _ _ _ _ hkc hks hH hS (lv_sub hl [1, 0, 2] rfl) hf
def fX0_bury_b33 : Nat → Int32 → Int32 → (Option Nat) → gS → gO Int32
  | 0, _, _, _, _ => none
  | n + 1, l1, l2, l3, S =>
    bd l3 fun a2 =>
    gb (nI7_hasNext a2 S) fun v1 S1 =>
    if v1 = 0 then
      some (l2, S1, 0, 0)
    else
      gb (nI7_next a2 S1) fun v4 S4 =>
      bd (ckc S4 v4 7) fun _ =>
      bd v4 fun a6 =>
      bd (rdI S4 a6 7 1) fun v7 =>
      if l1 = (-1) then
        fX0_bury_b67 (fX0_bury_b33 n) l1 l2 l3 S4
      else
        if v7 = l1 then
          fX0_bury_b67 (fX0_bury_b33 n) l1 l2 l3 S4
        else
          fX0_bury_b33 n l1 l2 l3 S4
theorem wX0_bury_b33 (hk : rOK Rp) (hJ : JDK l G Rp) (hc : gC p s m args meth c G RX0 "bury" cX0_bury 5 (some .int)) : ∀ (n : Nat) (l1 : Int32) (l2 : Int32) (l3 : Option Nat) (S : gS) (H : Heap) (locs : List Loc) (ls : Array Slot) (kc ks C N : Nat), kc + C ≤ mc → ks + N ≤ ms → hp G Rp S H → va_S G.2.2.2 s.heap H locs → lv_has ls 5 [(1, .int l1), (2, .int l2), (3, va_rf l3)] → fX0_bury_b33 n l1 l2 l3 S = some (r, Sf, C, N) → W p l e (gR 16 561 mc ms) s m args below meth c H locs kc ks (gQ below G Rp (some (.int r)) Sf args s mc ms) (F0 m 33 ls []) := by
  obtain ⟨hx, hb, hr, hlk, hml, hown, hts, hE, hA, hnm⟩ := hc
  have hc : gC p s m args meth c G RX0 "bury" cX0_bury 5 (some .int) := ⟨hx, hb, hr, hlk, hml, hown, hts, hE, hA, hnm⟩
  intro n
  induction n with
  | zero => intro l1 l2 l3 S H locs ls kc ks C N _ _ _ _ _ hf; exact absurd hf (fun h => by cases h)
  | succ n ih =>
    intro l1 l2 l3 S H locs ls kc ks C N hkc hks hH hS hl hf
    rw [fX0_bury_b33] at hf
    refine g_aload_n (pc := 33) (o := l3) hx hb dX0_bury_33 rfl (lv_at hl 2 rfl) ?_
    obtain ⟨a2, ea2, hf⟩ := bdo hf
    obtain ⟨v1, S1, c1, n1, c2_1, n2_1, e1, hf, hC1, hN1⟩ := gbo hf
    refine g_callF (pc := 34) (o := l3) (b := a2) (As := []) (rest := []) (st1 := [.int v1]) (ci := 22) (q := (RJ32, TJ32, 5)) hc (j_nI7_hasNext hJ a2 S v1 S1 c1 n1 e1) (va_cwF 0 hts (lw_app (lw_of4 q2060 q1348 q1350 q152) (lw_meth q1352)) rfl rfl rfl (hE.2.1.2.2.2.2.2 _ _ _ hdx_hasNext.1 q1320 q1319 q1351 q1349 q1347) hdx_hasNext.2 ⟨Nat.le_of_ble_eq_true rfl, Nat.le_of_ble_eq_true rfl⟩) rfl rfl (j_recv hJ _ _ _ _ 7 _ _ hE hH hS (adtR (t := 7) (show bd _ _ = some _ from e1)).choose_spec) ea2 rfl hl.1 rfl rfl (lv_room (Nat.le_of_ble_eq_true rfl)) dX0_bury_34 hH hS (by omega) (by omega) (fun H locs hH hS => ?_)
    have hkc : kc + c1 + c2_1 ≤ mc := by omega
    have hks : ks + n1 + n2_1 ≤ ms := by omega
    refine lv_if_eq (pc := 39) (tgt := 79) hx hb dX0_bury_39 (by decide) (fun c3 => ?_) (fun c3 => ?_)
    · rw [if_pos c3] at hf
      refine lv_iload_n (pc := 79) hx hb dX0_bury_79 rfl (lv_at hl 1 rfl) ?_
      exact g_iret (pc := 80) hx hb hr hlk hH hS hkc hks hf dX0_bury_80
    · rw [if_neg c3] at hf
      refine g_aload_n (pc := 42) (o := l3) hx hb dX0_bury_42 rfl (lv_at hl 2 rfl) ?_
      obtain ⟨v4, S4, c4, n4, c2_4, n2_4, e4, hf, hC4, hN4⟩ := gbo hf
      refine g_callF (pc := 43) (o := l3) (b := a2) (As := []) (rest := []) (st1 := [va_rf v4]) (ci := 22) (q := (RJ32, TJ32, 5)) hc (j_nI7_next hJ a2 S1 v4 S4 c4 n4 e4) (va_cwF 0 hts (lw_app (lw_of4 q2062 q1485 q1487 q152) (lw_meth q1489)) rfl rfl rfl (hE.2.1.2.2.2.2.2 _ _ _ hdx_next.1 q1366 q1365 q1488 q1486 q1347) hdx_next.2 ⟨Nat.le_of_ble_eq_true rfl, Nat.le_of_ble_eq_true rfl⟩) rfl rfl (j_recv hJ _ _ _ _ 7 _ _ hE hH hS (adtR (t := 7) (show bd _ _ = some _ from e4)).choose_spec) ea2 rfl hl.1 rfl rfl (lv_room (Nat.le_of_ble_eq_true rfl)) dX0_bury_43 hH hS (by omega) (by omega) (fun H locs hH hS => ?_)
      have hkc : kc + c1 + c4 + c2_4 ≤ mc := by omega
      have hks : ks + n1 + n4 + n2_4 ≤ ms := by omega
      obtain ⟨_, e5, hf⟩ := bdo hf
      refine g_cast (pc := 48) (o := v4) (ci := 7) (C := RX15) (T := TX15) (N := 4) hx hb hts hown hE hk hH rfl q848 e5 dX0_bury_48 ?_
      obtain ⟨a6, ea6, hf⟩ := bdo hf
      obtain ⟨v7, e7, hf⟩ := bdo hf
      refine g_get (pc := 51) (o := v4) (a := a6) (ci := 7) (k := 1) (v := .int v7) (C := RX15) (T := TX15) (N := 4) hx hb hts hown hE hk hH in_X15 rfl (by decide) (hts _ q1650) (fun _ h9 => h9) ea6 (rdI_o e7) dX0_bury_51 ?_
      refine lv_istore (pc := 54) (i := 4) (lv' := [(4, .int v7), (1, .int l1), (2, .int l2), (3, va_rf l3)]) hx hb dX0_bury_54 hl (by decide) (by simp [va_rf_cat, cat_i, cat_j, cat_r] <;> rfl) (fun ls hl => ?_)
      refine lv_iload_n (pc := 56) hx hb dX0_bury_56 rfl (lv_at hl 1 rfl) ?_
      refine lv_iconst (pc := 57) (v := -1) hx hb dX0_bury_57 rfl ?_
      refine lv_icmp_eq (pc := 58) (tgt := 67) hx hb dX0_bury_58 (by decide) (fun c8 => ?_) (fun c8 => ?_)
      · rw [if_pos c8] at hf
        exact wX0_bury_b67 hk hJ hc (fX0_bury_b33 n) ih l1 l2 l3 S4 _ _ ls _ _ _ _ hkc hks hH hS (lv_sub hl [1, 2, 3] rfl) hf
      · rw [if_neg c8] at hf
        refine lv_iload (pc := 61) hx hb dX0_bury_61 (lv_at hl 0 rfl) ?_
        refine lv_iload_n (pc := 63) hx hb dX0_bury_63 rfl (lv_at hl 1 rfl) ?_
        refine lv_icmp_ne (pc := 64) (tgt := 76) hx hb dX0_bury_64 (by decide) (fun c9 => ?_) (fun c9 => ?_)
        · rw [if_neg c9] at hf
          refine lv_goto (pc := 76) (tgt := 33) hx hb dX0_bury_76 (by decide) ?_
          exact ih l1 l2 l3 S4 _ _ ls _ _ _ _ hkc hks hH hS (lv_sub hl [1, 2, 3] rfl) hf
        · rw [if_pos c9] at hf
          exact wX0_bury_b67 hk hJ hc (fX0_bury_b33 n) ih l1 l2 l3 S4 _ _ ls _ _ _ _ hkc hks hH hS (lv_sub hl [1, 2, 3] rfl) hf
def fX0_bury_b20 (l0 : Nat) (l1 : Int32) (S : gS) : gO Int32 :=
  bd (rdR S l0 0 0) fun v1 =>
  bd v1 fun a2 =>
  bd (rdR S a2 1 3) fun v3 =>
  bd v3 fun a5 =>
  gb (nLL_iter a5  S) fun v4 S4 =>
  fX0_bury_b33 FU l1 (nI 0) v4 S4
theorem wX0_bury_b20 (hk : rOK Rp) (hJ : JDK l G Rp) (hc : gC p s m args meth c G RX0 "bury" cX0_bury 5 (some .int)) (l0 : Nat) (l1 : Int32) (S : gS) (H : Heap) (locs : List Loc) (ls : Array Slot) (kc ks C N : Nat) (hkc : kc + C ≤ mc) (hks : ks + N ≤ ms) (hH : hp G Rp S H) (hS : va_S G.2.2.2 s.heap H locs) (hl : lv_has ls 5 [(0, .ref l0), (1, .int l1)]) (hf : fX0_bury_b20 l0 l1 S = some (r, Sf, C, N)) : W p l e (gR 16 561 mc ms) s m args below meth c H locs kc ks (gQ below G Rp (some (.int r)) Sf args s mc ms) (F0 m 20 ls []) := by
  obtain ⟨hx, hb, hr, hlk, hml, hown, hts, hE, hA, hnm⟩ := hc
  have hc : gC p s m args meth c G RX0 "bury" cX0_bury 5 (some .int) := ⟨hx, hb, hr, hlk, hml, hown, hts, hE, hA, hnm⟩
  unfold fX0_bury_b20 at hf
  refine lv_iconst (pc := 20) (v := nI 0) hx hb dX0_bury_20 rfl ?_
  refine lv_istore_n (pc := 21) (i := 2) (lv' := [(2, .int (nI 0)), (0, .ref l0), (1, .int l1)]) hx hb dX0_bury_21 rfl hl (by decide) rfl (fun ls hl => ?_)
  refine lv_aload_n (pc := 22) hx hb dX0_bury_22 rfl (lv_at hl 1 rfl) ?_
  obtain ⟨v1, e1, hf⟩ := bdo hf
  refine g_get (pc := 23) (o := (some l0)) (a := l0) (ci := 0) (k := 0) (v := va_rf v1) (C := RX0) (T := TX0) (N := 7) hx hb hts hown hE hk hH in_X0 rfl (by decide) (hts _ q272) (fun _ h9 => h9) rfl (rdR_o e1) dX0_bury_23 ?_
  obtain ⟨a2, ea2, hf⟩ := bdo hf
  obtain ⟨v3, e3, hf⟩ := bdo hf
  refine g_get (pc := 26) (o := v1) (a := a2) (ci := 1) (k := 3) (v := va_rf v3) (C := RX1) (T := TX1) (N := 7) hx hb hts hown hE hk hH in_X1 rfl (by decide) (hts _ q238) (fun _ h9 => h9) ea2 (rdR_o e3) dX0_bury_26 ?_
  obtain ⟨a5, ea5, hf⟩ := bdo hf
  obtain ⟨v4, S4, c4, n4, c2_4, n2_4, e4, hf, hC4, hN4⟩ := gbo hf
  refine g_callU (pc := 29) (x := ⟨"java/util/LinkedList", "iterator", "()Ljava/util/Iterator;"⟩) (owner := "java/util/AbstractSequentialList") (C := "java/util/LinkedList") (o := v3) (b := a5) (As := []) (rest := []) (st1 := [va_rf v4]) hc (j_nLL_iter hJ a5  S v4 S4 c4 n4 e4) (va_cwU 0 hts (lw_app (lw_of5 q1992 q1993 q1995 q1996 q102) (lw_meth q1997)) rfl rfl rfl rfl hduJ3_iterator ⟨Nat.le_of_ble_eq_true rfl, Nat.le_of_ble_eq_true rfl⟩) (j_recv hJ _ _ _ _ 1 _ _ hE hH hS (adtR (t := 1) (show bd _ _ = some _ from e4)).choose_spec) ea5 rfl hl.1 rfl rfl (lv_room (Nat.le_of_ble_eq_true rfl)) dX0_bury_29 hH hS (by omega) (by omega) (fun H locs hH hS => ?_)
  have hkc : kc + c4 + c2_4 ≤ mc := by omega
  have hks : ks + n4 + n2_4 ≤ ms := by omega
  refine g_astore_n (pc := 32) (i := 3) (o := v4) (lv' := [(3, va_rf v4), (2, .int (nI 0)), (0, .ref l0), (1, .int l1)]) hx hb dX0_bury_32 rfl hl (by decide) rfl (fun ls hl => ?_)
  exact wX0_bury_b33 hk hJ hc FU l1 (nI 0) v4 S4 _ _ ls _ _ _ _ hkc hks hH hS (lv_sub hl [3, 1, 0] rfl) hf
def fX0_bury (l0 : Nat) (l1 : Int32) (S : gS) : gO Int32 :=
  if l1 = (-1) then
    fX0_bury_b20 l0 l1 S
  else
    bd (chk S l0 0) fun _ =>
    gb (fX0_isQueue l0 l1 S) fun v2 S2 =>
    if v2 = 0 then
      bd (chk S2 l0 0) fun _ =>
      gb (fX0_no l0 (-82) S2) fun v4 S4 =>
      some (v4, S4, 0, 0)
    else
      fX0_bury_b20 l0 l1 S2
theorem wX0_bury_b0 (hk : rOK Rp) (hJ : JDK l G Rp) (hc : gC p s m args meth c G RX0 "bury" cX0_bury 5 (some .int)) (l0 : Nat) (l1 : Int32) (S : gS) (H : Heap) (locs : List Loc) (ls : Array Slot) (kc ks C N : Nat) (hkc : kc + C ≤ mc) (hks : ks + N ≤ ms) (hH : hp G Rp S H) (hS : va_S G.2.2.2 s.heap H locs) (hl : lv_has ls 5 [(0, .ref l0), (1, .int l1)]) (hf : fX0_bury l0 l1 S = some (r, Sf, C, N)) : W p l e (gR 16 561 mc ms) s m args below meth c H locs kc ks (gQ below G Rp (some (.int r)) Sf args s mc ms) (F0 m 0 ls []) := by
  obtain ⟨hx, hb, hr, hlk, hml, hown, hts, hE, hA, hnm⟩ := hc
  have hc : gC p s m args meth c G RX0 "bury" cX0_bury 5 (some .int) := ⟨hx, hb, hr, hlk, hml, hown, hts, hE, hA, hnm⟩
  unfold fX0_bury at hf
  refine lv_iload_n (pc := 0) hx hb dX0_bury_0 rfl (lv_at hl 1 rfl) ?_
  refine lv_iconst (pc := 1) (v := -1) hx hb dX0_bury_1 rfl ?_
  refine lv_icmp_eq (pc := 2) (tgt := 20) hx hb dX0_bury_2 (by decide) (fun c1 => ?_) (fun c1 => ?_)
  · rw [if_pos c1] at hf
    exact wX0_bury_b20 hk hJ hc l0 l1 S _ _ ls _ _ _ _ hkc hks hH hS (lv_sub hl [0, 1] rfl) hf
  · rw [if_neg c1] at hf
    refine lv_aload_n (pc := 5) hx hb dX0_bury_5 rfl (lv_at hl 0 rfl) ?_
    refine lv_iload_n (pc := 6) hx hb dX0_bury_6 rfl (lv_at hl 1 rfl) ?_
    obtain ⟨_, ek2, hf⟩ := bdo hf
    obtain ⟨v2, S2, c2, n2, c2_2, n2_2, e2, hf, hC2, hN2⟩ := gbo hf
    refine g_callV (pc := 7) (o := (some l0)) (b := l0) (As := [.int l1]) (rest := []) (st1 := [.int v2]) hc (mX0_isQueue hk hJ (l0 := l0) (l1 := l1) e2) (cwV 1 hts (lw_V q1214 q1216 qs17 q97 q1217) rfl rfl rfl hdX0_isQueue ⟨Nat.le_of_ble_eq_true rfl, Nat.le_of_ble_eq_true rfl⟩) (g_recv hE hk hH (ci := 0) (q := (RX0, TX0, 7)) rfl (chk_o ek2).choose_spec) rfl rfl hl.1 rfl rfl (lv_room (Nat.le_of_ble_eq_true rfl)) dX0_bury_7 hH hS (by omega) (by omega) (fun H locs hH hS => ?_)
    have hkc : kc + c2 + c2_2 ≤ mc := by omega
    have hks : ks + n2 + n2_2 ≤ ms := by omega
    refine lv_if_ne (pc := 10) (tgt := 20) hx hb dX0_bury_10 (by decide) (fun c3 => ?_) (fun c3 => ?_)
    · rw [if_neg c3] at hf
      exact wX0_bury_b20 hk hJ hc l0 l1 S2 _ _ ls _ _ _ _ hkc hks hH hS (lv_sub hl [0, 1] rfl) hf
    · rw [if_pos c3] at hf
      refine lv_aload_n (pc := 13) hx hb dX0_bury_13 rfl (lv_at hl 0 rfl) ?_
      refine lv_bipush (pc := 14) (v := -82) hx hb dX0_bury_14 gkbm82 ?_
      obtain ⟨_, ek4, hf⟩ := bdo hf
      obtain ⟨v4, S4, c4, n4, c2_4, n2_4, e4, hf, hC4, hN4⟩ := gbo hf
      refine g_callV (pc := 16) (o := (some l0)) (b := l0) (As := [.int (-82)]) (rest := []) (st1 := [.int v4]) hc (mX0_no hk hJ (l0 := l0) (l1 := (-82)) e4) (cwV 1 hts (lw_V q398 q400 qs2 q97 q401) rfl rfl rfl hdX0_no ⟨Nat.le_of_ble_eq_true rfl, Nat.le_of_ble_eq_true rfl⟩) (g_recv hE hk hH (ci := 0) (q := (RX0, TX0, 7)) rfl (chk_o ek4).choose_spec) rfl rfl hl.1 rfl rfl (lv_room (Nat.le_of_ble_eq_true rfl)) dX0_bury_16 hH hS (by omega) (by omega) (fun H locs hH hS => ?_)
      have hkc : kc + c2 + c4 + c2_4 ≤ mc := by omega
      have hks : ks + n2 + n4 + n2_4 ≤ ms := by omega
      exact g_iret (pc := 19) hx hb hr hlk hH hS hkc hks hf dX0_bury_19
theorem mX0_bury {l : Launch} {G : gG} {Rp : gM → gM → Nat → Prop} (hk : rOK Rp) (hJ : JDK l G Rp) {S S2 : gS} {r2 : Int32} {C N : Nat} {l0 : Nat} {l1 : Int32} (hf : fX0_bury l0 l1 S = some (r2, S2, C, N)) : gMet l yX0_bury cX0_bury 5 (some .int) 16 561 G Rp [.ref l0, .int l1] S (some (.int r2)) S2 C N := by
  refine g_start (by decide) (Nat.le_of_ble_eq_true rfl) (fun p e s m args below meth c ls hc hl hH => ?_)
  have hl : lv_has ls 5 [(0, .ref l0), (1, .int l1)] := hl
  exact wX0_bury_b0 hk hJ hc l0 l1 S _ _ ls 0 0 C N (by omega) (by omega) hH va_S.rf (lv_sub hl [0, 1] rfl) hf
end
section
variable {r : Int32} {Sf : gS}
def fX0_isDead (l0 : Nat) (l1 : Int32) (S : gS) : gO Int32 :=
  bd (rdR S l0 0 0) fun v1 =>
  bd v1 fun a2 =>
  bd (rdR S a2 1 3) fun v3 =>
  bd v3 fun a5 =>
  gb (nLL_size a5  S) fun v4 S4 =>
  gb (fX0_isIn l1 (nI 0) (v4 - (nI 1)) S4) fun v6 S6 =>
  zg v6 S6
theorem wX0_isDead_b0 (hk : rOK Rp) (hJ : JDK l G Rp) (hc : gC p s m args meth c G RX0 "isDead" cX0_isDead 2 (some .boolean)) (l0 : Nat) (l1 : Int32) (S : gS) (H : Heap) (locs : List Loc) (ls : Array Slot) (kc ks C N : Nat) (hkc : kc + C ≤ mc) (hks : ks + N ≤ ms) (hH : hp G Rp S H) (hS : va_S G.2.2.2 s.heap H locs) (hl : lv_has ls 2 [(0, .ref l0), (1, .int l1)]) (hf : fX0_isDead l0 l1 S = some (r, Sf, C, N)) : W p l e (gR 15 540 mc ms) s m args below meth c H locs kc ks (gQ below G Rp (some (.int r)) Sf args s mc ms) (F0 m 0 ls []) := by
  obtain ⟨hx, hb, hr, hlk, hml, hown, hts, hE, hA, hnm⟩ := hc
  have hc : gC p s m args meth c G RX0 "isDead" cX0_isDead 2 (some .boolean) := ⟨hx, hb, hr, hlk, hml, hown, hts, hE, hA, hnm⟩
  unfold fX0_isDead at hf
  refine lv_iload_n (pc := 0) hx hb dX0_isDead_0 rfl (lv_at hl 1 rfl) ?_
  refine lv_iconst (pc := 1) (v := nI 0) hx hb dX0_isDead_1 rfl ?_
  refine lv_aload_n (pc := 2) hx hb dX0_isDead_2 rfl (lv_at hl 0 rfl) ?_
  obtain ⟨v1, e1, hf⟩ := bdo hf
  refine g_get (pc := 3) (o := (some l0)) (a := l0) (ci := 0) (k := 0) (v := va_rf v1) (C := RX0) (T := TX0) (N := 7) hx hb hts hown hE hk hH in_X0 rfl (by decide) (hts _ q272) (fun _ h9 => h9) rfl (rdR_o e1) dX0_isDead_3 ?_
  obtain ⟨a2, ea2, hf⟩ := bdo hf
  obtain ⟨v3, e3, hf⟩ := bdo hf
  refine g_get (pc := 6) (o := v1) (a := a2) (ci := 1) (k := 3) (v := va_rf v3) (C := RX1) (T := TX1) (N := 7) hx hb hts hown hE hk hH in_X1 rfl (by decide) (hts _ q238) (fun _ h9 => h9) ea2 (rdR_o e3) dX0_isDead_6 ?_
  obtain ⟨a5, ea5, hf⟩ := bdo hf
  obtain ⟨v4, S4, c4, n4, c2_4, n2_4, e4, hf, hC4, hN4⟩ := gbo hf
  refine g_callV (pc := 9) (o := v3) (b := a5) (As := []) (rest := [.int (nI 0), .int l1]) (st1 := [.int v4, .int (nI 0), .int l1]) hc (j_nLL_size hJ a5  S v4 S4 c4 n4 e4) (cwV 0 hts (lw_V q576 q577 q578 q103 q579) rfl rfl rfl hdJ4_size ⟨Nat.le_of_ble_eq_true rfl, Nat.le_of_ble_eq_true rfl⟩) (j_recv hJ _ _ _ _ 1 _ _ hE hH hS (adtR (t := 1) (show bd _ _ = some _ from e4)).choose_spec) ea5 rfl hl.1 rfl rfl (lv_room (Nat.le_of_ble_eq_true rfl)) dX0_isDead_9 hH hS (by omega) (by omega) (fun H locs hH hS => ?_)
  have hkc : kc + c4 + c2_4 ≤ mc := by omega
  have hks : ks + n4 + n2_4 ≤ ms := by omega
  refine lv_iconst (pc := 12) (v := nI 1) hx hb dX0_isDead_12 rfl ?_
  refine lv_isub (pc := 13) hx hb dX0_isDead_13 ?_
  obtain ⟨v6, S6, c6, n6, c2_6, n2_6, e6, hf, hC6, hN6⟩ := gbo hf
  refine g_callS (pc := 14) (As := [.int l1, .int (nI 0), .int (v4 - (nI 1))]) (rest := []) (st1 := [.int v6]) hc (mX0_isIn hk hJ (l0 := l1) (l1 := (nI 0)) (l2 := (v4 - (nI 1))) e6) (va_cwS 3 hts (lw_S q395 q396 q97 q397) rfl rfl rfl hdX0_isIn ⟨Nat.le_of_ble_eq_true rfl, Nat.le_of_ble_eq_true rfl⟩) rfl hl.1 rfl rfl (lv_room (Nat.le_of_ble_eq_true rfl)) dX0_isDead_14 hH hS (by omega) (by omega) (fun H locs hH hS => ?_)
  have hkc : kc + c4 + c6 + c2_6 ≤ mc := by omega
  have hks : ks + n4 + n6 + n2_6 ≤ ms := by omega
  exact g_zret (pc := 17) hx hb hr hlk hH hS hkc hks hf dX0_isDead_17
theorem mX0_isDead {l : Launch} {G : gG} {Rp : gM → gM → Nat → Prop} (hk : rOK Rp) (hJ : JDK l G Rp) {S S2 : gS} {r2 : Int32} {C N : Nat} {l0 : Nat} {l1 : Int32} (hf : fX0_isDead l0 l1 S = some (r2, S2, C, N)) : gMet l yX0_isDead cX0_isDead 2 (some .boolean) 15 540 G Rp [.ref l0, .int l1] S (some (.int r2)) S2 C N := by
  refine g_start (by decide) (Nat.le_of_ble_eq_true rfl) (fun p e s m args below meth c ls hc hl hH => ?_)
  have hl : lv_has ls 2 [(0, .ref l0), (1, .int l1)] := hl
  exact wX0_isDead_b0 hk hJ hc l0 l1 S _ _ ls 0 0 C N (by omega) (by omega) hH va_S.rf (lv_sub hl [0, 1] rfl) hf
end
section
variable {r : Int32} {Sf : gS}
def fX12_depth (l0 : Nat) (S : gS) : gO Int32 :=
  bd (rdPI S l0 2) fun v1 =>
  some (v1, S, 0, 0)
theorem wX12_depth_b0 (hk : rOK Rp) (hJ : JDK l G Rp) (hc : gC p s m args meth c G RX12 "depth" cX12_depth 1 (some .int)) (l0 : Nat) (S : gS) (H : Heap) (locs : List Loc) (ls : Array Slot) (kc ks C N : Nat) (hkc : kc + C ≤ mc) (hks : ks + N ≤ ms) (hH : hp G Rp S H) (hS : va_S G.2.2.2 s.heap H locs) (hl : lv_has ls 1 [(0, .ref l0)]) (hf : fX12_depth l0 S = some (r, Sf, C, N)) : W p l e (gR 1 40 mc ms) s m args below meth c H locs kc ks (gQ below G Rp (some (.int r)) Sf args s mc ms) (F0 m 0 ls []) := by
  obtain ⟨hx, hb, hr, hlk, hml, hown, hts, hE, hA, hnm⟩ := hc
  have hc : gC p s m args meth c G RX12 "depth" cX12_depth 1 (some .int) := ⟨hx, hb, hr, hlk, hml, hown, hts, hE, hA, hnm⟩
  unfold fX12_depth at hf
  refine lv_aload_n (pc := 0) hx hb dX12_depth_0 rfl (lv_at hl 0 rfl) ?_
  obtain ⟨v1, e1, hf⟩ := bdo hf
  refine g_getP (pc := 1) (o := (some l0)) (a := l0) (k := 2) (v := .int v1) (ref := "CreditBroker$Cause") hx hb hts hown hE hk hH (by decide) (hts _ q1628) (fun _ h9 => h9) rfl (rdPI_o e1) dX12_depth_1 ?_
  exact g_iret (pc := 4) hx hb hr hlk hH hS hkc hks hf dX12_depth_4
theorem mX12_depth {l : Launch} {G : gG} {Rp : gM → gM → Nat → Prop} (hk : rOK Rp) (hJ : JDK l G Rp) {S S2 : gS} {r2 : Int32} {C N : Nat} {l0 : Nat} (hf : fX12_depth l0 S = some (r2, S2, C, N)) : gMet l yX12_depth cX12_depth 1 (some .int) 1 40 G Rp [.ref l0] S (some (.int r2)) S2 C N := by
  refine g_start (by decide) (Nat.le_of_ble_eq_true rfl) (fun p e s m args below meth c ls hc hl hH => ?_)
  have hl : lv_has ls 1 [(0, .ref l0)] := hl
  exact wX12_depth_b0 hk hJ hc l0 S _ _ ls 0 0 C N (by omega) (by omega) hH va_S.rf (lv_sub hl [0] rfl) hf
end
section
variable {r : Int32} {Sf : gS}
section
variable {p : Program} {l : Launch} {e : Env} {s : State} {m : MethodId} {args : Array Value} {below : List Frame} {meth : Method} {c : Code} {G : gG} {Rp : gM → gM → Nat → Prop} {R : Room} {H : Heap} {locs : List Loc} {Q : State → Prop} {cc : ByteArray} {ls : Array Slot} {rest : List Value} {pc : Nat} {kc ks : Nat}
theorem gP_depth {own nm : String} {nL fr lo index C9 N mc ms b : Nat} {o : Option Nat} {ret' : Option FieldType} {As st0 st1 : List Value} {S S2 : gS} {v : Int32} {u : Unit} (hc : gC p s m args meth c G own nm cc nL ret') (hk : rOK Rp) (hJ : JDK l G Rp) (e1 : fX12_depth b S = some (v, S2, C9, N)) (ec : ckP S (some b) 0 = some u) (hl : Cond.methodLink own index (⟨"CreditBroker$Cause", "depth", "()I"⟩ : MethodName) ∈ lw_all) (hfr : 2 ≤ fr) (hlo : 60 ≤ lo) (eo : o = some b) (hn : As = []) (hsize : ls.size = nL) (hst0 : st0 = As.reverse ++ va_rf o :: rest) (hst : (some (.int v)).toList ++ rest = st1) (hW : 2 * (F0 m pc ls st0).monitorRoom + (rest.map fun v => v.category).sum ≤ 8) (hdg : decode cc pc = .ok (.invokevirtual index, 3)) (hH : hp G Rp S H) (hS : va_S G.2.2.2 s.heap H locs) (hkc : kc + C9 ≤ mc) (hks : ks + N ≤ ms)
    (kk : ∀ (H1 : Heap) (locs1 : List Loc), hp G Rp S2 H1 → va_S G.2.2.2 s.heap H1 locs1 → W p l e (gR fr lo mc ms) s m args below meth c H1 locs1 (kc + C9) (ks + N) Q (F0 m (pc + 3) ls st1)) : W p l e (gR fr lo mc ms) s m args below meth c H locs kc ks Q (F0 m pc ls st0) := by
  subst hn
  obtain ⟨hx, hb, hr, hlk, hml, hown, hts, hE, hA, hnm⟩ := hc
  have hc : gC p s m args meth c G own nm cc nL ret' := ⟨hx, hb, hr, hlk, hml, hown, hts, hE, hA, hnm⟩
  obtain ⟨ci, fs, h9, h8⟩ := ckP_o ec
  rcases inD_c h9 with rfl | rfl | rfl | rfl
  · exact g_callU (x := (⟨"CreditBroker$Cause", "depth", "()I"⟩ : MethodName)) (owner := "CreditBroker$Cause") (C := "CreditBroker$Rejected") (As := []) hc (mX12_depth hk hJ (l0 := b) e1) (va_cwU 0 hts (lw_app (lw_of5 hl q851 q855 q850 q139) (lw_meth q856)) rfl rfl rfl rfl (by decide +kernel) ⟨(Nat.le_trans (Nat.le_of_ble_eq_true rfl) hfr), (Nat.le_trans (Nat.le_of_ble_eq_true rfl) hlo)⟩) (g_recv hE hk hH (ci := 11) (q := (RX18, TX18, 5)) rfl h8) eo rfl hsize hst0 hst hW hdg hH hS hkc hks kk
  · exact g_callU (x := (⟨"CreditBroker$Cause", "depth", "()I"⟩ : MethodName)) (owner := "CreditBroker$Cause") (C := "CreditBroker$Late") (As := []) hc (mX12_depth hk hJ (l0 := b) e1) (va_cwU 0 hts (lw_app (lw_of5 hl q851 q852 q850 q139) (lw_meth q856)) rfl rfl rfl rfl (by decide +kernel) ⟨(Nat.le_trans (Nat.le_of_ble_eq_true rfl) hfr), (Nat.le_trans (Nat.le_of_ble_eq_true rfl) hlo)⟩) (g_recv hE hk hH (ci := 12) (q := (RX19, TX19, 5)) rfl h8) eo rfl hsize hst0 hst hW hdg hH hS hkc hks kk
  · exact g_callU (x := (⟨"CreditBroker$Cause", "depth", "()I"⟩ : MethodName)) (owner := "CreditBroker$Cause") (C := "CreditBroker$Old") (As := []) hc (mX12_depth hk hJ (l0 := b) e1) (va_cwU 0 hts (lw_app (lw_of5 hl q851 q853 q850 q139) (lw_meth q856)) rfl rfl rfl rfl (by decide +kernel) ⟨(Nat.le_trans (Nat.le_of_ble_eq_true rfl) hfr), (Nat.le_trans (Nat.le_of_ble_eq_true rfl) hlo)⟩) (g_recv hE hk hH (ci := 13) (q := (RX20, TX20, 4)) rfl h8) eo rfl hsize hst0 hst hW hdg hH hS hkc hks kk
  · exact g_callU (x := (⟨"CreditBroker$Cause", "depth", "()I"⟩ : MethodName)) (owner := "CreditBroker$Cause") (C := "CreditBroker$Overfull") (As := []) hc (mX12_depth hk hJ (l0 := b) e1) (va_cwU 0 hts (lw_app (lw_of5 hl q851 q854 q850 q139) (lw_meth q856)) rfl rfl rfl rfl (by decide +kernel) ⟨(Nat.le_trans (Nat.le_of_ble_eq_true rfl) hfr), (Nat.le_trans (Nat.le_of_ble_eq_true rfl) hlo)⟩) (g_recv hE hk hH (ci := 14) (q := (RX14, TX14, 4)) rfl h8) eo rfl hsize hst0 hst hW hdg hH hS hkc hks kk
end
end
section
variable {r : Int32} {Sf : gS}
def fX0_isLink (l0 : Nat) (l1 : Int32) (l2 : Int32) (S : gS) : gO Int32 :=
  bd (chk S l0 0) fun _ =>
  gb (fX0_isDead l0 l1 S) fun v1 S1 =>
  if v1 = 0 then
    zg (nI 0) S1
  else
    bd (rdR S1 l0 0 0) fun v3 =>
    bd v3 fun a4 =>
    bd (rdR S1 a4 1 3) fun v5 =>
    bd v5 fun a7 =>
    gb (nLL_get a7 l1 S1) fun v6 S6 =>
    bd (ckc S6 v6 7) fun _ =>
    bd v6 fun a9 =>
    bd (rdR S6 a9 7 3) fun v10 =>
    bd v10 fun a12 =>
    bd (ckP S6 (some a12) 0) fun _ =>
    gb (fX12_depth a12 S6) fun v11 S11 =>
    gb (fX0_isIn l2 (nI 0) (v11 - (nI 1)) S11) fun v13 S13 =>
    if v13 = 0 then
      zg (nI 0) S13
    else
      zg (nI 1) S13
theorem wX0_isLink_b0 (hk : rOK Rp) (hJ : JDK l G Rp) (hc : gC p s m args meth c G RX0 "isLink" cX0_isLink 3 (some .boolean)) (l0 : Nat) (l1 : Int32) (l2 : Int32) (S : gS) (H : Heap) (locs : List Loc) (ls : Array Slot) (kc ks C N : Nat) (hkc : kc + C ≤ mc) (hks : ks + N ≤ ms) (hH : hp G Rp S H) (hS : va_S G.2.2.2 s.heap H locs) (hl : lv_has ls 3 [(0, .ref l0), (1, .int l1), (2, .int l2)]) (hf : fX0_isLink l0 l1 l2 S = some (r, Sf, C, N)) : W p l e (gR 16 561 mc ms) s m args below meth c H locs kc ks (gQ below G Rp (some (.int r)) Sf args s mc ms) (F0 m 0 ls []) := by
  obtain ⟨hx, hb, hr, hlk, hml, hown, hts, hE, hA, hnm⟩ := hc
  have hc : gC p s m args meth c G RX0 "isLink" cX0_isLink 3 (some .boolean) := ⟨hx, hb, hr, hlk, hml, hown, hts, hE, hA, hnm⟩
  unfold fX0_isLink at hf
  refine lv_aload_n (pc := 0) hx hb dX0_isLink_0 rfl (lv_at hl 0 rfl) ?_
  refine lv_iload_n (pc := 1) hx hb dX0_isLink_1 rfl (lv_at hl 1 rfl) ?_
  obtain ⟨_, ek1, hf⟩ := bdo hf
  obtain ⟨v1, S1, c1, n1, c2_1, n2_1, e1, hf, hC1, hN1⟩ := gbo hf
  refine g_callV (pc := 2) (o := (some l0)) (b := l0) (As := [.int l1]) (rest := []) (st1 := [.int v1]) hc (mX0_isDead hk hJ (l0 := l0) (l1 := l1) e1) (cwV 1 hts (lw_V q572 q574 qs5 q97 q575) rfl rfl rfl hdX0_isDead ⟨Nat.le_of_ble_eq_true rfl, Nat.le_of_ble_eq_true rfl⟩) (g_recv hE hk hH (ci := 0) (q := (RX0, TX0, 7)) rfl (chk_o ek1).choose_spec) rfl rfl hl.1 rfl rfl (lv_room (Nat.le_of_ble_eq_true rfl)) dX0_isLink_2 hH hS (by omega) (by omega) (fun H locs hH hS => ?_)
  have hkc : kc + c1 + c2_1 ≤ mc := by omega
  have hks : ks + n1 + n2_1 ≤ ms := by omega
  refine lv_if_eq (pc := 5) (tgt := 42) hx hb dX0_isLink_5 (by decide) (fun c2 => ?_) (fun c2 => ?_)
  · rw [if_pos c2] at hf
    refine lv_iconst (pc := 42) (v := nI 0) hx hb dX0_isLink_42 rfl ?_
    exact g_zret (pc := 43) hx hb hr hlk hH hS hkc hks hf dX0_isLink_43
  · rw [if_neg c2] at hf
    refine lv_iload_n (pc := 8) hx hb dX0_isLink_8 rfl (lv_at hl 2 rfl) ?_
    refine lv_iconst (pc := 9) (v := nI 0) hx hb dX0_isLink_9 rfl ?_
    refine lv_aload_n (pc := 10) hx hb dX0_isLink_10 rfl (lv_at hl 0 rfl) ?_
    obtain ⟨v3, e3, hf⟩ := bdo hf
    refine g_get (pc := 11) (o := (some l0)) (a := l0) (ci := 0) (k := 0) (v := va_rf v3) (C := RX0) (T := TX0) (N := 7) hx hb hts hown hE hk hH in_X0 rfl (by decide) (hts _ q272) (fun _ h9 => h9) rfl (rdR_o e3) dX0_isLink_11 ?_
    obtain ⟨a4, ea4, hf⟩ := bdo hf
    obtain ⟨v5, e5, hf⟩ := bdo hf
    refine g_get (pc := 14) (o := v3) (a := a4) (ci := 1) (k := 3) (v := va_rf v5) (C := RX1) (T := TX1) (N := 7) hx hb hts hown hE hk hH in_X1 rfl (by decide) (hts _ q238) (fun _ h9 => h9) ea4 (rdR_o e5) dX0_isLink_14 ?_
    refine lv_iload_n (pc := 17) hx hb dX0_isLink_17 rfl (lv_at hl 1 rfl) ?_
    obtain ⟨a7, ea7, hf⟩ := bdo hf
    obtain ⟨v6, S6, c6, n6, c2_6, n2_6, e6, hf, hC6, hN6⟩ := gbo hf
    refine g_callV (pc := 18) (o := v5) (b := a7) (As := [.int l1]) (rest := [.int (nI 0), .int l2]) (st1 := [va_rf v6, .int (nI 0), .int l2]) hc (j_nLL_get hJ a7 l1 S1 v6 S6 c6 n6 e6) (cwV 1 hts (lw_V q580 q581 q582 q103 q583) rfl rfl rfl hdJ4_get ⟨Nat.le_of_ble_eq_true rfl, Nat.le_of_ble_eq_true rfl⟩) (j_recv hJ _ _ _ _ 1 _ _ hE hH hS (adtR (t := 1) (show bd _ _ = some _ from e6)).choose_spec) ea7 rfl hl.1 rfl rfl (lv_room (Nat.le_of_ble_eq_true rfl)) dX0_isLink_18 hH hS (by omega) (by omega) (fun H locs hH hS => ?_)
    have hkc : kc + c1 + c6 + c2_6 ≤ mc := by omega
    have hks : ks + n1 + n6 + n2_6 ≤ ms := by omega
    obtain ⟨_, e8, hf⟩ := bdo hf
    refine g_cast (pc := 21) (o := v6) (ci := 7) (C := RX15) (T := TX15) (N := 4) hx hb hts hown hE hk hH rfl q848 e8 dX0_isLink_21 ?_
    obtain ⟨a9, ea9, hf⟩ := bdo hf
    obtain ⟨v10, e10, hf⟩ := bdo hf
    refine g_get (pc := 24) (o := v6) (a := a9) (ci := 7) (k := 3) (v := va_rf v10) (C := RX15) (T := TX15) (N := 4) hx hb hts hown hE hk hH in_X15 rfl (by decide) (hts _ q1654) (fun _ h9 => h9) ea9 (rdR_o e10) dX0_isLink_24 ?_
    obtain ⟨a12, ea12, hf⟩ := bdo hf
    obtain ⟨_, ek11, hf⟩ := bdo hf
    obtain ⟨v11, S11, c11, n11, c2_11, n2_11, e11, hf, hC11, hN11⟩ := gbo hf
    refine gP_depth (pc := 27) (o := v10) (b := a12) (As := []) (rest := [.int (nI 0), .int l2]) (st1 := [.int v11, .int (nI 0), .int l2]) hc hk hJ e11 ek11 q849 (Nat.le_of_ble_eq_true rfl) (Nat.le_of_ble_eq_true rfl) ea12 rfl hl.1 rfl rfl (lv_room (Nat.le_of_ble_eq_true rfl)) dX0_isLink_27 hH hS (by omega) (by omega) (fun H locs hH hS => ?_)
    have hkc : kc + c1 + c6 + c11 + c2_11 ≤ mc := by omega
    have hks : ks + n1 + n6 + n11 + n2_11 ≤ ms := by omega
    refine lv_iconst (pc := 30) (v := nI 1) hx hb dX0_isLink_30 rfl ?_
    refine lv_isub (pc := 31) hx hb dX0_isLink_31 ?_
    obtain ⟨v13, S13, c13, n13, c2_13, n2_13, e13, hf, hC13, hN13⟩ := gbo hf
    refine g_callS (pc := 32) (As := [.int l2, .int (nI 0), .int (v11 - (nI 1))]) (rest := []) (st1 := [.int v13]) hc (mX0_isIn hk hJ (l0 := l2) (l1 := (nI 0)) (l2 := (v11 - (nI 1))) e13) (va_cwS 3 hts (lw_S q395 q396 q97 q397) rfl rfl rfl hdX0_isIn ⟨Nat.le_of_ble_eq_true rfl, Nat.le_of_ble_eq_true rfl⟩) rfl hl.1 rfl rfl (lv_room (Nat.le_of_ble_eq_true rfl)) dX0_isLink_32 hH hS (by omega) (by omega) (fun H locs hH hS => ?_)
    have hkc : kc + c1 + c6 + c11 + c13 + c2_13 ≤ mc := by omega
    have hks : ks + n1 + n6 + n11 + n13 + n2_13 ≤ ms := by omega
    refine lv_if_eq (pc := 35) (tgt := 42) hx hb dX0_isLink_35 (by decide) (fun c14 => ?_) (fun c14 => ?_)
    · rw [if_pos c14] at hf
      refine lv_iconst (pc := 42) (v := nI 0) hx hb dX0_isLink_42 rfl ?_
      exact g_zret (pc := 43) hx hb hr hlk hH hS hkc hks hf dX0_isLink_43
    · rw [if_neg c14] at hf
      refine lv_iconst (pc := 38) (v := nI 1) hx hb dX0_isLink_38 rfl ?_
      refine lv_goto (pc := 39) (tgt := 43) hx hb dX0_isLink_39 (by decide) ?_
      exact g_zret (pc := 43) hx hb hr hlk hH hS hkc hks hf dX0_isLink_43
theorem mX0_isLink {l : Launch} {G : gG} {Rp : gM → gM → Nat → Prop} (hk : rOK Rp) (hJ : JDK l G Rp) {S S2 : gS} {r2 : Int32} {C N : Nat} {l0 : Nat} {l1 : Int32} {l2 : Int32} (hf : fX0_isLink l0 l1 l2 S = some (r2, S2, C, N)) : gMet l yX0_isLink cX0_isLink 3 (some .boolean) 16 561 G Rp [.ref l0, .int l1, .int l2] S (some (.int r2)) S2 C N := by
  refine g_start (by decide) (Nat.le_of_ble_eq_true rfl) (fun p e s m args below meth c ls hc hl hH => ?_)
  have hl : lv_has ls 3 [(0, .ref l0), (1, .int l1), (2, .int l2)] := hl
  exact wX0_isLink_b0 hk hJ hc l0 l1 l2 S _ _ ls 0 0 C N (by omega) (by omega) hH va_S.rf (lv_sub hl [0, 1, 2] rfl) hf
end
section
variable {r : Option Nat} {Sf : gS}
def LK : Nat := 64
def fX12_link : Nat → Nat → Int32 → gS → gO (Option Nat)
  | 0, _, _, _ => none
  | n + 1, b, i, S =>
    if i = 0 then some (some b, S, 0, 0)
    else
      bd (rdPR S b 1) fun v1 =>
      bd v1 fun a2 =>
      bd (ckP S (some a2) 0) fun _ =>
      gb (fX12_link n a2 (i - nI 1) S) fun v3 S3 =>
      some (v3, S3, 0, 0)
theorem mX12_link {l : Launch} {G : gG} {Rp : gM → gM → Nat → Prop} (hk : rOK Rp) (hJ : JDK l G Rp) : ∀ (n : Nat) {S S2 : gS} {r : Option Nat} {C N : Nat} {l0 : Nat} {l1 : Int32}, fX12_link n l0 l1 S = some (r, S2, C, N) → gMet l yX12_link cX12_link 2 (some (.object "CreditBroker$Cause")) n (40 + n * 21) G Rp [.ref l0, .int l1] S (some (va_rf r)) S2 C N := by
  intro n
  induction n with
  | zero => intro S S2 r C N l0 l1 hf; cases hf
  | succ n ih =>
    intro S S2 r C N l0 l1 hf
    refine g_start (by decide) (Nat.le_of_ble_eq_true rfl) (fun p e s m args below meth c ls hc hl hH => ?_)
    have hl : lv_has ls 2 [(0, .ref l0), (1, .int l1)] := hl
    obtain ⟨hx, hb, hr, hlk, hml, hown, hts, hE, hA, hnm⟩ := hc
    have hc : gC p s m args meth c G RX12 "link" cX12_link 2 (some (.object "CreditBroker$Cause")) := ⟨hx, hb, hr, hlk, hml, hown, hts, hE, hA, hnm⟩
    have hkc : 0 + C ≤ C := by omega
    have hks : 0 + N ≤ N := by omega
    have hS : va_S G.2.2.2 s.heap s.heap [] := va_S.rf
    rw [fX12_link] at hf
    refine lv_iload_n (pc := 0) hx hb dX12_link_0 rfl (lv_at hl 1 rfl) ?_
    refine lv_if_ne (pc := 1) (tgt := 8) hx hb dX12_link_1 (by decide) (fun c1 => ?_) (fun c1 => ?_)
    · rw [if_neg c1] at hf
      refine lv_aload_n (pc := 8) hx hb dX12_link_8 rfl (lv_at hl 0 rfl) ?_
      obtain ⟨v1, e1, hf⟩ := bdo hf
      refine g_getP (pc := 9) (o := (some l0)) (a := l0) (k := 1) (v := va_rf v1) (ref := "CreditBroker$Cause") hx hb hts hown hE hk hH (by decide) (hts _ q1625) (fun _ h9 => h9) rfl (rdPR_o e1) dX12_link_9 ?_
      refine lv_iload_n (pc := 12) hx hb dX12_link_12 rfl (lv_at hl 1 rfl) ?_
      refine lv_iconst (pc := 13) (v := nI 1) hx hb dX12_link_13 rfl ?_
      refine lv_isub (pc := 14) hx hb dX12_link_14 ?_
      obtain ⟨a2, e2, hf⟩ := bdo hf
      obtain ⟨_, e3, hf⟩ := bdo hf
      obtain ⟨v3, S3, c3, n3, c4, n4, e4, hf, hC, hN⟩ := gbo hf
      obtain ⟨ci, fs, h9, h8⟩ := ckP_o e3
      have fin : ∀ (H1 : Heap) (locs1 : List Loc), hp G Rp S3 H1 → va_S G.2.2.2 s.heap H1 locs1 → W p l e (gR (n + 1) (40 + (n + 1) * 21) C N) s m args below meth c H1 locs1 (0 + c3) (0 + n3) (gQ below G Rp (some (va_rf r)) S2 args s C N) (F0 m (15 + 3) ls [va_rf v3]) := by
        intro H1 locs1 hH hS
        have hkc : 0 + c3 + c4 ≤ C := by omega
        have hks : 0 + n3 + n4 ≤ N := by omega
        exact g_aret (pc := 18) (v := v3) hx hb hr (Or.inl ⟨_, rfl⟩) hlk hH hS hkc hks hf dX12_link_18
      rcases inD_c h9 with rfl | rfl | rfl | rfl
      · exact g_callU (pc := 15) (o := v1) (b := a2) (x := (⟨"CreditBroker$Cause", "link", "(I)LCreditBroker$Cause;"⟩ : MethodName)) (owner := "CreditBroker$Cause") (C := "CreditBroker$Rejected") (As := [.int (l1 - nI 1)]) (rest := []) (st1 := [va_rf v3]) hc (ih e4) (va_cwU 1 hts (lw_app (lw_of5 q865 q859 q863 q858 q139) (lw_meth q864)) rfl rfl rfl rfl (by decide +kernel) ⟨Nat.le_refl _, (by show 8 + (2 + 11) + (40 + n * 21) ≤ 40 + (n + 1) * 21; omega)⟩) (g_recv hE hk hH (ci := 11) (q := (RX18, TX18, 5)) rfl h8) e2 rfl hl.1 rfl rfl (lv_room (by simp [va_rf_cat, cat_i, cat_j, cat_r])) dX12_link_15 hH hS (by omega) (by omega) fin
      · exact g_callU (pc := 15) (o := v1) (b := a2) (x := (⟨"CreditBroker$Cause", "link", "(I)LCreditBroker$Cause;"⟩ : MethodName)) (owner := "CreditBroker$Cause") (C := "CreditBroker$Late") (As := [.int (l1 - nI 1)]) (rest := []) (st1 := [va_rf v3]) hc (ih e4) (va_cwU 1 hts (lw_app (lw_of5 q865 q859 q860 q858 q139) (lw_meth q864)) rfl rfl rfl rfl (by decide +kernel) ⟨Nat.le_refl _, (by show 8 + (2 + 11) + (40 + n * 21) ≤ 40 + (n + 1) * 21; omega)⟩) (g_recv hE hk hH (ci := 12) (q := (RX19, TX19, 5)) rfl h8) e2 rfl hl.1 rfl rfl (lv_room (by simp [va_rf_cat, cat_i, cat_j, cat_r])) dX12_link_15 hH hS (by omega) (by omega) fin
      · exact g_callU (pc := 15) (o := v1) (b := a2) (x := (⟨"CreditBroker$Cause", "link", "(I)LCreditBroker$Cause;"⟩ : MethodName)) (owner := "CreditBroker$Cause") (C := "CreditBroker$Old") (As := [.int (l1 - nI 1)]) (rest := []) (st1 := [va_rf v3]) hc (ih e4) (va_cwU 1 hts (lw_app (lw_of5 q865 q859 q861 q858 q139) (lw_meth q864)) rfl rfl rfl rfl (by decide +kernel) ⟨Nat.le_refl _, (by show 8 + (2 + 11) + (40 + n * 21) ≤ 40 + (n + 1) * 21; omega)⟩) (g_recv hE hk hH (ci := 13) (q := (RX20, TX20, 4)) rfl h8) e2 rfl hl.1 rfl rfl (lv_room (by simp [va_rf_cat, cat_i, cat_j, cat_r])) dX12_link_15 hH hS (by omega) (by omega) fin
      · exact g_callU (pc := 15) (o := v1) (b := a2) (x := (⟨"CreditBroker$Cause", "link", "(I)LCreditBroker$Cause;"⟩ : MethodName)) (owner := "CreditBroker$Cause") (C := "CreditBroker$Overfull") (As := [.int (l1 - nI 1)]) (rest := []) (st1 := [va_rf v3]) hc (ih e4) (va_cwU 1 hts (lw_app (lw_of5 q865 q859 q862 q858 q139) (lw_meth q864)) rfl rfl rfl rfl (by decide +kernel) ⟨Nat.le_refl _, (by show 8 + (2 + 11) + (40 + n * 21) ≤ 40 + (n + 1) * 21; omega)⟩) (g_recv hE hk hH (ci := 14) (q := (RX14, TX14, 4)) rfl h8) e2 rfl hl.1 rfl rfl (lv_room (by simp [va_rf_cat, cat_i, cat_j, cat_r])) dX12_link_15 hH hS (by omega) (by omega) fin
    · rw [if_pos c1] at hf
      refine lv_aload_n (pc := 4) hx hb dX12_link_4 rfl (lv_at hl 0 rfl) ?_
      refine lv_goto (pc := 5) (tgt := 18) hx hb dX12_link_5 (by decide) ?_
      exact g_aret (pc := 18) (v := some l0) hx hb hr (Or.inl ⟨_, rfl⟩) hlk hH hS hkc hks hf dX12_link_18
section
variable {p : Program} {l : Launch} {e : Env} {s : State} {m : MethodId} {args : Array Value} {below : List Frame} {meth : Method} {c : Code} {G : gG} {Rp : gM → gM → Nat → Prop} {R : Room} {H : Heap} {locs : List Loc} {Q : State → Prop} {cc : ByteArray} {ls : Array Slot} {rest : List Value} {pc : Nat} {kc ks : Nat}
theorem gP_link {own nm : String} {nL fr lo index C9 N mc ms b : Nat} {o : Option Nat} {ret' : Option FieldType} {As st0 st1 : List Value} {S S2 : gS} {v : Option Nat} {x0 : Int32} {u : Unit} (hc : gC p s m args meth c G own nm cc nL ret') (hk : rOK Rp) (hJ : JDK l G Rp) (e1 : fX12_link LK b x0 S = some (v, S2, C9, N)) (ec : ckP S (some b) 0 = some u) (hl : Cond.methodLink own index (⟨"CreditBroker$Cause", "link", "(I)LCreditBroker$Cause;"⟩ : MethodName) ∈ lw_all) (hfr : 65 ≤ fr) (hlo : 1405 ≤ lo) (eo : o = some b) (hn : As = [.int x0]) (hsize : ls.size = nL) (hst0 : st0 = As.reverse ++ va_rf o :: rest) (hst : (some (va_rf v)).toList ++ rest = st1) (hW : 2 * (F0 m pc ls st0).monitorRoom + (rest.map fun v => v.category).sum ≤ 8) (hdg : decode cc pc = .ok (.invokevirtual index, 3)) (hH : hp G Rp S H) (hS : va_S G.2.2.2 s.heap H locs) (hkc : kc + C9 ≤ mc) (hks : ks + N ≤ ms)
    (kk : ∀ (H1 : Heap) (locs1 : List Loc), hp G Rp S2 H1 → va_S G.2.2.2 s.heap H1 locs1 → W p l e (gR fr lo mc ms) s m args below meth c H1 locs1 (kc + C9) (ks + N) Q (F0 m (pc + 3) ls st1)) : W p l e (gR fr lo mc ms) s m args below meth c H locs kc ks Q (F0 m pc ls st0) := by
  subst hn
  obtain ⟨hx, hb, hr, hlk, hml, hown, hts, hE, hA, hnm⟩ := hc
  have hc : gC p s m args meth c G own nm cc nL ret' := ⟨hx, hb, hr, hlk, hml, hown, hts, hE, hA, hnm⟩
  obtain ⟨ci, fs, h9, h8⟩ := ckP_o ec
  rcases inD_c h9 with rfl | rfl | rfl | rfl
  · exact g_callU (x := (⟨"CreditBroker$Cause", "link", "(I)LCreditBroker$Cause;"⟩ : MethodName)) (owner := "CreditBroker$Cause") (C := "CreditBroker$Rejected") (As := [.int x0]) hc (mX12_link hk hJ LK e1) (va_cwU 1 hts (lw_app (lw_of5 hl q859 q863 q858 q139) (lw_meth q864)) rfl rfl rfl rfl (by decide +kernel) ⟨(Nat.le_trans (Nat.le_of_ble_eq_true rfl) hfr), (Nat.le_trans (Nat.le_of_ble_eq_true rfl) hlo)⟩) (g_recv hE hk hH (ci := 11) (q := (RX18, TX18, 5)) rfl h8) eo rfl hsize hst0 hst hW hdg hH hS hkc hks kk
  · exact g_callU (x := (⟨"CreditBroker$Cause", "link", "(I)LCreditBroker$Cause;"⟩ : MethodName)) (owner := "CreditBroker$Cause") (C := "CreditBroker$Late") (As := [.int x0]) hc (mX12_link hk hJ LK e1) (va_cwU 1 hts (lw_app (lw_of5 hl q859 q860 q858 q139) (lw_meth q864)) rfl rfl rfl rfl (by decide +kernel) ⟨(Nat.le_trans (Nat.le_of_ble_eq_true rfl) hfr), (Nat.le_trans (Nat.le_of_ble_eq_true rfl) hlo)⟩) (g_recv hE hk hH (ci := 12) (q := (RX19, TX19, 5)) rfl h8) eo rfl hsize hst0 hst hW hdg hH hS hkc hks kk
  · exact g_callU (x := (⟨"CreditBroker$Cause", "link", "(I)LCreditBroker$Cause;"⟩ : MethodName)) (owner := "CreditBroker$Cause") (C := "CreditBroker$Old") (As := [.int x0]) hc (mX12_link hk hJ LK e1) (va_cwU 1 hts (lw_app (lw_of5 hl q859 q861 q858 q139) (lw_meth q864)) rfl rfl rfl rfl (by decide +kernel) ⟨(Nat.le_trans (Nat.le_of_ble_eq_true rfl) hfr), (Nat.le_trans (Nat.le_of_ble_eq_true rfl) hlo)⟩) (g_recv hE hk hH (ci := 13) (q := (RX20, TX20, 4)) rfl h8) eo rfl hsize hst0 hst hW hdg hH hS hkc hks kk
  · exact g_callU (x := (⟨"CreditBroker$Cause", "link", "(I)LCreditBroker$Cause;"⟩ : MethodName)) (owner := "CreditBroker$Cause") (C := "CreditBroker$Overfull") (As := [.int x0]) hc (mX12_link hk hJ LK e1) (va_cwU 1 hts (lw_app (lw_of5 hl q859 q862 q858 q139) (lw_meth q864)) rfl rfl rfl rfl (by decide +kernel) ⟨(Nat.le_trans (Nat.le_of_ble_eq_true rfl) hfr), (Nat.le_trans (Nat.le_of_ble_eq_true rfl) hlo)⟩) (g_recv hE hk hH (ci := 14) (q := (RX14, TX14, 4)) rfl h8) eo rfl hsize hst0 hst hW hdg hH hS hkc hks kk
end
end
section
variable {r : Int32} {Sf : gS}
def fX12_kind_c11 (S : gS) : gO Int32 :=
  some (nI 0, S, 0, 0)
theorem wX12_kind_c11_b0 (hk : rOK Rp) (hJ : JDK l G Rp) (hc : gC p s m args meth c G RX12 "kind" cX12_kind 1 (some .int)) (S : gS) (H : Heap) (locs : List Loc) (ls : Array Slot) (kc ks C N : Nat) (hkc : kc + C ≤ mc) (hks : ks + N ≤ ms) (hH : hp G Rp S H) (hS : va_S G.2.2.2 s.heap H locs) (hl : lv_has ls 1 []) (hf : fX12_kind_c11  S = some (r, Sf, C, N)) : W p l e (gR 1 40 mc ms) s m args below meth c H locs kc ks (gQ below G Rp (some (.int r)) Sf args s mc ms) (F0 m 0 ls []) := by
  obtain ⟨hx, hb, hr, hlk, hml, hown, hts, hE, hA, hnm⟩ := hc
  have hc : gC p s m args meth c G RX12 "kind" cX12_kind 1 (some .int) := ⟨hx, hb, hr, hlk, hml, hown, hts, hE, hA, hnm⟩
  unfold fX12_kind_c11 at hf
  refine lv_iconst (pc := 0) (v := nI 0) hx hb dX12_kind_0 rfl ?_
  exact g_iret (pc := 1) hx hb hr hlk hH hS hkc hks hf dX12_kind_1
theorem mX12_kind_c11 {l : Launch} {G : gG} {Rp : gM → gM → Nat → Prop} (hk : rOK Rp) (hJ : JDK l G Rp) {S S2 : gS} {r2 : Int32} {C N : Nat} {l0 : Nat} (hf : fX12_kind_c11  S = some (r2, S2, C, N)) : gMet l yX12_kind cX12_kind 1 (some .int) 1 40 G Rp [.ref l0] S (some (.int r2)) S2 C N := by
  refine g_start (by decide) (Nat.le_of_ble_eq_true rfl) (fun p e s m args below meth c ls hc hl hH => ?_)
  have hl : lv_has ls 1 [(0, .ref l0)] := hl
  exact wX12_kind_c11_b0 hk hJ hc  S _ _ ls 0 0 C N (by omega) (by omega) hH va_S.rf (lv_sub hl [] rfl) hf
end
section
variable {r : Int32} {Sf : gS}
def fX17_kind_c11 (l0 : Nat) (S : gS) : gO Int32 :=
  bd (chk S l0 11) fun _ =>
  gb (fX12_kind_c11 S) fun v1 S1 =>
  some (v1 + (nI 1), S1, 0, 0)
theorem wX17_kind_c11_b0 (hk : rOK Rp) (hJ : JDK l G Rp) (hc : gC p s m args meth c G RX17 "kind" cX17_kind 1 (some .int)) (l0 : Nat) (S : gS) (H : Heap) (locs : List Loc) (ls : Array Slot) (kc ks C N : Nat) (hkc : kc + C ≤ mc) (hks : ks + N ≤ ms) (hH : hp G Rp S H) (hS : va_S G.2.2.2 s.heap H locs) (hl : lv_has ls 1 [(0, .ref l0)]) (hf : fX17_kind_c11 l0 S = some (r, Sf, C, N)) : W p l e (gR 2 60 mc ms) s m args below meth c H locs kc ks (gQ below G Rp (some (.int r)) Sf args s mc ms) (F0 m 0 ls []) := by
  obtain ⟨hx, hb, hr, hlk, hml, hown, hts, hE, hA, hnm⟩ := hc
  have hc : gC p s m args meth c G RX17 "kind" cX17_kind 1 (some .int) := ⟨hx, hb, hr, hlk, hml, hown, hts, hE, hA, hnm⟩
  unfold fX17_kind_c11 at hf
  refine lv_aload_n (pc := 0) hx hb dX17_kind_0 rfl (lv_at hl 0 rfl) ?_
  obtain ⟨_, ek1, hf⟩ := bdo hf
  obtain ⟨v1, S1, c1, n1, c2_1, n2_1, e1, hf, hC1, hN1⟩ := gbo hf
  refine g_callSU (pc := 1) (o := (some l0)) (b := l0) (As := []) (rest := []) (st1 := [.int v1]) (ci := 11) (q := (RX18, TX18, 5)) hc hk (mX12_kind_c11 hk hJ (l0 := l0) e1) (va_cwSU 0 hts (lw_app (lw_of5 q542 q534 q543 q533 q139) (lw_meth q544)) rfl rfl rfl hsuX12_kind ⟨Nat.le_of_ble_eq_true rfl, Nat.le_of_ble_eq_true rfl⟩) rfl (chk_o ek1).choose_spec rfl rfl hl.1 rfl rfl (lv_room (Nat.le_of_ble_eq_true rfl)) dX17_kind_1 hH hS (by omega) (by omega) (fun H locs hH hS => ?_)
  have hkc : kc + c1 + c2_1 ≤ mc := by omega
  have hks : ks + n1 + n2_1 ≤ ms := by omega
  refine lv_iconst (pc := 4) (v := nI 1) hx hb dX17_kind_4 rfl ?_
  refine lv_iadd (pc := 5) hx hb dX17_kind_5 ?_
  exact g_iret (pc := 6) hx hb hr hlk hH hS hkc hks hf dX17_kind_6
theorem mX17_kind_c11 {l : Launch} {G : gG} {Rp : gM → gM → Nat → Prop} (hk : rOK Rp) (hJ : JDK l G Rp) {S S2 : gS} {r2 : Int32} {C N : Nat} {l0 : Nat} (hf : fX17_kind_c11 l0 S = some (r2, S2, C, N)) : gMet l yX17_kind cX17_kind 1 (some .int) 2 60 G Rp [.ref l0] S (some (.int r2)) S2 C N := by
  refine g_start (by decide) (Nat.le_of_ble_eq_true rfl) (fun p e s m args below meth c ls hc hl hH => ?_)
  have hl : lv_has ls 1 [(0, .ref l0)] := hl
  exact wX17_kind_c11_b0 hk hJ hc l0 S _ _ ls 0 0 C N (by omega) (by omega) hH va_S.rf (lv_sub hl [0] rfl) hf
end
section
variable {r : Int32} {Sf : gS}
def fX18_kind (l0 : Nat) (S : gS) : gO Int32 :=
  bd (chk S l0 11) fun _ =>
  gb (fX17_kind_c11 l0 S) fun v1 S1 =>
  some (v1 + (nI 2), S1, 0, 0)
theorem wX18_kind_b0 (hk : rOK Rp) (hJ : JDK l G Rp) (hc : gC p s m args meth c G RX18 "kind" cX18_kind 1 (some .int)) (l0 : Nat) (S : gS) (H : Heap) (locs : List Loc) (ls : Array Slot) (kc ks C N : Nat) (hkc : kc + C ≤ mc) (hks : ks + N ≤ ms) (hH : hp G Rp S H) (hS : va_S G.2.2.2 s.heap H locs) (hl : lv_has ls 1 [(0, .ref l0)]) (hf : fX18_kind l0 S = some (r, Sf, C, N)) : W p l e (gR 3 80 mc ms) s m args below meth c H locs kc ks (gQ below G Rp (some (.int r)) Sf args s mc ms) (F0 m 0 ls []) := by
  obtain ⟨hx, hb, hr, hlk, hml, hown, hts, hE, hA, hnm⟩ := hc
  have hc : gC p s m args meth c G RX18 "kind" cX18_kind 1 (some .int) := ⟨hx, hb, hr, hlk, hml, hown, hts, hE, hA, hnm⟩
  unfold fX18_kind at hf
  refine lv_aload_n (pc := 0) hx hb dX18_kind_0 rfl (lv_at hl 0 rfl) ?_
  obtain ⟨_, ek1, hf⟩ := bdo hf
  obtain ⟨v1, S1, c1, n1, c2_1, n2_1, e1, hf, hC1, hN1⟩ := gbo hf
  refine g_callSU (pc := 1) (o := (some l0)) (b := l0) (As := []) (rest := []) (st1 := [.int v1]) (ci := 11) (q := (RX18, TX18, 5)) hc hk (mX17_kind_c11 hk hJ (l0 := l0) e1) (va_cwSU 0 hts (lw_app (lw_of5 q562 q3287 q563 q540 q145) (lw_meth q541)) rfl rfl rfl hsuX17_kind ⟨Nat.le_of_ble_eq_true rfl, Nat.le_of_ble_eq_true rfl⟩) rfl (chk_o ek1).choose_spec rfl rfl hl.1 rfl rfl (lv_room (Nat.le_of_ble_eq_true rfl)) dX18_kind_1 hH hS (by omega) (by omega) (fun H locs hH hS => ?_)
  have hkc : kc + c1 + c2_1 ≤ mc := by omega
  have hks : ks + n1 + n2_1 ≤ ms := by omega
  refine lv_iconst (pc := 4) (v := nI 2) hx hb dX18_kind_4 rfl ?_
  refine lv_iadd (pc := 5) hx hb dX18_kind_5 ?_
  exact g_iret (pc := 6) hx hb hr hlk hH hS hkc hks hf dX18_kind_6
theorem mX18_kind {l : Launch} {G : gG} {Rp : gM → gM → Nat → Prop} (hk : rOK Rp) (hJ : JDK l G Rp) {S S2 : gS} {r2 : Int32} {C N : Nat} {l0 : Nat} (hf : fX18_kind l0 S = some (r2, S2, C, N)) : gMet l yX18_kind cX18_kind 1 (some .int) 3 80 G Rp [.ref l0] S (some (.int r2)) S2 C N := by
  refine g_start (by decide) (Nat.le_of_ble_eq_true rfl) (fun p e s m args below meth c ls hc hl hH => ?_)
  have hl : lv_has ls 1 [(0, .ref l0)] := hl
  exact wX18_kind_b0 hk hJ hc l0 S _ _ ls 0 0 C N (by omega) (by omega) hH va_S.rf (lv_sub hl [0] rfl) hf
end
section
variable {r : Int32} {Sf : gS}
def fX12_kind_c12 (S : gS) : gO Int32 :=
  some (nI 0, S, 0, 0)
theorem wX12_kind_c12_b0 (hk : rOK Rp) (hJ : JDK l G Rp) (hc : gC p s m args meth c G RX12 "kind" cX12_kind 1 (some .int)) (S : gS) (H : Heap) (locs : List Loc) (ls : Array Slot) (kc ks C N : Nat) (hkc : kc + C ≤ mc) (hks : ks + N ≤ ms) (hH : hp G Rp S H) (hS : va_S G.2.2.2 s.heap H locs) (hl : lv_has ls 1 []) (hf : fX12_kind_c12  S = some (r, Sf, C, N)) : W p l e (gR 1 40 mc ms) s m args below meth c H locs kc ks (gQ below G Rp (some (.int r)) Sf args s mc ms) (F0 m 0 ls []) := by
  obtain ⟨hx, hb, hr, hlk, hml, hown, hts, hE, hA, hnm⟩ := hc
  have hc : gC p s m args meth c G RX12 "kind" cX12_kind 1 (some .int) := ⟨hx, hb, hr, hlk, hml, hown, hts, hE, hA, hnm⟩
  unfold fX12_kind_c12 at hf
  refine lv_iconst (pc := 0) (v := nI 0) hx hb dX12_kind_0 rfl ?_
  exact g_iret (pc := 1) hx hb hr hlk hH hS hkc hks hf dX12_kind_1
theorem mX12_kind_c12 {l : Launch} {G : gG} {Rp : gM → gM → Nat → Prop} (hk : rOK Rp) (hJ : JDK l G Rp) {S S2 : gS} {r2 : Int32} {C N : Nat} {l0 : Nat} (hf : fX12_kind_c12  S = some (r2, S2, C, N)) : gMet l yX12_kind cX12_kind 1 (some .int) 1 40 G Rp [.ref l0] S (some (.int r2)) S2 C N := by
  refine g_start (by decide) (Nat.le_of_ble_eq_true rfl) (fun p e s m args below meth c ls hc hl hH => ?_)
  have hl : lv_has ls 1 [(0, .ref l0)] := hl
  exact wX12_kind_c12_b0 hk hJ hc  S _ _ ls 0 0 C N (by omega) (by omega) hH va_S.rf (lv_sub hl [] rfl) hf
end
section
variable {r : Int32} {Sf : gS}
def fX17_kind_c12 (l0 : Nat) (S : gS) : gO Int32 :=
  bd (chk S l0 12) fun _ =>
  gb (fX12_kind_c12 S) fun v1 S1 =>
  some (v1 + (nI 1), S1, 0, 0)
theorem wX17_kind_c12_b0 (hk : rOK Rp) (hJ : JDK l G Rp) (hc : gC p s m args meth c G RX17 "kind" cX17_kind 1 (some .int)) (l0 : Nat) (S : gS) (H : Heap) (locs : List Loc) (ls : Array Slot) (kc ks C N : Nat) (hkc : kc + C ≤ mc) (hks : ks + N ≤ ms) (hH : hp G Rp S H) (hS : va_S G.2.2.2 s.heap H locs) (hl : lv_has ls 1 [(0, .ref l0)]) (hf : fX17_kind_c12 l0 S = some (r, Sf, C, N)) : W p l e (gR 2 60 mc ms) s m args below meth c H locs kc ks (gQ below G Rp (some (.int r)) Sf args s mc ms) (F0 m 0 ls []) := by
  obtain ⟨hx, hb, hr, hlk, hml, hown, hts, hE, hA, hnm⟩ := hc
  have hc : gC p s m args meth c G RX17 "kind" cX17_kind 1 (some .int) := ⟨hx, hb, hr, hlk, hml, hown, hts, hE, hA, hnm⟩
  unfold fX17_kind_c12 at hf
  refine lv_aload_n (pc := 0) hx hb dX17_kind_0 rfl (lv_at hl 0 rfl) ?_
  obtain ⟨_, ek1, hf⟩ := bdo hf
  obtain ⟨v1, S1, c1, n1, c2_1, n2_1, e1, hf, hC1, hN1⟩ := gbo hf
  refine g_callSU (pc := 1) (o := (some l0)) (b := l0) (As := []) (rest := []) (st1 := [.int v1]) (ci := 12) (q := (RX19, TX19, 5)) hc hk (mX12_kind_c12 hk hJ (l0 := l0) e1) (va_cwSU 0 hts (lw_app (lw_of5 q542 q534 q543 q533 q139) (lw_meth q544)) rfl rfl rfl hsuX12_kind ⟨Nat.le_of_ble_eq_true rfl, Nat.le_of_ble_eq_true rfl⟩) rfl (chk_o ek1).choose_spec rfl rfl hl.1 rfl rfl (lv_room (Nat.le_of_ble_eq_true rfl)) dX17_kind_1 hH hS (by omega) (by omega) (fun H locs hH hS => ?_)
  have hkc : kc + c1 + c2_1 ≤ mc := by omega
  have hks : ks + n1 + n2_1 ≤ ms := by omega
  refine lv_iconst (pc := 4) (v := nI 1) hx hb dX17_kind_4 rfl ?_
  refine lv_iadd (pc := 5) hx hb dX17_kind_5 ?_
  exact g_iret (pc := 6) hx hb hr hlk hH hS hkc hks hf dX17_kind_6
theorem mX17_kind_c12 {l : Launch} {G : gG} {Rp : gM → gM → Nat → Prop} (hk : rOK Rp) (hJ : JDK l G Rp) {S S2 : gS} {r2 : Int32} {C N : Nat} {l0 : Nat} (hf : fX17_kind_c12 l0 S = some (r2, S2, C, N)) : gMet l yX17_kind cX17_kind 1 (some .int) 2 60 G Rp [.ref l0] S (some (.int r2)) S2 C N := by
  refine g_start (by decide) (Nat.le_of_ble_eq_true rfl) (fun p e s m args below meth c ls hc hl hH => ?_)
  have hl : lv_has ls 1 [(0, .ref l0)] := hl
  exact wX17_kind_c12_b0 hk hJ hc l0 S _ _ ls 0 0 C N (by omega) (by omega) hH va_S.rf (lv_sub hl [0] rfl) hf
end
section
variable {r : Int32} {Sf : gS}
def fX19_kind (l0 : Nat) (S : gS) : gO Int32 :=
  bd (chk S l0 12) fun _ =>
  gb (fX17_kind_c12 l0 S) fun v1 S1 =>
  some (v1 + (nI 3), S1, 0, 0)
theorem wX19_kind_b0 (hk : rOK Rp) (hJ : JDK l G Rp) (hc : gC p s m args meth c G RX19 "kind" cX19_kind 1 (some .int)) (l0 : Nat) (S : gS) (H : Heap) (locs : List Loc) (ls : Array Slot) (kc ks C N : Nat) (hkc : kc + C ≤ mc) (hks : ks + N ≤ ms) (hH : hp G Rp S H) (hS : va_S G.2.2.2 s.heap H locs) (hl : lv_has ls 1 [(0, .ref l0)]) (hf : fX19_kind l0 S = some (r, Sf, C, N)) : W p l e (gR 3 80 mc ms) s m args below meth c H locs kc ks (gQ below G Rp (some (.int r)) Sf args s mc ms) (F0 m 0 ls []) := by
  obtain ⟨hx, hb, hr, hlk, hml, hown, hts, hE, hA, hnm⟩ := hc
  have hc : gC p s m args meth c G RX19 "kind" cX19_kind 1 (some .int) := ⟨hx, hb, hr, hlk, hml, hown, hts, hE, hA, hnm⟩
  unfold fX19_kind at hf
  refine lv_aload_n (pc := 0) hx hb dX19_kind_0 rfl (lv_at hl 0 rfl) ?_
  obtain ⟨_, ek1, hf⟩ := bdo hf
  obtain ⟨v1, S1, c1, n1, c2_1, n2_1, e1, hf, hC1, hN1⟩ := gbo hf
  refine g_callSU (pc := 1) (o := (some l0)) (b := l0) (As := []) (rest := []) (st1 := [.int v1]) (ci := 12) (q := (RX19, TX19, 5)) hc hk (mX17_kind_c12 hk hJ (l0 := l0) e1) (va_cwSU 0 hts (lw_app (lw_of5 q538 q3287 q539 q540 q145) (lw_meth q541)) rfl rfl rfl hsuX17_kind ⟨Nat.le_of_ble_eq_true rfl, Nat.le_of_ble_eq_true rfl⟩) rfl (chk_o ek1).choose_spec rfl rfl hl.1 rfl rfl (lv_room (Nat.le_of_ble_eq_true rfl)) dX19_kind_1 hH hS (by omega) (by omega) (fun H locs hH hS => ?_)
  have hkc : kc + c1 + c2_1 ≤ mc := by omega
  have hks : ks + n1 + n2_1 ≤ ms := by omega
  refine lv_iconst (pc := 4) (v := nI 3) hx hb dX19_kind_4 rfl ?_
  refine lv_iadd (pc := 5) hx hb dX19_kind_5 ?_
  exact g_iret (pc := 6) hx hb hr hlk hH hS hkc hks hf dX19_kind_6
theorem mX19_kind {l : Launch} {G : gG} {Rp : gM → gM → Nat → Prop} (hk : rOK Rp) (hJ : JDK l G Rp) {S S2 : gS} {r2 : Int32} {C N : Nat} {l0 : Nat} (hf : fX19_kind l0 S = some (r2, S2, C, N)) : gMet l yX19_kind cX19_kind 1 (some .int) 3 80 G Rp [.ref l0] S (some (.int r2)) S2 C N := by
  refine g_start (by decide) (Nat.le_of_ble_eq_true rfl) (fun p e s m args below meth c ls hc hl hH => ?_)
  have hl : lv_has ls 1 [(0, .ref l0)] := hl
  exact wX19_kind_b0 hk hJ hc l0 S _ _ ls 0 0 C N (by omega) (by omega) hH va_S.rf (lv_sub hl [0] rfl) hf
end
section
variable {r : Int32} {Sf : gS}
def fX12_kind_c13 (S : gS) : gO Int32 :=
  some (nI 0, S, 0, 0)
theorem wX12_kind_c13_b0 (hk : rOK Rp) (hJ : JDK l G Rp) (hc : gC p s m args meth c G RX12 "kind" cX12_kind 1 (some .int)) (S : gS) (H : Heap) (locs : List Loc) (ls : Array Slot) (kc ks C N : Nat) (hkc : kc + C ≤ mc) (hks : ks + N ≤ ms) (hH : hp G Rp S H) (hS : va_S G.2.2.2 s.heap H locs) (hl : lv_has ls 1 []) (hf : fX12_kind_c13  S = some (r, Sf, C, N)) : W p l e (gR 1 40 mc ms) s m args below meth c H locs kc ks (gQ below G Rp (some (.int r)) Sf args s mc ms) (F0 m 0 ls []) := by
  obtain ⟨hx, hb, hr, hlk, hml, hown, hts, hE, hA, hnm⟩ := hc
  have hc : gC p s m args meth c G RX12 "kind" cX12_kind 1 (some .int) := ⟨hx, hb, hr, hlk, hml, hown, hts, hE, hA, hnm⟩
  unfold fX12_kind_c13 at hf
  refine lv_iconst (pc := 0) (v := nI 0) hx hb dX12_kind_0 rfl ?_
  exact g_iret (pc := 1) hx hb hr hlk hH hS hkc hks hf dX12_kind_1
theorem mX12_kind_c13 {l : Launch} {G : gG} {Rp : gM → gM → Nat → Prop} (hk : rOK Rp) (hJ : JDK l G Rp) {S S2 : gS} {r2 : Int32} {C N : Nat} {l0 : Nat} (hf : fX12_kind_c13  S = some (r2, S2, C, N)) : gMet l yX12_kind cX12_kind 1 (some .int) 1 40 G Rp [.ref l0] S (some (.int r2)) S2 C N := by
  refine g_start (by decide) (Nat.le_of_ble_eq_true rfl) (fun p e s m args below meth c ls hc hl hH => ?_)
  have hl : lv_has ls 1 [(0, .ref l0)] := hl
  exact wX12_kind_c13_b0 hk hJ hc  S _ _ ls 0 0 C N (by omega) (by omega) hH va_S.rf (lv_sub hl [] rfl) hf
end
section
variable {r : Int32} {Sf : gS}
def fX13_kind_c13 (l0 : Nat) (S : gS) : gO Int32 :=
  bd (chk S l0 13) fun _ =>
  gb (fX12_kind_c13 S) fun v1 S1 =>
  some (v1 + (nI 2), S1, 0, 0)
theorem wX13_kind_c13_b0 (hk : rOK Rp) (hJ : JDK l G Rp) (hc : gC p s m args meth c G RX13 "kind" cX13_kind 1 (some .int)) (l0 : Nat) (S : gS) (H : Heap) (locs : List Loc) (ls : Array Slot) (kc ks C N : Nat) (hkc : kc + C ≤ mc) (hks : ks + N ≤ ms) (hH : hp G Rp S H) (hS : va_S G.2.2.2 s.heap H locs) (hl : lv_has ls 1 [(0, .ref l0)]) (hf : fX13_kind_c13 l0 S = some (r, Sf, C, N)) : W p l e (gR 2 60 mc ms) s m args below meth c H locs kc ks (gQ below G Rp (some (.int r)) Sf args s mc ms) (F0 m 0 ls []) := by
  obtain ⟨hx, hb, hr, hlk, hml, hown, hts, hE, hA, hnm⟩ := hc
  have hc : gC p s m args meth c G RX13 "kind" cX13_kind 1 (some .int) := ⟨hx, hb, hr, hlk, hml, hown, hts, hE, hA, hnm⟩
  unfold fX13_kind_c13 at hf
  refine lv_aload_n (pc := 0) hx hb dX13_kind_0 rfl (lv_at hl 0 rfl) ?_
  obtain ⟨_, ek1, hf⟩ := bdo hf
  obtain ⟨v1, S1, c1, n1, c2_1, n2_1, e1, hf, hC1, hN1⟩ := gbo hf
  refine g_callSU (pc := 1) (o := (some l0)) (b := l0) (As := []) (rest := []) (st1 := [.int v1]) (ci := 13) (q := (RX20, TX20, 4)) hc hk (mX12_kind_c13 hk hJ (l0 := l0) e1) (va_cwSU 0 hts (lw_app (lw_of5 q552 q534 q553 q533 q139) (lw_meth q544)) rfl rfl rfl hsuX12_kind ⟨Nat.le_of_ble_eq_true rfl, Nat.le_of_ble_eq_true rfl⟩) rfl (chk_o ek1).choose_spec rfl rfl hl.1 rfl rfl (lv_room (Nat.le_of_ble_eq_true rfl)) dX13_kind_1 hH hS (by omega) (by omega) (fun H locs hH hS => ?_)
  have hkc : kc + c1 + c2_1 ≤ mc := by omega
  have hks : ks + n1 + n2_1 ≤ ms := by omega
  refine lv_iconst (pc := 4) (v := nI 2) hx hb dX13_kind_4 rfl ?_
  refine lv_iadd (pc := 5) hx hb dX13_kind_5 ?_
  exact g_iret (pc := 6) hx hb hr hlk hH hS hkc hks hf dX13_kind_6
theorem mX13_kind_c13 {l : Launch} {G : gG} {Rp : gM → gM → Nat → Prop} (hk : rOK Rp) (hJ : JDK l G Rp) {S S2 : gS} {r2 : Int32} {C N : Nat} {l0 : Nat} (hf : fX13_kind_c13 l0 S = some (r2, S2, C, N)) : gMet l yX13_kind cX13_kind 1 (some .int) 2 60 G Rp [.ref l0] S (some (.int r2)) S2 C N := by
  refine g_start (by decide) (Nat.le_of_ble_eq_true rfl) (fun p e s m args below meth c ls hc hl hH => ?_)
  have hl : lv_has ls 1 [(0, .ref l0)] := hl
  exact wX13_kind_c13_b0 hk hJ hc l0 S _ _ ls 0 0 C N (by omega) (by omega) hH va_S.rf (lv_sub hl [0] rfl) hf
end
section
variable {r : Int32} {Sf : gS}
def fX20_kind (l0 : Nat) (S : gS) : gO Int32 :=
  bd (chk S l0 13) fun _ =>
  gb (fX13_kind_c13 l0 S) fun v1 S1 =>
  some (v1 + (nI 3), S1, 0, 0)
theorem wX20_kind_b0 (hk : rOK Rp) (hJ : JDK l G Rp) (hc : gC p s m args meth c G RX20 "kind" cX20_kind 1 (some .int)) (l0 : Nat) (S : gS) (H : Heap) (locs : List Loc) (ls : Array Slot) (kc ks C N : Nat) (hkc : kc + C ≤ mc) (hks : ks + N ≤ ms) (hH : hp G Rp S H) (hS : va_S G.2.2.2 s.heap H locs) (hl : lv_has ls 1 [(0, .ref l0)]) (hf : fX20_kind l0 S = some (r, Sf, C, N)) : W p l e (gR 3 80 mc ms) s m args below meth c H locs kc ks (gQ below G Rp (some (.int r)) Sf args s mc ms) (F0 m 0 ls []) := by
  obtain ⟨hx, hb, hr, hlk, hml, hown, hts, hE, hA, hnm⟩ := hc
  have hc : gC p s m args meth c G RX20 "kind" cX20_kind 1 (some .int) := ⟨hx, hb, hr, hlk, hml, hown, hts, hE, hA, hnm⟩
  unfold fX20_kind at hf
  refine lv_aload_n (pc := 0) hx hb dX20_kind_0 rfl (lv_at hl 0 rfl) ?_
  obtain ⟨_, ek1, hf⟩ := bdo hf
  obtain ⟨v1, S1, c1, n1, c2_1, n2_1, e1, hf, hC1, hN1⟩ := gbo hf
  refine g_callSU (pc := 1) (o := (some l0)) (b := l0) (As := []) (rest := []) (st1 := [.int v1]) (ci := 13) (q := (RX20, TX20, 4)) hc hk (mX13_kind_c13 hk hJ (l0 := l0) e1) (va_cwSU 0 hts (lw_app (lw_of5 q548 q3288 q549 q550 q140) (lw_meth q551)) rfl rfl rfl hsuX13_kind ⟨Nat.le_of_ble_eq_true rfl, Nat.le_of_ble_eq_true rfl⟩) rfl (chk_o ek1).choose_spec rfl rfl hl.1 rfl rfl (lv_room (Nat.le_of_ble_eq_true rfl)) dX20_kind_1 hH hS (by omega) (by omega) (fun H locs hH hS => ?_)
  have hkc : kc + c1 + c2_1 ≤ mc := by omega
  have hks : ks + n1 + n2_1 ≤ ms := by omega
  refine lv_iconst (pc := 4) (v := nI 3) hx hb dX20_kind_4 rfl ?_
  refine lv_iadd (pc := 5) hx hb dX20_kind_5 ?_
  exact g_iret (pc := 6) hx hb hr hlk hH hS hkc hks hf dX20_kind_6
theorem mX20_kind {l : Launch} {G : gG} {Rp : gM → gM → Nat → Prop} (hk : rOK Rp) (hJ : JDK l G Rp) {S S2 : gS} {r2 : Int32} {C N : Nat} {l0 : Nat} (hf : fX20_kind l0 S = some (r2, S2, C, N)) : gMet l yX20_kind cX20_kind 1 (some .int) 3 80 G Rp [.ref l0] S (some (.int r2)) S2 C N := by
  refine g_start (by decide) (Nat.le_of_ble_eq_true rfl) (fun p e s m args below meth c ls hc hl hH => ?_)
  have hl : lv_has ls 1 [(0, .ref l0)] := hl
  exact wX20_kind_b0 hk hJ hc l0 S _ _ ls 0 0 C N (by omega) (by omega) hH va_S.rf (lv_sub hl [0] rfl) hf
end
section
variable {r : Int32} {Sf : gS}
def fX12_kind_c14 (S : gS) : gO Int32 :=
  some (nI 0, S, 0, 0)
theorem wX12_kind_c14_b0 (hk : rOK Rp) (hJ : JDK l G Rp) (hc : gC p s m args meth c G RX12 "kind" cX12_kind 1 (some .int)) (S : gS) (H : Heap) (locs : List Loc) (ls : Array Slot) (kc ks C N : Nat) (hkc : kc + C ≤ mc) (hks : ks + N ≤ ms) (hH : hp G Rp S H) (hS : va_S G.2.2.2 s.heap H locs) (hl : lv_has ls 1 []) (hf : fX12_kind_c14  S = some (r, Sf, C, N)) : W p l e (gR 1 40 mc ms) s m args below meth c H locs kc ks (gQ below G Rp (some (.int r)) Sf args s mc ms) (F0 m 0 ls []) := by
  obtain ⟨hx, hb, hr, hlk, hml, hown, hts, hE, hA, hnm⟩ := hc
  have hc : gC p s m args meth c G RX12 "kind" cX12_kind 1 (some .int) := ⟨hx, hb, hr, hlk, hml, hown, hts, hE, hA, hnm⟩
  unfold fX12_kind_c14 at hf
  refine lv_iconst (pc := 0) (v := nI 0) hx hb dX12_kind_0 rfl ?_
  exact g_iret (pc := 1) hx hb hr hlk hH hS hkc hks hf dX12_kind_1
theorem mX12_kind_c14 {l : Launch} {G : gG} {Rp : gM → gM → Nat → Prop} (hk : rOK Rp) (hJ : JDK l G Rp) {S S2 : gS} {r2 : Int32} {C N : Nat} {l0 : Nat} (hf : fX12_kind_c14  S = some (r2, S2, C, N)) : gMet l yX12_kind cX12_kind 1 (some .int) 1 40 G Rp [.ref l0] S (some (.int r2)) S2 C N := by
  refine g_start (by decide) (Nat.le_of_ble_eq_true rfl) (fun p e s m args below meth c ls hc hl hH => ?_)
  have hl : lv_has ls 1 [(0, .ref l0)] := hl
  exact wX12_kind_c14_b0 hk hJ hc  S _ _ ls 0 0 C N (by omega) (by omega) hH va_S.rf (lv_sub hl [] rfl) hf
end
section
variable {r : Int32} {Sf : gS}
def fX13_kind_c14 (l0 : Nat) (S : gS) : gO Int32 :=
  bd (chk S l0 14) fun _ =>
  gb (fX12_kind_c14 S) fun v1 S1 =>
  some (v1 + (nI 2), S1, 0, 0)
theorem wX13_kind_c14_b0 (hk : rOK Rp) (hJ : JDK l G Rp) (hc : gC p s m args meth c G RX13 "kind" cX13_kind 1 (some .int)) (l0 : Nat) (S : gS) (H : Heap) (locs : List Loc) (ls : Array Slot) (kc ks C N : Nat) (hkc : kc + C ≤ mc) (hks : ks + N ≤ ms) (hH : hp G Rp S H) (hS : va_S G.2.2.2 s.heap H locs) (hl : lv_has ls 1 [(0, .ref l0)]) (hf : fX13_kind_c14 l0 S = some (r, Sf, C, N)) : W p l e (gR 2 60 mc ms) s m args below meth c H locs kc ks (gQ below G Rp (some (.int r)) Sf args s mc ms) (F0 m 0 ls []) := by
  obtain ⟨hx, hb, hr, hlk, hml, hown, hts, hE, hA, hnm⟩ := hc
  have hc : gC p s m args meth c G RX13 "kind" cX13_kind 1 (some .int) := ⟨hx, hb, hr, hlk, hml, hown, hts, hE, hA, hnm⟩
  unfold fX13_kind_c14 at hf
  refine lv_aload_n (pc := 0) hx hb dX13_kind_0 rfl (lv_at hl 0 rfl) ?_
  obtain ⟨_, ek1, hf⟩ := bdo hf
  obtain ⟨v1, S1, c1, n1, c2_1, n2_1, e1, hf, hC1, hN1⟩ := gbo hf
  refine g_callSU (pc := 1) (o := (some l0)) (b := l0) (As := []) (rest := []) (st1 := [.int v1]) (ci := 14) (q := (RX14, TX14, 4)) hc hk (mX12_kind_c14 hk hJ (l0 := l0) e1) (va_cwSU 0 hts (lw_app (lw_of5 q552 q534 q553 q533 q139) (lw_meth q544)) rfl rfl rfl hsuX12_kind ⟨Nat.le_of_ble_eq_true rfl, Nat.le_of_ble_eq_true rfl⟩) rfl (chk_o ek1).choose_spec rfl rfl hl.1 rfl rfl (lv_room (Nat.le_of_ble_eq_true rfl)) dX13_kind_1 hH hS (by omega) (by omega) (fun H locs hH hS => ?_)
  have hkc : kc + c1 + c2_1 ≤ mc := by omega
  have hks : ks + n1 + n2_1 ≤ ms := by omega
  refine lv_iconst (pc := 4) (v := nI 2) hx hb dX13_kind_4 rfl ?_
  refine lv_iadd (pc := 5) hx hb dX13_kind_5 ?_
  exact g_iret (pc := 6) hx hb hr hlk hH hS hkc hks hf dX13_kind_6
theorem mX13_kind_c14 {l : Launch} {G : gG} {Rp : gM → gM → Nat → Prop} (hk : rOK Rp) (hJ : JDK l G Rp) {S S2 : gS} {r2 : Int32} {C N : Nat} {l0 : Nat} (hf : fX13_kind_c14 l0 S = some (r2, S2, C, N)) : gMet l yX13_kind cX13_kind 1 (some .int) 2 60 G Rp [.ref l0] S (some (.int r2)) S2 C N := by
  refine g_start (by decide) (Nat.le_of_ble_eq_true rfl) (fun p e s m args below meth c ls hc hl hH => ?_)
  have hl : lv_has ls 1 [(0, .ref l0)] := hl
  exact wX13_kind_c14_b0 hk hJ hc l0 S _ _ ls 0 0 C N (by omega) (by omega) hH va_S.rf (lv_sub hl [0] rfl) hf
end
section
variable {r : Int32} {Sf : gS}
def fX14_kind (l0 : Nat) (S : gS) : gO Int32 :=
  bd (chk S l0 14) fun _ =>
  gb (fX13_kind_c14 l0 S) fun v1 S1 =>
  some (v1 + (nI 4), S1, 0, 0)
theorem wX14_kind_b0 (hk : rOK Rp) (hJ : JDK l G Rp) (hc : gC p s m args meth c G RX14 "kind" cX14_kind 1 (some .int)) (l0 : Nat) (S : gS) (H : Heap) (locs : List Loc) (ls : Array Slot) (kc ks C N : Nat) (hkc : kc + C ≤ mc) (hks : ks + N ≤ ms) (hH : hp G Rp S H) (hS : va_S G.2.2.2 s.heap H locs) (hl : lv_has ls 1 [(0, .ref l0)]) (hf : fX14_kind l0 S = some (r, Sf, C, N)) : W p l e (gR 3 80 mc ms) s m args below meth c H locs kc ks (gQ below G Rp (some (.int r)) Sf args s mc ms) (F0 m 0 ls []) := by
  obtain ⟨hx, hb, hr, hlk, hml, hown, hts, hE, hA, hnm⟩ := hc
  have hc : gC p s m args meth c G RX14 "kind" cX14_kind 1 (some .int) := ⟨hx, hb, hr, hlk, hml, hown, hts, hE, hA, hnm⟩
  unfold fX14_kind at hf
  refine lv_aload_n (pc := 0) hx hb dX14_kind_0 rfl (lv_at hl 0 rfl) ?_
  obtain ⟨_, ek1, hf⟩ := bdo hf
  obtain ⟨v1, S1, c1, n1, c2_1, n2_1, e1, hf, hC1, hN1⟩ := gbo hf
  refine g_callSU (pc := 1) (o := (some l0)) (b := l0) (As := []) (rest := []) (st1 := [.int v1]) (ci := 14) (q := (RX14, TX14, 4)) hc hk (mX13_kind_c14 hk hJ (l0 := l0) e1) (va_cwSU 0 hts (lw_app (lw_of5 q557 q3288 q558 q550 q140) (lw_meth q551)) rfl rfl rfl hsuX13_kind ⟨Nat.le_of_ble_eq_true rfl, Nat.le_of_ble_eq_true rfl⟩) rfl (chk_o ek1).choose_spec rfl rfl hl.1 rfl rfl (lv_room (Nat.le_of_ble_eq_true rfl)) dX14_kind_1 hH hS (by omega) (by omega) (fun H locs hH hS => ?_)
  have hkc : kc + c1 + c2_1 ≤ mc := by omega
  have hks : ks + n1 + n2_1 ≤ ms := by omega
  refine lv_iconst (pc := 4) (v := nI 4) hx hb dX14_kind_4 rfl ?_
  refine lv_iadd (pc := 5) hx hb dX14_kind_5 ?_
  exact g_iret (pc := 6) hx hb hr hlk hH hS hkc hks hf dX14_kind_6
theorem mX14_kind {l : Launch} {G : gG} {Rp : gM → gM → Nat → Prop} (hk : rOK Rp) (hJ : JDK l G Rp) {S S2 : gS} {r2 : Int32} {C N : Nat} {l0 : Nat} (hf : fX14_kind l0 S = some (r2, S2, C, N)) : gMet l yX14_kind cX14_kind 1 (some .int) 3 80 G Rp [.ref l0] S (some (.int r2)) S2 C N := by
  refine g_start (by decide) (Nat.le_of_ble_eq_true rfl) (fun p e s m args below meth c ls hc hl hH => ?_)
  have hl : lv_has ls 1 [(0, .ref l0)] := hl
  exact wX14_kind_b0 hk hJ hc l0 S _ _ ls 0 0 C N (by omega) (by omega) hH va_S.rf (lv_sub hl [0] rfl) hf
end
end
