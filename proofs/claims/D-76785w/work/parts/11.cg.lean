/-! printed by gen/cgen.py: methods of the component, lifted and walked (7) -/
set_option maxRecDepth 100000
set_option maxHeartbeats 4000000
section
variable {p : Program} {l : Launch} {e : Env} {s : State} {m : MethodId} {args : Array Value} {below : List Frame} {meth : Method} {c : Code} {G : gG} {Rp : gM → gM → Nat → Prop} {mc ms : Nat}
section
variable {r : Int32} {Sf : gS}
def fX0_held_b12 (G : gG) (l0 : Nat) (S : gS) : gO Int32 :=
  bd (chk S l0 0) fun _ =>
  gb (fX0_no l0 (-82) S) fun v1 S1 =>
  some (v1, S1, 0, 0)
theorem wX0_held_b12 (hk : rOK Rp) (hJ : JDK l G Rp) (hc : gC p s m args meth c G RX0 "held" cX0_held 4 (some .int)) (hnd : s.methodNamed? yX0_held = some m) (l0 : Nat) (S : gS) (H : Heap) (locs : List Loc) (ls : Array Slot) (kc ks C N : Nat) (hkc : kc + C ≤ mc) (hks : ks + N ≤ ms) (hH : hp G Rp S H) (hS : va_S G.2.2.2 s.heap H locs) (hl : lv_has ls 4 [(0, .ref l0)]) (hf : fX0_held_b12 G l0 S = some (r, Sf, C, N)) : W p l e (gR 16 3300 mc ms) s m args below meth c H locs kc ks (gQ below G Rp (some (.int r)) Sf args s mc ms) (F0 m 12 ls []) := by
  obtain ⟨hx, hb, hr, hlk, hml, hown, hts, hE, hA, hnm⟩ := hc
  have hc : gC p s m args meth c G RX0 "held" cX0_held 4 (some .int) := ⟨hx, hb, hr, hlk, hml, hown, hts, hE, hA, hnm⟩
  unfold fX0_held_b12 at hf
  refine lv_aload_n (pc := 12) hx hb dX0_held_12 rfl (lv_at hl 0 rfl) ?_
  refine lv_bipush (pc := 13) (v := -82) hx hb dX0_held_13 gkbm82 ?_
  obtain ⟨_, ek1, hf⟩ := bdo hf
  obtain ⟨v1, S1, c1, n1, c2_1, n2_1, e1, hf, hC1, hN1⟩ := gbo hf
  refine g_callV (pc := 15) (o := (some l0)) (b := l0) (As := [.int (-82)]) (rest := []) (st1 := [.int v1]) hc (mX0_no hk hJ (l0 := l0) (l1 := (-82)) e1) (cwV 1 hts (lw_V q398 q400 qs2 q97 q401) rfl rfl rfl hdX0_no ⟨Nat.le_of_ble_eq_true rfl, Nat.le_of_ble_eq_true rfl⟩) (g_recv hE hk hH (ci := 0) (q := (RX0, TX0, 7)) rfl (chk_o ek1).choose_spec) rfl rfl hl.1 rfl rfl (lv_room (Nat.le_of_ble_eq_true rfl)) dX0_held_15 hH hS (by omega) (by omega) (fun H locs hH hS => ?_)
  have hkc : kc + c1 + c2_1 ≤ mc := by omega
  have hks : ks + n1 + n2_1 ≤ ms := by omega
  exact g_iret (pc := 18) hx hb hr hlk hH hS hkc hks hf dX0_held_18
def fX0_held (G : gG) (l0 : Nat) (l1 : Int32) (l2 : Int32) (S : gS) : gO Int32 :=
  bd (chk S l0 0) fun _ =>
  gb (fX0_isConsumer l0 l1 S) fun v1 S1 =>
  if v1 = 0 then
    fX0_held_b12 G l0 S1
  else
    if 0 ≤ l2 then
      bd (rdR S1 l0 0 0) fun v4 =>
      bd (rdR S1 l0 0 0) fun v5 =>
      bd v5 fun a6 =>
      bd (rdR S1 a6 1 1) fun v7 =>
      bd v7 fun a9 =>
      gb (nAL_get a9 l1 S1) fun v8 S8 =>
      bd (ckc S8 v8 6) fun _ =>
      bd v4 fun a12 =>
      bd (chk S8 a12 1) fun _ =>
      gb (fX1_queueOf a12 v8 S8) fun v11 S11 =>
      nw S11 (cAi 23 1 (fun _ => l1)) 1 fun S13 =>
      bd v11 fun a15 =>
      bd (chk S13 a15 3) fun _ =>
      gb (fX8_get G a15 l2 (some S11.2) S13) fun v14 S14 =>
      if v14 = none then
        bd (chk S14 l0 0) fun _ =>
        gb (fX0_no l0 (-82) S14) fun v21 S21 =>
        some (v21, S21, 0, 0)
      else
        bd v14 fun a17 =>
        bd (rdR S14 a17 4 0) fun v18 =>
        bd v18 fun a19 =>
        bd (rdI S14 a19 5 0) fun v20 =>
        some (v20, S14, 0, 0)
    else
      fX0_held_b12 G l0 S1
theorem wX0_held_b0 (hk : rOK Rp) (hJ : JDK l G Rp) (hc : gC p s m args meth c G RX0 "held" cX0_held 4 (some .int)) (hnd : s.methodNamed? yX0_held = some m) (l0 : Nat) (l1 : Int32) (l2 : Int32) (S : gS) (H : Heap) (locs : List Loc) (ls : Array Slot) (kc ks C N : Nat) (hkc : kc + C ≤ mc) (hks : ks + N ≤ ms) (hH : hp G Rp S H) (hS : va_S G.2.2.2 s.heap H locs) (hl : lv_has ls 4 [(0, .ref l0), (1, .int l1), (2, .int l2)]) (hf : fX0_held G l0 l1 l2 S = some (r, Sf, C, N)) : W p l e (gR 16 3300 mc ms) s m args below meth c H locs kc ks (gQ below G Rp (some (.int r)) Sf args s mc ms) (F0 m 0 ls []) := by
  obtain ⟨hx, hb, hr, hlk, hml, hown, hts, hE, hA, hnm⟩ := hc
  have hc : gC p s m args meth c G RX0 "held" cX0_held 4 (some .int) := ⟨hx, hb, hr, hlk, hml, hown, hts, hE, hA, hnm⟩
  unfold fX0_held at hf
  refine lv_aload_n (pc := 0) hx hb dX0_held_0 rfl (lv_at hl 0 rfl) ?_
  refine lv_iload_n (pc := 1) hx hb dX0_held_1 rfl (lv_at hl 1 rfl) ?_
  obtain ⟨_, ek1, hf⟩ := bdo hf
  obtain ⟨v1, S1, c1, n1, c2_1, n2_1, e1, hf, hC1, hN1⟩ := gbo hf
  refine g_callV (pc := 2) (o := (some l0)) (b := l0) (As := [.int l1]) (rest := []) (st1 := [.int v1]) hc (mX0_isConsumer hk hJ (l0 := l0) (l1 := l1) e1) (cwV 1 hts (lw_V q1278 q1280 qs20 q97 q1281) rfl rfl rfl hdX0_isConsumer ⟨Nat.le_of_ble_eq_true rfl, Nat.le_of_ble_eq_true rfl⟩) (g_recv hE hk hH (ci := 0) (q := (RX0, TX0, 7)) rfl (chk_o ek1).choose_spec) rfl rfl hl.1 rfl rfl (lv_room (Nat.le_of_ble_eq_true rfl)) dX0_held_2 hH hS (by omega) (by omega) (fun H locs hH hS => ?_)
  have hkc : kc + c1 + c2_1 ≤ mc := by omega
  have hks : ks + n1 + n2_1 ≤ ms := by omega
  refine lv_if_eq (pc := 5) (tgt := 12) hx hb dX0_held_5 (by decide) (fun c2 => ?_) (fun c2 => ?_)
  · rw [if_pos c2] at hf
    exact wX0_held_b12 hk hJ hc hnd l0 S1 _ _ ls _ _ _ _ hkc hks hH hS (lv_sub hl [0] rfl) hf
  · rw [if_neg c2] at hf
    refine lv_iload_n (pc := 8) hx hb dX0_held_8 rfl (lv_at hl 2 rfl) ?_
    refine lv_if_ge (pc := 9) (tgt := 19) hx hb dX0_held_9 (by decide) (fun c3 => ?_) (fun c3 => ?_)
    · rw [if_pos c3] at hf
      refine lv_aload_n (pc := 19) hx hb dX0_held_19 rfl (lv_at hl 0 rfl) ?_
      obtain ⟨v4, e4, hf⟩ := bdo hf
      refine g_get (pc := 20) (o := (some l0)) (a := l0) (ci := 0) (k := 0) (v := va_rf v4) (C := RX0) (T := TX0) (N := 7) hx hb hts hown hE hk hH in_X0 rfl (by decide) (hts _ q272) (fun _ h9 => h9) rfl (rdR_o e4) dX0_held_20 ?_
      refine lv_aload_n (pc := 23) hx hb dX0_held_23 rfl (lv_at hl 0 rfl) ?_
      obtain ⟨v5, e5, hf⟩ := bdo hf
      refine g_get (pc := 24) (o := (some l0)) (a := l0) (ci := 0) (k := 0) (v := va_rf v5) (C := RX0) (T := TX0) (N := 7) hx hb hts hown hE hk hH in_X0 rfl (by decide) (hts _ q272) (fun _ h9 => h9) rfl (rdR_o e5) dX0_held_24 ?_
      obtain ⟨a6, ea6, hf⟩ := bdo hf
      obtain ⟨v7, e7, hf⟩ := bdo hf
      refine g_get (pc := 27) (o := v5) (a := a6) (ci := 1) (k := 1) (v := va_rf v7) (C := RX1) (T := TX1) (N := 7) hx hb hts hown hE hk hH in_X1 rfl (by decide) (hts _ q234) (fun _ h9 => h9) ea6 (rdR_o e7) dX0_held_27 ?_
      refine lv_iload_n (pc := 30) hx hb dX0_held_30 rfl (lv_at hl 1 rfl) ?_
      obtain ⟨a9, ea9, hf⟩ := bdo hf
      obtain ⟨v8, S8, c8, n8, c2_8, n2_8, e8, hf, hC8, hN8⟩ := gbo hf
      refine g_callV (pc := 31) (o := v7) (b := a9) (As := [.int l1]) (rest := [va_rf v4]) (st1 := [va_rf v8, va_rf v4]) hc (j_nAL_get hJ a9 l1 S1 v8 S8 c8 n8 e8) (cwV 1 hts (lw_V q1222 q1223 q1224 q101 q1225) rfl rfl rfl hdJ2_get ⟨Nat.le_of_ble_eq_true rfl, Nat.le_of_ble_eq_true rfl⟩) (j_recv hJ _ _ _ _ 0 _ _ hE hH hS (adtR (t := 0) (show bd _ _ = some _ from e8)).choose_spec) ea9 rfl hl.1 rfl rfl (lv_room (by simp [va_rf_cat, cat_i, cat_j, cat_r])) dX0_held_31 hH hS (by omega) (by omega) (fun H locs hH hS => ?_)
      have hkc : kc + c1 + c8 + c2_8 ≤ mc := by omega
      have hks : ks + n1 + n8 + n2_8 ≤ ms := by omega
      obtain ⟨_, e10, hf⟩ := bdo hf
      refine g_cast (pc := 34) (o := v8) (ci := 6) (C := RX10) (T := TX10) (N := 5) hx hb hts hown hE hk hH rfl q1238 e10 dX0_held_34 ?_
      obtain ⟨a12, ea12, hf⟩ := bdo hf
      obtain ⟨_, ek11, hf⟩ := bdo hf
      obtain ⟨v11, S11, c11, n11, c2_11, n2_11, e11, hf, hC11, hN11⟩ := gbo hf
      refine g_callV (pc := 37) (o := v4) (b := a12) (As := [va_rf v8]) (rest := []) (st1 := [va_rf v11]) hc (mX1_queueOf hk hJ (l0 := a12) (l1 := v8) e11) (cwV 1 hts (lw_V q1852 q1287 q1288 q98 q1289) rfl rfl rfl hdX1_queueOf ⟨Nat.le_of_ble_eq_true rfl, Nat.le_of_ble_eq_true rfl⟩) (g_recv hE hk hH (ci := 1) (q := (RX1, TX1, 7)) rfl (chk_o ek11).choose_spec) ea12 rfl hl.1 rfl rfl (lv_room (Nat.le_of_ble_eq_true rfl)) dX0_held_37 hH hS (by omega) (by omega) (fun H locs hH hS => ?_)
      have hkc : kc + c1 + c8 + c11 + c2_11 ≤ mc := by omega
      have hks : ks + n1 + n8 + n11 + n2_11 ≤ ms := by omega
      refine lv_iload_n (pc := 40) hx hb dX0_held_40 rfl (lv_at hl 2 rfl) ?_
      refine lv_iload_n (pc := 41) hx hb dX0_held_41 rfl (lv_at hl 1 rfl) ?_
      obtain ⟨S13, c2_13, n2_13, eS13, hf, hC13, hN13⟩ := nwo hf
      refine g_lamMake (pc := 42) (t := 23) (v := .int l1) (cel := cAi 23 1 (fun _ => l1)) (a0 := (1, .inl (fun _ => l1))) (x := lxW) (y := yX0_lambda_held_2) hx hb hml hts hE hA hk hH hS lC3 (gE_L hE).2.2.2.2.1 rfl (hts _ q3371) ly3 lx3 (static_ex (hts _ q2504)).choose_spec.choose_spec.1 (va_any rfl (gE_L hE).1.2) hnd lT3 rfl rfl rfl rfl rfl (fun _ => rfl) eS13 hl.1 (by simp [gR, va_rf_cat, cat_i, cat_j, cat_r]) (Nat.le_trans (by omega) hkc) (Nat.le_trans (by omega) hks) dX0_held_42 (fun H hH hS => ?_)
      have hkc : kc + c1 + c8 + c11 + 1 + c2_13 ≤ mc := by omega
      have hks : ks + n1 + n8 + n11 + 1 + n2_13 ≤ ms := by omega
      obtain ⟨a15, ea15, hf⟩ := bdo hf
      obtain ⟨_, ek14, hf⟩ := bdo hf
      obtain ⟨v14, S14, c14, n14, c2_14, n2_14, e14, hf, hC14, hN14⟩ := gbo hf
      refine g_callV (pc := 47) (o := v11) (b := a15) (As := [.int l2, .ref S11.2]) (rest := []) (st1 := [va_rf v14]) hc (mX8_get hk hJ (l0 := a15) (l1 := l2) (l2 := (some S11.2)) e14) (cwV 2 hts (lw_V q2506 q2507 q2508 q131 q2509) rfl rfl rfl hdX8_get ⟨Nat.le_of_ble_eq_true rfl, Nat.le_of_ble_eq_true rfl⟩) (g_recv hE hk hH (ci := 3) (q := (RX8, TX8, 13)) rfl (chk_o ek14).choose_spec) ea15 rfl hl.1 rfl rfl (lv_room (Nat.le_of_ble_eq_true rfl)) dX0_held_47 hH hS (by omega) (by omega) (fun H locs hH hS => ?_)
      have hkc : kc + c1 + c8 + c11 + 1 + c14 + c2_14 ≤ mc := by omega
      have hks : ks + n1 + n8 + n11 + 1 + n14 + n2_14 ≤ ms := by omega
      refine g_astore_n (pc := 50) (i := 3) (o := v14) (lv' := [(3, va_rf v14), (0, .ref l0), (1, .int l1), (2, .int l2)]) hx hb dX0_held_50 rfl hl (by decide) rfl (fun ls hl => ?_)
      refine g_aload_n (pc := 51) (o := v14) hx hb dX0_held_51 rfl (lv_at hl 0 rfl) ?_
      refine g_ifnonnull (pc := 52) (o := v14) (tgt := 64) hx hb dX0_held_52 (by decide) (fun c16 => ?_) (fun c16 => ?_)
      · rw [if_neg c16] at hf
        refine g_aload_n (pc := 64) (o := v14) hx hb dX0_held_64 rfl (lv_at hl 0 rfl) ?_
        obtain ⟨a17, ea17, hf⟩ := bdo hf
        obtain ⟨v18, e18, hf⟩ := bdo hf
        refine g_get (pc := 65) (o := v14) (a := a17) (ci := 4) (k := 0) (v := va_rf v18) (C := RX16) (T := TX16) (N := 6) hx hb hts hown hE hk hH in_X16 rfl (by decide) (hts _ q1712) (fun _ h9 => h9) ea17 (rdR_o e18) dX0_held_65 ?_
        obtain ⟨a19, ea19, hf⟩ := bdo hf
        obtain ⟨v20, e20, hf⟩ := bdo hf
        refine g_get (pc := 68) (o := v18) (a := a19) (ci := 5) (k := 0) (v := .int v20) (C := RX11) (T := TX11) (N := 6) hx hb hts hown hE hk hH in_X11 rfl (by decide) (hts _ q1549) (fun _ h9 => h9) ea19 (rdI_o e20) dX0_held_68 ?_
        exact g_iret (pc := 71) hx hb hr hlk hH hS hkc hks hf dX0_held_71
      · rw [if_pos c16] at hf
        refine lv_aload_n (pc := 55) hx hb dX0_held_55 rfl (lv_at hl 1 rfl) ?_
        refine lv_bipush (pc := 56) (v := -82) hx hb dX0_held_56 gkbm82 ?_
        obtain ⟨_, ek21, hf⟩ := bdo hf
        obtain ⟨v21, S21, c21, n21, c2_21, n2_21, e21, hf, hC21, hN21⟩ := gbo hf
        refine g_callV (pc := 58) (o := (some l0)) (b := l0) (As := [.int (-82)]) (rest := []) (st1 := [.int v21]) hc (mX0_no hk hJ (l0 := l0) (l1 := (-82)) e21) (cwV 1 hts (lw_V q398 q400 qs2 q97 q401) rfl rfl rfl hdX0_no ⟨Nat.le_of_ble_eq_true rfl, Nat.le_of_ble_eq_true rfl⟩) (g_recv hE hk hH (ci := 0) (q := (RX0, TX0, 7)) rfl (chk_o ek21).choose_spec) rfl rfl hl.1 rfl rfl (lv_room (Nat.le_of_ble_eq_true rfl)) dX0_held_58 hH hS (by omega) (by omega) (fun H locs hH hS => ?_)
        have hkc : kc + c1 + c8 + c11 + 1 + c14 + c21 + c2_21 ≤ mc := by omega
        have hks : ks + n1 + n8 + n11 + 1 + n14 + n21 + n2_21 ≤ ms := by omega
        refine lv_goto (pc := 61) (tgt := 71) hx hb dX0_held_61 (by decide) ?_
        exact g_iret (pc := 71) hx hb hr hlk hH hS hkc hks hf dX0_held_71
    · rw [if_neg c3] at hf
      exact wX0_held_b12 hk hJ hc hnd l0 S1 _ _ ls _ _ _ _ hkc hks hH hS (lv_sub hl [0] rfl) hf
theorem mX0_held {l : Launch} {G : gG} {Rp : gM → gM → Nat → Prop} (hk : rOK Rp) (hJ : JDK l G Rp) {S S2 : gS} {r2 : Int32} {C N : Nat} {l0 : Nat} {l1 : Int32} {l2 : Int32} (hf : fX0_held G l0 l1 l2 S = some (r2, S2, C, N)) : gMet l yX0_held cX0_held 4 (some .int) 16 3300 G Rp [.ref l0, .int l1, .int l2] S (some (.int r2)) S2 C N := by
  refine g_startN (by decide) (Nat.le_of_ble_eq_true rfl) (fun p e s m args below meth c ls hnd hc hl hH => ?_)
  have hl : lv_has ls 4 [(0, .ref l0), (1, .int l1), (2, .int l2)] := hl
  exact wX0_held_b0 hk hJ hc hnd l0 l1 l2 S _ _ ls 0 0 C N (by omega) (by omega) hH va_S.rf (lv_sub hl [0, 1, 2] rfl) hf
end
section
variable {r : Int32} {Sf : gS}
def fX0_holds (l0 : Nat) (l1 : Int32) (S : gS) : gO Int32 :=
  gb (fX0_isShelf l1 S) fun v1 S1 =>
  if v1 = 0 then
    some (-1, S1, 0, 0)
  else
    bd (rdR S1 l0 0 3) fun v3 =>
    bd v3 fun a4 =>
    bd (rdAq S1 a4 6 l1) fun v5 =>
    bd v5 fun a6 =>
    bd (rdR S1 a6 2 0) fun v7 =>
    if v7 = none then
      some (-1, S1, 0, 0)
    else
      bd (rdR S1 l0 0 3) fun v9 =>
      bd v9 fun a10 =>
      bd (rdAq S1 a10 6 l1) fun v11 =>
      bd v11 fun a12 =>
      bd (rdR S1 a12 2 0) fun v13 =>
      bd (insC S1 v13) fun v14 =>
      if v14 = 0 then
        gb (fX0_sortOf v13 S1) fun v16 S16 =>
        some (v16, S16, 0, 0)
      else
        bd (ckP S1 v13 0) fun _ =>
        bd v13 fun a19 =>
        bd (ckP S1 (some a19) 0) fun _ =>
        gb (fdkind a19 S1) fun v18 S18 =>
        some ((nI 10) + v18, S18, 0, 0)
theorem wX0_holds_b0 (hk : rOK Rp) (hJ : JDK l G Rp) (hc : gC p s m args meth c G RX0 "holds" cX0_holds 3 (some .int)) (l0 : Nat) (l1 : Int32) (S : gS) (H : Heap) (locs : List Loc) (ls : Array Slot) (kc ks C N : Nat) (hkc : kc + C ≤ mc) (hks : ks + N ≤ ms) (hH : hp G Rp S H) (hS : va_S G.2.2.2 s.heap H locs) (hl : lv_has ls 3 [(0, .ref l0), (1, .int l1)]) (hf : fX0_holds l0 l1 S = some (r, Sf, C, N)) : W p l e (gR 4 100 mc ms) s m args below meth c H locs kc ks (gQ below G Rp (some (.int r)) Sf args s mc ms) (F0 m 0 ls []) := by
  obtain ⟨hx, hb, hr, hlk, hml, hown, hts, hE, hA, hnm⟩ := hc
  have hc : gC p s m args meth c G RX0 "holds" cX0_holds 3 (some .int) := ⟨hx, hb, hr, hlk, hml, hown, hts, hE, hA, hnm⟩
  unfold fX0_holds at hf
  refine lv_iload_n (pc := 0) hx hb dX0_holds_0 rfl (lv_at hl 1 rfl) ?_
  obtain ⟨v1, S1, c1, n1, c2_1, n2_1, e1, hf, hC1, hN1⟩ := gbo hf
  refine g_callS (pc := 1) (As := [.int l1]) (rest := []) (st1 := [.int v1]) hc (mX0_isShelf hk hJ (l0 := l1) e1) (va_cwS 1 hts (lw_S q392 q393 q97 q394) rfl rfl rfl hdX0_isShelf ⟨Nat.le_of_ble_eq_true rfl, Nat.le_of_ble_eq_true rfl⟩) rfl hl.1 rfl rfl (lv_room (Nat.le_of_ble_eq_true rfl)) dX0_holds_1 hH hS (by omega) (by omega) (fun H locs hH hS => ?_)
  have hkc : kc + c1 + c2_1 ≤ mc := by omega
  have hks : ks + n1 + n2_1 ≤ ms := by omega
  refine lv_if_eq (pc := 4) (tgt := 19) hx hb dX0_holds_4 (by decide) (fun c2 => ?_) (fun c2 => ?_)
  · rw [if_pos c2] at hf
    refine lv_iconst (pc := 19) (v := -1) hx hb dX0_holds_19 rfl ?_
    exact g_iret (pc := 20) hx hb hr hlk hH hS hkc hks hf dX0_holds_20
  · rw [if_neg c2] at hf
    refine lv_aload_n (pc := 7) hx hb dX0_holds_7 rfl (lv_at hl 0 rfl) ?_
    obtain ⟨v3, e3, hf⟩ := bdo hf
    refine g_get (pc := 8) (o := (some l0)) (a := l0) (ci := 0) (k := 3) (v := va_rf v3) (C := RX0) (T := TX0) (N := 7) hx hb hts hown hE hk hH in_X0 rfl (by decide) (hts _ q275) (fun _ h9 => h9) rfl (rdR_o e3) dX0_holds_8 ?_
    refine lv_iload_n (pc := 11) hx hb dX0_holds_11 rfl (lv_at hl 1 rfl) ?_
    obtain ⟨a4, ea4, hf⟩ := bdo hf
    obtain ⟨v5, e5, hf⟩ := bdo hf
    refine g_aald (pc := 12) (o := v3) (a := a4) (t := 6) (t0 := 6) hx hb hE hk hH rfl ea4 e5 dX0_holds_12 ?_
    obtain ⟨a6, ea6, hf⟩ := bdo hf
    obtain ⟨v7, e7, hf⟩ := bdo hf
    refine g_get (pc := 13) (o := v5) (a := a6) (ci := 2) (k := 0) (v := va_rf v7) (C := RX2) (T := TX2) (N := 1) hx hb hts hown hE hk hH in_X2 rfl (by decide) (hts _ q267) (fun _ h9 => h9) ea6 (rdR_o e7) dX0_holds_13 ?_
    refine g_ifnonnull (pc := 16) (o := v7) (tgt := 21) hx hb dX0_holds_16 (by decide) (fun c8 => ?_) (fun c8 => ?_)
    · rw [if_neg c8] at hf
      refine lv_aload_n (pc := 21) hx hb dX0_holds_21 rfl (lv_at hl 0 rfl) ?_
      obtain ⟨v9, e9, hf⟩ := bdo hf
      refine g_get (pc := 22) (o := (some l0)) (a := l0) (ci := 0) (k := 3) (v := va_rf v9) (C := RX0) (T := TX0) (N := 7) hx hb hts hown hE hk hH in_X0 rfl (by decide) (hts _ q275) (fun _ h9 => h9) rfl (rdR_o e9) dX0_holds_22 ?_
      refine lv_iload_n (pc := 25) hx hb dX0_holds_25 rfl (lv_at hl 1 rfl) ?_
      obtain ⟨a10, ea10, hf⟩ := bdo hf
      obtain ⟨v11, e11, hf⟩ := bdo hf
      refine g_aald (pc := 26) (o := v9) (a := a10) (t := 6) (t0 := 6) hx hb hE hk hH rfl ea10 e11 dX0_holds_26 ?_
      obtain ⟨a12, ea12, hf⟩ := bdo hf
      obtain ⟨v13, e13, hf⟩ := bdo hf
      refine g_get (pc := 27) (o := v11) (a := a12) (ci := 2) (k := 0) (v := va_rf v13) (C := RX2) (T := TX2) (N := 1) hx hb hts hown hE hk hH in_X2 rfl (by decide) (hts _ q267) (fun _ h9 => h9) ea12 (rdR_o e13) dX0_holds_27 ?_
      refine g_astore_n (pc := 30) (i := 2) (o := v13) (lv' := [(2, va_rf v13), (0, .ref l0), (1, .int l1)]) hx hb dX0_holds_30 rfl hl (by decide) rfl (fun ls hl => ?_)
      refine g_aload_n (pc := 31) (o := v13) hx hb dX0_holds_31 rfl (lv_at hl 0 rfl) ?_
      obtain ⟨v14, e14, hf⟩ := bdo hf
      refine g_insC (pc := 32) (o := v13) hx hb hts hown hE hk hH q436 e14 dX0_holds_32 ?_
      refine lv_if_eq (pc := 35) (tgt := 51) hx hb dX0_holds_35 (by decide) (fun c15 => ?_) (fun c15 => ?_)
      · rw [if_pos c15] at hf
        refine g_aload_n (pc := 51) (o := v13) hx hb dX0_holds_51 rfl (lv_at hl 0 rfl) ?_
        obtain ⟨v16, S16, c16, n16, c2_16, n2_16, e16, hf, hC16, hN16⟩ := gbo hf
        refine g_callS (pc := 52) (As := [va_rf v13]) (rest := []) (st1 := [.int v16]) hc (mX0_sortOf hk hJ (l0 := v13) e16) (va_cwS 1 hts (lw_S q466 q467 q97 q468) rfl rfl rfl hdX0_sortOf ⟨Nat.le_of_ble_eq_true rfl, Nat.le_of_ble_eq_true rfl⟩) rfl hl.1 rfl rfl (lv_room (Nat.le_of_ble_eq_true rfl)) dX0_holds_52 hH hS (by omega) (by omega) (fun H locs hH hS => ?_)
        have hkc : kc + c1 + c16 + c2_16 ≤ mc := by omega
        have hks : ks + n1 + n16 + n2_16 ≤ ms := by omega
        exact g_iret (pc := 55) hx hb hr hlk hH hS hkc hks hf dX0_holds_55
      · rw [if_neg c15] at hf
        refine lv_bipush (pc := 38) (v := nI 10) hx hb dX0_holds_38 gkb10 ?_
        refine g_aload_n (pc := 40) (o := v13) hx hb dX0_holds_40 rfl (lv_at hl 0 rfl) ?_
        obtain ⟨_, e17, hf⟩ := bdo hf
        refine g_castP (pc := 41) (o := v13) (d := 0) hx hb hts hown hE hk hH q436 e17 dX0_holds_41 ?_
        obtain ⟨a19, ea19, hf⟩ := bdo hf
        obtain ⟨_, ek18, hf⟩ := bdo hf
        obtain ⟨v18, S18, c18, n18, c2_18, n2_18, e18, hf, hC18, hN18⟩ := gbo hf
        refine gP_kind (pc := 44) (o := v13) (b := a19) (As := []) (rest := [.int (nI 10)]) (st1 := [.int v18, .int (nI 10)]) hc hk hJ e18 ek18 q532 (Nat.le_of_ble_eq_true rfl) (Nat.le_of_ble_eq_true rfl) ea19 rfl hl.1 rfl rfl (lv_room (Nat.le_of_ble_eq_true rfl)) dX0_holds_44 hH hS (by omega) (by omega) (fun H locs hH hS => ?_)
        have hkc : kc + c1 + c18 + c2_18 ≤ mc := by omega
        have hks : ks + n1 + n18 + n2_18 ≤ ms := by omega
        refine lv_iadd (pc := 47) hx hb dX0_holds_47 ?_
        refine lv_goto (pc := 48) (tgt := 55) hx hb dX0_holds_48 (by decide) ?_
        exact g_iret (pc := 55) hx hb hr hlk hH hS hkc hks hf dX0_holds_55
    · rw [if_pos c8] at hf
      refine lv_iconst (pc := 19) (v := -1) hx hb dX0_holds_19 rfl ?_
      exact g_iret (pc := 20) hx hb hr hlk hH hS hkc hks hf dX0_holds_20
theorem mX0_holds {l : Launch} {G : gG} {Rp : gM → gM → Nat → Prop} (hk : rOK Rp) (hJ : JDK l G Rp) {S S2 : gS} {r2 : Int32} {C N : Nat} {l0 : Nat} {l1 : Int32} (hf : fX0_holds l0 l1 S = some (r2, S2, C, N)) : gMet l yX0_holds cX0_holds 3 (some .int) 4 100 G Rp [.ref l0, .int l1] S (some (.int r2)) S2 C N := by
  refine g_start (by decide) (Nat.le_of_ble_eq_true rfl) (fun p e s m args below meth c ls hc hl hH => ?_)
  have hl : lv_has ls 3 [(0, .ref l0), (1, .int l1)] := hl
  exact wX0_holds_b0 hk hJ hc l0 l1 S _ _ ls 0 0 C N (by omega) (by omega) hH va_S.rf (lv_sub hl [0, 1] rfl) hf
end
section
variable {r : Int32} {Sf : gS}
def fX0_image (l0 : Nat) (S : gS) : gO Int32 :=
  bd (rdR S l0 0 1) fun v1 =>
  bd (rdR S l0 0 0) fun v2 =>
  bd v1 fun a4 =>
  bd (chk S a4 1) fun _ =>
  gb (fX1_becomes a4 v2 S) fun v3 S3 =>
  bd (wrz S3 l0 0 2 (nI 1)) fun S5 =>
  some (nI 1, S5, 0, 0)
theorem wX0_image_b0 (hk : rOK Rp) (hJ : JDK l G Rp) (hc : gC p s m args meth c G RX0 "image" cX0_image 1 (some .int)) (l0 : Nat) (S : gS) (H : Heap) (locs : List Loc) (ls : Array Slot) (kc ks C N : Nat) (hkc : kc + C ≤ mc) (hks : ks + N ≤ ms) (hH : hp G Rp S H) (hS : va_S G.2.2.2 s.heap H locs) (hl : lv_has ls 1 [(0, .ref l0)]) (hf : fX0_image l0 S = some (r, Sf, C, N)) : W p l e (gR 18 609 mc ms) s m args below meth c H locs kc ks (gQ below G Rp (some (.int r)) Sf args s mc ms) (F0 m 0 ls []) := by
  obtain ⟨hx, hb, hr, hlk, hml, hown, hts, hE, hA, hnm⟩ := hc
  have hc : gC p s m args meth c G RX0 "image" cX0_image 1 (some .int) := ⟨hx, hb, hr, hlk, hml, hown, hts, hE, hA, hnm⟩
  unfold fX0_image at hf
  refine lv_aload_n (pc := 0) hx hb dX0_image_0 rfl (lv_at hl 0 rfl) ?_
  obtain ⟨v1, e1, hf⟩ := bdo hf
  refine g_get (pc := 1) (o := (some l0)) (a := l0) (ci := 0) (k := 1) (v := va_rf v1) (C := RX0) (T := TX0) (N := 7) hx hb hts hown hE hk hH in_X0 rfl (by decide) (hts _ q273) (fun _ h9 => h9) rfl (rdR_o e1) dX0_image_1 ?_
  refine lv_aload_n (pc := 4) hx hb dX0_image_4 rfl (lv_at hl 0 rfl) ?_
  obtain ⟨v2, e2, hf⟩ := bdo hf
  refine g_get (pc := 5) (o := (some l0)) (a := l0) (ci := 0) (k := 0) (v := va_rf v2) (C := RX0) (T := TX0) (N := 7) hx hb hts hown hE hk hH in_X0 rfl (by decide) (hts _ q272) (fun _ h9 => h9) rfl (rdR_o e2) dX0_image_5 ?_
  obtain ⟨a4, ea4, hf⟩ := bdo hf
  obtain ⟨_, ek3, hf⟩ := bdo hf
  obtain ⟨v3, S3, c3, n3, c2_3, n2_3, e3, hf, hC3, hN3⟩ := gbo hf
  refine g_callV (pc := 8) (o := v1) (b := a4) (As := [va_rf v2]) (rest := []) (st1 := [va_rf v3]) hc (mX1_becomes hk hJ (l0 := a4) (l1 := v2) e3) (cwV 1 hts (lw_V q2682 q2683 q2684 q98 q2685) rfl rfl rfl hdX1_becomes ⟨Nat.le_of_ble_eq_true rfl, Nat.le_of_ble_eq_true rfl⟩) (g_recv hE hk hH (ci := 1) (q := (RX1, TX1, 7)) rfl (chk_o ek3).choose_spec) ea4 rfl hl.1 rfl rfl (lv_room (Nat.le_of_ble_eq_true rfl)) dX0_image_8 hH hS (by omega) (by omega) (fun H locs hH hS => ?_)
  have hkc : kc + c3 + c2_3 ≤ mc := by omega
  have hks : ks + n3 + n2_3 ≤ ms := by omega
  refine lv_pop (pc := 11) hx hb dX0_image_11 (va_rf_cat _) ?_
  refine lv_aload_n (pc := 12) hx hb dX0_image_12 rfl (lv_at hl 0 rfl) ?_
  refine lv_iconst (pc := 13) (v := nI 1) hx hb dX0_image_13 rfl ?_
  obtain ⟨S5, e5, hf⟩ := bdo hf
  refine g_put (pc := 14) (o := (some l0)) (a := l0) (ci := 0) (k := 2) (v := .int (nI 1)) (C := RX0) (T := TX0) (N := 7) (ty := .boolean) hx hb hts hown hE hk hH hS rfl in_X0 tyX0_ok nmX0 rfl (by decide) (hts _ q274) (fun _ h9 => h9) rfl rfl (nar_z (wrz_o e5).1) (fit_z (wrz_o e5).1) rfl (wrz_o e5).2 dX0_image_14 (fun H locs hH hS => ?_)
  refine lv_iconst (pc := 17) (v := nI 1) hx hb dX0_image_17 rfl ?_
  exact g_iret (pc := 18) hx hb hr hlk hH hS hkc hks hf dX0_image_18
theorem mX0_image {l : Launch} {G : gG} {Rp : gM → gM → Nat → Prop} (hk : rOK Rp) (hJ : JDK l G Rp) {S S2 : gS} {r2 : Int32} {C N : Nat} {l0 : Nat} (hf : fX0_image l0 S = some (r2, S2, C, N)) : gMet l yX0_image cX0_image 1 (some .int) 18 609 G Rp [.ref l0] S (some (.int r2)) S2 C N := by
  refine g_start (by decide) (Nat.le_of_ble_eq_true rfl) (fun p e s m args below meth c ls hc hl hH => ?_)
  have hl : lv_has ls 1 [(0, .ref l0)] := hl
  exact wX0_image_b0 hk hJ hc l0 S _ _ ls 0 0 C N (by omega) (by omega) hH va_S.rf (lv_sub hl [0] rfl) hf
end
section
variable {r : Unit} {Sf : gS}
def fX2_init (l0 : Nat) (S : gS) : gO Unit :=
  some ((), S, 0, 0)
theorem wX2_init_b0 (hk : rOK Rp) (hJ : JDK l G Rp) (hc : gC p s m args meth c G RX2 "<init>" cX2_init 1 (none)) (l0 : Nat) (S : gS) (H : Heap) (locs : List Loc) (ls : Array Slot) (kc ks C N : Nat) (hkc : kc + C ≤ mc) (hks : ks + N ≤ ms) (hH : hp G Rp S H) (hS : va_S G.2.2.2 s.heap H locs) (hl : lv_has ls 1 [(0, .ref l0)]) (hf : fX2_init l0 S = some (r, Sf, C, N)) : W p l e (gR 1 40 mc ms) s m args below meth c H locs kc ks (gQ below G Rp none Sf args s mc ms) (F0 m 0 ls []) := by
  obtain ⟨hx, hb, hr, hlk, hml, hown, hts, hE, hA, hnm⟩ := hc
  have hc : gC p s m args meth c G RX2 "<init>" cX2_init 1 (none) := ⟨hx, hb, hr, hlk, hml, hown, hts, hE, hA, hnm⟩
  unfold fX2_init at hf
  refine lv_aload_n (pc := 0) hx hb dX2_init_0 rfl (lv_at hl 0 rfl) ?_
  refine W.objInit  hx hb hown (hts _ q266) (hts _ q169) (hts _ q170) rfl (by rw [hml]; exact hl.1) rfl dX2_init_1 (Nat.le_of_ble_eq_true rfl) (Nat.le_of_ble_eq_true rfl) ?_
  refine W.eq (g2 := F0 m 4 ls []) rfl ?_
  exact g_vret (pc := 4) hx hb hr hlk hH hS hkc hks hf dX2_init_4
theorem mX2_init {l : Launch} {G : gG} {Rp : gM → gM → Nat → Prop} (hk : rOK Rp) (hJ : JDK l G Rp) {S S2 : gS} {r2 : Unit} {C N : Nat} {l0 : Nat} (hf : fX2_init l0 S = some (r2, S2, C, N)) : gMet l yX2_init cX2_init 1 (none) 1 40 G Rp [.ref l0] S none S2 C N := by
  refine g_start (by decide) (Nat.le_of_ble_eq_true rfl) (fun p e s m args below meth c ls hc hl hH => ?_)
  have hl : lv_has ls 1 [(0, .ref l0)] := hl
  exact wX2_init_b0 hk hJ hc l0 S _ _ ls 0 0 C N (by omega) (by omega) hH va_S.rf (lv_sub hl [0] rfl) hf
end
section
variable {r : Unit} {Sf : gS}
def fX0_init_b54 : Nat → Nat → Int32 → gS → gO Unit
  | 0, _, _, _ => none
  | n + 1, l0, l1, S =>
    if (nI 8) ≤ l1 then
      some ((), S, 0, 0)
    else
      bd (rdR S l0 0 3) fun v2 =>
      nw S (cO 2 [.null]) 1 fun S3 =>
      gb (fX2_init S.2 S3) fun _ S4 =>
      bd v2 fun a5 =>
      bd (chk S4 S.2 2) fun _ =>
      bd (wrAq S4 a5 6 l1 (some S.2)) fun S6 =>
      fX0_init_b54 n l0 (l1 + (nI 1)) S6
theorem wX0_init_b54 (hk : rOK Rp) (hJ : JDK l G Rp) (hc : gC p s m args meth c G RX0 "<init>" cX0_init 2 (none)) : ∀ (n : Nat) (l0 : Nat) (l1 : Int32) (S : gS) (H : Heap) (locs : List Loc) (ls : Array Slot) (kc ks C N : Nat), kc + C ≤ mc → ks + N ≤ ms → hp G Rp S H → va_S G.2.2.2 s.heap H locs → lv_has ls 2 [(0, .ref l0), (1, .int l1)] → fX0_init_b54 n l0 l1 S = some (r, Sf, C, N) → W p l e (gR 16 560 mc ms) s m args below meth c H locs kc ks (gQ below G Rp none Sf args s mc ms) (F0 m 54 ls []) := by
  obtain ⟨hx, hb, hr, hlk, hml, hown, hts, hE, hA, hnm⟩ := hc
  have hc : gC p s m args meth c G RX0 "<init>" cX0_init 2 (none) := ⟨hx, hb, hr, hlk, hml, hown, hts, hE, hA, hnm⟩
  intro n
  induction n with
  | zero => intro l0 l1 S H locs ls kc ks C N _ _ _ _ _ hf; exact absurd hf (fun h => by cases h)
  | succ n ih =>
    intro l0 l1 S H locs ls kc ks C N hkc hks hH hS hl hf
    rw [fX0_init_b54] at hf
    refine lv_iload_n (pc := 54) hx hb dX0_init_54 rfl (lv_at hl 1 rfl) ?_
    refine lv_bipush (pc := 55) (v := nI 8) hx hb dX0_init_55 gkb8 ?_
    refine lv_icmp_ge (pc := 57) (tgt := 79) hx hb dX0_init_57 (by decide) (fun c1 => ?_) (fun c1 => ?_)
    · rw [if_pos c1] at hf
      exact g_vret (pc := 79) hx hb hr hlk hH hS hkc hks hf dX0_init_79
    · rw [if_neg c1] at hf
      refine lv_aload_n (pc := 60) hx hb dX0_init_60 rfl (lv_at hl 0 rfl) ?_
      obtain ⟨v2, e2, hf⟩ := bdo hf
      refine g_get (pc := 61) (o := (some l0)) (a := l0) (ci := 0) (k := 3) (v := va_rf v2) (C := RX0) (T := TX0) (N := 7) hx hb hts hown hE hk hH in_X0 rfl (by decide) (hts _ q275) (fun _ h9 => h9) rfl (rdR_o e2) dX0_init_61 ?_
      refine lv_iload_n (pc := 64) hx hb dX0_init_64 rfl (lv_at hl 1 rfl) ?_
      obtain ⟨S3, c2_3, n2_3, eS3, hf, hC3, hN3⟩ := nwo hf
      refine g_newo (pc := 65) (ci := 2) (C := RX2) (T := TX2) (N := 1) (fs := [.null]) hx hb hts hown hE hA hk hH hS in_X2 tyX2_ok q260 q262 q104 rfl (fun j hj => by rcases (show j = 0 by omega) with rfl; rfl) eS3 (Nat.le_trans (by omega) hkc) (Nat.le_trans (by omega) hks) dX0_init_65 (fun H hH hS => ?_)
      have hkc : kc + 1 + c2_3 ≤ mc := by omega
      have hks : ks + 1 + n2_3 ≤ ms := by omega
      refine lv_dup (pc := 68) hx hb dX0_init_68 rfl ?_
      obtain ⟨_, S4, c4, n4, c2_4, n2_4, e4, hf, hC4, hN4⟩ := gbo hf
      refine g_callIN (pc := 69) (o := (some S.2)) (b := S.2) (As := []) (rest := [.ref S.2, .int l1, va_rf v2]) hc (mX2_init hk hJ (l0 := S.2) e4) q263 q265 q104 q264 rfl hdiX2_init ⟨Nat.le_of_ble_eq_true rfl, Nat.le_of_ble_eq_true rfl⟩ rfl rfl hl.1 rfl (lv_room (by simp [va_rf_cat, cat_i, cat_j, cat_r])) dX0_init_69 hH hS (by omega) (by omega) (fun H locs hH hS => ?_)
      have hkc : kc + 1 + c4 + c2_4 ≤ mc := by omega
      have hks : ks + 1 + n4 + n2_4 ≤ ms := by omega
      obtain ⟨a5, ea5, hf⟩ := bdo hf
      obtain ⟨_, e7, hf⟩ := bdo hf
      obtain ⟨S6, e6, hf⟩ := bdo hf
      obtain ⟨fs7, f7⟩ := chk_o e7
      refine g_aast (pc := 72) (o := v2) (a := a5) (vo := (some S.2)) (v := S.2) (t := 6) (t0 := 6) (ci := 2) (q := (RX2, TX2, 1)) hx hb hE hk hH hS rfl rfl ea5 rfl f7 e6 dX0_init_72 (fun H locs hH hS => ?_)
      refine lv_iinc (pc := 73) (v := l1 + (nI 1)) (lv' := [(1, .int (l1 + (nI 1))), (0, .ref l0)]) hx hb dX0_init_73 hl (k := 1) rfl rfl (by decide) rfl (fun ls hl => ?_)
      refine lv_goto (pc := 76) (tgt := 54) hx hb dX0_init_76 (by decide) ?_
      exact ih l0 (l1 + (nI 1)) S6 _ _ ls _ _ _ _ hkc hks hH hS (lv_sub hl [1, 0] rfl) hf
def fX0_init (l0 : Nat) (S : gS) : gO Unit :=
  nw S (cO 1 [.null, .null, .null, .null, .null, .int 0, .int 0]) 7 fun S2 =>
  gb (fX1_init S.2 S2) fun _ S3 =>
  bd (wr S3 l0 0 0 (.ref S.2)) fun S4 =>
  nw S4 (cO 1 [.null, .null, .null, .null, .null, .int 0, .int 0]) 7 fun S5 =>
  gb (fX1_init S4.2 S5) fun _ S6 =>
  bd (wr S6 l0 0 1 (.ref S4.2)) fun S7 =>
  nwq S7 6 (nI 8) fun S8 =>
  bd (wr S8 l0 0 3 (.ref S7.2)) fun S9 =>
  nwa S9 0 (nI 250) fun S10 =>
  bd (wr S10 l0 0 4 (.ref S9.2)) fun S11 =>
  nwa S11 0 (nI 7) fun S12 =>
  bd (wr S12 l0 0 6 (.ref S11.2)) fun S13 =>
  fX0_init_b54 FU l0 (nI 0) S13
theorem wX0_init_b0 (hk : rOK Rp) (hJ : JDK l G Rp) (hc : gC p s m args meth c G RX0 "<init>" cX0_init 2 (none)) (l0 : Nat) (S : gS) (H : Heap) (locs : List Loc) (ls : Array Slot) (kc ks C N : Nat) (hkc : kc + C ≤ mc) (hks : ks + N ≤ ms) (hH : hp G Rp S H) (hS : va_S G.2.2.2 s.heap H locs) (hl : lv_has ls 2 [(0, .ref l0)]) (hf : fX0_init l0 S = some (r, Sf, C, N)) : W p l e (gR 16 560 mc ms) s m args below meth c H locs kc ks (gQ below G Rp none Sf args s mc ms) (F0 m 0 ls []) := by
  obtain ⟨hx, hb, hr, hlk, hml, hown, hts, hE, hA, hnm⟩ := hc
  have hc : gC p s m args meth c G RX0 "<init>" cX0_init 2 (none) := ⟨hx, hb, hr, hlk, hml, hown, hts, hE, hA, hnm⟩
  unfold fX0_init at hf
  refine lv_aload_n (pc := 0) hx hb dX0_init_0 rfl (lv_at hl 0 rfl) ?_
  refine W.objInit  hx hb hown (hts _ q168) (hts _ q169) (hts _ q170) rfl (by rw [hml]; exact hl.1) rfl dX0_init_1 (Nat.le_of_ble_eq_true rfl) (Nat.le_of_ble_eq_true rfl) ?_
  refine W.eq (g2 := F0 m 4 ls []) rfl ?_
  refine lv_aload_n (pc := 4) hx hb dX0_init_4 rfl (lv_at hl 0 rfl) ?_
  obtain ⟨S2, c2_2, n2_2, eS2, hf, hC2, hN2⟩ := nwo hf
  refine g_newo (pc := 5) (ci := 1) (C := RX1) (T := TX1) (N := 7) (fs := [.null, .null, .null, .null, .null, .int 0, .int 0]) hx hb hts hown hE hA hk hH hS in_X1 tyX1_ok q171 q172 q98 rfl (fun j hj => by rcases (show j = 0 ∨ j = 1 ∨ j = 2 ∨ j = 3 ∨ j = 4 ∨ j = 5 ∨ j = 6 by omega) with rfl | rfl | rfl | rfl | rfl | rfl | rfl <;> rfl) eS2 (Nat.le_trans (by omega) hkc) (Nat.le_trans (by omega) hks) dX0_init_5 (fun H hH hS => ?_)
  have hkc : kc + 1 + c2_2 ≤ mc := by omega
  have hks : ks + 7 + n2_2 ≤ ms := by omega
  refine lv_dup (pc := 8) hx hb dX0_init_8 rfl ?_
  obtain ⟨_, S3, c3, n3, c2_3, n2_3, e3, hf, hC3, hN3⟩ := gbo hf
  refine g_callIN (pc := 9) (o := (some S.2)) (b := S.2) (As := []) (rest := [.ref S.2, .ref l0]) hc (mX1_init hk hJ (l0 := S.2) e3) q173 q175 q98 q174 rfl hdiX1_init ⟨Nat.le_of_ble_eq_true rfl, Nat.le_of_ble_eq_true rfl⟩ rfl rfl hl.1 rfl (lv_room (Nat.le_of_ble_eq_true rfl)) dX0_init_9 hH hS (by omega) (by omega) (fun H locs hH hS => ?_)
  have hkc : kc + 1 + c3 + c2_3 ≤ mc := by omega
  have hks : ks + 7 + n3 + n2_3 ≤ ms := by omega
  obtain ⟨S4, e4, hf⟩ := bdo hf
  refine g_putF (pc := 12) (o := (some l0)) (a := l0) (ci := 0) (k := 0) (v := .ref S.2) (C := RX0) (T := TX0) (N := 7) (ty := .object "CreditBroker$World") hx hb hts hown hE hk hH hS rfl in_X0 tyX0_ok nmX0 rfl (by decide) (hts _ q272) (fun _ h9 => h9) rfl hnm rfl rfl rfl rfl rfl e4 dX0_init_12 (fun H locs hH hS => ?_)
  refine lv_aload_n (pc := 15) hx hb dX0_init_15 rfl (lv_at hl 0 rfl) ?_
  obtain ⟨S5, c2_5, n2_5, eS5, hf, hC5, hN5⟩ := nwo hf
  refine g_newo (pc := 16) (ci := 1) (C := RX1) (T := TX1) (N := 7) (fs := [.null, .null, .null, .null, .null, .int 0, .int 0]) hx hb hts hown hE hA hk hH hS in_X1 tyX1_ok q171 q172 q98 rfl (fun j hj => by rcases (show j = 0 ∨ j = 1 ∨ j = 2 ∨ j = 3 ∨ j = 4 ∨ j = 5 ∨ j = 6 by omega) with rfl | rfl | rfl | rfl | rfl | rfl | rfl <;> rfl) eS5 (Nat.le_trans (by omega) hkc) (Nat.le_trans (by omega) hks) dX0_init_16 (fun H hH hS => ?_)
  have hkc : kc + 1 + c3 + 1 + c2_5 ≤ mc := by omega
  have hks : ks + 7 + n3 + 7 + n2_5 ≤ ms := by omega
  refine lv_dup (pc := 19) hx hb dX0_init_19 rfl ?_
  obtain ⟨_, S6, c6, n6, c2_6, n2_6, e6, hf, hC6, hN6⟩ := gbo hf
  refine g_callIN (pc := 20) (o := (some S4.2)) (b := S4.2) (As := []) (rest := [.ref S4.2, .ref l0]) hc (mX1_init hk hJ (l0 := S4.2) e6) q173 q175 q98 q174 rfl hdiX1_init ⟨Nat.le_of_ble_eq_true rfl, Nat.le_of_ble_eq_true rfl⟩ rfl rfl hl.1 rfl (lv_room (Nat.le_of_ble_eq_true rfl)) dX0_init_20 hH hS (by omega) (by omega) (fun H locs hH hS => ?_)
  have hkc : kc + 1 + c3 + 1 + c6 + c2_6 ≤ mc := by omega
  have hks : ks + 7 + n3 + 7 + n6 + n2_6 ≤ ms := by omega
  obtain ⟨S7, e7, hf⟩ := bdo hf
  refine g_putF (pc := 23) (o := (some l0)) (a := l0) (ci := 0) (k := 1) (v := .ref S4.2) (C := RX0) (T := TX0) (N := 7) (ty := .object "CreditBroker$World") hx hb hts hown hE hk hH hS rfl in_X0 tyX0_ok nmX0 rfl (by decide) (hts _ q273) (fun _ h9 => h9) rfl hnm rfl rfl rfl rfl rfl e7 dX0_init_23 (fun H locs hH hS => ?_)
  refine lv_aload_n (pc := 26) hx hb dX0_init_26 rfl (lv_at hl 0 rfl) ?_
  refine lv_bipush (pc := 27) (v := nI 8) hx hb dX0_init_27 gkb8 ?_
  obtain ⟨hn8, hi8, S8, c2_8, n2_8, eS8, hf, hC8, hN8⟩ := nwqo hf
  refine g_newqo (pc := 29) (C := "CreditBroker$Sheet") (t := 6) (t0 := 6) hx hb hts hown hE hA hk hH hS q260 q261 rfl hn8 hi8 eS8 (Nat.le_trans (by omega) hkc) (Nat.le_trans (by omega) hks) dX0_init_29 (fun H hH hS => ?_)
  have hkc : kc + 1 + c3 + 1 + c6 + 1 + c2_8 ≤ mc := by omega
  have hks : ks + 7 + n3 + 7 + n6 + (nI 8).toNatClampNeg + n2_8 ≤ ms := by omega
  obtain ⟨S9, e9, hf⟩ := bdo hf
  refine g_putF (pc := 32) (o := (some l0)) (a := l0) (ci := 0) (k := 3) (v := .ref S7.2) (C := RX0) (T := TX0) (N := 7) (ty := tyX0 3) hx hb hts hown hE hk hH hS rfl in_X0 tyX0_ok nmX0 rfl (by decide) (hts _ q275) (fun _ h9 => h9) rfl hnm rfl rfl rfl rfl rfl e9 dX0_init_32 (fun H locs hH hS => ?_)
  refine lv_aload_n (pc := 35) hx hb dX0_init_35 rfl (lv_at hl 0 rfl) ?_
  refine lv_sipush (pc := 36) (v := nI 250) hx hb dX0_init_36 gks250 ?_
  obtain ⟨hn10, hi10, S10, c2_10, n2_10, eS10, hf, hC10, hN10⟩ := nwao hf
  refine g_newa (pc := 39) (atype := .int) (ty := .int) (t := 0) hx hb hts hE hA hk hH hS q271 rfl rfl rfl (fun _ h => by cases h) hn10 hi10 eS10 (by decide) (Nat.le_trans (by omega) hkc) (Nat.le_trans (by omega) hks) dX0_init_39 (fun H hH hS => ?_)
  have hkc : kc + 1 + c3 + 1 + c6 + 1 + 1 + c2_10 ≤ mc := by omega
  have hks : ks + 7 + n3 + 7 + n6 + (nI 8).toNatClampNeg + (nI 250).toNatClampNeg + n2_10 ≤ ms := by omega
  obtain ⟨S11, e11, hf⟩ := bdo hf
  refine g_putF (pc := 41) (o := (some l0)) (a := l0) (ci := 0) (k := 4) (v := .ref S9.2) (C := RX0) (T := TX0) (N := 7) (ty := tyX0 4) hx hb hts hown hE hk hH hS rfl in_X0 tyX0_ok nmX0 rfl (by decide) (hts _ q277) (fun _ h9 => h9) rfl hnm rfl rfl rfl rfl rfl e11 dX0_init_41 (fun H locs hH hS => ?_)
  refine lv_aload_n (pc := 44) hx hb dX0_init_44 rfl (lv_at hl 0 rfl) ?_
  refine lv_bipush (pc := 45) (v := nI 7) hx hb dX0_init_45 gkb7 ?_
  obtain ⟨hn12, hi12, S12, c2_12, n2_12, eS12, hf, hC12, hN12⟩ := nwao hf
  refine g_newa (pc := 47) (atype := .int) (ty := .int) (t := 0) hx hb hts hE hA hk hH hS q271 rfl rfl rfl (fun _ h => by cases h) hn12 hi12 eS12 (by decide) (Nat.le_trans (by omega) hkc) (Nat.le_trans (by omega) hks) dX0_init_47 (fun H hH hS => ?_)
  have hkc : kc + 1 + c3 + 1 + c6 + 1 + 1 + 1 + c2_12 ≤ mc := by omega
  have hks : ks + 7 + n3 + 7 + n6 + (nI 8).toNatClampNeg + (nI 250).toNatClampNeg + (nI 7).toNatClampNeg + n2_12 ≤ ms := by omega
  obtain ⟨S13, e13, hf⟩ := bdo hf
  refine g_putF (pc := 49) (o := (some l0)) (a := l0) (ci := 0) (k := 6) (v := .ref S11.2) (C := RX0) (T := TX0) (N := 7) (ty := tyX0 6) hx hb hts hown hE hk hH hS rfl in_X0 tyX0_ok nmX0 rfl (by decide) (hts _ q280) (fun _ h9 => h9) rfl hnm rfl rfl rfl rfl rfl e13 dX0_init_49 (fun H locs hH hS => ?_)
  refine lv_iconst (pc := 52) (v := nI 0) hx hb dX0_init_52 rfl ?_
  refine lv_istore_n (pc := 53) (i := 1) (lv' := [(1, .int (nI 0)), (0, .ref l0)]) hx hb dX0_init_53 rfl hl (by decide) rfl (fun ls hl => ?_)
  exact wX0_init_b54 hk hJ hc FU l0 (nI 0) S13 _ _ ls _ _ _ _ hkc hks hH hS (lv_sub hl [1, 0] rfl) hf
theorem mX0_init {l : Launch} {G : gG} {Rp : gM → gM → Nat → Prop} (hk : rOK Rp) (hJ : JDK l G Rp) {S S2 : gS} {r2 : Unit} {C N : Nat} {l0 : Nat} (hf : fX0_init l0 S = some (r2, S2, C, N)) : gMet l yX0_init cX0_init 2 (none) 16 560 G Rp [.ref l0] S none S2 C N := by
  refine g_start (by decide) (Nat.le_of_ble_eq_true rfl) (fun p e s m args below meth c ls hc hl hH => ?_)
  have hl : lv_has ls 2 [(0, .ref l0)] := hl
  exact wX0_init_b0 hk hJ hc l0 S _ _ ls 0 0 C N (by omega) (by omega) hH va_S.rf (lv_sub hl [0] rfl) hf
end
section
variable {P : Option Nat ⊕ gTh → gS → Prop}
def fX0_toldIn_b21 (G : gG) (j : Nat) (S : gS) : gX (Option Nat) :=
  nw S (cO 28 [.null, .null, .null, .null, .null, .int 0, .int 0]) 7 fun S1 =>
  gb (fX4_init G S.2 (-82) S1) fun _ S2 =>
  bd (chk S2 S.2 28) fun _ =>
  some (.inr ("CreditBroker$Refused", some S.2), S2, 0, 0)
theorem wX0_toldIn_b21 (hk : rOK Rp) (hJ : JDK l G Rp) (hst : l.stackTraces = false) (htb : c.exceptionTable.toList = []) (hc : gC p s m args meth c G RX0 "toldIn" cX0_toldIn 6 (some (.array .long))) (S : gS) (H : Heap) (locs : List Loc) (ls : Array Slot) (kc ks C N : Nat) (hkc : kc + C ≤ mc) (hks : ks + N ≤ ms) (hH : hp G Rp S H) (hS : va_S G.2.2.2 s.heap H locs) (hl : lv_has ls 6 []) (hf : (∀ j : Nat, oky C N (fX0_toldIn_b21 G j  S) P)) : W p l e (gR 14 10544 mc ms) s m args below meth c H locs kc ks (gQJ below G Rp iR P args s mc ms) (F0 m 21 ls []) := by
  obtain ⟨hx, hb, hr, hlk, hml, hown, hts, hE, hA, hnm⟩ := hc
  have hc : gC p s m args meth c G RX0 "toldIn" cX0_toldIn 6 (some (.array .long)) := ⟨hx, hb, hr, hlk, hml, hown, hts, hE, hA, hnm⟩
  simp only [fX0_toldIn_b21] at hf
  obtain ⟨S1, c2_1, n2_1, eS1, hf, hC1, hN1⟩ := nwJ hf
  refine g_newo (pc := 21) (ci := 28) (C := RX4) (T := TX4) (N := 7) (fs := [.null, .null, .null, .null, .null, .int 0, .int 0]) hx hb hts hown hE hA hk hH hS in_X4 tyX4_ok q412 q437 q113 rfl (fun j hj => by rcases (show j = 0 ∨ j = 1 ∨ j = 2 ∨ j = 3 ∨ j = 4 ∨ j = 5 ∨ j = 6 by omega) with rfl | rfl | rfl | rfl | rfl | rfl | rfl <;> rfl) eS1 (Nat.le_trans (by omega) hkc) (Nat.le_trans (by omega) hks) dX0_toldIn_21 (fun H hH hS => ?_)
  have hkc : kc + 1 + c2_1 ≤ mc := by omega
  have hks : ks + 7 + n2_1 ≤ ms := by omega
  refine lv_dup (pc := 24) hx hb dX0_toldIn_24 rfl ?_
  refine lv_bipush (pc := 25) (v := -82) hx hb dX0_toldIn_25 gkbm82 ?_
  obtain ⟨_, S2, c2, n2, c2_2, n2_2, e2, hf, hC2, hN2⟩ := gbJ hf
  refine g_callI (pc := 27) (o := (some S.2)) (b := S.2) (As := [.int (-82)]) (rest := [.ref S.2]) hc (mX4_init hk hJ (l0 := S.2) (l1 := (-82)) e2) (cwI 1 hts (lw_meth q447) rfl rfl rfl (hts _ q113) (hts _ q445) (hts _ q446) rfl hdiX4_init ⟨Nat.le_of_ble_eq_true rfl, Nat.le_of_ble_eq_true rfl⟩) rfl rfl hl.1 rfl (lv_room (Nat.le_of_ble_eq_true rfl)) dX0_toldIn_27 hH hS (by omega) (by omega) (fun H locs hH hS => ?_)
  have hkc : kc + 1 + c2 + c2_2 ≤ mc := by omega
  have hks : ks + 7 + n2 + n2_2 ≤ ms := by omega
  obtain ⟨_, e3, hf⟩ := bdJ hf
  refine g_athrow (pc := 30) (o := some S.2) (ci := 28) (cl := (RX4, TX4, 7)) hx hb hE hk hH rfl rfl (chk_o e3).choose_spec dX0_toldIn_30 (fun ce h1 h2 h3 => ?_)
  exact g_outJ (E := "CreditBroker$Refused") (x := some S.2) (by rw [htb]; decide) hlk ⟨rfl, hH⟩ hS (by omega) (by omega) h1 h2 h3 hf
def fX0_toldIn (G : gG) (j : Nat) (l0 : Nat) (l1 : Int32) (l2 : Int32) (l3 : Int32) (l4 : Int32) (l5 : Int32) (S : gS) : gX (Option Nat) :=
  if l1 = 0 then
    fX0_toldIn_b21 G j  S
  else
    gb (fX0_isShelf l2 S) fun v2 S2 =>
    if v2 = 0 then
      fX0_toldIn_b21 G j  S2
    else
      gb (fX0_isIn l3 (nI 0) l4 S2) fun v4 S4 =>
      if v4 = 0 then
        fX0_toldIn_b21 G j  S4
      else
        bd (chk S4 l0 0) fun _ =>
        gb (fX0_rowIn G l0 l2 S4) fun r6 S6 => match r6 with
        | .inl v6 =>
          gbc 10 2000 (fX0_elementsIn G j v6 (l5 * l3) S6) fun r7 S7 => match r7 with
          | .inl v7 =>
            some (.inl v7, S7, 0, 0)
          | .inr t7 => some (.inr t7, S7, 0, 0)
        | .inr t6 => some (.inr t6, S6, 0, 0)
theorem wX0_toldIn_b0 (hk : rOK Rp) (hJ : JDK l G Rp) (hst : l.stackTraces = false) (htb : c.exceptionTable.toList = []) (hc : gC p s m args meth c G RX0 "toldIn" cX0_toldIn 6 (some (.array .long))) (l0 : Nat) (l1 : Int32) (l2 : Int32) (l3 : Int32) (l4 : Int32) (l5 : Int32) (S : gS) (H : Heap) (locs : List Loc) (ls : Array Slot) (kc ks C N : Nat) (hkc : kc + C ≤ mc) (hks : ks + N ≤ ms) (hH : hp G Rp S H) (hS : va_S G.2.2.2 s.heap H locs) (hl : lv_has ls 6 [(0, .ref l0), (1, .int l1), (2, .int l2), (3, .int l3), (4, .int l4), (5, .int l5)]) (hf : (∀ j : Nat, oky C N (fX0_toldIn G j l0 l1 l2 l3 l4 l5 S) P)) : W p l e (gR 14 10544 mc ms) s m args below meth c H locs kc ks (gQJ below G Rp iR P args s mc ms) (F0 m 0 ls []) := by
  obtain ⟨hx, hb, hr, hlk, hml, hown, hts, hE, hA, hnm⟩ := hc
  have hc : gC p s m args meth c G RX0 "toldIn" cX0_toldIn 6 (some (.array .long)) := ⟨hx, hb, hr, hlk, hml, hown, hts, hE, hA, hnm⟩
  simp only [fX0_toldIn] at hf
  refine lv_iload_n (pc := 0) hx hb dX0_toldIn_0 rfl (lv_at hl 1 rfl) ?_
  refine lv_if_eq (pc := 1) (tgt := 21) hx hb dX0_toldIn_1 (by decide) (fun c1 => ?_) (fun c1 => ?_)
  · simp only [if_pos c1] at hf
    exact wX0_toldIn_b21 hk hJ hst htb hc  S _ _ ls _ _ _ _ hkc hks hH hS (lv_sub hl [] rfl) hf
  · simp only [if_neg c1] at hf
    refine lv_iload_n (pc := 4) hx hb dX0_toldIn_4 rfl (lv_at hl 2 rfl) ?_
    obtain ⟨v2, S2, c2, n2, c2_2, n2_2, e2, hf, hC2, hN2⟩ := gbJ hf
    refine g_callS (pc := 5) (As := [.int l2]) (rest := []) (st1 := [.int v2]) hc (mX0_isShelf hk hJ (l0 := l2) e2) (va_cwS 1 hts (lw_S q392 q393 q97 q394) rfl rfl rfl hdX0_isShelf ⟨Nat.le_of_ble_eq_true rfl, Nat.le_of_ble_eq_true rfl⟩) rfl hl.1 rfl rfl (lv_room (Nat.le_of_ble_eq_true rfl)) dX0_toldIn_5 hH hS (by omega) (by omega) (fun H locs hH hS => ?_)
    have hkc : kc + c2 + c2_2 ≤ mc := by omega
    have hks : ks + n2 + n2_2 ≤ ms := by omega
    refine lv_if_eq (pc := 8) (tgt := 21) hx hb dX0_toldIn_8 (by decide) (fun c3 => ?_) (fun c3 => ?_)
    · simp only [if_pos c3] at hf
      exact wX0_toldIn_b21 hk hJ hst htb hc  S2 _ _ ls _ _ _ _ hkc hks hH hS (lv_sub hl [] rfl) hf
    · simp only [if_neg c3] at hf
      refine lv_iload_n (pc := 11) hx hb dX0_toldIn_11 rfl (lv_at hl 3 rfl) ?_
      refine lv_iconst (pc := 12) (v := nI 0) hx hb dX0_toldIn_12 rfl ?_
      refine lv_iload (pc := 13) hx hb dX0_toldIn_13 (lv_at hl 4 rfl) ?_
      obtain ⟨v4, S4, c4, n4, c2_4, n2_4, e4, hf, hC4, hN4⟩ := gbJ hf
      refine g_callS (pc := 15) (As := [.int l3, .int (nI 0), .int l4]) (rest := []) (st1 := [.int v4]) hc (mX0_isIn hk hJ (l0 := l3) (l1 := (nI 0)) (l2 := l4) e4) (va_cwS 3 hts (lw_S q395 q396 q97 q397) rfl rfl rfl hdX0_isIn ⟨Nat.le_of_ble_eq_true rfl, Nat.le_of_ble_eq_true rfl⟩) rfl hl.1 rfl rfl (lv_room (Nat.le_of_ble_eq_true rfl)) dX0_toldIn_15 hH hS (by omega) (by omega) (fun H locs hH hS => ?_)
      have hkc : kc + c2 + c4 + c2_4 ≤ mc := by omega
      have hks : ks + n2 + n4 + n2_4 ≤ ms := by omega
      refine lv_if_ne (pc := 18) (tgt := 31) hx hb dX0_toldIn_18 (by decide) (fun c5 => ?_) (fun c5 => ?_)
      · simp only [if_neg c5] at hf
        refine lv_aload_n (pc := 31) hx hb dX0_toldIn_31 rfl (lv_at hl 0 rfl) ?_
        refine lv_iload_n (pc := 32) hx hb dX0_toldIn_32 rfl (lv_at hl 2 rfl) ?_
        obtain ⟨_, ek6, hf⟩ := bdJ hf
        obtain ⟨r6, S6, c6, n6, c2_6, n2_6, e6, hf, hC6, hN6⟩ := gbJ hf
        refine g_callVJ (pc := 33) (ι := iR) (o := (some l0)) (b := l0) (As := [.int l2]) (rest := []) hc (mX0_rowIn hk hJ hst (l0 := l0) (l1 := l2) e6) (cwV 1 hts (lw_V q432 q434 qs3 q97 q435) rfl rfl rfl hdX0_rowIn ⟨Nat.le_of_ble_eq_true rfl, Nat.le_of_ble_eq_true rfl⟩) (g_recv hE hk hH (ci := 0) (q := (RX0, TX0, 7)) rfl (chk_o ek6).choose_spec) rfl rfl hl.1 rfl (lv_room (Nat.le_of_ble_eq_true rfl)) dX0_toldIn_33 hH hS (by omega) (by omega) (fun v6 S9_6 H locs hP6 hH hS => ?_) (fun E6 x6 S9_6 q6 ce6 H locs hP6 hHx hS h1_6 h2_6 h3_6 => ?_)
        · obtain ⟨rfl, rfl⟩ := hP6
          try dsimp only at hf
          have hkc : kc + c2 + c4 + c6 + c2_6 ≤ mc := by omega
          have hks : ks + n2 + n4 + n6 + n2_6 ≤ ms := by omega
          refine W.eq (g2 := F0 m 36 ls [va_rf v6]) rfl ?_
          refine lv_iload (pc := 36) hx hb dX0_toldIn_36 (lv_at hl 5 rfl) ?_
          refine lv_iload_n (pc := 38) hx hb dX0_toldIn_38 rfl (lv_at hl 3 rfl) ?_
          refine lv_imul (pc := 39) hx hb dX0_toldIn_39 ?_
          obtain ⟨c2_7, n2_7, hg7, hC7, hN7⟩ := gbcJ hf
          refine g_callSWJ (pc := 40) (ι := iR) (As := [va_rf v6, .int (l5 * l3)]) (rest := []) hc (mX0_elementsIn hk hJ hst (l0 := v6) (l1 := (l5 * l3)) hg7) (vx_cwSW 2 hts (lw_SW q2762 q2763 q97 q2764) rfl rfl rfl hdX0_elementsIn ⟨Nat.le_of_ble_eq_true rfl, Nat.le_of_ble_eq_true rfl⟩) rfl hl.1 rfl (lv_room (Nat.le_of_ble_eq_true rfl)) dX0_toldIn_40 hH hS (by omega) (by omega) (fun v7 S7 H locs hP7 hH hS => ?_) (fun E7 x7 S7 q7 ce7 H locs hP7 hHx hS h1_7 h2_7 h3_7 => ?_)
          · obtain ⟨j7, hf7⟩ := hP7
            have hf : ∀ _ : Nat, oky _ _ _ P := fun _ => hf7
            try dsimp only at hf
            have hkc : kc + c2 + c4 + c6 + 10 + c2_7 ≤ mc := by omega
            have hks : ks + n2 + n4 + n6 + 2000 + n2_7 ≤ ms := by omega
            refine W.eq (g2 := F0 m 43 ls [va_rf v7]) rfl ?_
            exact g_aretJ (pc := 43) (v := v7) hx hb hr (Or.inr ⟨_, rfl⟩) hlk hH hS hkc hks hf dX0_toldIn_43
          · obtain ⟨j7, hf7⟩ := hP7
            have hf : ∀ _ : Nat, oky _ _ _ P := fun _ => hf7
            try dsimp only at hf
            have hkc : kc + c2 + c4 + c6 + 10 + c2_7 ≤ mc := by omega
            have hks : ks + n2 + n4 + n6 + 2000 + n2_7 ≤ ms := by omega
            exact g_outJ (E := E7) (x := x7) (by rw [htb]; decide) hlk hHx hS (by omega) (by omega) h1_7 h2_7 h3_7 hf
        · obtain ⟨rfl, rfl⟩ := hP6
          try dsimp only at hf
          have hkc : kc + c2 + c4 + c6 + c2_6 ≤ mc := by omega
          have hks : ks + n2 + n4 + n6 + n2_6 ≤ ms := by omega
          exact g_outJ (E := E6) (x := x6) (by rw [htb]; decide) hlk hHx hS (by omega) (by omega) h1_6 h2_6 h3_6 hf
      · simp only [if_pos c5] at hf
        exact wX0_toldIn_b21 hk hJ hst htb hc  S4 _ _ ls _ _ _ _ hkc hks hH hS (lv_sub hl [] rfl) hf
theorem mX0_toldIn {l : Launch} {G : gG} {Rp : gM → gM → Nat → Prop} (hk : rOK Rp) (hJ : JDK l G Rp) (hst : l.stackTraces = false) {S : gS} {C N : Nat} {l0 : Nat} {l1 : Int32} {l2 : Int32} {l3 : Int32} {l4 : Int32} {l5 : Int32} {P : Option Nat ⊕ gTh → gS → Prop} (hf : ∀ j : Nat, oky C N (fX0_toldIn G j l0 l1 l2 l3 l4 l5 S) P) : gMetJ l yX0_toldIn (ws_ yX0_toldIn cX0_toldIn 6 (some (.array .long))) 14 10544 G Rp [.ref l0, .int l1, .int l2, .int l3, .int l4, .int l5] S iR P C N := by
  refine g_startJ (by decide) (Nat.le_of_ble_eq_true rfl) (fun p e s m args below meth c ls hc htb hl hH => ?_)
  have hl : lv_has ls 6 [(0, .ref l0), (1, .int l1), (2, .int l2), (3, .int l3), (4, .int l4), (5, .int l5)] := hl
  exact wX0_toldIn_b0 hk hJ hst htb hc l0 l1 l2 l3 l4 l5 S _ _ ls 0 0 C N (by omega) (by omega) hH va_S.rf (lv_sub hl [0, 1, 2, 3, 4, 5] rfl) hf
end
section
variable {P : Int32 ⊕ gTh → gS → Prop}
def fX0_judge_b29 (G : gG) : Nat → Int32 → (Option Nat) → (Option Nat) → Int32 → gS → gX Int32
  | 0, _, _, _, _, _ => none
  | n + 1, l3, l4, l5, l6, S =>
    if l3 ≤ l6 then
      bd l5 fun a3 =>
      gb (nAD_isEmpty a3  S) fun v2 S2 =>
      if v2 = 0 then
        some (.inl l3, S2, 0, 0)
      else
        some (.inl (-1), S2, 0, 0)
    else
      bd l5 fun a6 =>
      gb (nAD_pollFirst a6  S) fun v5 S5 =>
      bd (cka S5 v5 10) fun _ =>
      if v5 = none then
        some (.inl l6, S5, 0, 0)
      else
        bd v5 fun a10 =>
        gb (nUnbox a10  S5) fun v9 S9 =>
        bd l4 fun a12 =>
        bd (rdAl S9 a12 1 l6) fun v13 =>
        if (lg_cmp v9.toInt64 v13) = 0 then
          fX0_judge_b29 G n l3 l4 l5 (l6 + (nI 1)) S9
        else
          some (.inl l6, S9, 0, 0)
theorem wX0_judge_b29 (hk : rOK Rp) (hJ : JDK l G Rp) (hst : l.stackTraces = false) (htb : c.exceptionTable.toList = tableOf [(0, 67, 88, 118), (68, 87, 88, 118)]) (hc : gC p s m args meth c G RX0 "judge" cX0_judge 8 (some .int)) : ∀ (n : Nat) (l3 : Int32) (l4 : Option Nat) (l5 : Option Nat) (l6 : Int32) (S : gS) (H : Heap) (locs : List Loc) (ls : Array Slot) (kc ks C N : Nat), kc + C ≤ mc → ks + N ≤ ms → hp G Rp S H → va_S G.2.2.2 s.heap H locs → lv_has ls 8 [(3, .int l3), (4, va_rf l4), (5, va_rf l5), (6, .int l6)] → (∀ j : Nat, oky C N (fX0_judge_b29 G n l3 l4 l5 l6 S) P) → W p l e (gR 18 10569 mc ms) s m args below meth c H locs kc ks (gQJ below G Rp iI P args s mc ms) (F0 m 29 ls []) := by
  obtain ⟨hx, hb, hr, hlk, hml, hown, hts, hE, hA, hnm⟩ := hc
  have hc : gC p s m args meth c G RX0 "judge" cX0_judge 8 (some .int) := ⟨hx, hb, hr, hlk, hml, hown, hts, hE, hA, hnm⟩
  intro n
  induction n with
  | zero => intro l3 l4 l5 l6 S H locs ls kc ks C N _ _ _ _ _ hf; simp only [fX0_judge_b29] at hf; exact noJ hf
  | succ n ih =>
    intro l3 l4 l5 l6 S H locs ls kc ks C N hkc hks hH hS hl hf
    simp only [fX0_judge_b29] at hf
    refine lv_iload (pc := 29) hx hb dX0_judge_29 (lv_at hl 3 rfl) ?_
    refine lv_iload_n (pc := 31) hx hb dX0_judge_31 rfl (lv_at hl 0 rfl) ?_
    refine lv_icmp_ge (pc := 32) (tgt := 74) hx hb dX0_judge_32 (by decide) (fun c1 => ?_) (fun c1 => ?_)
    · simp only [if_pos c1] at hf
      refine g_aload (pc := 74) (o := l5) hx hb dX0_judge_74 (lv_at hl 2 rfl) ?_
      obtain ⟨a3, ea3, hf⟩ := bdJ hf
      obtain ⟨v2, S2, c2, n2, c2_2, n2_2, e2, hf, hC2, hN2⟩ := gbJ hf
      refine g_callV (pc := 76) (o := l5) (b := a3) (As := []) (rest := []) (st1 := [.int v2]) hc (j_nAD_isEmpty hJ a3  S v2 S2 c2 n2 e2) (cwV 0 hts (lw_V q2766 q1360 q1361 q137 q1362) rfl rfl rfl hdJ28_isEmpty ⟨Nat.le_of_ble_eq_true rfl, Nat.le_of_ble_eq_true rfl⟩) (j_recv hJ _ _ _ _ 3 _ _ hE hH hS (adtR (t := 3) (show bd _ _ = some _ from e2)).choose_spec) ea3 rfl hl.1 rfl rfl (lv_room (Nat.le_of_ble_eq_true rfl)) dX0_judge_76 hH hS (by omega) (by omega) (fun H locs hH hS => ?_)
      have hkc : kc + c2 + c2_2 ≤ mc := by omega
      have hks : ks + n2 + n2_2 ≤ ms := by omega
      refine lv_if_eq (pc := 79) (tgt := 86) hx hb dX0_judge_79 (by decide) (fun c4 => ?_) (fun c4 => ?_)
      · simp only [if_pos c4] at hf
        refine lv_iload_n (pc := 86) hx hb dX0_judge_86 rfl (lv_at hl 0 rfl) ?_
        exact g_iretJ (pc := 87) hx hb hr hlk hH hS hkc hks hf dX0_judge_87
      · simp only [if_neg c4] at hf
        refine lv_iconst (pc := 82) (v := -1) hx hb dX0_judge_82 rfl ?_
        refine lv_goto (pc := 83) (tgt := 87) hx hb dX0_judge_83 (by decide) ?_
        exact g_iretJ (pc := 87) hx hb hr hlk hH hS hkc hks hf dX0_judge_87
    · simp only [if_neg c1] at hf
      refine g_aload (pc := 35) (o := l5) hx hb dX0_judge_35 (lv_at hl 2 rfl) ?_
      obtain ⟨a6, ea6, hf⟩ := bdJ hf
      obtain ⟨v5, S5, c5, n5, c2_5, n2_5, e5, hf, hC5, hN5⟩ := gbJ hf
      refine g_callV (pc := 37) (o := l5) (b := a6) (As := []) (rest := []) (st1 := [va_rf v5]) hc (j_nAD_pollFirst hJ a6  S v5 S5 c5 n5 e5) (cwV 0 hts (lw_V q2765 q1505 q1506 q137 q1507) rfl rfl rfl hdJ28_pollFirst ⟨Nat.le_of_ble_eq_true rfl, Nat.le_of_ble_eq_true rfl⟩) (j_recv hJ _ _ _ _ 3 _ _ hE hH hS (adtR (t := 3) (show bd _ _ = some _ from e5)).choose_spec) ea6 rfl hl.1 rfl rfl (lv_room (Nat.le_of_ble_eq_true rfl)) dX0_judge_37 hH hS (by omega) (by omega) (fun H locs hH hS => ?_)
      have hkc : kc + c5 + c2_5 ≤ mc := by omega
      have hks : ks + n5 + n2_5 ≤ ms := by omega
      obtain ⟨_, e7, hf⟩ := bdJ hf
      refine g_casta (pc := 40) (o := v5) (t := 10) (ci := 26) (C := RJ23) (T := TJ23) (N := 1) hx hb hts hown hE (j_recv hJ) hH hS rfl rfl q2672 e7 dX0_judge_40 ?_
      refine g_astore (pc := 43) (i := 7) (o := v5) (lv' := [(7, va_rf v5), (3, .int l3), (4, va_rf l4), (5, va_rf l5), (6, .int l6)]) hx hb dX0_judge_43 hl (by decide) rfl (fun ls hl => ?_)
      refine g_aload (pc := 45) (o := v5) hx hb dX0_judge_45 (lv_at hl 0 rfl) ?_
      refine g_ifnull (pc := 47) (o := v5) (tgt := 65) hx hb dX0_judge_47 (by decide) (fun c8 => ?_) (fun c8 => ?_)
      · simp only [if_pos c8] at hf
        refine lv_iload (pc := 65) hx hb dX0_judge_65 (lv_at hl 4 rfl) ?_
        exact g_iretJ (pc := 67) hx hb hr hlk hH hS hkc hks hf dX0_judge_67
      · simp only [if_neg c8] at hf
        refine g_aload (pc := 50) (o := v5) hx hb dX0_judge_50 (lv_at hl 0 rfl) ?_
        obtain ⟨a10, ea10, hf⟩ := bdJ hf
        obtain ⟨v9, S9, c9, n9, c2_9, n2_9, e9, hf, hC9, hN9⟩ := gbJ hf
        refine g_callV (pc := 52) (o := v5) (b := a10) (As := []) (rest := []) (st1 := [.int v9]) hc (j_nUnbox hJ a10  S5 v9 S9 c9 n9 e9) (cwV 0 hts (lw_V q2673 q1834 q1835 q126 q1836) rfl rfl rfl hdJ23_intValue ⟨Nat.le_of_ble_eq_true rfl, Nat.le_of_ble_eq_true rfl⟩) (j_recv hJ _ _ _ _ 10 _ _ hE hH hS (adtR (t := 10) (show bd _ _ = some _ from e9)).choose_spec) ea10 rfl hl.1 rfl rfl (lv_room (Nat.le_of_ble_eq_true rfl)) dX0_judge_52 hH hS (by omega) (by omega) (fun H locs hH hS => ?_)
        have hkc : kc + c5 + c9 + c2_9 ≤ mc := by omega
        have hks : ks + n5 + n9 + n2_9 ≤ ms := by omega
        refine lv_i2l (pc := 55) hx hb dX0_judge_55 rfl ?_
        refine g_aload (pc := 56) (o := l4) hx hb dX0_judge_56 (lv_at hl 2 rfl) ?_
        refine lv_iload (pc := 58) hx hb dX0_judge_58 (lv_at hl 4 rfl) ?_
        obtain ⟨a12, ea12, hf⟩ := bdJ hf
        obtain ⟨v13, e13, hf⟩ := bdJ hf
        refine g_lald (pc := 60) (o := l4) (a := a12) hx hb hE hk hH ea12 e13 dX0_judge_60 ?_
        refine W.lcmp (pc := 61) hx hb dX0_judge_61 ?_
        refine lv_if_eq (pc := 62) (tgt := 68) hx hb dX0_judge_62 (by decide) (fun c14 => ?_) (fun c14 => ?_)
        · simp only [if_pos c14] at hf
          refine lv_iinc (pc := 68) (v := l6 + (nI 1)) (lv' := [(6, .int (l6 + (nI 1))), (7, va_rf v5), (3, .int l3), (4, va_rf l4), (5, va_rf l5)]) hx hb dX0_judge_68 hl (k := 4) rfl rfl (by decide) (by simp [va_rf_cat, cat_i, cat_j, cat_r] <;> rfl) (fun ls hl => ?_)
          refine lv_goto (pc := 71) (tgt := 29) hx hb dX0_judge_71 (by decide) ?_
          exact ih l3 l4 l5 (l6 + (nI 1)) S9 _ _ ls _ _ _ _ hkc hks hH hS (lv_sub hl [2, 3, 4, 0] rfl) hf
        · simp only [if_neg c14] at hf
          refine lv_iload (pc := 65) hx hb dX0_judge_65 (lv_at hl 4 rfl) ?_
          exact g_iretJ (pc := 67) hx hb hr hlk hH hS hkc hks hf dX0_judge_67
def fX0_judge (G : gG) (j : Nat) (l0 : Nat) (l1 : Int32) (l2 : Int32) (l3 : Int32) (S : gS) : gX Int32 :=
  bd (chk S l0 0) fun _ =>
  gb (fX0_isQueue l0 l1 S) fun v1 S1 =>
  bd (chk S1 l0 0) fun _ =>
  gbc 10 2000 (fX0_toldIn G j l0 v1 l2 l3 (nI 40) (nI 1) S1) fun r2 S2 => match r2 with
  | .inl v2 =>
    bd (chk S2 l0 0) fun _ =>
    gb (fX0_queue_2 l0 l1 S2) fun v3 S3 =>
    bd v3 fun a5 =>
    bd (chk S3 a5 3) fun _ =>
    gb (fX8_drained G a5 S3) fun v4 S4 =>
    fX0_judge_b29 G FU l3 v2 v4 (nI 0) S4
  | .inr (_, none) => none
  | .inr (E2, some q2) =>
    if E2 = "CreditBroker$Refused" then
      bd (rdI S2 q2 28 6) fun v6 =>
      bd (chk S2 l0 0) fun _ =>
      gb (fX0_no l0 v6 S2) fun v7 S7 =>
      some (.inl v7, S7, 0, 0)
    else none
theorem wX0_judge_b0 (hk : rOK Rp) (hJ : JDK l G Rp) (hst : l.stackTraces = false) (htb : c.exceptionTable.toList = tableOf [(0, 67, 88, 118), (68, 87, 88, 118)]) (hc : gC p s m args meth c G RX0 "judge" cX0_judge 8 (some .int)) (l0 : Nat) (l1 : Int32) (l2 : Int32) (l3 : Int32) (S : gS) (H : Heap) (locs : List Loc) (ls : Array Slot) (kc ks C N : Nat) (hkc : kc + C ≤ mc) (hks : ks + N ≤ ms) (hH : hp G Rp S H) (hS : va_S G.2.2.2 s.heap H locs) (hl : lv_has ls 8 [(0, .ref l0), (1, .int l1), (2, .int l2), (3, .int l3)]) (hf : (∀ j : Nat, oky C N (fX0_judge G j l0 l1 l2 l3 S) P)) : W p l e (gR 18 10569 mc ms) s m args below meth c H locs kc ks (gQJ below G Rp iI P args s mc ms) (F0 m 0 ls []) := by
  obtain ⟨hx, hb, hr, hlk, hml, hown, hts, hE, hA, hnm⟩ := hc
  have hc : gC p s m args meth c G RX0 "judge" cX0_judge 8 (some .int) := ⟨hx, hb, hr, hlk, hml, hown, hts, hE, hA, hnm⟩
  simp only [fX0_judge] at hf
  refine lv_aload_n (pc := 0) hx hb dX0_judge_0 rfl (lv_at hl 0 rfl) ?_
  refine lv_aload_n (pc := 1) hx hb dX0_judge_1 rfl (lv_at hl 0 rfl) ?_
  refine lv_iload_n (pc := 2) hx hb dX0_judge_2 rfl (lv_at hl 1 rfl) ?_
  obtain ⟨_, ek1, hf⟩ := bdJ hf
  obtain ⟨v1, S1, c1, n1, c2_1, n2_1, e1, hf, hC1, hN1⟩ := gbJ hf
  refine g_callV (pc := 3) (o := (some l0)) (b := l0) (As := [.int l1]) (rest := [.ref l0]) (st1 := [.int v1, .ref l0]) hc (mX0_isQueue hk hJ (l0 := l0) (l1 := l1) e1) (cwV 1 hts (lw_V q1214 q1216 qs17 q97 q1217) rfl rfl rfl hdX0_isQueue ⟨Nat.le_of_ble_eq_true rfl, Nat.le_of_ble_eq_true rfl⟩) (g_recv hE hk hH (ci := 0) (q := (RX0, TX0, 7)) rfl (chk_o ek1).choose_spec) rfl rfl hl.1 rfl rfl (lv_room (Nat.le_of_ble_eq_true rfl)) dX0_judge_3 hH hS (by omega) (by omega) (fun H locs hH hS => ?_)
  have hkc : kc + c1 + c2_1 ≤ mc := by omega
  have hks : ks + n1 + n2_1 ≤ ms := by omega
  refine lv_iload_n (pc := 6) hx hb dX0_judge_6 rfl (lv_at hl 2 rfl) ?_
  refine lv_iload_n (pc := 7) hx hb dX0_judge_7 rfl (lv_at hl 3 rfl) ?_
  refine lv_bipush (pc := 8) (v := nI 40) hx hb dX0_judge_8 gkb40 ?_
  refine lv_iconst (pc := 10) (v := nI 1) hx hb dX0_judge_10 rfl ?_
  obtain ⟨_, ek2, hf⟩ := bdJ hf
  obtain ⟨c2_2, n2_2, hg2, hC2, hN2⟩ := gbcJ hf
  refine g_callVJ (pc := 11) (ι := iR) (o := (some l0)) (b := l0) (As := [.int v1, .int l2, .int l3, .int (nI 40), .int (nI 1)]) (rest := []) hc (mX0_toldIn hk hJ hst (l0 := l0) (l1 := v1) (l2 := l2) (l3 := l3) (l4 := (nI 40)) (l5 := (nI 1)) hg2) (cwV 5 hts (lw_V q2758 q2760 qs45 q97 q2761) rfl rfl rfl hdX0_toldIn ⟨Nat.le_of_ble_eq_true rfl, Nat.le_of_ble_eq_true rfl⟩) (g_recv hE hk hH (ci := 0) (q := (RX0, TX0, 7)) rfl (chk_o ek2).choose_spec) rfl rfl hl.1 rfl (lv_room (Nat.le_of_ble_eq_true rfl)) dX0_judge_11 hH hS (by omega) (by omega) (fun v2 S2 H locs hP2 hH hS => ?_) (fun E2 x2 S2 q2 ce2 H locs hP2 hHx hS h1_2 h2_2 h3_2 => ?_)
  · obtain ⟨j2, hf2⟩ := hP2
    have hf : ∀ _ : Nat, oky _ _ _ P := fun _ => hf2
    try dsimp only at hf
    have hkc : kc + c1 + 10 + c2_2 ≤ mc := by omega
    have hks : ks + n1 + 2000 + n2_2 ≤ ms := by omega
    refine W.eq (g2 := F0 m 14 ls [va_rf v2]) rfl ?_
    refine g_astore (pc := 14) (i := 4) (o := v2) (lv' := [(4, va_rf v2), (0, .ref l0), (1, .int l1), (2, .int l2), (3, .int l3)]) hx hb dX0_judge_14 hl (by decide) rfl (fun ls hl => ?_)
    refine lv_aload_n (pc := 16) hx hb dX0_judge_16 rfl (lv_at hl 1 rfl) ?_
    refine lv_iload_n (pc := 17) hx hb dX0_judge_17 rfl (lv_at hl 2 rfl) ?_
    obtain ⟨_, ek3, hf⟩ := bdJ hf
    obtain ⟨v3, S3, c3, n3, c2_3, n2_3, e3, hf, hC3, hN3⟩ := gbJ hf
    refine g_callV (pc := 18) (o := (some l0)) (b := l0) (As := [.int l1]) (rest := []) (st1 := [va_rf v3]) hc (mX0_queue_2 hk hJ (l0 := l0) (l1 := l1) e3) (cwV 1 hts (lw_V q1218 q1220 qs18 q97 q1221) rfl rfl rfl hdX0_queue_2 ⟨Nat.le_of_ble_eq_true rfl, Nat.le_of_ble_eq_true rfl⟩) (g_recv hE hk hH (ci := 0) (q := (RX0, TX0, 7)) rfl (chk_o ek3).choose_spec) rfl rfl hl.1 rfl rfl (lv_room (Nat.le_of_ble_eq_true rfl)) dX0_judge_18 hH hS (by omega) (by omega) (fun H locs hH hS => ?_)
    have hkc : kc + c1 + 10 + c3 + c2_3 ≤ mc := by omega
    have hks : ks + n1 + 2000 + n3 + n2_3 ≤ ms := by omega
    obtain ⟨a5, ea5, hf⟩ := bdJ hf
    obtain ⟨_, ek4, hf⟩ := bdJ hf
    obtain ⟨v4, S4, c4, n4, c2_4, n2_4, e4, hf, hC4, hN4⟩ := gbJ hf
    refine g_callV (pc := 21) (o := v3) (b := a5) (As := []) (rest := []) (st1 := [va_rf v4]) hc (mX8_drained hk hJ (l0 := a5) e4) (cwV 0 hts (lw_V q2607 q2608 q2609 q131 q2610) rfl rfl rfl hdX8_drained ⟨Nat.le_of_ble_eq_true rfl, Nat.le_of_ble_eq_true rfl⟩) (g_recv hE hk hH (ci := 3) (q := (RX8, TX8, 13)) rfl (chk_o ek4).choose_spec) ea5 rfl hl.1 rfl rfl (lv_room (Nat.le_of_ble_eq_true rfl)) dX0_judge_21 hH hS (by omega) (by omega) (fun H locs hH hS => ?_)
    have hkc : kc + c1 + 10 + c3 + c4 + c2_4 ≤ mc := by omega
    have hks : ks + n1 + 2000 + n3 + n4 + n2_4 ≤ ms := by omega
    refine g_astore (pc := 24) (i := 5) (o := v4) (lv' := [(5, va_rf v4), (4, va_rf v2), (0, .ref l0), (1, .int l1), (2, .int l2), (3, .int l3)]) hx hb dX0_judge_24 hl (by decide) (by simp [va_rf_cat, cat_i, cat_j, cat_r] <;> rfl) (fun ls hl => ?_)
    refine lv_iconst (pc := 26) (v := nI 0) hx hb dX0_judge_26 rfl ?_
    refine lv_istore (pc := 27) (i := 6) (lv' := [(6, .int (nI 0)), (5, va_rf v4), (4, va_rf v2), (0, .ref l0), (1, .int l1), (2, .int l2), (3, .int l3)]) hx hb dX0_judge_27 hl (by decide) (by simp [va_rf_cat, cat_i, cat_j, cat_r] <;> rfl) (fun ls hl => ?_)
    exact wX0_judge_b29 hk hJ hst htb hc FU l3 v2 v4 (nI 0) S4 _ _ ls _ _ _ _ hkc hks hH hS (lv_sub hl [6, 2, 1, 0] rfl) hf
  · obtain ⟨j2, hf2⟩ := hP2
    have hf : ∀ _ : Nat, oky _ _ _ P := fun _ => hf2
    try dsimp only at hf
    have hkc : kc + c1 + 10 + c2_2 ≤ mc := by omega
    have hks : ks + n1 + 2000 + n2_2 ≤ ms := by omega
    cases x2 with
    | none => exact noJ hf
    | some q9 =>
      obtain ⟨rfl, hH⟩ := hHx
      try dsimp only at hf
      by_cases hE2 : E2 = "CreditBroker$Refused"
      · simp only [if_pos hE2] at hf
        subst hE2
        refine vx_catch (own := RX0) (name := "CreditBroker$Refused") hown [] ⟨0, 67, 88, 118⟩ [⟨68, 87, 88, 118⟩] (htb.trans rfl) lp0 (by decide) (by decide) (hts _ q412) (va_Nw.use rfl (hE.2.1.1 _ _ q438)) h1_2 h2_2 h3_2 ?_
        refine lv_astore (pc := 88) (i := 4) (lv' := [(4, .ref q2), (0, .ref l0), (1, .int l1), (2, .int l2), (3, .int l3)]) hx hb dX0_judge_88 hl (by decide) rfl (fun ls hl => ?_)
        refine lv_aload_n (pc := 90) hx hb dX0_judge_90 rfl (lv_at hl 1 rfl) ?_
        refine lv_aload (pc := 91) hx hb dX0_judge_91 (lv_at hl 0 rfl) ?_
        obtain ⟨v6, e6, hf⟩ := bdJ hf
        refine g_get (pc := 93) (o := (some q2)) (a := q2) (ci := 28) (k := 6) (v := .int v6) (C := RX4) (T := TX4) (N := 7) hx hb hts hown hE hk hH in_X4 rfl (by decide) (hts _ q458) (fun _ h9 => h9) rfl (rdI_o e6) dX0_judge_93 ?_
        obtain ⟨_, ek7, hf⟩ := bdJ hf
        obtain ⟨v7, S7, c7, n7, c2_7, n2_7, e7, hf, hC7, hN7⟩ := gbJ hf
        refine g_callV (pc := 96) (o := (some l0)) (b := l0) (As := [.int v6]) (rest := []) (st1 := [.int v7]) hc (mX0_no hk hJ (l0 := l0) (l1 := v6) e7) (cwV 1 hts (lw_V q398 q400 qs2 q97 q401) rfl rfl rfl hdX0_no ⟨Nat.le_of_ble_eq_true rfl, Nat.le_of_ble_eq_true rfl⟩) (g_recv hE hk hH (ci := 0) (q := (RX0, TX0, 7)) rfl (chk_o ek7).choose_spec) rfl rfl hl.1 rfl rfl (lv_room (Nat.le_of_ble_eq_true rfl)) dX0_judge_96 hH hS (by omega) (by omega) (fun H locs hH hS => ?_)
        have hkc : kc + c1 + 10 + c7 + c2_7 ≤ mc := by omega
        have hks : ks + n1 + 2000 + n7 + n2_7 ≤ ms := by omega
        exact g_iretJ (pc := 99) hx hb hr hlk hH hS hkc hks hf dX0_judge_99
      · simp only [if_neg hE2] at hf
        exact noJ hf
theorem mX0_judge {l : Launch} {G : gG} {Rp : gM → gM → Nat → Prop} (hk : rOK Rp) (hJ : JDK l G Rp) (hst : l.stackTraces = false) {S : gS} {C N : Nat} {l0 : Nat} {l1 : Int32} {l2 : Int32} {l3 : Int32} {P : Int32 ⊕ gTh → gS → Prop} (hf : ∀ j : Nat, oky C N (fX0_judge G j l0 l1 l2 l3 S) P) : gMetJ l yX0_judge (wsW_ yX0_judge cX0_judge 8 (some .int) [(0, 67, 88, 118), (68, 87, 88, 118)]) 18 10569 G Rp [.ref l0, .int l1, .int l2, .int l3] S iI P C N := by
  refine g_startJW (by decide) (Nat.le_of_ble_eq_true rfl) (fun p e s m args below meth c ls hc htb hl hH => ?_)
  have hl : lv_has ls 8 [(0, .ref l0), (1, .int l1), (2, .int l2), (3, .int l3)] := hl
  exact wX0_judge_b0 hk hJ hst htb hc l0 l1 l2 l3 S _ _ ls 0 0 C N (by omega) (by omega) hH va_S.rf (lv_sub hl [0, 1, 2, 3] rfl) hf
end
section
variable {r : Int32} {Sf : gS}
def fX0_lambda_status_5 (l0 : Option Nat) (S : gS) : gO Int32 :=
  bd l0 fun a1 =>
  bd (rdR S a1 3 7) fun v2 =>
  bd v2 fun a4 =>
  gb (nAL_size a4  S) fun v3 S3 =>
  some (v3, S3, 0, 0)
theorem wX0_lambda_status_5_b0 (hk : rOK Rp) (hJ : JDK l G Rp) (hc : gC p s m args meth c G RX0 "lambda$status$5" cX0_lambda_status_5 1 (some .int)) (l0 : Option Nat) (S : gS) (H : Heap) (locs : List Loc) (ls : Array Slot) (kc ks C N : Nat) (hkc : kc + C ≤ mc) (hks : ks + N ≤ ms) (hH : hp G Rp S H) (hS : va_S G.2.2.2 s.heap H locs) (hl : lv_has ls 1 [(0, va_rf l0)]) (hf : fX0_lambda_status_5 l0 S = some (r, Sf, C, N)) : W p l e (gR 15 540 mc ms) s m args below meth c H locs kc ks (gQ below G Rp (some (.int r)) Sf args s mc ms) (F0 m 0 ls []) := by
  obtain ⟨hx, hb, hr, hlk, hml, hown, hts, hE, hA, hnm⟩ := hc
  have hc : gC p s m args meth c G RX0 "lambda$status$5" cX0_lambda_status_5 1 (some .int) := ⟨hx, hb, hr, hlk, hml, hown, hts, hE, hA, hnm⟩
  unfold fX0_lambda_status_5 at hf
  refine g_aload_n (pc := 0) (o := l0) hx hb dX0_lambda_status_5_0 rfl (lv_at hl 0 rfl) ?_
  obtain ⟨a1, ea1, hf⟩ := bdo hf
  obtain ⟨v2, e2, hf⟩ := bdo hf
  refine g_get (pc := 1) (o := l0) (a := a1) (ci := 3) (k := 7) (v := va_rf v2) (C := RX8) (T := TX8) (N := 13) hx hb hts hown hE hk hH in_X8 rfl (by decide) (hts _ q1169) (fun _ h9 => h9) ea1 (rdR_o e2) dX0_lambda_status_5_1 ?_
  obtain ⟨a4, ea4, hf⟩ := bdo hf
  obtain ⟨v3, S3, c3, n3, c2_3, n2_3, e3, hf, hC3, hN3⟩ := gbo hf
  refine g_callV (pc := 4) (o := v2) (b := a4) (As := []) (rest := []) (st1 := [.int v3]) hc (j_nAL_size hJ a4  S v3 S3 c3 n3 e3) (cwV 0 hts (lw_V q1134 q1120 q1121 q101 q1122) rfl rfl rfl hdJ2_size ⟨Nat.le_of_ble_eq_true rfl, Nat.le_of_ble_eq_true rfl⟩) (j_recv hJ _ _ _ _ 0 _ _ hE hH hS (adtR (t := 0) (show bd _ _ = some _ from e3)).choose_spec) ea4 rfl hl.1 rfl rfl (lv_room (Nat.le_of_ble_eq_true rfl)) dX0_lambda_status_5_4 hH hS (by omega) (by omega) (fun H locs hH hS => ?_)
  have hkc : kc + c3 + c2_3 ≤ mc := by omega
  have hks : ks + n3 + n2_3 ≤ ms := by omega
  exact g_iret (pc := 7) hx hb hr hlk hH hS hkc hks hf dX0_lambda_status_5_7
theorem mX0_lambda_status_5 {l : Launch} {G : gG} {Rp : gM → gM → Nat → Prop} (hk : rOK Rp) (hJ : JDK l G Rp) {S S2 : gS} {r2 : Int32} {C N : Nat} {l0 : Option Nat} (hf : fX0_lambda_status_5 l0 S = some (r2, S2, C, N)) : gMet l yX0_lambda_status_5 cX0_lambda_status_5 1 (some .int) 15 540 G Rp [va_rf l0] S (some (.int r2)) S2 C N := by
  refine g_start (by decide) (by simp [lg_sl, va_rf_cat, cat_i, cat_j, cat_r]) (fun p e s m args below meth c ls hc hl hH => ?_)
  have hl : lv_has ls 1 [(0, va_rf l0)] := by simpa [lv_args, va_rf_cat, cat_i, cat_j, cat_r] using hl
  exact wX0_lambda_status_5_b0 hk hJ hc l0 S _ _ ls 0 0 C N (by omega) (by omega) hH va_S.rf (lv_sub hl [0] rfl) hf
end
section
variable {r : Int32} {Sf : gS}
def fX0_lambda_status_6 (l0 : Nat) (l1 : Option Nat) (S : gS) : gO Int32 :=
  bd l1 fun a1 =>
  bd (rdI S a1 3 0) fun v2 =>
  bd (chk S l0 0) fun _ =>
  gb (fX0_consumersOf l0 v2 (nI 1) S) fun v3 S3 =>
  some (v3, S3, 0, 0)
theorem wX0_lambda_status_6_b0 (hk : rOK Rp) (hJ : JDK l G Rp) (hc : gC p s m args meth c G RX0 "lambda$status$6" cX0_lambda_status_6 2 (some .int)) (l0 : Nat) (l1 : Option Nat) (S : gS) (H : Heap) (locs : List Loc) (ls : Array Slot) (kc ks C N : Nat) (hkc : kc + C ≤ mc) (hks : ks + N ≤ ms) (hH : hp G Rp S H) (hS : va_S G.2.2.2 s.heap H locs) (hl : lv_has ls 2 [(0, .ref l0), (1, va_rf l1)]) (hf : fX0_lambda_status_6 l0 l1 S = some (r, Sf, C, N)) : W p l e (gR 16 566 mc ms) s m args below meth c H locs kc ks (gQ below G Rp (some (.int r)) Sf args s mc ms) (F0 m 0 ls []) := by
  obtain ⟨hx, hb, hr, hlk, hml, hown, hts, hE, hA, hnm⟩ := hc
  have hc : gC p s m args meth c G RX0 "lambda$status$6" cX0_lambda_status_6 2 (some .int) := ⟨hx, hb, hr, hlk, hml, hown, hts, hE, hA, hnm⟩
  unfold fX0_lambda_status_6 at hf
  refine lv_aload_n (pc := 0) hx hb dX0_lambda_status_6_0 rfl (lv_at hl 0 rfl) ?_
  refine g_aload_n (pc := 1) (o := l1) hx hb dX0_lambda_status_6_1 rfl (lv_at hl 1 rfl) ?_
  obtain ⟨a1, ea1, hf⟩ := bdo hf
  obtain ⟨v2, e2, hf⟩ := bdo hf
  refine g_get (pc := 2) (o := l1) (a := a1) (ci := 3) (k := 0) (v := .int v2) (C := RX8) (T := TX8) (N := 13) hx hb hts hown hE hk hH in_X8 rfl (by decide) (hts _ q1152) (fun _ h9 => h9) ea1 (rdI_o e2) dX0_lambda_status_6_2 ?_
  refine lv_iconst (pc := 5) (v := nI 1) hx hb dX0_lambda_status_6_5 rfl ?_
  obtain ⟨_, ek3, hf⟩ := bdo hf
  obtain ⟨v3, S3, c3, n3, c2_3, n2_3, e3, hf, hC3, hN3⟩ := gbo hf
  refine g_callV (pc := 6) (o := (some l0)) (b := l0) (As := [.int v2, .int (nI 1)]) (rest := []) (st1 := [.int v3]) hc (mX0_consumersOf hk hJ (l0 := l0) (l1 := v2) (l2 := (nI 1)) e3) (cwV 2 hts (lw_V q2488 q2490 qs42 q97 q2491) rfl rfl rfl hdX0_consumersOf ⟨Nat.le_of_ble_eq_true rfl, Nat.le_of_ble_eq_true rfl⟩) (g_recv hE hk hH (ci := 0) (q := (RX0, TX0, 7)) rfl (chk_o ek3).choose_spec) rfl rfl hl.1 rfl rfl (lv_room (Nat.le_of_ble_eq_true rfl)) dX0_lambda_status_6_6 hH hS (by omega) (by omega) (fun H locs hH hS => ?_)
  have hkc : kc + c3 + c2_3 ≤ mc := by omega
  have hks : ks + n3 + n2_3 ≤ ms := by omega
  exact g_iret (pc := 9) hx hb hr hlk hH hS hkc hks hf dX0_lambda_status_6_9
theorem mX0_lambda_status_6 {l : Launch} {G : gG} {Rp : gM → gM → Nat → Prop} (hk : rOK Rp) (hJ : JDK l G Rp) {S S2 : gS} {r2 : Int32} {C N : Nat} {l0 : Nat} {l1 : Option Nat} (hf : fX0_lambda_status_6 l0 l1 S = some (r2, S2, C, N)) : gMet l yX0_lambda_status_6 cX0_lambda_status_6 2 (some .int) 16 566 G Rp [.ref l0, va_rf l1] S (some (.int r2)) S2 C N := by
  refine g_start (by decide) (by simp [lg_sl, va_rf_cat, cat_i, cat_j, cat_r]) (fun p e s m args below meth c ls hc hl hH => ?_)
  have hl : lv_has ls 2 [(0, .ref l0), (1, va_rf l1)] := by simpa [lv_args, va_rf_cat, cat_i, cat_j, cat_r] using hl
  exact wX0_lambda_status_6_b0 hk hJ hc l0 l1 S _ _ ls 0 0 C N (by omega) (by omega) hH va_S.rf (lv_sub hl [0, 1] rfl) hf
end
section
variable {r : Int32} {Sf : gS}
def fX1_leaves_b14 : Nat → (Option Nat) → Int32 → (Option Nat) → gS → gO Int32
  | 0, _, _, _, _ => none
  | n + 1, l1, l2, l3, S =>
    bd l3 fun a2 =>
    gb (nI6_hasNext a2 S) fun v1 S1 =>
    if v1 = 0 then
      bd l1 fun a4 =>
      bd (wrz S1 a4 6 4 (nI 1)) fun S5 =>
      bd (wr S5 a4 6 2 (.int (nI 0))) fun S6 =>
      some (l2, S6, 0, 0)
    else
      gb (nI6_next a2 S1) fun v7 S7 =>
      bd (ckc S7 v7 4) fun _ =>
      bd l1 fun a9 =>
      bd (rdI S7 a9 6 0) fun v10 =>
      bd v7 fun a12 =>
      bd (chk S7 a12 4) fun _ =>
      gb (fX16_isHeldBy a12 v10 S7) fun v11 S11 =>
      if v11 = 0 then
        fX1_leaves_b14 n l1 l2 l3 S11
      else
        bd (chk S11 a12 4) fun _ =>
        gb (fX16_readies a12 S11) fun _ S14 =>
        fX1_leaves_b14 n l1 (l2 + (nI 1)) l3 S14
theorem wX1_leaves_b14 (hk : rOK Rp) (hJ : JDK l G Rp) (hc : gC p s m args meth c G RX1 "leaves" cX1_leaves 5 (some .int)) : ∀ (n : Nat) (l1 : Option Nat) (l2 : Int32) (l3 : Option Nat) (S : gS) (H : Heap) (locs : List Loc) (ls : Array Slot) (kc ks C N : Nat), kc + C ≤ mc → ks + N ≤ ms → hp G Rp S H → va_S G.2.2.2 s.heap H locs → lv_has ls 5 [(1, va_rf l1), (2, .int l2), (3, va_rf l3)] → fX1_leaves_b14 n l1 l2 l3 S = some (r, Sf, C, N) → W p l e (gR 16 561 mc ms) s m args below meth c H locs kc ks (gQ below G Rp (some (.int r)) Sf args s mc ms) (F0 m 14 ls []) := by
  obtain ⟨hx, hb, hr, hlk, hml, hown, hts, hE, hA, hnm⟩ := hc
  have hc : gC p s m args meth c G RX1 "leaves" cX1_leaves 5 (some .int) := ⟨hx, hb, hr, hlk, hml, hown, hts, hE, hA, hnm⟩
  intro n
  induction n with
  | zero => intro l1 l2 l3 S H locs ls kc ks C N _ _ _ _ _ hf; exact absurd hf (fun h => by cases h)
  | succ n ih =>
    intro l1 l2 l3 S H locs ls kc ks C N hkc hks hH hS hl hf
    rw [fX1_leaves_b14] at hf
    refine g_aload_n (pc := 14) (o := l3) hx hb dX1_leaves_14 rfl (lv_at hl 2 rfl) ?_
    obtain ⟨a2, ea2, hf⟩ := bdo hf
    obtain ⟨v1, S1, c1, n1, c2_1, n2_1, e1, hf, hC1, hN1⟩ := gbo hf
    refine g_callF (pc := 15) (o := l3) (b := a2) (As := []) (rest := []) (st1 := [.int v1]) (ci := 21) (q := (RJ26, TJ26, 4)) hc (j_nI6_hasNext hJ a2 S v1 S1 c1 n1 e1) (va_cwF 0 hts (lw_app (lw_of4 q1318 q1339 q1341 q135) (lw_meth q1343)) rfl rfl rfl (hE.2.1.2.2.2.2.2 _ _ _ hdx_hasNext.1 q1320 q1319 q1342 q1340 q1338) hdx_hasNext.2 ⟨Nat.le_of_ble_eq_true rfl, Nat.le_of_ble_eq_true rfl⟩) rfl rfl (j_recv hJ _ _ _ _ 6 _ _ hE hH hS (adtR (t := 6) (show bd _ _ = some _ from e1)).choose_spec) ea2 rfl hl.1 rfl rfl (lv_room (Nat.le_of_ble_eq_true rfl)) dX1_leaves_15 hH hS (by omega) (by omega) (fun H locs hH hS => ?_)
    have hkc : kc + c1 + c2_1 ≤ mc := by omega
    have hks : ks + n1 + n2_1 ≤ ms := by omega
    refine lv_if_eq (pc := 20) (tgt := 57) hx hb dX1_leaves_20 (by decide) (fun c3 => ?_) (fun c3 => ?_)
    · rw [if_pos c3] at hf
      refine g_aload_n (pc := 57) (o := l1) hx hb dX1_leaves_57 rfl (lv_at hl 0 rfl) ?_
      refine lv_iconst (pc := 58) (v := nI 1) hx hb dX1_leaves_58 rfl ?_
      obtain ⟨a4, ea4, hf⟩ := bdo hf
      obtain ⟨S5, e5, hf⟩ := bdo hf
      refine g_put (pc := 59) (o := l1) (a := a4) (ci := 6) (k := 4) (v := .int (nI 1)) (C := RX10) (T := TX10) (N := 5) (ty := .boolean) hx hb hts hown hE hk hH hS rfl in_X10 tyX10_ok nmX10 rfl (by decide) (hts _ q1257) (fun _ h9 => h9) rfl rfl (nar_z (wrz_o e5).1) (fit_z (wrz_o e5).1) ea4 (wrz_o e5).2 dX1_leaves_59 (fun H locs hH hS => ?_)
      refine g_aload_n (pc := 62) (o := l1) hx hb dX1_leaves_62 rfl (lv_at hl 0 rfl) ?_
      refine lv_iconst (pc := 63) (v := nI 0) hx hb dX1_leaves_63 rfl ?_
      obtain ⟨S6, e6, hf⟩ := bdo hf
      refine g_put (pc := 64) (o := l1) (a := a4) (ci := 6) (k := 2) (v := .int (nI 0)) (C := RX10) (T := TX10) (N := 5) (ty := .int) hx hb hts hown hE hk hH hS rfl in_X10 tyX10_ok nmX10 rfl (by decide) (hts _ q1251) (fun _ h9 => h9) rfl rfl rfl rfl ea4 e6 dX1_leaves_64 (fun H locs hH hS => ?_)
      refine lv_iload_n (pc := 67) hx hb dX1_leaves_67 rfl (lv_at hl 1 rfl) ?_
      exact g_iret (pc := 68) hx hb hr hlk hH hS hkc hks hf dX1_leaves_68
    · rw [if_neg c3] at hf
      refine g_aload_n (pc := 23) (o := l3) hx hb dX1_leaves_23 rfl (lv_at hl 2 rfl) ?_
      obtain ⟨v7, S7, c7, n7, c2_7, n2_7, e7, hf, hC7, hN7⟩ := gbo hf
      refine g_callF (pc := 24) (o := l3) (b := a2) (As := []) (rest := []) (st1 := [va_rf v7]) (ci := 21) (q := (RJ26, TJ26, 4)) hc (j_nI6_next hJ a2 S1 v7 S7 c7 n7 e7) (va_cwF 0 hts (lw_app (lw_of4 q1364 q1472 q1474 q135) (lw_meth q1476)) rfl rfl rfl (hE.2.1.2.2.2.2.2 _ _ _ hdx_next.1 q1366 q1365 q1475 q1473 q1338) hdx_next.2 ⟨Nat.le_of_ble_eq_true rfl, Nat.le_of_ble_eq_true rfl⟩) rfl rfl (j_recv hJ _ _ _ _ 6 _ _ hE hH hS (adtR (t := 6) (show bd _ _ = some _ from e7)).choose_spec) ea2 rfl hl.1 rfl rfl (lv_room (Nat.le_of_ble_eq_true rfl)) dX1_leaves_24 hH hS (by omega) (by omega) (fun H locs hH hS => ?_)
      have hkc : kc + c1 + c7 + c2_7 ≤ mc := by omega
      have hks : ks + n1 + n7 + n2_7 ≤ ms := by omega
      obtain ⟨_, e8, hf⟩ := bdo hf
      refine g_cast (pc := 29) (o := v7) (ci := 4) (C := RX16) (T := TX16) (N := 6) hx hb hts hown hE hk hH rfl q1512 e8 dX1_leaves_29 ?_
      refine g_astore (pc := 32) (i := 4) (o := v7) (lv' := [(4, va_rf v7), (1, va_rf l1), (2, .int l2), (3, va_rf l3)]) hx hb dX1_leaves_32 hl (by decide) (by simp [va_rf_cat, cat_i, cat_j, cat_r] <;> rfl) (fun ls hl => ?_)
      refine g_aload (pc := 34) (o := v7) hx hb dX1_leaves_34 (lv_at hl 0 rfl) ?_
      refine g_aload_n (pc := 36) (o := l1) hx hb dX1_leaves_36 rfl (lv_at hl 1 rfl) ?_
      obtain ⟨a9, ea9, hf⟩ := bdo hf
      obtain ⟨v10, e10, hf⟩ := bdo hf
      refine g_get (pc := 37) (o := l1) (a := a9) (ci := 6) (k := 0) (v := .int v10) (C := RX10) (T := TX10) (N := 5) hx hb hts hown hE hk hH in_X10 rfl (by decide) (hts _ q1245) (fun _ h9 => h9) ea9 (rdI_o e10) dX1_leaves_37 ?_
      obtain ⟨a12, ea12, hf⟩ := bdo hf
      obtain ⟨_, ek11, hf⟩ := bdo hf
      obtain ⟨v11, S11, c11, n11, c2_11, n2_11, e11, hf, hC11, hN11⟩ := gbo hf
      refine g_callV (pc := 40) (o := v7) (b := a12) (As := [.int v10]) (rest := []) (st1 := [.int v11]) hc (mX16_isHeldBy hk hJ (l0 := a12) (l1 := v10) e11) (cwV 1 hts (lw_V q1513 q1514 q1515 q144 q1516) rfl rfl rfl hdX16_isHeldBy ⟨Nat.le_of_ble_eq_true rfl, Nat.le_of_ble_eq_true rfl⟩) (g_recv hE hk hH (ci := 4) (q := (RX16, TX16, 6)) rfl (chk_o ek11).choose_spec) ea12 rfl hl.1 rfl rfl (lv_room (Nat.le_of_ble_eq_true rfl)) dX1_leaves_40 hH hS (by omega) (by omega) (fun H locs hH hS => ?_)
      have hkc : kc + c1 + c7 + c11 + c2_11 ≤ mc := by omega
      have hks : ks + n1 + n7 + n11 + n2_11 ≤ ms := by omega
      refine lv_if_eq (pc := 43) (tgt := 54) hx hb dX1_leaves_43 (by decide) (fun c13 => ?_) (fun c13 => ?_)
      · rw [if_pos c13] at hf
        refine lv_goto (pc := 54) (tgt := 14) hx hb dX1_leaves_54 (by decide) ?_
        exact ih l1 l2 l3 S11 _ _ ls _ _ _ _ hkc hks hH hS (lv_sub hl [1, 2, 3] rfl) hf
      · rw [if_neg c13] at hf
        refine g_aload (pc := 46) (o := v7) hx hb dX1_leaves_46 (lv_at hl 0 rfl) ?_
        obtain ⟨_, ek14, hf⟩ := bdo hf
        obtain ⟨_, S14, c14, n14, c2_14, n2_14, e14, hf, hC14, hN14⟩ := gbo hf
        refine g_callV (pc := 48) (o := v7) (b := a12) (As := []) (rest := []) (st1 := []) hc (mX16_readies hk hJ (l0 := a12) e14) (cwV 0 hts (lw_V q1517 q1518 q1519 q144 q1520) rfl rfl rfl hdX16_readies ⟨Nat.le_of_ble_eq_true rfl, Nat.le_of_ble_eq_true rfl⟩) (g_recv hE hk hH (ci := 4) (q := (RX16, TX16, 6)) rfl (chk_o ek14).choose_spec) ea12 rfl hl.1 rfl rfl (lv_room (Nat.le_of_ble_eq_true rfl)) dX1_leaves_48 hH hS (by omega) (by omega) (fun H locs hH hS => ?_)
        have hkc : kc + c1 + c7 + c11 + c14 + c2_14 ≤ mc := by omega
        have hks : ks + n1 + n7 + n11 + n14 + n2_14 ≤ ms := by omega
        refine lv_iinc (pc := 51) (v := l2 + (nI 1)) (lv' := [(2, .int (l2 + (nI 1))), (4, va_rf v7), (1, va_rf l1), (3, va_rf l3)]) hx hb dX1_leaves_51 hl (k := 2) rfl rfl (by decide) (by simp [va_rf_cat, cat_i, cat_j, cat_r] <;> rfl) (fun ls hl => ?_)
        refine lv_goto (pc := 54) (tgt := 14) hx hb dX1_leaves_54 (by decide) ?_
        exact ih l1 (l2 + (nI 1)) l3 S14 _ _ ls _ _ _ _ hkc hks hH hS (lv_sub hl [2, 0, 3] rfl) hf
def fX1_leaves (l0 : Nat) (l1 : Option Nat) (S : gS) : gO Int32 :=
  bd (chk S l0 1) fun _ =>
  gb (fX1_queueOf l0 l1 S) fun v1 S1 =>
  bd v1 fun a2 =>
  bd (rdR S1 a2 3 7) fun v3 =>
  bd v3 fun a5 =>
  gb (nAL_iter a5  S1) fun v4 S4 =>
  fX1_leaves_b14 FU l1 (nI 0) v4 S4
theorem wX1_leaves_b0 (hk : rOK Rp) (hJ : JDK l G Rp) (hc : gC p s m args meth c G RX1 "leaves" cX1_leaves 5 (some .int)) (l0 : Nat) (l1 : Option Nat) (S : gS) (H : Heap) (locs : List Loc) (ls : Array Slot) (kc ks C N : Nat) (hkc : kc + C ≤ mc) (hks : ks + N ≤ ms) (hH : hp G Rp S H) (hS : va_S G.2.2.2 s.heap H locs) (hl : lv_has ls 5 [(0, .ref l0), (1, va_rf l1)]) (hf : fX1_leaves l0 l1 S = some (r, Sf, C, N)) : W p l e (gR 16 561 mc ms) s m args below meth c H locs kc ks (gQ below G Rp (some (.int r)) Sf args s mc ms) (F0 m 0 ls []) := by
  obtain ⟨hx, hb, hr, hlk, hml, hown, hts, hE, hA, hnm⟩ := hc
  have hc : gC p s m args meth c G RX1 "leaves" cX1_leaves 5 (some .int) := ⟨hx, hb, hr, hlk, hml, hown, hts, hE, hA, hnm⟩
  unfold fX1_leaves at hf
  refine lv_iconst (pc := 0) (v := nI 0) hx hb dX1_leaves_0 rfl ?_
  refine lv_istore_n (pc := 1) (i := 2) (lv' := [(2, .int (nI 0)), (0, .ref l0), (1, va_rf l1)]) hx hb dX1_leaves_1 rfl hl (by decide) (by simp [va_rf_cat, cat_i, cat_j, cat_r] <;> rfl) (fun ls hl => ?_)
  refine lv_aload_n (pc := 2) hx hb dX1_leaves_2 rfl (lv_at hl 1 rfl) ?_
  refine g_aload_n (pc := 3) (o := l1) hx hb dX1_leaves_3 rfl (lv_at hl 2 rfl) ?_
  obtain ⟨_, ek1, hf⟩ := bdo hf
  obtain ⟨v1, S1, c1, n1, c2_1, n2_1, e1, hf, hC1, hN1⟩ := gbo hf
  refine g_callV (pc := 4) (o := (some l0)) (b := l0) (As := [va_rf l1]) (rest := []) (st1 := [va_rf v1]) hc (mX1_queueOf hk hJ (l0 := l0) (l1 := l1) e1) (cwV 1 hts (lw_V q1286 q1287 q1288 q98 q1289) rfl rfl rfl hdX1_queueOf ⟨Nat.le_of_ble_eq_true rfl, Nat.le_of_ble_eq_true rfl⟩) (g_recv hE hk hH (ci := 1) (q := (RX1, TX1, 7)) rfl (chk_o ek1).choose_spec) rfl rfl hl.1 rfl rfl (lv_room (Nat.le_of_ble_eq_true rfl)) dX1_leaves_4 hH hS (by omega) (by omega) (fun H locs hH hS => ?_)
  have hkc : kc + c1 + c2_1 ≤ mc := by omega
  have hks : ks + n1 + n2_1 ≤ ms := by omega
  obtain ⟨a2, ea2, hf⟩ := bdo hf
  obtain ⟨v3, e3, hf⟩ := bdo hf
  refine g_get (pc := 7) (o := v1) (a := a2) (ci := 3) (k := 7) (v := va_rf v3) (C := RX8) (T := TX8) (N := 13) hx hb hts hown hE hk hH in_X8 rfl (by decide) (hts _ q1168) (fun _ h9 => h9) ea2 (rdR_o e3) dX1_leaves_7 ?_
  obtain ⟨a5, ea5, hf⟩ := bdo hf
  obtain ⟨v4, S4, c4, n4, c2_4, n2_4, e4, hf, hC4, hN4⟩ := gbo hf
  refine g_callV (pc := 10) (o := v3) (b := a5) (As := []) (rest := []) (st1 := [va_rf v4]) hc (j_nAL_iter hJ a5  S1 v4 S4 c4 n4 e4) (cwV 0 hts (lw_V q1292 q1293 q1294 q101 q1295) rfl rfl rfl hdJ2_iterator ⟨Nat.le_of_ble_eq_true rfl, Nat.le_of_ble_eq_true rfl⟩) (j_recv hJ _ _ _ _ 0 _ _ hE hH hS (adtR (t := 0) (show bd _ _ = some _ from e4)).choose_spec) ea5 rfl hl.1 rfl rfl (lv_room (Nat.le_of_ble_eq_true rfl)) dX1_leaves_10 hH hS (by omega) (by omega) (fun H locs hH hS => ?_)
  have hkc : kc + c1 + c4 + c2_4 ≤ mc := by omega
  have hks : ks + n1 + n4 + n2_4 ≤ ms := by omega
  refine g_astore_n (pc := 13) (i := 3) (o := v4) (lv' := [(3, va_rf v4), (2, .int (nI 0)), (0, .ref l0), (1, va_rf l1)]) hx hb dX1_leaves_13 rfl hl (by decide) rfl (fun ls hl => ?_)
  exact wX1_leaves_b14 hk hJ hc FU l1 (nI 0) v4 S4 _ _ ls _ _ _ _ hkc hks hH hS (lv_sub hl [3, 1, 0] rfl) hf
theorem mX1_leaves {l : Launch} {G : gG} {Rp : gM → gM → Nat → Prop} (hk : rOK Rp) (hJ : JDK l G Rp) {S S2 : gS} {r2 : Int32} {C N : Nat} {l0 : Nat} {l1 : Option Nat} (hf : fX1_leaves l0 l1 S = some (r2, S2, C, N)) : gMet l yX1_leaves cX1_leaves 5 (some .int) 16 561 G Rp [.ref l0, va_rf l1] S (some (.int r2)) S2 C N := by
  refine g_start (by decide) (by simp [lg_sl, va_rf_cat, cat_i, cat_j, cat_r]) (fun p e s m args below meth c ls hc hl hH => ?_)
  have hl : lv_has ls 5 [(0, .ref l0), (1, va_rf l1)] := by simpa [lv_args, va_rf_cat, cat_i, cat_j, cat_r] using hl
  exact wX1_leaves_b0 hk hJ hc l0 l1 S _ _ ls 0 0 C N (by omega) (by omega) hH va_S.rf (lv_sub hl [0, 1] rfl) hf
end
section
variable {r : Int32} {Sf : gS}
def fX0_leave (l0 : Nat) (l1 : Int32) (S : gS) : gO Int32 :=
  bd (chk S l0 0) fun _ =>
  gb (fX0_isHere l0 l1 S) fun v1 S1 =>
  if v1 = 0 then
    bd (chk S1 l0 0) fun _ =>
    gb (fX0_no l0 (-82) S1) fun v3 S3 =>
    some (v3, S3, 0, 0)
  else
    bd (rdR S1 l0 0 0) fun v4 =>
    bd (rdR S1 l0 0 0) fun v5 =>
    bd v5 fun a6 =>
    bd (rdR S1 a6 1 1) fun v7 =>
    bd v7 fun a9 =>
    gb (nAL_get a9 l1 S1) fun v8 S8 =>
    bd (ckc S8 v8 6) fun _ =>
    bd v4 fun a12 =>
    bd (chk S8 a12 1) fun _ =>
    gb (fX1_leaves a12 v8 S8) fun v11 S11 =>
    some (v11, S11, 0, 0)
theorem wX0_leave_b0 (hk : rOK Rp) (hJ : JDK l G Rp) (hc : gC p s m args meth c G RX0 "leave" cX0_leave 2 (some .int)) (l0 : Nat) (l1 : Int32) (S : gS) (H : Heap) (locs : List Loc) (ls : Array Slot) (kc ks C N : Nat) (hkc : kc + C ≤ mc) (hks : ks + N ≤ ms) (hH : hp G Rp S H) (hS : va_S G.2.2.2 s.heap H locs) (hl : lv_has ls 2 [(0, .ref l0), (1, .int l1)]) (hf : fX0_leave l0 l1 S = some (r, Sf, C, N)) : W p l e (gR 17 585 mc ms) s m args below meth c H locs kc ks (gQ below G Rp (some (.int r)) Sf args s mc ms) (F0 m 0 ls []) := by
  obtain ⟨hx, hb, hr, hlk, hml, hown, hts, hE, hA, hnm⟩ := hc
  have hc : gC p s m args meth c G RX0 "leave" cX0_leave 2 (some .int) := ⟨hx, hb, hr, hlk, hml, hown, hts, hE, hA, hnm⟩
  unfold fX0_leave at hf
  refine lv_aload_n (pc := 0) hx hb dX0_leave_0 rfl (lv_at hl 0 rfl) ?_
  refine lv_iload_n (pc := 1) hx hb dX0_leave_1 rfl (lv_at hl 1 rfl) ?_
  obtain ⟨_, ek1, hf⟩ := bdo hf
  obtain ⟨v1, S1, c1, n1, c2_1, n2_1, e1, hf, hC1, hN1⟩ := gbo hf
  refine g_callV (pc := 2) (o := (some l0)) (b := l0) (As := [.int l1]) (rest := []) (st1 := [.int v1]) hc (mX0_isHere hk hJ (l0 := l0) (l1 := l1) e1) (cwV 1 hts (lw_V q1274 q1276 qs19 q97 q1277) rfl rfl rfl hdX0_isHere ⟨Nat.le_of_ble_eq_true rfl, Nat.le_of_ble_eq_true rfl⟩) (g_recv hE hk hH (ci := 0) (q := (RX0, TX0, 7)) rfl (chk_o ek1).choose_spec) rfl rfl hl.1 rfl rfl (lv_room (Nat.le_of_ble_eq_true rfl)) dX0_leave_2 hH hS (by omega) (by omega) (fun H locs hH hS => ?_)
  have hkc : kc + c1 + c2_1 ≤ mc := by omega
  have hks : ks + n1 + n2_1 ≤ ms := by omega
  refine lv_if_eq (pc := 5) (tgt := 32) hx hb dX0_leave_5 (by decide) (fun c2 => ?_) (fun c2 => ?_)
  · rw [if_pos c2] at hf
    refine lv_aload_n (pc := 32) hx hb dX0_leave_32 rfl (lv_at hl 0 rfl) ?_
    refine lv_bipush (pc := 33) (v := -82) hx hb dX0_leave_33 gkbm82 ?_
    obtain ⟨_, ek3, hf⟩ := bdo hf
    obtain ⟨v3, S3, c3, n3, c2_3, n2_3, e3, hf, hC3, hN3⟩ := gbo hf
    refine g_callV (pc := 35) (o := (some l0)) (b := l0) (As := [.int (-82)]) (rest := []) (st1 := [.int v3]) hc (mX0_no hk hJ (l0 := l0) (l1 := (-82)) e3) (cwV 1 hts (lw_V q398 q400 qs2 q97 q401) rfl rfl rfl hdX0_no ⟨Nat.le_of_ble_eq_true rfl, Nat.le_of_ble_eq_true rfl⟩) (g_recv hE hk hH (ci := 0) (q := (RX0, TX0, 7)) rfl (chk_o ek3).choose_spec) rfl rfl hl.1 rfl rfl (lv_room (Nat.le_of_ble_eq_true rfl)) dX0_leave_35 hH hS (by omega) (by omega) (fun H locs hH hS => ?_)
    have hkc : kc + c1 + c3 + c2_3 ≤ mc := by omega
    have hks : ks + n1 + n3 + n2_3 ≤ ms := by omega
    exact g_iret (pc := 38) hx hb hr hlk hH hS hkc hks hf dX0_leave_38
  · rw [if_neg c2] at hf
    refine lv_aload_n (pc := 8) hx hb dX0_leave_8 rfl (lv_at hl 0 rfl) ?_
    obtain ⟨v4, e4, hf⟩ := bdo hf
    refine g_get (pc := 9) (o := (some l0)) (a := l0) (ci := 0) (k := 0) (v := va_rf v4) (C := RX0) (T := TX0) (N := 7) hx hb hts hown hE hk hH in_X0 rfl (by decide) (hts _ q272) (fun _ h9 => h9) rfl (rdR_o e4) dX0_leave_9 ?_
    refine lv_aload_n (pc := 12) hx hb dX0_leave_12 rfl (lv_at hl 0 rfl) ?_
    obtain ⟨v5, e5, hf⟩ := bdo hf
    refine g_get (pc := 13) (o := (some l0)) (a := l0) (ci := 0) (k := 0) (v := va_rf v5) (C := RX0) (T := TX0) (N := 7) hx hb hts hown hE hk hH in_X0 rfl (by decide) (hts _ q272) (fun _ h9 => h9) rfl (rdR_o e5) dX0_leave_13 ?_
    obtain ⟨a6, ea6, hf⟩ := bdo hf
    obtain ⟨v7, e7, hf⟩ := bdo hf
    refine g_get (pc := 16) (o := v5) (a := a6) (ci := 1) (k := 1) (v := va_rf v7) (C := RX1) (T := TX1) (N := 7) hx hb hts hown hE hk hH in_X1 rfl (by decide) (hts _ q234) (fun _ h9 => h9) ea6 (rdR_o e7) dX0_leave_16 ?_
    refine lv_iload_n (pc := 19) hx hb dX0_leave_19 rfl (lv_at hl 1 rfl) ?_
    obtain ⟨a9, ea9, hf⟩ := bdo hf
    obtain ⟨v8, S8, c8, n8, c2_8, n2_8, e8, hf, hC8, hN8⟩ := gbo hf
    refine g_callV (pc := 20) (o := v7) (b := a9) (As := [.int l1]) (rest := [va_rf v4]) (st1 := [va_rf v8, va_rf v4]) hc (j_nAL_get hJ a9 l1 S1 v8 S8 c8 n8 e8) (cwV 1 hts (lw_V q1222 q1223 q1224 q101 q1225) rfl rfl rfl hdJ2_get ⟨Nat.le_of_ble_eq_true rfl, Nat.le_of_ble_eq_true rfl⟩) (j_recv hJ _ _ _ _ 0 _ _ hE hH hS (adtR (t := 0) (show bd _ _ = some _ from e8)).choose_spec) ea9 rfl hl.1 rfl rfl (lv_room (by simp [va_rf_cat, cat_i, cat_j, cat_r])) dX0_leave_20 hH hS (by omega) (by omega) (fun H locs hH hS => ?_)
    have hkc : kc + c1 + c8 + c2_8 ≤ mc := by omega
    have hks : ks + n1 + n8 + n2_8 ≤ ms := by omega
    obtain ⟨_, e10, hf⟩ := bdo hf
    refine g_cast (pc := 23) (o := v8) (ci := 6) (C := RX10) (T := TX10) (N := 5) hx hb hts hown hE hk hH rfl q1238 e10 dX0_leave_23 ?_
    obtain ⟨a12, ea12, hf⟩ := bdo hf
    obtain ⟨_, ek11, hf⟩ := bdo hf
    obtain ⟨v11, S11, c11, n11, c2_11, n2_11, e11, hf, hC11, hN11⟩ := gbo hf
    refine g_callV (pc := 26) (o := v4) (b := a12) (As := [va_rf v8]) (rest := []) (st1 := [.int v11]) hc (mX1_leaves hk hJ (l0 := a12) (l1 := v8) e11) (cwV 1 hts (lw_V q1282 q1283 q1284 q98 q1285) rfl rfl rfl hdX1_leaves ⟨Nat.le_of_ble_eq_true rfl, Nat.le_of_ble_eq_true rfl⟩) (g_recv hE hk hH (ci := 1) (q := (RX1, TX1, 7)) rfl (chk_o ek11).choose_spec) ea12 rfl hl.1 rfl rfl (lv_room (Nat.le_of_ble_eq_true rfl)) dX0_leave_26 hH hS (by omega) (by omega) (fun H locs hH hS => ?_)
    have hkc : kc + c1 + c8 + c11 + c2_11 ≤ mc := by omega
    have hks : ks + n1 + n8 + n11 + n2_11 ≤ ms := by omega
    refine lv_goto (pc := 29) (tgt := 38) hx hb dX0_leave_29 (by decide) ?_
    exact g_iret (pc := 38) hx hb hr hlk hH hS hkc hks hf dX0_leave_38
theorem mX0_leave {l : Launch} {G : gG} {Rp : gM → gM → Nat → Prop} (hk : rOK Rp) (hJ : JDK l G Rp) {S S2 : gS} {r2 : Int32} {C N : Nat} {l0 : Nat} {l1 : Int32} (hf : fX0_leave l0 l1 S = some (r2, S2, C, N)) : gMet l yX0_leave cX0_leave 2 (some .int) 17 585 G Rp [.ref l0, .int l1] S (some (.int r2)) S2 C N := by
  refine g_start (by decide) (Nat.le_of_ble_eq_true rfl) (fun p e s m args below meth c ls hc hl hH => ?_)
  have hl : lv_has ls 2 [(0, .ref l0), (1, .int l1)] := hl
  exact wX0_leave_b0 hk hJ hc l0 l1 S _ _ ls 0 0 C N (by omega) (by omega) hH va_S.rf (lv_sub hl [0, 1] rfl) hf
end
section
variable {r : Int32} {Sf : gS}
def fX0_letter_b38 (l0 : Nat) (S : gS) : gO Int32 :=
  bd (chk S l0 0) fun _ =>
  gb (fX0_no l0 (-82) S) fun v1 S1 =>
  some (v1, S1, 0, 0)
theorem wX0_letter_b38 (hk : rOK Rp) (hJ : JDK l G Rp) (hc : gC p s m args meth c G RX0 "letter" cX0_letter 5 (some .int)) (l0 : Nat) (S : gS) (H : Heap) (locs : List Loc) (ls : Array Slot) (kc ks C N : Nat) (hkc : kc + C ≤ mc) (hks : ks + N ≤ ms) (hH : hp G Rp S H) (hS : va_S G.2.2.2 s.heap H locs) (hl : lv_has ls 5 [(0, .ref l0)]) (hf : fX0_letter_b38 l0 S = some (r, Sf, C, N)) : W p l e (gR 16 561 mc ms) s m args below meth c H locs kc ks (gQ below G Rp (some (.int r)) Sf args s mc ms) (F0 m 38 ls []) := by
  obtain ⟨hx, hb, hr, hlk, hml, hown, hts, hE, hA, hnm⟩ := hc
  have hc : gC p s m args meth c G RX0 "letter" cX0_letter 5 (some .int) := ⟨hx, hb, hr, hlk, hml, hown, hts, hE, hA, hnm⟩
  unfold fX0_letter_b38 at hf
  refine lv_aload_n (pc := 38) hx hb dX0_letter_38 rfl (lv_at hl 0 rfl) ?_
  refine lv_bipush (pc := 39) (v := -82) hx hb dX0_letter_39 gkbm82 ?_
  obtain ⟨_, ek1, hf⟩ := bdo hf
  obtain ⟨v1, S1, c1, n1, c2_1, n2_1, e1, hf, hC1, hN1⟩ := gbo hf
  refine g_callV (pc := 41) (o := (some l0)) (b := l0) (As := [.int (-82)]) (rest := []) (st1 := [.int v1]) hc (mX0_no hk hJ (l0 := l0) (l1 := (-82)) e1) (cwV 1 hts (lw_V q398 q400 qs2 q97 q401) rfl rfl rfl hdX0_no ⟨Nat.le_of_ble_eq_true rfl, Nat.le_of_ble_eq_true rfl⟩) (g_recv hE hk hH (ci := 0) (q := (RX0, TX0, 7)) rfl (chk_o ek1).choose_spec) rfl rfl hl.1 rfl rfl (lv_room (Nat.le_of_ble_eq_true rfl)) dX0_letter_41 hH hS (by omega) (by omega) (fun H locs hH hS => ?_)
  have hkc : kc + c1 + c2_1 ≤ mc := by omega
  have hks : ks + n1 + n2_1 ≤ ms := by omega
  exact g_iret (pc := 44) hx hb hr hlk hH hS hkc hks hf dX0_letter_44
def fX0_letter (l0 : Nat) (l1 : Int32) (l2 : Int32) (l3 : Int32) (S : gS) : gO Int32 :=
  bd (chk S l0 0) fun _ =>
  gb (fX0_isQueue l0 l1 S) fun v1 S1 =>
  if v1 = 0 then
    fX0_letter_b38 l0 S1
  else
    gb (fX0_isIn l3 (nI 0) (nI 4) S1) fun v3 S3 =>
    if v3 = 0 then
      fX0_letter_b38 l0 S3
    else
      bd (chk S3 l0 0) fun _ =>
      gb (fX0_queue_2 l0 l1 S3) fun v5 S5 =>
      bd v5 fun a6 =>
      bd (rdR S5 a6 3 7) fun v7 =>
      bd v7 fun a9 =>
      gb (nAL_size a9  S5) fun v8 S8 =>
      gb (fX0_isIn l2 (nI 0) (v8 - (nI 1)) S8) fun v10 S10 =>
      if v10 = 0 then
        fX0_letter_b38 l0 S10
      else
        bd (chk S10 l0 0) fun _ =>
        gb (fX0_queue_2 l0 l1 S10) fun v12 S12 =>
        bd v12 fun a13 =>
        bd (rdR S12 a13 3 7) fun v14 =>
        bd v14 fun a16 =>
        gb (nAL_get a16 l2 S12) fun v15 S15 =>
        bd (ckc S15 v15 4) fun _ =>
        if l3 = 0 then
          bd v15 fun a19 =>
          bd (rdR S15 a19 4 0) fun v20 =>
          bd v20 fun a21 =>
          bd (rdI S15 a21 5 0) fun v22 =>
          some (v22, S15, 0, 0)
        else if l3 = 1 then
          bd v15 fun a23 =>
          bd (rdI S15 a23 4 1) fun v24 =>
          some (v24, S15, 0, 0)
        else if l3 = 2 then
          bd v15 fun a25 =>
          bd (rdI S15 a25 4 3) fun v26 =>
          some (v26, S15, 0, 0)
        else if l3 = 3 then
          bd v15 fun a27 =>
          bd (rdI S15 a27 4 4) fun v28 =>
          some (v28, S15, 0, 0)
        else
          bd v15 fun a29 =>
          bd (rdI S15 a29 4 2) fun v30 =>
          some (v30, S15, 0, 0)
theorem wX0_letter_b0 (hk : rOK Rp) (hJ : JDK l G Rp) (hc : gC p s m args meth c G RX0 "letter" cX0_letter 5 (some .int)) (l0 : Nat) (l1 : Int32) (l2 : Int32) (l3 : Int32) (S : gS) (H : Heap) (locs : List Loc) (ls : Array Slot) (kc ks C N : Nat) (hkc : kc + C ≤ mc) (hks : ks + N ≤ ms) (hH : hp G Rp S H) (hS : va_S G.2.2.2 s.heap H locs) (hl : lv_has ls 5 [(0, .ref l0), (1, .int l1), (2, .int l2), (3, .int l3)]) (hf : fX0_letter l0 l1 l2 l3 S = some (r, Sf, C, N)) : W p l e (gR 16 561 mc ms) s m args below meth c H locs kc ks (gQ below G Rp (some (.int r)) Sf args s mc ms) (F0 m 0 ls []) := by
  obtain ⟨hx, hb, hr, hlk, hml, hown, hts, hE, hA, hnm⟩ := hc
  have hc : gC p s m args meth c G RX0 "letter" cX0_letter 5 (some .int) := ⟨hx, hb, hr, hlk, hml, hown, hts, hE, hA, hnm⟩
  unfold fX0_letter at hf
  refine lv_aload_n (pc := 0) hx hb dX0_letter_0 rfl (lv_at hl 0 rfl) ?_
  refine lv_iload_n (pc := 1) hx hb dX0_letter_1 rfl (lv_at hl 1 rfl) ?_
  obtain ⟨_, ek1, hf⟩ := bdo hf
  obtain ⟨v1, S1, c1, n1, c2_1, n2_1, e1, hf, hC1, hN1⟩ := gbo hf
  refine g_callV (pc := 2) (o := (some l0)) (b := l0) (As := [.int l1]) (rest := []) (st1 := [.int v1]) hc (mX0_isQueue hk hJ (l0 := l0) (l1 := l1) e1) (cwV 1 hts (lw_V q1214 q1216 qs17 q97 q1217) rfl rfl rfl hdX0_isQueue ⟨Nat.le_of_ble_eq_true rfl, Nat.le_of_ble_eq_true rfl⟩) (g_recv hE hk hH (ci := 0) (q := (RX0, TX0, 7)) rfl (chk_o ek1).choose_spec) rfl rfl hl.1 rfl rfl (lv_room (Nat.le_of_ble_eq_true rfl)) dX0_letter_2 hH hS (by omega) (by omega) (fun H locs hH hS => ?_)
  have hkc : kc + c1 + c2_1 ≤ mc := by omega
  have hks : ks + n1 + n2_1 ≤ ms := by omega
  refine lv_if_eq (pc := 5) (tgt := 38) hx hb dX0_letter_5 (by decide) (fun c2 => ?_) (fun c2 => ?_)
  · rw [if_pos c2] at hf
    exact wX0_letter_b38 hk hJ hc l0 S1 _ _ ls _ _ _ _ hkc hks hH hS (lv_sub hl [0] rfl) hf
  · rw [if_neg c2] at hf
    refine lv_iload_n (pc := 8) hx hb dX0_letter_8 rfl (lv_at hl 3 rfl) ?_
    refine lv_iconst (pc := 9) (v := nI 0) hx hb dX0_letter_9 rfl ?_
    refine lv_iconst (pc := 10) (v := nI 4) hx hb dX0_letter_10 rfl ?_
    obtain ⟨v3, S3, c3, n3, c2_3, n2_3, e3, hf, hC3, hN3⟩ := gbo hf
    refine g_callS (pc := 11) (As := [.int l3, .int (nI 0), .int (nI 4)]) (rest := []) (st1 := [.int v3]) hc (mX0_isIn hk hJ (l0 := l3) (l1 := (nI 0)) (l2 := (nI 4)) e3) (va_cwS 3 hts (lw_S q395 q396 q97 q397) rfl rfl rfl hdX0_isIn ⟨Nat.le_of_ble_eq_true rfl, Nat.le_of_ble_eq_true rfl⟩) rfl hl.1 rfl rfl (lv_room (Nat.le_of_ble_eq_true rfl)) dX0_letter_11 hH hS (by omega) (by omega) (fun H locs hH hS => ?_)
    have hkc : kc + c1 + c3 + c2_3 ≤ mc := by omega
    have hks : ks + n1 + n3 + n2_3 ≤ ms := by omega
    refine lv_if_eq (pc := 14) (tgt := 38) hx hb dX0_letter_14 (by decide) (fun c4 => ?_) (fun c4 => ?_)
    · rw [if_pos c4] at hf
      exact wX0_letter_b38 hk hJ hc l0 S3 _ _ ls _ _ _ _ hkc hks hH hS (lv_sub hl [0] rfl) hf
    · rw [if_neg c4] at hf
      refine lv_iload_n (pc := 17) hx hb dX0_letter_17 rfl (lv_at hl 2 rfl) ?_
      refine lv_iconst (pc := 18) (v := nI 0) hx hb dX0_letter_18 rfl ?_
      refine lv_aload_n (pc := 19) hx hb dX0_letter_19 rfl (lv_at hl 0 rfl) ?_
      refine lv_iload_n (pc := 20) hx hb dX0_letter_20 rfl (lv_at hl 1 rfl) ?_
      obtain ⟨_, ek5, hf⟩ := bdo hf
      obtain ⟨v5, S5, c5, n5, c2_5, n2_5, e5, hf, hC5, hN5⟩ := gbo hf
      refine g_callV (pc := 21) (o := (some l0)) (b := l0) (As := [.int l1]) (rest := [.int (nI 0), .int l2]) (st1 := [va_rf v5, .int (nI 0), .int l2]) hc (mX0_queue_2 hk hJ (l0 := l0) (l1 := l1) e5) (cwV 1 hts (lw_V q1218 q1220 qs18 q97 q1221) rfl rfl rfl hdX0_queue_2 ⟨Nat.le_of_ble_eq_true rfl, Nat.le_of_ble_eq_true rfl⟩) (g_recv hE hk hH (ci := 0) (q := (RX0, TX0, 7)) rfl (chk_o ek5).choose_spec) rfl rfl hl.1 rfl rfl (lv_room (Nat.le_of_ble_eq_true rfl)) dX0_letter_21 hH hS (by omega) (by omega) (fun H locs hH hS => ?_)
      have hkc : kc + c1 + c3 + c5 + c2_5 ≤ mc := by omega
      have hks : ks + n1 + n3 + n5 + n2_5 ≤ ms := by omega
      obtain ⟨a6, ea6, hf⟩ := bdo hf
      obtain ⟨v7, e7, hf⟩ := bdo hf
      refine g_get (pc := 24) (o := v5) (a := a6) (ci := 3) (k := 7) (v := va_rf v7) (C := RX8) (T := TX8) (N := 13) hx hb hts hown hE hk hH in_X8 rfl (by decide) (hts _ q1169) (fun _ h9 => h9) ea6 (rdR_o e7) dX0_letter_24 ?_
      obtain ⟨a9, ea9, hf⟩ := bdo hf
      obtain ⟨v8, S8, c8, n8, c2_8, n2_8, e8, hf, hC8, hN8⟩ := gbo hf
      refine g_callV (pc := 27) (o := v7) (b := a9) (As := []) (rest := [.int (nI 0), .int l2]) (st1 := [.int v8, .int (nI 0), .int l2]) hc (j_nAL_size hJ a9  S5 v8 S8 c8 n8 e8) (cwV 0 hts (lw_V q1134 q1120 q1121 q101 q1122) rfl rfl rfl hdJ2_size ⟨Nat.le_of_ble_eq_true rfl, Nat.le_of_ble_eq_true rfl⟩) (j_recv hJ _ _ _ _ 0 _ _ hE hH hS (adtR (t := 0) (show bd _ _ = some _ from e8)).choose_spec) ea9 rfl hl.1 rfl rfl (lv_room (Nat.le_of_ble_eq_true rfl)) dX0_letter_27 hH hS (by omega) (by omega) (fun H locs hH hS => ?_)
      have hkc : kc + c1 + c3 + c5 + c8 + c2_8 ≤ mc := by omega
      have hks : ks + n1 + n3 + n5 + n8 + n2_8 ≤ ms := by omega
      refine lv_iconst (pc := 30) (v := nI 1) hx hb dX0_letter_30 rfl ?_
      refine lv_isub (pc := 31) hx hb dX0_letter_31 ?_
      obtain ⟨v10, S10, c10, n10, c2_10, n2_10, e10, hf, hC10, hN10⟩ := gbo hf
      refine g_callS (pc := 32) (As := [.int l2, .int (nI 0), .int (v8 - (nI 1))]) (rest := []) (st1 := [.int v10]) hc (mX0_isIn hk hJ (l0 := l2) (l1 := (nI 0)) (l2 := (v8 - (nI 1))) e10) (va_cwS 3 hts (lw_S q395 q396 q97 q397) rfl rfl rfl hdX0_isIn ⟨Nat.le_of_ble_eq_true rfl, Nat.le_of_ble_eq_true rfl⟩) rfl hl.1 rfl rfl (lv_room (Nat.le_of_ble_eq_true rfl)) dX0_letter_32 hH hS (by omega) (by omega) (fun H locs hH hS => ?_)
      have hkc : kc + c1 + c3 + c5 + c8 + c10 + c2_10 ≤ mc := by omega
      have hks : ks + n1 + n3 + n5 + n8 + n10 + n2_10 ≤ ms := by omega
      refine lv_if_ne (pc := 35) (tgt := 45) hx hb dX0_letter_35 (by decide) (fun c11 => ?_) (fun c11 => ?_)
      · rw [if_neg c11] at hf
        refine lv_aload_n (pc := 45) hx hb dX0_letter_45 rfl (lv_at hl 0 rfl) ?_
        refine lv_iload_n (pc := 46) hx hb dX0_letter_46 rfl (lv_at hl 1 rfl) ?_
        obtain ⟨_, ek12, hf⟩ := bdo hf
        obtain ⟨v12, S12, c12, n12, c2_12, n2_12, e12, hf, hC12, hN12⟩ := gbo hf
        refine g_callV (pc := 47) (o := (some l0)) (b := l0) (As := [.int l1]) (rest := []) (st1 := [va_rf v12]) hc (mX0_queue_2 hk hJ (l0 := l0) (l1 := l1) e12) (cwV 1 hts (lw_V q1218 q1220 qs18 q97 q1221) rfl rfl rfl hdX0_queue_2 ⟨Nat.le_of_ble_eq_true rfl, Nat.le_of_ble_eq_true rfl⟩) (g_recv hE hk hH (ci := 0) (q := (RX0, TX0, 7)) rfl (chk_o ek12).choose_spec) rfl rfl hl.1 rfl rfl (lv_room (Nat.le_of_ble_eq_true rfl)) dX0_letter_47 hH hS (by omega) (by omega) (fun H locs hH hS => ?_)
        have hkc : kc + c1 + c3 + c5 + c8 + c10 + c12 + c2_12 ≤ mc := by omega
        have hks : ks + n1 + n3 + n5 + n8 + n10 + n12 + n2_12 ≤ ms := by omega
        obtain ⟨a13, ea13, hf⟩ := bdo hf
        obtain ⟨v14, e14, hf⟩ := bdo hf
        refine g_get (pc := 50) (o := v12) (a := a13) (ci := 3) (k := 7) (v := va_rf v14) (C := RX8) (T := TX8) (N := 13) hx hb hts hown hE hk hH in_X8 rfl (by decide) (hts _ q1169) (fun _ h9 => h9) ea13 (rdR_o e14) dX0_letter_50 ?_
        refine lv_iload_n (pc := 53) hx hb dX0_letter_53 rfl (lv_at hl 2 rfl) ?_
        obtain ⟨a16, ea16, hf⟩ := bdo hf
        obtain ⟨v15, S15, c15, n15, c2_15, n2_15, e15, hf, hC15, hN15⟩ := gbo hf
        refine g_callV (pc := 54) (o := v14) (b := a16) (As := [.int l2]) (rest := []) (st1 := [va_rf v15]) hc (j_nAL_get hJ a16 l2 S12 v15 S15 c15 n15 e15) (cwV 1 hts (lw_V q1222 q1223 q1224 q101 q1225) rfl rfl rfl hdJ2_get ⟨Nat.le_of_ble_eq_true rfl, Nat.le_of_ble_eq_true rfl⟩) (j_recv hJ _ _ _ _ 0 _ _ hE hH hS (adtR (t := 0) (show bd _ _ = some _ from e15)).choose_spec) ea16 rfl hl.1 rfl rfl (lv_room (Nat.le_of_ble_eq_true rfl)) dX0_letter_54 hH hS (by omega) (by omega) (fun H locs hH hS => ?_)
        have hkc : kc + c1 + c3 + c5 + c8 + c10 + c12 + c15 + c2_15 ≤ mc := by omega
        have hks : ks + n1 + n3 + n5 + n8 + n10 + n12 + n15 + n2_15 ≤ ms := by omega
        obtain ⟨_, e17, hf⟩ := bdo hf
        refine g_cast (pc := 57) (o := v15) (ci := 4) (C := RX16) (T := TX16) (N := 6) hx hb hts hown hE hk hH rfl q1956 e17 dX0_letter_57 ?_
        refine g_astore (pc := 60) (i := 4) (o := v15) (lv' := [(4, va_rf v15), (0, .ref l0), (1, .int l1), (2, .int l2), (3, .int l3)]) hx hb dX0_letter_60 hl (by decide) rfl (fun ls hl => ?_)
        refine lv_iload_n (pc := 62) hx hb dX0_letter_62 rfl (lv_at hl 4 rfl) ?_
        by_cases c18_0 : l3 = 0
        · rw [if_pos c18_0] at hf
          refine lv_tableIn (pc := 63) (off := 29) (tgt := 92) hx hb dX0_letter_63 (by rw [c18_0]; decide) (by rw [c18_0]; decide) (by rw [c18_0]; rfl) (by decide) ?_
          refine g_aload (pc := 92) (o := v15) hx hb dX0_letter_92 (lv_at hl 0 rfl) ?_
          obtain ⟨a19, ea19, hf⟩ := bdo hf
          obtain ⟨v20, e20, hf⟩ := bdo hf
          refine g_get (pc := 94) (o := v15) (a := a19) (ci := 4) (k := 0) (v := va_rf v20) (C := RX16) (T := TX16) (N := 6) hx hb hts hown hE hk hH in_X16 rfl (by decide) (hts _ q1712) (fun _ h9 => h9) ea19 (rdR_o e20) dX0_letter_94 ?_
          obtain ⟨a21, ea21, hf⟩ := bdo hf
          obtain ⟨v22, e22, hf⟩ := bdo hf
          refine g_get (pc := 97) (o := v20) (a := a21) (ci := 5) (k := 0) (v := .int v22) (C := RX11) (T := TX11) (N := 6) hx hb hts hown hE hk hH in_X11 rfl (by decide) (hts _ q1549) (fun _ h9 => h9) ea21 (rdI_o e22) dX0_letter_97 ?_
          refine lv_goto (pc := 100) (tgt := 132) hx hb dX0_letter_100 (by decide) ?_
          exact g_iret (pc := 132) hx hb hr hlk hH hS hkc hks hf dX0_letter_132
        · rw [if_neg c18_0] at hf
          by_cases c18_1 : l3 = 1
          · rw [if_pos c18_1] at hf
            refine lv_tableIn (pc := 63) (off := 40) (tgt := 103) hx hb dX0_letter_63 (by rw [c18_1]; decide) (by rw [c18_1]; decide) (by rw [c18_1]; rfl) (by decide) ?_
            refine g_aload (pc := 103) (o := v15) hx hb dX0_letter_103 (lv_at hl 0 rfl) ?_
            obtain ⟨a23, ea23, hf⟩ := bdo hf
            obtain ⟨v24, e24, hf⟩ := bdo hf
            refine g_get (pc := 105) (o := v15) (a := a23) (ci := 4) (k := 1) (v := .int v24) (C := RX16) (T := TX16) (N := 6) hx hb hts hown hE hk hH in_X16 rfl (by decide) (hts _ q1716) (fun _ h9 => h9) ea23 (rdI_o e24) dX0_letter_105 ?_
            refine lv_goto (pc := 108) (tgt := 132) hx hb dX0_letter_108 (by decide) ?_
            exact g_iret (pc := 132) hx hb hr hlk hH hS hkc hks hf dX0_letter_132
          · rw [if_neg c18_1] at hf
            by_cases c18_2 : l3 = 2
            · rw [if_pos c18_2] at hf
              refine lv_tableIn (pc := 63) (off := 48) (tgt := 111) hx hb dX0_letter_63 (by rw [c18_2]; decide) (by rw [c18_2]; decide) (by rw [c18_2]; rfl) (by decide) ?_
              refine g_aload (pc := 111) (o := v15) hx hb dX0_letter_111 (lv_at hl 0 rfl) ?_
              obtain ⟨a25, ea25, hf⟩ := bdo hf
              obtain ⟨v26, e26, hf⟩ := bdo hf
              refine g_get (pc := 113) (o := v15) (a := a25) (ci := 4) (k := 3) (v := .int v26) (C := RX16) (T := TX16) (N := 6) hx hb hts hown hE hk hH in_X16 rfl (by decide) (hts _ q1723) (fun _ h9 => h9) ea25 (rdI_o e26) dX0_letter_113 ?_
              refine lv_goto (pc := 116) (tgt := 132) hx hb dX0_letter_116 (by decide) ?_
              exact g_iret (pc := 132) hx hb hr hlk hH hS hkc hks hf dX0_letter_132
            · rw [if_neg c18_2] at hf
              by_cases c18_3 : l3 = 3
              · rw [if_pos c18_3] at hf
                refine lv_tableIn (pc := 63) (off := 56) (tgt := 119) hx hb dX0_letter_63 (by rw [c18_3]; decide) (by rw [c18_3]; decide) (by rw [c18_3]; rfl) (by decide) ?_
                refine g_aload (pc := 119) (o := v15) hx hb dX0_letter_119 (lv_at hl 0 rfl) ?_
                obtain ⟨a27, ea27, hf⟩ := bdo hf
                obtain ⟨v28, e28, hf⟩ := bdo hf
                refine g_get (pc := 121) (o := v15) (a := a27) (ci := 4) (k := 4) (v := .int v28) (C := RX16) (T := TX16) (N := 6) hx hb hts hown hE hk hH in_X16 rfl (by decide) (hts _ q1727) (fun _ h9 => h9) ea27 (rdI_o e28) dX0_letter_121 ?_
                refine lv_goto (pc := 124) (tgt := 132) hx hb dX0_letter_124 (by decide) ?_
                exact g_iret (pc := 132) hx hb hr hlk hH hS hkc hks hf dX0_letter_132
              · rw [if_neg c18_3] at hf
                refine lv_tableOut (pc := 63) (tgt := 127) hx hb dX0_letter_63 (tsw3 c18_0 c18_1 c18_2 c18_3) (by decide) ?_
                refine g_aload (pc := 127) (o := v15) hx hb dX0_letter_127 (lv_at hl 0 rfl) ?_
                obtain ⟨a29, ea29, hf⟩ := bdo hf
                obtain ⟨v30, e30, hf⟩ := bdo hf
                refine g_get (pc := 129) (o := v15) (a := a29) (ci := 4) (k := 2) (v := .int v30) (C := RX16) (T := TX16) (N := 6) hx hb hts hown hE hk hH in_X16 rfl (by decide) (hts _ q1719) (fun _ h9 => h9) ea29 (rdI_o e30) dX0_letter_129 ?_
                exact g_iret (pc := 132) hx hb hr hlk hH hS hkc hks hf dX0_letter_132
      · rw [if_pos c11] at hf
        exact wX0_letter_b38 hk hJ hc l0 S10 _ _ ls _ _ _ _ hkc hks hH hS (lv_sub hl [0] rfl) hf
theorem mX0_letter {l : Launch} {G : gG} {Rp : gM → gM → Nat → Prop} (hk : rOK Rp) (hJ : JDK l G Rp) {S S2 : gS} {r2 : Int32} {C N : Nat} {l0 : Nat} {l1 : Int32} {l2 : Int32} {l3 : Int32} (hf : fX0_letter l0 l1 l2 l3 S = some (r2, S2, C, N)) : gMet l yX0_letter cX0_letter 5 (some .int) 16 561 G Rp [.ref l0, .int l1, .int l2, .int l3] S (some (.int r2)) S2 C N := by
  refine g_start (by decide) (Nat.le_of_ble_eq_true rfl) (fun p e s m args below meth c ls hc hl hH => ?_)
  have hl : lv_has ls 5 [(0, .ref l0), (1, .int l1), (2, .int l2), (3, .int l3)] := hl
  exact wX0_letter_b0 hk hJ hc l0 l1 l2 l3 S _ _ ls 0 0 C N (by omega) (by omega) hH va_S.rf (lv_sub hl [0, 1, 2, 3] rfl) hf
end
section
variable {r : Int32} {Sf : gS}
def fX0_messageOf_b29 (G : gG) (l0 : Nat) (S : gS) : gO Int32 :=
  bd (chk S l0 0) fun _ =>
  gb (fX0_no l0 (-82) S) fun v1 S1 =>
  some (v1, S1, 0, 0)
theorem wX0_messageOf_b29 (hk : rOK Rp) (hJ : JDK l G Rp) (hc : gC p s m args meth c G RX0 "messageOf" cX0_messageOf 7 (some .int)) (hnd : s.methodNamed? yX0_messageOf = some m) (l0 : Nat) (S : gS) (H : Heap) (locs : List Loc) (ls : Array Slot) (kc ks C N : Nat) (hkc : kc + C ≤ mc) (hks : ks + N ≤ ms) (hH : hp G Rp S H) (hS : va_S G.2.2.2 s.heap H locs) (hl : lv_has ls 7 [(0, .ref l0)]) (hf : fX0_messageOf_b29 G l0 S = some (r, Sf, C, N)) : W p l e (gR 16 3300 mc ms) s m args below meth c H locs kc ks (gQ below G Rp (some (.int r)) Sf args s mc ms) (F0 m 29 ls []) := by
  obtain ⟨hx, hb, hr, hlk, hml, hown, hts, hE, hA, hnm⟩ := hc
  have hc : gC p s m args meth c G RX0 "messageOf" cX0_messageOf 7 (some .int) := ⟨hx, hb, hr, hlk, hml, hown, hts, hE, hA, hnm⟩
  unfold fX0_messageOf_b29 at hf
  refine lv_aload_n (pc := 29) hx hb dX0_messageOf_29 rfl (lv_at hl 0 rfl) ?_
  refine lv_bipush (pc := 30) (v := -82) hx hb dX0_messageOf_30 gkbm82 ?_
  obtain ⟨_, ek1, hf⟩ := bdo hf
  obtain ⟨v1, S1, c1, n1, c2_1, n2_1, e1, hf, hC1, hN1⟩ := gbo hf
  refine g_callV (pc := 32) (o := (some l0)) (b := l0) (As := [.int (-82)]) (rest := []) (st1 := [.int v1]) hc (mX0_no hk hJ (l0 := l0) (l1 := (-82)) e1) (cwV 1 hts (lw_V q398 q400 qs2 q97 q401) rfl rfl rfl hdX0_no ⟨Nat.le_of_ble_eq_true rfl, Nat.le_of_ble_eq_true rfl⟩) (g_recv hE hk hH (ci := 0) (q := (RX0, TX0, 7)) rfl (chk_o ek1).choose_spec) rfl rfl hl.1 rfl rfl (lv_room (Nat.le_of_ble_eq_true rfl)) dX0_messageOf_32 hH hS (by omega) (by omega) (fun H locs hH hS => ?_)
  have hkc : kc + c1 + c2_1 ≤ mc := by omega
  have hks : ks + n1 + n2_1 ≤ ms := by omega
  exact g_iret (pc := 35) hx hb hr hlk hH hS hkc hks hf dX0_messageOf_35
def fX0_messageOf_b123 (G : gG) : Nat → (Option Nat) → Int32 → (Option Nat) → gS → gO Int32
  | 0, _, _, _, _ => none
  | n + 1, l3, l4, l5, S =>
    bd l5 fun a2 =>
    gb (nI6_hasNext a2 S) fun v1 S1 =>
    if v1 = 0 then
      some (l4, S1, 0, 0)
    else
      gb (nI6_next a2 S1) fun v4 S4 =>
      bd (ckc S4 v4 3) fun _ =>
      nw S4 (cAq 24 1 (fun _ => l3)) 1 fun S6 =>
      bd v4 fun a8 =>
      bd (chk S6 a8 3) fun _ =>
      gb (fX8_many G a8 (some S4.2) S6) fun v7 S7 =>
      fX0_messageOf_b123 G n l3 (l4 + v7) l5 S7
theorem wX0_messageOf_b123 (hk : rOK Rp) (hJ : JDK l G Rp) (hc : gC p s m args meth c G RX0 "messageOf" cX0_messageOf 7 (some .int)) (hnd : s.methodNamed? yX0_messageOf = some m) : ∀ (n : Nat) (l3 : Option Nat) (l4 : Int32) (l5 : Option Nat) (S : gS) (H : Heap) (locs : List Loc) (ls : Array Slot) (kc ks C N : Nat), kc + C ≤ mc → ks + N ≤ ms → hp G Rp S H → va_S G.2.2.2 s.heap H locs → lv_has ls 7 [(3, va_rf l3), (4, .int l4), (5, va_rf l5)] → fX0_messageOf_b123 G n l3 l4 l5 S = some (r, Sf, C, N) → W p l e (gR 16 3300 mc ms) s m args below meth c H locs kc ks (gQ below G Rp (some (.int r)) Sf args s mc ms) (F0 m 123 ls []) := by
  obtain ⟨hx, hb, hr, hlk, hml, hown, hts, hE, hA, hnm⟩ := hc
  have hc : gC p s m args meth c G RX0 "messageOf" cX0_messageOf 7 (some .int) := ⟨hx, hb, hr, hlk, hml, hown, hts, hE, hA, hnm⟩
  intro n
  induction n with
  | zero => intro l3 l4 l5 S H locs ls kc ks C N _ _ _ _ _ hf; exact absurd hf (fun h => by cases h)
  | succ n ih =>
    intro l3 l4 l5 S H locs ls kc ks C N hkc hks hH hS hl hf
    rw [fX0_messageOf_b123] at hf
    refine g_aload (pc := 123) (o := l5) hx hb dX0_messageOf_123 (lv_at hl 2 rfl) ?_
    obtain ⟨a2, ea2, hf⟩ := bdo hf
    obtain ⟨v1, S1, c1, n1, c2_1, n2_1, e1, hf, hC1, hN1⟩ := gbo hf
    refine g_callF (pc := 125) (o := l5) (b := a2) (As := []) (rest := []) (st1 := [.int v1]) (ci := 21) (q := (RJ26, TJ26, 4)) hc (j_nI6_hasNext hJ a2 S v1 S1 c1 n1 e1) (va_cwF 0 hts (lw_app (lw_of4 q2060 q1339 q1341 q135) (lw_meth q1343)) rfl rfl rfl (hE.2.1.2.2.2.2.2 _ _ _ hdx_hasNext.1 q1320 q1319 q1342 q1340 q1338) hdx_hasNext.2 ⟨Nat.le_of_ble_eq_true rfl, Nat.le_of_ble_eq_true rfl⟩) rfl rfl (j_recv hJ _ _ _ _ 6 _ _ hE hH hS (adtR (t := 6) (show bd _ _ = some _ from e1)).choose_spec) ea2 rfl hl.1 rfl rfl (lv_room (Nat.le_of_ble_eq_true rfl)) dX0_messageOf_125 hH hS (by omega) (by omega) (fun H locs hH hS => ?_)
    have hkc : kc + c1 + c2_1 ≤ mc := by omega
    have hks : ks + n1 + n2_1 ≤ ms := by omega
    refine lv_if_eq (pc := 130) (tgt := 164) hx hb dX0_messageOf_130 (by decide) (fun c3 => ?_) (fun c3 => ?_)
    · rw [if_pos c3] at hf
      refine lv_iload (pc := 164) hx hb dX0_messageOf_164 (lv_at hl 1 rfl) ?_
      exact g_iret (pc := 166) hx hb hr hlk hH hS hkc hks hf dX0_messageOf_166
    · rw [if_neg c3] at hf
      refine g_aload (pc := 133) (o := l5) hx hb dX0_messageOf_133 (lv_at hl 2 rfl) ?_
      obtain ⟨v4, S4, c4, n4, c2_4, n2_4, e4, hf, hC4, hN4⟩ := gbo hf
      refine g_callF (pc := 135) (o := l5) (b := a2) (As := []) (rest := []) (st1 := [va_rf v4]) (ci := 21) (q := (RJ26, TJ26, 4)) hc (j_nI6_next hJ a2 S1 v4 S4 c4 n4 e4) (va_cwF 0 hts (lw_app (lw_of4 q2062 q1472 q1474 q135) (lw_meth q1476)) rfl rfl rfl (hE.2.1.2.2.2.2.2 _ _ _ hdx_next.1 q1366 q1365 q1475 q1473 q1338) hdx_next.2 ⟨Nat.le_of_ble_eq_true rfl, Nat.le_of_ble_eq_true rfl⟩) rfl rfl (j_recv hJ _ _ _ _ 6 _ _ hE hH hS (adtR (t := 6) (show bd _ _ = some _ from e4)).choose_spec) ea2 rfl hl.1 rfl rfl (lv_room (Nat.le_of_ble_eq_true rfl)) dX0_messageOf_135 hH hS (by omega) (by omega) (fun H locs hH hS => ?_)
      have hkc : kc + c1 + c4 + c2_4 ≤ mc := by omega
      have hks : ks + n1 + n4 + n2_4 ≤ ms := by omega
      obtain ⟨_, e5, hf⟩ := bdo hf
      refine g_cast (pc := 140) (o := v4) (ci := 3) (C := RX8) (T := TX8) (N := 13) hx hb hts hown hE hk hH rfl q1135 e5 dX0_messageOf_140 ?_
      refine g_astore (pc := 143) (i := 6) (o := v4) (lv' := [(6, va_rf v4), (3, va_rf l3), (4, .int l4), (5, va_rf l5)]) hx hb dX0_messageOf_143 hl (by decide) (by simp [va_rf_cat, cat_i, cat_j, cat_r] <;> rfl) (fun ls hl => ?_)
      refine lv_iload (pc := 145) hx hb dX0_messageOf_145 (lv_at hl 2 rfl) ?_
      refine g_aload (pc := 147) (o := v4) hx hb dX0_messageOf_147 (lv_at hl 0 rfl) ?_
      refine g_aload_n (pc := 149) (o := l3) hx hb dX0_messageOf_149 rfl (lv_at hl 1 rfl) ?_
      obtain ⟨S6, c2_6, n2_6, eS6, hf, hC6, hN6⟩ := nwo hf
      refine g_lamMake (pc := 150) (t := 24) (v := va_rf l3) (cel := cAq 24 1 (fun _ => l3)) (a0 := (1, .inr (.inr (.inr (.inr (fun _ => l3)))))) (x := lxW) (y := yX0_lambda_messageOf_3) hx hb hml hts hE hA hk hH hS lC4 (gE_L hE).2.2.2.2.2.1 rfl (hts _ q3371) ly4 lx4 (static_ex (hts _ q2515)).choose_spec.choose_spec.1 (va_any rfl (gE_L hE).1.2) hnd lT4 rfl (nar_rf _ _) (fit_rf _ _) (va_rf_cat _) rfl (fun _ => rfl) eS6 hl.1 (by simp [gR, va_rf_cat, cat_i, cat_j, cat_r]) (Nat.le_trans (by omega) hkc) (Nat.le_trans (by omega) hks) dX0_messageOf_150 (fun H hH hS => ?_)
      have hkc : kc + c1 + c4 + 1 + c2_6 ≤ mc := by omega
      have hks : ks + n1 + n4 + 1 + n2_6 ≤ ms := by omega
      obtain ⟨a8, ea8, hf⟩ := bdo hf
      obtain ⟨_, ek7, hf⟩ := bdo hf
      obtain ⟨v7, S7, c7, n7, c2_7, n2_7, e7, hf, hC7, hN7⟩ := gbo hf
      refine g_callV (pc := 155) (o := v4) (b := a8) (As := [.ref S4.2]) (rest := [.int l4]) (st1 := [.int v7, .int l4]) hc (mX8_many hk hJ (l0 := a8) (l1 := (some S4.2)) e7) (cwV 1 hts (lw_V q1856 q1857 q1858 q131 q1859) rfl rfl rfl hdX8_many ⟨Nat.le_of_ble_eq_true rfl, Nat.le_of_ble_eq_true rfl⟩) (g_recv hE hk hH (ci := 3) (q := (RX8, TX8, 13)) rfl (chk_o ek7).choose_spec) ea8 rfl hl.1 rfl rfl (lv_room (Nat.le_of_ble_eq_true rfl)) dX0_messageOf_155 hH hS (by omega) (by omega) (fun H locs hH hS => ?_)
      have hkc : kc + c1 + c4 + 1 + c7 + c2_7 ≤ mc := by omega
      have hks : ks + n1 + n4 + 1 + n7 + n2_7 ≤ ms := by omega
      refine lv_iadd (pc := 158) hx hb dX0_messageOf_158 ?_
      refine lv_istore (pc := 159) (i := 4) (lv' := [(4, .int (l4 + v7)), (6, va_rf v4), (3, va_rf l3), (5, va_rf l5)]) hx hb dX0_messageOf_159 hl (by decide) (by simp [va_rf_cat, cat_i, cat_j, cat_r] <;> rfl) (fun ls hl => ?_)
      refine lv_goto (pc := 161) (tgt := 123) hx hb dX0_messageOf_161 (by decide) ?_
      exact ih l3 (l4 + v7) l5 S7 _ _ ls _ _ _ _ hkc hks hH hS (lv_sub hl [2, 0, 3] rfl) hf
def fX0_messageOf (G : gG) (l0 : Nat) (l1 : Int32) (l2 : Int32) (S : gS) : gO Int32 :=
  bd (rdR S l0 0 0) fun v1 =>
  bd v1 fun a2 =>
  bd (rdR S a2 1 2) fun v3 =>
  bd v3 fun a5 =>
  gb (nAL_size a5  S) fun v4 S4 =>
  gb (fX0_isIn l1 (nI 0) (v4 - (nI 1)) S4) fun v6 S6 =>
  if v6 = 0 then
    fX0_messageOf_b29 G l0 S6
  else
    gb (fX0_isIn l2 (nI 0) (nI 5) S6) fun v8 S8 =>
    if v8 = 0 then
      fX0_messageOf_b29 G l0 S8
    else
      bd (rdR S8 l0 0 0) fun v10 =>
      bd v10 fun a11 =>
      bd (rdR S8 a11 1 2) fun v12 =>
      bd v12 fun a14 =>
      gb (nAL_get a14 l1 S8) fun v13 S13 =>
      bd (ckc S13 v13 5) fun _ =>
      if l2 = 0 then
        bd v13 fun a17 =>
        bd (rdI S13 a17 5 1) fun v18 =>
        some (v18, S13, 0, 0)
      else if l2 = 1 then
        bd v13 fun a19 =>
        bd (rdI S13 a19 5 2) fun v20 =>
        some (v20, S13, 0, 0)
      else if l2 = 2 then
        bd v13 fun a21 =>
        bd (rdI S13 a21 5 3) fun v22 =>
        some (v22, S13, 0, 0)
      else if l2 = 3 then
        bd v13 fun a23 =>
        bd (rdI S13 a23 5 4) fun v24 =>
        some (v24, S13, 0, 0)
      else if l2 = 4 then
        bd (rdR S13 l0 0 0) fun v25 =>
        bd v25 fun a26 =>
        bd (rdR S13 a26 1 0) fun v27 =>
        bd v27 fun a29 =>
        gb (nAL_iter a29  S13) fun v28 S28 =>
        fX0_messageOf_b123 G FU v13 (nI 0) v28 S28
      else
        bd v13 fun a30 =>
        bd (rdI S13 a30 5 5) fun v31 =>
        some (v31, S13, 0, 0)
theorem wX0_messageOf_b0 (hk : rOK Rp) (hJ : JDK l G Rp) (hc : gC p s m args meth c G RX0 "messageOf" cX0_messageOf 7 (some .int)) (hnd : s.methodNamed? yX0_messageOf = some m) (l0 : Nat) (l1 : Int32) (l2 : Int32) (S : gS) (H : Heap) (locs : List Loc) (ls : Array Slot) (kc ks C N : Nat) (hkc : kc + C ≤ mc) (hks : ks + N ≤ ms) (hH : hp G Rp S H) (hS : va_S G.2.2.2 s.heap H locs) (hl : lv_has ls 7 [(0, .ref l0), (1, .int l1), (2, .int l2)]) (hf : fX0_messageOf G l0 l1 l2 S = some (r, Sf, C, N)) : W p l e (gR 16 3300 mc ms) s m args below meth c H locs kc ks (gQ below G Rp (some (.int r)) Sf args s mc ms) (F0 m 0 ls []) := by
  obtain ⟨hx, hb, hr, hlk, hml, hown, hts, hE, hA, hnm⟩ := hc
  have hc : gC p s m args meth c G RX0 "messageOf" cX0_messageOf 7 (some .int) := ⟨hx, hb, hr, hlk, hml, hown, hts, hE, hA, hnm⟩
  unfold fX0_messageOf at hf
  refine lv_iload_n (pc := 0) hx hb dX0_messageOf_0 rfl (lv_at hl 1 rfl) ?_
  refine lv_iconst (pc := 1) (v := nI 0) hx hb dX0_messageOf_1 rfl ?_
  refine lv_aload_n (pc := 2) hx hb dX0_messageOf_2 rfl (lv_at hl 0 rfl) ?_
  obtain ⟨v1, e1, hf⟩ := bdo hf
  refine g_get (pc := 3) (o := (some l0)) (a := l0) (ci := 0) (k := 0) (v := va_rf v1) (C := RX0) (T := TX0) (N := 7) hx hb hts hown hE hk hH in_X0 rfl (by decide) (hts _ q272) (fun _ h9 => h9) rfl (rdR_o e1) dX0_messageOf_3 ?_
  obtain ⟨a2, ea2, hf⟩ := bdo hf
  obtain ⟨v3, e3, hf⟩ := bdo hf
  refine g_get (pc := 6) (o := v1) (a := a2) (ci := 1) (k := 2) (v := va_rf v3) (C := RX1) (T := TX1) (N := 7) hx hb hts hown hE hk hH in_X1 rfl (by decide) (hts _ q236) (fun _ h9 => h9) ea2 (rdR_o e3) dX0_messageOf_6 ?_
  obtain ⟨a5, ea5, hf⟩ := bdo hf
  obtain ⟨v4, S4, c4, n4, c2_4, n2_4, e4, hf, hC4, hN4⟩ := gbo hf
  refine g_callV (pc := 9) (o := v3) (b := a5) (As := []) (rest := [.int (nI 0), .int l1]) (st1 := [.int v4, .int (nI 0), .int l1]) hc (j_nAL_size hJ a5  S v4 S4 c4 n4 e4) (cwV 0 hts (lw_V q1134 q1120 q1121 q101 q1122) rfl rfl rfl hdJ2_size ⟨Nat.le_of_ble_eq_true rfl, Nat.le_of_ble_eq_true rfl⟩) (j_recv hJ _ _ _ _ 0 _ _ hE hH hS (adtR (t := 0) (show bd _ _ = some _ from e4)).choose_spec) ea5 rfl hl.1 rfl rfl (lv_room (Nat.le_of_ble_eq_true rfl)) dX0_messageOf_9 hH hS (by omega) (by omega) (fun H locs hH hS => ?_)
  have hkc : kc + c4 + c2_4 ≤ mc := by omega
  have hks : ks + n4 + n2_4 ≤ ms := by omega
  refine lv_iconst (pc := 12) (v := nI 1) hx hb dX0_messageOf_12 rfl ?_
  refine lv_isub (pc := 13) hx hb dX0_messageOf_13 ?_
  obtain ⟨v6, S6, c6, n6, c2_6, n2_6, e6, hf, hC6, hN6⟩ := gbo hf
  refine g_callS (pc := 14) (As := [.int l1, .int (nI 0), .int (v4 - (nI 1))]) (rest := []) (st1 := [.int v6]) hc (mX0_isIn hk hJ (l0 := l1) (l1 := (nI 0)) (l2 := (v4 - (nI 1))) e6) (va_cwS 3 hts (lw_S q395 q396 q97 q397) rfl rfl rfl hdX0_isIn ⟨Nat.le_of_ble_eq_true rfl, Nat.le_of_ble_eq_true rfl⟩) rfl hl.1 rfl rfl (lv_room (Nat.le_of_ble_eq_true rfl)) dX0_messageOf_14 hH hS (by omega) (by omega) (fun H locs hH hS => ?_)
  have hkc : kc + c4 + c6 + c2_6 ≤ mc := by omega
  have hks : ks + n4 + n6 + n2_6 ≤ ms := by omega
  refine lv_if_eq (pc := 17) (tgt := 29) hx hb dX0_messageOf_17 (by decide) (fun c7 => ?_) (fun c7 => ?_)
  · rw [if_pos c7] at hf
    exact wX0_messageOf_b29 hk hJ hc hnd l0 S6 _ _ ls _ _ _ _ hkc hks hH hS (lv_sub hl [0] rfl) hf
  · rw [if_neg c7] at hf
    refine lv_iload_n (pc := 20) hx hb dX0_messageOf_20 rfl (lv_at hl 2 rfl) ?_
    refine lv_iconst (pc := 21) (v := nI 0) hx hb dX0_messageOf_21 rfl ?_
    refine lv_iconst (pc := 22) (v := nI 5) hx hb dX0_messageOf_22 rfl ?_
    obtain ⟨v8, S8, c8, n8, c2_8, n2_8, e8, hf, hC8, hN8⟩ := gbo hf
    refine g_callS (pc := 23) (As := [.int l2, .int (nI 0), .int (nI 5)]) (rest := []) (st1 := [.int v8]) hc (mX0_isIn hk hJ (l0 := l2) (l1 := (nI 0)) (l2 := (nI 5)) e8) (va_cwS 3 hts (lw_S q395 q396 q97 q397) rfl rfl rfl hdX0_isIn ⟨Nat.le_of_ble_eq_true rfl, Nat.le_of_ble_eq_true rfl⟩) rfl hl.1 rfl rfl (lv_room (Nat.le_of_ble_eq_true rfl)) dX0_messageOf_23 hH hS (by omega) (by omega) (fun H locs hH hS => ?_)
    have hkc : kc + c4 + c6 + c8 + c2_8 ≤ mc := by omega
    have hks : ks + n4 + n6 + n8 + n2_8 ≤ ms := by omega
    refine lv_if_ne (pc := 26) (tgt := 36) hx hb dX0_messageOf_26 (by decide) (fun c9 => ?_) (fun c9 => ?_)
    · rw [if_neg c9] at hf
      refine lv_aload_n (pc := 36) hx hb dX0_messageOf_36 rfl (lv_at hl 0 rfl) ?_
      obtain ⟨v10, e10, hf⟩ := bdo hf
      refine g_get (pc := 37) (o := (some l0)) (a := l0) (ci := 0) (k := 0) (v := va_rf v10) (C := RX0) (T := TX0) (N := 7) hx hb hts hown hE hk hH in_X0 rfl (by decide) (hts _ q272) (fun _ h9 => h9) rfl (rdR_o e10) dX0_messageOf_37 ?_
      obtain ⟨a11, ea11, hf⟩ := bdo hf
      obtain ⟨v12, e12, hf⟩ := bdo hf
      refine g_get (pc := 40) (o := v10) (a := a11) (ci := 1) (k := 2) (v := va_rf v12) (C := RX1) (T := TX1) (N := 7) hx hb hts hown hE hk hH in_X1 rfl (by decide) (hts _ q236) (fun _ h9 => h9) ea11 (rdR_o e12) dX0_messageOf_40 ?_
      refine lv_iload_n (pc := 43) hx hb dX0_messageOf_43 rfl (lv_at hl 1 rfl) ?_
      obtain ⟨a14, ea14, hf⟩ := bdo hf
      obtain ⟨v13, S13, c13, n13, c2_13, n2_13, e13, hf, hC13, hN13⟩ := gbo hf
      refine g_callV (pc := 44) (o := v12) (b := a14) (As := [.int l1]) (rest := []) (st1 := [va_rf v13]) hc (j_nAL_get hJ a14 l1 S8 v13 S13 c13 n13 e13) (cwV 1 hts (lw_V q1222 q1223 q1224 q101 q1225) rfl rfl rfl hdJ2_get ⟨Nat.le_of_ble_eq_true rfl, Nat.le_of_ble_eq_true rfl⟩) (j_recv hJ _ _ _ _ 0 _ _ hE hH hS (adtR (t := 0) (show bd _ _ = some _ from e13)).choose_spec) ea14 rfl hl.1 rfl rfl (lv_room (Nat.le_of_ble_eq_true rfl)) dX0_messageOf_44 hH hS (by omega) (by omega) (fun H locs hH hS => ?_)
      have hkc : kc + c4 + c6 + c8 + c13 + c2_13 ≤ mc := by omega
      have hks : ks + n4 + n6 + n8 + n13 + n2_13 ≤ ms := by omega
      obtain ⟨_, e15, hf⟩ := bdo hf
      refine g_cast (pc := 47) (o := v13) (ci := 5) (C := RX11) (T := TX11) (N := 6) hx hb hts hown hE hk hH rfl q2514 e15 dX0_messageOf_47 ?_
      refine g_astore_n (pc := 50) (i := 3) (o := v13) (lv' := [(3, va_rf v13), (0, .ref l0), (1, .int l1), (2, .int l2)]) hx hb dX0_messageOf_50 rfl hl (by decide) rfl (fun ls hl => ?_)
      refine lv_iload_n (pc := 51) hx hb dX0_messageOf_51 rfl (lv_at hl 3 rfl) ?_
      by_cases c16_0 : l2 = 0
      · rw [if_pos c16_0] at hf
        refine lv_tableIn (pc := 52) (off := 36) (tgt := 88) hx hb dX0_messageOf_52 (by rw [c16_0]; decide) (by rw [c16_0]; decide) (by rw [c16_0]; rfl) (by decide) ?_
        refine g_aload_n (pc := 88) (o := v13) hx hb dX0_messageOf_88 rfl (lv_at hl 0 rfl) ?_
        obtain ⟨a17, ea17, hf⟩ := bdo hf
        obtain ⟨v18, e18, hf⟩ := bdo hf
        refine g_get (pc := 89) (o := v13) (a := a17) (ci := 5) (k := 1) (v := .int v18) (C := RX11) (T := TX11) (N := 6) hx hb hts hown hE hk hH in_X11 rfl (by decide) (hts _ q1552) (fun _ h9 => h9) ea17 (rdI_o e18) dX0_messageOf_89 ?_
        exact g_iret (pc := 92) hx hb hr hlk hH hS hkc hks hf dX0_messageOf_92
      · rw [if_neg c16_0] at hf
        by_cases c16_1 : l2 = 1
        · rw [if_pos c16_1] at hf
          refine lv_tableIn (pc := 52) (off := 41) (tgt := 93) hx hb dX0_messageOf_52 (by rw [c16_1]; decide) (by rw [c16_1]; decide) (by rw [c16_1]; rfl) (by decide) ?_
          refine g_aload_n (pc := 93) (o := v13) hx hb dX0_messageOf_93 rfl (lv_at hl 0 rfl) ?_
          obtain ⟨a19, ea19, hf⟩ := bdo hf
          obtain ⟨v20, e20, hf⟩ := bdo hf
          refine g_get (pc := 94) (o := v13) (a := a19) (ci := 5) (k := 2) (v := .int v20) (C := RX11) (T := TX11) (N := 6) hx hb hts hown hE hk hH in_X11 rfl (by decide) (hts _ q1555) (fun _ h9 => h9) ea19 (rdI_o e20) dX0_messageOf_94 ?_
          exact g_iret (pc := 97) hx hb hr hlk hH hS hkc hks hf dX0_messageOf_97
        · rw [if_neg c16_1] at hf
          by_cases c16_2 : l2 = 2
          · rw [if_pos c16_2] at hf
            refine lv_tableIn (pc := 52) (off := 46) (tgt := 98) hx hb dX0_messageOf_52 (by rw [c16_2]; decide) (by rw [c16_2]; decide) (by rw [c16_2]; rfl) (by decide) ?_
            refine g_aload_n (pc := 98) (o := v13) hx hb dX0_messageOf_98 rfl (lv_at hl 0 rfl) ?_
            obtain ⟨a21, ea21, hf⟩ := bdo hf
            obtain ⟨v22, e22, hf⟩ := bdo hf
            refine g_get (pc := 99) (o := v13) (a := a21) (ci := 5) (k := 3) (v := .int v22) (C := RX11) (T := TX11) (N := 6) hx hb hts hown hE hk hH in_X11 rfl (by decide) (hts _ q1557) (fun _ h9 => h9) ea21 (rdI_o e22) dX0_messageOf_99 ?_
            exact g_iret (pc := 102) hx hb hr hlk hH hS hkc hks hf dX0_messageOf_102
          · rw [if_neg c16_2] at hf
            by_cases c16_3 : l2 = 3
            · rw [if_pos c16_3] at hf
              refine lv_tableIn (pc := 52) (off := 51) (tgt := 103) hx hb dX0_messageOf_52 (by rw [c16_3]; decide) (by rw [c16_3]; decide) (by rw [c16_3]; rfl) (by decide) ?_
              refine g_aload_n (pc := 103) (o := v13) hx hb dX0_messageOf_103 rfl (lv_at hl 0 rfl) ?_
              obtain ⟨a23, ea23, hf⟩ := bdo hf
              obtain ⟨v24, e24, hf⟩ := bdo hf
              refine g_get (pc := 104) (o := v13) (a := a23) (ci := 5) (k := 4) (v := .int v24) (C := RX11) (T := TX11) (N := 6) hx hb hts hown hE hk hH in_X11 rfl (by decide) (hts _ q1561) (fun _ h9 => h9) ea23 (rdI_o e24) dX0_messageOf_104 ?_
              exact g_iret (pc := 107) hx hb hr hlk hH hS hkc hks hf dX0_messageOf_107
            · rw [if_neg c16_3] at hf
              by_cases c16_4 : l2 = 4
              · rw [if_pos c16_4] at hf
                refine lv_tableIn (pc := 52) (off := 56) (tgt := 108) hx hb dX0_messageOf_52 (by rw [c16_4]; decide) (by rw [c16_4]; decide) (by rw [c16_4]; rfl) (by decide) ?_
                refine lv_iconst (pc := 108) (v := nI 0) hx hb dX0_messageOf_108 rfl ?_
                refine lv_istore (pc := 109) (i := 4) (lv' := [(4, .int (nI 0)), (3, va_rf v13), (0, .ref l0), (1, .int l1), (2, .int l2)]) hx hb dX0_messageOf_109 hl (by decide) (by simp [va_rf_cat, cat_i, cat_j, cat_r] <;> rfl) (fun ls hl => ?_)
                refine lv_aload_n (pc := 111) hx hb dX0_messageOf_111 rfl (lv_at hl 2 rfl) ?_
                obtain ⟨v25, e25, hf⟩ := bdo hf
                refine g_get (pc := 112) (o := (some l0)) (a := l0) (ci := 0) (k := 0) (v := va_rf v25) (C := RX0) (T := TX0) (N := 7) hx hb hts hown hE hk hH in_X0 rfl (by decide) (hts _ q272) (fun _ h9 => h9) rfl (rdR_o e25) dX0_messageOf_112 ?_
                obtain ⟨a26, ea26, hf⟩ := bdo hf
                obtain ⟨v27, e27, hf⟩ := bdo hf
                refine g_get (pc := 115) (o := v25) (a := a26) (ci := 1) (k := 0) (v := va_rf v27) (C := RX1) (T := TX1) (N := 7) hx hb hts hown hE hk hH in_X1 rfl (by decide) (hts _ q232) (fun _ h9 => h9) ea26 (rdR_o e27) dX0_messageOf_115 ?_
                obtain ⟨a29, ea29, hf⟩ := bdo hf
                obtain ⟨v28, S28, c28, n28, c2_28, n2_28, e28, hf, hC28, hN28⟩ := gbo hf
                refine g_callV (pc := 118) (o := v27) (b := a29) (As := []) (rest := []) (st1 := [va_rf v28]) hc (j_nAL_iter hJ a29  S13 v28 S28 c28 n28 e28) (cwV 0 hts (lw_V q2432 q1293 q1294 q101 q1295) rfl rfl rfl hdJ2_iterator ⟨Nat.le_of_ble_eq_true rfl, Nat.le_of_ble_eq_true rfl⟩) (j_recv hJ _ _ _ _ 0 _ _ hE hH hS (adtR (t := 0) (show bd _ _ = some _ from e28)).choose_spec) ea29 rfl hl.1 rfl rfl (lv_room (Nat.le_of_ble_eq_true rfl)) dX0_messageOf_118 hH hS (by omega) (by omega) (fun H locs hH hS => ?_)
                have hkc : kc + c4 + c6 + c8 + c13 + c28 + c2_28 ≤ mc := by omega
                have hks : ks + n4 + n6 + n8 + n13 + n28 + n2_28 ≤ ms := by omega
                refine g_astore (pc := 121) (i := 5) (o := v28) (lv' := [(5, va_rf v28), (4, .int (nI 0)), (3, va_rf v13), (0, .ref l0), (1, .int l1), (2, .int l2)]) hx hb dX0_messageOf_121 hl (by decide) rfl (fun ls hl => ?_)
                exact wX0_messageOf_b123 hk hJ hc hnd FU v13 (nI 0) v28 S28 _ _ ls _ _ _ _ hkc hks hH hS (lv_sub hl [2, 1, 0] rfl) hf
              · rw [if_neg c16_4] at hf
                refine lv_tableOut (pc := 52) (tgt := 167) hx hb dX0_messageOf_52 (tsw4 c16_0 c16_1 c16_2 c16_3 c16_4) (by decide) ?_
                refine g_aload_n (pc := 167) (o := v13) hx hb dX0_messageOf_167 rfl (lv_at hl 0 rfl) ?_
                obtain ⟨a30, ea30, hf⟩ := bdo hf
                obtain ⟨v31, e31, hf⟩ := bdo hf
                refine g_get (pc := 168) (o := v13) (a := a30) (ci := 5) (k := 5) (v := .int v31) (C := RX11) (T := TX11) (N := 6) hx hb hts hown hE hk hH in_X11 rfl (by decide) (hts _ q1563) (fun _ h9 => h9) ea30 (rdI_o e31) dX0_messageOf_168 ?_
                exact g_iret (pc := 171) hx hb hr hlk hH hS hkc hks hf dX0_messageOf_171
    · rw [if_pos c9] at hf
      exact wX0_messageOf_b29 hk hJ hc hnd l0 S8 _ _ ls _ _ _ _ hkc hks hH hS (lv_sub hl [0] rfl) hf
theorem mX0_messageOf {l : Launch} {G : gG} {Rp : gM → gM → Nat → Prop} (hk : rOK Rp) (hJ : JDK l G Rp) {S S2 : gS} {r2 : Int32} {C N : Nat} {l0 : Nat} {l1 : Int32} {l2 : Int32} (hf : fX0_messageOf G l0 l1 l2 S = some (r2, S2, C, N)) : gMet l yX0_messageOf cX0_messageOf 7 (some .int) 16 3300 G Rp [.ref l0, .int l1, .int l2] S (some (.int r2)) S2 C N := by
  refine g_startN (by decide) (Nat.le_of_ble_eq_true rfl) (fun p e s m args below meth c ls hnd hc hl hH => ?_)
  have hl : lv_has ls 7 [(0, .ref l0), (1, .int l1), (2, .int l2)] := hl
  exact wX0_messageOf_b0 hk hJ hc hnd l0 l1 l2 S _ _ ls 0 0 C N (by omega) (by omega) hH va_S.rf (lv_sub hl [0, 1, 2] rfl) hf
end
section
variable {r : Int32} {Sf : gS}
def fX0_nack_b20 (l0 : Nat) (S : gS) : gO Int32 :=
  bd (chk S l0 0) fun _ =>
  gb (fX0_no l0 (-82) S) fun v1 S1 =>
  some (v1, S1, 0, 0)
theorem wX0_nack_b20 (hk : rOK Rp) (hJ : JDK l G Rp) (hc : gC p s m args meth c G RX0 "nack" cX0_nack 3 (some .int)) (l0 : Nat) (S : gS) (H : Heap) (locs : List Loc) (ls : Array Slot) (kc ks C N : Nat) (hkc : kc + C ≤ mc) (hks : ks + N ≤ ms) (hH : hp G Rp S H) (hS : va_S G.2.2.2 s.heap H locs) (hl : lv_has ls 3 [(0, .ref l0)]) (hf : fX0_nack_b20 l0 S = some (r, Sf, C, N)) : W p l e (gR 18 609 mc ms) s m args below meth c H locs kc ks (gQ below G Rp (some (.int r)) Sf args s mc ms) (F0 m 20 ls []) := by
  obtain ⟨hx, hb, hr, hlk, hml, hown, hts, hE, hA, hnm⟩ := hc
  have hc : gC p s m args meth c G RX0 "nack" cX0_nack 3 (some .int) := ⟨hx, hb, hr, hlk, hml, hown, hts, hE, hA, hnm⟩
  unfold fX0_nack_b20 at hf
  refine lv_aload_n (pc := 20) hx hb dX0_nack_20 rfl (lv_at hl 0 rfl) ?_
  refine lv_bipush (pc := 21) (v := -82) hx hb dX0_nack_21 gkbm82 ?_
  obtain ⟨_, ek1, hf⟩ := bdo hf
  obtain ⟨v1, S1, c1, n1, c2_1, n2_1, e1, hf, hC1, hN1⟩ := gbo hf
  refine g_callV (pc := 23) (o := (some l0)) (b := l0) (As := [.int (-82)]) (rest := []) (st1 := [.int v1]) hc (mX0_no hk hJ (l0 := l0) (l1 := (-82)) e1) (cwV 1 hts (lw_V q398 q400 qs2 q97 q401) rfl rfl rfl hdX0_no ⟨Nat.le_of_ble_eq_true rfl, Nat.le_of_ble_eq_true rfl⟩) (g_recv hE hk hH (ci := 0) (q := (RX0, TX0, 7)) rfl (chk_o ek1).choose_spec) rfl rfl hl.1 rfl rfl (lv_room (Nat.le_of_ble_eq_true rfl)) dX0_nack_23 hH hS (by omega) (by omega) (fun H locs hH hS => ?_)
  have hkc : kc + c1 + c2_1 ≤ mc := by omega
  have hks : ks + n1 + n2_1 ≤ ms := by omega
  exact g_iret (pc := 26) hx hb hr hlk hH hS hkc hks hf dX0_nack_26
def fX0_nack (l0 : Nat) (l1 : Int32) (l2 : Int32) (S : gS) : gO Int32 :=
  bd (chk S l0 0) fun _ =>
  gb (fX0_isHere l0 l1 S) fun v1 S1 =>
  if v1 = 0 then
    fX0_nack_b20 l0 S1
  else
    bd (rdR S1 l0 0 0) fun v3 =>
    bd v3 fun a5 =>
    bd (chk S1 a5 1) fun _ =>
    gb (fX1_held a5 l1 l2 S1) fun v4 S4 =>
    if v4 = none then
      fX0_nack_b20 l0 S4
    else
      bd (rdR S4 l0 0 0) fun v7 =>
      bd (rdR S4 l0 0 0) fun v8 =>
      bd v8 fun a9 =>
      bd (rdR S4 a9 1 1) fun v10 =>
      bd v10 fun a12 =>
      gb (nAL_get a12 l1 S4) fun v11 S11 =>
      bd (ckc S11 v11 6) fun _ =>
      bd (rdR S11 l0 0 0) fun v14 =>
      bd v14 fun a16 =>
      bd (chk S11 a16 1) fun _ =>
      gb (fX1_held a16 l1 l2 S11) fun v15 S15 =>
      bd v7 fun a18 =>
      bd (chk S15 a18 1) fun _ =>
      gb (fX1_refuses a18 v11 v15 S15) fun v17 S17 =>
      some (v17, S17, 0, 0)
theorem wX0_nack_b0 (hk : rOK Rp) (hJ : JDK l G Rp) (hc : gC p s m args meth c G RX0 "nack" cX0_nack 3 (some .int)) (l0 : Nat) (l1 : Int32) (l2 : Int32) (S : gS) (H : Heap) (locs : List Loc) (ls : Array Slot) (kc ks C N : Nat) (hkc : kc + C ≤ mc) (hks : ks + N ≤ ms) (hH : hp G Rp S H) (hS : va_S G.2.2.2 s.heap H locs) (hl : lv_has ls 3 [(0, .ref l0), (1, .int l1), (2, .int l2)]) (hf : fX0_nack l0 l1 l2 S = some (r, Sf, C, N)) : W p l e (gR 18 609 mc ms) s m args below meth c H locs kc ks (gQ below G Rp (some (.int r)) Sf args s mc ms) (F0 m 0 ls []) := by
  obtain ⟨hx, hb, hr, hlk, hml, hown, hts, hE, hA, hnm⟩ := hc
  have hc : gC p s m args meth c G RX0 "nack" cX0_nack 3 (some .int) := ⟨hx, hb, hr, hlk, hml, hown, hts, hE, hA, hnm⟩
  unfold fX0_nack at hf
  refine lv_aload_n (pc := 0) hx hb dX0_nack_0 rfl (lv_at hl 0 rfl) ?_
  refine lv_iload_n (pc := 1) hx hb dX0_nack_1 rfl (lv_at hl 1 rfl) ?_
  obtain ⟨_, ek1, hf⟩ := bdo hf
  obtain ⟨v1, S1, c1, n1, c2_1, n2_1, e1, hf, hC1, hN1⟩ := gbo hf
  refine g_callV (pc := 2) (o := (some l0)) (b := l0) (As := [.int l1]) (rest := []) (st1 := [.int v1]) hc (mX0_isHere hk hJ (l0 := l0) (l1 := l1) e1) (cwV 1 hts (lw_V q1274 q1276 qs19 q97 q1277) rfl rfl rfl hdX0_isHere ⟨Nat.le_of_ble_eq_true rfl, Nat.le_of_ble_eq_true rfl⟩) (g_recv hE hk hH (ci := 0) (q := (RX0, TX0, 7)) rfl (chk_o ek1).choose_spec) rfl rfl hl.1 rfl rfl (lv_room (Nat.le_of_ble_eq_true rfl)) dX0_nack_2 hH hS (by omega) (by omega) (fun H locs hH hS => ?_)
  have hkc : kc + c1 + c2_1 ≤ mc := by omega
  have hks : ks + n1 + n2_1 ≤ ms := by omega
  refine lv_if_eq (pc := 5) (tgt := 20) hx hb dX0_nack_5 (by decide) (fun c2 => ?_) (fun c2 => ?_)
  · rw [if_pos c2] at hf
    exact wX0_nack_b20 hk hJ hc l0 S1 _ _ ls _ _ _ _ hkc hks hH hS (lv_sub hl [0] rfl) hf
  · rw [if_neg c2] at hf
    refine lv_aload_n (pc := 8) hx hb dX0_nack_8 rfl (lv_at hl 0 rfl) ?_
    obtain ⟨v3, e3, hf⟩ := bdo hf
    refine g_get (pc := 9) (o := (some l0)) (a := l0) (ci := 0) (k := 0) (v := va_rf v3) (C := RX0) (T := TX0) (N := 7) hx hb hts hown hE hk hH in_X0 rfl (by decide) (hts _ q272) (fun _ h9 => h9) rfl (rdR_o e3) dX0_nack_9 ?_
    refine lv_iload_n (pc := 12) hx hb dX0_nack_12 rfl (lv_at hl 1 rfl) ?_
    refine lv_iload_n (pc := 13) hx hb dX0_nack_13 rfl (lv_at hl 2 rfl) ?_
    obtain ⟨a5, ea5, hf⟩ := bdo hf
    obtain ⟨_, ek4, hf⟩ := bdo hf
    obtain ⟨v4, S4, c4, n4, c2_4, n2_4, e4, hf, hC4, hN4⟩ := gbo hf
    refine g_callV (pc := 14) (o := v3) (b := a5) (As := [.int l1, .int l2]) (rest := []) (st1 := [va_rf v4]) hc (mX1_held hk hJ (l0 := a5) (l1 := l1) (l2 := l2) e4) (cwV 2 hts (lw_V q1781 q1782 q1783 q98 q1784) rfl rfl rfl hdX1_held ⟨Nat.le_of_ble_eq_true rfl, Nat.le_of_ble_eq_true rfl⟩) (g_recv hE hk hH (ci := 1) (q := (RX1, TX1, 7)) rfl (chk_o ek4).choose_spec) ea5 rfl hl.1 rfl rfl (lv_room (Nat.le_of_ble_eq_true rfl)) dX0_nack_14 hH hS (by omega) (by omega) (fun H locs hH hS => ?_)
    have hkc : kc + c1 + c4 + c2_4 ≤ mc := by omega
    have hks : ks + n1 + n4 + n2_4 ≤ ms := by omega
    refine g_ifnonnull (pc := 17) (o := v4) (tgt := 27) hx hb dX0_nack_17 (by decide) (fun c6 => ?_) (fun c6 => ?_)
    · rw [if_neg c6] at hf
      refine lv_aload_n (pc := 27) hx hb dX0_nack_27 rfl (lv_at hl 0 rfl) ?_
      obtain ⟨v7, e7, hf⟩ := bdo hf
      refine g_get (pc := 28) (o := (some l0)) (a := l0) (ci := 0) (k := 0) (v := va_rf v7) (C := RX0) (T := TX0) (N := 7) hx hb hts hown hE hk hH in_X0 rfl (by decide) (hts _ q272) (fun _ h9 => h9) rfl (rdR_o e7) dX0_nack_28 ?_
      refine lv_aload_n (pc := 31) hx hb dX0_nack_31 rfl (lv_at hl 0 rfl) ?_
      obtain ⟨v8, e8, hf⟩ := bdo hf
      refine g_get (pc := 32) (o := (some l0)) (a := l0) (ci := 0) (k := 0) (v := va_rf v8) (C := RX0) (T := TX0) (N := 7) hx hb hts hown hE hk hH in_X0 rfl (by decide) (hts _ q272) (fun _ h9 => h9) rfl (rdR_o e8) dX0_nack_32 ?_
      obtain ⟨a9, ea9, hf⟩ := bdo hf
      obtain ⟨v10, e10, hf⟩ := bdo hf
      refine g_get (pc := 35) (o := v8) (a := a9) (ci := 1) (k := 1) (v := va_rf v10) (C := RX1) (T := TX1) (N := 7) hx hb hts hown hE hk hH in_X1 rfl (by decide) (hts _ q234) (fun _ h9 => h9) ea9 (rdR_o e10) dX0_nack_35 ?_
      refine lv_iload_n (pc := 38) hx hb dX0_nack_38 rfl (lv_at hl 1 rfl) ?_
      obtain ⟨a12, ea12, hf⟩ := bdo hf
      obtain ⟨v11, S11, c11, n11, c2_11, n2_11, e11, hf, hC11, hN11⟩ := gbo hf
      refine g_callV (pc := 39) (o := v10) (b := a12) (As := [.int l1]) (rest := [va_rf v7]) (st1 := [va_rf v11, va_rf v7]) hc (j_nAL_get hJ a12 l1 S4 v11 S11 c11 n11 e11) (cwV 1 hts (lw_V q1222 q1223 q1224 q101 q1225) rfl rfl rfl hdJ2_get ⟨Nat.le_of_ble_eq_true rfl, Nat.le_of_ble_eq_true rfl⟩) (j_recv hJ _ _ _ _ 0 _ _ hE hH hS (adtR (t := 0) (show bd _ _ = some _ from e11)).choose_spec) ea12 rfl hl.1 rfl rfl (lv_room (by simp [va_rf_cat, cat_i, cat_j, cat_r])) dX0_nack_39 hH hS (by omega) (by omega) (fun H locs hH hS => ?_)
      have hkc : kc + c1 + c4 + c11 + c2_11 ≤ mc := by omega
      have hks : ks + n1 + n4 + n11 + n2_11 ≤ ms := by omega
      obtain ⟨_, e13, hf⟩ := bdo hf
      refine g_cast (pc := 42) (o := v11) (ci := 6) (C := RX10) (T := TX10) (N := 5) hx hb hts hown hE hk hH rfl q1238 e13 dX0_nack_42 ?_
      refine lv_aload_n (pc := 45) hx hb dX0_nack_45 rfl (lv_at hl 0 rfl) ?_
      obtain ⟨v14, e14, hf⟩ := bdo hf
      refine g_get (pc := 46) (o := (some l0)) (a := l0) (ci := 0) (k := 0) (v := va_rf v14) (C := RX0) (T := TX0) (N := 7) hx hb hts hown hE hk hH in_X0 rfl (by decide) (hts _ q272) (fun _ h9 => h9) rfl (rdR_o e14) dX0_nack_46 ?_
      refine lv_iload_n (pc := 49) hx hb dX0_nack_49 rfl (lv_at hl 1 rfl) ?_
      refine lv_iload_n (pc := 50) hx hb dX0_nack_50 rfl (lv_at hl 2 rfl) ?_
      obtain ⟨a16, ea16, hf⟩ := bdo hf
      obtain ⟨_, ek15, hf⟩ := bdo hf
      obtain ⟨v15, S15, c15, n15, c2_15, n2_15, e15, hf, hC15, hN15⟩ := gbo hf
      refine g_callV (pc := 51) (o := v14) (b := a16) (As := [.int l1, .int l2]) (rest := [va_rf v11, va_rf v7]) (st1 := [va_rf v15, va_rf v11, va_rf v7]) hc (mX1_held hk hJ (l0 := a16) (l1 := l1) (l2 := l2) e15) (cwV 2 hts (lw_V q1781 q1782 q1783 q98 q1784) rfl rfl rfl hdX1_held ⟨Nat.le_of_ble_eq_true rfl, Nat.le_of_ble_eq_true rfl⟩) (g_recv hE hk hH (ci := 1) (q := (RX1, TX1, 7)) rfl (chk_o ek15).choose_spec) ea16 rfl hl.1 rfl rfl (lv_room (by simp [va_rf_cat, cat_i, cat_j, cat_r])) dX0_nack_51 hH hS (by omega) (by omega) (fun H locs hH hS => ?_)
      have hkc : kc + c1 + c4 + c11 + c15 + c2_15 ≤ mc := by omega
      have hks : ks + n1 + n4 + n11 + n15 + n2_15 ≤ ms := by omega
      obtain ⟨a18, ea18, hf⟩ := bdo hf
      obtain ⟨_, ek17, hf⟩ := bdo hf
      obtain ⟨v17, S17, c17, n17, c2_17, n2_17, e17, hf, hC17, hN17⟩ := gbo hf
      refine g_callV (pc := 54) (o := v7) (b := a18) (As := [va_rf v11, va_rf v15]) (rest := []) (st1 := [.int v17]) hc (mX1_refuses hk hJ (l0 := a18) (l1 := v11) (l2 := v15) e17) (cwV 2 hts (lw_V q1868 q1869 q1870 q98 q1871) rfl rfl rfl hdX1_refuses ⟨Nat.le_of_ble_eq_true rfl, Nat.le_of_ble_eq_true rfl⟩) (g_recv hE hk hH (ci := 1) (q := (RX1, TX1, 7)) rfl (chk_o ek17).choose_spec) ea18 rfl hl.1 rfl rfl (lv_room (Nat.le_of_ble_eq_true rfl)) dX0_nack_54 hH hS (by omega) (by omega) (fun H locs hH hS => ?_)
      have hkc : kc + c1 + c4 + c11 + c15 + c17 + c2_17 ≤ mc := by omega
      have hks : ks + n1 + n4 + n11 + n15 + n17 + n2_17 ≤ ms := by omega
      exact g_iret (pc := 57) hx hb hr hlk hH hS hkc hks hf dX0_nack_57
    · rw [if_pos c6] at hf
      exact wX0_nack_b20 hk hJ hc l0 S4 _ _ ls _ _ _ _ hkc hks hH hS (lv_sub hl [0] rfl) hf
theorem mX0_nack {l : Launch} {G : gG} {Rp : gM → gM → Nat → Prop} (hk : rOK Rp) (hJ : JDK l G Rp) {S S2 : gS} {r2 : Int32} {C N : Nat} {l0 : Nat} {l1 : Int32} {l2 : Int32} (hf : fX0_nack l0 l1 l2 S = some (r2, S2, C, N)) : gMet l yX0_nack cX0_nack 3 (some .int) 18 609 G Rp [.ref l0, .int l1, .int l2] S (some (.int r2)) S2 C N := by
  refine g_start (by decide) (Nat.le_of_ble_eq_true rfl) (fun p e s m args below meth c ls hc hl hH => ?_)
  have hl : lv_has ls 3 [(0, .ref l0), (1, .int l1), (2, .int l2)] := hl
  exact wX0_nack_b0 hk hJ hc l0 l1 l2 S _ _ ls 0 0 C N (by omega) (by omega) hH va_S.rf (lv_sub hl [0, 1, 2] rfl) hf
end
end
