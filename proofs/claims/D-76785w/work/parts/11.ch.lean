/-! printed by gen/cgen.py: methods of the component, lifted and walked (8) -/
set_option maxRecDepth 100000
set_option maxHeartbeats 4000000
section
variable {p : Program} {l : Launch} {e : Env} {s : State} {m : MethodId} {args : Array Value} {below : List Frame} {meth : Method} {c : Code} {G : gG} {Rp : gM → gM → Nat → Prop} {mc ms : Nat}
section
variable {r : Int32} {Sf : gS}
def fX0_next_b17 (l0 : Nat) (S : gS) : gO Int32 :=
  bd (chk S l0 0) fun _ =>
  gb (fX0_no l0 (-82) S) fun v1 S1 =>
  some (v1, S1, 0, 0)
theorem wX0_next_b17 (hk : rOK Rp) (hJ : JDK l G Rp) (hc : gC p s m args meth c G RX0 "next" cX0_next 5 (some .int)) (l0 : Nat) (S : gS) (H : Heap) (locs : List Loc) (ls : Array Slot) (kc ks C N : Nat) (hkc : kc + C ≤ mc) (hks : ks + N ≤ ms) (hH : hp G Rp S H) (hS : va_S G.2.2.2 s.heap H locs) (hl : lv_has ls 5 [(0, .ref l0)]) (hf : fX0_next_b17 l0 S = some (r, Sf, C, N)) : W p l e (gR 16 566 mc ms) s m args below meth c H locs kc ks (gQ below G Rp (some (.int r)) Sf args s mc ms) (F0 m 17 ls []) := by
  obtain ⟨hx, hb, hr, hlk, hml, hown, hts, hE, hA, hnm⟩ := hc
  have hc : gC p s m args meth c G RX0 "next" cX0_next 5 (some .int) := ⟨hx, hb, hr, hlk, hml, hown, hts, hE, hA, hnm⟩
  unfold fX0_next_b17 at hf
  refine lv_aload_n (pc := 17) hx hb dX0_next_17 rfl (lv_at hl 0 rfl) ?_
  refine lv_bipush (pc := 18) (v := -82) hx hb dX0_next_18 gkbm82 ?_
  obtain ⟨_, ek1, hf⟩ := bdo hf
  obtain ⟨v1, S1, c1, n1, c2_1, n2_1, e1, hf, hC1, hN1⟩ := gbo hf
  refine g_callV (pc := 20) (o := (some l0)) (b := l0) (As := [.int (-82)]) (rest := []) (st1 := [.int v1]) hc (mX0_no hk hJ (l0 := l0) (l1 := (-82)) e1) (cwV 1 hts (lw_V q398 q400 qs2 q97 q401) rfl rfl rfl hdX0_no ⟨Nat.le_of_ble_eq_true rfl, Nat.le_of_ble_eq_true rfl⟩) (g_recv hE hk hH (ci := 0) (q := (RX0, TX0, 7)) rfl (chk_o ek1).choose_spec) rfl rfl hl.1 rfl rfl (lv_room (Nat.le_of_ble_eq_true rfl)) dX0_next_20 hH hS (by omega) (by omega) (fun H locs hH hS => ?_)
  have hkc : kc + c1 + c2_1 ≤ mc := by omega
  have hks : ks + n1 + n2_1 ≤ ms := by omega
  exact g_iret (pc := 23) hx hb hr hlk hH hS hkc hks hf dX0_next_23
def fX0_next (l0 : Nat) (l1 : Int32) (l2 : Int32) (S : gS) : gO Int32 :=
  bd (chk S l0 0) fun _ =>
  gb (fX0_isQueue l0 l1 S) fun v1 S1 =>
  if v1 = 0 then
    fX0_next_b17 l0 S1
  else
    gb (fX0_isIn l2 (nI 0) (nI 1) S1) fun v3 S3 =>
    if v3 = 0 then
      fX0_next_b17 l0 S3
    else
      bd (chk S3 l0 0) fun _ =>
      gb (fX0_queue_2 l0 l1 S3) fun v5 S5 =>
      bd v5 fun a7 =>
      bd (chk S5 a7 3) fun _ =>
      gb (fX8_next a7 S5) fun v6 S6 =>
      bd (rdR S6 l0 0 0) fun v8 =>
      bd (chk S6 l0 0) fun _ =>
      gb (fX0_queue_2 l0 l1 S6) fun v9 S9 =>
      bd v8 fun a11 =>
      bd (chk S9 a11 1) fun _ =>
      gb (fX1_who a11 v9 S9) fun v10 S10 =>
      if v6 = none then
        some (-1, S10, 0, 0)
      else
        if l2 = 0 then
          bd v6 fun a17 =>
          bd (rdR S10 a17 4 0) fun v18 =>
          bd v18 fun a19 =>
          bd (rdI S10 a19 5 0) fun v20 =>
          some (v20, S10, 0, 0)
        else
          if v10 = none then
            some (-1, S10, 0, 0)
          else
            bd v10 fun a15 =>
            bd (rdI S10 a15 6 0) fun v16 =>
            some (v16, S10, 0, 0)
theorem wX0_next_b0 (hk : rOK Rp) (hJ : JDK l G Rp) (hc : gC p s m args meth c G RX0 "next" cX0_next 5 (some .int)) (l0 : Nat) (l1 : Int32) (l2 : Int32) (S : gS) (H : Heap) (locs : List Loc) (ls : Array Slot) (kc ks C N : Nat) (hkc : kc + C ≤ mc) (hks : ks + N ≤ ms) (hH : hp G Rp S H) (hS : va_S G.2.2.2 s.heap H locs) (hl : lv_has ls 5 [(0, .ref l0), (1, .int l1), (2, .int l2)]) (hf : fX0_next l0 l1 l2 S = some (r, Sf, C, N)) : W p l e (gR 16 566 mc ms) s m args below meth c H locs kc ks (gQ below G Rp (some (.int r)) Sf args s mc ms) (F0 m 0 ls []) := by
  obtain ⟨hx, hb, hr, hlk, hml, hown, hts, hE, hA, hnm⟩ := hc
  have hc : gC p s m args meth c G RX0 "next" cX0_next 5 (some .int) := ⟨hx, hb, hr, hlk, hml, hown, hts, hE, hA, hnm⟩
  unfold fX0_next at hf
  refine lv_aload_n (pc := 0) hx hb dX0_next_0 rfl (lv_at hl 0 rfl) ?_
  refine lv_iload_n (pc := 1) hx hb dX0_next_1 rfl (lv_at hl 1 rfl) ?_
  obtain ⟨_, ek1, hf⟩ := bdo hf
  obtain ⟨v1, S1, c1, n1, c2_1, n2_1, e1, hf, hC1, hN1⟩ := gbo hf
  refine g_callV (pc := 2) (o := (some l0)) (b := l0) (As := [.int l1]) (rest := []) (st1 := [.int v1]) hc (mX0_isQueue hk hJ (l0 := l0) (l1 := l1) e1) (cwV 1 hts (lw_V q1214 q1216 qs17 q97 q1217) rfl rfl rfl hdX0_isQueue ⟨Nat.le_of_ble_eq_true rfl, Nat.le_of_ble_eq_true rfl⟩) (g_recv hE hk hH (ci := 0) (q := (RX0, TX0, 7)) rfl (chk_o ek1).choose_spec) rfl rfl hl.1 rfl rfl (lv_room (Nat.le_of_ble_eq_true rfl)) dX0_next_2 hH hS (by omega) (by omega) (fun H locs hH hS => ?_)
  have hkc : kc + c1 + c2_1 ≤ mc := by omega
  have hks : ks + n1 + n2_1 ≤ ms := by omega
  refine lv_if_eq (pc := 5) (tgt := 17) hx hb dX0_next_5 (by decide) (fun c2 => ?_) (fun c2 => ?_)
  · rw [if_pos c2] at hf
    exact wX0_next_b17 hk hJ hc l0 S1 _ _ ls _ _ _ _ hkc hks hH hS (lv_sub hl [0] rfl) hf
  · rw [if_neg c2] at hf
    refine lv_iload_n (pc := 8) hx hb dX0_next_8 rfl (lv_at hl 2 rfl) ?_
    refine lv_iconst (pc := 9) (v := nI 0) hx hb dX0_next_9 rfl ?_
    refine lv_iconst (pc := 10) (v := nI 1) hx hb dX0_next_10 rfl ?_
    obtain ⟨v3, S3, c3, n3, c2_3, n2_3, e3, hf, hC3, hN3⟩ := gbo hf
    refine g_callS (pc := 11) (As := [.int l2, .int (nI 0), .int (nI 1)]) (rest := []) (st1 := [.int v3]) hc (mX0_isIn hk hJ (l0 := l2) (l1 := (nI 0)) (l2 := (nI 1)) e3) (va_cwS 3 hts (lw_S q395 q396 q97 q397) rfl rfl rfl hdX0_isIn ⟨Nat.le_of_ble_eq_true rfl, Nat.le_of_ble_eq_true rfl⟩) rfl hl.1 rfl rfl (lv_room (Nat.le_of_ble_eq_true rfl)) dX0_next_11 hH hS (by omega) (by omega) (fun H locs hH hS => ?_)
    have hkc : kc + c1 + c3 + c2_3 ≤ mc := by omega
    have hks : ks + n1 + n3 + n2_3 ≤ ms := by omega
    refine lv_if_ne (pc := 14) (tgt := 24) hx hb dX0_next_14 (by decide) (fun c4 => ?_) (fun c4 => ?_)
    · rw [if_neg c4] at hf
      refine lv_aload_n (pc := 24) hx hb dX0_next_24 rfl (lv_at hl 0 rfl) ?_
      refine lv_iload_n (pc := 25) hx hb dX0_next_25 rfl (lv_at hl 1 rfl) ?_
      obtain ⟨_, ek5, hf⟩ := bdo hf
      obtain ⟨v5, S5, c5, n5, c2_5, n2_5, e5, hf, hC5, hN5⟩ := gbo hf
      refine g_callV (pc := 26) (o := (some l0)) (b := l0) (As := [.int l1]) (rest := []) (st1 := [va_rf v5]) hc (mX0_queue_2 hk hJ (l0 := l0) (l1 := l1) e5) (cwV 1 hts (lw_V q1218 q1220 qs18 q97 q1221) rfl rfl rfl hdX0_queue_2 ⟨Nat.le_of_ble_eq_true rfl, Nat.le_of_ble_eq_true rfl⟩) (g_recv hE hk hH (ci := 0) (q := (RX0, TX0, 7)) rfl (chk_o ek5).choose_spec) rfl rfl hl.1 rfl rfl (lv_room (Nat.le_of_ble_eq_true rfl)) dX0_next_26 hH hS (by omega) (by omega) (fun H locs hH hS => ?_)
      have hkc : kc + c1 + c3 + c5 + c2_5 ≤ mc := by omega
      have hks : ks + n1 + n3 + n5 + n2_5 ≤ ms := by omega
      obtain ⟨a7, ea7, hf⟩ := bdo hf
      obtain ⟨_, ek6, hf⟩ := bdo hf
      obtain ⟨v6, S6, c6, n6, c2_6, n2_6, e6, hf, hC6, hN6⟩ := gbo hf
      refine g_callV (pc := 29) (o := v5) (b := a7) (As := []) (rest := []) (st1 := [va_rf v6]) hc (mX8_next hk hJ (l0 := a7) e6) (cwV 0 hts (lw_V q2562 q1754 q1755 q131 q1756) rfl rfl rfl hdX8_next ⟨Nat.le_of_ble_eq_true rfl, Nat.le_of_ble_eq_true rfl⟩) (g_recv hE hk hH (ci := 3) (q := (RX8, TX8, 13)) rfl (chk_o ek6).choose_spec) ea7 rfl hl.1 rfl rfl (lv_room (Nat.le_of_ble_eq_true rfl)) dX0_next_29 hH hS (by omega) (by omega) (fun H locs hH hS => ?_)
      have hkc : kc + c1 + c3 + c5 + c6 + c2_6 ≤ mc := by omega
      have hks : ks + n1 + n3 + n5 + n6 + n2_6 ≤ ms := by omega
      refine g_astore_n (pc := 32) (i := 3) (o := v6) (lv' := [(3, va_rf v6), (0, .ref l0), (1, .int l1), (2, .int l2)]) hx hb dX0_next_32 rfl hl (by decide) rfl (fun ls hl => ?_)
      refine lv_aload_n (pc := 33) hx hb dX0_next_33 rfl (lv_at hl 1 rfl) ?_
      obtain ⟨v8, e8, hf⟩ := bdo hf
      refine g_get (pc := 34) (o := (some l0)) (a := l0) (ci := 0) (k := 0) (v := va_rf v8) (C := RX0) (T := TX0) (N := 7) hx hb hts hown hE hk hH in_X0 rfl (by decide) (hts _ q272) (fun _ h9 => h9) rfl (rdR_o e8) dX0_next_34 ?_
      refine lv_aload_n (pc := 37) hx hb dX0_next_37 rfl (lv_at hl 1 rfl) ?_
      refine lv_iload_n (pc := 38) hx hb dX0_next_38 rfl (lv_at hl 2 rfl) ?_
      obtain ⟨_, ek9, hf⟩ := bdo hf
      obtain ⟨v9, S9, c9, n9, c2_9, n2_9, e9, hf, hC9, hN9⟩ := gbo hf
      refine g_callV (pc := 39) (o := (some l0)) (b := l0) (As := [.int l1]) (rest := [va_rf v8]) (st1 := [va_rf v9, va_rf v8]) hc (mX0_queue_2 hk hJ (l0 := l0) (l1 := l1) e9) (cwV 1 hts (lw_V q1218 q1220 qs18 q97 q1221) rfl rfl rfl hdX0_queue_2 ⟨Nat.le_of_ble_eq_true rfl, Nat.le_of_ble_eq_true rfl⟩) (g_recv hE hk hH (ci := 0) (q := (RX0, TX0, 7)) rfl (chk_o ek9).choose_spec) rfl rfl hl.1 rfl rfl (lv_room (by simp [va_rf_cat, cat_i, cat_j, cat_r])) dX0_next_39 hH hS (by omega) (by omega) (fun H locs hH hS => ?_)
      have hkc : kc + c1 + c3 + c5 + c6 + c9 + c2_9 ≤ mc := by omega
      have hks : ks + n1 + n3 + n5 + n6 + n9 + n2_9 ≤ ms := by omega
      obtain ⟨a11, ea11, hf⟩ := bdo hf
      obtain ⟨_, ek10, hf⟩ := bdo hf
      obtain ⟨v10, S10, c10, n10, c2_10, n2_10, e10, hf, hC10, hN10⟩ := gbo hf
      refine g_callV (pc := 42) (o := v8) (b := a11) (As := [va_rf v9]) (rest := []) (st1 := [va_rf v10]) hc (mX1_who hk hJ (l0 := a11) (l1 := v9) e10) (cwV 1 hts (lw_V q2563 q1764 q1765 q98 q1766) rfl rfl rfl hdX1_who ⟨Nat.le_of_ble_eq_true rfl, Nat.le_of_ble_eq_true rfl⟩) (g_recv hE hk hH (ci := 1) (q := (RX1, TX1, 7)) rfl (chk_o ek10).choose_spec) ea11 rfl hl.1 rfl rfl (lv_room (Nat.le_of_ble_eq_true rfl)) dX0_next_42 hH hS (by omega) (by omega) (fun H locs hH hS => ?_)
      have hkc : kc + c1 + c3 + c5 + c6 + c9 + c10 + c2_10 ≤ mc := by omega
      have hks : ks + n1 + n3 + n5 + n6 + n9 + n10 + n2_10 ≤ ms := by omega
      refine g_astore (pc := 45) (i := 4) (o := v10) (lv' := [(4, va_rf v10), (3, va_rf v6), (0, .ref l0), (1, .int l1), (2, .int l2)]) hx hb dX0_next_45 hl (by decide) (by simp [va_rf_cat, cat_i, cat_j, cat_r] <;> rfl) (fun ls hl => ?_)
      refine g_aload_n (pc := 47) (o := v6) hx hb dX0_next_47 rfl (lv_at hl 1 rfl) ?_
      refine g_ifnonnull (pc := 48) (o := v6) (tgt := 53) hx hb dX0_next_48 (by decide) (fun c12 => ?_) (fun c12 => ?_)
      · rw [if_neg c12] at hf
        refine lv_iload_n (pc := 53) hx hb dX0_next_53 rfl (lv_at hl 4 rfl) ?_
        refine lv_if_ne (pc := 54) (tgt := 67) hx hb dX0_next_54 (by decide) (fun c13 => ?_) (fun c13 => ?_)
        · rw [if_neg c13] at hf
          refine g_aload (pc := 67) (o := v10) hx hb dX0_next_67 (lv_at hl 0 rfl) ?_
          refine g_ifnonnull (pc := 69) (o := v10) (tgt := 76) hx hb dX0_next_69 (by decide) (fun c14 => ?_) (fun c14 => ?_)
          · rw [if_neg c14] at hf
            refine g_aload (pc := 76) (o := v10) hx hb dX0_next_76 (lv_at hl 0 rfl) ?_
            obtain ⟨a15, ea15, hf⟩ := bdo hf
            obtain ⟨v16, e16, hf⟩ := bdo hf
            refine g_get (pc := 78) (o := v10) (a := a15) (ci := 6) (k := 0) (v := .int v16) (C := RX10) (T := TX10) (N := 5) hx hb hts hown hE hk hH in_X10 rfl (by decide) (hts _ q1246) (fun _ h9 => h9) ea15 (rdI_o e16) dX0_next_78 ?_
            exact g_iret (pc := 81) hx hb hr hlk hH hS hkc hks hf dX0_next_81
          · rw [if_pos c14] at hf
            refine lv_iconst (pc := 72) (v := -1) hx hb dX0_next_72 rfl ?_
            refine lv_goto (pc := 73) (tgt := 81) hx hb dX0_next_73 (by decide) ?_
            exact g_iret (pc := 81) hx hb hr hlk hH hS hkc hks hf dX0_next_81
        · rw [if_pos c13] at hf
          refine g_aload_n (pc := 57) (o := v6) hx hb dX0_next_57 rfl (lv_at hl 1 rfl) ?_
          obtain ⟨a17, ea17, hf⟩ := bdo hf
          obtain ⟨v18, e18, hf⟩ := bdo hf
          refine g_get (pc := 58) (o := v6) (a := a17) (ci := 4) (k := 0) (v := va_rf v18) (C := RX16) (T := TX16) (N := 6) hx hb hts hown hE hk hH in_X16 rfl (by decide) (hts _ q1712) (fun _ h9 => h9) ea17 (rdR_o e18) dX0_next_58 ?_
          obtain ⟨a19, ea19, hf⟩ := bdo hf
          obtain ⟨v20, e20, hf⟩ := bdo hf
          refine g_get (pc := 61) (o := v18) (a := a19) (ci := 5) (k := 0) (v := .int v20) (C := RX11) (T := TX11) (N := 6) hx hb hts hown hE hk hH in_X11 rfl (by decide) (hts _ q1549) (fun _ h9 => h9) ea19 (rdI_o e20) dX0_next_61 ?_
          refine lv_goto (pc := 64) (tgt := 81) hx hb dX0_next_64 (by decide) ?_
          exact g_iret (pc := 81) hx hb hr hlk hH hS hkc hks hf dX0_next_81
      · rw [if_pos c12] at hf
        refine lv_iconst (pc := 51) (v := -1) hx hb dX0_next_51 rfl ?_
        exact g_iret (pc := 52) hx hb hr hlk hH hS hkc hks hf dX0_next_52
    · rw [if_pos c4] at hf
      exact wX0_next_b17 hk hJ hc l0 S3 _ _ ls _ _ _ _ hkc hks hH hS (lv_sub hl [0] rfl) hf
theorem mX0_next {l : Launch} {G : gG} {Rp : gM → gM → Nat → Prop} (hk : rOK Rp) (hJ : JDK l G Rp) {S S2 : gS} {r2 : Int32} {C N : Nat} {l0 : Nat} {l1 : Int32} {l2 : Int32} (hf : fX0_next l0 l1 l2 S = some (r2, S2, C, N)) : gMet l yX0_next cX0_next 5 (some .int) 16 566 G Rp [.ref l0, .int l1, .int l2] S (some (.int r2)) S2 C N := by
  refine g_start (by decide) (Nat.le_of_ble_eq_true rfl) (fun p e s m args below meth c ls hc hl hH => ?_)
  have hl : lv_has ls 5 [(0, .ref l0), (1, .int l1), (2, .int l2)] := hl
  exact wX0_next_b0 hk hJ hc l0 l1 l2 S _ _ ls 0 0 C N (by omega) (by omega) hH va_S.rf (lv_sub hl [0, 1, 2] rfl) hf
end
section
variable {r : Int32} {Sf : gS}
def fX0_pass_b21 : Nat → Nat → Int32 → Int32 → Int32 → gS → gO Int32
  | 0, _, _, _, _, _ => none
  | n + 1, l0, l1, l2, l3, S =>
    if l1 ≤ l3 then
      some (l2, S, 0, 0)
    else
      bd (rdR S l0 0 0) fun v2 =>
      bd v2 fun a4 =>
      bd (chk S a4 1) fun _ =>
      gb (fX1_passes a4 S) fun v3 S3 =>
      fX0_pass_b21 n l0 l1 (l2 + v3) (l3 + (nI 1)) S3
theorem wX0_pass_b21 (hk : rOK Rp) (hJ : JDK l G Rp) (hc : gC p s m args meth c G RX0 "pass" cX0_pass 4 (some .int)) : ∀ (n : Nat) (l0 : Nat) (l1 : Int32) (l2 : Int32) (l3 : Int32) (S : gS) (H : Heap) (locs : List Loc) (ls : Array Slot) (kc ks C N : Nat), kc + C ≤ mc → ks + N ≤ ms → hp G Rp S H → va_S G.2.2.2 s.heap H locs → lv_has ls 4 [(0, .ref l0), (1, .int l1), (2, .int l2), (3, .int l3)] → fX0_pass_b21 n l0 l1 l2 l3 S = some (r, Sf, C, N) → W p l e (gR 19 633 mc ms) s m args below meth c H locs kc ks (gQ below G Rp (some (.int r)) Sf args s mc ms) (F0 m 21 ls []) := by
  obtain ⟨hx, hb, hr, hlk, hml, hown, hts, hE, hA, hnm⟩ := hc
  have hc : gC p s m args meth c G RX0 "pass" cX0_pass 4 (some .int) := ⟨hx, hb, hr, hlk, hml, hown, hts, hE, hA, hnm⟩
  intro n
  induction n with
  | zero => intro l0 l1 l2 l3 S H locs ls kc ks C N _ _ _ _ _ hf; exact absurd hf (fun h => by cases h)
  | succ n ih =>
    intro l0 l1 l2 l3 S H locs ls kc ks C N hkc hks hH hS hl hf
    rw [fX0_pass_b21] at hf
    refine lv_iload_n (pc := 21) hx hb dX0_pass_21 rfl (lv_at hl 3 rfl) ?_
    refine lv_iload_n (pc := 22) hx hb dX0_pass_22 rfl (lv_at hl 1 rfl) ?_
    refine lv_icmp_ge (pc := 23) (tgt := 42) hx hb dX0_pass_23 (by decide) (fun c1 => ?_) (fun c1 => ?_)
    · rw [if_pos c1] at hf
      refine lv_iload_n (pc := 42) hx hb dX0_pass_42 rfl (lv_at hl 2 rfl) ?_
      exact g_iret (pc := 43) hx hb hr hlk hH hS hkc hks hf dX0_pass_43
    · rw [if_neg c1] at hf
      refine lv_iload_n (pc := 26) hx hb dX0_pass_26 rfl (lv_at hl 2 rfl) ?_
      refine lv_aload_n (pc := 27) hx hb dX0_pass_27 rfl (lv_at hl 0 rfl) ?_
      obtain ⟨v2, e2, hf⟩ := bdo hf
      refine g_get (pc := 28) (o := (some l0)) (a := l0) (ci := 0) (k := 0) (v := va_rf v2) (C := RX0) (T := TX0) (N := 7) hx hb hts hown hE hk hH in_X0 rfl (by decide) (hts _ q272) (fun _ h9 => h9) rfl (rdR_o e2) dX0_pass_28 ?_
      obtain ⟨a4, ea4, hf⟩ := bdo hf
      obtain ⟨_, ek3, hf⟩ := bdo hf
      obtain ⟨v3, S3, c3, n3, c2_3, n2_3, e3, hf, hC3, hN3⟩ := gbo hf
      refine g_callV (pc := 31) (o := v2) (b := a4) (As := []) (rest := [.int l2]) (st1 := [.int v3, .int l2]) hc (mX1_passes hk hJ (l0 := a4) e3) (cwV 0 hts (lw_V q1908 q1909 q1910 q98 q1911) rfl rfl rfl hdX1_passes ⟨Nat.le_of_ble_eq_true rfl, Nat.le_of_ble_eq_true rfl⟩) (g_recv hE hk hH (ci := 1) (q := (RX1, TX1, 7)) rfl (chk_o ek3).choose_spec) ea4 rfl hl.1 rfl rfl (lv_room (Nat.le_of_ble_eq_true rfl)) dX0_pass_31 hH hS (by omega) (by omega) (fun H locs hH hS => ?_)
      have hkc : kc + c3 + c2_3 ≤ mc := by omega
      have hks : ks + n3 + n2_3 ≤ ms := by omega
      refine lv_iadd (pc := 34) hx hb dX0_pass_34 ?_
      refine lv_istore_n (pc := 35) (i := 2) (lv' := [(2, .int (l2 + v3)), (0, .ref l0), (1, .int l1), (3, .int l3)]) hx hb dX0_pass_35 rfl hl (by decide) rfl (fun ls hl => ?_)
      refine lv_iinc (pc := 36) (v := l3 + (nI 1)) (lv' := [(3, .int (l3 + (nI 1))), (2, .int (l2 + v3)), (0, .ref l0), (1, .int l1)]) hx hb dX0_pass_36 hl (k := 3) rfl rfl (by decide) rfl (fun ls hl => ?_)
      refine lv_goto (pc := 39) (tgt := 21) hx hb dX0_pass_39 (by decide) ?_
      exact ih l0 l1 (l2 + v3) (l3 + (nI 1)) S3 _ _ ls _ _ _ _ hkc hks hH hS (lv_sub hl [2, 3, 1, 0] rfl) hf
def fX0_pass (l0 : Nat) (l1 : Int32) (S : gS) : gO Int32 :=
  gb (fX0_isIn l1 (nI 0) (nI 99) S) fun v1 S1 =>
  if v1 = 0 then
    bd (chk S1 l0 0) fun _ =>
    gb (fX0_no l0 (-82) S1) fun v3 S3 =>
    some (v3, S3, 0, 0)
  else
    fX0_pass_b21 FU l0 l1 (nI 0) (nI 0) S1
theorem wX0_pass_b0 (hk : rOK Rp) (hJ : JDK l G Rp) (hc : gC p s m args meth c G RX0 "pass" cX0_pass 4 (some .int)) (l0 : Nat) (l1 : Int32) (S : gS) (H : Heap) (locs : List Loc) (ls : Array Slot) (kc ks C N : Nat) (hkc : kc + C ≤ mc) (hks : ks + N ≤ ms) (hH : hp G Rp S H) (hS : va_S G.2.2.2 s.heap H locs) (hl : lv_has ls 4 [(0, .ref l0), (1, .int l1)]) (hf : fX0_pass l0 l1 S = some (r, Sf, C, N)) : W p l e (gR 19 633 mc ms) s m args below meth c H locs kc ks (gQ below G Rp (some (.int r)) Sf args s mc ms) (F0 m 0 ls []) := by
  obtain ⟨hx, hb, hr, hlk, hml, hown, hts, hE, hA, hnm⟩ := hc
  have hc : gC p s m args meth c G RX0 "pass" cX0_pass 4 (some .int) := ⟨hx, hb, hr, hlk, hml, hown, hts, hE, hA, hnm⟩
  unfold fX0_pass at hf
  refine lv_iload_n (pc := 0) hx hb dX0_pass_0 rfl (lv_at hl 1 rfl) ?_
  refine lv_iconst (pc := 1) (v := nI 0) hx hb dX0_pass_1 rfl ?_
  refine lv_bipush (pc := 2) (v := nI 99) hx hb dX0_pass_2 gkb99 ?_
  obtain ⟨v1, S1, c1, n1, c2_1, n2_1, e1, hf, hC1, hN1⟩ := gbo hf
  refine g_callS (pc := 4) (As := [.int l1, .int (nI 0), .int (nI 99)]) (rest := []) (st1 := [.int v1]) hc (mX0_isIn hk hJ (l0 := l1) (l1 := (nI 0)) (l2 := (nI 99)) e1) (va_cwS 3 hts (lw_S q395 q396 q97 q397) rfl rfl rfl hdX0_isIn ⟨Nat.le_of_ble_eq_true rfl, Nat.le_of_ble_eq_true rfl⟩) rfl hl.1 rfl rfl (lv_room (Nat.le_of_ble_eq_true rfl)) dX0_pass_4 hH hS (by omega) (by omega) (fun H locs hH hS => ?_)
  have hkc : kc + c1 + c2_1 ≤ mc := by omega
  have hks : ks + n1 + n2_1 ≤ ms := by omega
  refine lv_if_ne (pc := 7) (tgt := 17) hx hb dX0_pass_7 (by decide) (fun c2 => ?_) (fun c2 => ?_)
  · rw [if_neg c2] at hf
    refine lv_iconst (pc := 17) (v := nI 0) hx hb dX0_pass_17 rfl ?_
    refine lv_istore_n (pc := 18) (i := 2) (lv' := [(2, .int (nI 0)), (0, .ref l0), (1, .int l1)]) hx hb dX0_pass_18 rfl hl (by decide) rfl (fun ls hl => ?_)
    refine lv_iconst (pc := 19) (v := nI 0) hx hb dX0_pass_19 rfl ?_
    refine lv_istore_n (pc := 20) (i := 3) (lv' := [(3, .int (nI 0)), (2, .int (nI 0)), (0, .ref l0), (1, .int l1)]) hx hb dX0_pass_20 rfl hl (by decide) rfl (fun ls hl => ?_)
    exact wX0_pass_b21 hk hJ hc FU l0 l1 (nI 0) (nI 0) S1 _ _ ls _ _ _ _ hkc hks hH hS (lv_sub hl [2, 3, 1, 0] rfl) hf
  · rw [if_pos c2] at hf
    refine lv_aload_n (pc := 10) hx hb dX0_pass_10 rfl (lv_at hl 0 rfl) ?_
    refine lv_bipush (pc := 11) (v := -82) hx hb dX0_pass_11 gkbm82 ?_
    obtain ⟨_, ek3, hf⟩ := bdo hf
    obtain ⟨v3, S3, c3, n3, c2_3, n2_3, e3, hf, hC3, hN3⟩ := gbo hf
    refine g_callV (pc := 13) (o := (some l0)) (b := l0) (As := [.int (-82)]) (rest := []) (st1 := [.int v3]) hc (mX0_no hk hJ (l0 := l0) (l1 := (-82)) e3) (cwV 1 hts (lw_V q398 q400 qs2 q97 q401) rfl rfl rfl hdX0_no ⟨Nat.le_of_ble_eq_true rfl, Nat.le_of_ble_eq_true rfl⟩) (g_recv hE hk hH (ci := 0) (q := (RX0, TX0, 7)) rfl (chk_o ek3).choose_spec) rfl rfl hl.1 rfl rfl (lv_room (Nat.le_of_ble_eq_true rfl)) dX0_pass_13 hH hS (by omega) (by omega) (fun H locs hH hS => ?_)
    have hkc : kc + c1 + c3 + c2_3 ≤ mc := by omega
    have hks : ks + n1 + n3 + n2_3 ≤ ms := by omega
    exact g_iret (pc := 16) hx hb hr hlk hH hS hkc hks hf dX0_pass_16
theorem mX0_pass {l : Launch} {G : gG} {Rp : gM → gM → Nat → Prop} (hk : rOK Rp) (hJ : JDK l G Rp) {S S2 : gS} {r2 : Int32} {C N : Nat} {l0 : Nat} {l1 : Int32} (hf : fX0_pass l0 l1 S = some (r2, S2, C, N)) : gMet l yX0_pass cX0_pass 4 (some .int) 19 633 G Rp [.ref l0, .int l1] S (some (.int r2)) S2 C N := by
  refine g_start (by decide) (Nat.le_of_ble_eq_true rfl) (fun p e s m args below meth c ls hc hl hH => ?_)
  have hl : lv_has ls 4 [(0, .ref l0), (1, .int l1)] := hl
  exact wX0_pass_b0 hk hJ hc l0 l1 S _ _ ls 0 0 C N (by omega) (by omega) hH va_S.rf (lv_sub hl [0, 1] rfl) hf
end
section
variable {r : Option Nat} {Sf : gS}
def fX6_text (l0 : Nat) (S : gS) : gO (Option Nat) :=
  bd (rdR S l0 8 0) fun v1 =>
  some (v1, S, 0, 0)
theorem wX6_text_b0 (hk : rOK Rp) (hJ : JDK l G Rp) (hc : gC p s m args meth c G RX6 "text" cX6_text 1 (some (.object "java/lang/String"))) (l0 : Nat) (S : gS) (H : Heap) (locs : List Loc) (ls : Array Slot) (kc ks C N : Nat) (hkc : kc + C ≤ mc) (hks : ks + N ≤ ms) (hH : hp G Rp S H) (hS : va_S G.2.2.2 s.heap H locs) (hl : lv_has ls 1 [(0, .ref l0)]) (hf : fX6_text l0 S = some (r, Sf, C, N)) : W p l e (gR 1 40 mc ms) s m args below meth c H locs kc ks (gQ below G Rp (some (va_rf r)) Sf args s mc ms) (F0 m 0 ls []) := by
  obtain ⟨hx, hb, hr, hlk, hml, hown, hts, hE, hA, hnm⟩ := hc
  have hc : gC p s m args meth c G RX6 "text" cX6_text 1 (some (.object "java/lang/String")) := ⟨hx, hb, hr, hlk, hml, hown, hts, hE, hA, hnm⟩
  unfold fX6_text at hf
  refine lv_aload_n (pc := 0) hx hb dX6_text_0 rfl (lv_at hl 0 rfl) ?_
  obtain ⟨v1, e1, hf⟩ := bdo hf
  refine g_get (pc := 1) (o := (some l0)) (a := l0) (ci := 8) (k := 0) (v := va_rf v1) (C := RX6) (T := TX6) (N := 3) hx hb hts hown hE hk hH in_X6 rfl (by decide) (hts _ q982) (fun _ h9 => h9) rfl (rdR_o e1) dX6_text_1 ?_
  exact g_aret (pc := 4) (v := v1) hx hb hr (Or.inl ⟨_, rfl⟩) hlk hH hS hkc hks hf dX6_text_4
theorem mX6_text {l : Launch} {G : gG} {Rp : gM → gM → Nat → Prop} (hk : rOK Rp) (hJ : JDK l G Rp) {S S2 : gS} {r2 : Option Nat} {C N : Nat} {l0 : Nat} (hf : fX6_text l0 S = some (r2, S2, C, N)) : gMet l yX6_text cX6_text 1 (some (.object "java/lang/String")) 1 40 G Rp [.ref l0] S (some (va_rf r2)) S2 C N := by
  refine g_start (by decide) (Nat.le_of_ble_eq_true rfl) (fun p e s m args below meth c ls hc hl hH => ?_)
  have hl : lv_has ls 1 [(0, .ref l0)] := hl
  exact wX6_text_b0 hk hJ hc l0 S _ _ ls 0 0 C N (by omega) (by omega) hH va_S.rf (lv_sub hl [0] rfl) hf
end
section
variable {r : Int32} {Sf : gS}
def fX0_pattern (l0 : Nat) (l1 : Int32) (l2 : Int32) (S : gS) : gO Int32 :=
  bd (chk S l0 0) fun _ =>
  gb (fX0_isQueue l0 l1 S) fun v1 S1 =>
  if v1 = 0 then
    bd (chk S1 l0 0) fun _ =>
    gb (fX0_no l0 (-82) S1) fun v13 S13 =>
    some (v13, S13, 0, 0)
  else
    bd (chk S1 l0 0) fun _ =>
    gb (fX0_queue_2 l0 l1 S1) fun v3 S3 =>
    bd v3 fun a4 =>
    bd (rdR S3 a4 3 1) fun v5 =>
    bd v5 fun a7 =>
    bd (chk S3 a7 8) fun _ =>
    gb (fX6_text a7 S3) fun v6 S6 =>
    bd v6 fun a9 =>
    gb (nSt_len a9  S6) fun v8 S8 =>
    gb (fX0_isIn l2 (nI 0) (v8 - (nI 1)) S8) fun v10 S10 =>
    if v10 = 0 then
      some (-1, S10, 0, 0)
    else
      gb (nSt_at a9 l2 S10) fun v12 S12 =>
      some (v12, S12, 0, 0)
theorem wX0_pattern_b0 (hk : rOK Rp) (hJ : JDK l G Rp) (hc : gC p s m args meth c G RX0 "pattern" cX0_pattern 4 (some .int)) (l0 : Nat) (l1 : Int32) (l2 : Int32) (S : gS) (H : Heap) (locs : List Loc) (ls : Array Slot) (kc ks C N : Nat) (hkc : kc + C ≤ mc) (hks : ks + N ≤ ms) (hH : hp G Rp S H) (hS : va_S G.2.2.2 s.heap H locs) (hl : lv_has ls 4 [(0, .ref l0), (1, .int l1), (2, .int l2)]) (hf : fX0_pattern l0 l1 l2 S = some (r, Sf, C, N)) : W p l e (gR 16 561 mc ms) s m args below meth c H locs kc ks (gQ below G Rp (some (.int r)) Sf args s mc ms) (F0 m 0 ls []) := by
  obtain ⟨hx, hb, hr, hlk, hml, hown, hts, hE, hA, hnm⟩ := hc
  have hc : gC p s m args meth c G RX0 "pattern" cX0_pattern 4 (some .int) := ⟨hx, hb, hr, hlk, hml, hown, hts, hE, hA, hnm⟩
  unfold fX0_pattern at hf
  refine lv_aload_n (pc := 0) hx hb dX0_pattern_0 rfl (lv_at hl 0 rfl) ?_
  refine lv_iload_n (pc := 1) hx hb dX0_pattern_1 rfl (lv_at hl 1 rfl) ?_
  obtain ⟨_, ek1, hf⟩ := bdo hf
  obtain ⟨v1, S1, c1, n1, c2_1, n2_1, e1, hf, hC1, hN1⟩ := gbo hf
  refine g_callV (pc := 2) (o := (some l0)) (b := l0) (As := [.int l1]) (rest := []) (st1 := [.int v1]) hc (mX0_isQueue hk hJ (l0 := l0) (l1 := l1) e1) (cwV 1 hts (lw_V q1214 q1216 qs17 q97 q1217) rfl rfl rfl hdX0_isQueue ⟨Nat.le_of_ble_eq_true rfl, Nat.le_of_ble_eq_true rfl⟩) (g_recv hE hk hH (ci := 0) (q := (RX0, TX0, 7)) rfl (chk_o ek1).choose_spec) rfl rfl hl.1 rfl rfl (lv_room (Nat.le_of_ble_eq_true rfl)) dX0_pattern_2 hH hS (by omega) (by omega) (fun H locs hH hS => ?_)
  have hkc : kc + c1 + c2_1 ≤ mc := by omega
  have hks : ks + n1 + n2_1 ≤ ms := by omega
  refine lv_if_ne (pc := 5) (tgt := 15) hx hb dX0_pattern_5 (by decide) (fun c2 => ?_) (fun c2 => ?_)
  · rw [if_neg c2] at hf
    refine lv_aload_n (pc := 15) hx hb dX0_pattern_15 rfl (lv_at hl 0 rfl) ?_
    refine lv_iload_n (pc := 16) hx hb dX0_pattern_16 rfl (lv_at hl 1 rfl) ?_
    obtain ⟨_, ek3, hf⟩ := bdo hf
    obtain ⟨v3, S3, c3, n3, c2_3, n2_3, e3, hf, hC3, hN3⟩ := gbo hf
    refine g_callV (pc := 17) (o := (some l0)) (b := l0) (As := [.int l1]) (rest := []) (st1 := [va_rf v3]) hc (mX0_queue_2 hk hJ (l0 := l0) (l1 := l1) e3) (cwV 1 hts (lw_V q1218 q1220 qs18 q97 q1221) rfl rfl rfl hdX0_queue_2 ⟨Nat.le_of_ble_eq_true rfl, Nat.le_of_ble_eq_true rfl⟩) (g_recv hE hk hH (ci := 0) (q := (RX0, TX0, 7)) rfl (chk_o ek3).choose_spec) rfl rfl hl.1 rfl rfl (lv_room (Nat.le_of_ble_eq_true rfl)) dX0_pattern_17 hH hS (by omega) (by omega) (fun H locs hH hS => ?_)
    have hkc : kc + c1 + c3 + c2_3 ≤ mc := by omega
    have hks : ks + n1 + n3 + n2_3 ≤ ms := by omega
    obtain ⟨a4, ea4, hf⟩ := bdo hf
    obtain ⟨v5, e5, hf⟩ := bdo hf
    refine g_get (pc := 20) (o := v3) (a := a4) (ci := 3) (k := 1) (v := va_rf v5) (C := RX8) (T := TX8) (N := 13) hx hb hts hown hE hk hH in_X8 rfl (by decide) (hts _ q1155) (fun _ h9 => h9) ea4 (rdR_o e5) dX0_pattern_20 ?_
    obtain ⟨a7, ea7, hf⟩ := bdo hf
    obtain ⟨_, ek6, hf⟩ := bdo hf
    obtain ⟨v6, S6, c6, n6, c2_6, n2_6, e6, hf, hC6, hN6⟩ := gbo hf
    refine g_callV (pc := 23) (o := v5) (b := a7) (As := []) (rest := []) (st1 := [va_rf v6]) hc (mX6_text hk hJ (l0 := a7) e6) (cwV 0 hts (lw_V q2538 q2539 q2540 q129 q2541) rfl rfl rfl hdX6_text ⟨Nat.le_of_ble_eq_true rfl, Nat.le_of_ble_eq_true rfl⟩) (g_recv hE hk hH (ci := 8) (q := (RX6, TX6, 3)) rfl (chk_o ek6).choose_spec) ea7 rfl hl.1 rfl rfl (lv_room (Nat.le_of_ble_eq_true rfl)) dX0_pattern_23 hH hS (by omega) (by omega) (fun H locs hH hS => ?_)
    have hkc : kc + c1 + c3 + c6 + c2_6 ≤ mc := by omega
    have hks : ks + n1 + n3 + n6 + n2_6 ≤ ms := by omega
    refine g_astore_n (pc := 26) (i := 3) (o := v6) (lv' := [(3, va_rf v6), (0, .ref l0), (1, .int l1), (2, .int l2)]) hx hb dX0_pattern_26 rfl hl (by decide) rfl (fun ls hl => ?_)
    refine lv_iload_n (pc := 27) hx hb dX0_pattern_27 rfl (lv_at hl 3 rfl) ?_
    refine lv_iconst (pc := 28) (v := nI 0) hx hb dX0_pattern_28 rfl ?_
    refine g_aload_n (pc := 29) (o := v6) hx hb dX0_pattern_29 rfl (lv_at hl 0 rfl) ?_
    obtain ⟨a9, ea9, hf⟩ := bdo hf
    obtain ⟨v8, S8, c8, n8, c2_8, n2_8, e8, hf, hC8, hN8⟩ := gbo hf
    refine g_callV (pc := 30) (o := v6) (b := a9) (As := []) (rest := [.int (nI 0), .int l2]) (st1 := [.int v8, .int (nI 0), .int l2]) hc (j_nSt_len hJ a9  S6 v8 S8 c8 n8 e8) (cwV 0 hts (lw_V q2542 q718 q719 q110 q720) rfl rfl rfl hdJ9_length ⟨Nat.le_of_ble_eq_true rfl, Nat.le_of_ble_eq_true rfl⟩) (j_recv hJ _ _ _ _ 5 _ _ hE hH hS (adtR (t := 5) (show bd _ _ = some _ from e8)).choose_spec) ea9 rfl hl.1 rfl rfl (lv_room (Nat.le_of_ble_eq_true rfl)) dX0_pattern_30 hH hS (by omega) (by omega) (fun H locs hH hS => ?_)
    have hkc : kc + c1 + c3 + c6 + c8 + c2_8 ≤ mc := by omega
    have hks : ks + n1 + n3 + n6 + n8 + n2_8 ≤ ms := by omega
    refine lv_iconst (pc := 33) (v := nI 1) hx hb dX0_pattern_33 rfl ?_
    refine lv_isub (pc := 34) hx hb dX0_pattern_34 ?_
    obtain ⟨v10, S10, c10, n10, c2_10, n2_10, e10, hf, hC10, hN10⟩ := gbo hf
    refine g_callS (pc := 35) (As := [.int l2, .int (nI 0), .int (v8 - (nI 1))]) (rest := []) (st1 := [.int v10]) hc (mX0_isIn hk hJ (l0 := l2) (l1 := (nI 0)) (l2 := (v8 - (nI 1))) e10) (va_cwS 3 hts (lw_S q395 q396 q97 q397) rfl rfl rfl hdX0_isIn ⟨Nat.le_of_ble_eq_true rfl, Nat.le_of_ble_eq_true rfl⟩) rfl hl.1 rfl rfl (lv_room (Nat.le_of_ble_eq_true rfl)) dX0_pattern_35 hH hS (by omega) (by omega) (fun H locs hH hS => ?_)
    have hkc : kc + c1 + c3 + c6 + c8 + c10 + c2_10 ≤ mc := by omega
    have hks : ks + n1 + n3 + n6 + n8 + n10 + n2_10 ≤ ms := by omega
    refine lv_if_eq (pc := 38) (tgt := 49) hx hb dX0_pattern_38 (by decide) (fun c11 => ?_) (fun c11 => ?_)
    · rw [if_pos c11] at hf
      refine lv_iconst (pc := 49) (v := -1) hx hb dX0_pattern_49 rfl ?_
      exact g_iret (pc := 50) hx hb hr hlk hH hS hkc hks hf dX0_pattern_50
    · rw [if_neg c11] at hf
      refine g_aload_n (pc := 41) (o := v6) hx hb dX0_pattern_41 rfl (lv_at hl 0 rfl) ?_
      refine lv_iload_n (pc := 42) hx hb dX0_pattern_42 rfl (lv_at hl 3 rfl) ?_
      obtain ⟨v12, S12, c12, n12, c2_12, n2_12, e12, hf, hC12, hN12⟩ := gbo hf
      refine g_callV (pc := 43) (o := v6) (b := a9) (As := [.int l2]) (rest := []) (st1 := [.int v12]) hc (j_nSt_at hJ a9 l2 S10 v12 S12 c12 n12 e12) (cwV 1 hts (lw_V q2543 q2544 q2545 q110 q2546) rfl rfl rfl hdJ9_charAt ⟨Nat.le_of_ble_eq_true rfl, Nat.le_of_ble_eq_true rfl⟩) (j_recv hJ _ _ _ _ 5 _ _ hE hH hS (adtR (t := 5) (show bd _ _ = some _ from e12)).choose_spec) ea9 rfl hl.1 rfl rfl (lv_room (Nat.le_of_ble_eq_true rfl)) dX0_pattern_43 hH hS (by omega) (by omega) (fun H locs hH hS => ?_)
      have hkc : kc + c1 + c3 + c6 + c8 + c10 + c12 + c2_12 ≤ mc := by omega
      have hks : ks + n1 + n3 + n6 + n8 + n10 + n12 + n2_12 ≤ ms := by omega
      refine lv_goto (pc := 46) (tgt := 50) hx hb dX0_pattern_46 (by decide) ?_
      exact g_iret (pc := 50) hx hb hr hlk hH hS hkc hks hf dX0_pattern_50
  · rw [if_pos c2] at hf
    refine lv_aload_n (pc := 8) hx hb dX0_pattern_8 rfl (lv_at hl 0 rfl) ?_
    refine lv_bipush (pc := 9) (v := -82) hx hb dX0_pattern_9 gkbm82 ?_
    obtain ⟨_, ek13, hf⟩ := bdo hf
    obtain ⟨v13, S13, c13, n13, c2_13, n2_13, e13, hf, hC13, hN13⟩ := gbo hf
    refine g_callV (pc := 11) (o := (some l0)) (b := l0) (As := [.int (-82)]) (rest := []) (st1 := [.int v13]) hc (mX0_no hk hJ (l0 := l0) (l1 := (-82)) e13) (cwV 1 hts (lw_V q398 q400 qs2 q97 q401) rfl rfl rfl hdX0_no ⟨Nat.le_of_ble_eq_true rfl, Nat.le_of_ble_eq_true rfl⟩) (g_recv hE hk hH (ci := 0) (q := (RX0, TX0, 7)) rfl (chk_o ek13).choose_spec) rfl rfl hl.1 rfl rfl (lv_room (Nat.le_of_ble_eq_true rfl)) dX0_pattern_11 hH hS (by omega) (by omega) (fun H locs hH hS => ?_)
    have hkc : kc + c1 + c13 + c2_13 ≤ mc := by omega
    have hks : ks + n1 + n13 + n2_13 ≤ ms := by omega
    exact g_iret (pc := 14) hx hb hr hlk hH hS hkc hks hf dX0_pattern_14
theorem mX0_pattern {l : Launch} {G : gG} {Rp : gM → gM → Nat → Prop} (hk : rOK Rp) (hJ : JDK l G Rp) {S S2 : gS} {r2 : Int32} {C N : Nat} {l0 : Nat} {l1 : Int32} {l2 : Int32} (hf : fX0_pattern l0 l1 l2 S = some (r2, S2, C, N)) : gMet l yX0_pattern cX0_pattern 4 (some .int) 16 561 G Rp [.ref l0, .int l1, .int l2] S (some (.int r2)) S2 C N := by
  refine g_start (by decide) (Nat.le_of_ble_eq_true rfl) (fun p e s m args below meth c ls hc hl hH => ?_)
  have hl : lv_has ls 4 [(0, .ref l0), (1, .int l1), (2, .int l2)] := hl
  exact wX0_pattern_b0 hk hJ hc l0 l1 l2 S _ _ ls 0 0 C N (by omega) (by omega) hH va_S.rf (lv_sub hl [0, 1, 2] rfl) hf
end
section
variable {r : Int32} {Sf : gS}
def fX0_publish_b19 (G : gG) (l0 : Nat) (S : gS) : gO Int32 :=
  bd (chk S l0 0) fun _ =>
  gb (fX0_no l0 (-82) S) fun v1 S1 =>
  some (v1, S1, 0, 0)
theorem wX0_publish_b19 (hk : rOK Rp) (hJ : JDK l G Rp) (hc : gC p s m args meth c G RX0 "publish" cX0_publish 4 (some .int)) (l0 : Nat) (S : gS) (H : Heap) (locs : List Loc) (ls : Array Slot) (kc ks C N : Nat) (hkc : kc + C ≤ mc) (hks : ks + N ≤ ms) (hH : hp G Rp S H) (hS : va_S G.2.2.2 s.heap H locs) (hl : lv_has ls 4 [(0, .ref l0)]) (hf : fX0_publish_b19 G l0 S = some (r, Sf, C, N)) : W p l e (gR 20 653 mc ms) s m args below meth c H locs kc ks (gQ below G Rp (some (.int r)) Sf args s mc ms) (F0 m 19 ls []) := by
  obtain ⟨hx, hb, hr, hlk, hml, hown, hts, hE, hA, hnm⟩ := hc
  have hc : gC p s m args meth c G RX0 "publish" cX0_publish 4 (some .int) := ⟨hx, hb, hr, hlk, hml, hown, hts, hE, hA, hnm⟩
  unfold fX0_publish_b19 at hf
  refine lv_aload_n (pc := 19) hx hb dX0_publish_19 rfl (lv_at hl 0 rfl) ?_
  refine lv_bipush (pc := 20) (v := -82) hx hb dX0_publish_20 gkbm82 ?_
  obtain ⟨_, ek1, hf⟩ := bdo hf
  obtain ⟨v1, S1, c1, n1, c2_1, n2_1, e1, hf, hC1, hN1⟩ := gbo hf
  refine g_callV (pc := 22) (o := (some l0)) (b := l0) (As := [.int (-82)]) (rest := []) (st1 := [.int v1]) hc (mX0_no hk hJ (l0 := l0) (l1 := (-82)) e1) (cwV 1 hts (lw_V q398 q400 qs2 q97 q401) rfl rfl rfl hdX0_no ⟨Nat.le_of_ble_eq_true rfl, Nat.le_of_ble_eq_true rfl⟩) (g_recv hE hk hH (ci := 0) (q := (RX0, TX0, 7)) rfl (chk_o ek1).choose_spec) rfl rfl hl.1 rfl rfl (lv_room (Nat.le_of_ble_eq_true rfl)) dX0_publish_22 hH hS (by omega) (by omega) (fun H locs hH hS => ?_)
  have hkc : kc + c1 + c2_1 ≤ mc := by omega
  have hks : ks + n1 + n2_1 ≤ ms := by omega
  exact g_iret (pc := 25) hx hb hr hlk hH hS hkc hks hf dX0_publish_25
def fX0_publish (G : gG) (l0 : Nat) (l1 : Int32) (l2 : Int32) (l3 : Int32) (S : gS) : gO Int32 :=
  gb (fX0_isIn l1 (nI 0) (nI 7) S) fun v1 S1 =>
  if v1 = 0 then
    fX0_publish_b19 G l0 S1
  else
    gb (fX0_isIn l2 (nI 0) (nI 3) S1) fun v3 S3 =>
    if v3 = 0 then
      fX0_publish_b19 G l0 S3
    else
      bd (rdR S3 l0 0 0) fun v5 =>
      bd v5 fun a6 =>
      bd (rdR S3 a6 1 4) fun v7 =>
      if v7 = none then
        bd (chk S3 l0 0) fun _ =>
        gb (fX0_no l0 (-85) S3) fun v23 S23 =>
        some (v23, S23, 0, 0)
      else
        bd (rdR S3 l0 0 0) fun v9 =>
        bd v9 fun a10 =>
        bd (rdR S3 a10 1 2) fun v11 =>
        bd v11 fun a13 =>
        gb (nAL_size a13  S3) fun v12 S12 =>
        if v12 = (nI 300) then
          bd (chk S12 l0 0) fun _ =>
          gb (fX0_no l0 (-86) S12) fun v22 S22 =>
          some (v22, S22, 0, 0)
        else
          bd (rdR S12 l0 0 0) fun v15 =>
          nwa S12 0 (nI 3) fun S16 =>
          bd (wrAi S16 S12.2 (nI 0) l1) fun S17 =>
          bd (wrAi S17 S12.2 (nI 1) l2) fun S18 =>
          bd (wrAi S18 S12.2 (nI 2) l3) fun S19 =>
          bd v15 fun a21 =>
          bd (chk S19 a21 1) fun _ =>
          gb (fX1_publishes G a21 (some S12.2) S19) fun v20 S20 =>
          some (v20, S20, 0, 0)
theorem wX0_publish_b0 (hk : rOK Rp) (hJ : JDK l G Rp) (hc : gC p s m args meth c G RX0 "publish" cX0_publish 4 (some .int)) (l0 : Nat) (l1 : Int32) (l2 : Int32) (l3 : Int32) (S : gS) (H : Heap) (locs : List Loc) (ls : Array Slot) (kc ks C N : Nat) (hkc : kc + C ≤ mc) (hks : ks + N ≤ ms) (hH : hp G Rp S H) (hS : va_S G.2.2.2 s.heap H locs) (hl : lv_has ls 4 [(0, .ref l0), (1, .int l1), (2, .int l2), (3, .int l3)]) (hf : fX0_publish G l0 l1 l2 l3 S = some (r, Sf, C, N)) : W p l e (gR 20 653 mc ms) s m args below meth c H locs kc ks (gQ below G Rp (some (.int r)) Sf args s mc ms) (F0 m 0 ls []) := by
  obtain ⟨hx, hb, hr, hlk, hml, hown, hts, hE, hA, hnm⟩ := hc
  have hc : gC p s m args meth c G RX0 "publish" cX0_publish 4 (some .int) := ⟨hx, hb, hr, hlk, hml, hown, hts, hE, hA, hnm⟩
  unfold fX0_publish at hf
  refine lv_iload_n (pc := 0) hx hb dX0_publish_0 rfl (lv_at hl 1 rfl) ?_
  refine lv_iconst (pc := 1) (v := nI 0) hx hb dX0_publish_1 rfl ?_
  refine lv_bipush (pc := 2) (v := nI 7) hx hb dX0_publish_2 gkb7 ?_
  obtain ⟨v1, S1, c1, n1, c2_1, n2_1, e1, hf, hC1, hN1⟩ := gbo hf
  refine g_callS (pc := 4) (As := [.int l1, .int (nI 0), .int (nI 7)]) (rest := []) (st1 := [.int v1]) hc (mX0_isIn hk hJ (l0 := l1) (l1 := (nI 0)) (l2 := (nI 7)) e1) (va_cwS 3 hts (lw_S q395 q396 q97 q397) rfl rfl rfl hdX0_isIn ⟨Nat.le_of_ble_eq_true rfl, Nat.le_of_ble_eq_true rfl⟩) rfl hl.1 rfl rfl (lv_room (Nat.le_of_ble_eq_true rfl)) dX0_publish_4 hH hS (by omega) (by omega) (fun H locs hH hS => ?_)
  have hkc : kc + c1 + c2_1 ≤ mc := by omega
  have hks : ks + n1 + n2_1 ≤ ms := by omega
  refine lv_if_eq (pc := 7) (tgt := 19) hx hb dX0_publish_7 (by decide) (fun c2 => ?_) (fun c2 => ?_)
  · rw [if_pos c2] at hf
    exact wX0_publish_b19 hk hJ hc l0 S1 _ _ ls _ _ _ _ hkc hks hH hS (lv_sub hl [0] rfl) hf
  · rw [if_neg c2] at hf
    refine lv_iload_n (pc := 10) hx hb dX0_publish_10 rfl (lv_at hl 2 rfl) ?_
    refine lv_iconst (pc := 11) (v := nI 0) hx hb dX0_publish_11 rfl ?_
    refine lv_iconst (pc := 12) (v := nI 3) hx hb dX0_publish_12 rfl ?_
    obtain ⟨v3, S3, c3, n3, c2_3, n2_3, e3, hf, hC3, hN3⟩ := gbo hf
    refine g_callS (pc := 13) (As := [.int l2, .int (nI 0), .int (nI 3)]) (rest := []) (st1 := [.int v3]) hc (mX0_isIn hk hJ (l0 := l2) (l1 := (nI 0)) (l2 := (nI 3)) e3) (va_cwS 3 hts (lw_S q395 q396 q97 q397) rfl rfl rfl hdX0_isIn ⟨Nat.le_of_ble_eq_true rfl, Nat.le_of_ble_eq_true rfl⟩) rfl hl.1 rfl rfl (lv_room (Nat.le_of_ble_eq_true rfl)) dX0_publish_13 hH hS (by omega) (by omega) (fun H locs hH hS => ?_)
    have hkc : kc + c1 + c3 + c2_3 ≤ mc := by omega
    have hks : ks + n1 + n3 + n2_3 ≤ ms := by omega
    refine lv_if_ne (pc := 16) (tgt := 26) hx hb dX0_publish_16 (by decide) (fun c4 => ?_) (fun c4 => ?_)
    · rw [if_neg c4] at hf
      refine lv_aload_n (pc := 26) hx hb dX0_publish_26 rfl (lv_at hl 0 rfl) ?_
      obtain ⟨v5, e5, hf⟩ := bdo hf
      refine g_get (pc := 27) (o := (some l0)) (a := l0) (ci := 0) (k := 0) (v := va_rf v5) (C := RX0) (T := TX0) (N := 7) hx hb hts hown hE hk hH in_X0 rfl (by decide) (hts _ q272) (fun _ h9 => h9) rfl (rdR_o e5) dX0_publish_27 ?_
      obtain ⟨a6, ea6, hf⟩ := bdo hf
      obtain ⟨v7, e7, hf⟩ := bdo hf
      refine g_get (pc := 30) (o := v5) (a := a6) (ci := 1) (k := 4) (v := va_rf v7) (C := RX1) (T := TX1) (N := 7) hx hb hts hown hE hk hH in_X1 rfl (by decide) (hts _ q240) (fun _ h9 => h9) ea6 (rdR_o e7) dX0_publish_30 ?_
      refine g_ifnonnull (pc := 33) (o := v7) (tgt := 43) hx hb dX0_publish_33 (by decide) (fun c8 => ?_) (fun c8 => ?_)
      · rw [if_neg c8] at hf
        refine lv_aload_n (pc := 43) hx hb dX0_publish_43 rfl (lv_at hl 0 rfl) ?_
        obtain ⟨v9, e9, hf⟩ := bdo hf
        refine g_get (pc := 44) (o := (some l0)) (a := l0) (ci := 0) (k := 0) (v := va_rf v9) (C := RX0) (T := TX0) (N := 7) hx hb hts hown hE hk hH in_X0 rfl (by decide) (hts _ q272) (fun _ h9 => h9) rfl (rdR_o e9) dX0_publish_44 ?_
        obtain ⟨a10, ea10, hf⟩ := bdo hf
        obtain ⟨v11, e11, hf⟩ := bdo hf
        refine g_get (pc := 47) (o := v9) (a := a10) (ci := 1) (k := 2) (v := va_rf v11) (C := RX1) (T := TX1) (N := 7) hx hb hts hown hE hk hH in_X1 rfl (by decide) (hts _ q236) (fun _ h9 => h9) ea10 (rdR_o e11) dX0_publish_47 ?_
        obtain ⟨a13, ea13, hf⟩ := bdo hf
        obtain ⟨v12, S12, c12, n12, c2_12, n2_12, e12, hf, hC12, hN12⟩ := gbo hf
        refine g_callV (pc := 50) (o := v11) (b := a13) (As := []) (rest := []) (st1 := [.int v12]) hc (j_nAL_size hJ a13  S3 v12 S12 c12 n12 e12) (cwV 0 hts (lw_V q1134 q1120 q1121 q101 q1122) rfl rfl rfl hdJ2_size ⟨Nat.le_of_ble_eq_true rfl, Nat.le_of_ble_eq_true rfl⟩) (j_recv hJ _ _ _ _ 0 _ _ hE hH hS (adtR (t := 0) (show bd _ _ = some _ from e12)).choose_spec) ea13 rfl hl.1 rfl rfl (lv_room (Nat.le_of_ble_eq_true rfl)) dX0_publish_50 hH hS (by omega) (by omega) (fun H locs hH hS => ?_)
        have hkc : kc + c1 + c3 + c12 + c2_12 ≤ mc := by omega
        have hks : ks + n1 + n3 + n12 + n2_12 ≤ ms := by omega
        refine lv_sipush (pc := 53) (v := nI 300) hx hb dX0_publish_53 gks300 ?_
        refine lv_icmp_ne (pc := 56) (tgt := 68) hx hb dX0_publish_56 (by decide) (fun c14 => ?_) (fun c14 => ?_)
        · rw [if_neg c14] at hf
          refine lv_aload_n (pc := 68) hx hb dX0_publish_68 rfl (lv_at hl 0 rfl) ?_
          obtain ⟨v15, e15, hf⟩ := bdo hf
          refine g_get (pc := 69) (o := (some l0)) (a := l0) (ci := 0) (k := 0) (v := va_rf v15) (C := RX0) (T := TX0) (N := 7) hx hb hts hown hE hk hH in_X0 rfl (by decide) (hts _ q272) (fun _ h9 => h9) rfl (rdR_o e15) dX0_publish_69 ?_
          refine lv_iconst (pc := 72) (v := nI 3) hx hb dX0_publish_72 rfl ?_
          obtain ⟨hn16, hi16, S16, c2_16, n2_16, eS16, hf, hC16, hN16⟩ := nwao hf
          refine g_newa (pc := 73) (atype := .int) (ty := .int) (t := 0) hx hb hts hE hA hk hH hS q271 rfl rfl rfl (fun _ h => by cases h) hn16 hi16 eS16 (by decide) (Nat.le_trans (by omega) hkc) (Nat.le_trans (by omega) hks) dX0_publish_73 (fun H hH hS => ?_)
          have hkc : kc + c1 + c3 + c12 + 1 + c2_16 ≤ mc := by omega
          have hks : ks + n1 + n3 + n12 + (nI 3).toNatClampNeg + n2_16 ≤ ms := by omega
          refine lv_dup (pc := 75) hx hb dX0_publish_75 rfl ?_
          refine lv_iconst (pc := 76) (v := nI 0) hx hb dX0_publish_76 rfl ?_
          refine lv_iload_n (pc := 77) hx hb dX0_publish_77 rfl (lv_at hl 1 rfl) ?_
          obtain ⟨S17, e17, hf⟩ := bdo hf
          refine g_iast (pc := 78) (o := (some S12.2)) (a := S12.2) hx hb hE hk hH hS rfl e17 dX0_publish_78 (fun H locs hH hS => ?_)
          refine lv_dup (pc := 79) hx hb dX0_publish_79 rfl ?_
          refine lv_iconst (pc := 80) (v := nI 1) hx hb dX0_publish_80 rfl ?_
          refine lv_iload_n (pc := 81) hx hb dX0_publish_81 rfl (lv_at hl 2 rfl) ?_
          obtain ⟨S18, e18, hf⟩ := bdo hf
          refine g_iast (pc := 82) (o := (some S12.2)) (a := S12.2) hx hb hE hk hH hS rfl e18 dX0_publish_82 (fun H locs hH hS => ?_)
          refine lv_dup (pc := 83) hx hb dX0_publish_83 rfl ?_
          refine lv_iconst (pc := 84) (v := nI 2) hx hb dX0_publish_84 rfl ?_
          refine lv_iload_n (pc := 85) hx hb dX0_publish_85 rfl (lv_at hl 3 rfl) ?_
          obtain ⟨S19, e19, hf⟩ := bdo hf
          refine g_iast (pc := 86) (o := (some S12.2)) (a := S12.2) hx hb hE hk hH hS rfl e19 dX0_publish_86 (fun H locs hH hS => ?_)
          obtain ⟨a21, ea21, hf⟩ := bdo hf
          obtain ⟨_, ek20, hf⟩ := bdo hf
          obtain ⟨v20, S20, c20, n20, c2_20, n2_20, e20, hf, hC20, hN20⟩ := gbo hf
          refine g_callV (pc := 87) (o := v15) (b := a21) (As := [.ref S12.2]) (rest := []) (st1 := [.int v20]) hc (mX1_publishes hk hJ (l0 := a21) (l1 := (some S12.2)) e20) (cwV 1 hts (lw_V q1533 q1534 q1535 q98 q1536) rfl rfl rfl hdX1_publishes ⟨Nat.le_of_ble_eq_true rfl, Nat.le_of_ble_eq_true rfl⟩) (g_recv hE hk hH (ci := 1) (q := (RX1, TX1, 7)) rfl (chk_o ek20).choose_spec) ea21 rfl hl.1 rfl rfl (lv_room (Nat.le_of_ble_eq_true rfl)) dX0_publish_87 hH hS (by omega) (by omega) (fun H locs hH hS => ?_)
          have hkc : kc + c1 + c3 + c12 + 1 + c20 + c2_20 ≤ mc := by omega
          have hks : ks + n1 + n3 + n12 + (nI 3).toNatClampNeg + n20 + n2_20 ≤ ms := by omega
          exact g_iret (pc := 90) hx hb hr hlk hH hS hkc hks hf dX0_publish_90
        · rw [if_pos c14] at hf
          refine lv_aload_n (pc := 59) hx hb dX0_publish_59 rfl (lv_at hl 0 rfl) ?_
          refine lv_bipush (pc := 60) (v := -86) hx hb dX0_publish_60 gkbm86 ?_
          obtain ⟨_, ek22, hf⟩ := bdo hf
          obtain ⟨v22, S22, c22, n22, c2_22, n2_22, e22, hf, hC22, hN22⟩ := gbo hf
          refine g_callV (pc := 62) (o := (some l0)) (b := l0) (As := [.int (-86)]) (rest := []) (st1 := [.int v22]) hc (mX0_no hk hJ (l0 := l0) (l1 := (-86)) e22) (cwV 1 hts (lw_V q398 q400 qs2 q97 q401) rfl rfl rfl hdX0_no ⟨Nat.le_of_ble_eq_true rfl, Nat.le_of_ble_eq_true rfl⟩) (g_recv hE hk hH (ci := 0) (q := (RX0, TX0, 7)) rfl (chk_o ek22).choose_spec) rfl rfl hl.1 rfl rfl (lv_room (Nat.le_of_ble_eq_true rfl)) dX0_publish_62 hH hS (by omega) (by omega) (fun H locs hH hS => ?_)
          have hkc : kc + c1 + c3 + c12 + c22 + c2_22 ≤ mc := by omega
          have hks : ks + n1 + n3 + n12 + n22 + n2_22 ≤ ms := by omega
          refine lv_goto (pc := 65) (tgt := 90) hx hb dX0_publish_65 (by decide) ?_
          exact g_iret (pc := 90) hx hb hr hlk hH hS hkc hks hf dX0_publish_90
      · rw [if_pos c8] at hf
        refine lv_aload_n (pc := 36) hx hb dX0_publish_36 rfl (lv_at hl 0 rfl) ?_
        refine lv_bipush (pc := 37) (v := -85) hx hb dX0_publish_37 gkbm85 ?_
        obtain ⟨_, ek23, hf⟩ := bdo hf
        obtain ⟨v23, S23, c23, n23, c2_23, n2_23, e23, hf, hC23, hN23⟩ := gbo hf
        refine g_callV (pc := 39) (o := (some l0)) (b := l0) (As := [.int (-85)]) (rest := []) (st1 := [.int v23]) hc (mX0_no hk hJ (l0 := l0) (l1 := (-85)) e23) (cwV 1 hts (lw_V q398 q400 qs2 q97 q401) rfl rfl rfl hdX0_no ⟨Nat.le_of_ble_eq_true rfl, Nat.le_of_ble_eq_true rfl⟩) (g_recv hE hk hH (ci := 0) (q := (RX0, TX0, 7)) rfl (chk_o ek23).choose_spec) rfl rfl hl.1 rfl rfl (lv_room (Nat.le_of_ble_eq_true rfl)) dX0_publish_39 hH hS (by omega) (by omega) (fun H locs hH hS => ?_)
        have hkc : kc + c1 + c3 + c23 + c2_23 ≤ mc := by omega
        have hks : ks + n1 + n3 + n23 + n2_23 ≤ ms := by omega
        exact g_iret (pc := 42) hx hb hr hlk hH hS hkc hks hf dX0_publish_42
    · rw [if_pos c4] at hf
      exact wX0_publish_b19 hk hJ hc l0 S3 _ _ ls _ _ _ _ hkc hks hH hS (lv_sub hl [0] rfl) hf
theorem mX0_publish {l : Launch} {G : gG} {Rp : gM → gM → Nat → Prop} (hk : rOK Rp) (hJ : JDK l G Rp) {S S2 : gS} {r2 : Int32} {C N : Nat} {l0 : Nat} {l1 : Int32} {l2 : Int32} {l3 : Int32} (hf : fX0_publish G l0 l1 l2 l3 S = some (r2, S2, C, N)) : gMet l yX0_publish cX0_publish 4 (some .int) 20 653 G Rp [.ref l0, .int l1, .int l2, .int l3] S (some (.int r2)) S2 C N := by
  refine g_start (by decide) (Nat.le_of_ble_eq_true rfl) (fun p e s m args below meth c ls hc hl hH => ?_)
  have hl : lv_has ls 4 [(0, .ref l0), (1, .int l1), (2, .int l2), (3, .int l3)] := hl
  exact wX0_publish_b0 hk hJ hc l0 l1 l2 l3 S _ _ ls 0 0 C N (by omega) (by omega) hH va_S.rf (lv_sub hl [0, 1, 2, 3] rfl) hf
end
section
variable {r : Int32} {Sf : gS}
def fX0_purge_b29 : Nat → Int32 → (Option Nat) → gS → gO Int32
  | 0, _, _, _ => none
  | n + 1, l2, l3, S =>
    bd l3 fun a2 =>
    gb (nI6_hasNext a2 S) fun v1 S1 =>
    if v1 = 0 then
      some (l2, S1, 0, 0)
    else
      gb (nI6_next a2 S1) fun v4 S4 =>
      bd (ckc S4 v4 4) fun _ =>
      bd v4 fun a6 =>
      bd (rdI S4 a6 4 1) fun v7 =>
      if v7 = (nI 2) then
        fX0_purge_b29 n l2 l3 S4
      else
        gb (nI6_remove a2 S4) fun _ S9 =>
        fX0_purge_b29 n (l2 + (nI 1)) l3 S9
theorem wX0_purge_b29 (hk : rOK Rp) (hJ : JDK l G Rp) (hc : gC p s m args meth c G RX0 "purge" cX0_purge 4 (some .int)) : ∀ (n : Nat) (l2 : Int32) (l3 : Option Nat) (S : gS) (H : Heap) (locs : List Loc) (ls : Array Slot) (kc ks C N : Nat), kc + C ≤ mc → ks + N ≤ ms → hp G Rp S H → va_S G.2.2.2 s.heap H locs → lv_has ls 4 [(2, .int l2), (3, va_rf l3)] → fX0_purge_b29 n l2 l3 S = some (r, Sf, C, N) → W p l e (gR 16 561 mc ms) s m args below meth c H locs kc ks (gQ below G Rp (some (.int r)) Sf args s mc ms) (F0 m 29 ls []) := by
  obtain ⟨hx, hb, hr, hlk, hml, hown, hts, hE, hA, hnm⟩ := hc
  have hc : gC p s m args meth c G RX0 "purge" cX0_purge 4 (some .int) := ⟨hx, hb, hr, hlk, hml, hown, hts, hE, hA, hnm⟩
  intro n
  induction n with
  | zero => intro l2 l3 S H locs ls kc ks C N _ _ _ _ _ hf; exact absurd hf (fun h => by cases h)
  | succ n ih =>
    intro l2 l3 S H locs ls kc ks C N hkc hks hH hS hl hf
    rw [fX0_purge_b29] at hf
    refine g_aload_n (pc := 29) (o := l3) hx hb dX0_purge_29 rfl (lv_at hl 1 rfl) ?_
    obtain ⟨a2, ea2, hf⟩ := bdo hf
    obtain ⟨v1, S1, c1, n1, c2_1, n2_1, e1, hf, hC1, hN1⟩ := gbo hf
    refine g_callF (pc := 30) (o := l3) (b := a2) (As := []) (rest := []) (st1 := [.int v1]) (ci := 21) (q := (RJ26, TJ26, 4)) hc (j_nI6_hasNext hJ a2 S v1 S1 c1 n1 e1) (va_cwF 0 hts (lw_app (lw_of4 q2060 q1339 q1341 q135) (lw_meth q1343)) rfl rfl rfl (hE.2.1.2.2.2.2.2 _ _ _ hdx_hasNext.1 q1320 q1319 q1342 q1340 q1338) hdx_hasNext.2 ⟨Nat.le_of_ble_eq_true rfl, Nat.le_of_ble_eq_true rfl⟩) rfl rfl (j_recv hJ _ _ _ _ 6 _ _ hE hH hS (adtR (t := 6) (show bd _ _ = some _ from e1)).choose_spec) ea2 rfl hl.1 rfl rfl (lv_room (Nat.le_of_ble_eq_true rfl)) dX0_purge_30 hH hS (by omega) (by omega) (fun H locs hH hS => ?_)
    have hkc : kc + c1 + c2_1 ≤ mc := by omega
    have hks : ks + n1 + n2_1 ≤ ms := by omega
    refine lv_if_eq (pc := 35) (tgt := 66) hx hb dX0_purge_35 (by decide) (fun c3 => ?_) (fun c3 => ?_)
    · rw [if_pos c3] at hf
      refine lv_iload_n (pc := 66) hx hb dX0_purge_66 rfl (lv_at hl 0 rfl) ?_
      exact g_iret (pc := 67) hx hb hr hlk hH hS hkc hks hf dX0_purge_67
    · rw [if_neg c3] at hf
      refine g_aload_n (pc := 38) (o := l3) hx hb dX0_purge_38 rfl (lv_at hl 1 rfl) ?_
      obtain ⟨v4, S4, c4, n4, c2_4, n2_4, e4, hf, hC4, hN4⟩ := gbo hf
      refine g_callF (pc := 39) (o := l3) (b := a2) (As := []) (rest := []) (st1 := [va_rf v4]) (ci := 21) (q := (RJ26, TJ26, 4)) hc (j_nI6_next hJ a2 S1 v4 S4 c4 n4 e4) (va_cwF 0 hts (lw_app (lw_of4 q2062 q1472 q1474 q135) (lw_meth q1476)) rfl rfl rfl (hE.2.1.2.2.2.2.2 _ _ _ hdx_next.1 q1366 q1365 q1475 q1473 q1338) hdx_next.2 ⟨Nat.le_of_ble_eq_true rfl, Nat.le_of_ble_eq_true rfl⟩) rfl rfl (j_recv hJ _ _ _ _ 6 _ _ hE hH hS (adtR (t := 6) (show bd _ _ = some _ from e4)).choose_spec) ea2 rfl hl.1 rfl rfl (lv_room (Nat.le_of_ble_eq_true rfl)) dX0_purge_39 hH hS (by omega) (by omega) (fun H locs hH hS => ?_)
      have hkc : kc + c1 + c4 + c2_4 ≤ mc := by omega
      have hks : ks + n1 + n4 + n2_4 ≤ ms := by omega
      obtain ⟨_, e5, hf⟩ := bdo hf
      refine g_cast (pc := 44) (o := v4) (ci := 4) (C := RX16) (T := TX16) (N := 6) hx hb hts hown hE hk hH rfl q1956 e5 dX0_purge_44 ?_
      obtain ⟨a6, ea6, hf⟩ := bdo hf
      obtain ⟨v7, e7, hf⟩ := bdo hf
      refine g_get (pc := 47) (o := v4) (a := a6) (ci := 4) (k := 1) (v := .int v7) (C := RX16) (T := TX16) (N := 6) hx hb hts hown hE hk hH in_X16 rfl (by decide) (hts _ q1716) (fun _ h9 => h9) ea6 (rdI_o e7) dX0_purge_47 ?_
      refine lv_iconst (pc := 50) (v := nI 2) hx hb dX0_purge_50 rfl ?_
      refine lv_icmp_eq (pc := 51) (tgt := 29) hx hb dX0_purge_51 (by decide) (fun c8 => ?_) (fun c8 => ?_)
      · rw [if_pos c8] at hf
        exact ih l2 l3 S4 _ _ ls _ _ _ _ hkc hks hH hS (lv_sub hl [0, 1] rfl) hf
      · rw [if_neg c8] at hf
        refine g_aload_n (pc := 54) (o := l3) hx hb dX0_purge_54 rfl (lv_at hl 1 rfl) ?_
        obtain ⟨_, S9, c9, n9, c2_9, n2_9, e9, hf, hC9, hN9⟩ := gbo hf
        refine g_callFW (pc := 55) (o := l3) (b := a2) (As := []) (rest := []) (st1 := []) (ci := 21) (q := (RJ26, TJ26, 4)) hc (j_nI6_remove hJ a2 S4 () S9 c9 n9 e9) (va_cwFW 0 hts (lw_app (lw_of4 q2064 q2127 q2129 q135) (lw_methW q2131)) rfl rfl rfl (hE.2.1.2.2.2.2.2 _ _ _ hdx_remove.1 q2066 q2065 q2130 q2128 q1338) hdx_remove.2 ⟨Nat.le_of_ble_eq_true rfl, Nat.le_of_ble_eq_true rfl⟩) rfl rfl (j_recv hJ _ _ _ _ 6 _ _ hE hH hS (adtR (t := 6) (show bd _ _ = some _ from e9)).choose_spec) ea2 rfl hl.1 rfl rfl (lv_room (Nat.le_of_ble_eq_true rfl)) dX0_purge_55 hH hS (by omega) (by omega) (fun H locs hH hS => ?_)
        have hkc : kc + c1 + c4 + c9 + c2_9 ≤ mc := by omega
        have hks : ks + n1 + n4 + n9 + n2_9 ≤ ms := by omega
        refine lv_iinc (pc := 60) (v := l2 + (nI 1)) (lv' := [(2, .int (l2 + (nI 1))), (3, va_rf l3)]) hx hb dX0_purge_60 hl (k := 0) rfl rfl (by decide) rfl (fun ls hl => ?_)
        refine lv_goto (pc := 63) (tgt := 29) hx hb dX0_purge_63 (by decide) ?_
        exact ih (l2 + (nI 1)) l3 S9 _ _ ls _ _ _ _ hkc hks hH hS (lv_sub hl [0, 1] rfl) hf
def fX0_purge (l0 : Nat) (l1 : Int32) (S : gS) : gO Int32 :=
  bd (chk S l0 0) fun _ =>
  gb (fX0_isQueue l0 l1 S) fun v1 S1 =>
  if v1 = 0 then
    bd (chk S1 l0 0) fun _ =>
    gb (fX0_no l0 (-82) S1) fun v8 S8 =>
    some (v8, S8, 0, 0)
  else
    bd (chk S1 l0 0) fun _ =>
    gb (fX0_queue_2 l0 l1 S1) fun v3 S3 =>
    bd v3 fun a4 =>
    bd (rdR S3 a4 3 7) fun v5 =>
    bd v5 fun a7 =>
    gb (nAL_iter a7  S3) fun v6 S6 =>
    fX0_purge_b29 FU (nI 0) v6 S6
theorem wX0_purge_b0 (hk : rOK Rp) (hJ : JDK l G Rp) (hc : gC p s m args meth c G RX0 "purge" cX0_purge 4 (some .int)) (l0 : Nat) (l1 : Int32) (S : gS) (H : Heap) (locs : List Loc) (ls : Array Slot) (kc ks C N : Nat) (hkc : kc + C ≤ mc) (hks : ks + N ≤ ms) (hH : hp G Rp S H) (hS : va_S G.2.2.2 s.heap H locs) (hl : lv_has ls 4 [(0, .ref l0), (1, .int l1)]) (hf : fX0_purge l0 l1 S = some (r, Sf, C, N)) : W p l e (gR 16 561 mc ms) s m args below meth c H locs kc ks (gQ below G Rp (some (.int r)) Sf args s mc ms) (F0 m 0 ls []) := by
  obtain ⟨hx, hb, hr, hlk, hml, hown, hts, hE, hA, hnm⟩ := hc
  have hc : gC p s m args meth c G RX0 "purge" cX0_purge 4 (some .int) := ⟨hx, hb, hr, hlk, hml, hown, hts, hE, hA, hnm⟩
  unfold fX0_purge at hf
  refine lv_aload_n (pc := 0) hx hb dX0_purge_0 rfl (lv_at hl 0 rfl) ?_
  refine lv_iload_n (pc := 1) hx hb dX0_purge_1 rfl (lv_at hl 1 rfl) ?_
  obtain ⟨_, ek1, hf⟩ := bdo hf
  obtain ⟨v1, S1, c1, n1, c2_1, n2_1, e1, hf, hC1, hN1⟩ := gbo hf
  refine g_callV (pc := 2) (o := (some l0)) (b := l0) (As := [.int l1]) (rest := []) (st1 := [.int v1]) hc (mX0_isQueue hk hJ (l0 := l0) (l1 := l1) e1) (cwV 1 hts (lw_V q1214 q1216 qs17 q97 q1217) rfl rfl rfl hdX0_isQueue ⟨Nat.le_of_ble_eq_true rfl, Nat.le_of_ble_eq_true rfl⟩) (g_recv hE hk hH (ci := 0) (q := (RX0, TX0, 7)) rfl (chk_o ek1).choose_spec) rfl rfl hl.1 rfl rfl (lv_room (Nat.le_of_ble_eq_true rfl)) dX0_purge_2 hH hS (by omega) (by omega) (fun H locs hH hS => ?_)
  have hkc : kc + c1 + c2_1 ≤ mc := by omega
  have hks : ks + n1 + n2_1 ≤ ms := by omega
  refine lv_if_ne (pc := 5) (tgt := 15) hx hb dX0_purge_5 (by decide) (fun c2 => ?_) (fun c2 => ?_)
  · rw [if_neg c2] at hf
    refine lv_iconst (pc := 15) (v := nI 0) hx hb dX0_purge_15 rfl ?_
    refine lv_istore_n (pc := 16) (i := 2) (lv' := [(2, .int (nI 0)), (0, .ref l0), (1, .int l1)]) hx hb dX0_purge_16 rfl hl (by decide) rfl (fun ls hl => ?_)
    refine lv_aload_n (pc := 17) hx hb dX0_purge_17 rfl (lv_at hl 1 rfl) ?_
    refine lv_iload_n (pc := 18) hx hb dX0_purge_18 rfl (lv_at hl 2 rfl) ?_
    obtain ⟨_, ek3, hf⟩ := bdo hf
    obtain ⟨v3, S3, c3, n3, c2_3, n2_3, e3, hf, hC3, hN3⟩ := gbo hf
    refine g_callV (pc := 19) (o := (some l0)) (b := l0) (As := [.int l1]) (rest := []) (st1 := [va_rf v3]) hc (mX0_queue_2 hk hJ (l0 := l0) (l1 := l1) e3) (cwV 1 hts (lw_V q1218 q1220 qs18 q97 q1221) rfl rfl rfl hdX0_queue_2 ⟨Nat.le_of_ble_eq_true rfl, Nat.le_of_ble_eq_true rfl⟩) (g_recv hE hk hH (ci := 0) (q := (RX0, TX0, 7)) rfl (chk_o ek3).choose_spec) rfl rfl hl.1 rfl rfl (lv_room (Nat.le_of_ble_eq_true rfl)) dX0_purge_19 hH hS (by omega) (by omega) (fun H locs hH hS => ?_)
    have hkc : kc + c1 + c3 + c2_3 ≤ mc := by omega
    have hks : ks + n1 + n3 + n2_3 ≤ ms := by omega
    obtain ⟨a4, ea4, hf⟩ := bdo hf
    obtain ⟨v5, e5, hf⟩ := bdo hf
    refine g_get (pc := 22) (o := v3) (a := a4) (ci := 3) (k := 7) (v := va_rf v5) (C := RX8) (T := TX8) (N := 13) hx hb hts hown hE hk hH in_X8 rfl (by decide) (hts _ q1169) (fun _ h9 => h9) ea4 (rdR_o e5) dX0_purge_22 ?_
    obtain ⟨a7, ea7, hf⟩ := bdo hf
    obtain ⟨v6, S6, c6, n6, c2_6, n2_6, e6, hf, hC6, hN6⟩ := gbo hf
    refine g_callV (pc := 25) (o := v5) (b := a7) (As := []) (rest := []) (st1 := [va_rf v6]) hc (j_nAL_iter hJ a7  S3 v6 S6 c6 n6 e6) (cwV 0 hts (lw_V q2432 q1293 q1294 q101 q1295) rfl rfl rfl hdJ2_iterator ⟨Nat.le_of_ble_eq_true rfl, Nat.le_of_ble_eq_true rfl⟩) (j_recv hJ _ _ _ _ 0 _ _ hE hH hS (adtR (t := 0) (show bd _ _ = some _ from e6)).choose_spec) ea7 rfl hl.1 rfl rfl (lv_room (Nat.le_of_ble_eq_true rfl)) dX0_purge_25 hH hS (by omega) (by omega) (fun H locs hH hS => ?_)
    have hkc : kc + c1 + c3 + c6 + c2_6 ≤ mc := by omega
    have hks : ks + n1 + n3 + n6 + n2_6 ≤ ms := by omega
    refine g_astore_n (pc := 28) (i := 3) (o := v6) (lv' := [(3, va_rf v6), (2, .int (nI 0)), (0, .ref l0), (1, .int l1)]) hx hb dX0_purge_28 rfl hl (by decide) rfl (fun ls hl => ?_)
    exact wX0_purge_b29 hk hJ hc FU (nI 0) v6 S6 _ _ ls _ _ _ _ hkc hks hH hS (lv_sub hl [1, 0] rfl) hf
  · rw [if_pos c2] at hf
    refine lv_aload_n (pc := 8) hx hb dX0_purge_8 rfl (lv_at hl 0 rfl) ?_
    refine lv_bipush (pc := 9) (v := -82) hx hb dX0_purge_9 gkbm82 ?_
    obtain ⟨_, ek8, hf⟩ := bdo hf
    obtain ⟨v8, S8, c8, n8, c2_8, n2_8, e8, hf, hC8, hN8⟩ := gbo hf
    refine g_callV (pc := 11) (o := (some l0)) (b := l0) (As := [.int (-82)]) (rest := []) (st1 := [.int v8]) hc (mX0_no hk hJ (l0 := l0) (l1 := (-82)) e8) (cwV 1 hts (lw_V q398 q400 qs2 q97 q401) rfl rfl rfl hdX0_no ⟨Nat.le_of_ble_eq_true rfl, Nat.le_of_ble_eq_true rfl⟩) (g_recv hE hk hH (ci := 0) (q := (RX0, TX0, 7)) rfl (chk_o ek8).choose_spec) rfl rfl hl.1 rfl rfl (lv_room (Nat.le_of_ble_eq_true rfl)) dX0_purge_11 hH hS (by omega) (by omega) (fun H locs hH hS => ?_)
    have hkc : kc + c1 + c8 + c2_8 ≤ mc := by omega
    have hks : ks + n1 + n8 + n2_8 ≤ ms := by omega
    exact g_iret (pc := 14) hx hb hr hlk hH hS hkc hks hf dX0_purge_14
theorem mX0_purge {l : Launch} {G : gG} {Rp : gM → gM → Nat → Prop} (hk : rOK Rp) (hJ : JDK l G Rp) {S S2 : gS} {r2 : Int32} {C N : Nat} {l0 : Nat} {l1 : Int32} (hf : fX0_purge l0 l1 S = some (r2, S2, C, N)) : gMet l yX0_purge cX0_purge 4 (some .int) 16 561 G Rp [.ref l0, .int l1] S (some (.int r2)) S2 C N := by
  refine g_start (by decide) (Nat.le_of_ble_eq_true rfl) (fun p e s m args below meth c ls hc hl hH => ?_)
  have hl : lv_has ls 4 [(0, .ref l0), (1, .int l1)] := hl
  exact wX0_purge_b0 hk hJ hc l0 l1 S _ _ ls 0 0 C N (by omega) (by omega) hH va_S.rf (lv_sub hl [0, 1] rfl) hf
end
section
variable {P : Unit ⊕ gTh → gS → Prop}
def fX0_puts (l0 : Option Nat) (l1 : Int32) (l2 : Int64) (S : gS) : gX Unit :=
  gb (fX0_sortOf l0 S) fun v1 S1 =>
  if v1 = 0 then
    bd (ckA S1 l0 2) fun _ =>
    bd l0 fun a4 =>
    bd (lenX S1 a4 2) fun n5 =>
    if l1 < 0 ∨ n5 ≤ l1.toNatClampNeg then some (.inr ("java/lang/ArrayIndexOutOfBoundsException", none), S1, 3, 1010) else
    bd (wrAn S1 a4 2 l1 l2.toInt32.toInt8.toInt32) fun S6 =>
    some (.inl (), S6, 0, 0)
  else if v1 = 1 then
    bd (ckA S1 l0 3) fun _ =>
    bd l0 fun a8 =>
    bd (lenX S1 a8 3) fun n9 =>
    if l1 < 0 ∨ n9 ≤ l1.toNatClampNeg then some (.inr ("java/lang/ArrayIndexOutOfBoundsException", none), S1, 3, 1010) else
    bd (wrAn S1 a8 3 l1 l2.toInt32.toInt16.toInt32) fun S10 =>
    some (.inl (), S10, 0, 0)
  else if v1 = 2 then
    bd (ckA S1 l0 0) fun _ =>
    bd l0 fun a12 =>
    bd (lenX S1 a12 0) fun n13 =>
    if l1 < 0 ∨ n13 ≤ l1.toNatClampNeg then some (.inr ("java/lang/ArrayIndexOutOfBoundsException", none), S1, 3, 1010) else
    bd (wrAi S1 a12 l1 l2.toInt32) fun S14 =>
    some (.inl (), S14, 0, 0)
  else if v1 = 3 then
    bd (ckA S1 l0 1) fun _ =>
    bd l0 fun a16 =>
    bd (lenX S1 a16 1) fun n17 =>
    if l1 < 0 ∨ n17 ≤ l1.toNatClampNeg then some (.inr ("java/lang/ArrayIndexOutOfBoundsException", none), S1, 3, 1010) else
    bd (wrAl S1 a16 l1 l2) fun S18 =>
    some (.inl (), S18, 0, 0)
  else
    bd (ckA S1 l0 4) fun _ =>
    if (lg_cmp l2 (lN 0)) = 0 then
      bd l0 fun a21 =>
      bd (lenX S1 a21 4) fun n22 =>
      if l1 < 0 ∨ n22 ≤ l1.toNatClampNeg then some (.inr ("java/lang/ArrayIndexOutOfBoundsException", none), S1, 3, 1010) else
      bd (wrAz S1 a21 l1 (nI 0)) fun S23 =>
      some (.inl (), S23, 0, 0)
    else
      bd l0 fun a24 =>
      bd (lenX S1 a24 4) fun n25 =>
      if l1 < 0 ∨ n25 ≤ l1.toNatClampNeg then some (.inr ("java/lang/ArrayIndexOutOfBoundsException", none), S1, 3, 1010) else
      bd (wrAz S1 a24 l1 (nI 1)) fun S26 =>
      some (.inl (), S26, 0, 0)
theorem wX0_puts_b0 (hk : rOK Rp) (hJ : JDK l G Rp) (hst : l.stackTraces = false) (htb : c.exceptionTable.toList = []) (hc : gC p s m args meth c G RX0 "puts" cX0_puts 4 (none)) (l0 : Option Nat) (l1 : Int32) (l2 : Int64) (S : gS) (H : Heap) (locs : List Loc) (ls : Array Slot) (kc ks C N : Nat) (hkc : kc + C ≤ mc) (hks : ks + N ≤ ms) (hH : hp G Rp S H) (hS : va_S G.2.2.2 s.heap H locs) (hl : lv_has ls 4 [(0, va_rf l0), (1, .int l1), (2, .long l2)]) (hf : (∀ j : Nat, oky C N (fX0_puts l0 l1 l2 S) P)) : W p l e (gR 12 10500 mc ms) s m args below meth c H locs kc ks (gQJ below G Rp iV P args s mc ms) (F0 m 0 ls []) := by
  obtain ⟨hx, hb, hr, hlk, hml, hown, hts, hE, hA, hnm⟩ := hc
  have hc : gC p s m args meth c G RX0 "puts" cX0_puts 4 (none) := ⟨hx, hb, hr, hlk, hml, hown, hts, hE, hA, hnm⟩
  simp only [fX0_puts] at hf
  refine g_aload_n (pc := 0) (o := l0) hx hb dX0_puts_0 rfl (lv_at hl 0 rfl) ?_
  obtain ⟨v1, S1, c1, n1, c2_1, n2_1, e1, hf, hC1, hN1⟩ := gbJ hf
  refine g_callS (pc := 1) (As := [va_rf l0]) (rest := []) (st1 := [.int v1]) hc (mX0_sortOf hk hJ (l0 := l0) e1) (va_cwS 1 hts (lw_S q466 q467 q97 q468) rfl rfl rfl hdX0_sortOf ⟨Nat.le_of_ble_eq_true rfl, Nat.le_of_ble_eq_true rfl⟩) rfl hl.1 rfl rfl (lv_room (Nat.le_of_ble_eq_true rfl)) dX0_puts_1 hH hS (by omega) (by omega) (fun H locs hH hS => ?_)
  have hkc : kc + c1 + c2_1 ≤ mc := by omega
  have hks : ks + n1 + n2_1 ≤ ms := by omega
  by_cases c2_0 : v1 = 0
  · simp only [if_pos c2_0] at hf
    refine lv_tableIn (pc := 4) (off := 32) (tgt := 36) hx hb dX0_puts_4 (by rw [c2_0]; decide) (by rw [c2_0]; decide) (by rw [c2_0]; rfl) (by decide) ?_
    refine g_aload_n (pc := 36) (o := l0) hx hb dX0_puts_36 rfl (lv_at hl 0 rfl) ?_
    obtain ⟨_, e3, hf⟩ := bdJ hf
    refine g_castA (pc := 37) (o := l0) (t := 2) hx hb hts hown hE hk hH q469 e3 dX0_puts_37 ?_
    refine lv_iload_n (pc := 40) hx hb dX0_puts_40 rfl (lv_at hl 1 rfl) ?_
    refine lv_lload_n (pc := 41) hx hb dX0_puts_41 rfl (lv_at hl 2 rfl) ?_
    refine lv_l2i (pc := 42) hx hb dX0_puts_42 rfl ?_
    refine lv_i2b (pc := 43) hx hb dX0_puts_43 rfl ?_
    obtain ⟨a4, ea4, hf⟩ := bdJ hf
    obtain ⟨n5, e5, hf⟩ := bdJ hf
    by_cases c5 : (l1 < 0 ∨ n5 ≤ l1.toNatClampNeg)
    · simp only [if_pos c5] at hf
      obtain ⟨h9, h8⟩ := okc hf
      exact g_bastX (pc := 44) (o := l0) (a := a4) hx hb hE hk hH ea4 e5 c5 dX0_puts_44 (g_vmA (lenX_n e5) hc hst hk hl.1 (by decide) (by simp [va_rf_cat, cat_i, cat_j, cat_r]) (by omega) (by omega) hH hS (fun H q9 ce n9 hn9 hH hS h1 h2 h3 => g_outJ (E := "java/lang/ArrayIndexOutOfBoundsException") (x := none) (by rw [htb]; decide) hlk ⟨n9, hn9, hH⟩ hS (by omega) (by omega) h1 h2 h3 hf))
    · simp only [if_neg c5] at hf
      obtain ⟨S6, e6, hf⟩ := bdJ hf
      refine g_bast (pc := 44) (o := l0) (a := a4) hx hb hE hk hH hS ea4 e6 dX0_puts_44 (fun H locs hH hS => ?_)
      refine lv_goto (pc := 45) (tgt := 98) hx hb dX0_puts_45 (by decide) ?_
      exact g_vretJ (pc := 98) hx hb hr hlk hH hS hkc hks hf dX0_puts_98
  · simp only [if_neg c2_0] at hf
    by_cases c2_1 : v1 = 1
    · simp only [if_pos c2_1] at hf
      refine lv_tableIn (pc := 4) (off := 44) (tgt := 48) hx hb dX0_puts_4 (by rw [c2_1]; decide) (by rw [c2_1]; decide) (by rw [c2_1]; rfl) (by decide) ?_
      refine g_aload_n (pc := 48) (o := l0) hx hb dX0_puts_48 rfl (lv_at hl 0 rfl) ?_
      obtain ⟨_, e7, hf⟩ := bdJ hf
      refine g_castA (pc := 49) (o := l0) (t := 3) hx hb hts hown hE hk hH q470 e7 dX0_puts_49 ?_
      refine lv_iload_n (pc := 52) hx hb dX0_puts_52 rfl (lv_at hl 1 rfl) ?_
      refine lv_lload_n (pc := 53) hx hb dX0_puts_53 rfl (lv_at hl 2 rfl) ?_
      refine lv_l2i (pc := 54) hx hb dX0_puts_54 rfl ?_
      refine lv_i2s (pc := 55) hx hb dX0_puts_55 rfl ?_
      obtain ⟨a8, ea8, hf⟩ := bdJ hf
      obtain ⟨n9, e9, hf⟩ := bdJ hf
      by_cases c9 : (l1 < 0 ∨ n9 ≤ l1.toNatClampNeg)
      · simp only [if_pos c9] at hf
        obtain ⟨h9, h8⟩ := okc hf
        exact g_sastX (pc := 56) (o := l0) (a := a8) hx hb hE hk hH ea8 e9 c9 dX0_puts_56 (g_vmA (lenX_n e9) hc hst hk hl.1 (by decide) (by simp [va_rf_cat, cat_i, cat_j, cat_r]) (by omega) (by omega) hH hS (fun H q9 ce n9 hn9 hH hS h1 h2 h3 => g_outJ (E := "java/lang/ArrayIndexOutOfBoundsException") (x := none) (by rw [htb]; decide) hlk ⟨n9, hn9, hH⟩ hS (by omega) (by omega) h1 h2 h3 hf))
      · simp only [if_neg c9] at hf
        obtain ⟨S10, e10, hf⟩ := bdJ hf
        refine g_sast (pc := 56) (o := l0) (a := a8) hx hb hE hk hH hS ea8 e10 dX0_puts_56 (fun H locs hH hS => ?_)
        refine lv_goto (pc := 57) (tgt := 98) hx hb dX0_puts_57 (by decide) ?_
        exact g_vretJ (pc := 98) hx hb hr hlk hH hS hkc hks hf dX0_puts_98
    · simp only [if_neg c2_1] at hf
      by_cases c2_2 : v1 = 2
      · simp only [if_pos c2_2] at hf
        refine lv_tableIn (pc := 4) (off := 56) (tgt := 60) hx hb dX0_puts_4 (by rw [c2_2]; decide) (by rw [c2_2]; decide) (by rw [c2_2]; rfl) (by decide) ?_
        refine g_aload_n (pc := 60) (o := l0) hx hb dX0_puts_60 rfl (lv_at hl 0 rfl) ?_
        obtain ⟨_, e11, hf⟩ := bdJ hf
        refine g_castA (pc := 61) (o := l0) (t := 0) hx hb hts hown hE hk hH q471 e11 dX0_puts_61 ?_
        refine lv_iload_n (pc := 64) hx hb dX0_puts_64 rfl (lv_at hl 1 rfl) ?_
        refine lv_lload_n (pc := 65) hx hb dX0_puts_65 rfl (lv_at hl 2 rfl) ?_
        refine lv_l2i (pc := 66) hx hb dX0_puts_66 rfl ?_
        obtain ⟨a12, ea12, hf⟩ := bdJ hf
        obtain ⟨n13, e13, hf⟩ := bdJ hf
        by_cases c13 : (l1 < 0 ∨ n13 ≤ l1.toNatClampNeg)
        · simp only [if_pos c13] at hf
          obtain ⟨h9, h8⟩ := okc hf
          exact g_iastX (pc := 67) (o := l0) (a := a12) hx hb hE hk hH ea12 e13 c13 dX0_puts_67 (g_vmA (lenX_n e13) hc hst hk hl.1 (by decide) (by simp [va_rf_cat, cat_i, cat_j, cat_r]) (by omega) (by omega) hH hS (fun H q9 ce n9 hn9 hH hS h1 h2 h3 => g_outJ (E := "java/lang/ArrayIndexOutOfBoundsException") (x := none) (by rw [htb]; decide) hlk ⟨n9, hn9, hH⟩ hS (by omega) (by omega) h1 h2 h3 hf))
        · simp only [if_neg c13] at hf
          obtain ⟨S14, e14, hf⟩ := bdJ hf
          refine g_iast (pc := 67) (o := l0) (a := a12) hx hb hE hk hH hS ea12 e14 dX0_puts_67 (fun H locs hH hS => ?_)
          refine lv_goto (pc := 68) (tgt := 98) hx hb dX0_puts_68 (by decide) ?_
          exact g_vretJ (pc := 98) hx hb hr hlk hH hS hkc hks hf dX0_puts_98
      · simp only [if_neg c2_2] at hf
        by_cases c2_3 : v1 = 3
        · simp only [if_pos c2_3] at hf
          refine lv_tableIn (pc := 4) (off := 67) (tgt := 71) hx hb dX0_puts_4 (by rw [c2_3]; decide) (by rw [c2_3]; decide) (by rw [c2_3]; rfl) (by decide) ?_
          refine g_aload_n (pc := 71) (o := l0) hx hb dX0_puts_71 rfl (lv_at hl 0 rfl) ?_
          obtain ⟨_, e15, hf⟩ := bdJ hf
          refine g_castA (pc := 72) (o := l0) (t := 1) hx hb hts hown hE hk hH q472 e15 dX0_puts_72 ?_
          refine lv_iload_n (pc := 75) hx hb dX0_puts_75 rfl (lv_at hl 1 rfl) ?_
          refine lv_lload_n (pc := 76) hx hb dX0_puts_76 rfl (lv_at hl 2 rfl) ?_
          obtain ⟨a16, ea16, hf⟩ := bdJ hf
          obtain ⟨n17, e17, hf⟩ := bdJ hf
          by_cases c17 : (l1 < 0 ∨ n17 ≤ l1.toNatClampNeg)
          · simp only [if_pos c17] at hf
            obtain ⟨h9, h8⟩ := okc hf
            exact g_lastX (pc := 77) (o := l0) (a := a16) hx hb hE hk hH ea16 e17 c17 dX0_puts_77 (g_vmA (lenX_n e17) hc hst hk hl.1 (by decide) (by simp [va_rf_cat, cat_i, cat_j, cat_r]) (by omega) (by omega) hH hS (fun H q9 ce n9 hn9 hH hS h1 h2 h3 => g_outJ (E := "java/lang/ArrayIndexOutOfBoundsException") (x := none) (by rw [htb]; decide) hlk ⟨n9, hn9, hH⟩ hS (by omega) (by omega) h1 h2 h3 hf))
          · simp only [if_neg c17] at hf
            obtain ⟨S18, e18, hf⟩ := bdJ hf
            refine g_last (pc := 77) (o := l0) (a := a16) hx hb hE hk hH hS ea16 e18 dX0_puts_77 (fun H locs hH hS => ?_)
            refine lv_goto (pc := 78) (tgt := 98) hx hb dX0_puts_78 (by decide) ?_
            exact g_vretJ (pc := 98) hx hb hr hlk hH hS hkc hks hf dX0_puts_98
        · simp only [if_neg c2_3] at hf
          refine lv_tableOut (pc := 4) (tgt := 81) hx hb dX0_puts_4 (tsw3 c2_0 c2_1 c2_2 c2_3) (by decide) ?_
          refine g_aload_n (pc := 81) (o := l0) hx hb dX0_puts_81 rfl (lv_at hl 0 rfl) ?_
          obtain ⟨_, e19, hf⟩ := bdJ hf
          refine g_castA (pc := 82) (o := l0) (t := 4) hx hb hts hown hE hk hH q473 e19 dX0_puts_82 ?_
          refine lv_iload_n (pc := 85) hx hb dX0_puts_85 rfl (lv_at hl 1 rfl) ?_
          refine lv_lload_n (pc := 86) hx hb dX0_puts_86 rfl (lv_at hl 2 rfl) ?_
          refine lv_lconst (pc := 87) (v := lN 0) hx hb dX0_puts_87 rfl ?_
          refine W.lcmp (pc := 88) hx hb dX0_puts_88 ?_
          refine lv_if_eq (pc := 89) (tgt := 96) hx hb dX0_puts_89 (by decide) (fun c20 => ?_) (fun c20 => ?_)
          · simp only [if_pos c20] at hf
            refine lv_iconst (pc := 96) (v := nI 0) hx hb dX0_puts_96 rfl ?_
            obtain ⟨a21, ea21, hf⟩ := bdJ hf
            obtain ⟨n22, e22, hf⟩ := bdJ hf
            by_cases c22 : (l1 < 0 ∨ n22 ≤ l1.toNatClampNeg)
            · simp only [if_pos c22] at hf
              obtain ⟨h9, h8⟩ := okc hf
              exact g_zastX (pc := 97) (o := l0) (a := a21) hx hb hE hk hH ea21 e22 c22 dX0_puts_97 (g_vmA (lenX_n e22) hc hst hk hl.1 (by decide) (by simp [va_rf_cat, cat_i, cat_j, cat_r]) (by omega) (by omega) hH hS (fun H q9 ce n9 hn9 hH hS h1 h2 h3 => g_outJ (E := "java/lang/ArrayIndexOutOfBoundsException") (x := none) (by rw [htb]; decide) hlk ⟨n9, hn9, hH⟩ hS (by omega) (by omega) h1 h2 h3 hf))
            · simp only [if_neg c22] at hf
              obtain ⟨S23, e23, hf⟩ := bdJ hf
              refine g_zast (pc := 97) (o := l0) (a := a21) hx hb hE hk hH hS ea21 e23 dX0_puts_97 (fun H locs hH hS => ?_)
              exact g_vretJ (pc := 98) hx hb hr hlk hH hS hkc hks hf dX0_puts_98
          · simp only [if_neg c20] at hf
            refine lv_iconst (pc := 92) (v := nI 1) hx hb dX0_puts_92 rfl ?_
            refine lv_goto (pc := 93) (tgt := 97) hx hb dX0_puts_93 (by decide) ?_
            obtain ⟨a24, ea24, hf⟩ := bdJ hf
            obtain ⟨n25, e25, hf⟩ := bdJ hf
            by_cases c25 : (l1 < 0 ∨ n25 ≤ l1.toNatClampNeg)
            · simp only [if_pos c25] at hf
              obtain ⟨h9, h8⟩ := okc hf
              exact g_zastX (pc := 97) (o := l0) (a := a24) hx hb hE hk hH ea24 e25 c25 dX0_puts_97 (g_vmA (lenX_n e25) hc hst hk hl.1 (by decide) (by simp [va_rf_cat, cat_i, cat_j, cat_r]) (by omega) (by omega) hH hS (fun H q9 ce n9 hn9 hH hS h1 h2 h3 => g_outJ (E := "java/lang/ArrayIndexOutOfBoundsException") (x := none) (by rw [htb]; decide) hlk ⟨n9, hn9, hH⟩ hS (by omega) (by omega) h1 h2 h3 hf))
            · simp only [if_neg c25] at hf
              obtain ⟨S26, e26, hf⟩ := bdJ hf
              refine g_zast (pc := 97) (o := l0) (a := a24) hx hb hE hk hH hS ea24 e26 dX0_puts_97 (fun H locs hH hS => ?_)
              exact g_vretJ (pc := 98) hx hb hr hlk hH hS hkc hks hf dX0_puts_98
theorem mX0_puts {l : Launch} {G : gG} {Rp : gM → gM → Nat → Prop} (hk : rOK Rp) (hJ : JDK l G Rp) (hst : l.stackTraces = false) {S : gS} {C N : Nat} {l0 : Option Nat} {l1 : Int32} {l2 : Int64} {S2 : gS} {r2 : Unit ⊕ gTh} (hf : fX0_puts l0 l1 l2 S = some (r2, S2, C, N)) : gMetJ l yX0_puts (ws_ yX0_puts cX0_puts 4 (none)) 12 10500 G Rp [va_rf l0, .int l1, .long l2] S iV (fun r S9 => r2 = r ∧ S2 = S9) C N := by
  refine g_startJ (by decide) (by simp [lg_sl, va_rf_cat, cat_i, cat_j, cat_r]) (fun p e s m args below meth c ls hc htb hl hH => ?_)
  have hl : lv_has ls 4 [(0, va_rf l0), (1, .int l1), (2, .long l2)] := by simpa [lv_args, va_rf_cat, cat_i, cat_j, cat_r] using hl
  exact wX0_puts_b0 hk hJ hst htb hc l0 l1 l2 S _ _ ls 0 0 C N (by omega) (by omega) hH va_S.rf (lv_sub hl [0, 1, 2] rfl) (fun _ => ⟨_, _, _, _, hf, Nat.le_refl _, Nat.le_refl _, rfl, rfl⟩)
end
section
variable {r : Unit} {Sf : gS}
def fX5_init (l0 : Nat) (l1 : Option Nat) (S : gS) : gO Unit :=
  bd (wr S l0 9 1 (va_rf l1)) fun S1 =>
  some ((), S1, 0, 0)
theorem wX5_init_b0 (hk : rOK Rp) (hJ : JDK l G Rp) (hc : gC p s m args meth c G RX5 "<init>" cX5_init 2 (none)) (l0 : Nat) (l1 : Option Nat) (S : gS) (H : Heap) (locs : List Loc) (ls : Array Slot) (kc ks C N : Nat) (hkc : kc + C ≤ mc) (hks : ks + N ≤ ms) (hH : hp G Rp S H) (hS : va_S G.2.2.2 s.heap H locs) (hl : lv_has ls 2 [(0, .ref l0), (1, va_rf l1)]) (hf : fX5_init l0 l1 S = some (r, Sf, C, N)) : W p l e (gR 1 40 mc ms) s m args below meth c H locs kc ks (gQ below G Rp none Sf args s mc ms) (F0 m 0 ls []) := by
  obtain ⟨hx, hb, hr, hlk, hml, hown, hts, hE, hA, hnm⟩ := hc
  have hc : gC p s m args meth c G RX5 "<init>" cX5_init 2 (none) := ⟨hx, hb, hr, hlk, hml, hown, hts, hE, hA, hnm⟩
  unfold fX5_init at hf
  refine lv_aload_n (pc := 0) hx hb dX5_init_0 rfl (lv_at hl 0 rfl) ?_
  refine g_aload_n (pc := 1) (o := l1) hx hb dX5_init_1 rfl (lv_at hl 1 rfl) ?_
  obtain ⟨S1, e1, hf⟩ := bdo hf
  refine g_putF (pc := 2) (o := (some l0)) (a := l0) (ci := 9) (k := 1) (v := va_rf l1) (C := RX5) (T := TX5) (N := 2) (ty := .object "CreditBroker") hx hb hts hown hE hk hH hS rfl in_X5 tyX5_ok nmX5 rfl (by decide) (hts _ q935) (fun _ h9 => h9) rfl hnm rfl rfl (nar_rf _ _) (fit_rf _ _) rfl e1 dX5_init_2 (fun H locs hH hS => ?_)
  refine lv_aload_n (pc := 5) hx hb dX5_init_5 rfl (lv_at hl 0 rfl) ?_
  refine W.objInit  hx hb hown (hts _ q933) (hts _ q169) (hts _ q170) rfl (by rw [hml]; exact hl.1) rfl dX5_init_6 (Nat.le_of_ble_eq_true rfl) (Nat.le_of_ble_eq_true rfl) ?_
  refine W.eq (g2 := F0 m 9 ls []) rfl ?_
  exact g_vret (pc := 9) hx hb hr hlk hH hS hkc hks hf dX5_init_9
theorem mX5_init {l : Launch} {G : gG} {Rp : gM → gM → Nat → Prop} (hk : rOK Rp) (hJ : JDK l G Rp) {S S2 : gS} {r2 : Unit} {C N : Nat} {l0 : Nat} {l1 : Option Nat} (hf : fX5_init l0 l1 S = some (r2, S2, C, N)) : gMet l yX5_init cX5_init 2 (none) 1 40 G Rp [.ref l0, va_rf l1] S none S2 C N := by
  refine g_start (by decide) (by simp [lg_sl, va_rf_cat, cat_i, cat_j, cat_r]) (fun p e s m args below meth c ls hc hl hH => ?_)
  have hl : lv_has ls 2 [(0, .ref l0), (1, va_rf l1)] := by simpa [lv_args, va_rf_cat, cat_i, cat_j, cat_r] using hl
  exact wX5_init_b0 hk hJ hc l0 l1 S _ _ ls 0 0 C N (by omega) (by omega) hH va_S.rf (lv_sub hl [0, 1] rfl) hf
end
section
variable {r : Option Nat} {Sf : gS}
def fX5_text_b10 (G : gG) : Nat → Nat → Nat → Int32 → gS → gO (Option Nat)
  | 0, _, _, _, _ => none
  | n + 1, l0, l1, l2, S =>
    bd (rdR S l0 9 1) fun v1 =>
    bd v1 fun a2 =>
    bd (rdI S a2 0 5) fun v3 =>
    if v3 ≤ l2 then
      gb (nSB_str G l1  S) fun v5 S5 =>
      some (v5, S5, 0, 0)
    else
      bd (rdR S l0 9 1) fun v6 =>
      bd v6 fun a7 =>
      bd (rdR S a7 0 4) fun v8 =>
      bd v8 fun a10 =>
      bd (rdAi S a10 0 l2) fun v11 =>
      gb (nSB_addC l1 ((v11.toUInt32 % 65536).toInt32) S) fun v12 S12 =>
      fX5_text_b10 G n l0 l1 (l2 + (nI 1)) S12
theorem wX5_text_b10 (hk : rOK Rp) (hJ : JDK l G Rp) (hc : gC p s m args meth c G RX5 "text" cX5_text 3 (some (.object "java/lang/String"))) : ∀ (n : Nat) (l0 : Nat) (l1 : Nat) (l2 : Int32) (S : gS) (H : Heap) (locs : List Loc) (ls : Array Slot) (kc ks C N : Nat), kc + C ≤ mc → ks + N ≤ ms → hp G Rp S H → va_S G.2.2.2 s.heap H locs → lv_has ls 3 [(0, .ref l0), (1, .ref l1), (2, .int l2)] → fX5_text_b10 G n l0 l1 l2 S = some (r, Sf, C, N) → W p l e (gR 15 540 mc ms) s m args below meth c H locs kc ks (gQ below G Rp (some (va_rf r)) Sf args s mc ms) (F0 m 10 ls []) := by
  obtain ⟨hx, hb, hr, hlk, hml, hown, hts, hE, hA, hnm⟩ := hc
  have hc : gC p s m args meth c G RX5 "text" cX5_text 3 (some (.object "java/lang/String")) := ⟨hx, hb, hr, hlk, hml, hown, hts, hE, hA, hnm⟩
  intro n
  induction n with
  | zero => intro l0 l1 l2 S H locs ls kc ks C N _ _ _ _ _ hf; exact absurd hf (fun h => by cases h)
  | succ n ih =>
    intro l0 l1 l2 S H locs ls kc ks C N hkc hks hH hS hl hf
    rw [fX5_text_b10] at hf
    refine lv_iload_n (pc := 10) hx hb dX5_text_10 rfl (lv_at hl 2 rfl) ?_
    refine lv_aload_n (pc := 11) hx hb dX5_text_11 rfl (lv_at hl 0 rfl) ?_
    obtain ⟨v1, e1, hf⟩ := bdo hf
    refine g_get (pc := 12) (o := (some l0)) (a := l0) (ci := 9) (k := 1) (v := va_rf v1) (C := RX5) (T := TX5) (N := 2) hx hb hts hown hE hk hH in_X5 rfl (by decide) (hts _ q935) (fun _ h9 => h9) rfl (rdR_o e1) dX5_text_12 ?_
    obtain ⟨a2, ea2, hf⟩ := bdo hf
    obtain ⟨v3, e3, hf⟩ := bdo hf
    refine g_getN (pc := 15) (o := v1) (a := a2) (ci := 0) (k := 5) (v := .int v3) (C := RX0) (T := TX0) (N := 7) hx hb hts hown hE hk hH in_X0 rfl (by decide) (va_Nw.use rfl (hE.2.1.2.2.1 _ _ _ _ _ _ q278)) (fun _ h9 => h9) ea2 (rdI_o e3) dX5_text_15 ?_
    refine lv_icmp_ge (pc := 18) (tgt := 42) hx hb dX5_text_18 (by decide) (fun c4 => ?_) (fun c4 => ?_)
    · rw [if_pos c4] at hf
      refine lv_aload_n (pc := 42) hx hb dX5_text_42 rfl (lv_at hl 1 rfl) ?_
      obtain ⟨v5, S5, c5, n5, c2_5, n2_5, e5, hf, hC5, hN5⟩ := gbo hf
      refine g_callV (pc := 43) (o := (some l1)) (b := l1) (As := []) (rest := []) (st1 := [va_rf v5]) hc (j_nSB_str hJ l1  S v5 S5 c5 n5 e5) (cwV 0 hts (lw_V q975 q787 q788 q118 q789) rfl rfl rfl hdJ15_toString ⟨Nat.le_of_ble_eq_true rfl, Nat.le_of_ble_eq_true rfl⟩) (j_recv hJ _ _ _ _ 4 _ _ hE hH hS (adtR (t := 4) (show bd _ _ = some _ from e5)).choose_spec) rfl rfl hl.1 rfl rfl (lv_room (Nat.le_of_ble_eq_true rfl)) dX5_text_43 hH hS (by omega) (by omega) (fun H locs hH hS => ?_)
      have hkc : kc + c5 + c2_5 ≤ mc := by omega
      have hks : ks + n5 + n2_5 ≤ ms := by omega
      exact g_aret (pc := 46) (v := v5) hx hb hr (Or.inl ⟨_, rfl⟩) hlk hH hS hkc hks hf dX5_text_46
    · rw [if_neg c4] at hf
      refine lv_aload_n (pc := 21) hx hb dX5_text_21 rfl (lv_at hl 1 rfl) ?_
      refine lv_aload_n (pc := 22) hx hb dX5_text_22 rfl (lv_at hl 0 rfl) ?_
      obtain ⟨v6, e6, hf⟩ := bdo hf
      refine g_get (pc := 23) (o := (some l0)) (a := l0) (ci := 9) (k := 1) (v := va_rf v6) (C := RX5) (T := TX5) (N := 2) hx hb hts hown hE hk hH in_X5 rfl (by decide) (hts _ q935) (fun _ h9 => h9) rfl (rdR_o e6) dX5_text_23 ?_
      obtain ⟨a7, ea7, hf⟩ := bdo hf
      obtain ⟨v8, e8, hf⟩ := bdo hf
      refine g_getN (pc := 26) (o := v6) (a := a7) (ci := 0) (k := 4) (v := va_rf v8) (C := RX0) (T := TX0) (N := 7) hx hb hts hown hE hk hH in_X0 rfl (by decide) (va_Nw.use rfl (hE.2.1.2.2.1 _ _ _ _ _ _ q276)) (fun _ h9 => h9) ea7 (rdR_o e8) dX5_text_26 ?_
      refine lv_iload_n (pc := 29) hx hb dX5_text_29 rfl (lv_at hl 2 rfl) ?_
      obtain ⟨a10, ea10, hf⟩ := bdo hf
      obtain ⟨v11, e11, hf⟩ := bdo hf
      refine g_iald (pc := 30) (o := v8) (a := a10) hx hb hE hk hH ea10 e11 dX5_text_30 ?_
      refine lv_i2c (pc := 31) hx hb dX5_text_31 rfl ?_
      obtain ⟨v12, S12, c12, n12, c2_12, n2_12, e12, hf, hC12, hN12⟩ := gbo hf
      refine g_callV (pc := 32) (o := (some l1)) (b := l1) (As := [.int ((v11.toUInt32 % 65536).toInt32)]) (rest := []) (st1 := [va_rf v12]) hc (j_nSB_addC hJ l1 ((v11.toUInt32 % 65536).toInt32) S v12 S12 c12 n12 e12) (cwV 1 hts (lw_V q953 q954 q955 q118 q956) rfl rfl rfl hdJ15_append_3 ⟨Nat.le_of_ble_eq_true rfl, Nat.le_of_ble_eq_true rfl⟩) (j_recv hJ _ _ _ _ 4 _ _ hE hH hS (adtR (t := 4) (show bd _ _ = some _ from e12)).choose_spec) rfl rfl hl.1 rfl rfl (lv_room (Nat.le_of_ble_eq_true rfl)) dX5_text_32 hH hS (by omega) (by omega) (fun H locs hH hS => ?_)
      have hkc : kc + c12 + c2_12 ≤ mc := by omega
      have hks : ks + n12 + n2_12 ≤ ms := by omega
      refine lv_pop (pc := 35) hx hb dX5_text_35 (va_rf_cat _) ?_
      refine lv_iinc (pc := 36) (v := l2 + (nI 1)) (lv' := [(2, .int (l2 + (nI 1))), (0, .ref l0), (1, .ref l1)]) hx hb dX5_text_36 hl (k := 2) rfl rfl (by decide) rfl (fun ls hl => ?_)
      refine lv_goto (pc := 39) (tgt := 10) hx hb dX5_text_39 (by decide) ?_
      exact ih l0 l1 (l2 + (nI 1)) S12 _ _ ls _ _ _ _ hkc hks hH hS (lv_sub hl [1, 2, 0] rfl) hf
def fX5_text (G : gG) (l0 : Nat) (S : gS) : gO (Option Nat) :=
  nw S (cO 19 [.null, .int 0, .int 0, .int 0]) 4 fun S1 =>
  gb (nSB_init S.2  S1) fun _ S2 =>
  fX5_text_b10 G FU l0 S.2 (nI 0) S2
theorem wX5_text_b0 (hk : rOK Rp) (hJ : JDK l G Rp) (hc : gC p s m args meth c G RX5 "text" cX5_text 3 (some (.object "java/lang/String"))) (l0 : Nat) (S : gS) (H : Heap) (locs : List Loc) (ls : Array Slot) (kc ks C N : Nat) (hkc : kc + C ≤ mc) (hks : ks + N ≤ ms) (hH : hp G Rp S H) (hS : va_S G.2.2.2 s.heap H locs) (hl : lv_has ls 3 [(0, .ref l0)]) (hf : fX5_text G l0 S = some (r, Sf, C, N)) : W p l e (gR 15 540 mc ms) s m args below meth c H locs kc ks (gQ below G Rp (some (va_rf r)) Sf args s mc ms) (F0 m 0 ls []) := by
  obtain ⟨hx, hb, hr, hlk, hml, hown, hts, hE, hA, hnm⟩ := hc
  have hc : gC p s m args meth c G RX5 "text" cX5_text 3 (some (.object "java/lang/String")) := ⟨hx, hb, hr, hlk, hml, hown, hts, hE, hA, hnm⟩
  unfold fX5_text at hf
  obtain ⟨S1, c2_1, n2_1, eS1, hf, hC1, hN1⟩ := nwo hf
  refine g_newo (pc := 0) (ci := 19) (C := RJ15) (T := TJ15) (N := 4) (fs := [.null, .int 0, .int 0, .int 0]) hx hb hts hown hE hA hk hH hS in_J15 tyJ15_ok q951 q606 q118 rfl (fun j hj => by rcases (show j = 0 ∨ j = 1 ∨ j = 2 ∨ j = 3 by omega) with rfl | rfl | rfl | rfl <;> rfl) eS1 (Nat.le_trans (by omega) hkc) (Nat.le_trans (by omega) hks) dX5_text_0 (fun H hH hS => ?_)
  have hkc : kc + 1 + c2_1 ≤ mc := by omega
  have hks : ks + 4 + n2_1 ≤ ms := by omega
  refine lv_dup (pc := 3) hx hb dX5_text_3 rfl ?_
  obtain ⟨_, S2, c2, n2, c2_2, n2_2, e2, hf, hC2, hN2⟩ := gbo hf
  refine g_callI (pc := 4) (o := (some S.2)) (b := S.2) (As := []) (rest := [.ref S.2]) hc (j_nSB_init hJ S.2  S1 () S2 c2 n2 e2) (cwI 0 hts (lw_meth q609) rfl rfl rfl (hts _ q118) (hts _ q952) (hts _ q608) rfl hdiJ15_init ⟨Nat.le_of_ble_eq_true rfl, Nat.le_of_ble_eq_true rfl⟩) rfl rfl hl.1 rfl (lv_room (Nat.le_of_ble_eq_true rfl)) dX5_text_4 hH hS (by omega) (by omega) (fun H locs hH hS => ?_)
  have hkc : kc + 1 + c2 + c2_2 ≤ mc := by omega
  have hks : ks + 4 + n2 + n2_2 ≤ ms := by omega
  refine lv_astore_n (pc := 7) (i := 1) (lv' := [(1, .ref S.2), (0, .ref l0)]) hx hb dX5_text_7 rfl hl (by decide) rfl (fun ls hl => ?_)
  refine lv_iconst (pc := 8) (v := nI 0) hx hb dX5_text_8 rfl ?_
  refine lv_istore_n (pc := 9) (i := 2) (lv' := [(2, .int (nI 0)), (1, .ref S.2), (0, .ref l0)]) hx hb dX5_text_9 rfl hl (by decide) rfl (fun ls hl => ?_)
  exact wX5_text_b10 hk hJ hc FU l0 S.2 (nI 0) S2 _ _ ls _ _ _ _ hkc hks hH hS (lv_sub hl [2, 1, 0] rfl) hf
theorem mX5_text {l : Launch} {G : gG} {Rp : gM → gM → Nat → Prop} (hk : rOK Rp) (hJ : JDK l G Rp) {S S2 : gS} {r2 : Option Nat} {C N : Nat} {l0 : Nat} (hf : fX5_text G l0 S = some (r2, S2, C, N)) : gMet l yX5_text cX5_text 3 (some (.object "java/lang/String")) 15 540 G Rp [.ref l0] S (some (va_rf r2)) S2 C N := by
  refine g_start (by decide) (Nat.le_of_ble_eq_true rfl) (fun p e s m args below meth c ls hc hl hH => ?_)
  have hl : lv_has ls 3 [(0, .ref l0)] := hl
  exact wX5_text_b0 hk hJ hc l0 S _ _ ls 0 0 C N (by omega) (by omega) hH va_S.rf (lv_sub hl [0] rfl) hf
end
section
variable {r : Unit} {Sf : gS}
def fX6_init (l0 : Nat) (l1 : Option Nat) (S : gS) : gO Unit :=
  nw S (cO 15 [.int 0, .null, .int 0]) 3 fun S2 =>
  gb (nAL_init S.2  S2) fun _ S3 =>
  bd (wr S3 l0 8 1 (.ref S.2)) fun S4 =>
  bd (wrz S4 l0 8 2 (nI 0)) fun S5 =>
  bd (wr S5 l0 8 0 (va_rf l1)) fun S6 =>
  some ((), S6, 0, 0)
theorem wX6_init_b0 (hk : rOK Rp) (hJ : JDK l G Rp) (hc : gC p s m args meth c G RX6 "<init>" cX6_init 2 (none)) (l0 : Nat) (l1 : Option Nat) (S : gS) (H : Heap) (locs : List Loc) (ls : Array Slot) (kc ks C N : Nat) (hkc : kc + C ≤ mc) (hks : ks + N ≤ ms) (hH : hp G Rp S H) (hS : va_S G.2.2.2 s.heap H locs) (hl : lv_has ls 2 [(0, .ref l0), (1, va_rf l1)]) (hf : fX6_init l0 l1 S = some (r, Sf, C, N)) : W p l e (gR 15 540 mc ms) s m args below meth c H locs kc ks (gQ below G Rp none Sf args s mc ms) (F0 m 0 ls []) := by
  obtain ⟨hx, hb, hr, hlk, hml, hown, hts, hE, hA, hnm⟩ := hc
  have hc : gC p s m args meth c G RX6 "<init>" cX6_init 2 (none) := ⟨hx, hb, hr, hlk, hml, hown, hts, hE, hA, hnm⟩
  unfold fX6_init at hf
  refine lv_aload_n (pc := 0) hx hb dX6_init_0 rfl (lv_at hl 0 rfl) ?_
  refine W.objInit  hx hb hown (hts _ q979) (hts _ q169) (hts _ q170) rfl (by rw [hml]; exact hl.1) rfl dX6_init_1 (Nat.le_of_ble_eq_true rfl) (Nat.le_of_ble_eq_true rfl) ?_
  refine W.eq (g2 := F0 m 4 ls []) rfl ?_
  refine lv_aload_n (pc := 4) hx hb dX6_init_4 rfl (lv_at hl 0 rfl) ?_
  obtain ⟨S2, c2_2, n2_2, eS2, hf, hC2, hN2⟩ := nwo hf
  refine g_newo (pc := 5) (ci := 15) (C := RJ2) (T := TJ2) (N := 3) (fs := [.int 0, .null, .int 0]) hx hb hts hown hE hA hk hH hS in_J2 tyJ2_ok q980 q178 q101 rfl (fun j hj => by rcases (show j = 0 ∨ j = 1 ∨ j = 2 by omega) with rfl | rfl | rfl <;> rfl) eS2 (Nat.le_trans (by omega) hkc) (Nat.le_trans (by omega) hks) dX6_init_5 (fun H hH hS => ?_)
  have hkc : kc + 1 + c2_2 ≤ mc := by omega
  have hks : ks + 3 + n2_2 ≤ ms := by omega
  refine lv_dup (pc := 8) hx hb dX6_init_8 rfl ?_
  obtain ⟨_, S3, c3, n3, c2_3, n2_3, e3, hf, hC3, hN3⟩ := gbo hf
  refine g_callI (pc := 9) (o := (some S.2)) (b := S.2) (As := []) (rest := [.ref S.2, .ref l0]) hc (j_nAL_init hJ S.2  S2 () S3 c3 n3 e3) (cwI 0 hts (lw_meth q181) rfl rfl rfl (hts _ q101) (hts _ q981) (hts _ q180) rfl hdiJ2_init ⟨Nat.le_of_ble_eq_true rfl, Nat.le_of_ble_eq_true rfl⟩) rfl rfl hl.1 rfl (lv_room (Nat.le_of_ble_eq_true rfl)) dX6_init_9 hH hS (by omega) (by omega) (fun H locs hH hS => ?_)
  have hkc : kc + 1 + c3 + c2_3 ≤ mc := by omega
  have hks : ks + 3 + n3 + n2_3 ≤ ms := by omega
  obtain ⟨S4, e4, hf⟩ := bdo hf
  refine g_putF (pc := 12) (o := (some l0)) (a := l0) (ci := 8) (k := 1) (v := .ref S.2) (C := RX6) (T := TX6) (N := 3) (ty := .object "java/util/ArrayList") hx hb hts hown hE hk hH hS rfl in_X6 tyX6_ok nmX6 rfl (by decide) (hts _ q983) (fun _ h9 => h9) rfl hnm rfl rfl rfl rfl rfl e4 dX6_init_12 (fun H locs hH hS => ?_)
  refine lv_aload_n (pc := 15) hx hb dX6_init_15 rfl (lv_at hl 0 rfl) ?_
  refine lv_iconst (pc := 16) (v := nI 0) hx hb dX6_init_16 rfl ?_
  obtain ⟨S5, e5, hf⟩ := bdo hf
  refine g_put (pc := 17) (o := (some l0)) (a := l0) (ci := 8) (k := 2) (v := .int (nI 0)) (C := RX6) (T := TX6) (N := 3) (ty := .boolean) hx hb hts hown hE hk hH hS rfl in_X6 tyX6_ok nmX6 rfl (by decide) (hts _ q984) (fun _ h9 => h9) rfl rfl (nar_z (wrz_o e5).1) (fit_z (wrz_o e5).1) rfl (wrz_o e5).2 dX6_init_17 (fun H locs hH hS => ?_)
  refine lv_aload_n (pc := 20) hx hb dX6_init_20 rfl (lv_at hl 0 rfl) ?_
  refine g_aload_n (pc := 21) (o := l1) hx hb dX6_init_21 rfl (lv_at hl 1 rfl) ?_
  obtain ⟨S6, e6, hf⟩ := bdo hf
  refine g_putF (pc := 22) (o := (some l0)) (a := l0) (ci := 8) (k := 0) (v := va_rf l1) (C := RX6) (T := TX6) (N := 3) (ty := .object "java/lang/String") hx hb hts hown hE hk hH hS rfl in_X6 tyX6_ok nmX6 rfl (by decide) (hts _ q982) (fun _ h9 => h9) rfl hnm rfl rfl (nar_rf _ _) (fit_rf _ _) rfl e6 dX6_init_22 (fun H locs hH hS => ?_)
  exact g_vret (pc := 25) hx hb hr hlk hH hS hkc hks hf dX6_init_25
theorem mX6_init {l : Launch} {G : gG} {Rp : gM → gM → Nat → Prop} (hk : rOK Rp) (hJ : JDK l G Rp) {S S2 : gS} {r2 : Unit} {C N : Nat} {l0 : Nat} {l1 : Option Nat} (hf : fX6_init l0 l1 S = some (r2, S2, C, N)) : gMet l yX6_init cX6_init 2 (none) 15 540 G Rp [.ref l0, va_rf l1] S none S2 C N := by
  refine g_start (by decide) (by simp [lg_sl, va_rf_cat, cat_i, cat_j, cat_r]) (fun p e s m args below meth c ls hc hl hH => ?_)
  have hl : lv_has ls 2 [(0, .ref l0), (1, va_rf l1)] := by simpa [lv_args, va_rf_cat, cat_i, cat_j, cat_r] using hl
  exact wX6_init_b0 hk hJ hc l0 l1 S _ _ ls 0 0 C N (by omega) (by omega) hH va_S.rf (lv_sub hl [0, 1] rfl) hf
end
section
variable {r : Int32} {Sf : gS}
def fX5_is (l0 : Nat) (l1 : Int32) (l2 : Int32) (S : gS) : gO Int32 :=
  bd (rdI S l0 9 0) fun v1 =>
  bd (rdR S l0 9 1) fun v2 =>
  bd v2 fun a3 =>
  bd (rdI S a3 0 5) fun v4 =>
  if v4 ≤ v1 then
    zg (nI 0) S
  else
    bd (rdR S l0 9 1) fun v6 =>
    bd v6 fun a7 =>
    bd (rdR S a7 0 4) fun v8 =>
    bd (rdI S l0 9 0) fun v9 =>
    bd v8 fun a11 =>
    bd (rdAi S a11 0 v9) fun v12 =>
    if v12 < l1 then
      zg (nI 0) S
    else
      bd (rdR S l0 9 1) fun v14 =>
      bd v14 fun a15 =>
      bd (rdR S a15 0 4) fun v16 =>
      bd (rdI S l0 9 0) fun v17 =>
      bd v16 fun a19 =>
      bd (rdAi S a19 0 v17) fun v20 =>
      if l2 < v20 then
        zg (nI 0) S
      else
        zg (nI 1) S
theorem wX5_is_b0 (hk : rOK Rp) (hJ : JDK l G Rp) (hc : gC p s m args meth c G RX5 "is" cX5_is 3 (some .boolean)) (l0 : Nat) (l1 : Int32) (l2 : Int32) (S : gS) (H : Heap) (locs : List Loc) (ls : Array Slot) (kc ks C N : Nat) (hkc : kc + C ≤ mc) (hks : ks + N ≤ ms) (hH : hp G Rp S H) (hS : va_S G.2.2.2 s.heap H locs) (hl : lv_has ls 3 [(0, .ref l0), (1, .int l1), (2, .int l2)]) (hf : fX5_is l0 l1 l2 S = some (r, Sf, C, N)) : W p l e (gR 1 40 mc ms) s m args below meth c H locs kc ks (gQ below G Rp (some (.int r)) Sf args s mc ms) (F0 m 0 ls []) := by
  obtain ⟨hx, hb, hr, hlk, hml, hown, hts, hE, hA, hnm⟩ := hc
  have hc : gC p s m args meth c G RX5 "is" cX5_is 3 (some .boolean) := ⟨hx, hb, hr, hlk, hml, hown, hts, hE, hA, hnm⟩
  unfold fX5_is at hf
  refine lv_aload_n (pc := 0) hx hb dX5_is_0 rfl (lv_at hl 0 rfl) ?_
  obtain ⟨v1, e1, hf⟩ := bdo hf
  refine g_get (pc := 1) (o := (some l0)) (a := l0) (ci := 9) (k := 0) (v := .int v1) (C := RX5) (T := TX5) (N := 2) hx hb hts hown hE hk hH in_X5 rfl (by decide) (hts _ q934) (fun _ h9 => h9) rfl (rdI_o e1) dX5_is_1 ?_
  refine lv_aload_n (pc := 4) hx hb dX5_is_4 rfl (lv_at hl 0 rfl) ?_
  obtain ⟨v2, e2, hf⟩ := bdo hf
  refine g_get (pc := 5) (o := (some l0)) (a := l0) (ci := 9) (k := 1) (v := va_rf v2) (C := RX5) (T := TX5) (N := 2) hx hb hts hown hE hk hH in_X5 rfl (by decide) (hts _ q935) (fun _ h9 => h9) rfl (rdR_o e2) dX5_is_5 ?_
  obtain ⟨a3, ea3, hf⟩ := bdo hf
  obtain ⟨v4, e4, hf⟩ := bdo hf
  refine g_getN (pc := 8) (o := v2) (a := a3) (ci := 0) (k := 5) (v := .int v4) (C := RX0) (T := TX0) (N := 7) hx hb hts hown hE hk hH in_X0 rfl (by decide) (va_Nw.use rfl (hE.2.1.2.2.1 _ _ _ _ _ _ q278)) (fun _ h9 => h9) ea3 (rdI_o e4) dX5_is_8 ?_
  refine lv_icmp_ge (pc := 11) (tgt := 50) hx hb dX5_is_11 (by decide) (fun c5 => ?_) (fun c5 => ?_)
  · rw [if_pos c5] at hf
    refine lv_iconst (pc := 50) (v := nI 0) hx hb dX5_is_50 rfl ?_
    exact g_zret (pc := 51) hx hb hr hlk hH hS hkc hks hf dX5_is_51
  · rw [if_neg c5] at hf
    refine lv_aload_n (pc := 14) hx hb dX5_is_14 rfl (lv_at hl 0 rfl) ?_
    obtain ⟨v6, e6, hf⟩ := bdo hf
    refine g_get (pc := 15) (o := (some l0)) (a := l0) (ci := 9) (k := 1) (v := va_rf v6) (C := RX5) (T := TX5) (N := 2) hx hb hts hown hE hk hH in_X5 rfl (by decide) (hts _ q935) (fun _ h9 => h9) rfl (rdR_o e6) dX5_is_15 ?_
    obtain ⟨a7, ea7, hf⟩ := bdo hf
    obtain ⟨v8, e8, hf⟩ := bdo hf
    refine g_getN (pc := 18) (o := v6) (a := a7) (ci := 0) (k := 4) (v := va_rf v8) (C := RX0) (T := TX0) (N := 7) hx hb hts hown hE hk hH in_X0 rfl (by decide) (va_Nw.use rfl (hE.2.1.2.2.1 _ _ _ _ _ _ q276)) (fun _ h9 => h9) ea7 (rdR_o e8) dX5_is_18 ?_
    refine lv_aload_n (pc := 21) hx hb dX5_is_21 rfl (lv_at hl 0 rfl) ?_
    obtain ⟨v9, e9, hf⟩ := bdo hf
    refine g_get (pc := 22) (o := (some l0)) (a := l0) (ci := 9) (k := 0) (v := .int v9) (C := RX5) (T := TX5) (N := 2) hx hb hts hown hE hk hH in_X5 rfl (by decide) (hts _ q934) (fun _ h9 => h9) rfl (rdI_o e9) dX5_is_22 ?_
    obtain ⟨a11, ea11, hf⟩ := bdo hf
    obtain ⟨v12, e12, hf⟩ := bdo hf
    refine g_iald (pc := 25) (o := v8) (a := a11) hx hb hE hk hH ea11 e12 dX5_is_25 ?_
    refine lv_iload_n (pc := 26) hx hb dX5_is_26 rfl (lv_at hl 1 rfl) ?_
    refine lv_icmp_lt (pc := 27) (tgt := 50) hx hb dX5_is_27 (by decide) (fun c13 => ?_) (fun c13 => ?_)
    · rw [if_pos c13] at hf
      refine lv_iconst (pc := 50) (v := nI 0) hx hb dX5_is_50 rfl ?_
      exact g_zret (pc := 51) hx hb hr hlk hH hS hkc hks hf dX5_is_51
    · rw [if_neg c13] at hf
      refine lv_aload_n (pc := 30) hx hb dX5_is_30 rfl (lv_at hl 0 rfl) ?_
      obtain ⟨v14, e14, hf⟩ := bdo hf
      refine g_get (pc := 31) (o := (some l0)) (a := l0) (ci := 9) (k := 1) (v := va_rf v14) (C := RX5) (T := TX5) (N := 2) hx hb hts hown hE hk hH in_X5 rfl (by decide) (hts _ q935) (fun _ h9 => h9) rfl (rdR_o e14) dX5_is_31 ?_
      obtain ⟨a15, ea15, hf⟩ := bdo hf
      obtain ⟨v16, e16, hf⟩ := bdo hf
      refine g_getN (pc := 34) (o := v14) (a := a15) (ci := 0) (k := 4) (v := va_rf v16) (C := RX0) (T := TX0) (N := 7) hx hb hts hown hE hk hH in_X0 rfl (by decide) (va_Nw.use rfl (hE.2.1.2.2.1 _ _ _ _ _ _ q276)) (fun _ h9 => h9) ea15 (rdR_o e16) dX5_is_34 ?_
      refine lv_aload_n (pc := 37) hx hb dX5_is_37 rfl (lv_at hl 0 rfl) ?_
      obtain ⟨v17, e17, hf⟩ := bdo hf
      refine g_get (pc := 38) (o := (some l0)) (a := l0) (ci := 9) (k := 0) (v := .int v17) (C := RX5) (T := TX5) (N := 2) hx hb hts hown hE hk hH in_X5 rfl (by decide) (hts _ q934) (fun _ h9 => h9) rfl (rdI_o e17) dX5_is_38 ?_
      obtain ⟨a19, ea19, hf⟩ := bdo hf
      obtain ⟨v20, e20, hf⟩ := bdo hf
      refine g_iald (pc := 41) (o := v16) (a := a19) hx hb hE hk hH ea19 e20 dX5_is_41 ?_
      refine lv_iload_n (pc := 42) hx hb dX5_is_42 rfl (lv_at hl 2 rfl) ?_
      refine lv_icmp_gt (pc := 43) (tgt := 50) hx hb dX5_is_43 (by decide) (fun c21 => ?_) (fun c21 => ?_)
      · rw [if_pos c21] at hf
        refine lv_iconst (pc := 50) (v := nI 0) hx hb dX5_is_50 rfl ?_
        exact g_zret (pc := 51) hx hb hr hlk hH hS hkc hks hf dX5_is_51
      · rw [if_neg c21] at hf
        refine lv_iconst (pc := 46) (v := nI 1) hx hb dX5_is_46 rfl ?_
        refine lv_goto (pc := 47) (tgt := 51) hx hb dX5_is_47 (by decide) ?_
        exact g_zret (pc := 51) hx hb hr hlk hH hS hkc hks hf dX5_is_51
theorem mX5_is {l : Launch} {G : gG} {Rp : gM → gM → Nat → Prop} (hk : rOK Rp) (hJ : JDK l G Rp) {S S2 : gS} {r2 : Int32} {C N : Nat} {l0 : Nat} {l1 : Int32} {l2 : Int32} (hf : fX5_is l0 l1 l2 S = some (r2, S2, C, N)) : gMet l yX5_is cX5_is 3 (some .boolean) 1 40 G Rp [.ref l0, .int l1, .int l2] S (some (.int r2)) S2 C N := by
  refine g_start (by decide) (Nat.le_of_ble_eq_true rfl) (fun p e s m args below meth c ls hc hl hH => ?_)
  have hl : lv_has ls 3 [(0, .ref l0), (1, .int l1), (2, .int l2)] := hl
  exact wX5_is_b0 hk hJ hc l0 l1 l2 S _ _ ls 0 0 C N (by omega) (by omega) hH va_S.rf (lv_sub hl [0, 1, 2] rfl) hf
end
section
variable {r : Unit} {Sf : gS}
def fJ5_init_3_c27_b41 (G : gG) (l0 : Nat) (l1 : Option Nat) (l2 : Option Nat) (l3 : Int32) (S : gS) : gO Unit :=
  bd (wr S l0 27 3 (va_rf l1)) fun S1 =>
  bd (wr S1 l0 27 0 (va_rf l2)) fun S2 =>
  if l3 = 0 then
    bd (wr S2 l0 27 2 (.null)) fun S4 =>
    some ((), S4, 0, 0)
  else
    some ((), S2, 0, 0)
theorem wJ5_init_3_c27_b41 (hk : rOK Rp) (hJ : JDK l G Rp) (hc : gC p s m args meth c G RJ5 "<init>" cJ5_init_3 5 (none)) (l0 : Nat) (l1 : Option Nat) (l2 : Option Nat) (l3 : Int32) (S : gS) (H : Heap) (locs : List Loc) (ls : Array Slot) (kc ks C N : Nat) (hkc : kc + C ≤ mc) (hks : ks + N ≤ ms) (hH : hp G Rp S H) (hS : va_S G.2.2.2 s.heap H locs) (hl : lv_has ls 5 [(0, .ref l0), (1, va_rf l1), (2, va_rf l2), (3, .int l3)]) (hf : fJ5_init_3_c27_b41 G l0 l1 l2 l3 S = some (r, Sf, C, N)) : W p l e (gR 1 40 mc ms) s m args below meth c H locs kc ks (gQ below G Rp none Sf args s mc ms) (F0 m 41 ls []) := by
  obtain ⟨hx, hb, hr, hlk, hml, hown, hts, hE, hA, hnm⟩ := hc
  have hc : gC p s m args meth c G RJ5 "<init>" cJ5_init_3 5 (none) := ⟨hx, hb, hr, hlk, hml, hown, hts, hE, hA, hnm⟩
  unfold fJ5_init_3_c27_b41 at hf
  refine lv_aload_n (pc := 41) hx hb dJ5_init_3_41 rfl (lv_at hl 0 rfl) ?_
  refine g_aload_n (pc := 42) (o := l1) hx hb dJ5_init_3_42 rfl (lv_at hl 1 rfl) ?_
  obtain ⟨S1, e1, hf⟩ := bdo hf
  refine g_put (pc := 43) (o := (some l0)) (a := l0) (ci := 27) (k := 3) (v := va_rf l1) (C := RX7) (T := TX7) (N := 7) (ty := .object "java/lang/String") hx hb hts hown hE hk hH hS rfl in_X7 tyX7_ok nmX7 rfl (by decide) (hts _ q352) (fun _ h9 => h9) rfl rfl (nar_rf _ _) (fit_rf _ _) rfl e1 dJ5_init_3_43 (fun H locs hH hS => ?_)
  refine lv_aload_n (pc := 46) hx hb dJ5_init_3_46 rfl (lv_at hl 0 rfl) ?_
  refine g_aload_n (pc := 47) (o := l2) hx hb dJ5_init_3_47 rfl (lv_at hl 2 rfl) ?_
  obtain ⟨S2, e2, hf⟩ := bdo hf
  refine g_put (pc := 48) (o := (some l0)) (a := l0) (ci := 27) (k := 0) (v := va_rf l2) (C := RX7) (T := TX7) (N := 7) (ty := .object "java/lang/Throwable") hx hb hts hown hE hk hH hS rfl in_X7 tyX7_ok nmX7 rfl (by decide) (hts _ q353) (fun _ h9 => h9) rfl rfl (nar_rf _ _) (fit_rf _ _) rfl e2 dJ5_init_3_48 (fun H locs hH hS => ?_)
  refine lv_iload_n (pc := 51) hx hb dJ5_init_3_51 rfl (lv_at hl 3 rfl) ?_
  refine lv_if_ne (pc := 52) (tgt := 60) hx hb dJ5_init_3_52 (by decide) (fun c3 => ?_) (fun c3 => ?_)
  · rw [if_neg c3] at hf
    exact g_vret (pc := 60) hx hb hr hlk hH hS hkc hks hf dJ5_init_3_60
  · rw [if_pos c3] at hf
    refine lv_aload_n (pc := 55) hx hb dJ5_init_3_55 rfl (lv_at hl 0 rfl) ?_
    refine lv_null (pc := 56) hx hb dJ5_init_3_56 ?_
    obtain ⟨S4, e4, hf⟩ := bdo hf
    refine g_put (pc := 57) (o := (some l0)) (a := l0) (ci := 27) (k := 2) (v := .null) (C := RX7) (T := TX7) (N := 7) (ty := .object "java/util/List") hx hb hts hown hE hk hH hS rfl in_X7 tyX7_ok nmX7 rfl (by decide) (hts _ q355) (fun _ h9 => h9) rfl rfl rfl rfl rfl e4 dJ5_init_3_57 (fun H locs hH hS => ?_)
    exact g_vret (pc := 60) hx hb hr hlk hH hS hkc hks hf dJ5_init_3_60
def fJ5_init_3_c27 (G : gG) (l0 : Nat) (l1 : Option Nat) (l2 : Option Nat) (l3 : Int32) (l4 : Int32) (S : gS) : gO Unit :=
  bd (wr S l0 27 0 (.ref l0)) fun S2 =>
  bd (wr S2 l0 27 1 (va_rf (kO (G.2.2.1 8)))) fun S3 =>
  bd (wr S3 l0 27 2 (va_rf (kO (G.2.2.1 9)))) fun S4 =>
  if l4 = 0 then
    bd (wr S4 l0 27 1 (.null)) fun S6 =>
    fJ5_init_3_c27_b41 G l0 l1 l2 l3 S6
  else
    none
theorem wJ5_init_3_c27_b0 (hk : rOK Rp) (hJ : JDK l G Rp) (hc : gC p s m args meth c G RJ5 "<init>" cJ5_init_3 5 (none)) (l0 : Nat) (l1 : Option Nat) (l2 : Option Nat) (l3 : Int32) (l4 : Int32) (S : gS) (H : Heap) (locs : List Loc) (ls : Array Slot) (kc ks C N : Nat) (hkc : kc + C ≤ mc) (hks : ks + N ≤ ms) (hH : hp G Rp S H) (hS : va_S G.2.2.2 s.heap H locs) (hl : lv_has ls 5 [(0, .ref l0), (1, va_rf l1), (2, va_rf l2), (3, .int l3), (4, .int l4)]) (hf : fJ5_init_3_c27 G l0 l1 l2 l3 l4 S = some (r, Sf, C, N)) : W p l e (gR 1 40 mc ms) s m args below meth c H locs kc ks (gQ below G Rp none Sf args s mc ms) (F0 m 0 ls []) := by
  obtain ⟨hx, hb, hr, hlk, hml, hown, hts, hE, hA, hnm⟩ := hc
  have hc : gC p s m args meth c G RJ5 "<init>" cJ5_init_3 5 (none) := ⟨hx, hb, hr, hlk, hml, hown, hts, hE, hA, hnm⟩
  unfold fJ5_init_3_c27 at hf
  refine lv_aload_n (pc := 0) hx hb dJ5_init_3_0 rfl (lv_at hl 0 rfl) ?_
  refine W.objInit  hx hb hown (hts _ q313) (hts _ q169) (hts _ q170) rfl (by rw [hml]; exact hl.1) rfl dJ5_init_3_1 (Nat.le_of_ble_eq_true rfl) (Nat.le_of_ble_eq_true rfl) ?_
  refine W.eq (g2 := F0 m 4 ls []) rfl ?_
  refine lv_aload_n (pc := 4) hx hb dJ5_init_3_4 rfl (lv_at hl 0 rfl) ?_
  refine lv_aload_n (pc := 5) hx hb dJ5_init_3_5 rfl (lv_at hl 0 rfl) ?_
  obtain ⟨S2, e2, hf⟩ := bdo hf
  refine g_put (pc := 6) (o := (some l0)) (a := l0) (ci := 27) (k := 0) (v := .ref l0) (C := RX7) (T := TX7) (N := 7) (ty := .object "java/lang/Throwable") hx hb hts hown hE hk hH hS rfl in_X7 tyX7_ok nmX7 rfl (by decide) (hts _ q353) (fun _ h9 => h9) rfl rfl rfl rfl rfl e2 dJ5_init_3_6 (fun H locs hH hS => ?_)
  refine lv_aload_n (pc := 9) hx hb dJ5_init_3_9 rfl (lv_at hl 0 rfl) ?_
  refine va_gets (pc := 10) hx hb hE.2.2.2.2.2.2.2.2.2.1.1 hS hown (hts _ q314) (fun _ h9 => h9) dJ5_init_3_10 ?_
  obtain ⟨S3, e3, hf⟩ := bdo hf
  refine g_put (pc := 13) (o := (some l0)) (a := l0) (ci := 27) (k := 1) (v := va_rf (kO (G.2.2.1 8))) (C := RX7) (T := TX7) (N := 7) (ty := tyX7 1) hx hb hts hown hE hk hH hS rfl in_X7 tyX7_ok nmX7 rfl (by decide) (hts _ q354) (fun _ h9 => h9) rfl rfl (nar_ra _ _) (fit_ra _ _) rfl e3 dJ5_init_3_13 (fun H locs hH hS => ?_)
  refine lv_aload_n (pc := 16) hx hb dJ5_init_3_16 rfl (lv_at hl 0 rfl) ?_
  refine va_gets (pc := 17) hx hb hE.2.2.2.2.2.2.2.2.2.1.2.1 hS hown (hts _ q316) (fun _ h9 => h9) dJ5_init_3_17 ?_
  obtain ⟨S4, e4, hf⟩ := bdo hf
  refine g_put (pc := 20) (o := (some l0)) (a := l0) (ci := 27) (k := 2) (v := va_rf (kO (G.2.2.1 9))) (C := RX7) (T := TX7) (N := 7) (ty := .object "java/util/List") hx hb hts hown hE hk hH hS rfl in_X7 tyX7_ok nmX7 rfl (by decide) (hts _ q355) (fun _ h9 => h9) rfl rfl (nar_rf _ _) (fit_rf _ _) rfl e4 dJ5_init_3_20 (fun H locs hH hS => ?_)
  refine lv_iload (pc := 23) hx hb dJ5_init_3_23 (lv_at hl 4 rfl) ?_
  refine lv_if_eq (pc := 25) (tgt := 36) hx hb dJ5_init_3_25 (by decide) (fun c5 => ?_) (fun c5 => ?_)
  · rw [if_pos c5] at hf
    refine lv_aload_n (pc := 36) hx hb dJ5_init_3_36 rfl (lv_at hl 0 rfl) ?_
    refine lv_null (pc := 37) hx hb dJ5_init_3_37 ?_
    obtain ⟨S6, e6, hf⟩ := bdo hf
    refine g_put (pc := 38) (o := (some l0)) (a := l0) (ci := 27) (k := 1) (v := .null) (C := RX7) (T := TX7) (N := 7) (ty := tyX7 1) hx hb hts hown hE hk hH hS rfl in_X7 tyX7_ok nmX7 rfl (by decide) (hts _ q354) (fun _ h9 => h9) rfl rfl rfl rfl rfl e6 dJ5_init_3_38 (fun H locs hH hS => ?_)
    exact wJ5_init_3_c27_b41 hk hJ hc l0 l1 l2 l3 S6 _ _ ls _ _ _ _ hkc hks hH hS (lv_sub hl [0, 1, 2, 3] rfl) hf
  · rw [if_neg c5] at hf
    refine lv_aload_n (pc := 28) hx hb dJ5_init_3_28 rfl (lv_at hl 0 rfl) ?_
    exact absurd hf (fun h => by cases h)
theorem mJ5_init_3_c27 {l : Launch} {G : gG} {Rp : gM → gM → Nat → Prop} (hk : rOK Rp) (hJ : JDK l G Rp) {S S2 : gS} {r2 : Unit} {C N : Nat} {l0 : Nat} {l1 : Option Nat} {l2 : Option Nat} {l3 : Int32} {l4 : Int32} (hf : fJ5_init_3_c27 G l0 l1 l2 l3 l4 S = some (r2, S2, C, N)) : gMet l yJ5_init_3 cJ5_init_3 5 (none) 1 40 G Rp [.ref l0, va_rf l1, va_rf l2, .int l3, .int l4] S none S2 C N := by
  refine g_start (by decide) (by simp [lg_sl, va_rf_cat, cat_i, cat_j, cat_r]) (fun p e s m args below meth c ls hc hl hH => ?_)
  have hl : lv_has ls 5 [(0, .ref l0), (1, va_rf l1), (2, va_rf l2), (3, .int l3), (4, .int l4)] := by simpa [lv_args, va_rf_cat, cat_i, cat_j, cat_r] using hl
  exact wJ5_init_3_c27_b0 hk hJ hc l0 l1 l2 l3 l4 S _ _ ls 0 0 C N (by omega) (by omega) hH va_S.rf (lv_sub hl [0, 1, 2, 3, 4] rfl) hf
end
section
variable {r : Unit} {Sf : gS}
def fJ6_init_2_c27 (G : gG) (l0 : Nat) (l1 : Option Nat) (l2 : Option Nat) (l3 : Int32) (l4 : Int32) (S : gS) : gO Unit :=
  gb (fJ5_init_3_c27 G l0 l1 l2 l3 l4 S) fun _ S1 =>
  some ((), S1, 0, 0)
theorem wJ6_init_2_c27_b0 (hk : rOK Rp) (hJ : JDK l G Rp) (hc : gC p s m args meth c G RJ6 "<init>" cJ6_init_2 5 (none)) (l0 : Nat) (l1 : Option Nat) (l2 : Option Nat) (l3 : Int32) (l4 : Int32) (S : gS) (H : Heap) (locs : List Loc) (ls : Array Slot) (kc ks C N : Nat) (hkc : kc + C ≤ mc) (hks : ks + N ≤ ms) (hH : hp G Rp S H) (hS : va_S G.2.2.2 s.heap H locs) (hl : lv_has ls 5 [(0, .ref l0), (1, va_rf l1), (2, va_rf l2), (3, .int l3), (4, .int l4)]) (hf : fJ6_init_2_c27 G l0 l1 l2 l3 l4 S = some (r, Sf, C, N)) : W p l e (gR 2 64 mc ms) s m args below meth c H locs kc ks (gQ below G Rp none Sf args s mc ms) (F0 m 0 ls []) := by
  obtain ⟨hx, hb, hr, hlk, hml, hown, hts, hE, hA, hnm⟩ := hc
  have hc : gC p s m args meth c G RJ6 "<init>" cJ6_init_2 5 (none) := ⟨hx, hb, hr, hlk, hml, hown, hts, hE, hA, hnm⟩
  unfold fJ6_init_2_c27 at hf
  refine lv_aload_n (pc := 0) hx hb dJ6_init_2_0 rfl (lv_at hl 0 rfl) ?_
  refine g_aload_n (pc := 1) (o := l1) hx hb dJ6_init_2_1 rfl (lv_at hl 1 rfl) ?_
  refine g_aload_n (pc := 2) (o := l2) hx hb dJ6_init_2_2 rfl (lv_at hl 2 rfl) ?_
  refine lv_iload_n (pc := 3) hx hb dJ6_init_2_3 rfl (lv_at hl 3 rfl) ?_
  refine lv_iload (pc := 4) hx hb dJ6_init_2_4 (lv_at hl 4 rfl) ?_
  obtain ⟨_, S1, c1, n1, c2_1, n2_1, e1, hf, hC1, hN1⟩ := gbo hf
  refine g_callI (pc := 6) (o := (some l0)) (b := l0) (As := [va_rf l1, va_rf l2, .int l3, .int l4]) (rest := []) hc (mJ5_init_3_c27 hk hJ (l0 := l0) (l1 := l1) (l2 := l2) (l3 := l3) (l4 := l4) e1) (cwI 4 hts (lw_meth q456) rfl rfl rfl (hts _ q106) (hts _ q454) (hts _ q455) rfl hdiJ5_init_3 ⟨Nat.le_of_ble_eq_true rfl, Nat.le_of_ble_eq_true rfl⟩) rfl rfl hl.1 rfl (lv_room (Nat.le_of_ble_eq_true rfl)) dJ6_init_2_6 hH hS (by omega) (by omega) (fun H locs hH hS => ?_)
  have hkc : kc + c1 + c2_1 ≤ mc := by omega
  have hks : ks + n1 + n2_1 ≤ ms := by omega
  exact g_vret (pc := 9) hx hb hr hlk hH hS hkc hks hf dJ6_init_2_9
theorem mJ6_init_2_c27 {l : Launch} {G : gG} {Rp : gM → gM → Nat → Prop} (hk : rOK Rp) (hJ : JDK l G Rp) {S S2 : gS} {r2 : Unit} {C N : Nat} {l0 : Nat} {l1 : Option Nat} {l2 : Option Nat} {l3 : Int32} {l4 : Int32} (hf : fJ6_init_2_c27 G l0 l1 l2 l3 l4 S = some (r2, S2, C, N)) : gMet l yJ6_init_2 cJ6_init_2 5 (none) 2 64 G Rp [.ref l0, va_rf l1, va_rf l2, .int l3, .int l4] S none S2 C N := by
  refine g_start (by decide) (by simp [lg_sl, va_rf_cat, cat_i, cat_j, cat_r]) (fun p e s m args below meth c ls hc hl hH => ?_)
  have hl : lv_has ls 5 [(0, .ref l0), (1, va_rf l1), (2, va_rf l2), (3, .int l3), (4, .int l4)] := by simpa [lv_args, va_rf_cat, cat_i, cat_j, cat_r] using hl
  exact wJ6_init_2_c27_b0 hk hJ hc l0 l1 l2 l3 l4 S _ _ ls 0 0 C N (by omega) (by omega) hH va_S.rf (lv_sub hl [0, 1, 2, 3, 4] rfl) hf
end
section
variable {r : Unit} {Sf : gS}
def fX7_init (G : gG) (l0 : Nat) (l1 : Int32) (S : gS) : gO Unit :=
  gb (fJ6_init_2_c27 G l0 none none (nI 0) (nI 0) S) fun _ S1 =>
  bd (wr S1 l0 27 6 (.int l1)) fun S2 =>
  some ((), S2, 0, 0)
theorem wX7_init_b0 (hk : rOK Rp) (hJ : JDK l G Rp) (hc : gC p s m args meth c G RX7 "<init>" cX7_init 2 (none)) (l0 : Nat) (l1 : Int32) (S : gS) (H : Heap) (locs : List Loc) (ls : Array Slot) (kc ks C N : Nat) (hkc : kc + C ≤ mc) (hks : ks + N ≤ ms) (hH : hp G Rp S H) (hS : va_S G.2.2.2 s.heap H locs) (hl : lv_has ls 2 [(0, .ref l0), (1, .int l1)]) (hf : fX7_init G l0 l1 S = some (r, Sf, C, N)) : W p l e (gR 3 88 mc ms) s m args below meth c H locs kc ks (gQ below G Rp none Sf args s mc ms) (F0 m 0 ls []) := by
  obtain ⟨hx, hb, hr, hlk, hml, hown, hts, hE, hA, hnm⟩ := hc
  have hc : gC p s m args meth c G RX7 "<init>" cX7_init 2 (none) := ⟨hx, hb, hr, hlk, hml, hown, hts, hE, hA, hnm⟩
  unfold fX7_init at hf
  refine lv_aload_n (pc := 0) hx hb dX7_init_0 rfl (lv_at hl 0 rfl) ?_
  refine lv_null (pc := 1) hx hb dX7_init_1 ?_
  refine lv_null (pc := 2) hx hb dX7_init_2 ?_
  refine lv_iconst (pc := 3) (v := nI 0) hx hb dX7_init_3 rfl ?_
  refine lv_iconst (pc := 4) (v := nI 0) hx hb dX7_init_4 rfl ?_
  obtain ⟨_, S1, c1, n1, c2_1, n2_1, e1, hf, hC1, hN1⟩ := gbo hf
  refine g_callI (pc := 5) (o := (some l0)) (b := l0) (As := [va_rf none, va_rf none, .int (nI 0), .int (nI 0)]) (rest := []) hc (mJ6_init_2_c27 hk hJ (l0 := l0) (l1 := none) (l2 := none) (l3 := (nI 0)) (l4 := (nI 0)) e1) (cwI 4 hts (lw_meth q453) rfl rfl rfl (hts _ q107) (hts _ q1019) (hts _ q452) rfl hdiJ6_init_2 ⟨Nat.le_of_ble_eq_true rfl, Nat.le_of_ble_eq_true rfl⟩) rfl rfl hl.1 rfl (lv_room (Nat.le_of_ble_eq_true rfl)) dX7_init_5 hH hS (by omega) (by omega) (fun H locs hH hS => ?_)
  have hkc : kc + c1 + c2_1 ≤ mc := by omega
  have hks : ks + n1 + n2_1 ≤ ms := by omega
  refine lv_aload_n (pc := 8) hx hb dX7_init_8 rfl (lv_at hl 0 rfl) ?_
  refine lv_iload_n (pc := 9) hx hb dX7_init_9 rfl (lv_at hl 1 rfl) ?_
  obtain ⟨S2, e2, hf⟩ := bdo hf
  refine g_putF (pc := 10) (o := (some l0)) (a := l0) (ci := 27) (k := 6) (v := .int l1) (C := RX7) (T := TX7) (N := 7) (ty := .int) hx hb hts hown hE hk hH hS rfl in_X7 tyX7_ok nmX7 rfl (by decide) (hts _ q1020) (fun _ h9 => h9) rfl hnm rfl rfl rfl rfl rfl e2 dX7_init_10 (fun H locs hH hS => ?_)
  exact g_vret (pc := 13) hx hb hr hlk hH hS hkc hks hf dX7_init_13
theorem mX7_init {l : Launch} {G : gG} {Rp : gM → gM → Nat → Prop} (hk : rOK Rp) (hJ : JDK l G Rp) {S S2 : gS} {r2 : Unit} {C N : Nat} {l0 : Nat} {l1 : Int32} (hf : fX7_init G l0 l1 S = some (r2, S2, C, N)) : gMet l yX7_init cX7_init 2 (none) 3 88 G Rp [.ref l0, .int l1] S none S2 C N := by
  refine g_start (by decide) (Nat.le_of_ble_eq_true rfl) (fun p e s m args below meth c ls hc hl hH => ?_)
  have hl : lv_has ls 2 [(0, .ref l0), (1, .int l1)] := hl
  exact wX7_init_b0 hk hJ hc l0 l1 S _ _ ls 0 0 C N (by omega) (by omega) hH va_S.rf (lv_sub hl [0, 1] rfl) hf
end
section
variable {P : Option Nat ⊕ gTh → gS → Prop}
def fX5_word_b58 (G : gG) (l0 : Nat) (l1 : Nat) (S : gS) : gX (Option Nat) :=
  gb (nSB_len l1  S) fun v1 S1 =>
  if v1 = 0 then
    nw S1 (cO 27 [.null, .null, .null, .null, .null, .int 0, .int 0]) 7 fun S4 =>
    bd (rdI S4 l0 9 0) fun v5 =>
    gb (fX7_init G S1.2 v5 S4) fun _ S6 =>
    bd (chk S6 S1.2 27) fun _ =>
    some (.inr ("CreditBroker$Fault", some S1.2), S6, 0, 0)
  else
    gb (nSB_str G l1  S1) fun v3 S3 =>
    some (.inl v3, S3, 0, 0)
theorem wX5_word_b58 (hk : rOK Rp) (hJ : JDK l G Rp) (hst : l.stackTraces = false) (htb : c.exceptionTable.toList = []) (hc : gC p s m args meth c G RX5 "word" cX5_word 2 (some (.object "java/lang/String"))) (l0 : Nat) (l1 : Nat) (S : gS) (H : Heap) (locs : List Loc) (ls : Array Slot) (kc ks C N : Nat) (hkc : kc + C ≤ mc) (hks : ks + N ≤ ms) (hH : hp G Rp S H) (hS : va_S G.2.2.2 s.heap H locs) (hl : lv_has ls 2 [(0, .ref l0), (1, .ref l1)]) (hf : (∀ j : Nat, oky C N (fX5_word_b58 G l0 l1 S) P)) : W p l e (gR 15 540 mc ms) s m args below meth c H locs kc ks (gQJ below G Rp iR P args s mc ms) (F0 m 58 ls []) := by
  obtain ⟨hx, hb, hr, hlk, hml, hown, hts, hE, hA, hnm⟩ := hc
  have hc : gC p s m args meth c G RX5 "word" cX5_word 2 (some (.object "java/lang/String")) := ⟨hx, hb, hr, hlk, hml, hown, hts, hE, hA, hnm⟩
  simp only [fX5_word_b58] at hf
  refine lv_aload_n (pc := 58) hx hb dX5_word_58 rfl (lv_at hl 1 rfl) ?_
  obtain ⟨v1, S1, c1, n1, c2_1, n2_1, e1, hf, hC1, hN1⟩ := gbJ hf
  refine g_callV (pc := 59) (o := (some l1)) (b := l1) (As := []) (rest := []) (st1 := [.int v1]) hc (j_nSB_len hJ l1  S v1 S1 c1 n1 e1) (cwV 0 hts (lw_V q1006 q807 q3298 q118 q808) rfl rfl rfl hdJ15_length ⟨Nat.le_of_ble_eq_true rfl, Nat.le_of_ble_eq_true rfl⟩) (j_recv hJ _ _ _ _ 4 _ _ hE hH hS (adtR (t := 4) (show bd _ _ = some _ from e1)).choose_spec) rfl rfl hl.1 rfl rfl (lv_room (Nat.le_of_ble_eq_true rfl)) dX5_word_59 hH hS (by omega) (by omega) (fun H locs hH hS => ?_)
  have hkc : kc + c1 + c2_1 ≤ mc := by omega
  have hks : ks + n1 + n2_1 ≤ ms := by omega
  refine lv_if_ne (pc := 62) (tgt := 77) hx hb dX5_word_62 (by decide) (fun c2 => ?_) (fun c2 => ?_)
  · simp only [if_neg c2] at hf
    refine lv_aload_n (pc := 77) hx hb dX5_word_77 rfl (lv_at hl 1 rfl) ?_
    obtain ⟨v3, S3, c3, n3, c2_3, n2_3, e3, hf, hC3, hN3⟩ := gbJ hf
    refine g_callV (pc := 78) (o := (some l1)) (b := l1) (As := []) (rest := []) (st1 := [va_rf v3]) hc (j_nSB_str hJ l1  S1 v3 S3 c3 n3 e3) (cwV 0 hts (lw_V q975 q787 q788 q118 q789) rfl rfl rfl hdJ15_toString ⟨Nat.le_of_ble_eq_true rfl, Nat.le_of_ble_eq_true rfl⟩) (j_recv hJ _ _ _ _ 4 _ _ hE hH hS (adtR (t := 4) (show bd _ _ = some _ from e3)).choose_spec) rfl rfl hl.1 rfl rfl (lv_room (Nat.le_of_ble_eq_true rfl)) dX5_word_78 hH hS (by omega) (by omega) (fun H locs hH hS => ?_)
    have hkc : kc + c1 + c3 + c2_3 ≤ mc := by omega
    have hks : ks + n1 + n3 + n2_3 ≤ ms := by omega
    exact g_aretJ (pc := 81) (v := v3) hx hb hr (Or.inl ⟨_, rfl⟩) hlk hH hS hkc hks hf dX5_word_81
  · simp only [if_pos c2] at hf
    obtain ⟨S4, c2_4, n2_4, eS4, hf, hC4, hN4⟩ := nwJ hf
    refine g_newo (pc := 65) (ci := 27) (C := RX7) (T := TX7) (N := 7) (fs := [.null, .null, .null, .null, .null, .int 0, .int 0]) hx hb hts hown hE hA hk hH hS in_X7 tyX7_ok q1007 q1008 q130 rfl (fun j hj => by rcases (show j = 0 ∨ j = 1 ∨ j = 2 ∨ j = 3 ∨ j = 4 ∨ j = 5 ∨ j = 6 by omega) with rfl | rfl | rfl | rfl | rfl | rfl | rfl <;> rfl) eS4 (Nat.le_trans (by omega) hkc) (Nat.le_trans (by omega) hks) dX5_word_65 (fun H hH hS => ?_)
    have hkc : kc + c1 + 1 + c2_4 ≤ mc := by omega
    have hks : ks + n1 + 7 + n2_4 ≤ ms := by omega
    refine lv_dup (pc := 68) hx hb dX5_word_68 rfl ?_
    refine lv_aload_n (pc := 69) hx hb dX5_word_69 rfl (lv_at hl 0 rfl) ?_
    obtain ⟨v5, e5, hf⟩ := bdJ hf
    refine g_get (pc := 70) (o := (some l0)) (a := l0) (ci := 9) (k := 0) (v := .int v5) (C := RX5) (T := TX5) (N := 2) hx hb hts hown hE hk hH in_X5 rfl (by decide) (hts _ q934) (fun _ h9 => h9) rfl (rdI_o e5) dX5_word_70 ?_
    obtain ⟨_, S6, c6, n6, c2_6, n2_6, e6, hf, hC6, hN6⟩ := gbJ hf
    refine g_callI (pc := 73) (o := (some S1.2)) (b := S1.2) (As := [.int v5]) (rest := [.ref S1.2]) hc (mX7_init hk hJ (l0 := S1.2) (l1 := v5) e6) (cwI 1 hts (lw_meth q1018) rfl rfl rfl (hts _ q130) (hts _ q1016) (hts _ q1017) rfl hdiX7_init ⟨Nat.le_of_ble_eq_true rfl, Nat.le_of_ble_eq_true rfl⟩) rfl rfl hl.1 rfl (lv_room (Nat.le_of_ble_eq_true rfl)) dX5_word_73 hH hS (by omega) (by omega) (fun H locs hH hS => ?_)
    have hkc : kc + c1 + 1 + c6 + c2_6 ≤ mc := by omega
    have hks : ks + n1 + 7 + n6 + n2_6 ≤ ms := by omega
    obtain ⟨_, e7, hf⟩ := bdJ hf
    refine g_athrow (pc := 76) (o := some S1.2) (ci := 27) (cl := (RX7, TX7, 7)) hx hb hE hk hH rfl rfl (chk_o e7).choose_spec dX5_word_76 (fun ce h1 h2 h3 => ?_)
    exact g_outJ (E := "CreditBroker$Fault") (x := some S1.2) (by rw [htb]; decide) hlk ⟨rfl, hH⟩ hS (by omega) (by omega) h1 h2 h3 hf
def fX5_word_b8 (G : gG) : Nat → Nat → Nat → gS → gX (Option Nat)
  | 0, _, _, _ => none
  | n + 1, l0, l1, S =>
    gb (nSB_len l1  S) fun v1 S1 =>
    if (nI 4) ≤ v1 then
      fX5_word_b58 G l0 l1 S1
    else
      bd (chk S1 l0 9) fun _ =>
      gb (fX5_is l0 (nI 97) (nI 122) S1) fun v3 S3 =>
      if v3 = 0 then
        fX5_word_b58 G l0 l1 S3
      else
        bd (rdR S3 l0 9 1) fun v5 =>
        bd v5 fun a6 =>
        bd (rdR S3 a6 0 4) fun v7 =>
        bd (rdI S3 l0 9 0) fun v8 =>
        bd v7 fun a10 =>
        bd (rdAi S3 a10 0 v8) fun v11 =>
        gb (nSB_addC l1 ((v11.toUInt32 % 65536).toInt32) S3) fun v12 S12 =>
        bd (rdI S12 l0 9 0) fun v13 =>
        bd (wr S12 l0 9 0 (.int (v13 + (nI 1)))) fun S14 =>
        fX5_word_b8 G n l0 l1 S14
theorem wX5_word_b8 (hk : rOK Rp) (hJ : JDK l G Rp) (hst : l.stackTraces = false) (htb : c.exceptionTable.toList = []) (hc : gC p s m args meth c G RX5 "word" cX5_word 2 (some (.object "java/lang/String"))) : ∀ (n : Nat) (l0 : Nat) (l1 : Nat) (S : gS) (H : Heap) (locs : List Loc) (ls : Array Slot) (kc ks C N : Nat), kc + C ≤ mc → ks + N ≤ ms → hp G Rp S H → va_S G.2.2.2 s.heap H locs → lv_has ls 2 [(0, .ref l0), (1, .ref l1)] → (∀ j : Nat, oky C N (fX5_word_b8 G n l0 l1 S) P) → W p l e (gR 15 540 mc ms) s m args below meth c H locs kc ks (gQJ below G Rp iR P args s mc ms) (F0 m 8 ls []) := by
  obtain ⟨hx, hb, hr, hlk, hml, hown, hts, hE, hA, hnm⟩ := hc
  have hc : gC p s m args meth c G RX5 "word" cX5_word 2 (some (.object "java/lang/String")) := ⟨hx, hb, hr, hlk, hml, hown, hts, hE, hA, hnm⟩
  intro n
  induction n with
  | zero => intro l0 l1 S H locs ls kc ks C N _ _ _ _ _ hf; simp only [fX5_word_b8] at hf; exact noJ hf
  | succ n ih =>
    intro l0 l1 S H locs ls kc ks C N hkc hks hH hS hl hf
    simp only [fX5_word_b8] at hf
    refine lv_aload_n (pc := 8) hx hb dX5_word_8 rfl (lv_at hl 1 rfl) ?_
    obtain ⟨v1, S1, c1, n1, c2_1, n2_1, e1, hf, hC1, hN1⟩ := gbJ hf
    refine g_callV (pc := 9) (o := (some l1)) (b := l1) (As := []) (rest := []) (st1 := [.int v1]) hc (j_nSB_len hJ l1  S v1 S1 c1 n1 e1) (cwV 0 hts (lw_V q1006 q807 q3298 q118 q808) rfl rfl rfl hdJ15_length ⟨Nat.le_of_ble_eq_true rfl, Nat.le_of_ble_eq_true rfl⟩) (j_recv hJ _ _ _ _ 4 _ _ hE hH hS (adtR (t := 4) (show bd _ _ = some _ from e1)).choose_spec) rfl rfl hl.1 rfl rfl (lv_room (Nat.le_of_ble_eq_true rfl)) dX5_word_9 hH hS (by omega) (by omega) (fun H locs hH hS => ?_)
    have hkc : kc + c1 + c2_1 ≤ mc := by omega
    have hks : ks + n1 + n2_1 ≤ ms := by omega
    refine lv_iconst (pc := 12) (v := nI 4) hx hb dX5_word_12 rfl ?_
    refine lv_icmp_ge (pc := 13) (tgt := 58) hx hb dX5_word_13 (by decide) (fun c2 => ?_) (fun c2 => ?_)
    · simp only [if_pos c2] at hf
      exact wX5_word_b58 hk hJ hst htb hc l0 l1 S1 _ _ ls _ _ _ _ hkc hks hH hS (lv_sub hl [0, 1] rfl) hf
    · simp only [if_neg c2] at hf
      refine lv_aload_n (pc := 16) hx hb dX5_word_16 rfl (lv_at hl 0 rfl) ?_
      refine lv_bipush (pc := 17) (v := nI 97) hx hb dX5_word_17 gkb97 ?_
      refine lv_bipush (pc := 19) (v := nI 122) hx hb dX5_word_19 gkb122 ?_
      obtain ⟨_, ek3, hf⟩ := bdJ hf
      obtain ⟨v3, S3, c3, n3, c2_3, n2_3, e3, hf, hC3, hN3⟩ := gbJ hf
      refine g_callV (pc := 21) (o := (some l0)) (b := l0) (As := [.int (nI 97), .int (nI 122)]) (rest := []) (st1 := [.int v3]) hc (mX5_is hk hJ (l0 := l0) (l1 := (nI 97)) (l2 := (nI 122)) e3) (cwV 2 hts (lw_V q996 q998 qs11 q128 q999) rfl rfl rfl hdX5_is ⟨Nat.le_of_ble_eq_true rfl, Nat.le_of_ble_eq_true rfl⟩) (g_recv hE hk hH (ci := 9) (q := (RX5, TX5, 2)) rfl (chk_o ek3).choose_spec) rfl rfl hl.1 rfl rfl (lv_room (Nat.le_of_ble_eq_true rfl)) dX5_word_21 hH hS (by omega) (by omega) (fun H locs hH hS => ?_)
      have hkc : kc + c1 + c3 + c2_3 ≤ mc := by omega
      have hks : ks + n1 + n3 + n2_3 ≤ ms := by omega
      refine lv_if_eq (pc := 24) (tgt := 58) hx hb dX5_word_24 (by decide) (fun c4 => ?_) (fun c4 => ?_)
      · simp only [if_pos c4] at hf
        exact wX5_word_b58 hk hJ hst htb hc l0 l1 S3 _ _ ls _ _ _ _ hkc hks hH hS (lv_sub hl [0, 1] rfl) hf
      · simp only [if_neg c4] at hf
        refine lv_aload_n (pc := 27) hx hb dX5_word_27 rfl (lv_at hl 1 rfl) ?_
        refine lv_aload_n (pc := 28) hx hb dX5_word_28 rfl (lv_at hl 0 rfl) ?_
        obtain ⟨v5, e5, hf⟩ := bdJ hf
        refine g_get (pc := 29) (o := (some l0)) (a := l0) (ci := 9) (k := 1) (v := va_rf v5) (C := RX5) (T := TX5) (N := 2) hx hb hts hown hE hk hH in_X5 rfl (by decide) (hts _ q935) (fun _ h9 => h9) rfl (rdR_o e5) dX5_word_29 ?_
        obtain ⟨a6, ea6, hf⟩ := bdJ hf
        obtain ⟨v7, e7, hf⟩ := bdJ hf
        refine g_getN (pc := 32) (o := v5) (a := a6) (ci := 0) (k := 4) (v := va_rf v7) (C := RX0) (T := TX0) (N := 7) hx hb hts hown hE hk hH in_X0 rfl (by decide) (va_Nw.use rfl (hE.2.1.2.2.1 _ _ _ _ _ _ q276)) (fun _ h9 => h9) ea6 (rdR_o e7) dX5_word_32 ?_
        refine lv_aload_n (pc := 35) hx hb dX5_word_35 rfl (lv_at hl 0 rfl) ?_
        obtain ⟨v8, e8, hf⟩ := bdJ hf
        refine g_get (pc := 36) (o := (some l0)) (a := l0) (ci := 9) (k := 0) (v := .int v8) (C := RX5) (T := TX5) (N := 2) hx hb hts hown hE hk hH in_X5 rfl (by decide) (hts _ q934) (fun _ h9 => h9) rfl (rdI_o e8) dX5_word_36 ?_
        obtain ⟨a10, ea10, hf⟩ := bdJ hf
        obtain ⟨v11, e11, hf⟩ := bdJ hf
        refine g_iald (pc := 39) (o := v7) (a := a10) hx hb hE hk hH ea10 e11 dX5_word_39 ?_
        refine lv_i2c (pc := 40) hx hb dX5_word_40 rfl ?_
        obtain ⟨v12, S12, c12, n12, c2_12, n2_12, e12, hf, hC12, hN12⟩ := gbJ hf
        refine g_callV (pc := 41) (o := (some l1)) (b := l1) (As := [.int ((v11.toUInt32 % 65536).toInt32)]) (rest := []) (st1 := [va_rf v12]) hc (j_nSB_addC hJ l1 ((v11.toUInt32 % 65536).toInt32) S3 v12 S12 c12 n12 e12) (cwV 1 hts (lw_V q953 q954 q955 q118 q956) rfl rfl rfl hdJ15_append_3 ⟨Nat.le_of_ble_eq_true rfl, Nat.le_of_ble_eq_true rfl⟩) (j_recv hJ _ _ _ _ 4 _ _ hE hH hS (adtR (t := 4) (show bd _ _ = some _ from e12)).choose_spec) rfl rfl hl.1 rfl rfl (lv_room (Nat.le_of_ble_eq_true rfl)) dX5_word_41 hH hS (by omega) (by omega) (fun H locs hH hS => ?_)
        have hkc : kc + c1 + c3 + c12 + c2_12 ≤ mc := by omega
        have hks : ks + n1 + n3 + n12 + n2_12 ≤ ms := by omega
        refine lv_pop (pc := 44) hx hb dX5_word_44 (va_rf_cat _) ?_
        refine lv_aload_n (pc := 45) hx hb dX5_word_45 rfl (lv_at hl 0 rfl) ?_
        refine lv_dup (pc := 46) hx hb dX5_word_46 rfl ?_
        obtain ⟨v13, e13, hf⟩ := bdJ hf
        refine g_get (pc := 47) (o := (some l0)) (a := l0) (ci := 9) (k := 0) (v := .int v13) (C := RX5) (T := TX5) (N := 2) hx hb hts hown hE hk hH in_X5 rfl (by decide) (hts _ q934) (fun _ h9 => h9) rfl (rdI_o e13) dX5_word_47 ?_
        refine lv_iconst (pc := 50) (v := nI 1) hx hb dX5_word_50 rfl ?_
        refine lv_iadd (pc := 51) hx hb dX5_word_51 ?_
        obtain ⟨S14, e14, hf⟩ := bdJ hf
        refine g_put (pc := 52) (o := (some l0)) (a := l0) (ci := 9) (k := 0) (v := .int (v13 + (nI 1))) (C := RX5) (T := TX5) (N := 2) (ty := .int) hx hb hts hown hE hk hH hS rfl in_X5 tyX5_ok nmX5 rfl (by decide) (hts _ q934) (fun _ h9 => h9) rfl rfl rfl rfl rfl e14 dX5_word_52 (fun H locs hH hS => ?_)
        refine lv_goto (pc := 55) (tgt := 8) hx hb dX5_word_55 (by decide) ?_
        exact ih l0 l1 S14 _ _ ls _ _ _ _ hkc hks hH hS (lv_sub hl [0, 1] rfl) hf
def fX5_word (G : gG) (l0 : Nat) (S : gS) : gX (Option Nat) :=
  nw S (cO 19 [.null, .int 0, .int 0, .int 0]) 4 fun S1 =>
  gb (nSB_init S.2  S1) fun _ S2 =>
  fX5_word_b8 G FU l0 S.2 S2
theorem wX5_word_b0 (hk : rOK Rp) (hJ : JDK l G Rp) (hst : l.stackTraces = false) (htb : c.exceptionTable.toList = []) (hc : gC p s m args meth c G RX5 "word" cX5_word 2 (some (.object "java/lang/String"))) (l0 : Nat) (S : gS) (H : Heap) (locs : List Loc) (ls : Array Slot) (kc ks C N : Nat) (hkc : kc + C ≤ mc) (hks : ks + N ≤ ms) (hH : hp G Rp S H) (hS : va_S G.2.2.2 s.heap H locs) (hl : lv_has ls 2 [(0, .ref l0)]) (hf : (∀ j : Nat, oky C N (fX5_word G l0 S) P)) : W p l e (gR 15 540 mc ms) s m args below meth c H locs kc ks (gQJ below G Rp iR P args s mc ms) (F0 m 0 ls []) := by
  obtain ⟨hx, hb, hr, hlk, hml, hown, hts, hE, hA, hnm⟩ := hc
  have hc : gC p s m args meth c G RX5 "word" cX5_word 2 (some (.object "java/lang/String")) := ⟨hx, hb, hr, hlk, hml, hown, hts, hE, hA, hnm⟩
  simp only [fX5_word] at hf
  obtain ⟨S1, c2_1, n2_1, eS1, hf, hC1, hN1⟩ := nwJ hf
  refine g_newo (pc := 0) (ci := 19) (C := RJ15) (T := TJ15) (N := 4) (fs := [.null, .int 0, .int 0, .int 0]) hx hb hts hown hE hA hk hH hS in_J15 tyJ15_ok q951 q606 q118 rfl (fun j hj => by rcases (show j = 0 ∨ j = 1 ∨ j = 2 ∨ j = 3 by omega) with rfl | rfl | rfl | rfl <;> rfl) eS1 (Nat.le_trans (by omega) hkc) (Nat.le_trans (by omega) hks) dX5_word_0 (fun H hH hS => ?_)
  have hkc : kc + 1 + c2_1 ≤ mc := by omega
  have hks : ks + 4 + n2_1 ≤ ms := by omega
  refine lv_dup (pc := 3) hx hb dX5_word_3 rfl ?_
  obtain ⟨_, S2, c2, n2, c2_2, n2_2, e2, hf, hC2, hN2⟩ := gbJ hf
  refine g_callI (pc := 4) (o := (some S.2)) (b := S.2) (As := []) (rest := [.ref S.2]) hc (j_nSB_init hJ S.2  S1 () S2 c2 n2 e2) (cwI 0 hts (lw_meth q609) rfl rfl rfl (hts _ q118) (hts _ q952) (hts _ q608) rfl hdiJ15_init ⟨Nat.le_of_ble_eq_true rfl, Nat.le_of_ble_eq_true rfl⟩) rfl rfl hl.1 rfl (lv_room (Nat.le_of_ble_eq_true rfl)) dX5_word_4 hH hS (by omega) (by omega) (fun H locs hH hS => ?_)
  have hkc : kc + 1 + c2 + c2_2 ≤ mc := by omega
  have hks : ks + 4 + n2 + n2_2 ≤ ms := by omega
  refine lv_astore_n (pc := 7) (i := 1) (lv' := [(1, .ref S.2), (0, .ref l0)]) hx hb dX5_word_7 rfl hl (by decide) rfl (fun ls hl => ?_)
  exact wX5_word_b8 hk hJ hst htb hc FU l0 S.2 S2 _ _ ls _ _ _ _ hkc hks hH hS (lv_sub hl [1, 0] rfl) hf
theorem mX5_word {l : Launch} {G : gG} {Rp : gM → gM → Nat → Prop} (hk : rOK Rp) (hJ : JDK l G Rp) (hst : l.stackTraces = false) {S : gS} {C N : Nat} {l0 : Nat} {S2 : gS} {r2 : Option Nat ⊕ gTh} (hf : fX5_word G l0 S = some (r2, S2, C, N)) : gMetJ l yX5_word (ws_ yX5_word cX5_word 2 (some (.object "java/lang/String"))) 15 540 G Rp [.ref l0] S iR (fun r S9 => r2 = r ∧ S2 = S9) C N := by
  refine g_startJ (by decide) (Nat.le_of_ble_eq_true rfl) (fun p e s m args below meth c ls hc htb hl hH => ?_)
  have hl : lv_has ls 2 [(0, .ref l0)] := hl
  exact wX5_word_b0 hk hJ hst htb hc l0 S _ _ ls 0 0 C N (by omega) (by omega) hH va_S.rf (lv_sub hl [0] rfl) (fun _ => ⟨_, _, _, _, hf, Nat.le_refl _, Nat.le_refl _, rfl, rfl⟩)
end
section
variable {P : Option Nat ⊕ gTh → gS → Prop}
def fX5_part_b70 (G : gG) (l0 : Nat) (S : gS) : gX (Option Nat) :=
  bd (chk S l0 9) fun _ =>
  gb (fX5_word G l0 S) fun r1 S1 => match r1 with
  | .inl v1 =>
    some (.inl v1, S1, 0, 0)
  | .inr t1 => some (.inr t1, S1, 0, 0)
theorem wX5_part_b70 (hk : rOK Rp) (hJ : JDK l G Rp) (hst : l.stackTraces = false) (htb : c.exceptionTable.toList = []) (hc : gC p s m args meth c G RX5 "part" cX5_part 2 (some (.object "java/lang/String"))) (l0 : Nat) (S : gS) (H : Heap) (locs : List Loc) (ls : Array Slot) (kc ks C N : Nat) (hkc : kc + C ≤ mc) (hks : ks + N ≤ ms) (hH : hp G Rp S H) (hS : va_S G.2.2.2 s.heap H locs) (hl : lv_has ls 2 [(0, .ref l0)]) (hf : (∀ j : Nat, oky C N (fX5_part_b70 G l0 S) P)) : W p l e (gR 16 561 mc ms) s m args below meth c H locs kc ks (gQJ below G Rp iR P args s mc ms) (F0 m 70 ls []) := by
  obtain ⟨hx, hb, hr, hlk, hml, hown, hts, hE, hA, hnm⟩ := hc
  have hc : gC p s m args meth c G RX5 "part" cX5_part 2 (some (.object "java/lang/String")) := ⟨hx, hb, hr, hlk, hml, hown, hts, hE, hA, hnm⟩
  simp only [fX5_part_b70] at hf
  refine lv_aload_n (pc := 70) hx hb dX5_part_70 rfl (lv_at hl 0 rfl) ?_
  obtain ⟨_, ek1, hf⟩ := bdJ hf
  obtain ⟨r1, S1, c1, n1, c2_1, n2_1, e1, hf, hC1, hN1⟩ := gbJ hf
  refine g_callVJ (pc := 71) (ι := iR) (o := (some l0)) (b := l0) (As := []) (rest := []) hc (mX5_word hk hJ hst (l0 := l0) e1) (cwV 0 hts (lw_V q1002 q1004 qs12 q128 q1005) rfl rfl rfl hdX5_word ⟨Nat.le_of_ble_eq_true rfl, Nat.le_of_ble_eq_true rfl⟩) (g_recv hE hk hH (ci := 9) (q := (RX5, TX5, 2)) rfl (chk_o ek1).choose_spec) rfl rfl hl.1 rfl (lv_room (Nat.le_of_ble_eq_true rfl)) dX5_part_71 hH hS (by omega) (by omega) (fun v1 S9_1 H locs hP1 hH hS => ?_) (fun E1 x1 S9_1 q1 ce1 H locs hP1 hHx hS h1_1 h2_1 h3_1 => ?_)
  · obtain ⟨rfl, rfl⟩ := hP1
    try dsimp only at hf
    have hkc : kc + c1 + c2_1 ≤ mc := by omega
    have hks : ks + n1 + n2_1 ≤ ms := by omega
    refine W.eq (g2 := F0 m 74 ls [va_rf v1]) rfl ?_
    exact g_aretJ (pc := 74) (v := v1) hx hb hr (Or.inl ⟨_, rfl⟩) hlk hH hS hkc hks hf dX5_part_74
  · obtain ⟨rfl, rfl⟩ := hP1
    try dsimp only at hf
    have hkc : kc + c1 + c2_1 ≤ mc := by omega
    have hks : ks + n1 + n2_1 ≤ ms := by omega
    exact g_outJ (E := E1) (x := x1) (by rw [htb]; decide) hlk hHx hS (by omega) (by omega) h1_1 h2_1 h3_1 hf
def fX5_part_b26 (G : gG) (l0 : Nat) (S : gS) : gX (Option Nat) :=
  bd (rdI S l0 9 0) fun v1 =>
  bd (wr S l0 9 0 (.int (v1 + (nI 1)))) fun S2 =>
  nw S2 (cO 19 [.null, .int 0, .int 0, .int 0]) 4 fun S3 =>
  gb (nSB_init S2.2  S3) fun _ S4 =>
  gb (nSB_addS G S2.2 (some (G.2.2.1 3)) S4) fun v5 S5 =>
  bd (rdR S5 l0 9 1) fun v6 =>
  bd v6 fun a7 =>
  bd (rdR S5 a7 0 4) fun v8 =>
  bd (rdI S5 l0 9 0) fun v9 =>
  bd v8 fun a11 =>
  bd (rdAi S5 a11 0 (v9 - (nI 1))) fun v12 =>
  bd v5 fun a14 =>
  gb (nSB_addC a14 ((v12.toUInt32 % 65536).toInt32) S5) fun v13 S13 =>
  bd v13 fun a16 =>
  gb (nSB_str G a16  S13) fun v15 S15 =>
  some (.inl v15, S15, 0, 0)
theorem wX5_part_b26 (hk : rOK Rp) (hJ : JDK l G Rp) (hst : l.stackTraces = false) (htb : c.exceptionTable.toList = []) (hc : gC p s m args meth c G RX5 "part" cX5_part 2 (some (.object "java/lang/String"))) (l0 : Nat) (S : gS) (H : Heap) (locs : List Loc) (ls : Array Slot) (kc ks C N : Nat) (hkc : kc + C ≤ mc) (hks : ks + N ≤ ms) (hH : hp G Rp S H) (hS : va_S G.2.2.2 s.heap H locs) (hl : lv_has ls 2 [(0, .ref l0)]) (hf : (∀ j : Nat, oky C N (fX5_part_b26 G l0 S) P)) : W p l e (gR 16 561 mc ms) s m args below meth c H locs kc ks (gQJ below G Rp iR P args s mc ms) (F0 m 26 ls []) := by
  obtain ⟨hx, hb, hr, hlk, hml, hown, hts, hE, hA, hnm⟩ := hc
  have hc : gC p s m args meth c G RX5 "part" cX5_part 2 (some (.object "java/lang/String")) := ⟨hx, hb, hr, hlk, hml, hown, hts, hE, hA, hnm⟩
  simp only [fX5_part_b26] at hf
  refine lv_aload_n (pc := 26) hx hb dX5_part_26 rfl (lv_at hl 0 rfl) ?_
  refine lv_dup (pc := 27) hx hb dX5_part_27 rfl ?_
  obtain ⟨v1, e1, hf⟩ := bdJ hf
  refine g_get (pc := 28) (o := (some l0)) (a := l0) (ci := 9) (k := 0) (v := .int v1) (C := RX5) (T := TX5) (N := 2) hx hb hts hown hE hk hH in_X5 rfl (by decide) (hts _ q934) (fun _ h9 => h9) rfl (rdI_o e1) dX5_part_28 ?_
  refine lv_iconst (pc := 31) (v := nI 1) hx hb dX5_part_31 rfl ?_
  refine lv_iadd (pc := 32) hx hb dX5_part_32 ?_
  obtain ⟨S2, e2, hf⟩ := bdJ hf
  refine g_put (pc := 33) (o := (some l0)) (a := l0) (ci := 9) (k := 0) (v := .int (v1 + (nI 1))) (C := RX5) (T := TX5) (N := 2) (ty := .int) hx hb hts hown hE hk hH hS rfl in_X5 tyX5_ok nmX5 rfl (by decide) (hts _ q934) (fun _ h9 => h9) rfl rfl rfl rfl rfl e2 dX5_part_33 (fun H locs hH hS => ?_)
  obtain ⟨S3, c2_3, n2_3, eS3, hf, hC3, hN3⟩ := nwJ hf
  refine g_newo (pc := 36) (ci := 19) (C := RJ15) (T := TJ15) (N := 4) (fs := [.null, .int 0, .int 0, .int 0]) hx hb hts hown hE hA hk hH hS in_J15 tyJ15_ok q951 q606 q118 rfl (fun j hj => by rcases (show j = 0 ∨ j = 1 ∨ j = 2 ∨ j = 3 by omega) with rfl | rfl | rfl | rfl <;> rfl) eS3 (Nat.le_trans (by omega) hkc) (Nat.le_trans (by omega) hks) dX5_part_36 (fun H hH hS => ?_)
  have hkc : kc + 1 + c2_3 ≤ mc := by omega
  have hks : ks + 4 + n2_3 ≤ ms := by omega
  refine lv_dup (pc := 39) hx hb dX5_part_39 rfl ?_
  obtain ⟨_, S4, c4, n4, c2_4, n2_4, e4, hf, hC4, hN4⟩ := gbJ hf
  refine g_callI (pc := 40) (o := (some S2.2)) (b := S2.2) (As := []) (rest := [.ref S2.2]) hc (j_nSB_init hJ S2.2  S3 () S4 c4 n4 e4) (cwI 0 hts (lw_meth q609) rfl rfl rfl (hts _ q118) (hts _ q952) (hts _ q608) rfl hdiJ15_init ⟨Nat.le_of_ble_eq_true rfl, Nat.le_of_ble_eq_true rfl⟩) rfl rfl hl.1 rfl (lv_room (Nat.le_of_ble_eq_true rfl)) dX5_part_40 hH hS (by omega) (by omega) (fun H locs hH hS => ?_)
  have hkc : kc + 1 + c4 + c2_4 ≤ mc := by omega
  have hks : ks + 4 + n4 + n2_4 ≤ ms := by omega
  refine g_ldcS (pc := 43) hx hb hown hE.2.2.2.1.1 dX5_part_43 ?_
  obtain ⟨v5, S5, c5, n5, c2_5, n2_5, e5, hf, hC5, hN5⟩ := gbJ hf
  refine g_callV (pc := 45) (o := (some S2.2)) (b := S2.2) (As := [.ref (G.2.2.1 3)]) (rest := []) (st1 := [va_rf v5]) hc (j_nSB_addS hJ S2.2 (some (G.2.2.1 3)) S4 v5 S5 c5 n5 e5) (cwV 1 hts (lw_V q1001 q643 q644 q118 q645) rfl rfl rfl hdJ15_append ⟨Nat.le_of_ble_eq_true rfl, Nat.le_of_ble_eq_true rfl⟩) (j_recv hJ _ _ _ _ 4 _ _ hE hH hS (adtR (t := 4) (show bd _ _ = some _ from e5)).choose_spec) rfl rfl hl.1 rfl rfl (lv_room (Nat.le_of_ble_eq_true rfl)) dX5_part_45 hH hS (by omega) (by omega) (fun H locs hH hS => ?_)
  have hkc : kc + 1 + c4 + c5 + c2_5 ≤ mc := by omega
  have hks : ks + 4 + n4 + n5 + n2_5 ≤ ms := by omega
  refine lv_aload_n (pc := 48) hx hb dX5_part_48 rfl (lv_at hl 0 rfl) ?_
  obtain ⟨v6, e6, hf⟩ := bdJ hf
  refine g_get (pc := 49) (o := (some l0)) (a := l0) (ci := 9) (k := 1) (v := va_rf v6) (C := RX5) (T := TX5) (N := 2) hx hb hts hown hE hk hH in_X5 rfl (by decide) (hts _ q935) (fun _ h9 => h9) rfl (rdR_o e6) dX5_part_49 ?_
  obtain ⟨a7, ea7, hf⟩ := bdJ hf
  obtain ⟨v8, e8, hf⟩ := bdJ hf
  refine g_getN (pc := 52) (o := v6) (a := a7) (ci := 0) (k := 4) (v := va_rf v8) (C := RX0) (T := TX0) (N := 7) hx hb hts hown hE hk hH in_X0 rfl (by decide) (va_Nw.use rfl (hE.2.1.2.2.1 _ _ _ _ _ _ q276)) (fun _ h9 => h9) ea7 (rdR_o e8) dX5_part_52 ?_
  refine lv_aload_n (pc := 55) hx hb dX5_part_55 rfl (lv_at hl 0 rfl) ?_
  obtain ⟨v9, e9, hf⟩ := bdJ hf
  refine g_get (pc := 56) (o := (some l0)) (a := l0) (ci := 9) (k := 0) (v := .int v9) (C := RX5) (T := TX5) (N := 2) hx hb hts hown hE hk hH in_X5 rfl (by decide) (hts _ q934) (fun _ h9 => h9) rfl (rdI_o e9) dX5_part_56 ?_
  refine lv_iconst (pc := 59) (v := nI 1) hx hb dX5_part_59 rfl ?_
  refine lv_isub (pc := 60) hx hb dX5_part_60 ?_
  obtain ⟨a11, ea11, hf⟩ := bdJ hf
  obtain ⟨v12, e12, hf⟩ := bdJ hf
  refine g_iald (pc := 61) (o := v8) (a := a11) hx hb hE hk hH ea11 e12 dX5_part_61 ?_
  refine lv_i2c (pc := 62) hx hb dX5_part_62 rfl ?_
  obtain ⟨a14, ea14, hf⟩ := bdJ hf
  obtain ⟨v13, S13, c13, n13, c2_13, n2_13, e13, hf, hC13, hN13⟩ := gbJ hf
  refine g_callV (pc := 63) (o := v5) (b := a14) (As := [.int ((v12.toUInt32 % 65536).toInt32)]) (rest := []) (st1 := [va_rf v13]) hc (j_nSB_addC hJ a14 ((v12.toUInt32 % 65536).toInt32) S5 v13 S13 c13 n13 e13) (cwV 1 hts (lw_V q953 q954 q955 q118 q956) rfl rfl rfl hdJ15_append_3 ⟨Nat.le_of_ble_eq_true rfl, Nat.le_of_ble_eq_true rfl⟩) (j_recv hJ _ _ _ _ 4 _ _ hE hH hS (adtR (t := 4) (show bd _ _ = some _ from e13)).choose_spec) ea14 rfl hl.1 rfl rfl (lv_room (Nat.le_of_ble_eq_true rfl)) dX5_part_63 hH hS (by omega) (by omega) (fun H locs hH hS => ?_)
  have hkc : kc + 1 + c4 + c5 + c13 + c2_13 ≤ mc := by omega
  have hks : ks + 4 + n4 + n5 + n13 + n2_13 ≤ ms := by omega
  obtain ⟨a16, ea16, hf⟩ := bdJ hf
  obtain ⟨v15, S15, c15, n15, c2_15, n2_15, e15, hf, hC15, hN15⟩ := gbJ hf
  refine g_callV (pc := 66) (o := v13) (b := a16) (As := []) (rest := []) (st1 := [va_rf v15]) hc (j_nSB_str hJ a16  S13 v15 S15 c15 n15 e15) (cwV 0 hts (lw_V q975 q787 q788 q118 q789) rfl rfl rfl hdJ15_toString ⟨Nat.le_of_ble_eq_true rfl, Nat.le_of_ble_eq_true rfl⟩) (j_recv hJ _ _ _ _ 4 _ _ hE hH hS (adtR (t := 4) (show bd _ _ = some _ from e15)).choose_spec) ea16 rfl hl.1 rfl rfl (lv_room (Nat.le_of_ble_eq_true rfl)) dX5_part_66 hH hS (by omega) (by omega) (fun H locs hH hS => ?_)
  have hkc : kc + 1 + c4 + c5 + c13 + c15 + c2_15 ≤ mc := by omega
  have hks : ks + 4 + n4 + n5 + n13 + n15 + n2_15 ≤ ms := by omega
  exact g_aretJ (pc := 69) (v := v15) hx hb hr (Or.inl ⟨_, rfl⟩) hlk hH hS hkc hks hf dX5_part_69
def fX5_part (G : gG) (l0 : Nat) (l1 : Int32) (S : gS) : gX (Option Nat) :=
  if l1 = 0 then
    fX5_part_b70 G l0 S
  else
    bd (chk S l0 9) fun _ =>
    gb (fX5_is l0 (nI 42) (nI 42) S) fun v2 S2 =>
    if v2 = 0 then
      bd (chk S2 l0 9) fun _ =>
      gb (fX5_is l0 (nI 35) (nI 35) S2) fun v4 S4 =>
      if v4 = 0 then
        fX5_part_b70 G l0 S4
      else
        fX5_part_b26 G l0 S4
    else
      fX5_part_b26 G l0 S2
theorem wX5_part_b0 (hk : rOK Rp) (hJ : JDK l G Rp) (hst : l.stackTraces = false) (htb : c.exceptionTable.toList = []) (hc : gC p s m args meth c G RX5 "part" cX5_part 2 (some (.object "java/lang/String"))) (l0 : Nat) (l1 : Int32) (S : gS) (H : Heap) (locs : List Loc) (ls : Array Slot) (kc ks C N : Nat) (hkc : kc + C ≤ mc) (hks : ks + N ≤ ms) (hH : hp G Rp S H) (hS : va_S G.2.2.2 s.heap H locs) (hl : lv_has ls 2 [(0, .ref l0), (1, .int l1)]) (hf : (∀ j : Nat, oky C N (fX5_part G l0 l1 S) P)) : W p l e (gR 16 561 mc ms) s m args below meth c H locs kc ks (gQJ below G Rp iR P args s mc ms) (F0 m 0 ls []) := by
  obtain ⟨hx, hb, hr, hlk, hml, hown, hts, hE, hA, hnm⟩ := hc
  have hc : gC p s m args meth c G RX5 "part" cX5_part 2 (some (.object "java/lang/String")) := ⟨hx, hb, hr, hlk, hml, hown, hts, hE, hA, hnm⟩
  simp only [fX5_part] at hf
  refine lv_iload_n (pc := 0) hx hb dX5_part_0 rfl (lv_at hl 1 rfl) ?_
  refine lv_if_eq (pc := 1) (tgt := 70) hx hb dX5_part_1 (by decide) (fun c1 => ?_) (fun c1 => ?_)
  · simp only [if_pos c1] at hf
    exact wX5_part_b70 hk hJ hst htb hc l0 S _ _ ls _ _ _ _ hkc hks hH hS (lv_sub hl [0] rfl) hf
  · simp only [if_neg c1] at hf
    refine lv_aload_n (pc := 4) hx hb dX5_part_4 rfl (lv_at hl 0 rfl) ?_
    refine lv_bipush (pc := 5) (v := nI 42) hx hb dX5_part_5 gkb42 ?_
    refine lv_bipush (pc := 7) (v := nI 42) hx hb dX5_part_7 gkb42 ?_
    obtain ⟨_, ek2, hf⟩ := bdJ hf
    obtain ⟨v2, S2, c2, n2, c2_2, n2_2, e2, hf, hC2, hN2⟩ := gbJ hf
    refine g_callV (pc := 9) (o := (some l0)) (b := l0) (As := [.int (nI 42), .int (nI 42)]) (rest := []) (st1 := [.int v2]) hc (mX5_is hk hJ (l0 := l0) (l1 := (nI 42)) (l2 := (nI 42)) e2) (cwV 2 hts (lw_V q996 q998 qs11 q128 q999) rfl rfl rfl hdX5_is ⟨Nat.le_of_ble_eq_true rfl, Nat.le_of_ble_eq_true rfl⟩) (g_recv hE hk hH (ci := 9) (q := (RX5, TX5, 2)) rfl (chk_o ek2).choose_spec) rfl rfl hl.1 rfl rfl (lv_room (Nat.le_of_ble_eq_true rfl)) dX5_part_9 hH hS (by omega) (by omega) (fun H locs hH hS => ?_)
    have hkc : kc + c2 + c2_2 ≤ mc := by omega
    have hks : ks + n2 + n2_2 ≤ ms := by omega
    refine lv_if_ne (pc := 12) (tgt := 26) hx hb dX5_part_12 (by decide) (fun c3 => ?_) (fun c3 => ?_)
    · simp only [if_neg c3] at hf
      exact wX5_part_b26 hk hJ hst htb hc l0 S2 _ _ ls _ _ _ _ hkc hks hH hS (lv_sub hl [0] rfl) hf
    · simp only [if_pos c3] at hf
      refine lv_aload_n (pc := 15) hx hb dX5_part_15 rfl (lv_at hl 0 rfl) ?_
      refine lv_bipush (pc := 16) (v := nI 35) hx hb dX5_part_16 gkb35 ?_
      refine lv_bipush (pc := 18) (v := nI 35) hx hb dX5_part_18 gkb35 ?_
      obtain ⟨_, ek4, hf⟩ := bdJ hf
      obtain ⟨v4, S4, c4, n4, c2_4, n2_4, e4, hf, hC4, hN4⟩ := gbJ hf
      refine g_callV (pc := 20) (o := (some l0)) (b := l0) (As := [.int (nI 35), .int (nI 35)]) (rest := []) (st1 := [.int v4]) hc (mX5_is hk hJ (l0 := l0) (l1 := (nI 35)) (l2 := (nI 35)) e4) (cwV 2 hts (lw_V q996 q998 qs11 q128 q999) rfl rfl rfl hdX5_is ⟨Nat.le_of_ble_eq_true rfl, Nat.le_of_ble_eq_true rfl⟩) (g_recv hE hk hH (ci := 9) (q := (RX5, TX5, 2)) rfl (chk_o ek4).choose_spec) rfl rfl hl.1 rfl rfl (lv_room (Nat.le_of_ble_eq_true rfl)) dX5_part_20 hH hS (by omega) (by omega) (fun H locs hH hS => ?_)
      have hkc : kc + c2 + c4 + c2_4 ≤ mc := by omega
      have hks : ks + n2 + n4 + n2_4 ≤ ms := by omega
      refine lv_if_eq (pc := 23) (tgt := 70) hx hb dX5_part_23 (by decide) (fun c5 => ?_) (fun c5 => ?_)
      · simp only [if_pos c5] at hf
        exact wX5_part_b70 hk hJ hst htb hc l0 S4 _ _ ls _ _ _ _ hkc hks hH hS (lv_sub hl [0] rfl) hf
      · simp only [if_neg c5] at hf
        exact wX5_part_b26 hk hJ hst htb hc l0 S4 _ _ ls _ _ _ _ hkc hks hH hS (lv_sub hl [0] rfl) hf
theorem mX5_part {l : Launch} {G : gG} {Rp : gM → gM → Nat → Prop} (hk : rOK Rp) (hJ : JDK l G Rp) (hst : l.stackTraces = false) {S : gS} {C N : Nat} {l0 : Nat} {l1 : Int32} {S2 : gS} {r2 : Option Nat ⊕ gTh} (hf : fX5_part G l0 l1 S = some (r2, S2, C, N)) : gMetJ l yX5_part (ws_ yX5_part cX5_part 2 (some (.object "java/lang/String"))) 16 561 G Rp [.ref l0, .int l1] S iR (fun r S9 => r2 = r ∧ S2 = S9) C N := by
  refine g_startJ (by decide) (Nat.le_of_ble_eq_true rfl) (fun p e s m args below meth c ls hc htb hl hH => ?_)
  have hl : lv_has ls 2 [(0, .ref l0), (1, .int l1)] := hl
  exact wX5_part_b0 hk hJ hst htb hc l0 l1 S _ _ ls 0 0 C N (by omega) (by omega) hH va_S.rf (lv_sub hl [0, 1] rfl) (fun _ => ⟨_, _, _, _, hf, Nat.le_refl _, Nat.le_refl _, rfl, rfl⟩)
end
section
variable {r : Unit} {Sf : gS}
def fX6_adds (G : gG) (l0 : Nat) (l1 : Option Nat) (S : gS) : gO Unit :=
  bd l1 fun a2 =>
  gb (nSt_eq a2 (some (G.2.2.1 4)) S) fun v1 S1 =>
  if v1 = 0 then
    bd (rdR S1 l0 8 1) fun v4 =>
    bd v4 fun a6 =>
    gb (nAL_add a6 l1 S1) fun v5 S5 =>
    some ((), S5, 0, 0)
  else
    bd (wrz S1 l0 8 2 (nI 1)) fun S7 =>
    some ((), S7, 0, 0)
theorem wX6_adds_b0 (hk : rOK Rp) (hJ : JDK l G Rp) (hc : gC p s m args meth c G RX6 "adds" cX6_adds 2 (none)) (l0 : Nat) (l1 : Option Nat) (S : gS) (H : Heap) (locs : List Loc) (ls : Array Slot) (kc ks C N : Nat) (hkc : kc + C ≤ mc) (hks : ks + N ≤ ms) (hH : hp G Rp S H) (hS : va_S G.2.2.2 s.heap H locs) (hl : lv_has ls 2 [(0, .ref l0), (1, va_rf l1)]) (hf : fX6_adds G l0 l1 S = some (r, Sf, C, N)) : W p l e (gR 15 540 mc ms) s m args below meth c H locs kc ks (gQ below G Rp none Sf args s mc ms) (F0 m 0 ls []) := by
  obtain ⟨hx, hb, hr, hlk, hml, hown, hts, hE, hA, hnm⟩ := hc
  have hc : gC p s m args meth c G RX6 "adds" cX6_adds 2 (none) := ⟨hx, hb, hr, hlk, hml, hown, hts, hE, hA, hnm⟩
  unfold fX6_adds at hf
  refine g_aload_n (pc := 0) (o := l1) hx hb dX6_adds_0 rfl (lv_at hl 1 rfl) ?_
  refine g_ldcS (pc := 1) hx hb hown hE.2.2.2.1.2.2.1 dX6_adds_1 ?_
  obtain ⟨a2, ea2, hf⟩ := bdo hf
  obtain ⟨v1, S1, c1, n1, c2_1, n2_1, e1, hf, hC1, hN1⟩ := gbo hf
  refine g_callV (pc := 3) (o := l1) (b := a2) (As := [.ref (G.2.2.1 4)]) (rest := []) (st1 := [.int v1]) hc (j_nSt_eq hJ a2 (some (G.2.2.1 4)) S v1 S1 c1 n1 e1) (cwV 1 hts (lw_V q1031 q1032 q1033 q110 q1034) rfl rfl rfl hdJ9_equals ⟨Nat.le_of_ble_eq_true rfl, Nat.le_of_ble_eq_true rfl⟩) (j_recv hJ _ _ _ _ 5 _ _ hE hH hS (adtR (t := 5) (show bd _ _ = some _ from e1)).choose_spec) ea2 rfl hl.1 rfl rfl (lv_room (Nat.le_of_ble_eq_true rfl)) dX6_adds_3 hH hS (by omega) (by omega) (fun H locs hH hS => ?_)
  have hkc : kc + c1 + c2_1 ≤ mc := by omega
  have hks : ks + n1 + n2_1 ≤ ms := by omega
  refine lv_if_eq (pc := 6) (tgt := 17) hx hb dX6_adds_6 (by decide) (fun c3 => ?_) (fun c3 => ?_)
  · rw [if_pos c3] at hf
    refine lv_aload_n (pc := 17) hx hb dX6_adds_17 rfl (lv_at hl 0 rfl) ?_
    obtain ⟨v4, e4, hf⟩ := bdo hf
    refine g_get (pc := 18) (o := (some l0)) (a := l0) (ci := 8) (k := 1) (v := va_rf v4) (C := RX6) (T := TX6) (N := 3) hx hb hts hown hE hk hH in_X6 rfl (by decide) (hts _ q983) (fun _ h9 => h9) rfl (rdR_o e4) dX6_adds_18 ?_
    refine g_aload_n (pc := 21) (o := l1) hx hb dX6_adds_21 rfl (lv_at hl 1 rfl) ?_
    obtain ⟨a6, ea6, hf⟩ := bdo hf
    obtain ⟨v5, S5, c5, n5, c2_5, n2_5, e5, hf, hC5, hN5⟩ := gbo hf
    refine g_callV (pc := 22) (o := v4) (b := a6) (As := [va_rf l1]) (rest := []) (st1 := [.int v5]) hc (j_nAL_add hJ a6 l1 S1 v5 S5 c5 n5 e5) (cwV 1 hts (lw_V q1039 q1040 q1041 q101 q1042) rfl rfl rfl hdJ2_add ⟨Nat.le_of_ble_eq_true rfl, Nat.le_of_ble_eq_true rfl⟩) (j_recv hJ _ _ _ _ 0 _ _ hE hH hS (adtR (t := 0) (show bd _ _ = some _ from e5)).choose_spec) ea6 rfl hl.1 rfl rfl (lv_room (Nat.le_of_ble_eq_true rfl)) dX6_adds_22 hH hS (by omega) (by omega) (fun H locs hH hS => ?_)
    have hkc : kc + c1 + c5 + c2_5 ≤ mc := by omega
    have hks : ks + n1 + n5 + n2_5 ≤ ms := by omega
    refine lv_pop (pc := 25) hx hb dX6_adds_25 rfl ?_
    exact g_vret (pc := 26) hx hb hr hlk hH hS hkc hks hf dX6_adds_26
  · rw [if_neg c3] at hf
    refine lv_aload_n (pc := 9) hx hb dX6_adds_9 rfl (lv_at hl 0 rfl) ?_
    refine lv_iconst (pc := 10) (v := nI 1) hx hb dX6_adds_10 rfl ?_
    obtain ⟨S7, e7, hf⟩ := bdo hf
    refine g_put (pc := 11) (o := (some l0)) (a := l0) (ci := 8) (k := 2) (v := .int (nI 1)) (C := RX6) (T := TX6) (N := 3) (ty := .boolean) hx hb hts hown hE hk hH hS rfl in_X6 tyX6_ok nmX6 rfl (by decide) (hts _ q984) (fun _ h9 => h9) rfl rfl (nar_z (wrz_o e7).1) (fit_z (wrz_o e7).1) rfl (wrz_o e7).2 dX6_adds_11 (fun H locs hH hS => ?_)
    refine lv_goto (pc := 14) (tgt := 26) hx hb dX6_adds_14 (by decide) ?_
    exact g_vret (pc := 26) hx hb hr hlk hH hS hkc hks hf dX6_adds_26
theorem mX6_adds {l : Launch} {G : gG} {Rp : gM → gM → Nat → Prop} (hk : rOK Rp) (hJ : JDK l G Rp) {S S2 : gS} {r2 : Unit} {C N : Nat} {l0 : Nat} {l1 : Option Nat} (hf : fX6_adds G l0 l1 S = some (r2, S2, C, N)) : gMet l yX6_adds cX6_adds 2 (none) 15 540 G Rp [.ref l0, va_rf l1] S none S2 C N := by
  refine g_start (by decide) (by simp [lg_sl, va_rf_cat, cat_i, cat_j, cat_r]) (fun p e s m args below meth c ls hc hl hH => ?_)
  have hl : lv_has ls 2 [(0, .ref l0), (1, va_rf l1)] := by simpa [lv_args, va_rf_cat, cat_i, cat_j, cat_r] using hl
  exact wX6_adds_b0 hk hJ hc l0 l1 S _ _ ls 0 0 C N (by omega) (by omega) hH va_S.rf (lv_sub hl [0, 1] rfl) hf
end
end
