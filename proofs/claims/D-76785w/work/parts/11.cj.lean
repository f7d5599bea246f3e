/-! printed by gen/cgen.py: methods of the component, lifted and walked (10) -/
set_option maxRecDepth 100000
set_option maxHeartbeats 4000000
section
variable {p : Program} {l : Launch} {e : Env} {s : State} {m : MethodId} {args : Array Value} {below : List Frame} {meth : Method} {c : Code} {G : gG} {Rp : gM → gM → Nat → Prop} {mc ms : Nat}
section
variable {r : Int32} {Sf : gS}
def fX0_shelved_b4 : Nat → Nat → Int32 → Int32 → gS → gO Int32
  | 0, _, _, _, _ => none
  | n + 1, l0, l1, l2, S =>
    if (nI 8) ≤ l2 then
      some (l1, S, 0, 0)
    else
      bd (rdR S l0 0 3) fun v2 =>
      bd v2 fun a3 =>
      bd (rdAq S a3 6 l2) fun v4 =>
      bd v4 fun a5 =>
      bd (rdR S a5 2 0) fun v6 =>
      if v6 = none then
        fX0_shelved_b4 n l0 (l1 + (nI 0)) (l2 + (nI 1)) S
      else
        fX0_shelved_b4 n l0 (l1 + (nI 1)) (l2 + (nI 1)) S
theorem wX0_shelved_b4 (hk : rOK Rp) (hJ : JDK l G Rp) (hc : gC p s m args meth c G RX0 "shelved" cX0_shelved 3 (some .int)) : ∀ (n : Nat) (l0 : Nat) (l1 : Int32) (l2 : Int32) (S : gS) (H : Heap) (locs : List Loc) (ls : Array Slot) (kc ks C N : Nat), kc + C ≤ mc → ks + N ≤ ms → hp G Rp S H → va_S G.2.2.2 s.heap H locs → lv_has ls 3 [(0, .ref l0), (1, .int l1), (2, .int l2)] → fX0_shelved_b4 n l0 l1 l2 S = some (r, Sf, C, N) → W p l e (gR 1 40 mc ms) s m args below meth c H locs kc ks (gQ below G Rp (some (.int r)) Sf args s mc ms) (F0 m 4 ls []) := by
  obtain ⟨hx, hb, hr, hlk, hml, hown, hts, hE, hA, hnm⟩ := hc
  have hc : gC p s m args meth c G RX0 "shelved" cX0_shelved 3 (some .int) := ⟨hx, hb, hr, hlk, hml, hown, hts, hE, hA, hnm⟩
  intro n
  induction n with
  | zero => intro l0 l1 l2 S H locs ls kc ks C N _ _ _ _ _ hf; exact absurd hf (fun h => by cases h)
  | succ n ih =>
    intro l0 l1 l2 S H locs ls kc ks C N hkc hks hH hS hl hf
    rw [fX0_shelved_b4] at hf
    refine lv_iload_n (pc := 4) hx hb dX0_shelved_4 rfl (lv_at hl 2 rfl) ?_
    refine lv_bipush (pc := 5) (v := nI 8) hx hb dX0_shelved_5 gkb8 ?_
    refine lv_icmp_ge (pc := 7) (tgt := 36) hx hb dX0_shelved_7 (by decide) (fun c1 => ?_) (fun c1 => ?_)
    · rw [if_pos c1] at hf
      refine lv_iload_n (pc := 36) hx hb dX0_shelved_36 rfl (lv_at hl 1 rfl) ?_
      exact g_iret (pc := 37) hx hb hr hlk hH hS hkc hks hf dX0_shelved_37
    · rw [if_neg c1] at hf
      refine lv_iload_n (pc := 10) hx hb dX0_shelved_10 rfl (lv_at hl 1 rfl) ?_
      refine lv_aload_n (pc := 11) hx hb dX0_shelved_11 rfl (lv_at hl 0 rfl) ?_
      obtain ⟨v2, e2, hf⟩ := bdo hf
      refine g_get (pc := 12) (o := (some l0)) (a := l0) (ci := 0) (k := 3) (v := va_rf v2) (C := RX0) (T := TX0) (N := 7) hx hb hts hown hE hk hH in_X0 rfl (by decide) (hts _ q275) (fun _ h9 => h9) rfl (rdR_o e2) dX0_shelved_12 ?_
      refine lv_iload_n (pc := 15) hx hb dX0_shelved_15 rfl (lv_at hl 2 rfl) ?_
      obtain ⟨a3, ea3, hf⟩ := bdo hf
      obtain ⟨v4, e4, hf⟩ := bdo hf
      refine g_aald (pc := 16) (o := v2) (a := a3) (t := 6) (t0 := 6) hx hb hE hk hH rfl ea3 e4 dX0_shelved_16 ?_
      obtain ⟨a5, ea5, hf⟩ := bdo hf
      obtain ⟨v6, e6, hf⟩ := bdo hf
      refine g_get (pc := 17) (o := v4) (a := a5) (ci := 2) (k := 0) (v := va_rf v6) (C := RX2) (T := TX2) (N := 1) hx hb hts hown hE hk hH in_X2 rfl (by decide) (hts _ q267) (fun _ h9 => h9) ea5 (rdR_o e6) dX0_shelved_17 ?_
      refine g_ifnull (pc := 20) (o := v6) (tgt := 27) hx hb dX0_shelved_20 (by decide) (fun c7 => ?_) (fun c7 => ?_)
      · rw [if_pos c7] at hf
        refine lv_iconst (pc := 27) (v := nI 0) hx hb dX0_shelved_27 rfl ?_
        refine lv_iadd (pc := 28) hx hb dX0_shelved_28 ?_
        refine lv_istore_n (pc := 29) (i := 1) (lv' := [(1, .int (l1 + (nI 0))), (0, .ref l0), (2, .int l2)]) hx hb dX0_shelved_29 rfl hl (by decide) rfl (fun ls hl => ?_)
        refine lv_iinc (pc := 30) (v := l2 + (nI 1)) (lv' := [(2, .int (l2 + (nI 1))), (1, .int (l1 + (nI 0))), (0, .ref l0)]) hx hb dX0_shelved_30 hl (k := 2) rfl rfl (by decide) rfl (fun ls hl => ?_)
        refine lv_goto (pc := 33) (tgt := 4) hx hb dX0_shelved_33 (by decide) ?_
        exact ih l0 (l1 + (nI 0)) (l2 + (nI 1)) S _ _ ls _ _ _ _ hkc hks hH hS (lv_sub hl [2, 1, 0] rfl) hf
      · rw [if_neg c7] at hf
        refine lv_iconst (pc := 23) (v := nI 1) hx hb dX0_shelved_23 rfl ?_
        refine lv_goto (pc := 24) (tgt := 28) hx hb dX0_shelved_24 (by decide) ?_
        refine lv_iadd (pc := 28) hx hb dX0_shelved_28 ?_
        refine lv_istore_n (pc := 29) (i := 1) (lv' := [(1, .int (l1 + (nI 1))), (0, .ref l0), (2, .int l2)]) hx hb dX0_shelved_29 rfl hl (by decide) rfl (fun ls hl => ?_)
        refine lv_iinc (pc := 30) (v := l2 + (nI 1)) (lv' := [(2, .int (l2 + (nI 1))), (1, .int (l1 + (nI 1))), (0, .ref l0)]) hx hb dX0_shelved_30 hl (k := 2) rfl rfl (by decide) rfl (fun ls hl => ?_)
        refine lv_goto (pc := 33) (tgt := 4) hx hb dX0_shelved_33 (by decide) ?_
        exact ih l0 (l1 + (nI 1)) (l2 + (nI 1)) S _ _ ls _ _ _ _ hkc hks hH hS (lv_sub hl [2, 1, 0] rfl) hf
def fX0_shelved (l0 : Nat) (S : gS) : gO Int32 :=
  fX0_shelved_b4 FU l0 (nI 0) (nI 0) S
theorem wX0_shelved_b0 (hk : rOK Rp) (hJ : JDK l G Rp) (hc : gC p s m args meth c G RX0 "shelved" cX0_shelved 3 (some .int)) (l0 : Nat) (S : gS) (H : Heap) (locs : List Loc) (ls : Array Slot) (kc ks C N : Nat) (hkc : kc + C ≤ mc) (hks : ks + N ≤ ms) (hH : hp G Rp S H) (hS : va_S G.2.2.2 s.heap H locs) (hl : lv_has ls 3 [(0, .ref l0)]) (hf : fX0_shelved l0 S = some (r, Sf, C, N)) : W p l e (gR 1 40 mc ms) s m args below meth c H locs kc ks (gQ below G Rp (some (.int r)) Sf args s mc ms) (F0 m 0 ls []) := by
  obtain ⟨hx, hb, hr, hlk, hml, hown, hts, hE, hA, hnm⟩ := hc
  have hc : gC p s m args meth c G RX0 "shelved" cX0_shelved 3 (some .int) := ⟨hx, hb, hr, hlk, hml, hown, hts, hE, hA, hnm⟩
  unfold fX0_shelved at hf
  refine lv_iconst (pc := 0) (v := nI 0) hx hb dX0_shelved_0 rfl ?_
  refine lv_istore_n (pc := 1) (i := 1) (lv' := [(1, .int (nI 0)), (0, .ref l0)]) hx hb dX0_shelved_1 rfl hl (by decide) rfl (fun ls hl => ?_)
  refine lv_iconst (pc := 2) (v := nI 0) hx hb dX0_shelved_2 rfl ?_
  refine lv_istore_n (pc := 3) (i := 2) (lv' := [(2, .int (nI 0)), (1, .int (nI 0)), (0, .ref l0)]) hx hb dX0_shelved_3 rfl hl (by decide) rfl (fun ls hl => ?_)
  exact wX0_shelved_b4 hk hJ hc FU l0 (nI 0) (nI 0) S _ _ ls _ _ _ _ hkc hks hH hS (lv_sub hl [2, 1, 0] rfl) hf
theorem mX0_shelved {l : Launch} {G : gG} {Rp : gM → gM → Nat → Prop} (hk : rOK Rp) (hJ : JDK l G Rp) {S S2 : gS} {r2 : Int32} {C N : Nat} {l0 : Nat} (hf : fX0_shelved l0 S = some (r2, S2, C, N)) : gMet l yX0_shelved cX0_shelved 3 (some .int) 1 40 G Rp [.ref l0] S (some (.int r2)) S2 C N := by
  refine g_start (by decide) (Nat.le_of_ble_eq_true rfl) (fun p e s m args below meth c ls hc hl hH => ?_)
  have hl : lv_has ls 3 [(0, .ref l0)] := hl
  exact wX0_shelved_b0 hk hJ hc l0 S _ _ ls 0 0 C N (by omega) (by omega) hH va_S.rf (lv_sub hl [0] rfl) hf
end
section
variable {r : Int32} {Sf : gS}
def fX0_show_b21 (l0 : Nat) (S : gS) : gO Int32 :=
  bd (chk S l0 0) fun _ =>
  gb (fX0_no l0 (-82) S) fun v1 S1 =>
  some (v1, S1, 0, 0)
theorem wX0_show_b21 (hk : rOK Rp) (hJ : JDK l G Rp) (hc : gC p s m args meth c G RX0 "show" cX0_show 4 (some .int)) (l0 : Nat) (S : gS) (H : Heap) (locs : List Loc) (ls : Array Slot) (kc ks C N : Nat) (hkc : kc + C ≤ mc) (hks : ks + N ≤ ms) (hH : hp G Rp S H) (hS : va_S G.2.2.2 s.heap H locs) (hl : lv_has ls 4 [(0, .ref l0)]) (hf : fX0_show_b21 l0 S = some (r, Sf, C, N)) : W p l e (gR 65 1405 mc ms) s m args below meth c H locs kc ks (gQ below G Rp (some (.int r)) Sf args s mc ms) (F0 m 21 ls []) := by
  obtain ⟨hx, hb, hr, hlk, hml, hown, hts, hE, hA, hnm⟩ := hc
  have hc : gC p s m args meth c G RX0 "show" cX0_show 4 (some .int) := ⟨hx, hb, hr, hlk, hml, hown, hts, hE, hA, hnm⟩
  unfold fX0_show_b21 at hf
  refine lv_aload_n (pc := 21) hx hb dX0_show_21 rfl (lv_at hl 0 rfl) ?_
  refine lv_bipush (pc := 22) (v := -82) hx hb dX0_show_22 gkbm82 ?_
  obtain ⟨_, ek1, hf⟩ := bdo hf
  obtain ⟨v1, S1, c1, n1, c2_1, n2_1, e1, hf, hC1, hN1⟩ := gbo hf
  refine g_callV (pc := 24) (o := (some l0)) (b := l0) (As := [.int (-82)]) (rest := []) (st1 := [.int v1]) hc (mX0_no hk hJ (l0 := l0) (l1 := (-82)) e1) (cwV 1 hts (lw_V q398 q400 qs2 q97 q401) rfl rfl rfl hdX0_no ⟨Nat.le_of_ble_eq_true rfl, Nat.le_of_ble_eq_true rfl⟩) (g_recv hE hk hH (ci := 0) (q := (RX0, TX0, 7)) rfl (chk_o ek1).choose_spec) rfl rfl hl.1 rfl rfl (lv_room (Nat.le_of_ble_eq_true rfl)) dX0_show_24 hH hS (by omega) (by omega) (fun H locs hH hS => ?_)
  have hkc : kc + c1 + c2_1 ≤ mc := by omega
  have hks : ks + n1 + n2_1 ≤ ms := by omega
  exact g_iret (pc := 27) hx hb hr hlk hH hS hkc hks hf dX0_show_27
def fX0_show_b28 (l0 : Nat) (l1 : Int32) (l2 : Int32) (l3 : Int32) (S : gS) : gO Int32 :=
  bd (rdR S l0 0 3) fun v1 =>
  bd v1 fun a2 =>
  bd (rdAq S a2 6 l1) fun v3 =>
  if l2 = (-1) then
    bd v3 fun a17 =>
    bd (wr S a17 2 0 (.null)) fun S18 =>
    some (nI 1, S18, 0, 0)
  else
    bd (rdR S l0 0 0) fun v5 =>
    bd v5 fun a6 =>
    bd (rdR S a6 1 3) fun v7 =>
    bd v7 fun a9 =>
    gb (nLL_get a9 l2 S) fun v8 S8 =>
    bd (ckc S8 v8 7) fun _ =>
    bd v8 fun a11 =>
    bd (rdR S8 a11 7 3) fun v12 =>
    bd v12 fun a14 =>
    bd (ckP S8 (some a14) 0) fun _ =>
    gb (fX12_link LK a14 l3 S8) fun v13 S13 =>
    bd v3 fun a15 =>
    bd (wr S13 a15 2 0 (va_rf v13)) fun S16 =>
    some (nI 1, S16, 0, 0)
theorem wX0_show_b28 (hk : rOK Rp) (hJ : JDK l G Rp) (hc : gC p s m args meth c G RX0 "show" cX0_show 4 (some .int)) (l0 : Nat) (l1 : Int32) (l2 : Int32) (l3 : Int32) (S : gS) (H : Heap) (locs : List Loc) (ls : Array Slot) (kc ks C N : Nat) (hkc : kc + C ≤ mc) (hks : ks + N ≤ ms) (hH : hp G Rp S H) (hS : va_S G.2.2.2 s.heap H locs) (hl : lv_has ls 4 [(0, .ref l0), (1, .int l1), (2, .int l2), (3, .int l3)]) (hf : fX0_show_b28 l0 l1 l2 l3 S = some (r, Sf, C, N)) : W p l e (gR 65 1405 mc ms) s m args below meth c H locs kc ks (gQ below G Rp (some (.int r)) Sf args s mc ms) (F0 m 28 ls []) := by
  obtain ⟨hx, hb, hr, hlk, hml, hown, hts, hE, hA, hnm⟩ := hc
  have hc : gC p s m args meth c G RX0 "show" cX0_show 4 (some .int) := ⟨hx, hb, hr, hlk, hml, hown, hts, hE, hA, hnm⟩
  unfold fX0_show_b28 at hf
  refine lv_aload_n (pc := 28) hx hb dX0_show_28 rfl (lv_at hl 0 rfl) ?_
  obtain ⟨v1, e1, hf⟩ := bdo hf
  refine g_get (pc := 29) (o := (some l0)) (a := l0) (ci := 0) (k := 3) (v := va_rf v1) (C := RX0) (T := TX0) (N := 7) hx hb hts hown hE hk hH in_X0 rfl (by decide) (hts _ q275) (fun _ h9 => h9) rfl (rdR_o e1) dX0_show_29 ?_
  refine lv_iload_n (pc := 32) hx hb dX0_show_32 rfl (lv_at hl 1 rfl) ?_
  obtain ⟨a2, ea2, hf⟩ := bdo hf
  obtain ⟨v3, e3, hf⟩ := bdo hf
  refine g_aald (pc := 33) (o := v1) (a := a2) (t := 6) (t0 := 6) hx hb hE hk hH rfl ea2 e3 dX0_show_33 ?_
  refine lv_iload_n (pc := 34) hx hb dX0_show_34 rfl (lv_at hl 2 rfl) ?_
  refine lv_iconst (pc := 35) (v := -1) hx hb dX0_show_35 rfl ?_
  refine lv_icmp_ne (pc := 36) (tgt := 43) hx hb dX0_show_36 (by decide) (fun c4 => ?_) (fun c4 => ?_)
  · rw [if_neg c4] at hf
    refine lv_aload_n (pc := 43) hx hb dX0_show_43 rfl (lv_at hl 0 rfl) ?_
    obtain ⟨v5, e5, hf⟩ := bdo hf
    refine g_get (pc := 44) (o := (some l0)) (a := l0) (ci := 0) (k := 0) (v := va_rf v5) (C := RX0) (T := TX0) (N := 7) hx hb hts hown hE hk hH in_X0 rfl (by decide) (hts _ q272) (fun _ h9 => h9) rfl (rdR_o e5) dX0_show_44 ?_
    obtain ⟨a6, ea6, hf⟩ := bdo hf
    obtain ⟨v7, e7, hf⟩ := bdo hf
    refine g_get (pc := 47) (o := v5) (a := a6) (ci := 1) (k := 3) (v := va_rf v7) (C := RX1) (T := TX1) (N := 7) hx hb hts hown hE hk hH in_X1 rfl (by decide) (hts _ q238) (fun _ h9 => h9) ea6 (rdR_o e7) dX0_show_47 ?_
    refine lv_iload_n (pc := 50) hx hb dX0_show_50 rfl (lv_at hl 2 rfl) ?_
    obtain ⟨a9, ea9, hf⟩ := bdo hf
    obtain ⟨v8, S8, c8, n8, c2_8, n2_8, e8, hf, hC8, hN8⟩ := gbo hf
    refine g_callV (pc := 51) (o := v7) (b := a9) (As := [.int l2]) (rest := [va_rf v3]) (st1 := [va_rf v8, va_rf v3]) hc (j_nLL_get hJ a9 l2 S v8 S8 c8 n8 e8) (cwV 1 hts (lw_V q580 q581 q582 q103 q583) rfl rfl rfl hdJ4_get ⟨Nat.le_of_ble_eq_true rfl, Nat.le_of_ble_eq_true rfl⟩) (j_recv hJ _ _ _ _ 1 _ _ hE hH hS (adtR (t := 1) (show bd _ _ = some _ from e8)).choose_spec) ea9 rfl hl.1 rfl rfl (lv_room (by simp [va_rf_cat, cat_i, cat_j, cat_r])) dX0_show_51 hH hS (by omega) (by omega) (fun H locs hH hS => ?_)
    have hkc : kc + c8 + c2_8 ≤ mc := by omega
    have hks : ks + n8 + n2_8 ≤ ms := by omega
    obtain ⟨_, e10, hf⟩ := bdo hf
    refine g_cast (pc := 54) (o := v8) (ci := 7) (C := RX15) (T := TX15) (N := 4) hx hb hts hown hE hk hH rfl q848 e10 dX0_show_54 ?_
    obtain ⟨a11, ea11, hf⟩ := bdo hf
    obtain ⟨v12, e12, hf⟩ := bdo hf
    refine g_get (pc := 57) (o := v8) (a := a11) (ci := 7) (k := 3) (v := va_rf v12) (C := RX15) (T := TX15) (N := 4) hx hb hts hown hE hk hH in_X15 rfl (by decide) (hts _ q1654) (fun _ h9 => h9) ea11 (rdR_o e12) dX0_show_57 ?_
    refine lv_iload_n (pc := 60) hx hb dX0_show_60 rfl (lv_at hl 3 rfl) ?_
    obtain ⟨a14, ea14, hf⟩ := bdo hf
    obtain ⟨_, ek13, hf⟩ := bdo hf
    obtain ⟨v13, S13, c13, n13, c2_13, n2_13, e13, hf, hC13, hN13⟩ := gbo hf
    refine gP_link (pc := 61) (o := v12) (b := a14) (As := [.int l3]) (rest := [va_rf v3]) (st1 := [va_rf v13, va_rf v3]) hc hk hJ e13 ek13 q857 (Nat.le_of_ble_eq_true rfl) (Nat.le_of_ble_eq_true rfl) ea14 rfl hl.1 rfl rfl (lv_room (by simp [va_rf_cat, cat_i, cat_j, cat_r])) dX0_show_61 hH hS (by omega) (by omega) (fun H locs hH hS => ?_)
    have hkc : kc + c8 + c13 + c2_13 ≤ mc := by omega
    have hks : ks + n8 + n13 + n2_13 ≤ ms := by omega
    obtain ⟨a15, ea15, hf⟩ := bdo hf
    obtain ⟨S16, e16, hf⟩ := bdo hf
    refine g_put (pc := 64) (o := v3) (a := a15) (ci := 2) (k := 0) (v := va_rf v13) (C := RX2) (T := TX2) (N := 1) (ty := .object "java/lang/Object") hx hb hts hown hE hk hH hS rfl in_X2 tyX2_ok nmX2 rfl (by decide) (hts _ q267) (fun _ h9 => h9) rfl rfl (nar_rf _ _) (fit_rf _ _) ea15 e16 dX0_show_64 (fun H locs hH hS => ?_)
    refine lv_iconst (pc := 67) (v := nI 1) hx hb dX0_show_67 rfl ?_
    exact g_iret (pc := 68) hx hb hr hlk hH hS hkc hks hf dX0_show_68
  · rw [if_pos c4] at hf
    refine lv_null (pc := 39) hx hb dX0_show_39 ?_
    refine lv_goto (pc := 40) (tgt := 64) hx hb dX0_show_40 (by decide) ?_
    obtain ⟨a17, ea17, hf⟩ := bdo hf
    obtain ⟨S18, e18, hf⟩ := bdo hf
    refine g_put (pc := 64) (o := v3) (a := a17) (ci := 2) (k := 0) (v := .null) (C := RX2) (T := TX2) (N := 1) (ty := .object "java/lang/Object") hx hb hts hown hE hk hH hS rfl in_X2 tyX2_ok nmX2 rfl (by decide) (hts _ q267) (fun _ h9 => h9) rfl rfl rfl rfl ea17 e18 dX0_show_64 (fun H locs hH hS => ?_)
    refine lv_iconst (pc := 67) (v := nI 1) hx hb dX0_show_67 rfl ?_
    exact g_iret (pc := 68) hx hb hr hlk hH hS hkc hks hf dX0_show_68
def fX0_show (l0 : Nat) (l1 : Int32) (l2 : Int32) (l3 : Int32) (S : gS) : gO Int32 :=
  gb (fX0_isShelf l1 S) fun v1 S1 =>
  if v1 = 0 then
    fX0_show_b21 l0 S1
  else
    if l2 = (-1) then
      fX0_show_b28 l0 l1 l2 l3 S1
    else
      bd (chk S1 l0 0) fun _ =>
      gb (fX0_isLink l0 l2 l3 S1) fun v4 S4 =>
      if v4 = 0 then
        fX0_show_b21 l0 S4
      else
        fX0_show_b28 l0 l1 l2 l3 S4
theorem wX0_show_b0 (hk : rOK Rp) (hJ : JDK l G Rp) (hc : gC p s m args meth c G RX0 "show" cX0_show 4 (some .int)) (l0 : Nat) (l1 : Int32) (l2 : Int32) (l3 : Int32) (S : gS) (H : Heap) (locs : List Loc) (ls : Array Slot) (kc ks C N : Nat) (hkc : kc + C ≤ mc) (hks : ks + N ≤ ms) (hH : hp G Rp S H) (hS : va_S G.2.2.2 s.heap H locs) (hl : lv_has ls 4 [(0, .ref l0), (1, .int l1), (2, .int l2), (3, .int l3)]) (hf : fX0_show l0 l1 l2 l3 S = some (r, Sf, C, N)) : W p l e (gR 65 1405 mc ms) s m args below meth c H locs kc ks (gQ below G Rp (some (.int r)) Sf args s mc ms) (F0 m 0 ls []) := by
  obtain ⟨hx, hb, hr, hlk, hml, hown, hts, hE, hA, hnm⟩ := hc
  have hc : gC p s m args meth c G RX0 "show" cX0_show 4 (some .int) := ⟨hx, hb, hr, hlk, hml, hown, hts, hE, hA, hnm⟩
  unfold fX0_show at hf
  refine lv_iload_n (pc := 0) hx hb dX0_show_0 rfl (lv_at hl 1 rfl) ?_
  obtain ⟨v1, S1, c1, n1, c2_1, n2_1, e1, hf, hC1, hN1⟩ := gbo hf
  refine g_callS (pc := 1) (As := [.int l1]) (rest := []) (st1 := [.int v1]) hc (mX0_isShelf hk hJ (l0 := l1) e1) (va_cwS 1 hts (lw_S q392 q393 q97 q394) rfl rfl rfl hdX0_isShelf ⟨Nat.le_of_ble_eq_true rfl, Nat.le_of_ble_eq_true rfl⟩) rfl hl.1 rfl rfl (lv_room (Nat.le_of_ble_eq_true rfl)) dX0_show_1 hH hS (by omega) (by omega) (fun H locs hH hS => ?_)
  have hkc : kc + c1 + c2_1 ≤ mc := by omega
  have hks : ks + n1 + n2_1 ≤ ms := by omega
  refine lv_if_eq (pc := 4) (tgt := 21) hx hb dX0_show_4 (by decide) (fun c2 => ?_) (fun c2 => ?_)
  · rw [if_pos c2] at hf
    exact wX0_show_b21 hk hJ hc l0 S1 _ _ ls _ _ _ _ hkc hks hH hS (lv_sub hl [0] rfl) hf
  · rw [if_neg c2] at hf
    refine lv_iload_n (pc := 7) hx hb dX0_show_7 rfl (lv_at hl 2 rfl) ?_
    refine lv_iconst (pc := 8) (v := -1) hx hb dX0_show_8 rfl ?_
    refine lv_icmp_eq (pc := 9) (tgt := 28) hx hb dX0_show_9 (by decide) (fun c3 => ?_) (fun c3 => ?_)
    · rw [if_pos c3] at hf
      exact wX0_show_b28 hk hJ hc l0 l1 l2 l3 S1 _ _ ls _ _ _ _ hkc hks hH hS (lv_sub hl [0, 1, 2, 3] rfl) hf
    · rw [if_neg c3] at hf
      refine lv_aload_n (pc := 12) hx hb dX0_show_12 rfl (lv_at hl 0 rfl) ?_
      refine lv_iload_n (pc := 13) hx hb dX0_show_13 rfl (lv_at hl 2 rfl) ?_
      refine lv_iload_n (pc := 14) hx hb dX0_show_14 rfl (lv_at hl 3 rfl) ?_
      obtain ⟨_, ek4, hf⟩ := bdo hf
      obtain ⟨v4, S4, c4, n4, c2_4, n2_4, e4, hf, hC4, hN4⟩ := gbo hf
      refine g_callV (pc := 15) (o := (some l0)) (b := l0) (As := [.int l2, .int l3]) (rest := []) (st1 := [.int v4]) hc (mX0_isLink hk hJ (l0 := l0) (l1 := l2) (l2 := l3) e4) (cwV 2 hts (lw_V q568 q570 qs4 q97 q571) rfl rfl rfl hdX0_isLink ⟨Nat.le_of_ble_eq_true rfl, Nat.le_of_ble_eq_true rfl⟩) (g_recv hE hk hH (ci := 0) (q := (RX0, TX0, 7)) rfl (chk_o ek4).choose_spec) rfl rfl hl.1 rfl rfl (lv_room (Nat.le_of_ble_eq_true rfl)) dX0_show_15 hH hS (by omega) (by omega) (fun H locs hH hS => ?_)
      have hkc : kc + c1 + c4 + c2_4 ≤ mc := by omega
      have hks : ks + n1 + n4 + n2_4 ≤ ms := by omega
      refine lv_if_ne (pc := 18) (tgt := 28) hx hb dX0_show_18 (by decide) (fun c5 => ?_) (fun c5 => ?_)
      · rw [if_neg c5] at hf
        exact wX0_show_b28 hk hJ hc l0 l1 l2 l3 S4 _ _ ls _ _ _ _ hkc hks hH hS (lv_sub hl [0, 1, 2, 3] rfl) hf
      · rw [if_pos c5] at hf
        exact wX0_show_b21 hk hJ hc l0 S4 _ _ ls _ _ _ _ hkc hks hH hS (lv_sub hl [0] rfl) hf
theorem mX0_show {l : Launch} {G : gG} {Rp : gM → gM → Nat → Prop} (hk : rOK Rp) (hJ : JDK l G Rp) {S S2 : gS} {r2 : Int32} {C N : Nat} {l0 : Nat} {l1 : Int32} {l2 : Int32} {l3 : Int32} (hf : fX0_show l0 l1 l2 l3 S = some (r2, S2, C, N)) : gMet l yX0_show cX0_show 4 (some .int) 65 1405 G Rp [.ref l0, .int l1, .int l2, .int l3] S (some (.int r2)) S2 C N := by
  refine g_start (by decide) (Nat.le_of_ble_eq_true rfl) (fun p e s m args below meth c ls hc hl hH => ?_)
  have hl : lv_has ls 4 [(0, .ref l0), (1, .int l1), (2, .int l2), (3, .int l3)] := hl
  exact wX0_show_b0 hk hJ hc l0 l1 l2 l3 S _ _ ls 0 0 C N (by omega) (by omega) hH va_S.rf (lv_sub hl [0, 1, 2, 3] rfl) hf
end
section
variable {r : Int32} {Sf : gS}
def fdof (G : gG) (b : Nat) (x : Option Nat) (S : gS) : gO Int32 :=
  if b = G.2.2.1 7 then fX0_lambda_status_5  x S
  else match lamK S b with
  | some 28 => bd (lamQ S b 28) fun v => bd v fun a => bd (chk S a 0) fun _ => fX0_lambda_status_6 a x S
  | _ => none
section
variable {p : Program} {l : Launch} {e : Env} {s : State} {m : MethodId} {args : Array Value} {below : List Frame} {meth : Method} {c : Code} {G : gG} {Rp : gM → gM → Nat → Prop} {R : Room} {H : Heap} {locs : List Loc} {Q : State → Prop} {cc : ByteArray} {ls : Array Slot} {rest : List Value} {pc : Nat} {kc ks : Nat}
theorem gP_of {own nm : String} {nL fr lo index count C9 N mc ms b : Nat} {o x0 : Option Nat} {ret' : Option FieldType} {st0 st1 : List Value} {S S2 : gS} {v : Int32} (hc : gC p s m args meth c G own nm cc nL ret') (hk : rOK Rp) (hJ : JDK l G Rp) (e1 : fdof G b x0 S = some (v, S2, C9, N)) (hl : Cond.methodLink own index lxT ∈ lw_all) (hfr : 18 ≤ fr) (hlo : 600 ≤ lo) (eo : o = some b) (hsize : ls.size = nL) (hst0 : st0 = va_rf x0 :: va_rf o :: rest) (hst : .int v :: rest = st1) (hW : 2 * (F0 m pc ls st0).monitorRoom + (rest.map fun v => v.category).sum ≤ 8) (hdg : decode cc pc = .ok (.invokeinterface index count, 5)) (hH : hp G Rp S H) (hS : va_S G.2.2.2 s.heap H locs) (hkc : kc + C9 ≤ mc) (hks : ks + N ≤ ms)
    (kk : ∀ (H1 : Heap) (locs1 : List Loc), hp G Rp S2 H1 → va_S G.2.2.2 s.heap H1 locs1 → W p l e (gR fr lo mc ms) s m args below meth c H1 locs1 (kc + C9) (ks + N) Q (F0 m (pc + 5) ls st1)) : W p l e (gR fr lo mc ms) s m args below meth c H locs kc ks Q (F0 m pc ls st0) := by
  obtain ⟨hx, hb, hr, hlk, hml, hown, hts, hE, hA, hnm⟩ := hc
  have hc : gC p s m args meth c G own nm cc nL ret' := ⟨hx, hb, hr, hlk, hml, hown, hts, hE, hA, hnm⟩
  unfold fdof at e1
  by_cases h6 : b = G.2.2.1 7
  · rw [if_pos h6] at e1
    have e2 := e1
    exact g_lamIs0 (t := 27) (y := yX0_lambda_status_5) (x := lxT) hc hk (mX0_lambda_status_5 hk hJ (l0 := x0) e2) lC7 (gE_L hE).2.2.2.2.2.2.2.2.1 rfl ly7 lx7 hl (gE_L hE).2.1 (by decide) q2816 q2817 q97 (by decide +kernel) (by decide +kernel) (by rw [h6]; exact (gE_L hE).2.2.2.2.2.2.2.2.2.2.2) (va_rf_ref _) rfl (Or.inl rfl) (Nat.le_trans (Nat.le_of_ble_eq_true rfl) hfr) (Nat.le_trans (Nat.le_of_ble_eq_true rfl) hlo) eo hsize hst0 hst hW hdg hH hS hkc hks kk
  · rw [if_neg h6] at e1
    split at e1
    next =>
      obtain ⟨cv, e8, e10⟩ := bdo e1
      obtain ⟨a, e9, e11⟩ := bdo e10
      obtain ⟨_, e7, e2⟩ := bdo e11
      subst e9
      obtain ⟨fs, h8⟩ := chk_o e7
      exact g_lamIs2 (t := 28) (ci := 0) (q := (RX0, TX0, 7)) (y := yX0_lambda_status_6) (x := lxT) hc hk (mX0_lambda_status_6 hk hJ (l0 := a) (l1 := x0) e2) lC8 lE8 (gE_L hE).2.2.2.2.2.2.2.2.2.1 rfl ly8 lx8 hl (gE_L hE).2.1 (by decide) q2827 qs49 rfl rfl h8 q2828 q97 (by decide +kernel) (by decide +kernel) e8 (va_rf_ref _) rfl (Or.inl rfl) (Nat.le_trans (Nat.le_of_ble_eq_true rfl) hfr) (Nat.le_trans (Nat.le_of_ble_eq_true rfl) hlo) eo hsize hst0 hst hW hdg hH hS hkc hks kk
    next => cases e1
end
end
section
variable {r : Int32} {Sf : gS}
def fX0_sum_b13 (G : gG) : Nat → (Option Nat) → Int32 → (Option Nat) → gS → gO Int32
  | 0, _, _, _, _ => none
  | n + 1, l1, l2, l3, S =>
    bd l3 fun a2 =>
    gb (nI6_hasNext a2 S) fun v1 S1 =>
    if v1 = 0 then
      some (l2, S1, 0, 0)
    else
      gb (nI6_next a2 S1) fun v4 S4 =>
      bd (ckc S4 v4 3) fun _ =>
      bd l1 fun a7 =>
      gb (fdof G a7 v4 S4) fun v6 S6 =>
      fX0_sum_b13 G n l1 (l2 + v6) l3 S6
theorem wX0_sum_b13 (hk : rOK Rp) (hJ : JDK l G Rp) (hc : gC p s m args meth c G RX0 "sum" cX0_sum 5 (some .int)) : ∀ (n : Nat) (l1 : Option Nat) (l2 : Int32) (l3 : Option Nat) (S : gS) (H : Heap) (locs : List Loc) (ls : Array Slot) (kc ks C N : Nat), kc + C ≤ mc → ks + N ≤ ms → hp G Rp S H → va_S G.2.2.2 s.heap H locs → lv_has ls 5 [(1, va_rf l1), (2, .int l2), (3, va_rf l3)] → fX0_sum_b13 G n l1 l2 l3 S = some (r, Sf, C, N) → W p l e (gR 18 600 mc ms) s m args below meth c H locs kc ks (gQ below G Rp (some (.int r)) Sf args s mc ms) (F0 m 13 ls []) := by
  obtain ⟨hx, hb, hr, hlk, hml, hown, hts, hE, hA, hnm⟩ := hc
  have hc : gC p s m args meth c G RX0 "sum" cX0_sum 5 (some .int) := ⟨hx, hb, hr, hlk, hml, hown, hts, hE, hA, hnm⟩
  intro n
  induction n with
  | zero => intro l1 l2 l3 S H locs ls kc ks C N _ _ _ _ _ hf; exact absurd hf (fun h => by cases h)
  | succ n ih =>
    intro l1 l2 l3 S H locs ls kc ks C N hkc hks hH hS hl hf
    rw [fX0_sum_b13] at hf
    refine g_aload_n (pc := 13) (o := l3) hx hb dX0_sum_13 rfl (lv_at hl 2 rfl) ?_
    obtain ⟨a2, ea2, hf⟩ := bdo hf
    obtain ⟨v1, S1, c1, n1, c2_1, n2_1, e1, hf, hC1, hN1⟩ := gbo hf
    refine g_callF (pc := 14) (o := l3) (b := a2) (As := []) (rest := []) (st1 := [.int v1]) (ci := 21) (q := (RJ26, TJ26, 4)) hc (j_nI6_hasNext hJ a2 S v1 S1 c1 n1 e1) (va_cwF 0 hts (lw_app (lw_of4 q2060 q1339 q1341 q135) (lw_meth q1343)) rfl rfl rfl (hE.2.1.2.2.2.2.2 _ _ _ hdx_hasNext.1 q1320 q1319 q1342 q1340 q1338) hdx_hasNext.2 ⟨Nat.le_of_ble_eq_true rfl, Nat.le_of_ble_eq_true rfl⟩) rfl rfl (j_recv hJ _ _ _ _ 6 _ _ hE hH hS (adtR (t := 6) (show bd _ _ = some _ from e1)).choose_spec) ea2 rfl hl.1 rfl rfl (lv_room (Nat.le_of_ble_eq_true rfl)) dX0_sum_14 hH hS (by omega) (by omega) (fun H locs hH hS => ?_)
    have hkc : kc + c1 + c2_1 ≤ mc := by omega
    have hks : ks + n1 + n2_1 ≤ ms := by omega
    refine lv_if_eq (pc := 19) (tgt := 47) hx hb dX0_sum_19 (by decide) (fun c3 => ?_) (fun c3 => ?_)
    · rw [if_pos c3] at hf
      refine lv_iload_n (pc := 47) hx hb dX0_sum_47 rfl (lv_at hl 1 rfl) ?_
      exact g_iret (pc := 48) hx hb hr hlk hH hS hkc hks hf dX0_sum_48
    · rw [if_neg c3] at hf
      refine g_aload_n (pc := 22) (o := l3) hx hb dX0_sum_22 rfl (lv_at hl 2 rfl) ?_
      obtain ⟨v4, S4, c4, n4, c2_4, n2_4, e4, hf, hC4, hN4⟩ := gbo hf
      refine g_callF (pc := 23) (o := l3) (b := a2) (As := []) (rest := []) (st1 := [va_rf v4]) (ci := 21) (q := (RJ26, TJ26, 4)) hc (j_nI6_next hJ a2 S1 v4 S4 c4 n4 e4) (va_cwF 0 hts (lw_app (lw_of4 q2062 q1472 q1474 q135) (lw_meth q1476)) rfl rfl rfl (hE.2.1.2.2.2.2.2 _ _ _ hdx_next.1 q1366 q1365 q1475 q1473 q1338) hdx_next.2 ⟨Nat.le_of_ble_eq_true rfl, Nat.le_of_ble_eq_true rfl⟩) rfl rfl (j_recv hJ _ _ _ _ 6 _ _ hE hH hS (adtR (t := 6) (show bd _ _ = some _ from e4)).choose_spec) ea2 rfl hl.1 rfl rfl (lv_room (Nat.le_of_ble_eq_true rfl)) dX0_sum_23 hH hS (by omega) (by omega) (fun H locs hH hS => ?_)
      have hkc : kc + c1 + c4 + c2_4 ≤ mc := by omega
      have hks : ks + n1 + n4 + n2_4 ≤ ms := by omega
      obtain ⟨_, e5, hf⟩ := bdo hf
      refine g_cast (pc := 28) (o := v4) (ci := 3) (C := RX8) (T := TX8) (N := 13) hx hb hts hown hE hk hH rfl q1135 e5 dX0_sum_28 ?_
      refine g_astore (pc := 31) (i := 4) (o := v4) (lv' := [(4, va_rf v4), (1, va_rf l1), (2, .int l2), (3, va_rf l3)]) hx hb dX0_sum_31 hl (by decide) (by simp [va_rf_cat, cat_i, cat_j, cat_r] <;> rfl) (fun ls hl => ?_)
      refine lv_iload_n (pc := 33) hx hb dX0_sum_33 rfl (lv_at hl 2 rfl) ?_
      refine g_aload_n (pc := 34) (o := l1) hx hb dX0_sum_34 rfl (lv_at hl 1 rfl) ?_
      refine g_aload (pc := 35) (o := v4) hx hb dX0_sum_35 (lv_at hl 0 rfl) ?_
      obtain ⟨a7, ea7, hf⟩ := bdo hf
      obtain ⟨v6, S6, c6, n6, c2_6, n2_6, e6, hf, hC6, hN6⟩ := gbo hf
      refine gP_of (pc := 37) (o := l1) (b := a7) (x0 := v4) (rest := [.int l2]) (st1 := [.int v6, .int l2]) hc hk hJ e6 q2823 (Nat.le_of_ble_eq_true rfl) (Nat.le_of_ble_eq_true rfl) ea7 hl.1 rfl rfl (lv_room (Nat.le_of_ble_eq_true rfl)) dX0_sum_37 hH hS (by omega) (by omega) (fun H locs hH hS => ?_)
      have hkc : kc + c1 + c4 + c6 + c2_6 ≤ mc := by omega
      have hks : ks + n1 + n4 + n6 + n2_6 ≤ ms := by omega
      refine lv_iadd (pc := 42) hx hb dX0_sum_42 ?_
      refine lv_istore_n (pc := 43) (i := 2) (lv' := [(2, .int (l2 + v6)), (4, va_rf v4), (1, va_rf l1), (3, va_rf l3)]) hx hb dX0_sum_43 rfl hl (by decide) (by simp [va_rf_cat, cat_i, cat_j, cat_r] <;> rfl) (fun ls hl => ?_)
      refine lv_goto (pc := 44) (tgt := 13) hx hb dX0_sum_44 (by decide) ?_
      exact ih l1 (l2 + v6) l3 S6 _ _ ls _ _ _ _ hkc hks hH hS (lv_sub hl [2, 0, 3] rfl) hf
def fX0_sum (G : gG) (l0 : Nat) (l1 : Option Nat) (S : gS) : gO Int32 :=
  bd (rdR S l0 0 0) fun v1 =>
  bd v1 fun a2 =>
  bd (rdR S a2 1 0) fun v3 =>
  bd v3 fun a5 =>
  gb (nAL_iter a5  S) fun v4 S4 =>
  fX0_sum_b13 G FU l1 (nI 0) v4 S4
theorem wX0_sum_b0 (hk : rOK Rp) (hJ : JDK l G Rp) (hc : gC p s m args meth c G RX0 "sum" cX0_sum 5 (some .int)) (l0 : Nat) (l1 : Option Nat) (S : gS) (H : Heap) (locs : List Loc) (ls : Array Slot) (kc ks C N : Nat) (hkc : kc + C ≤ mc) (hks : ks + N ≤ ms) (hH : hp G Rp S H) (hS : va_S G.2.2.2 s.heap H locs) (hl : lv_has ls 5 [(0, .ref l0), (1, va_rf l1)]) (hf : fX0_sum G l0 l1 S = some (r, Sf, C, N)) : W p l e (gR 18 600 mc ms) s m args below meth c H locs kc ks (gQ below G Rp (some (.int r)) Sf args s mc ms) (F0 m 0 ls []) := by
  obtain ⟨hx, hb, hr, hlk, hml, hown, hts, hE, hA, hnm⟩ := hc
  have hc : gC p s m args meth c G RX0 "sum" cX0_sum 5 (some .int) := ⟨hx, hb, hr, hlk, hml, hown, hts, hE, hA, hnm⟩
  unfold fX0_sum at hf
  refine lv_iconst (pc := 0) (v := nI 0) hx hb dX0_sum_0 rfl ?_
  refine lv_istore_n (pc := 1) (i := 2) (lv' := [(2, .int (nI 0)), (0, .ref l0), (1, va_rf l1)]) hx hb dX0_sum_1 rfl hl (by decide) (by simp [va_rf_cat, cat_i, cat_j, cat_r] <;> rfl) (fun ls hl => ?_)
  refine lv_aload_n (pc := 2) hx hb dX0_sum_2 rfl (lv_at hl 1 rfl) ?_
  obtain ⟨v1, e1, hf⟩ := bdo hf
  refine g_get (pc := 3) (o := (some l0)) (a := l0) (ci := 0) (k := 0) (v := va_rf v1) (C := RX0) (T := TX0) (N := 7) hx hb hts hown hE hk hH in_X0 rfl (by decide) (hts _ q272) (fun _ h9 => h9) rfl (rdR_o e1) dX0_sum_3 ?_
  obtain ⟨a2, ea2, hf⟩ := bdo hf
  obtain ⟨v3, e3, hf⟩ := bdo hf
  refine g_get (pc := 6) (o := v1) (a := a2) (ci := 1) (k := 0) (v := va_rf v3) (C := RX1) (T := TX1) (N := 7) hx hb hts hown hE hk hH in_X1 rfl (by decide) (hts _ q232) (fun _ h9 => h9) ea2 (rdR_o e3) dX0_sum_6 ?_
  obtain ⟨a5, ea5, hf⟩ := bdo hf
  obtain ⟨v4, S4, c4, n4, c2_4, n2_4, e4, hf, hC4, hN4⟩ := gbo hf
  refine g_callV (pc := 9) (o := v3) (b := a5) (As := []) (rest := []) (st1 := [va_rf v4]) hc (j_nAL_iter hJ a5  S v4 S4 c4 n4 e4) (cwV 0 hts (lw_V q2432 q1293 q1294 q101 q1295) rfl rfl rfl hdJ2_iterator ⟨Nat.le_of_ble_eq_true rfl, Nat.le_of_ble_eq_true rfl⟩) (j_recv hJ _ _ _ _ 0 _ _ hE hH hS (adtR (t := 0) (show bd _ _ = some _ from e4)).choose_spec) ea5 rfl hl.1 rfl rfl (lv_room (Nat.le_of_ble_eq_true rfl)) dX0_sum_9 hH hS (by omega) (by omega) (fun H locs hH hS => ?_)
  have hkc : kc + c4 + c2_4 ≤ mc := by omega
  have hks : ks + n4 + n2_4 ≤ ms := by omega
  refine g_astore_n (pc := 12) (i := 3) (o := v4) (lv' := [(3, va_rf v4), (2, .int (nI 0)), (0, .ref l0), (1, va_rf l1)]) hx hb dX0_sum_12 rfl hl (by decide) rfl (fun ls hl => ?_)
  exact wX0_sum_b13 hk hJ hc FU l1 (nI 0) v4 S4 _ _ ls _ _ _ _ hkc hks hH hS (lv_sub hl [3, 1, 0] rfl) hf
theorem mX0_sum {l : Launch} {G : gG} {Rp : gM → gM → Nat → Prop} (hk : rOK Rp) (hJ : JDK l G Rp) {S S2 : gS} {r2 : Int32} {C N : Nat} {l0 : Nat} {l1 : Option Nat} (hf : fX0_sum G l0 l1 S = some (r2, S2, C, N)) : gMet l yX0_sum cX0_sum 5 (some .int) 18 600 G Rp [.ref l0, va_rf l1] S (some (.int r2)) S2 C N := by
  refine g_start (by decide) (by simp [lg_sl, va_rf_cat, cat_i, cat_j, cat_r]) (fun p e s m args below meth c ls hc hl hH => ?_)
  have hl : lv_has ls 5 [(0, .ref l0), (1, va_rf l1)] := by simpa [lv_args, va_rf_cat, cat_i, cat_j, cat_r] using hl
  exact wX0_sum_b0 hk hJ hc l0 l1 S _ _ ls 0 0 C N (by omega) (by omega) hH va_S.rf (lv_sub hl [0, 1] rfl) hf
end
section
variable {r : Int32} {Sf : gS}
def fX0_status (G : gG) (l0 : Nat) (l1 : Int32) (S : gS) : gO Int32 :=
  gb (fX0_isIn l1 (nI 12) (nI 16) S) fun v1 S1 =>
  if v1 = 0 then
    if l1 = 0 then
      bd (rdR S1 l0 0 0) fun v4 =>
      bd v4 fun a5 =>
      bd (rdR S1 a5 1 0) fun v6 =>
      bd v6 fun a8 =>
      gb (nAL_size a8  S1) fun v7 S7 =>
      some (v7, S7, 0, 0)
    else if l1 = 1 then
      bd (rdR S1 l0 0 0) fun v9 =>
      bd v9 fun a10 =>
      bd (rdR S1 a10 1 1) fun v11 =>
      bd v11 fun a13 =>
      gb (nAL_size a13  S1) fun v12 S12 =>
      some (v12, S12, 0, 0)
    else if l1 = 2 then
      bd (rdR S1 l0 0 0) fun v14 =>
      bd v14 fun a15 =>
      bd (rdR S1 a15 1 2) fun v16 =>
      bd v16 fun a18 =>
      gb (nAL_size a18  S1) fun v17 S17 =>
      some (v17, S17, 0, 0)
    else if l1 = 3 then
      bd (rdR S1 l0 0 0) fun v19 =>
      bd v19 fun a20 =>
      bd (rdR S1 a20 1 3) fun v21 =>
      bd v21 fun a23 =>
      gb (nLL_size a23  S1) fun v22 S22 =>
      some (v22, S22, 0, 0)
    else if l1 = 4 then
      bd (rdR S1 l0 0 0) fun v24 =>
      bd v24 fun a25 =>
      bd (rdI S1 a25 1 5) fun v26 =>
      some (v26, S1, 0, 0)
    else if l1 = 5 then
      bd (chk S1 l0 0) fun _ =>
      gb (fX0_sum G l0 (some (G.2.2.1 7)) S1) fun v28 S28 =>
      some (v28, S28, 0, 0)
    else if l1 = 6 then
      nw S1 (cAq 28 1 (fun _ => (some l0))) 1 fun S29 =>
      bd (chk S29 l0 0) fun _ =>
      gb (fX0_sum G l0 (some S1.2) S29) fun v30 S30 =>
      some (v30, S30, 0, 0)
    else if l1 = 7 then
      bd (rdR S1 l0 0 0) fun v31 =>
      bd v31 fun a32 =>
      bd (rdR S1 a32 1 4) fun v33 =>
      if v33 = none then
        some (nI 0, S1, 0, 0)
      else
        bd (rdR S1 l0 0 0) fun v35 =>
        bd v35 fun a36 =>
        bd (rdR S1 a36 1 4) fun v37 =>
        bd v37 fun a39 =>
        bd (chk S1 a39 8) fun _ =>
        gb (fX6_many a39 S1) fun v38 S38 =>
        some (v38, S38, 0, 0)
    else if l1 = 8 then
      bd (rdI S1 l0 0 5) fun v40 =>
      some (v40, S1, 0, 0)
    else if l1 = 9 then
      bd (rdR S1 l0 0 0) fun v41 =>
      bd v41 fun a42 =>
      bd (rdI S1 a42 1 6) fun v43 =>
      some (v43, S1, 0, 0)
    else if l1 = 10 then
      bd (chk S1 l0 0) fun _ =>
      gb (fX0_shelved l0 S1) fun v44 S44 =>
      some (v44, S44, 0, 0)
    else
      some (-1, S1, 0, 0)
  else
    bd (rdR S1 l0 0 6) fun v45 =>
    bd v45 fun a47 =>
    bd (rdAi S1 a47 0 (l1 - (nI 10))) fun v48 =>
    some (v48, S1, 0, 0)
theorem wX0_status_b0 (hk : rOK Rp) (hJ : JDK l G Rp) (hc : gC p s m args meth c G RX0 "status" cX0_status 2 (some .int)) (hnd : s.methodNamed? yX0_status = some m) (l0 : Nat) (l1 : Int32) (S : gS) (H : Heap) (locs : List Loc) (ls : Array Slot) (kc ks C N : Nat) (hkc : kc + C ≤ mc) (hks : ks + N ≤ ms) (hH : hp G Rp S H) (hS : va_S G.2.2.2 s.heap H locs) (hl : lv_has ls 2 [(0, .ref l0), (1, .int l1)]) (hf : fX0_status G l0 l1 S = some (r, Sf, C, N)) : W p l e (gR 19 3300 mc ms) s m args below meth c H locs kc ks (gQ below G Rp (some (.int r)) Sf args s mc ms) (F0 m 0 ls []) := by
  obtain ⟨hx, hb, hr, hlk, hml, hown, hts, hE, hA, hnm⟩ := hc
  have hc : gC p s m args meth c G RX0 "status" cX0_status 2 (some .int) := ⟨hx, hb, hr, hlk, hml, hown, hts, hE, hA, hnm⟩
  unfold fX0_status at hf
  refine lv_iload_n (pc := 0) hx hb dX0_status_0 rfl (lv_at hl 1 rfl) ?_
  refine lv_bipush (pc := 1) (v := nI 12) hx hb dX0_status_1 gkb12 ?_
  refine lv_bipush (pc := 3) (v := nI 16) hx hb dX0_status_3 gkb16 ?_
  obtain ⟨v1, S1, c1, n1, c2_1, n2_1, e1, hf, hC1, hN1⟩ := gbo hf
  refine g_callS (pc := 5) (As := [.int l1, .int (nI 12), .int (nI 16)]) (rest := []) (st1 := [.int v1]) hc (mX0_isIn hk hJ (l0 := l1) (l1 := (nI 12)) (l2 := (nI 16)) e1) (va_cwS 3 hts (lw_S q395 q396 q97 q397) rfl rfl rfl hdX0_isIn ⟨Nat.le_of_ble_eq_true rfl, Nat.le_of_ble_eq_true rfl⟩) rfl hl.1 rfl rfl (lv_room (Nat.le_of_ble_eq_true rfl)) dX0_status_5 hH hS (by omega) (by omega) (fun H locs hH hS => ?_)
  have hkc : kc + c1 + c2_1 ≤ mc := by omega
  have hks : ks + n1 + n2_1 ≤ ms := by omega
  refine lv_if_eq (pc := 8) (tgt := 21) hx hb dX0_status_8 (by decide) (fun c2 => ?_) (fun c2 => ?_)
  · rw [if_pos c2] at hf
    refine lv_iload_n (pc := 21) hx hb dX0_status_21 rfl (lv_at hl 1 rfl) ?_
    by_cases c3_0 : l1 = 0
    · rw [if_pos c3_0] at hf
      refine lv_tableIn (pc := 22) (off := 58) (tgt := 80) hx hb dX0_status_22 (by rw [c3_0]; decide) (by rw [c3_0]; decide) (by rw [c3_0]; rfl) (by decide) ?_
      refine lv_aload_n (pc := 80) hx hb dX0_status_80 rfl (lv_at hl 0 rfl) ?_
      obtain ⟨v4, e4, hf⟩ := bdo hf
      refine g_get (pc := 81) (o := (some l0)) (a := l0) (ci := 0) (k := 0) (v := va_rf v4) (C := RX0) (T := TX0) (N := 7) hx hb hts hown hE hk hH in_X0 rfl (by decide) (hts _ q272) (fun _ h9 => h9) rfl (rdR_o e4) dX0_status_81 ?_
      obtain ⟨a5, ea5, hf⟩ := bdo hf
      obtain ⟨v6, e6, hf⟩ := bdo hf
      refine g_get (pc := 84) (o := v4) (a := a5) (ci := 1) (k := 0) (v := va_rf v6) (C := RX1) (T := TX1) (N := 7) hx hb hts hown hE hk hH in_X1 rfl (by decide) (hts _ q232) (fun _ h9 => h9) ea5 (rdR_o e6) dX0_status_84 ?_
      obtain ⟨a8, ea8, hf⟩ := bdo hf
      obtain ⟨v7, S7, c7, n7, c2_7, n2_7, e7, hf, hC7, hN7⟩ := gbo hf
      refine g_callV (pc := 87) (o := v6) (b := a8) (As := []) (rest := []) (st1 := [.int v7]) hc (j_nAL_size hJ a8  S1 v7 S7 c7 n7 e7) (cwV 0 hts (lw_V q1134 q1120 q1121 q101 q1122) rfl rfl rfl hdJ2_size ⟨Nat.le_of_ble_eq_true rfl, Nat.le_of_ble_eq_true rfl⟩) (j_recv hJ _ _ _ _ 0 _ _ hE hH hS (adtR (t := 0) (show bd _ _ = some _ from e7)).choose_spec) ea8 rfl hl.1 rfl rfl (lv_room (Nat.le_of_ble_eq_true rfl)) dX0_status_87 hH hS (by omega) (by omega) (fun H locs hH hS => ?_)
      have hkc : kc + c1 + c7 + c2_7 ≤ mc := by omega
      have hks : ks + n1 + n7 + n2_7 ≤ ms := by omega
      refine lv_goto (pc := 90) (tgt := 219) hx hb dX0_status_90 (by decide) ?_
      exact g_iret (pc := 219) hx hb hr hlk hH hS hkc hks hf dX0_status_219
    · rw [if_neg c3_0] at hf
      by_cases c3_1 : l1 = 1
      · rw [if_pos c3_1] at hf
        refine lv_tableIn (pc := 22) (off := 71) (tgt := 93) hx hb dX0_status_22 (by rw [c3_1]; decide) (by rw [c3_1]; decide) (by rw [c3_1]; rfl) (by decide) ?_
        refine lv_aload_n (pc := 93) hx hb dX0_status_93 rfl (lv_at hl 0 rfl) ?_
        obtain ⟨v9, e9, hf⟩ := bdo hf
        refine g_get (pc := 94) (o := (some l0)) (a := l0) (ci := 0) (k := 0) (v := va_rf v9) (C := RX0) (T := TX0) (N := 7) hx hb hts hown hE hk hH in_X0 rfl (by decide) (hts _ q272) (fun _ h9 => h9) rfl (rdR_o e9) dX0_status_94 ?_
        obtain ⟨a10, ea10, hf⟩ := bdo hf
        obtain ⟨v11, e11, hf⟩ := bdo hf
        refine g_get (pc := 97) (o := v9) (a := a10) (ci := 1) (k := 1) (v := va_rf v11) (C := RX1) (T := TX1) (N := 7) hx hb hts hown hE hk hH in_X1 rfl (by decide) (hts _ q234) (fun _ h9 => h9) ea10 (rdR_o e11) dX0_status_97 ?_
        obtain ⟨a13, ea13, hf⟩ := bdo hf
        obtain ⟨v12, S12, c12, n12, c2_12, n2_12, e12, hf, hC12, hN12⟩ := gbo hf
        refine g_callV (pc := 100) (o := v11) (b := a13) (As := []) (rest := []) (st1 := [.int v12]) hc (j_nAL_size hJ a13  S1 v12 S12 c12 n12 e12) (cwV 0 hts (lw_V q1134 q1120 q1121 q101 q1122) rfl rfl rfl hdJ2_size ⟨Nat.le_of_ble_eq_true rfl, Nat.le_of_ble_eq_true rfl⟩) (j_recv hJ _ _ _ _ 0 _ _ hE hH hS (adtR (t := 0) (show bd _ _ = some _ from e12)).choose_spec) ea13 rfl hl.1 rfl rfl (lv_room (Nat.le_of_ble_eq_true rfl)) dX0_status_100 hH hS (by omega) (by omega) (fun H locs hH hS => ?_)
        have hkc : kc + c1 + c12 + c2_12 ≤ mc := by omega
        have hks : ks + n1 + n12 + n2_12 ≤ ms := by omega
        refine lv_goto (pc := 103) (tgt := 219) hx hb dX0_status_103 (by decide) ?_
        exact g_iret (pc := 219) hx hb hr hlk hH hS hkc hks hf dX0_status_219
      · rw [if_neg c3_1] at hf
        by_cases c3_2 : l1 = 2
        · rw [if_pos c3_2] at hf
          refine lv_tableIn (pc := 22) (off := 84) (tgt := 106) hx hb dX0_status_22 (by rw [c3_2]; decide) (by rw [c3_2]; decide) (by rw [c3_2]; rfl) (by decide) ?_
          refine lv_aload_n (pc := 106) hx hb dX0_status_106 rfl (lv_at hl 0 rfl) ?_
          obtain ⟨v14, e14, hf⟩ := bdo hf
          refine g_get (pc := 107) (o := (some l0)) (a := l0) (ci := 0) (k := 0) (v := va_rf v14) (C := RX0) (T := TX0) (N := 7) hx hb hts hown hE hk hH in_X0 rfl (by decide) (hts _ q272) (fun _ h9 => h9) rfl (rdR_o e14) dX0_status_107 ?_
          obtain ⟨a15, ea15, hf⟩ := bdo hf
          obtain ⟨v16, e16, hf⟩ := bdo hf
          refine g_get (pc := 110) (o := v14) (a := a15) (ci := 1) (k := 2) (v := va_rf v16) (C := RX1) (T := TX1) (N := 7) hx hb hts hown hE hk hH in_X1 rfl (by decide) (hts _ q236) (fun _ h9 => h9) ea15 (rdR_o e16) dX0_status_110 ?_
          obtain ⟨a18, ea18, hf⟩ := bdo hf
          obtain ⟨v17, S17, c17, n17, c2_17, n2_17, e17, hf, hC17, hN17⟩ := gbo hf
          refine g_callV (pc := 113) (o := v16) (b := a18) (As := []) (rest := []) (st1 := [.int v17]) hc (j_nAL_size hJ a18  S1 v17 S17 c17 n17 e17) (cwV 0 hts (lw_V q1134 q1120 q1121 q101 q1122) rfl rfl rfl hdJ2_size ⟨Nat.le_of_ble_eq_true rfl, Nat.le_of_ble_eq_true rfl⟩) (j_recv hJ _ _ _ _ 0 _ _ hE hH hS (adtR (t := 0) (show bd _ _ = some _ from e17)).choose_spec) ea18 rfl hl.1 rfl rfl (lv_room (Nat.le_of_ble_eq_true rfl)) dX0_status_113 hH hS (by omega) (by omega) (fun H locs hH hS => ?_)
          have hkc : kc + c1 + c17 + c2_17 ≤ mc := by omega
          have hks : ks + n1 + n17 + n2_17 ≤ ms := by omega
          refine lv_goto (pc := 116) (tgt := 219) hx hb dX0_status_116 (by decide) ?_
          exact g_iret (pc := 219) hx hb hr hlk hH hS hkc hks hf dX0_status_219
        · rw [if_neg c3_2] at hf
          by_cases c3_3 : l1 = 3
          · rw [if_pos c3_3] at hf
            refine lv_tableIn (pc := 22) (off := 97) (tgt := 119) hx hb dX0_status_22 (by rw [c3_3]; decide) (by rw [c3_3]; decide) (by rw [c3_3]; rfl) (by decide) ?_
            refine lv_aload_n (pc := 119) hx hb dX0_status_119 rfl (lv_at hl 0 rfl) ?_
            obtain ⟨v19, e19, hf⟩ := bdo hf
            refine g_get (pc := 120) (o := (some l0)) (a := l0) (ci := 0) (k := 0) (v := va_rf v19) (C := RX0) (T := TX0) (N := 7) hx hb hts hown hE hk hH in_X0 rfl (by decide) (hts _ q272) (fun _ h9 => h9) rfl (rdR_o e19) dX0_status_120 ?_
            obtain ⟨a20, ea20, hf⟩ := bdo hf
            obtain ⟨v21, e21, hf⟩ := bdo hf
            refine g_get (pc := 123) (o := v19) (a := a20) (ci := 1) (k := 3) (v := va_rf v21) (C := RX1) (T := TX1) (N := 7) hx hb hts hown hE hk hH in_X1 rfl (by decide) (hts _ q238) (fun _ h9 => h9) ea20 (rdR_o e21) dX0_status_123 ?_
            obtain ⟨a23, ea23, hf⟩ := bdo hf
            obtain ⟨v22, S22, c22, n22, c2_22, n2_22, e22, hf, hC22, hN22⟩ := gbo hf
            refine g_callV (pc := 126) (o := v21) (b := a23) (As := []) (rest := []) (st1 := [.int v22]) hc (j_nLL_size hJ a23  S1 v22 S22 c22 n22 e22) (cwV 0 hts (lw_V q576 q577 q578 q103 q579) rfl rfl rfl hdJ4_size ⟨Nat.le_of_ble_eq_true rfl, Nat.le_of_ble_eq_true rfl⟩) (j_recv hJ _ _ _ _ 1 _ _ hE hH hS (adtR (t := 1) (show bd _ _ = some _ from e22)).choose_spec) ea23 rfl hl.1 rfl rfl (lv_room (Nat.le_of_ble_eq_true rfl)) dX0_status_126 hH hS (by omega) (by omega) (fun H locs hH hS => ?_)
            have hkc : kc + c1 + c22 + c2_22 ≤ mc := by omega
            have hks : ks + n1 + n22 + n2_22 ≤ ms := by omega
            refine lv_goto (pc := 129) (tgt := 219) hx hb dX0_status_129 (by decide) ?_
            exact g_iret (pc := 219) hx hb hr hlk hH hS hkc hks hf dX0_status_219
          · rw [if_neg c3_3] at hf
            by_cases c3_4 : l1 = 4
            · rw [if_pos c3_4] at hf
              refine lv_tableIn (pc := 22) (off := 110) (tgt := 132) hx hb dX0_status_22 (by rw [c3_4]; decide) (by rw [c3_4]; decide) (by rw [c3_4]; rfl) (by decide) ?_
              refine lv_aload_n (pc := 132) hx hb dX0_status_132 rfl (lv_at hl 0 rfl) ?_
              obtain ⟨v24, e24, hf⟩ := bdo hf
              refine g_get (pc := 133) (o := (some l0)) (a := l0) (ci := 0) (k := 0) (v := va_rf v24) (C := RX0) (T := TX0) (N := 7) hx hb hts hown hE hk hH in_X0 rfl (by decide) (hts _ q272) (fun _ h9 => h9) rfl (rdR_o e24) dX0_status_133 ?_
              obtain ⟨a25, ea25, hf⟩ := bdo hf
              obtain ⟨v26, e26, hf⟩ := bdo hf
              refine g_get (pc := 136) (o := v24) (a := a25) (ci := 1) (k := 5) (v := .int v26) (C := RX1) (T := TX1) (N := 7) hx hb hts hown hE hk hH in_X1 rfl (by decide) (hts _ q242) (fun _ h9 => h9) ea25 (rdI_o e26) dX0_status_136 ?_
              refine lv_goto (pc := 139) (tgt := 219) hx hb dX0_status_139 (by decide) ?_
              exact g_iret (pc := 219) hx hb hr hlk hH hS hkc hks hf dX0_status_219
            · rw [if_neg c3_4] at hf
              by_cases c3_5 : l1 = 5
              · rw [if_pos c3_5] at hf
                refine lv_tableIn (pc := 22) (off := 120) (tgt := 142) hx hb dX0_status_22 (by rw [c3_5]; decide) (by rw [c3_5]; decide) (by rw [c3_5]; rfl) (by decide) ?_
                refine lv_aload_n (pc := 142) hx hb dX0_status_142 rfl (lv_at hl 0 rfl) ?_
                refine g_lamConst (pc := 143) hx hb hml (gE_L hE).2.2.2.2.2.2.2.2.1 hnd hl.1 (by simp [gR, va_rf_cat, cat_i, cat_j, cat_r]) dX0_status_143 ?_
                obtain ⟨_, ek28, hf⟩ := bdo hf
                obtain ⟨v28, S28, c28, n28, c2_28, n2_28, e28, hf, hC28, hN28⟩ := gbo hf
                refine g_callV (pc := 148) (o := (some l0)) (b := l0) (As := [.ref (G.2.2.1 7)]) (rest := []) (st1 := [.int v28]) hc (mX0_sum hk hJ (l0 := l0) (l1 := (some (G.2.2.1 7))) e28) (cwV 1 hts (lw_V q2818 q2820 qs48 q97 q2821) rfl rfl rfl hdX0_sum ⟨Nat.le_of_ble_eq_true rfl, Nat.le_of_ble_eq_true rfl⟩) (g_recv hE hk hH (ci := 0) (q := (RX0, TX0, 7)) rfl (chk_o ek28).choose_spec) rfl rfl hl.1 rfl rfl (lv_room (Nat.le_of_ble_eq_true rfl)) dX0_status_148 hH hS (by omega) (by omega) (fun H locs hH hS => ?_)
                have hkc : kc + c1 + c28 + c2_28 ≤ mc := by omega
                have hks : ks + n1 + n28 + n2_28 ≤ ms := by omega
                refine lv_goto (pc := 151) (tgt := 219) hx hb dX0_status_151 (by decide) ?_
                exact g_iret (pc := 219) hx hb hr hlk hH hS hkc hks hf dX0_status_219
              · rw [if_neg c3_5] at hf
                by_cases c3_6 : l1 = 6
                · rw [if_pos c3_6] at hf
                  refine lv_tableIn (pc := 22) (off := 132) (tgt := 154) hx hb dX0_status_22 (by rw [c3_6]; decide) (by rw [c3_6]; decide) (by rw [c3_6]; rfl) (by decide) ?_
                  refine lv_aload_n (pc := 154) hx hb dX0_status_154 rfl (lv_at hl 0 rfl) ?_
                  refine lv_aload_n (pc := 155) hx hb dX0_status_155 rfl (lv_at hl 0 rfl) ?_
                  obtain ⟨S29, c2_29, n2_29, eS29, hf, hC29, hN29⟩ := nwo hf
                  refine g_lamMake (pc := 156) (t := 28) (v := .ref l0) (cel := cAq 28 1 (fun _ => (some l0))) (a0 := (1, .inr (.inr (.inr (.inr (fun _ => (some l0))))))) (x := lxT) (y := yX0_lambda_status_6) hx hb hml hts hE hA hk hH hS lC8 (gE_L hE).2.2.2.2.2.2.2.2.2.1 rfl (hts _ q3371) ly8 lx8 (Cond.instanceMethod_spec (hts _ q2827)).choose_spec.choose_spec.1 (va_any rfl (gE_L hE).2.1.2) hnd lT8 rfl rfl rfl rfl rfl (fun _ => rfl) eS29 hl.1 (by simp [gR, va_rf_cat, cat_i, cat_j, cat_r]) (Nat.le_trans (by omega) hkc) (Nat.le_trans (by omega) hks) dX0_status_156 (fun H hH hS => ?_)
                  have hkc : kc + c1 + 1 + c2_29 ≤ mc := by omega
                  have hks : ks + n1 + 1 + n2_29 ≤ ms := by omega
                  obtain ⟨_, ek30, hf⟩ := bdo hf
                  obtain ⟨v30, S30, c30, n30, c2_30, n2_30, e30, hf, hC30, hN30⟩ := gbo hf
                  refine g_callV (pc := 161) (o := (some l0)) (b := l0) (As := [.ref S1.2]) (rest := []) (st1 := [.int v30]) hc (mX0_sum hk hJ (l0 := l0) (l1 := (some S1.2)) e30) (cwV 1 hts (lw_V q2818 q2820 qs48 q97 q2821) rfl rfl rfl hdX0_sum ⟨Nat.le_of_ble_eq_true rfl, Nat.le_of_ble_eq_true rfl⟩) (g_recv hE hk hH (ci := 0) (q := (RX0, TX0, 7)) rfl (chk_o ek30).choose_spec) rfl rfl hl.1 rfl rfl (lv_room (Nat.le_of_ble_eq_true rfl)) dX0_status_161 hH hS (by omega) (by omega) (fun H locs hH hS => ?_)
                  have hkc : kc + c1 + 1 + c30 + c2_30 ≤ mc := by omega
                  have hks : ks + n1 + 1 + n30 + n2_30 ≤ ms := by omega
                  refine lv_goto (pc := 164) (tgt := 219) hx hb dX0_status_164 (by decide) ?_
                  exact g_iret (pc := 219) hx hb hr hlk hH hS hkc hks hf dX0_status_219
                · rw [if_neg c3_6] at hf
                  by_cases c3_7 : l1 = 7
                  · rw [if_pos c3_7] at hf
                    refine lv_tableIn (pc := 22) (off := 145) (tgt := 167) hx hb dX0_status_22 (by rw [c3_7]; decide) (by rw [c3_7]; decide) (by rw [c3_7]; rfl) (by decide) ?_
                    refine lv_aload_n (pc := 167) hx hb dX0_status_167 rfl (lv_at hl 0 rfl) ?_
                    obtain ⟨v31, e31, hf⟩ := bdo hf
                    refine g_get (pc := 168) (o := (some l0)) (a := l0) (ci := 0) (k := 0) (v := va_rf v31) (C := RX0) (T := TX0) (N := 7) hx hb hts hown hE hk hH in_X0 rfl (by decide) (hts _ q272) (fun _ h9 => h9) rfl (rdR_o e31) dX0_status_168 ?_
                    obtain ⟨a32, ea32, hf⟩ := bdo hf
                    obtain ⟨v33, e33, hf⟩ := bdo hf
                    refine g_get (pc := 171) (o := v31) (a := a32) (ci := 1) (k := 4) (v := va_rf v33) (C := RX1) (T := TX1) (N := 7) hx hb hts hown hE hk hH in_X1 rfl (by decide) (hts _ q240) (fun _ h9 => h9) ea32 (rdR_o e33) dX0_status_171 ?_
                    refine g_ifnonnull (pc := 174) (o := v33) (tgt := 181) hx hb dX0_status_174 (by decide) (fun c34 => ?_) (fun c34 => ?_)
                    · rw [if_neg c34] at hf
                      refine lv_aload_n (pc := 181) hx hb dX0_status_181 rfl (lv_at hl 0 rfl) ?_
                      obtain ⟨v35, e35, hf⟩ := bdo hf
                      refine g_get (pc := 182) (o := (some l0)) (a := l0) (ci := 0) (k := 0) (v := va_rf v35) (C := RX0) (T := TX0) (N := 7) hx hb hts hown hE hk hH in_X0 rfl (by decide) (hts _ q272) (fun _ h9 => h9) rfl (rdR_o e35) dX0_status_182 ?_
                      obtain ⟨a36, ea36, hf⟩ := bdo hf
                      obtain ⟨v37, e37, hf⟩ := bdo hf
                      refine g_get (pc := 185) (o := v35) (a := a36) (ci := 1) (k := 4) (v := va_rf v37) (C := RX1) (T := TX1) (N := 7) hx hb hts hown hE hk hH in_X1 rfl (by decide) (hts _ q240) (fun _ h9 => h9) ea36 (rdR_o e37) dX0_status_185 ?_
                      obtain ⟨a39, ea39, hf⟩ := bdo hf
                      obtain ⟨_, ek38, hf⟩ := bdo hf
                      obtain ⟨v38, S38, c38, n38, c2_38, n2_38, e38, hf, hC38, hN38⟩ := gbo hf
                      refine g_callV (pc := 188) (o := v37) (b := a39) (As := []) (rest := []) (st1 := [.int v38]) hc (mX6_many hk hJ (l0 := a39) e38) (cwV 0 hts (lw_V q1115 q1116 q1117 q129 q1118) rfl rfl rfl hdX6_many ⟨Nat.le_of_ble_eq_true rfl, Nat.le_of_ble_eq_true rfl⟩) (g_recv hE hk hH (ci := 8) (q := (RX6, TX6, 3)) rfl (chk_o ek38).choose_spec) ea39 rfl hl.1 rfl rfl (lv_room (Nat.le_of_ble_eq_true rfl)) dX0_status_188 hH hS (by omega) (by omega) (fun H locs hH hS => ?_)
                      have hkc : kc + c1 + c38 + c2_38 ≤ mc := by omega
                      have hks : ks + n1 + n38 + n2_38 ≤ ms := by omega
                      refine lv_goto (pc := 191) (tgt := 219) hx hb dX0_status_191 (by decide) ?_
                      exact g_iret (pc := 219) hx hb hr hlk hH hS hkc hks hf dX0_status_219
                    · rw [if_pos c34] at hf
                      refine lv_iconst (pc := 177) (v := nI 0) hx hb dX0_status_177 rfl ?_
                      refine lv_goto (pc := 178) (tgt := 219) hx hb dX0_status_178 (by decide) ?_
                      exact g_iret (pc := 219) hx hb hr hlk hH hS hkc hks hf dX0_status_219
                  · rw [if_neg c3_7] at hf
                    by_cases c3_8 : l1 = 8
                    · rw [if_pos c3_8] at hf
                      refine lv_tableIn (pc := 22) (off := 172) (tgt := 194) hx hb dX0_status_22 (by rw [c3_8]; decide) (by rw [c3_8]; decide) (by rw [c3_8]; rfl) (by decide) ?_
                      refine lv_aload_n (pc := 194) hx hb dX0_status_194 rfl (lv_at hl 0 rfl) ?_
                      obtain ⟨v40, e40, hf⟩ := bdo hf
                      refine g_get (pc := 195) (o := (some l0)) (a := l0) (ci := 0) (k := 5) (v := .int v40) (C := RX0) (T := TX0) (N := 7) hx hb hts hown hE hk hH in_X0 rfl (by decide) (hts _ q279) (fun _ h9 => h9) rfl (rdI_o e40) dX0_status_195 ?_
                      refine lv_goto (pc := 198) (tgt := 219) hx hb dX0_status_198 (by decide) ?_
                      exact g_iret (pc := 219) hx hb hr hlk hH hS hkc hks hf dX0_status_219
                    · rw [if_neg c3_8] at hf
                      by_cases c3_9 : l1 = 9
                      · rw [if_pos c3_9] at hf
                        refine lv_tableIn (pc := 22) (off := 179) (tgt := 201) hx hb dX0_status_22 (by rw [c3_9]; decide) (by rw [c3_9]; decide) (by rw [c3_9]; rfl) (by decide) ?_
                        refine lv_aload_n (pc := 201) hx hb dX0_status_201 rfl (lv_at hl 0 rfl) ?_
                        obtain ⟨v41, e41, hf⟩ := bdo hf
                        refine g_get (pc := 202) (o := (some l0)) (a := l0) (ci := 0) (k := 0) (v := va_rf v41) (C := RX0) (T := TX0) (N := 7) hx hb hts hown hE hk hH in_X0 rfl (by decide) (hts _ q272) (fun _ h9 => h9) rfl (rdR_o e41) dX0_status_202 ?_
                        obtain ⟨a42, ea42, hf⟩ := bdo hf
                        obtain ⟨v43, e43, hf⟩ := bdo hf
                        refine g_get (pc := 205) (o := v41) (a := a42) (ci := 1) (k := 6) (v := .int v43) (C := RX1) (T := TX1) (N := 7) hx hb hts hown hE hk hH in_X1 rfl (by decide) (hts _ q244) (fun _ h9 => h9) ea42 (rdI_o e43) dX0_status_205 ?_
                        refine lv_goto (pc := 208) (tgt := 219) hx hb dX0_status_208 (by decide) ?_
                        exact g_iret (pc := 219) hx hb hr hlk hH hS hkc hks hf dX0_status_219
                      · rw [if_neg c3_9] at hf
                        by_cases c3_10 : l1 = 10
                        · rw [if_pos c3_10] at hf
                          refine lv_tableIn (pc := 22) (off := 189) (tgt := 211) hx hb dX0_status_22 (by rw [c3_10]; decide) (by rw [c3_10]; decide) (by rw [c3_10]; rfl) (by decide) ?_
                          refine lv_aload_n (pc := 211) hx hb dX0_status_211 rfl (lv_at hl 0 rfl) ?_
                          obtain ⟨_, ek44, hf⟩ := bdo hf
                          obtain ⟨v44, S44, c44, n44, c2_44, n2_44, e44, hf, hC44, hN44⟩ := gbo hf
                          refine g_callV (pc := 212) (o := (some l0)) (b := l0) (As := []) (rest := []) (st1 := [.int v44]) hc (mX0_shelved hk hJ (l0 := l0) e44) (cwV 0 hts (lw_V q2829 q2831 qs50 q97 q2832) rfl rfl rfl hdX0_shelved ⟨Nat.le_of_ble_eq_true rfl, Nat.le_of_ble_eq_true rfl⟩) (g_recv hE hk hH (ci := 0) (q := (RX0, TX0, 7)) rfl (chk_o ek44).choose_spec) rfl rfl hl.1 rfl rfl (lv_room (Nat.le_of_ble_eq_true rfl)) dX0_status_212 hH hS (by omega) (by omega) (fun H locs hH hS => ?_)
                          have hkc : kc + c1 + c44 + c2_44 ≤ mc := by omega
                          have hks : ks + n1 + n44 + n2_44 ≤ ms := by omega
                          refine lv_goto (pc := 215) (tgt := 219) hx hb dX0_status_215 (by decide) ?_
                          exact g_iret (pc := 219) hx hb hr hlk hH hS hkc hks hf dX0_status_219
                        · rw [if_neg c3_10] at hf
                          refine lv_tableOut (pc := 22) (tgt := 218) hx hb dX0_status_22 (tsw10 c3_0 c3_1 c3_2 c3_3 c3_4 c3_5 c3_6 c3_7 c3_8 c3_9 c3_10) (by decide) ?_
                          refine lv_iconst (pc := 218) (v := -1) hx hb dX0_status_218 rfl ?_
                          exact g_iret (pc := 219) hx hb hr hlk hH hS hkc hks hf dX0_status_219
  · rw [if_neg c2] at hf
    refine lv_aload_n (pc := 11) hx hb dX0_status_11 rfl (lv_at hl 0 rfl) ?_
    obtain ⟨v45, e45, hf⟩ := bdo hf
    refine g_get (pc := 12) (o := (some l0)) (a := l0) (ci := 0) (k := 6) (v := va_rf v45) (C := RX0) (T := TX0) (N := 7) hx hb hts hown hE hk hH in_X0 rfl (by decide) (hts _ q280) (fun _ h9 => h9) rfl (rdR_o e45) dX0_status_12 ?_
    refine lv_iload_n (pc := 15) hx hb dX0_status_15 rfl (lv_at hl 1 rfl) ?_
    refine lv_bipush (pc := 16) (v := nI 10) hx hb dX0_status_16 gkb10 ?_
    refine lv_isub (pc := 18) hx hb dX0_status_18 ?_
    obtain ⟨a47, ea47, hf⟩ := bdo hf
    obtain ⟨v48, e48, hf⟩ := bdo hf
    refine g_iald (pc := 19) (o := v45) (a := a47) hx hb hE hk hH ea47 e48 dX0_status_19 ?_
    exact g_iret (pc := 20) hx hb hr hlk hH hS hkc hks hf dX0_status_20
theorem mX0_status {l : Launch} {G : gG} {Rp : gM → gM → Nat → Prop} (hk : rOK Rp) (hJ : JDK l G Rp) {S S2 : gS} {r2 : Int32} {C N : Nat} {l0 : Nat} {l1 : Int32} (hf : fX0_status G l0 l1 S = some (r2, S2, C, N)) : gMet l yX0_status cX0_status 2 (some .int) 19 3300 G Rp [.ref l0, .int l1] S (some (.int r2)) S2 C N := by
  refine g_startN (by decide) (Nat.le_of_ble_eq_true rfl) (fun p e s m args below meth c ls hnd hc hl hH => ?_)
  have hl : lv_has ls 2 [(0, .ref l0), (1, .int l1)] := hl
  exact wX0_status_b0 hk hJ hc hnd l0 l1 S _ _ ls 0 0 C N (by omega) (by omega) hH va_S.rf (lv_sub hl [0, 1] rfl) hf
end
section
variable {P : Int32 ⊕ gTh → gS → Prop}
def fX0_topic (G : gG) (l0 : Nat) (S : gS) : gX Int32 :=
  bd (rdR S l0 0 0) fun v1 =>
  nw S (cO 9 [.int 0, .null]) 2 fun S2 =>
  gb (fX5_init S.2 (some l0) S2) fun _ S3 =>
  bd (chk S3 S.2 9) fun _ =>
  gb (fX5_pattern G S.2 (nI 0) S3) fun r4 S4 => match r4 with
  | .inl v4 =>
    bd v1 fun a5 =>
    bd (wr S4 a5 1 4 (va_rf v4)) fun S6 =>
    bd (rdR S6 l0 0 0) fun v7 =>
    bd v7 fun a8 =>
    bd (rdR S6 a8 1 4) fun v9 =>
    bd v9 fun a11 =>
    bd (chk S6 a11 8) fun _ =>
    gb (fX6_many a11 S6) fun v10 S10 =>
    bd (wr S10 l0 0 5 (.int (nI 0))) fun S12 =>
    some (.inl v10, S12, 0, 0)
  | .inr (_, none) => none
  | .inr (E4, some q4) =>
    if E4 = "CreditBroker$Fault" then
      bd (chk S4 l0 0) fun _ =>
      gb (fX0_no l0 (-82) S4) fun v13 S13 =>
      bd (rdI S13 q4 27 6) fun v14 =>
      bd (wr S13 l0 0 5 (.int (nI 0))) fun S15 =>
      some (.inl ((-300) - v14), S15, 0, 0)
    else none
theorem wX0_topic_b0 (hk : rOK Rp) (hJ : JDK l G Rp) (hst : l.stackTraces = false) (htb : c.exceptionTable.toList = tableOf [(0, 30, 37, 216), (0, 30, 61, 0), (37, 54, 61, 0)]) (hc : gC p s m args meth c G RX0 "topic" cX0_topic 4 (some .int)) (l0 : Nat) (S : gS) (H : Heap) (locs : List Loc) (ls : Array Slot) (kc ks C N : Nat) (hkc : kc + C ≤ mc) (hks : ks + N ≤ ms) (hH : hp G Rp S H) (hS : va_S G.2.2.2 s.heap H locs) (hl : lv_has ls 4 [(0, .ref l0)]) (hf : (∀ j : Nat, oky C N (fX0_topic G l0 S) P)) : W p l e (gR 18 608 mc ms) s m args below meth c H locs kc ks (gQJ below G Rp iI P args s mc ms) (F0 m 0 ls []) := by
  obtain ⟨hx, hb, hr, hlk, hml, hown, hts, hE, hA, hnm⟩ := hc
  have hc : gC p s m args meth c G RX0 "topic" cX0_topic 4 (some .int) := ⟨hx, hb, hr, hlk, hml, hown, hts, hE, hA, hnm⟩
  simp only [fX0_topic] at hf
  refine lv_aload_n (pc := 0) hx hb dX0_topic_0 rfl (lv_at hl 0 rfl) ?_
  obtain ⟨v1, e1, hf⟩ := bdJ hf
  refine g_get (pc := 1) (o := (some l0)) (a := l0) (ci := 0) (k := 0) (v := va_rf v1) (C := RX0) (T := TX0) (N := 7) hx hb hts hown hE hk hH in_X0 rfl (by decide) (hts _ q272) (fun _ h9 => h9) rfl (rdR_o e1) dX0_topic_1 ?_
  obtain ⟨S2, c2_2, n2_2, eS2, hf, hC2, hN2⟩ := nwJ hf
  refine g_newo (pc := 4) (ci := 9) (C := RX5) (T := TX5) (N := 2) (fs := [.int 0, .null]) hx hb hts hown hE hA hk hH hS in_X5 tyX5_ok q928 q929 q128 rfl (fun j hj => by rcases (show j = 0 ∨ j = 1 by omega) with rfl | rfl <;> rfl) eS2 (Nat.le_trans (by omega) hkc) (Nat.le_trans (by omega) hks) dX0_topic_4 (fun H hH hS => ?_)
  have hkc : kc + 1 + c2_2 ≤ mc := by omega
  have hks : ks + 2 + n2_2 ≤ ms := by omega
  refine lv_dup (pc := 7) hx hb dX0_topic_7 rfl ?_
  refine lv_aload_n (pc := 8) hx hb dX0_topic_8 rfl (lv_at hl 0 rfl) ?_
  obtain ⟨_, S3, c3, n3, c2_3, n2_3, e3, hf, hC3, hN3⟩ := gbJ hf
  refine g_callIN (pc := 9) (o := (some S.2)) (b := S.2) (As := [.ref l0]) (rest := [.ref S.2, va_rf v1]) hc (mX5_init hk hJ (l0 := S.2) (l1 := (some l0)) e3) q930 q932 q128 q931 rfl hdiX5_init ⟨Nat.le_of_ble_eq_true rfl, Nat.le_of_ble_eq_true rfl⟩ rfl rfl hl.1 rfl (lv_room (by simp [va_rf_cat, cat_i, cat_j, cat_r])) dX0_topic_9 hH hS (by omega) (by omega) (fun H locs hH hS => ?_)
  have hkc : kc + 1 + c3 + c2_3 ≤ mc := by omega
  have hks : ks + 2 + n3 + n2_3 ≤ ms := by omega
  refine lv_iconst (pc := 12) (v := nI 0) hx hb dX0_topic_12 rfl ?_
  obtain ⟨_, ek4, hf⟩ := bdJ hf
  obtain ⟨r4, S4, c4, n4, c2_4, n2_4, e4, hf, hC4, hN4⟩ := gbJ hf
  refine g_callVJ (pc := 13) (ι := iR) (o := (some S.2)) (b := S.2) (As := [.int (nI 0)]) (rest := [va_rf v1]) hc (mX5_pattern hk hJ hst (l0 := S.2) (l1 := (nI 0)) e4) (cwV 1 hts (lw_V q941 q942 q943 q128 q944) rfl rfl rfl hdX5_pattern ⟨Nat.le_of_ble_eq_true rfl, Nat.le_of_ble_eq_true rfl⟩) (g_recv hE hk hH (ci := 9) (q := (RX5, TX5, 2)) rfl (chk_o ek4).choose_spec) rfl rfl hl.1 rfl (lv_room (by simp [va_rf_cat, cat_i, cat_j, cat_r])) dX0_topic_13 hH hS (by omega) (by omega) (fun v4 S9_4 H locs hP4 hH hS => ?_) (fun E4 x4 S9_4 q4 ce4 H locs hP4 hHx hS h1_4 h2_4 h3_4 => ?_)
  · obtain ⟨rfl, rfl⟩ := hP4
    try dsimp only at hf
    have hkc : kc + 1 + c3 + c4 + c2_4 ≤ mc := by omega
    have hks : ks + 2 + n3 + n4 + n2_4 ≤ ms := by omega
    refine W.eq (g2 := F0 m 16 ls [va_rf v4, va_rf v1]) rfl ?_
    obtain ⟨a5, ea5, hf⟩ := bdJ hf
    obtain ⟨S6, e6, hf⟩ := bdJ hf
    refine g_put (pc := 16) (o := v1) (a := a5) (ci := 1) (k := 4) (v := va_rf v4) (C := RX1) (T := TX1) (N := 7) (ty := .object "CreditBroker$Pattern") hx hb hts hown hE hk hH hS rfl in_X1 tyX1_ok nmX1 rfl (by decide) (hts _ q240) (fun _ h9 => h9) rfl rfl (nar_rf _ _) (fit_rf _ _) ea5 e6 dX0_topic_16 (fun H locs hH hS => ?_)
    refine lv_aload_n (pc := 19) hx hb dX0_topic_19 rfl (lv_at hl 0 rfl) ?_
    obtain ⟨v7, e7, hf⟩ := bdJ hf
    refine g_get (pc := 20) (o := (some l0)) (a := l0) (ci := 0) (k := 0) (v := va_rf v7) (C := RX0) (T := TX0) (N := 7) hx hb hts hown hE hk hH in_X0 rfl (by decide) (hts _ q272) (fun _ h9 => h9) rfl (rdR_o e7) dX0_topic_20 ?_
    obtain ⟨a8, ea8, hf⟩ := bdJ hf
    obtain ⟨v9, e9, hf⟩ := bdJ hf
    refine g_get (pc := 23) (o := v7) (a := a8) (ci := 1) (k := 4) (v := va_rf v9) (C := RX1) (T := TX1) (N := 7) hx hb hts hown hE hk hH in_X1 rfl (by decide) (hts _ q240) (fun _ h9 => h9) ea8 (rdR_o e9) dX0_topic_23 ?_
    obtain ⟨a11, ea11, hf⟩ := bdJ hf
    obtain ⟨_, ek10, hf⟩ := bdJ hf
    obtain ⟨v10, S10, c10, n10, c2_10, n2_10, e10, hf, hC10, hN10⟩ := gbJ hf
    refine g_callV (pc := 26) (o := v9) (b := a11) (As := []) (rest := []) (st1 := [.int v10]) hc (mX6_many hk hJ (l0 := a11) e10) (cwV 0 hts (lw_V q1115 q1116 q1117 q129 q1118) rfl rfl rfl hdX6_many ⟨Nat.le_of_ble_eq_true rfl, Nat.le_of_ble_eq_true rfl⟩) (g_recv hE hk hH (ci := 8) (q := (RX6, TX6, 3)) rfl (chk_o ek10).choose_spec) ea11 rfl hl.1 rfl rfl (lv_room (Nat.le_of_ble_eq_true rfl)) dX0_topic_26 hH hS (by omega) (by omega) (fun H locs hH hS => ?_)
    have hkc : kc + 1 + c3 + c4 + c10 + c2_10 ≤ mc := by omega
    have hks : ks + 2 + n3 + n4 + n10 + n2_10 ≤ ms := by omega
    refine lv_istore_n (pc := 29) (i := 1) (lv' := [(1, .int v10), (0, .ref l0)]) hx hb dX0_topic_29 rfl hl (by decide) rfl (fun ls hl => ?_)
    refine lv_aload_n (pc := 30) hx hb dX0_topic_30 rfl (lv_at hl 1 rfl) ?_
    refine lv_iconst (pc := 31) (v := nI 0) hx hb dX0_topic_31 rfl ?_
    obtain ⟨S12, e12, hf⟩ := bdJ hf
    refine g_put (pc := 32) (o := (some l0)) (a := l0) (ci := 0) (k := 5) (v := .int (nI 0)) (C := RX0) (T := TX0) (N := 7) (ty := .int) hx hb hts hown hE hk hH hS rfl in_X0 tyX0_ok nmX0 rfl (by decide) (hts _ q279) (fun _ h9 => h9) rfl rfl rfl rfl rfl e12 dX0_topic_32 (fun H locs hH hS => ?_)
    refine lv_iload_n (pc := 35) hx hb dX0_topic_35 rfl (lv_at hl 0 rfl) ?_
    exact g_iretJ (pc := 36) hx hb hr hlk hH hS hkc hks hf dX0_topic_36
  · obtain ⟨rfl, rfl⟩ := hP4
    try dsimp only at hf
    have hkc : kc + 1 + c3 + c4 + c2_4 ≤ mc := by omega
    have hks : ks + 2 + n3 + n4 + n2_4 ≤ ms := by omega
    cases x4 with
    | none => exact noJ hf
    | some q9 =>
      obtain ⟨rfl, hH⟩ := hHx
      try dsimp only at hf
      by_cases hE4 : E4 = "CreditBroker$Fault"
      · simp only [if_pos hE4] at hf
        subst hE4
        refine vx_catch (own := RX0) (name := "CreditBroker$Fault") hown [] ⟨0, 30, 37, 216⟩ [⟨0, 30, 61, 0⟩, ⟨37, 54, 61, 0⟩] (htb.trans rfl) lp0 (by decide) (by decide) (hts _ q927) (va_Nw.use rfl (hE.2.1.1 _ _ q1009)) h1_4 h2_4 h3_4 ?_
        refine lv_astore_n (pc := 37) (i := 1) (lv' := [(1, .ref q4), (0, .ref l0)]) hx hb dX0_topic_37 rfl hl (by decide) rfl (fun ls hl => ?_)
        refine lv_aload_n (pc := 38) hx hb dX0_topic_38 rfl (lv_at hl 1 rfl) ?_
        refine lv_bipush (pc := 39) (v := -82) hx hb dX0_topic_39 gkbm82 ?_
        obtain ⟨_, ek13, hf⟩ := bdJ hf
        obtain ⟨v13, S13, c13, n13, c2_13, n2_13, e13, hf, hC13, hN13⟩ := gbJ hf
        refine g_callV (pc := 41) (o := (some l0)) (b := l0) (As := [.int (-82)]) (rest := []) (st1 := [.int v13]) hc (mX0_no hk hJ (l0 := l0) (l1 := (-82)) e13) (cwV 1 hts (lw_V q398 q400 qs2 q97 q401) rfl rfl rfl hdX0_no ⟨Nat.le_of_ble_eq_true rfl, Nat.le_of_ble_eq_true rfl⟩) (g_recv hE hk hH (ci := 0) (q := (RX0, TX0, 7)) rfl (chk_o ek13).choose_spec) rfl rfl hl.1 rfl rfl (lv_room (Nat.le_of_ble_eq_true rfl)) dX0_topic_41 hH hS (by omega) (by omega) (fun H locs hH hS => ?_)
        have hkc : kc + 1 + c3 + c4 + c13 + c2_13 ≤ mc := by omega
        have hks : ks + 2 + n3 + n4 + n13 + n2_13 ≤ ms := by omega
        refine lv_pop (pc := 44) hx hb dX0_topic_44 rfl ?_
        refine lv_sipush (pc := 45) (v := -300) hx hb dX0_topic_45 gksm300 ?_
        refine lv_aload_n (pc := 48) hx hb dX0_topic_48 rfl (lv_at hl 0 rfl) ?_
        obtain ⟨v14, e14, hf⟩ := bdJ hf
        refine g_get (pc := 49) (o := (some q4)) (a := q4) (ci := 27) (k := 6) (v := .int v14) (C := RX7) (T := TX7) (N := 7) hx hb hts hown hE hk hH in_X7 rfl (by decide) (hts _ q1021) (fun _ h9 => h9) rfl (rdI_o e14) dX0_topic_49 ?_
        refine lv_isub (pc := 52) hx hb dX0_topic_52 ?_
        refine lv_istore_n (pc := 53) (i := 2) (lv' := [(2, .int ((-300) - v14)), (1, .ref q4), (0, .ref l0)]) hx hb dX0_topic_53 rfl hl (by decide) rfl (fun ls hl => ?_)
        refine lv_aload_n (pc := 54) hx hb dX0_topic_54 rfl (lv_at hl 2 rfl) ?_
        refine lv_iconst (pc := 55) (v := nI 0) hx hb dX0_topic_55 rfl ?_
        obtain ⟨S15, e15, hf⟩ := bdJ hf
        refine g_put (pc := 56) (o := (some l0)) (a := l0) (ci := 0) (k := 5) (v := .int (nI 0)) (C := RX0) (T := TX0) (N := 7) (ty := .int) hx hb hts hown hE hk hH hS rfl in_X0 tyX0_ok nmX0 rfl (by decide) (hts _ q279) (fun _ h9 => h9) rfl rfl rfl rfl rfl e15 dX0_topic_56 (fun H locs hH hS => ?_)
        refine lv_iload_n (pc := 59) hx hb dX0_topic_59 rfl (lv_at hl 0 rfl) ?_
        exact g_iretJ (pc := 60) hx hb hr hlk hH hS hkc hks hf dX0_topic_60
      · simp only [if_neg hE4] at hf
        exact noJ hf
theorem mX0_topic {l : Launch} {G : gG} {Rp : gM → gM → Nat → Prop} (hk : rOK Rp) (hJ : JDK l G Rp) (hst : l.stackTraces = false) {S : gS} {C N : Nat} {l0 : Nat} {S2 : gS} {r2 : Int32} (hf : fX0_topic G l0 S = some (.inl r2, S2, C, N)) : gMetW l yX0_topic cX0_topic 4 (some .int) [(0, 30, 37, 216), (0, 30, 61, 0), (37, 54, 61, 0)] 18 608 G Rp [.ref l0] S (some (.int r2)) S2 C N := by
  refine gMetJ_W (ι := iI) (r2 := r2) ?_
  refine g_startJW (by decide) (Nat.le_of_ble_eq_true rfl) (fun p e s m args below meth c ls hc htb hl hH => ?_)
  have hl : lv_has ls 4 [(0, .ref l0)] := hl
  exact wX0_topic_b0 hk hJ hst htb hc l0 S _ _ ls 0 0 C N (by omega) (by omega) hH va_S.rf (lv_sub hl [0] rfl) (fun _ => ⟨_, _, _, _, hf, Nat.le_refl _, Nat.le_refl _, rfl, rfl⟩)
end
section
variable {r : Int32} {Sf : gS}
def fX0_until_b22 : Nat → Int32 → (Option Nat) → Int32 → gS → gO Int32
  | 0, _, _, _, _ => none
  | n + 1, l1, l2, l3, S =>
    if (nI 99) < l3 then
      some (-1, S, 0, 0)
    else
      bd l2 fun a2 =>
      bd (rdR S a2 1 0) fun v3 =>
      bd v3 fun a5 =>
      gb (nAL_get a5 l1 S) fun v4 S4 =>
      bd (ckc S4 v4 3) fun _ =>
      bd v4 fun a8 =>
      bd (chk S4 a8 3) fun _ =>
      gb (fX8_next a8 S4) fun v7 S7 =>
      if v7 = none then
        bd (chk S7 a2 1) fun _ =>
        gb (fX1_passes a2 S7) fun v10 S10 =>
        fX0_until_b22 n l1 l2 (l3 + (nI 1)) S10
      else
        some (l3, S7, 0, 0)
theorem wX0_until_b22 (hk : rOK Rp) (hJ : JDK l G Rp) (hc : gC p s m args meth c G RX0 "until" cX0_until 4 (some .int)) : ∀ (n : Nat) (l1 : Int32) (l2 : Option Nat) (l3 : Int32) (S : gS) (H : Heap) (locs : List Loc) (ls : Array Slot) (kc ks C N : Nat), kc + C ≤ mc → ks + N ≤ ms → hp G Rp S H → va_S G.2.2.2 s.heap H locs → lv_has ls 4 [(1, .int l1), (2, va_rf l2), (3, .int l3)] → fX0_until_b22 n l1 l2 l3 S = some (r, Sf, C, N) → W p l e (gR 19 633 mc ms) s m args below meth c H locs kc ks (gQ below G Rp (some (.int r)) Sf args s mc ms) (F0 m 22 ls []) := by
  obtain ⟨hx, hb, hr, hlk, hml, hown, hts, hE, hA, hnm⟩ := hc
  have hc : gC p s m args meth c G RX0 "until" cX0_until 4 (some .int) := ⟨hx, hb, hr, hlk, hml, hown, hts, hE, hA, hnm⟩
  intro n
  induction n with
  | zero => intro l1 l2 l3 S H locs ls kc ks C N _ _ _ _ _ hf; exact absurd hf (fun h => by cases h)
  | succ n ih =>
    intro l1 l2 l3 S H locs ls kc ks C N hkc hks hH hS hl hf
    rw [fX0_until_b22] at hf
    refine lv_iload_n (pc := 22) hx hb dX0_until_22 rfl (lv_at hl 2 rfl) ?_
    refine lv_bipush (pc := 23) (v := nI 99) hx hb dX0_until_23 gkb99 ?_
    refine lv_icmp_gt (pc := 25) (tgt := 58) hx hb dX0_until_25 (by decide) (fun c1 => ?_) (fun c1 => ?_)
    · rw [if_pos c1] at hf
      refine lv_iconst (pc := 58) (v := -1) hx hb dX0_until_58 rfl ?_
      exact g_iret (pc := 59) hx hb hr hlk hH hS hkc hks hf dX0_until_59
    · rw [if_neg c1] at hf
      refine g_aload_n (pc := 28) (o := l2) hx hb dX0_until_28 rfl (lv_at hl 1 rfl) ?_
      obtain ⟨a2, ea2, hf⟩ := bdo hf
      obtain ⟨v3, e3, hf⟩ := bdo hf
      refine g_get (pc := 29) (o := l2) (a := a2) (ci := 1) (k := 0) (v := va_rf v3) (C := RX1) (T := TX1) (N := 7) hx hb hts hown hE hk hH in_X1 rfl (by decide) (hts _ q232) (fun _ h9 => h9) ea2 (rdR_o e3) dX0_until_29 ?_
      refine lv_iload_n (pc := 32) hx hb dX0_until_32 rfl (lv_at hl 0 rfl) ?_
      obtain ⟨a5, ea5, hf⟩ := bdo hf
      obtain ⟨v4, S4, c4, n4, c2_4, n2_4, e4, hf, hC4, hN4⟩ := gbo hf
      refine g_callV (pc := 33) (o := v3) (b := a5) (As := [.int l1]) (rest := []) (st1 := [va_rf v4]) hc (j_nAL_get hJ a5 l1 S v4 S4 c4 n4 e4) (cwV 1 hts (lw_V q1222 q1223 q1224 q101 q1225) rfl rfl rfl hdJ2_get ⟨Nat.le_of_ble_eq_true rfl, Nat.le_of_ble_eq_true rfl⟩) (j_recv hJ _ _ _ _ 0 _ _ hE hH hS (adtR (t := 0) (show bd _ _ = some _ from e4)).choose_spec) ea5 rfl hl.1 rfl rfl (lv_room (Nat.le_of_ble_eq_true rfl)) dX0_until_33 hH hS (by omega) (by omega) (fun H locs hH hS => ?_)
      have hkc : kc + c4 + c2_4 ≤ mc := by omega
      have hks : ks + n4 + n2_4 ≤ ms := by omega
      obtain ⟨_, e6, hf⟩ := bdo hf
      refine g_cast (pc := 36) (o := v4) (ci := 3) (C := RX8) (T := TX8) (N := 13) hx hb hts hown hE hk hH rfl q1135 e6 dX0_until_36 ?_
      obtain ⟨a8, ea8, hf⟩ := bdo hf
      obtain ⟨_, ek7, hf⟩ := bdo hf
      obtain ⟨v7, S7, c7, n7, c2_7, n2_7, e7, hf, hC7, hN7⟩ := gbo hf
      refine g_callV (pc := 39) (o := v4) (b := a8) (As := []) (rest := []) (st1 := [va_rf v7]) hc (mX8_next hk hJ (l0 := a8) e7) (cwV 0 hts (lw_V q2562 q1754 q1755 q131 q1756) rfl rfl rfl hdX8_next ⟨Nat.le_of_ble_eq_true rfl, Nat.le_of_ble_eq_true rfl⟩) (g_recv hE hk hH (ci := 3) (q := (RX8, TX8, 13)) rfl (chk_o ek7).choose_spec) ea8 rfl hl.1 rfl rfl (lv_room (Nat.le_of_ble_eq_true rfl)) dX0_until_39 hH hS (by omega) (by omega) (fun H locs hH hS => ?_)
      have hkc : kc + c4 + c7 + c2_7 ≤ mc := by omega
      have hks : ks + n4 + n7 + n2_7 ≤ ms := by omega
      refine g_ifnull (pc := 42) (o := v7) (tgt := 47) hx hb dX0_until_42 (by decide) (fun c9 => ?_) (fun c9 => ?_)
      · rw [if_pos c9] at hf
        refine g_aload_n (pc := 47) (o := l2) hx hb dX0_until_47 rfl (lv_at hl 1 rfl) ?_
        obtain ⟨_, ek10, hf⟩ := bdo hf
        obtain ⟨v10, S10, c10, n10, c2_10, n2_10, e10, hf, hC10, hN10⟩ := gbo hf
        refine g_callV (pc := 48) (o := l2) (b := a2) (As := []) (rest := []) (st1 := [.int v10]) hc (mX1_passes hk hJ (l0 := a2) e10) (cwV 0 hts (lw_V q1908 q1909 q1910 q98 q1911) rfl rfl rfl hdX1_passes ⟨Nat.le_of_ble_eq_true rfl, Nat.le_of_ble_eq_true rfl⟩) (g_recv hE hk hH (ci := 1) (q := (RX1, TX1, 7)) rfl (chk_o ek10).choose_spec) ea2 rfl hl.1 rfl rfl (lv_room (Nat.le_of_ble_eq_true rfl)) dX0_until_48 hH hS (by omega) (by omega) (fun H locs hH hS => ?_)
        have hkc : kc + c4 + c7 + c10 + c2_10 ≤ mc := by omega
        have hks : ks + n4 + n7 + n10 + n2_10 ≤ ms := by omega
        refine lv_pop (pc := 51) hx hb dX0_until_51 rfl ?_
        refine lv_iinc (pc := 52) (v := l3 + (nI 1)) (lv' := [(3, .int (l3 + (nI 1))), (1, .int l1), (2, va_rf l2)]) hx hb dX0_until_52 hl (k := 2) rfl rfl (by decide) (by simp [va_rf_cat, cat_i, cat_j, cat_r] <;> rfl) (fun ls hl => ?_)
        refine lv_goto (pc := 55) (tgt := 22) hx hb dX0_until_55 (by decide) ?_
        exact ih l1 l2 (l3 + (nI 1)) S10 _ _ ls _ _ _ _ hkc hks hH hS (lv_sub hl [1, 2, 0] rfl) hf
      · rw [if_neg c9] at hf
        refine lv_iload_n (pc := 45) hx hb dX0_until_45 rfl (lv_at hl 2 rfl) ?_
        exact g_iret (pc := 46) hx hb hr hlk hH hS hkc hks hf dX0_until_46
def fX0_until (l0 : Nat) (l1 : Int32) (S : gS) : gO Int32 :=
  bd (chk S l0 0) fun _ =>
  gb (fX0_isQueue l0 l1 S) fun v1 S1 =>
  if v1 = 0 then
    bd (chk S1 l0 0) fun _ =>
    gb (fX0_no l0 (-82) S1) fun v4 S4 =>
    some (v4, S4, 0, 0)
  else
    bd (chk S1 l0 0) fun _ =>
    gb (fX0_copied l0 S1) fun v3 S3 =>
    fX0_until_b22 FU l1 v3 (nI 0) S3
theorem wX0_until_b0 (hk : rOK Rp) (hJ : JDK l G Rp) (hc : gC p s m args meth c G RX0 "until" cX0_until 4 (some .int)) (l0 : Nat) (l1 : Int32) (S : gS) (H : Heap) (locs : List Loc) (ls : Array Slot) (kc ks C N : Nat) (hkc : kc + C ≤ mc) (hks : ks + N ≤ ms) (hH : hp G Rp S H) (hS : va_S G.2.2.2 s.heap H locs) (hl : lv_has ls 4 [(0, .ref l0), (1, .int l1)]) (hf : fX0_until l0 l1 S = some (r, Sf, C, N)) : W p l e (gR 19 633 mc ms) s m args below meth c H locs kc ks (gQ below G Rp (some (.int r)) Sf args s mc ms) (F0 m 0 ls []) := by
  obtain ⟨hx, hb, hr, hlk, hml, hown, hts, hE, hA, hnm⟩ := hc
  have hc : gC p s m args meth c G RX0 "until" cX0_until 4 (some .int) := ⟨hx, hb, hr, hlk, hml, hown, hts, hE, hA, hnm⟩
  unfold fX0_until at hf
  refine lv_aload_n (pc := 0) hx hb dX0_until_0 rfl (lv_at hl 0 rfl) ?_
  refine lv_iload_n (pc := 1) hx hb dX0_until_1 rfl (lv_at hl 1 rfl) ?_
  obtain ⟨_, ek1, hf⟩ := bdo hf
  obtain ⟨v1, S1, c1, n1, c2_1, n2_1, e1, hf, hC1, hN1⟩ := gbo hf
  refine g_callV (pc := 2) (o := (some l0)) (b := l0) (As := [.int l1]) (rest := []) (st1 := [.int v1]) hc (mX0_isQueue hk hJ (l0 := l0) (l1 := l1) e1) (cwV 1 hts (lw_V q1214 q1216 qs17 q97 q1217) rfl rfl rfl hdX0_isQueue ⟨Nat.le_of_ble_eq_true rfl, Nat.le_of_ble_eq_true rfl⟩) (g_recv hE hk hH (ci := 0) (q := (RX0, TX0, 7)) rfl (chk_o ek1).choose_spec) rfl rfl hl.1 rfl rfl (lv_room (Nat.le_of_ble_eq_true rfl)) dX0_until_2 hH hS (by omega) (by omega) (fun H locs hH hS => ?_)
  have hkc : kc + c1 + c2_1 ≤ mc := by omega
  have hks : ks + n1 + n2_1 ≤ ms := by omega
  refine lv_if_ne (pc := 5) (tgt := 15) hx hb dX0_until_5 (by decide) (fun c2 => ?_) (fun c2 => ?_)
  · rw [if_neg c2] at hf
    refine lv_aload_n (pc := 15) hx hb dX0_until_15 rfl (lv_at hl 0 rfl) ?_
    obtain ⟨_, ek3, hf⟩ := bdo hf
    obtain ⟨v3, S3, c3, n3, c2_3, n2_3, e3, hf, hC3, hN3⟩ := gbo hf
    refine g_callV (pc := 16) (o := (some l0)) (b := l0) (As := []) (rest := []) (st1 := [va_rf v3]) hc (mX0_copied hk hJ (l0 := l0) e3) (cwV 0 hts (lw_V q2678 q2680 qs43 q97 q2681) rfl rfl rfl hdX0_copied ⟨Nat.le_of_ble_eq_true rfl, Nat.le_of_ble_eq_true rfl⟩) (g_recv hE hk hH (ci := 0) (q := (RX0, TX0, 7)) rfl (chk_o ek3).choose_spec) rfl rfl hl.1 rfl rfl (lv_room (Nat.le_of_ble_eq_true rfl)) dX0_until_16 hH hS (by omega) (by omega) (fun H locs hH hS => ?_)
    have hkc : kc + c1 + c3 + c2_3 ≤ mc := by omega
    have hks : ks + n1 + n3 + n2_3 ≤ ms := by omega
    refine g_astore_n (pc := 19) (i := 2) (o := v3) (lv' := [(2, va_rf v3), (0, .ref l0), (1, .int l1)]) hx hb dX0_until_19 rfl hl (by decide) rfl (fun ls hl => ?_)
    refine lv_iconst (pc := 20) (v := nI 0) hx hb dX0_until_20 rfl ?_
    refine lv_istore_n (pc := 21) (i := 3) (lv' := [(3, .int (nI 0)), (2, va_rf v3), (0, .ref l0), (1, .int l1)]) hx hb dX0_until_21 rfl hl (by decide) (by simp [va_rf_cat, cat_i, cat_j, cat_r] <;> rfl) (fun ls hl => ?_)
    exact wX0_until_b22 hk hJ hc FU l1 v3 (nI 0) S3 _ _ ls _ _ _ _ hkc hks hH hS (lv_sub hl [3, 1, 0] rfl) hf
  · rw [if_pos c2] at hf
    refine lv_aload_n (pc := 8) hx hb dX0_until_8 rfl (lv_at hl 0 rfl) ?_
    refine lv_bipush (pc := 9) (v := -82) hx hb dX0_until_9 gkbm82 ?_
    obtain ⟨_, ek4, hf⟩ := bdo hf
    obtain ⟨v4, S4, c4, n4, c2_4, n2_4, e4, hf, hC4, hN4⟩ := gbo hf
    refine g_callV (pc := 11) (o := (some l0)) (b := l0) (As := [.int (-82)]) (rest := []) (st1 := [.int v4]) hc (mX0_no hk hJ (l0 := l0) (l1 := (-82)) e4) (cwV 1 hts (lw_V q398 q400 qs2 q97 q401) rfl rfl rfl hdX0_no ⟨Nat.le_of_ble_eq_true rfl, Nat.le_of_ble_eq_true rfl⟩) (g_recv hE hk hH (ci := 0) (q := (RX0, TX0, 7)) rfl (chk_o ek4).choose_spec) rfl rfl hl.1 rfl rfl (lv_room (Nat.le_of_ble_eq_true rfl)) dX0_until_11 hH hS (by omega) (by omega) (fun H locs hH hS => ?_)
    have hkc : kc + c1 + c4 + c2_4 ≤ mc := by omega
    have hks : ks + n1 + n4 + n2_4 ≤ ms := by omega
    exact g_iret (pc := 14) hx hb hr hlk hH hS hkc hks hf dX0_until_14
theorem mX0_until {l : Launch} {G : gG} {Rp : gM → gM → Nat → Prop} (hk : rOK Rp) (hJ : JDK l G Rp) {S S2 : gS} {r2 : Int32} {C N : Nat} {l0 : Nat} {l1 : Int32} (hf : fX0_until l0 l1 S = some (r2, S2, C, N)) : gMet l yX0_until cX0_until 4 (some .int) 19 633 G Rp [.ref l0, .int l1] S (some (.int r2)) S2 C N := by
  refine g_start (by decide) (Nat.le_of_ble_eq_true rfl) (fun p e s m args below meth c ls hc hl hH => ?_)
  have hl : lv_has ls 4 [(0, .ref l0), (1, .int l1)] := hl
  exact wX0_until_b0 hk hJ hc l0 l1 S _ _ ls 0 0 C N (by omega) (by omega) hH va_S.rf (lv_sub hl [0, 1] rfl) hf
end
section
variable {r : Int32} {Sf : gS}
def fX0_wipe (l0 : Nat) (S : gS) : gO Int32 :=
  bd (rdI S l0 0 5) fun v1 =>
  bd (wr S l0 0 5 (.int (nI 0))) fun S2 =>
  some (v1, S2, 0, 0)
theorem wX0_wipe_b0 (hk : rOK Rp) (hJ : JDK l G Rp) (hc : gC p s m args meth c G RX0 "wipe" cX0_wipe 2 (some .int)) (l0 : Nat) (S : gS) (H : Heap) (locs : List Loc) (ls : Array Slot) (kc ks C N : Nat) (hkc : kc + C ≤ mc) (hks : ks + N ≤ ms) (hH : hp G Rp S H) (hS : va_S G.2.2.2 s.heap H locs) (hl : lv_has ls 2 [(0, .ref l0)]) (hf : fX0_wipe l0 S = some (r, Sf, C, N)) : W p l e (gR 1 40 mc ms) s m args below meth c H locs kc ks (gQ below G Rp (some (.int r)) Sf args s mc ms) (F0 m 0 ls []) := by
  obtain ⟨hx, hb, hr, hlk, hml, hown, hts, hE, hA, hnm⟩ := hc
  have hc : gC p s m args meth c G RX0 "wipe" cX0_wipe 2 (some .int) := ⟨hx, hb, hr, hlk, hml, hown, hts, hE, hA, hnm⟩
  unfold fX0_wipe at hf
  refine lv_aload_n (pc := 0) hx hb dX0_wipe_0 rfl (lv_at hl 0 rfl) ?_
  obtain ⟨v1, e1, hf⟩ := bdo hf
  refine g_get (pc := 1) (o := (some l0)) (a := l0) (ci := 0) (k := 5) (v := .int v1) (C := RX0) (T := TX0) (N := 7) hx hb hts hown hE hk hH in_X0 rfl (by decide) (hts _ q279) (fun _ h9 => h9) rfl (rdI_o e1) dX0_wipe_1 ?_
  refine lv_istore_n (pc := 4) (i := 1) (lv' := [(1, .int v1), (0, .ref l0)]) hx hb dX0_wipe_4 rfl hl (by decide) rfl (fun ls hl => ?_)
  refine lv_aload_n (pc := 5) hx hb dX0_wipe_5 rfl (lv_at hl 1 rfl) ?_
  refine lv_iconst (pc := 6) (v := nI 0) hx hb dX0_wipe_6 rfl ?_
  obtain ⟨S2, e2, hf⟩ := bdo hf
  refine g_put (pc := 7) (o := (some l0)) (a := l0) (ci := 0) (k := 5) (v := .int (nI 0)) (C := RX0) (T := TX0) (N := 7) (ty := .int) hx hb hts hown hE hk hH hS rfl in_X0 tyX0_ok nmX0 rfl (by decide) (hts _ q279) (fun _ h9 => h9) rfl rfl rfl rfl rfl e2 dX0_wipe_7 (fun H locs hH hS => ?_)
  refine lv_iload_n (pc := 10) hx hb dX0_wipe_10 rfl (lv_at hl 0 rfl) ?_
  exact g_iret (pc := 11) hx hb hr hlk hH hS hkc hks hf dX0_wipe_11
theorem mX0_wipe {l : Launch} {G : gG} {Rp : gM → gM → Nat → Prop} (hk : rOK Rp) (hJ : JDK l G Rp) {S S2 : gS} {r2 : Int32} {C N : Nat} {l0 : Nat} (hf : fX0_wipe l0 S = some (r2, S2, C, N)) : gMet l yX0_wipe cX0_wipe 2 (some .int) 1 40 G Rp [.ref l0] S (some (.int r2)) S2 C N := by
  refine g_start (by decide) (Nat.le_of_ble_eq_true rfl) (fun p e s m args below meth c ls hc hl hH => ?_)
  have hl : lv_has ls 2 [(0, .ref l0)] := hl
  exact wX0_wipe_b0 hk hJ hc l0 S _ _ ls 0 0 C N (by omega) (by omega) hH va_S.rf (lv_sub hl [0] rfl) hf
end
section
variable {r : Int32} {Sf : gS}
def fX9_compare_2 (l0 : Nat) (l1 : Option Nat) (l2 : Option Nat) (S : gS) : gO Int32 :=
  bd (ckc S l1 4) fun _ =>
  bd (ckc S l2 4) fun _ =>
  bd (chk S l0 10) fun _ =>
  gb (fX9_compare l1 l2 S) fun v3 S3 =>
  some (v3, S3, 0, 0)
theorem wX9_compare_2_b0 (hk : rOK Rp) (hJ : JDK l G Rp) (hc : gC p s m args meth c G RX9 "compare" cX9_compare_2 3 (some .int)) (l0 : Nat) (l1 : Option Nat) (l2 : Option Nat) (S : gS) (H : Heap) (locs : List Loc) (ls : Array Slot) (kc ks C N : Nat) (hkc : kc + C ≤ mc) (hks : ks + N ≤ ms) (hH : hp G Rp S H) (hS : va_S G.2.2.2 s.heap H locs) (hl : lv_has ls 3 [(0, .ref l0), (1, va_rf l1), (2, va_rf l2)]) (hf : fX9_compare_2 l0 l1 l2 S = some (r, Sf, C, N)) : W p l e (gR 2 64 mc ms) s m args below meth c H locs kc ks (gQ below G Rp (some (.int r)) Sf args s mc ms) (F0 m 0 ls []) := by
  obtain ⟨hx, hb, hr, hlk, hml, hown, hts, hE, hA, hnm⟩ := hc
  have hc : gC p s m args meth c G RX9 "compare" cX9_compare_2 3 (some .int) := ⟨hx, hb, hr, hlk, hml, hown, hts, hE, hA, hnm⟩
  unfold fX9_compare_2 at hf
  refine lv_aload_n (pc := 0) hx hb dX9_compare_2_0 rfl (lv_at hl 0 rfl) ?_
  refine g_aload_n (pc := 1) (o := l1) hx hb dX9_compare_2_1 rfl (lv_at hl 1 rfl) ?_
  obtain ⟨_, e1, hf⟩ := bdo hf
  refine g_cast (pc := 2) (o := l1) (ci := 4) (C := RX16) (T := TX16) (N := 6) hx hb hts hown hE hk hH rfl q2172 e1 dX9_compare_2_2 ?_
  refine g_aload_n (pc := 5) (o := l2) hx hb dX9_compare_2_5 rfl (lv_at hl 2 rfl) ?_
  obtain ⟨_, e2, hf⟩ := bdo hf
  refine g_cast (pc := 6) (o := l2) (ci := 4) (C := RX16) (T := TX16) (N := 6) hx hb hts hown hE hk hH rfl q2172 e2 dX9_compare_2_6 ?_
  obtain ⟨_, ek3, hf⟩ := bdo hf
  obtain ⟨v3, S3, c3, n3, c2_3, n2_3, e3, hf, hC3, hN3⟩ := gbo hf
  refine g_callV (pc := 9) (o := (some l0)) (b := l0) (As := [va_rf l1, va_rf l2]) (rest := []) (st1 := [.int v3]) hc (mX9_compare hk hJ (l0 := l0) (l1 := l1) (l2 := l2) e3) (cwV 2 hts (lw_V q2173 q1760 q1761 q132 q1762) rfl rfl rfl hdX9_compare ⟨Nat.le_of_ble_eq_true rfl, Nat.le_of_ble_eq_true rfl⟩) (g_recv hE hk hH (ci := 10) (q := (RX9, noT, 0)) rfl (chk_o ek3).choose_spec) rfl rfl hl.1 rfl rfl (lv_room (Nat.le_of_ble_eq_true rfl)) dX9_compare_2_9 hH hS (by omega) (by omega) (fun H locs hH hS => ?_)
  have hkc : kc + c3 + c2_3 ≤ mc := by omega
  have hks : ks + n3 + n2_3 ≤ ms := by omega
  exact g_iret (pc := 12) hx hb hr hlk hH hS hkc hks hf dX9_compare_2_12
theorem mX9_compare_2 {l : Launch} {G : gG} {Rp : gM → gM → Nat → Prop} (hk : rOK Rp) (hJ : JDK l G Rp) {S S2 : gS} {r2 : Int32} {C N : Nat} {l0 : Nat} {l1 : Option Nat} {l2 : Option Nat} (hf : fX9_compare_2 l0 l1 l2 S = some (r2, S2, C, N)) : gMet l yX9_compare_2 cX9_compare_2 3 (some .int) 2 64 G Rp [.ref l0, va_rf l1, va_rf l2] S (some (.int r2)) S2 C N := by
  refine g_start (by decide) (by simp [lg_sl, va_rf_cat, cat_i, cat_j, cat_r]) (fun p e s m args below meth c ls hc hl hH => ?_)
  have hl : lv_has ls 3 [(0, .ref l0), (1, va_rf l1), (2, va_rf l2)] := by simpa [lv_args, va_rf_cat, cat_i, cat_j, cat_r] using hl
  exact wX9_compare_2_b0 hk hJ hc l0 l1 l2 S _ _ ls 0 0 C N (by omega) (by omega) hH va_S.rf (lv_sub hl [0, 1, 2] rfl) hf
end
section
variable {r : Int32} {Sf : gS}
def fX14_limit (l0 : Nat) (S : gS) : gO Int32 :=
  bd (rdI S l0 14 3) fun v1 =>
  some (v1, S, 0, 0)
theorem wX14_limit_b0 (hk : rOK Rp) (hJ : JDK l G Rp) (hc : gC p s m args meth c G RX14 "limit" cX14_limit 1 (some .int)) (l0 : Nat) (S : gS) (H : Heap) (locs : List Loc) (ls : Array Slot) (kc ks C N : Nat) (hkc : kc + C ≤ mc) (hks : ks + N ≤ ms) (hH : hp G Rp S H) (hS : va_S G.2.2.2 s.heap H locs) (hl : lv_has ls 1 [(0, .ref l0)]) (hf : fX14_limit l0 S = some (r, Sf, C, N)) : W p l e (gR 1 40 mc ms) s m args below meth c H locs kc ks (gQ below G Rp (some (.int r)) Sf args s mc ms) (F0 m 0 ls []) := by
  obtain ⟨hx, hb, hr, hlk, hml, hown, hts, hE, hA, hnm⟩ := hc
  have hc : gC p s m args meth c G RX14 "limit" cX14_limit 1 (some .int) := ⟨hx, hb, hr, hlk, hml, hown, hts, hE, hA, hnm⟩
  unfold fX14_limit at hf
  refine lv_aload_n (pc := 0) hx hb dX14_limit_0 rfl (lv_at hl 0 rfl) ?_
  obtain ⟨v1, e1, hf⟩ := bdo hf
  refine g_get (pc := 1) (o := (some l0)) (a := l0) (ci := 14) (k := 3) (v := .int v1) (C := RX14) (T := TX14) (N := 4) hx hb hts hown hE hk hH in_X14 rfl (by decide) (hts _ q1621) (fun _ h9 => h9) rfl (rdI_o e1) dX14_limit_1 ?_
  exact g_iret (pc := 4) hx hb hr hlk hH hS hkc hks hf dX14_limit_4
theorem mX14_limit {l : Launch} {G : gG} {Rp : gM → gM → Nat → Prop} (hk : rOK Rp) (hJ : JDK l G Rp) {S S2 : gS} {r2 : Int32} {C N : Nat} {l0 : Nat} (hf : fX14_limit l0 S = some (r2, S2, C, N)) : gMet l yX14_limit cX14_limit 1 (some .int) 1 40 G Rp [.ref l0] S (some (.int r2)) S2 C N := by
  refine g_start (by decide) (Nat.le_of_ble_eq_true rfl) (fun p e s m args below meth c ls hc hl hH => ?_)
  have hl : lv_has ls 1 [(0, .ref l0)] := hl
  exact wX14_limit_b0 hk hJ hc l0 S _ _ ls 0 0 C N (by omega) (by omega) hH va_S.rf (lv_sub hl [0] rfl) hf
end
section
variable {r : Int32} {Sf : gS}
def fX18_who (l0 : Nat) (S : gS) : gO Int32 :=
  bd (rdI S l0 11 4) fun v1 =>
  some (v1, S, 0, 0)
theorem wX18_who_b0 (hk : rOK Rp) (hJ : JDK l G Rp) (hc : gC p s m args meth c G RX18 "who" cX18_who 1 (some .int)) (l0 : Nat) (S : gS) (H : Heap) (locs : List Loc) (ls : Array Slot) (kc ks C N : Nat) (hkc : kc + C ≤ mc) (hks : ks + N ≤ ms) (hH : hp G Rp S H) (hS : va_S G.2.2.2 s.heap H locs) (hl : lv_has ls 1 [(0, .ref l0)]) (hf : fX18_who l0 S = some (r, Sf, C, N)) : W p l e (gR 1 40 mc ms) s m args below meth c H locs kc ks (gQ below G Rp (some (.int r)) Sf args s mc ms) (F0 m 0 ls []) := by
  obtain ⟨hx, hb, hr, hlk, hml, hown, hts, hE, hA, hnm⟩ := hc
  have hc : gC p s m args meth c G RX18 "who" cX18_who 1 (some .int) := ⟨hx, hb, hr, hlk, hml, hown, hts, hE, hA, hnm⟩
  unfold fX18_who at hf
  refine lv_aload_n (pc := 0) hx hb dX18_who_0 rfl (lv_at hl 0 rfl) ?_
  obtain ⟨v1, e1, hf⟩ := bdo hf
  refine g_get (pc := 1) (o := (some l0)) (a := l0) (ci := 11) (k := 4) (v := .int v1) (C := RX18) (T := TX18) (N := 5) hx hb hts hown hE hk hH in_X18 rfl (by decide) (hts _ q1887) (fun x h9 => u_same (hts _ q1888) x h9) rfl (rdI_o e1) dX18_who_1 ?_
  exact g_iret (pc := 4) hx hb hr hlk hH hS hkc hks hf dX18_who_4
theorem mX18_who {l : Launch} {G : gG} {Rp : gM → gM → Nat → Prop} (hk : rOK Rp) (hJ : JDK l G Rp) {S S2 : gS} {r2 : Int32} {C N : Nat} {l0 : Nat} (hf : fX18_who l0 S = some (r2, S2, C, N)) : gMet l yX18_who cX18_who 1 (some .int) 1 40 G Rp [.ref l0] S (some (.int r2)) S2 C N := by
  refine g_start (by decide) (Nat.le_of_ble_eq_true rfl) (fun p e s m args below meth c ls hc hl hH => ?_)
  have hl : lv_has ls 1 [(0, .ref l0)] := hl
  exact wX18_who_b0 hk hJ hc l0 S _ _ ls 0 0 C N (by omega) (by omega) hH va_S.rf (lv_sub hl [0] rfl) hf
end
section
variable {r : Int32} {Sf : gS}
def fX19_who (l0 : Nat) (S : gS) : gO Int32 :=
  bd (rdI S l0 12 4) fun v1 =>
  some (v1, S, 0, 0)
theorem wX19_who_b0 (hk : rOK Rp) (hJ : JDK l G Rp) (hc : gC p s m args meth c G RX19 "who" cX19_who 1 (some .int)) (l0 : Nat) (S : gS) (H : Heap) (locs : List Loc) (ls : Array Slot) (kc ks C N : Nat) (hkc : kc + C ≤ mc) (hks : ks + N ≤ ms) (hH : hp G Rp S H) (hS : va_S G.2.2.2 s.heap H locs) (hl : lv_has ls 1 [(0, .ref l0)]) (hf : fX19_who l0 S = some (r, Sf, C, N)) : W p l e (gR 1 40 mc ms) s m args below meth c H locs kc ks (gQ below G Rp (some (.int r)) Sf args s mc ms) (F0 m 0 ls []) := by
  obtain ⟨hx, hb, hr, hlk, hml, hown, hts, hE, hA, hnm⟩ := hc
  have hc : gC p s m args meth c G RX19 "who" cX19_who 1 (some .int) := ⟨hx, hb, hr, hlk, hml, hown, hts, hE, hA, hnm⟩
  unfold fX19_who at hf
  refine lv_aload_n (pc := 0) hx hb dX19_who_0 rfl (lv_at hl 0 rfl) ?_
  obtain ⟨v1, e1, hf⟩ := bdo hf
  refine g_get (pc := 1) (o := (some l0)) (a := l0) (ci := 12) (k := 4) (v := .int v1) (C := RX19) (T := TX19) (N := 5) hx hb hts hown hE hk hH in_X19 rfl (by decide) (hts _ q1889) (fun x h9 => u_same (hts _ q1890) x h9) rfl (rdI_o e1) dX19_who_1 ?_
  exact g_iret (pc := 4) hx hb hr hlk hH hS hkc hks hf dX19_who_4
theorem mX19_who {l : Launch} {G : gG} {Rp : gM → gM → Nat → Prop} (hk : rOK Rp) (hJ : JDK l G Rp) {S S2 : gS} {r2 : Int32} {C N : Nat} {l0 : Nat} (hf : fX19_who l0 S = some (r2, S2, C, N)) : gMet l yX19_who cX19_who 1 (some .int) 1 40 G Rp [.ref l0] S (some (.int r2)) S2 C N := by
  refine g_start (by decide) (Nat.le_of_ble_eq_true rfl) (fun p e s m args below meth c ls hc hl hH => ?_)
  have hl : lv_has ls 1 [(0, .ref l0)] := hl
  exact wX19_who_b0 hk hJ hc l0 S _ _ ls 0 0 C N (by omega) (by omega) hH va_S.rf (lv_sub hl [0] rfl) hf
end
section
variable {r : Int32} {Sf : gS}
def fX20_age (l0 : Nat) (S : gS) : gO Int32 :=
  bd (rdI S l0 13 3) fun v1 =>
  some (v1, S, 0, 0)
theorem wX20_age_b0 (hk : rOK Rp) (hJ : JDK l G Rp) (hc : gC p s m args meth c G RX20 "age" cX20_age 1 (some .int)) (l0 : Nat) (S : gS) (H : Heap) (locs : List Loc) (ls : Array Slot) (kc ks C N : Nat) (hkc : kc + C ≤ mc) (hks : ks + N ≤ ms) (hH : hp G Rp S H) (hS : va_S G.2.2.2 s.heap H locs) (hl : lv_has ls 1 [(0, .ref l0)]) (hf : fX20_age l0 S = some (r, Sf, C, N)) : W p l e (gR 1 40 mc ms) s m args below meth c H locs kc ks (gQ below G Rp (some (.int r)) Sf args s mc ms) (F0 m 0 ls []) := by
  obtain ⟨hx, hb, hr, hlk, hml, hown, hts, hE, hA, hnm⟩ := hc
  have hc : gC p s m args meth c G RX20 "age" cX20_age 1 (some .int) := ⟨hx, hb, hr, hlk, hml, hown, hts, hE, hA, hnm⟩
  unfold fX20_age at hf
  refine lv_aload_n (pc := 0) hx hb dX20_age_0 rfl (lv_at hl 0 rfl) ?_
  obtain ⟨v1, e1, hf⟩ := bdo hf
  refine g_get (pc := 1) (o := (some l0)) (a := l0) (ci := 13) (k := 3) (v := .int v1) (C := RX20) (T := TX20) (N := 4) hx hb hts hown hE hk hH in_X20 rfl (by decide) (hts _ q1933) (fun _ h9 => h9) rfl (rdI_o e1) dX20_age_1 ?_
  exact g_iret (pc := 4) hx hb hr hlk hH hS hkc hks hf dX20_age_4
theorem mX20_age {l : Launch} {G : gG} {Rp : gM → gM → Nat → Prop} (hk : rOK Rp) (hJ : JDK l G Rp) {S S2 : gS} {r2 : Int32} {C N : Nat} {l0 : Nat} (hf : fX20_age l0 S = some (r2, S2, C, N)) : gMet l yX20_age cX20_age 1 (some .int) 1 40 G Rp [.ref l0] S (some (.int r2)) S2 C N := by
  refine g_start (by decide) (Nat.le_of_ble_eq_true rfl) (fun p e s m args below meth c ls hc hl hH => ?_)
  have hl : lv_has ls 1 [(0, .ref l0)] := hl
  exact wX20_age_b0 hk hJ hc l0 S _ _ ls 0 0 C N (by omega) (by omega) hH va_S.rf (lv_sub hl [0] rfl) hf
end
end
