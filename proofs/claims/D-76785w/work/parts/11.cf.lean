/-! printed by gen/cgen.py: methods of the component, lifted and walked (6) -/
set_option maxRecDepth 100000
set_option maxHeartbeats 4000000
section
variable {p : Program} {l : Launch} {e : Env} {s : State} {m : MethodId} {args : Array Value} {below : List Frame} {meth : Method} {c : Code} {G : gG} {Rp : gM → gM → Nat → Prop} {mc ms : Nat}
section
variable {r : Int32} {Sf : gS}
def fX0_depthOf (l0 : Option Nat) (S : gS) : gO Int32 :=
  if l0 = none then
    some (nI 0, S, 0, 0)
  else
    bd l0 fun a3 =>
    bd (ckP S (some a3) 0) fun _ =>
    gb (fX12_depth a3 S) fun v2 S2 =>
    some (v2, S2, 0, 0)
theorem wX0_depthOf_b0 (hk : rOK Rp) (hJ : JDK l G Rp) (hc : gC p s m args meth c G RX0 "depthOf" cX0_depthOf 1 (some .int)) (l0 : Option Nat) (S : gS) (H : Heap) (locs : List Loc) (ls : Array Slot) (kc ks C N : Nat) (hkc : kc + C ≤ mc) (hks : ks + N ≤ ms) (hH : hp G Rp S H) (hS : va_S G.2.2.2 s.heap H locs) (hl : lv_has ls 1 [(0, va_rf l0)]) (hf : fX0_depthOf l0 S = some (r, Sf, C, N)) : W p l e (gR 2 60 mc ms) s m args below meth c H locs kc ks (gQ below G Rp (some (.int r)) Sf args s mc ms) (F0 m 0 ls []) := by
  obtain ⟨hx, hb, hr, hlk, hml, hown, hts, hE, hA, hnm⟩ := hc
  have hc : gC p s m args meth c G RX0 "depthOf" cX0_depthOf 1 (some .int) := ⟨hx, hb, hr, hlk, hml, hown, hts, hE, hA, hnm⟩
  unfold fX0_depthOf at hf
  refine g_aload_n (pc := 0) (o := l0) hx hb dX0_depthOf_0 rfl (lv_at hl 0 rfl) ?_
  refine g_ifnonnull (pc := 1) (o := l0) (tgt := 8) hx hb dX0_depthOf_1 (by decide) (fun c1 => ?_) (fun c1 => ?_)
  · rw [if_neg c1] at hf
    refine g_aload_n (pc := 8) (o := l0) hx hb dX0_depthOf_8 rfl (lv_at hl 0 rfl) ?_
    obtain ⟨a3, ea3, hf⟩ := bdo hf
    obtain ⟨_, ek2, hf⟩ := bdo hf
    obtain ⟨v2, S2, c2, n2, c2_2, n2_2, e2, hf, hC2, hN2⟩ := gbo hf
    refine gP_depth (pc := 9) (o := l0) (b := a3) (As := []) (rest := []) (st1 := [.int v2]) hc hk hJ e2 ek2 q849 (Nat.le_of_ble_eq_true rfl) (Nat.le_of_ble_eq_true rfl) ea3 rfl hl.1 rfl rfl (lv_room (Nat.le_of_ble_eq_true rfl)) dX0_depthOf_9 hH hS (by omega) (by omega) (fun H locs hH hS => ?_)
    have hkc : kc + c2 + c2_2 ≤ mc := by omega
    have hks : ks + n2 + n2_2 ≤ ms := by omega
    exact g_iret (pc := 12) hx hb hr hlk hH hS hkc hks hf dX0_depthOf_12
  · rw [if_pos c1] at hf
    refine lv_iconst (pc := 4) (v := nI 0) hx hb dX0_depthOf_4 rfl ?_
    refine lv_goto (pc := 5) (tgt := 12) hx hb dX0_depthOf_5 (by decide) ?_
    exact g_iret (pc := 12) hx hb hr hlk hH hS hkc hks hf dX0_depthOf_12
theorem mX0_depthOf {l : Launch} {G : gG} {Rp : gM → gM → Nat → Prop} (hk : rOK Rp) (hJ : JDK l G Rp) {S S2 : gS} {r2 : Int32} {C N : Nat} {l0 : Option Nat} (hf : fX0_depthOf l0 S = some (r2, S2, C, N)) : gMet l yX0_depthOf cX0_depthOf 1 (some .int) 2 60 G Rp [va_rf l0] S (some (.int r2)) S2 C N := by
  refine g_start (by decide) (by simp [lg_sl, va_rf_cat, cat_i, cat_j, cat_r]) (fun p e s m args below meth c ls hc hl hH => ?_)
  have hl : lv_has ls 1 [(0, va_rf l0)] := by simpa [lv_args, va_rf_cat, cat_i, cat_j, cat_r] using hl
  exact wX0_depthOf_b0 hk hJ hc l0 S _ _ ls 0 0 C N (by omega) (by omega) hH va_S.rf (lv_sub hl [0] rfl) hf
end
section
variable {r : Int32} {Sf : gS}
def fX0_doomed_b27 : Nat → Int32 → (Option Nat) → Int32 → Int32 → gS → gO Int32
  | 0, _, _, _, _, _ => none
  | n + 1, l1, l2, l3, l4, S =>
    if l1 ≤ l4 then
      some (l3, S, 0, 0)
    else
      bd l2 fun a3 =>
      bd (chk S a3 1) fun _ =>
      gb (fX1_passes a3 S) fun v2 S2 =>
      fX0_doomed_b27 n l1 l2 (l3 + v2) (l4 + (nI 1)) S2
theorem wX0_doomed_b27 (hk : rOK Rp) (hJ : JDK l G Rp) (hc : gC p s m args meth c G RX0 "doomed" cX0_doomed 5 (some .int)) : ∀ (n : Nat) (l1 : Int32) (l2 : Option Nat) (l3 : Int32) (l4 : Int32) (S : gS) (H : Heap) (locs : List Loc) (ls : Array Slot) (kc ks C N : Nat), kc + C ≤ mc → ks + N ≤ ms → hp G Rp S H → va_S G.2.2.2 s.heap H locs → lv_has ls 5 [(1, .int l1), (2, va_rf l2), (3, .int l3), (4, .int l4)] → fX0_doomed_b27 n l1 l2 l3 l4 S = some (r, Sf, C, N) → W p l e (gR 19 633 mc ms) s m args below meth c H locs kc ks (gQ below G Rp (some (.int r)) Sf args s mc ms) (F0 m 27 ls []) := by
  obtain ⟨hx, hb, hr, hlk, hml, hown, hts, hE, hA, hnm⟩ := hc
  have hc : gC p s m args meth c G RX0 "doomed" cX0_doomed 5 (some .int) := ⟨hx, hb, hr, hlk, hml, hown, hts, hE, hA, hnm⟩
  intro n
  induction n with
  | zero => intro l1 l2 l3 l4 S H locs ls kc ks C N _ _ _ _ _ hf; exact absurd hf (fun h => by cases h)
  | succ n ih =>
    intro l1 l2 l3 l4 S H locs ls kc ks C N hkc hks hH hS hl hf
    rw [fX0_doomed_b27] at hf
    refine lv_iload (pc := 27) hx hb dX0_doomed_27 (lv_at hl 3 rfl) ?_
    refine lv_iload_n (pc := 29) hx hb dX0_doomed_29 rfl (lv_at hl 0 rfl) ?_
    refine lv_icmp_ge (pc := 30) (tgt := 46) hx hb dX0_doomed_30 (by decide) (fun c1 => ?_) (fun c1 => ?_)
    · rw [if_pos c1] at hf
      refine lv_iload_n (pc := 46) hx hb dX0_doomed_46 rfl (lv_at hl 2 rfl) ?_
      exact g_iret (pc := 47) hx hb hr hlk hH hS hkc hks hf dX0_doomed_47
    · rw [if_neg c1] at hf
      refine lv_iload_n (pc := 33) hx hb dX0_doomed_33 rfl (lv_at hl 2 rfl) ?_
      refine g_aload_n (pc := 34) (o := l2) hx hb dX0_doomed_34 rfl (lv_at hl 1 rfl) ?_
      obtain ⟨a3, ea3, hf⟩ := bdo hf
      obtain ⟨_, ek2, hf⟩ := bdo hf
      obtain ⟨v2, S2, c2, n2, c2_2, n2_2, e2, hf, hC2, hN2⟩ := gbo hf
      refine g_callV (pc := 35) (o := l2) (b := a3) (As := []) (rest := [.int l3]) (st1 := [.int v2, .int l3]) hc (mX1_passes hk hJ (l0 := a3) e2) (cwV 0 hts (lw_V q1908 q1909 q1910 q98 q1911) rfl rfl rfl hdX1_passes ⟨Nat.le_of_ble_eq_true rfl, Nat.le_of_ble_eq_true rfl⟩) (g_recv hE hk hH (ci := 1) (q := (RX1, TX1, 7)) rfl (chk_o ek2).choose_spec) ea3 rfl hl.1 rfl rfl (lv_room (Nat.le_of_ble_eq_true rfl)) dX0_doomed_35 hH hS (by omega) (by omega) (fun H locs hH hS => ?_)
      have hkc : kc + c2 + c2_2 ≤ mc := by omega
      have hks : ks + n2 + n2_2 ≤ ms := by omega
      refine lv_iadd (pc := 38) hx hb dX0_doomed_38 ?_
      refine lv_istore_n (pc := 39) (i := 3) (lv' := [(3, .int (l3 + v2)), (1, .int l1), (2, va_rf l2), (4, .int l4)]) hx hb dX0_doomed_39 rfl hl (by decide) (by simp [va_rf_cat, cat_i, cat_j, cat_r] <;> rfl) (fun ls hl => ?_)
      refine lv_iinc (pc := 40) (v := l4 + (nI 1)) (lv' := [(4, .int (l4 + (nI 1))), (3, .int (l3 + v2)), (1, .int l1), (2, va_rf l2)]) hx hb dX0_doomed_40 hl (k := 3) rfl rfl (by decide) rfl (fun ls hl => ?_)
      refine lv_goto (pc := 43) (tgt := 27) hx hb dX0_doomed_43 (by decide) ?_
      exact ih l1 l2 (l3 + v2) (l4 + (nI 1)) S2 _ _ ls _ _ _ _ hkc hks hH hS (lv_sub hl [2, 3, 1, 0] rfl) hf
def fX0_doomed (l0 : Nat) (l1 : Int32) (S : gS) : gO Int32 :=
  gb (fX0_isIn l1 (nI 0) (nI 99) S) fun v1 S1 =>
  if v1 = 0 then
    bd (chk S1 l0 0) fun _ =>
    gb (fX0_no l0 (-82) S1) fun v4 S4 =>
    some (v4, S4, 0, 0)
  else
    bd (chk S1 l0 0) fun _ =>
    gb (fX0_copied l0 S1) fun v3 S3 =>
    fX0_doomed_b27 FU l1 v3 (nI 0) (nI 0) S3
theorem wX0_doomed_b0 (hk : rOK Rp) (hJ : JDK l G Rp) (hc : gC p s m args meth c G RX0 "doomed" cX0_doomed 5 (some .int)) (l0 : Nat) (l1 : Int32) (S : gS) (H : Heap) (locs : List Loc) (ls : Array Slot) (kc ks C N : Nat) (hkc : kc + C ≤ mc) (hks : ks + N ≤ ms) (hH : hp G Rp S H) (hS : va_S G.2.2.2 s.heap H locs) (hl : lv_has ls 5 [(0, .ref l0), (1, .int l1)]) (hf : fX0_doomed l0 l1 S = some (r, Sf, C, N)) : W p l e (gR 19 633 mc ms) s m args below meth c H locs kc ks (gQ below G Rp (some (.int r)) Sf args s mc ms) (F0 m 0 ls []) := by
  obtain ⟨hx, hb, hr, hlk, hml, hown, hts, hE, hA, hnm⟩ := hc
  have hc : gC p s m args meth c G RX0 "doomed" cX0_doomed 5 (some .int) := ⟨hx, hb, hr, hlk, hml, hown, hts, hE, hA, hnm⟩
  unfold fX0_doomed at hf
  refine lv_iload_n (pc := 0) hx hb dX0_doomed_0 rfl (lv_at hl 1 rfl) ?_
  refine lv_iconst (pc := 1) (v := nI 0) hx hb dX0_doomed_1 rfl ?_
  refine lv_bipush (pc := 2) (v := nI 99) hx hb dX0_doomed_2 gkb99 ?_
  obtain ⟨v1, S1, c1, n1, c2_1, n2_1, e1, hf, hC1, hN1⟩ := gbo hf
  refine g_callS (pc := 4) (As := [.int l1, .int (nI 0), .int (nI 99)]) (rest := []) (st1 := [.int v1]) hc (mX0_isIn hk hJ (l0 := l1) (l1 := (nI 0)) (l2 := (nI 99)) e1) (va_cwS 3 hts (lw_S q395 q396 q97 q397) rfl rfl rfl hdX0_isIn ⟨Nat.le_of_ble_eq_true rfl, Nat.le_of_ble_eq_true rfl⟩) rfl hl.1 rfl rfl (lv_room (Nat.le_of_ble_eq_true rfl)) dX0_doomed_4 hH hS (by omega) (by omega) (fun H locs hH hS => ?_)
  have hkc : kc + c1 + c2_1 ≤ mc := by omega
  have hks : ks + n1 + n2_1 ≤ ms := by omega
  refine lv_if_ne (pc := 7) (tgt := 17) hx hb dX0_doomed_7 (by decide) (fun c2 => ?_) (fun c2 => ?_)
  · rw [if_neg c2] at hf
    refine lv_aload_n (pc := 17) hx hb dX0_doomed_17 rfl (lv_at hl 0 rfl) ?_
    obtain ⟨_, ek3, hf⟩ := bdo hf
    obtain ⟨v3, S3, c3, n3, c2_3, n2_3, e3, hf, hC3, hN3⟩ := gbo hf
    refine g_callV (pc := 18) (o := (some l0)) (b := l0) (As := []) (rest := []) (st1 := [va_rf v3]) hc (mX0_copied hk hJ (l0 := l0) e3) (cwV 0 hts (lw_V q2678 q2680 qs43 q97 q2681) rfl rfl rfl hdX0_copied ⟨Nat.le_of_ble_eq_true rfl, Nat.le_of_ble_eq_true rfl⟩) (g_recv hE hk hH (ci := 0) (q := (RX0, TX0, 7)) rfl (chk_o ek3).choose_spec) rfl rfl hl.1 rfl rfl (lv_room (Nat.le_of_ble_eq_true rfl)) dX0_doomed_18 hH hS (by omega) (by omega) (fun H locs hH hS => ?_)
    have hkc : kc + c1 + c3 + c2_3 ≤ mc := by omega
    have hks : ks + n1 + n3 + n2_3 ≤ ms := by omega
    refine g_astore_n (pc := 21) (i := 2) (o := v3) (lv' := [(2, va_rf v3), (0, .ref l0), (1, .int l1)]) hx hb dX0_doomed_21 rfl hl (by decide) rfl (fun ls hl => ?_)
    refine lv_iconst (pc := 22) (v := nI 0) hx hb dX0_doomed_22 rfl ?_
    refine lv_istore_n (pc := 23) (i := 3) (lv' := [(3, .int (nI 0)), (2, va_rf v3), (0, .ref l0), (1, .int l1)]) hx hb dX0_doomed_23 rfl hl (by decide) (by simp [va_rf_cat, cat_i, cat_j, cat_r] <;> rfl) (fun ls hl => ?_)
    refine lv_iconst (pc := 24) (v := nI 0) hx hb dX0_doomed_24 rfl ?_
    refine lv_istore (pc := 25) (i := 4) (lv' := [(4, .int (nI 0)), (3, .int (nI 0)), (2, va_rf v3), (0, .ref l0), (1, .int l1)]) hx hb dX0_doomed_25 hl (by decide) rfl (fun ls hl => ?_)
    exact wX0_doomed_b27 hk hJ hc FU l1 v3 (nI 0) (nI 0) S3 _ _ ls _ _ _ _ hkc hks hH hS (lv_sub hl [4, 2, 1, 0] rfl) hf
  · rw [if_pos c2] at hf
    refine lv_aload_n (pc := 10) hx hb dX0_doomed_10 rfl (lv_at hl 0 rfl) ?_
    refine lv_bipush (pc := 11) (v := -82) hx hb dX0_doomed_11 gkbm82 ?_
    obtain ⟨_, ek4, hf⟩ := bdo hf
    obtain ⟨v4, S4, c4, n4, c2_4, n2_4, e4, hf, hC4, hN4⟩ := gbo hf
    refine g_callV (pc := 13) (o := (some l0)) (b := l0) (As := [.int (-82)]) (rest := []) (st1 := [.int v4]) hc (mX0_no hk hJ (l0 := l0) (l1 := (-82)) e4) (cwV 1 hts (lw_V q398 q400 qs2 q97 q401) rfl rfl rfl hdX0_no ⟨Nat.le_of_ble_eq_true rfl, Nat.le_of_ble_eq_true rfl⟩) (g_recv hE hk hH (ci := 0) (q := (RX0, TX0, 7)) rfl (chk_o ek4).choose_spec) rfl rfl hl.1 rfl rfl (lv_room (Nat.le_of_ble_eq_true rfl)) dX0_doomed_13 hH hS (by omega) (by omega) (fun H locs hH hS => ?_)
    have hkc : kc + c1 + c4 + c2_4 ≤ mc := by omega
    have hks : ks + n1 + n4 + n2_4 ≤ ms := by omega
    exact g_iret (pc := 16) hx hb hr hlk hH hS hkc hks hf dX0_doomed_16
theorem mX0_doomed {l : Launch} {G : gG} {Rp : gM → gM → Nat → Prop} (hk : rOK Rp) (hJ : JDK l G Rp) {S S2 : gS} {r2 : Int32} {C N : Nat} {l0 : Nat} {l1 : Int32} (hf : fX0_doomed l0 l1 S = some (r2, S2, C, N)) : gMet l yX0_doomed cX0_doomed 5 (some .int) 19 633 G Rp [.ref l0, .int l1] S (some (.int r2)) S2 C N := by
  refine g_start (by decide) (Nat.le_of_ble_eq_true rfl) (fun p e s m args below meth c ls hc hl hH => ?_)
  have hl : lv_has ls 5 [(0, .ref l0), (1, .int l1)] := hl
  exact wX0_doomed_b0 hk hJ hc l0 l1 S _ _ ls 0 0 C N (by omega) (by omega) hH va_S.rf (lv_sub hl [0, 1] rfl) hf
end
section
variable {r : Option Nat} {Sf : gS}
def fX8_drained_b22 (G : gG) : Nat → Nat → Nat → (Option Nat) → gS → gO (Option Nat)
  | 0, _, _, _, _ => none
  | n + 1, l1, l2, l3, S =>
    if l3 = none then
      some ((some l2), S, 0, 0)
    else
      bd l3 fun a2 =>
      bd (rdR S a2 4 0) fun v3 =>
      bd v3 fun a4 =>
      bd (rdI S a4 5 0) fun v5 =>
      gb (nBox G v5 S) fun v6 S6 =>
      gb (nAD_addLast l2 v6 S6) fun _ S7 =>
      bd (rdR S7 l1 3 7) fun v8 =>
      bd v8 fun a10 =>
      gb (nAL_removeO a10 l3 S7) fun v9 S9 =>
      bd (chk S9 l1 3) fun _ =>
      gb (fX8_next l1 S9) fun v11 S11 =>
      fX8_drained_b22 G n l1 l2 v11 S11
theorem wX8_drained_b22 (hk : rOK Rp) (hJ : JDK l G Rp) (hc : gC p s m args meth c G RX8 "drained" cX8_drained 4 (some (.object "java/util/ArrayDeque"))) : ∀ (n : Nat) (l1 : Nat) (l2 : Nat) (l3 : Option Nat) (S : gS) (H : Heap) (locs : List Loc) (ls : Array Slot) (kc ks C N : Nat), kc + C ≤ mc → ks + N ≤ ms → hp G Rp S H → va_S G.2.2.2 s.heap H locs → lv_has ls 4 [(1, .ref l1), (2, .ref l2), (3, va_rf l3)] → fX8_drained_b22 G n l1 l2 l3 S = some (r, Sf, C, N) → W p l e (gR 17 586 mc ms) s m args below meth c H locs kc ks (gQ below G Rp (some (va_rf r)) Sf args s mc ms) (F0 m 22 ls []) := by
  obtain ⟨hx, hb, hr, hlk, hml, hown, hts, hE, hA, hnm⟩ := hc
  have hc : gC p s m args meth c G RX8 "drained" cX8_drained 4 (some (.object "java/util/ArrayDeque")) := ⟨hx, hb, hr, hlk, hml, hown, hts, hE, hA, hnm⟩
  intro n
  induction n with
  | zero => intro l1 l2 l3 S H locs ls kc ks C N _ _ _ _ _ hf; exact absurd hf (fun h => by cases h)
  | succ n ih =>
    intro l1 l2 l3 S H locs ls kc ks C N hkc hks hH hS hl hf
    rw [fX8_drained_b22] at hf
    refine g_aload_n (pc := 22) (o := l3) hx hb dX8_drained_22 rfl (lv_at hl 2 rfl) ?_
    refine g_ifnull (pc := 23) (o := l3) (tgt := 57) hx hb dX8_drained_23 (by decide) (fun c1 => ?_) (fun c1 => ?_)
    · rw [if_pos c1] at hf
      refine lv_aload_n (pc := 57) hx hb dX8_drained_57 rfl (lv_at hl 1 rfl) ?_
      exact g_aret (pc := 58) (v := (some l2)) hx hb hr (Or.inl ⟨_, rfl⟩) hlk hH hS hkc hks hf dX8_drained_58
    · rw [if_neg c1] at hf
      refine lv_aload_n (pc := 26) hx hb dX8_drained_26 rfl (lv_at hl 1 rfl) ?_
      refine g_aload_n (pc := 27) (o := l3) hx hb dX8_drained_27 rfl (lv_at hl 2 rfl) ?_
      obtain ⟨a2, ea2, hf⟩ := bdo hf
      obtain ⟨v3, e3, hf⟩ := bdo hf
      refine g_get (pc := 28) (o := l3) (a := a2) (ci := 4) (k := 0) (v := va_rf v3) (C := RX16) (T := TX16) (N := 6) hx hb hts hown hE hk hH in_X16 rfl (by decide) (hts _ q1711) (fun _ h9 => h9) ea2 (rdR_o e3) dX8_drained_28 ?_
      obtain ⟨a4, ea4, hf⟩ := bdo hf
      obtain ⟨v5, e5, hf⟩ := bdo hf
      refine g_get (pc := 31) (o := v3) (a := a4) (ci := 5) (k := 0) (v := .int v5) (C := RX11) (T := TX11) (N := 6) hx hb hts hown hE hk hH in_X11 rfl (by decide) (hts _ q1548) (fun _ h9 => h9) ea4 (rdI_o e5) dX8_drained_31 ?_
      obtain ⟨v6, S6, c6, n6, c2_6, n2_6, e6, hf, hC6, hN6⟩ := gbo hf
      refine g_callS (pc := 34) (As := [.int v5]) (rest := [.ref l2]) (st1 := [va_rf v6, .ref l2]) hc (j_nBox hJ v5 S v6 S6 c6 n6 e6) (va_cwS 1 hts (lw_S q2624 q2625 q126 q2626) rfl rfl rfl hdJ23_valueOf ⟨Nat.le_of_ble_eq_true rfl, Nat.le_of_ble_eq_true rfl⟩) rfl hl.1 rfl rfl (lv_room (Nat.le_of_ble_eq_true rfl)) dX8_drained_34 hH hS (by omega) (by omega) (fun H locs hH hS => ?_)
      have hkc : kc + c6 + c2_6 ≤ mc := by omega
      have hks : ks + n6 + n2_6 ≤ ms := by omega
      obtain ⟨_, S7, c7, n7, c2_7, n2_7, e7, hf, hC7, hN7⟩ := gbo hf
      refine g_callV (pc := 37) (o := (some l2)) (b := l2) (As := [va_rf v6]) (rest := []) (st1 := []) hc (j_nAD_addLast hJ l2 v6 S6 () S7 c7 n7 e7) (cwV 1 hts (lw_V q2643 q2407 q2408 q137 q2409) rfl rfl rfl hdJ28_addLast ⟨Nat.le_of_ble_eq_true rfl, Nat.le_of_ble_eq_true rfl⟩) (j_recv hJ _ _ _ _ 3 _ _ hE hH hS (adtR (t := 3) (show bd _ _ = some _ from e7)).choose_spec) rfl rfl hl.1 rfl rfl (lv_room (Nat.le_of_ble_eq_true rfl)) dX8_drained_37 hH hS (by omega) (by omega) (fun H locs hH hS => ?_)
      have hkc : kc + c6 + c7 + c2_7 ≤ mc := by omega
      have hks : ks + n6 + n7 + n2_7 ≤ ms := by omega
      refine lv_aload_n (pc := 40) hx hb dX8_drained_40 rfl (lv_at hl 0 rfl) ?_
      obtain ⟨v8, e8, hf⟩ := bdo hf
      refine g_get (pc := 41) (o := (some l1)) (a := l1) (ci := 3) (k := 7) (v := va_rf v8) (C := RX8) (T := TX8) (N := 13) hx hb hts hown hE hk hH in_X8 rfl (by decide) (hts _ q1167) (fun _ h9 => h9) rfl (rdR_o e8) dX8_drained_41 ?_
      refine g_aload_n (pc := 44) (o := l3) hx hb dX8_drained_44 rfl (lv_at hl 2 rfl) ?_
      obtain ⟨a10, ea10, hf⟩ := bdo hf
      obtain ⟨v9, S9, c9, n9, c2_9, n2_9, e9, hf, hC9, hN9⟩ := gbo hf
      refine g_callV (pc := 45) (o := v8) (b := a10) (As := [va_rf l3]) (rest := []) (st1 := [.int v9]) hc (j_nAL_removeO hJ a10 l3 S7 v9 S9 c9 n9 e9) (cwV 1 hts (lw_V q2644 q1799 q1800 q101 q1801) rfl rfl rfl hdJ2_remove ⟨Nat.le_of_ble_eq_true rfl, Nat.le_of_ble_eq_true rfl⟩) (j_recv hJ _ _ _ _ 0 _ _ hE hH hS (adtR (t := 0) (show bd _ _ = some _ from e9)).choose_spec) ea10 rfl hl.1 rfl rfl (lv_room (Nat.le_of_ble_eq_true rfl)) dX8_drained_45 hH hS (by omega) (by omega) (fun H locs hH hS => ?_)
      have hkc : kc + c6 + c7 + c9 + c2_9 ≤ mc := by omega
      have hks : ks + n6 + n7 + n9 + n2_9 ≤ ms := by omega
      refine lv_pop (pc := 48) hx hb dX8_drained_48 rfl ?_
      refine lv_aload_n (pc := 49) hx hb dX8_drained_49 rfl (lv_at hl 0 rfl) ?_
      obtain ⟨_, ek11, hf⟩ := bdo hf
      obtain ⟨v11, S11, c11, n11, c2_11, n2_11, e11, hf, hC11, hN11⟩ := gbo hf
      refine g_callV (pc := 50) (o := (some l1)) (b := l1) (As := []) (rest := []) (st1 := [va_rf v11]) hc (mX8_next hk hJ (l0 := l1) e11) (cwV 0 hts (lw_V q2623 q1754 q1755 q131 q1756) rfl rfl rfl hdX8_next ⟨Nat.le_of_ble_eq_true rfl, Nat.le_of_ble_eq_true rfl⟩) (g_recv hE hk hH (ci := 3) (q := (RX8, TX8, 13)) rfl (chk_o ek11).choose_spec) rfl rfl hl.1 rfl rfl (lv_room (Nat.le_of_ble_eq_true rfl)) dX8_drained_50 hH hS (by omega) (by omega) (fun H locs hH hS => ?_)
      have hkc : kc + c6 + c7 + c9 + c11 + c2_11 ≤ mc := by omega
      have hks : ks + n6 + n7 + n9 + n11 + n2_11 ≤ ms := by omega
      refine g_astore_n (pc := 53) (i := 3) (o := v11) (lv' := [(3, va_rf v11), (1, .ref l1), (2, .ref l2)]) hx hb dX8_drained_53 rfl hl (by decide) rfl (fun ls hl => ?_)
      refine lv_goto (pc := 54) (tgt := 22) hx hb dX8_drained_54 (by decide) ?_
      exact ih l1 l2 v11 S11 _ _ ls _ _ _ _ hkc hks hH hS (lv_sub hl [1, 2, 0] rfl) hf
def fX8_drained (G : gG) (l0 : Nat) (S : gS) : gO (Option Nat) :=
  nw S (cO 3 [.int 0, .null, .int 0, .int 0, .int 0, .int 0, .int 0, .null, .null, .int 0, .int 0, .int 0, .int 0]) 13 fun S1 =>
  gb (fX8_init_2 S.2 (some l0) S1) fun _ S2 =>
  nw S2 (cO 18 [.null, .int 0, .int 0]) 3 fun S3 =>
  gb (nAD_init S2.2  S3) fun _ S4 =>
  bd (chk S4 S.2 3) fun _ =>
  gb (fX8_next S.2 S4) fun v5 S5 =>
  fX8_drained_b22 G FU S.2 S2.2 v5 S5
theorem wX8_drained_b0 (hk : rOK Rp) (hJ : JDK l G Rp) (hc : gC p s m args meth c G RX8 "drained" cX8_drained 4 (some (.object "java/util/ArrayDeque"))) (l0 : Nat) (S : gS) (H : Heap) (locs : List Loc) (ls : Array Slot) (kc ks C N : Nat) (hkc : kc + C ≤ mc) (hks : ks + N ≤ ms) (hH : hp G Rp S H) (hS : va_S G.2.2.2 s.heap H locs) (hl : lv_has ls 4 [(0, .ref l0)]) (hf : fX8_drained G l0 S = some (r, Sf, C, N)) : W p l e (gR 17 586 mc ms) s m args below meth c H locs kc ks (gQ below G Rp (some (va_rf r)) Sf args s mc ms) (F0 m 0 ls []) := by
  obtain ⟨hx, hb, hr, hlk, hml, hown, hts, hE, hA, hnm⟩ := hc
  have hc : gC p s m args meth c G RX8 "drained" cX8_drained 4 (some (.object "java/util/ArrayDeque")) := ⟨hx, hb, hr, hlk, hml, hown, hts, hE, hA, hnm⟩
  unfold fX8_drained at hf
  obtain ⟨S1, c2_1, n2_1, eS1, hf, hC1, hN1⟩ := nwo hf
  refine g_newo (pc := 0) (ci := 3) (C := RX8) (T := TX8) (N := 13) (fs := [.int 0, .null, .int 0, .int 0, .int 0, .int 0, .int 0, .null, .null, .int 0, .int 0, .int 0, .int 0]) hx hb hts hown hE hA hk hH hS in_X8 tyX8_ok q2611 q1136 q131 rfl (fun j hj => by rcases (show j = 0 ∨ j = 1 ∨ j = 2 ∨ j = 3 ∨ j = 4 ∨ j = 5 ∨ j = 6 ∨ j = 7 ∨ j = 8 ∨ j = 9 ∨ j = 10 ∨ j = 11 ∨ j = 12 by omega) with rfl | rfl | rfl | rfl | rfl | rfl | rfl | rfl | rfl | rfl | rfl | rfl | rfl <;> rfl) eS1 (Nat.le_trans (by omega) hkc) (Nat.le_trans (by omega) hks) dX8_drained_0 (fun H hH hS => ?_)
  have hkc : kc + 1 + c2_1 ≤ mc := by omega
  have hks : ks + 13 + n2_1 ≤ ms := by omega
  refine lv_dup (pc := 3) hx hb dX8_drained_3 rfl ?_
  refine lv_aload_n (pc := 4) hx hb dX8_drained_4 rfl (lv_at hl 0 rfl) ?_
  obtain ⟨_, S2, c2, n2, c2_2, n2_2, e2, hf, hC2, hN2⟩ := gbo hf
  refine g_callI (pc := 5) (o := (some S.2)) (b := S.2) (As := [.ref l0]) (rest := [.ref S.2]) hc (mX8_init_2 hk hJ (l0 := S.2) (l1 := (some l0)) e2) (cwI 1 hts (lw_meth q2614) rfl rfl rfl (hts _ q131) (hts _ q2612) (hts _ q2613) rfl hdiX8_init_2 ⟨Nat.le_of_ble_eq_true rfl, Nat.le_of_ble_eq_true rfl⟩) rfl rfl hl.1 rfl (lv_room (Nat.le_of_ble_eq_true rfl)) dX8_drained_5 hH hS (by omega) (by omega) (fun H locs hH hS => ?_)
  have hkc : kc + 1 + c2 + c2_2 ≤ mc := by omega
  have hks : ks + 13 + n2 + n2_2 ≤ ms := by omega
  refine lv_astore_n (pc := 8) (i := 1) (lv' := [(1, .ref S.2), (0, .ref l0)]) hx hb dX8_drained_8 rfl hl (by decide) rfl (fun ls hl => ?_)
  obtain ⟨S3, c2_3, n2_3, eS3, hf, hC3, hN3⟩ := nwo hf
  refine g_newo (pc := 9) (ci := 18) (C := RJ28) (T := TJ28) (N := 3) (fs := [.null, .int 0, .int 0]) hx hb hts hown hE hA hk hH hS in_J28 tyJ28_ok q2621 q2384 q137 rfl (fun j hj => by rcases (show j = 0 ∨ j = 1 ∨ j = 2 by omega) with rfl | rfl | rfl <;> rfl) eS3 (Nat.le_trans (by omega) hkc) (Nat.le_trans (by omega) hks) dX8_drained_9 (fun H hH hS => ?_)
  have hkc : kc + 1 + c2 + 1 + c2_3 ≤ mc := by omega
  have hks : ks + 13 + n2 + 3 + n2_3 ≤ ms := by omega
  refine lv_dup (pc := 12) hx hb dX8_drained_12 rfl ?_
  obtain ⟨_, S4, c4, n4, c2_4, n2_4, e4, hf, hC4, hN4⟩ := gbo hf
  refine g_callI (pc := 13) (o := (some S2.2)) (b := S2.2) (As := []) (rest := [.ref S2.2]) hc (j_nAD_init hJ S2.2  S3 () S4 c4 n4 e4) (cwI 0 hts (lw_meth q2387) rfl rfl rfl (hts _ q137) (hts _ q2622) (hts _ q2386) rfl hdiJ28_init ⟨Nat.le_of_ble_eq_true rfl, Nat.le_of_ble_eq_true rfl⟩) rfl rfl hl.1 rfl (lv_room (Nat.le_of_ble_eq_true rfl)) dX8_drained_13 hH hS (by omega) (by omega) (fun H locs hH hS => ?_)
  have hkc : kc + 1 + c2 + 1 + c4 + c2_4 ≤ mc := by omega
  have hks : ks + 13 + n2 + 3 + n4 + n2_4 ≤ ms := by omega
  refine lv_astore_n (pc := 16) (i := 2) (lv' := [(2, .ref S2.2), (1, .ref S.2), (0, .ref l0)]) hx hb dX8_drained_16 rfl hl (by decide) rfl (fun ls hl => ?_)
  refine lv_aload_n (pc := 17) hx hb dX8_drained_17 rfl (lv_at hl 1 rfl) ?_
  obtain ⟨_, ek5, hf⟩ := bdo hf
  obtain ⟨v5, S5, c5, n5, c2_5, n2_5, e5, hf, hC5, hN5⟩ := gbo hf
  refine g_callV (pc := 18) (o := (some S.2)) (b := S.2) (As := []) (rest := []) (st1 := [va_rf v5]) hc (mX8_next hk hJ (l0 := S.2) e5) (cwV 0 hts (lw_V q2623 q1754 q1755 q131 q1756) rfl rfl rfl hdX8_next ⟨Nat.le_of_ble_eq_true rfl, Nat.le_of_ble_eq_true rfl⟩) (g_recv hE hk hH (ci := 3) (q := (RX8, TX8, 13)) rfl (chk_o ek5).choose_spec) rfl rfl hl.1 rfl rfl (lv_room (Nat.le_of_ble_eq_true rfl)) dX8_drained_18 hH hS (by omega) (by omega) (fun H locs hH hS => ?_)
  have hkc : kc + 1 + c2 + 1 + c4 + c5 + c2_5 ≤ mc := by omega
  have hks : ks + 13 + n2 + 3 + n4 + n5 + n2_5 ≤ ms := by omega
  refine g_astore_n (pc := 21) (i := 3) (o := v5) (lv' := [(3, va_rf v5), (2, .ref S2.2), (1, .ref S.2), (0, .ref l0)]) hx hb dX8_drained_21 rfl hl (by decide) rfl (fun ls hl => ?_)
  exact wX8_drained_b22 hk hJ hc FU S.2 S2.2 v5 S5 _ _ ls _ _ _ _ hkc hks hH hS (lv_sub hl [2, 1, 0] rfl) hf
theorem mX8_drained {l : Launch} {G : gG} {Rp : gM → gM → Nat → Prop} (hk : rOK Rp) (hJ : JDK l G Rp) {S S2 : gS} {r2 : Option Nat} {C N : Nat} {l0 : Nat} (hf : fX8_drained G l0 S = some (r2, S2, C, N)) : gMet l yX8_drained cX8_drained 4 (some (.object "java/util/ArrayDeque")) 17 586 G Rp [.ref l0] S (some (va_rf r2)) S2 C N := by
  refine g_start (by decide) (Nat.le_of_ble_eq_true rfl) (fun p e s m args below meth c ls hc hl hH => ?_)
  have hl : lv_has ls 4 [(0, .ref l0)] := hl
  exact wX8_drained_b0 hk hJ hc l0 S _ _ ls 0 0 C N (by omega) (by omega) hH va_S.rf (lv_sub hl [0] rfl) hf
end
section
variable {r : Int32} {Sf : gS}
def fX0_drained_b30 (G : gG) : Nat → Int32 → Int32 → (Option Nat) → gS → gO Int32
  | 0, _, _, _, _ => none
  | n + 1, l2, l3, l4, S =>
    bd l4 fun a2 =>
    gb (nI9_hasNext a2 S) fun v1 S1 =>
    if v1 = 0 then
      some (-1, S1, 0, 0)
    else
      gb (nI9_next a2 S1) fun v4 S4 =>
      bd (cka S4 v4 10) fun _ =>
      bd v4 fun a7 =>
      gb (nUnbox a7  S4) fun v6 S6 =>
      if l3 = l2 then
        some (v6, S6, 0, 0)
      else
        fX0_drained_b30 G n l2 (l3 + (nI 1)) l4 S6
theorem wX0_drained_b30 (hk : rOK Rp) (hJ : JDK l G Rp) (hc : gC p s m args meth c G RX0 "drained" cX0_drained 6 (some .int)) : ∀ (n : Nat) (l2 : Int32) (l3 : Int32) (l4 : Option Nat) (S : gS) (H : Heap) (locs : List Loc) (ls : Array Slot) (kc ks C N : Nat), kc + C ≤ mc → ks + N ≤ ms → hp G Rp S H → va_S G.2.2.2 s.heap H locs → lv_has ls 6 [(2, .int l2), (3, .int l3), (4, va_rf l4)] → fX0_drained_b30 G n l2 l3 l4 S = some (r, Sf, C, N) → W p l e (gR 18 609 mc ms) s m args below meth c H locs kc ks (gQ below G Rp (some (.int r)) Sf args s mc ms) (F0 m 30 ls []) := by
  obtain ⟨hx, hb, hr, hlk, hml, hown, hts, hE, hA, hnm⟩ := hc
  have hc : gC p s m args meth c G RX0 "drained" cX0_drained 6 (some .int) := ⟨hx, hb, hr, hlk, hml, hown, hts, hE, hA, hnm⟩
  intro n
  induction n with
  | zero => intro l2 l3 l4 S H locs ls kc ks C N _ _ _ _ _ hf; exact absurd hf (fun h => by cases h)
  | succ n ih =>
    intro l2 l3 l4 S H locs ls kc ks C N hkc hks hH hS hl hf
    rw [fX0_drained_b30] at hf
    refine g_aload (pc := 30) (o := l4) hx hb dX0_drained_30 (lv_at hl 2 rfl) ?_
    obtain ⟨a2, ea2, hf⟩ := bdo hf
    obtain ⟨v1, S1, c1, n1, c2_1, n2_1, e1, hf, hC1, hN1⟩ := gbo hf
    refine g_callF (pc := 32) (o := l4) (b := a2) (As := []) (rest := []) (st1 := [.int v1]) (ci := 24) (q := (RJ40, TJ40, 4)) hc (j_nI9_hasNext hJ a2 S v1 S1 c1 n1 e1) (va_cwF 0 hts (lw_app (lw_of4 q2060 q1333 q1335 q162) (lw_meth q1337)) rfl rfl rfl (hE.2.1.2.2.2.2.2 _ _ _ hdx_hasNext.1 q1320 q1319 q1336 q1334 q1332) hdx_hasNext.2 ⟨Nat.le_of_ble_eq_true rfl, Nat.le_of_ble_eq_true rfl⟩) rfl rfl (j_recv hJ _ _ _ _ 9 _ _ hE hH hS (adtR (t := 9) (show bd _ _ = some _ from e1)).choose_spec) ea2 rfl hl.1 rfl rfl (lv_room (Nat.le_of_ble_eq_true rfl)) dX0_drained_32 hH hS (by omega) (by omega) (fun H locs hH hS => ?_)
    have hkc : kc + c1 + c2_1 ≤ mc := by omega
    have hks : ks + n1 + n2_1 ≤ ms := by omega
    refine lv_if_eq (pc := 37) (tgt := 69) hx hb dX0_drained_37 (by decide) (fun c3 => ?_) (fun c3 => ?_)
    · rw [if_pos c3] at hf
      refine lv_iconst (pc := 69) (v := -1) hx hb dX0_drained_69 rfl ?_
      exact g_iret (pc := 70) hx hb hr hlk hH hS hkc hks hf dX0_drained_70
    · rw [if_neg c3] at hf
      refine g_aload (pc := 40) (o := l4) hx hb dX0_drained_40 (lv_at hl 2 rfl) ?_
      obtain ⟨v4, S4, c4, n4, c2_4, n2_4, e4, hf, hC4, hN4⟩ := gbo hf
      refine g_callF (pc := 42) (o := l4) (b := a2) (As := []) (rest := []) (st1 := [va_rf v4]) (ci := 24) (q := (RJ40, TJ40, 4)) hc (j_nI9_next hJ a2 S1 v4 S4 c4 n4 e4) (va_cwF 0 hts (lw_app (lw_of4 q2062 q1461 q1463 q162) (lw_meth q1465)) rfl rfl rfl (hE.2.1.2.2.2.2.2 _ _ _ hdx_next.1 q1366 q1365 q1464 q1462 q1332) hdx_next.2 ⟨Nat.le_of_ble_eq_true rfl, Nat.le_of_ble_eq_true rfl⟩) rfl rfl (j_recv hJ _ _ _ _ 9 _ _ hE hH hS (adtR (t := 9) (show bd _ _ = some _ from e4)).choose_spec) ea2 rfl hl.1 rfl rfl (lv_room (Nat.le_of_ble_eq_true rfl)) dX0_drained_42 hH hS (by omega) (by omega) (fun H locs hH hS => ?_)
      have hkc : kc + c1 + c4 + c2_4 ≤ mc := by omega
      have hks : ks + n1 + n4 + n2_4 ≤ ms := by omega
      obtain ⟨_, e5, hf⟩ := bdo hf
      refine g_casta (pc := 47) (o := v4) (t := 10) (ci := 26) (C := RJ23) (T := TJ23) (N := 1) hx hb hts hown hE (j_recv hJ) hH hS rfl rfl q2672 e5 dX0_drained_47 ?_
      obtain ⟨a7, ea7, hf⟩ := bdo hf
      obtain ⟨v6, S6, c6, n6, c2_6, n2_6, e6, hf, hC6, hN6⟩ := gbo hf
      refine g_callV (pc := 50) (o := v4) (b := a7) (As := []) (rest := []) (st1 := [.int v6]) hc (j_nUnbox hJ a7  S4 v6 S6 c6 n6 e6) (cwV 0 hts (lw_V q2673 q1834 q1835 q126 q1836) rfl rfl rfl hdJ23_intValue ⟨Nat.le_of_ble_eq_true rfl, Nat.le_of_ble_eq_true rfl⟩) (j_recv hJ _ _ _ _ 10 _ _ hE hH hS (adtR (t := 10) (show bd _ _ = some _ from e6)).choose_spec) ea7 rfl hl.1 rfl rfl (lv_room (Nat.le_of_ble_eq_true rfl)) dX0_drained_50 hH hS (by omega) (by omega) (fun H locs hH hS => ?_)
      have hkc : kc + c1 + c4 + c6 + c2_6 ≤ mc := by omega
      have hks : ks + n1 + n4 + n6 + n2_6 ≤ ms := by omega
      refine lv_istore (pc := 53) (i := 5) (lv' := [(5, .int v6), (2, .int l2), (3, .int l3), (4, va_rf l4)]) hx hb dX0_drained_53 hl (by decide) (by simp [va_rf_cat, cat_i, cat_j, cat_r] <;> rfl) (fun ls hl => ?_)
      refine lv_iload_n (pc := 55) hx hb dX0_drained_55 rfl (lv_at hl 2 rfl) ?_
      refine lv_iload_n (pc := 56) hx hb dX0_drained_56 rfl (lv_at hl 1 rfl) ?_
      refine lv_icmp_ne (pc := 57) (tgt := 63) hx hb dX0_drained_57 (by decide) (fun c8 => ?_) (fun c8 => ?_)
      · rw [if_neg c8] at hf
        refine lv_iinc (pc := 63) (v := l3 + (nI 1)) (lv' := [(3, .int (l3 + (nI 1))), (5, .int v6), (2, .int l2), (4, va_rf l4)]) hx hb dX0_drained_63 hl (k := 2) rfl rfl (by decide) rfl (fun ls hl => ?_)
        refine lv_goto (pc := 66) (tgt := 30) hx hb dX0_drained_66 (by decide) ?_
        exact ih l2 (l3 + (nI 1)) l4 S6 _ _ ls _ _ _ _ hkc hks hH hS (lv_sub hl [2, 0, 3] rfl) hf
      · rw [if_pos c8] at hf
        refine lv_iload (pc := 60) hx hb dX0_drained_60 (lv_at hl 0 rfl) ?_
        exact g_iret (pc := 62) hx hb hr hlk hH hS hkc hks hf dX0_drained_62
def fX0_drained (G : gG) (l0 : Nat) (l1 : Int32) (l2 : Int32) (S : gS) : gO Int32 :=
  bd (chk S l0 0) fun _ =>
  gb (fX0_isQueue l0 l1 S) fun v1 S1 =>
  if v1 = 0 then
    bd (chk S1 l0 0) fun _ =>
    gb (fX0_no l0 (-82) S1) fun v8 S8 =>
    some (v8, S8, 0, 0)
  else
    bd (chk S1 l0 0) fun _ =>
    gb (fX0_queue_2 l0 l1 S1) fun v3 S3 =>
    bd v3 fun a5 =>
    bd (chk S3 a5 3) fun _ =>
    gb (fX8_drained G a5 S3) fun v4 S4 =>
    bd v4 fun a7 =>
    gb (nAD_iter a7  S4) fun v6 S6 =>
    fX0_drained_b30 G FU l2 (nI 0) v6 S6
theorem wX0_drained_b0 (hk : rOK Rp) (hJ : JDK l G Rp) (hc : gC p s m args meth c G RX0 "drained" cX0_drained 6 (some .int)) (l0 : Nat) (l1 : Int32) (l2 : Int32) (S : gS) (H : Heap) (locs : List Loc) (ls : Array Slot) (kc ks C N : Nat) (hkc : kc + C ≤ mc) (hks : ks + N ≤ ms) (hH : hp G Rp S H) (hS : va_S G.2.2.2 s.heap H locs) (hl : lv_has ls 6 [(0, .ref l0), (1, .int l1), (2, .int l2)]) (hf : fX0_drained G l0 l1 l2 S = some (r, Sf, C, N)) : W p l e (gR 18 609 mc ms) s m args below meth c H locs kc ks (gQ below G Rp (some (.int r)) Sf args s mc ms) (F0 m 0 ls []) := by
  obtain ⟨hx, hb, hr, hlk, hml, hown, hts, hE, hA, hnm⟩ := hc
  have hc : gC p s m args meth c G RX0 "drained" cX0_drained 6 (some .int) := ⟨hx, hb, hr, hlk, hml, hown, hts, hE, hA, hnm⟩
  unfold fX0_drained at hf
  refine lv_aload_n (pc := 0) hx hb dX0_drained_0 rfl (lv_at hl 0 rfl) ?_
  refine lv_iload_n (pc := 1) hx hb dX0_drained_1 rfl (lv_at hl 1 rfl) ?_
  obtain ⟨_, ek1, hf⟩ := bdo hf
  obtain ⟨v1, S1, c1, n1, c2_1, n2_1, e1, hf, hC1, hN1⟩ := gbo hf
  refine g_callV (pc := 2) (o := (some l0)) (b := l0) (As := [.int l1]) (rest := []) (st1 := [.int v1]) hc (mX0_isQueue hk hJ (l0 := l0) (l1 := l1) e1) (cwV 1 hts (lw_V q1214 q1216 qs17 q97 q1217) rfl rfl rfl hdX0_isQueue ⟨Nat.le_of_ble_eq_true rfl, Nat.le_of_ble_eq_true rfl⟩) (g_recv hE hk hH (ci := 0) (q := (RX0, TX0, 7)) rfl (chk_o ek1).choose_spec) rfl rfl hl.1 rfl rfl (lv_room (Nat.le_of_ble_eq_true rfl)) dX0_drained_2 hH hS (by omega) (by omega) (fun H locs hH hS => ?_)
  have hkc : kc + c1 + c2_1 ≤ mc := by omega
  have hks : ks + n1 + n2_1 ≤ ms := by omega
  refine lv_if_ne (pc := 5) (tgt := 15) hx hb dX0_drained_5 (by decide) (fun c2 => ?_) (fun c2 => ?_)
  · rw [if_neg c2] at hf
    refine lv_iconst (pc := 15) (v := nI 0) hx hb dX0_drained_15 rfl ?_
    refine lv_istore_n (pc := 16) (i := 3) (lv' := [(3, .int (nI 0)), (0, .ref l0), (1, .int l1), (2, .int l2)]) hx hb dX0_drained_16 rfl hl (by decide) rfl (fun ls hl => ?_)
    refine lv_aload_n (pc := 17) hx hb dX0_drained_17 rfl (lv_at hl 1 rfl) ?_
    refine lv_iload_n (pc := 18) hx hb dX0_drained_18 rfl (lv_at hl 2 rfl) ?_
    obtain ⟨_, ek3, hf⟩ := bdo hf
    obtain ⟨v3, S3, c3, n3, c2_3, n2_3, e3, hf, hC3, hN3⟩ := gbo hf
    refine g_callV (pc := 19) (o := (some l0)) (b := l0) (As := [.int l1]) (rest := []) (st1 := [va_rf v3]) hc (mX0_queue_2 hk hJ (l0 := l0) (l1 := l1) e3) (cwV 1 hts (lw_V q1218 q1220 qs18 q97 q1221) rfl rfl rfl hdX0_queue_2 ⟨Nat.le_of_ble_eq_true rfl, Nat.le_of_ble_eq_true rfl⟩) (g_recv hE hk hH (ci := 0) (q := (RX0, TX0, 7)) rfl (chk_o ek3).choose_spec) rfl rfl hl.1 rfl rfl (lv_room (Nat.le_of_ble_eq_true rfl)) dX0_drained_19 hH hS (by omega) (by omega) (fun H locs hH hS => ?_)
    have hkc : kc + c1 + c3 + c2_3 ≤ mc := by omega
    have hks : ks + n1 + n3 + n2_3 ≤ ms := by omega
    obtain ⟨a5, ea5, hf⟩ := bdo hf
    obtain ⟨_, ek4, hf⟩ := bdo hf
    obtain ⟨v4, S4, c4, n4, c2_4, n2_4, e4, hf, hC4, hN4⟩ := gbo hf
    refine g_callV (pc := 22) (o := v3) (b := a5) (As := []) (rest := []) (st1 := [va_rf v4]) hc (mX8_drained hk hJ (l0 := a5) e4) (cwV 0 hts (lw_V q2607 q2608 q2609 q131 q2610) rfl rfl rfl hdX8_drained ⟨Nat.le_of_ble_eq_true rfl, Nat.le_of_ble_eq_true rfl⟩) (g_recv hE hk hH (ci := 3) (q := (RX8, TX8, 13)) rfl (chk_o ek4).choose_spec) ea5 rfl hl.1 rfl rfl (lv_room (Nat.le_of_ble_eq_true rfl)) dX0_drained_22 hH hS (by omega) (by omega) (fun H locs hH hS => ?_)
    have hkc : kc + c1 + c3 + c4 + c2_4 ≤ mc := by omega
    have hks : ks + n1 + n3 + n4 + n2_4 ≤ ms := by omega
    obtain ⟨a7, ea7, hf⟩ := bdo hf
    obtain ⟨v6, S6, c6, n6, c2_6, n2_6, e6, hf, hC6, hN6⟩ := gbo hf
    refine g_callV (pc := 25) (o := v4) (b := a7) (As := []) (rest := []) (st1 := [va_rf v6]) hc (j_nAD_iter hJ a7  S4 v6 S6 c6 n6 e6) (cwV 0 hts (lw_V q2645 q2646 q2647 q137 q2648) rfl rfl rfl hdJ28_iterator ⟨Nat.le_of_ble_eq_true rfl, Nat.le_of_ble_eq_true rfl⟩) (j_recv hJ _ _ _ _ 3 _ _ hE hH hS (adtR (t := 3) (show bd _ _ = some _ from e6)).choose_spec) ea7 rfl hl.1 rfl rfl (lv_room (Nat.le_of_ble_eq_true rfl)) dX0_drained_25 hH hS (by omega) (by omega) (fun H locs hH hS => ?_)
    have hkc : kc + c1 + c3 + c4 + c6 + c2_6 ≤ mc := by omega
    have hks : ks + n1 + n3 + n4 + n6 + n2_6 ≤ ms := by omega
    refine g_astore (pc := 28) (i := 4) (o := v6) (lv' := [(4, va_rf v6), (3, .int (nI 0)), (0, .ref l0), (1, .int l1), (2, .int l2)]) hx hb dX0_drained_28 hl (by decide) rfl (fun ls hl => ?_)
    exact wX0_drained_b30 hk hJ hc FU l2 (nI 0) v6 S6 _ _ ls _ _ _ _ hkc hks hH hS (lv_sub hl [4, 1, 0] rfl) hf
  · rw [if_pos c2] at hf
    refine lv_aload_n (pc := 8) hx hb dX0_drained_8 rfl (lv_at hl 0 rfl) ?_
    refine lv_bipush (pc := 9) (v := -82) hx hb dX0_drained_9 gkbm82 ?_
    obtain ⟨_, ek8, hf⟩ := bdo hf
    obtain ⟨v8, S8, c8, n8, c2_8, n2_8, e8, hf, hC8, hN8⟩ := gbo hf
    refine g_callV (pc := 11) (o := (some l0)) (b := l0) (As := [.int (-82)]) (rest := []) (st1 := [.int v8]) hc (mX0_no hk hJ (l0 := l0) (l1 := (-82)) e8) (cwV 1 hts (lw_V q398 q400 qs2 q97 q401) rfl rfl rfl hdX0_no ⟨Nat.le_of_ble_eq_true rfl, Nat.le_of_ble_eq_true rfl⟩) (g_recv hE hk hH (ci := 0) (q := (RX0, TX0, 7)) rfl (chk_o ek8).choose_spec) rfl rfl hl.1 rfl rfl (lv_room (Nat.le_of_ble_eq_true rfl)) dX0_drained_11 hH hS (by omega) (by omega) (fun H locs hH hS => ?_)
    have hkc : kc + c1 + c8 + c2_8 ≤ mc := by omega
    have hks : ks + n1 + n8 + n2_8 ≤ ms := by omega
    exact g_iret (pc := 14) hx hb hr hlk hH hS hkc hks hf dX0_drained_14
theorem mX0_drained {l : Launch} {G : gG} {Rp : gM → gM → Nat → Prop} (hk : rOK Rp) (hJ : JDK l G Rp) {S S2 : gS} {r2 : Int32} {C N : Nat} {l0 : Nat} {l1 : Int32} {l2 : Int32} (hf : fX0_drained G l0 l1 l2 S = some (r2, S2, C, N)) : gMet l yX0_drained cX0_drained 6 (some .int) 18 609 G Rp [.ref l0, .int l1, .int l2] S (some (.int r2)) S2 C N := by
  refine g_start (by decide) (Nat.le_of_ble_eq_true rfl) (fun p e s m args below meth c ls hc hl hH => ?_)
  have hl : lv_has ls 6 [(0, .ref l0), (1, .int l1), (2, .int l2)] := hl
  exact wX0_drained_b0 hk hJ hc l0 l1 l2 S _ _ ls 0 0 C N (by omega) (by omega) hH va_S.rf (lv_sub hl [0, 1, 2] rfl) hf
end
section
variable {r : Int32} {Sf : gS}
def fX0_isShelf (l0 : Int32) (S : gS) : gO Int32 :=
  gb (fX0_isIn l0 (nI 0) (nI 7) S) fun v1 S1 =>
  zg v1 S1
theorem wX0_isShelf_b0 (hk : rOK Rp) (hJ : JDK l G Rp) (hc : gC p s m args meth c G RX0 "isShelf" cX0_isShelf 1 (some .boolean)) (l0 : Int32) (S : gS) (H : Heap) (locs : List Loc) (ls : Array Slot) (kc ks C N : Nat) (hkc : kc + C ≤ mc) (hks : ks + N ≤ ms) (hH : hp G Rp S H) (hS : va_S G.2.2.2 s.heap H locs) (hl : lv_has ls 1 [(0, .int l0)]) (hf : fX0_isShelf l0 S = some (r, Sf, C, N)) : W p l e (gR 2 62 mc ms) s m args below meth c H locs kc ks (gQ below G Rp (some (.int r)) Sf args s mc ms) (F0 m 0 ls []) := by
  obtain ⟨hx, hb, hr, hlk, hml, hown, hts, hE, hA, hnm⟩ := hc
  have hc : gC p s m args meth c G RX0 "isShelf" cX0_isShelf 1 (some .boolean) := ⟨hx, hb, hr, hlk, hml, hown, hts, hE, hA, hnm⟩
  unfold fX0_isShelf at hf
  refine lv_iload_n (pc := 0) hx hb dX0_isShelf_0 rfl (lv_at hl 0 rfl) ?_
  refine lv_iconst (pc := 1) (v := nI 0) hx hb dX0_isShelf_1 rfl ?_
  refine lv_bipush (pc := 2) (v := nI 7) hx hb dX0_isShelf_2 gkb7 ?_
  obtain ⟨v1, S1, c1, n1, c2_1, n2_1, e1, hf, hC1, hN1⟩ := gbo hf
  refine g_callS (pc := 4) (As := [.int l0, .int (nI 0), .int (nI 7)]) (rest := []) (st1 := [.int v1]) hc (mX0_isIn hk hJ (l0 := l0) (l1 := (nI 0)) (l2 := (nI 7)) e1) (va_cwS 3 hts (lw_S q395 q396 q97 q397) rfl rfl rfl hdX0_isIn ⟨Nat.le_of_ble_eq_true rfl, Nat.le_of_ble_eq_true rfl⟩) rfl hl.1 rfl rfl (lv_room (Nat.le_of_ble_eq_true rfl)) dX0_isShelf_4 hH hS (by omega) (by omega) (fun H locs hH hS => ?_)
  have hkc : kc + c1 + c2_1 ≤ mc := by omega
  have hks : ks + n1 + n2_1 ≤ ms := by omega
  exact g_zret (pc := 7) hx hb hr hlk hH hS hkc hks hf dX0_isShelf_7
theorem mX0_isShelf {l : Launch} {G : gG} {Rp : gM → gM → Nat → Prop} (hk : rOK Rp) (hJ : JDK l G Rp) {S S2 : gS} {r2 : Int32} {C N : Nat} {l0 : Int32} (hf : fX0_isShelf l0 S = some (r2, S2, C, N)) : gMet l yX0_isShelf cX0_isShelf 1 (some .boolean) 2 62 G Rp [.int l0] S (some (.int r2)) S2 C N := by
  refine g_start (by decide) (Nat.le_of_ble_eq_true rfl) (fun p e s m args below meth c ls hc hl hH => ?_)
  have hl : lv_has ls 1 [(0, .int l0)] := hl
  exact wX0_isShelf_b0 hk hJ hc l0 S _ _ ls 0 0 C N (by omega) (by omega) hH va_S.rf (lv_sub hl [0] rfl) hf
end
section
variable {r : Unit} {Sf : gS}
def fJ5_init_3_c28_b41 (G : gG) (l0 : Nat) (l1 : Option Nat) (l2 : Option Nat) (l3 : Int32) (S : gS) : gO Unit :=
  bd (wr S l0 28 3 (va_rf l1)) fun S1 =>
  bd (wr S1 l0 28 0 (va_rf l2)) fun S2 =>
  if l3 = 0 then
    bd (wr S2 l0 28 2 (.null)) fun S4 =>
    some ((), S4, 0, 0)
  else
    some ((), S2, 0, 0)
theorem wJ5_init_3_c28_b41 (hk : rOK Rp) (hJ : JDK l G Rp) (hc : gC p s m args meth c G RJ5 "<init>" cJ5_init_3 5 (none)) (l0 : Nat) (l1 : Option Nat) (l2 : Option Nat) (l3 : Int32) (S : gS) (H : Heap) (locs : List Loc) (ls : Array Slot) (kc ks C N : Nat) (hkc : kc + C ≤ mc) (hks : ks + N ≤ ms) (hH : hp G Rp S H) (hS : va_S G.2.2.2 s.heap H locs) (hl : lv_has ls 5 [(0, .ref l0), (1, va_rf l1), (2, va_rf l2), (3, .int l3)]) (hf : fJ5_init_3_c28_b41 G l0 l1 l2 l3 S = some (r, Sf, C, N)) : W p l e (gR 1 40 mc ms) s m args below meth c H locs kc ks (gQ below G Rp none Sf args s mc ms) (F0 m 41 ls []) := by
  obtain ⟨hx, hb, hr, hlk, hml, hown, hts, hE, hA, hnm⟩ := hc
  have hc : gC p s m args meth c G RJ5 "<init>" cJ5_init_3 5 (none) := ⟨hx, hb, hr, hlk, hml, hown, hts, hE, hA, hnm⟩
  unfold fJ5_init_3_c28_b41 at hf
  refine lv_aload_n (pc := 41) hx hb dJ5_init_3_41 rfl (lv_at hl 0 rfl) ?_
  refine g_aload_n (pc := 42) (o := l1) hx hb dJ5_init_3_42 rfl (lv_at hl 1 rfl) ?_
  obtain ⟨S1, e1, hf⟩ := bdo hf
  refine g_put (pc := 43) (o := (some l0)) (a := l0) (ci := 28) (k := 3) (v := va_rf l1) (C := RX4) (T := TX4) (N := 7) (ty := .object "java/lang/String") hx hb hts hown hE hk hH hS rfl in_X4 tyX4_ok nmX4 rfl (by decide) (hts _ q352) (fun _ h9 => h9) rfl rfl (nar_rf _ _) (fit_rf _ _) rfl e1 dJ5_init_3_43 (fun H locs hH hS => ?_)
  refine lv_aload_n (pc := 46) hx hb dJ5_init_3_46 rfl (lv_at hl 0 rfl) ?_
  refine g_aload_n (pc := 47) (o := l2) hx hb dJ5_init_3_47 rfl (lv_at hl 2 rfl) ?_
  obtain ⟨S2, e2, hf⟩ := bdo hf
  refine g_put (pc := 48) (o := (some l0)) (a := l0) (ci := 28) (k := 0) (v := va_rf l2) (C := RX4) (T := TX4) (N := 7) (ty := .object "java/lang/Throwable") hx hb hts hown hE hk hH hS rfl in_X4 tyX4_ok nmX4 rfl (by decide) (hts _ q353) (fun _ h9 => h9) rfl rfl (nar_rf _ _) (fit_rf _ _) rfl e2 dJ5_init_3_48 (fun H locs hH hS => ?_)
  refine lv_iload_n (pc := 51) hx hb dJ5_init_3_51 rfl (lv_at hl 3 rfl) ?_
  refine lv_if_ne (pc := 52) (tgt := 60) hx hb dJ5_init_3_52 (by decide) (fun c3 => ?_) (fun c3 => ?_)
  · rw [if_neg c3] at hf
    exact g_vret (pc := 60) hx hb hr hlk hH hS hkc hks hf dJ5_init_3_60
  · rw [if_pos c3] at hf
    refine lv_aload_n (pc := 55) hx hb dJ5_init_3_55 rfl (lv_at hl 0 rfl) ?_
    refine lv_null (pc := 56) hx hb dJ5_init_3_56 ?_
    obtain ⟨S4, e4, hf⟩ := bdo hf
    refine g_put (pc := 57) (o := (some l0)) (a := l0) (ci := 28) (k := 2) (v := .null) (C := RX4) (T := TX4) (N := 7) (ty := .object "java/util/List") hx hb hts hown hE hk hH hS rfl in_X4 tyX4_ok nmX4 rfl (by decide) (hts _ q355) (fun _ h9 => h9) rfl rfl rfl rfl rfl e4 dJ5_init_3_57 (fun H locs hH hS => ?_)
    exact g_vret (pc := 60) hx hb hr hlk hH hS hkc hks hf dJ5_init_3_60
def fJ5_init_3_c28 (G : gG) (l0 : Nat) (l1 : Option Nat) (l2 : Option Nat) (l3 : Int32) (l4 : Int32) (S : gS) : gO Unit :=
  bd (wr S l0 28 0 (.ref l0)) fun S2 =>
  bd (wr S2 l0 28 1 (va_rf (kO (G.2.2.1 8)))) fun S3 =>
  bd (wr S3 l0 28 2 (va_rf (kO (G.2.2.1 9)))) fun S4 =>
  if l4 = 0 then
    bd (wr S4 l0 28 1 (.null)) fun S6 =>
    fJ5_init_3_c28_b41 G l0 l1 l2 l3 S6
  else
    none
theorem wJ5_init_3_c28_b0 (hk : rOK Rp) (hJ : JDK l G Rp) (hc : gC p s m args meth c G RJ5 "<init>" cJ5_init_3 5 (none)) (l0 : Nat) (l1 : Option Nat) (l2 : Option Nat) (l3 : Int32) (l4 : Int32) (S : gS) (H : Heap) (locs : List Loc) (ls : Array Slot) (kc ks C N : Nat) (hkc : kc + C ≤ mc) (hks : ks + N ≤ ms) (hH : hp G Rp S H) (hS : va_S G.2.2.2 s.heap H locs) (hl : lv_has ls 5 [(0, .ref l0), (1, va_rf l1), (2, va_rf l2), (3, .int l3), (4, .int l4)]) (hf : fJ5_init_3_c28 G l0 l1 l2 l3 l4 S = some (r, Sf, C, N)) : W p l e (gR 1 40 mc ms) s m args below meth c H locs kc ks (gQ below G Rp none Sf args s mc ms) (F0 m 0 ls []) := by
  obtain ⟨hx, hb, hr, hlk, hml, hown, hts, hE, hA, hnm⟩ := hc
  have hc : gC p s m args meth c G RJ5 "<init>" cJ5_init_3 5 (none) := ⟨hx, hb, hr, hlk, hml, hown, hts, hE, hA, hnm⟩
  unfold fJ5_init_3_c28 at hf
  refine lv_aload_n (pc := 0) hx hb dJ5_init_3_0 rfl (lv_at hl 0 rfl) ?_
  refine W.objInit  hx hb hown (hts _ q313) (hts _ q169) (hts _ q170) rfl (by rw [hml]; exact hl.1) rfl dJ5_init_3_1 (Nat.le_of_ble_eq_true rfl) (Nat.le_of_ble_eq_true rfl) ?_
  refine W.eq (g2 := F0 m 4 ls []) rfl ?_
  refine lv_aload_n (pc := 4) hx hb dJ5_init_3_4 rfl (lv_at hl 0 rfl) ?_
  refine lv_aload_n (pc := 5) hx hb dJ5_init_3_5 rfl (lv_at hl 0 rfl) ?_
  obtain ⟨S2, e2, hf⟩ := bdo hf
  refine g_put (pc := 6) (o := (some l0)) (a := l0) (ci := 28) (k := 0) (v := .ref l0) (C := RX4) (T := TX4) (N := 7) (ty := .object "java/lang/Throwable") hx hb hts hown hE hk hH hS rfl in_X4 tyX4_ok nmX4 rfl (by decide) (hts _ q353) (fun _ h9 => h9) rfl rfl rfl rfl rfl e2 dJ5_init_3_6 (fun H locs hH hS => ?_)
  refine lv_aload_n (pc := 9) hx hb dJ5_init_3_9 rfl (lv_at hl 0 rfl) ?_
  refine va_gets (pc := 10) hx hb hE.2.2.2.2.2.2.2.2.2.1.1 hS hown (hts _ q314) (fun _ h9 => h9) dJ5_init_3_10 ?_
  obtain ⟨S3, e3, hf⟩ := bdo hf
  refine g_put (pc := 13) (o := (some l0)) (a := l0) (ci := 28) (k := 1) (v := va_rf (kO (G.2.2.1 8))) (C := RX4) (T := TX4) (N := 7) (ty := tyX4 1) hx hb hts hown hE hk hH hS rfl in_X4 tyX4_ok nmX4 rfl (by decide) (hts _ q354) (fun _ h9 => h9) rfl rfl (nar_ra _ _) (fit_ra _ _) rfl e3 dJ5_init_3_13 (fun H locs hH hS => ?_)
  refine lv_aload_n (pc := 16) hx hb dJ5_init_3_16 rfl (lv_at hl 0 rfl) ?_
  refine va_gets (pc := 17) hx hb hE.2.2.2.2.2.2.2.2.2.1.2.1 hS hown (hts _ q316) (fun _ h9 => h9) dJ5_init_3_17 ?_
  obtain ⟨S4, e4, hf⟩ := bdo hf
  refine g_put (pc := 20) (o := (some l0)) (a := l0) (ci := 28) (k := 2) (v := va_rf (kO (G.2.2.1 9))) (C := RX4) (T := TX4) (N := 7) (ty := .object "java/util/List") hx hb hts hown hE hk hH hS rfl in_X4 tyX4_ok nmX4 rfl (by decide) (hts _ q355) (fun _ h9 => h9) rfl rfl (nar_rf _ _) (fit_rf _ _) rfl e4 dJ5_init_3_20 (fun H locs hH hS => ?_)
  refine lv_iload (pc := 23) hx hb dJ5_init_3_23 (lv_at hl 4 rfl) ?_
  refine lv_if_eq (pc := 25) (tgt := 36) hx hb dJ5_init_3_25 (by decide) (fun c5 => ?_) (fun c5 => ?_)
  · rw [if_pos c5] at hf
    refine lv_aload_n (pc := 36) hx hb dJ5_init_3_36 rfl (lv_at hl 0 rfl) ?_
    refine lv_null (pc := 37) hx hb dJ5_init_3_37 ?_
    obtain ⟨S6, e6, hf⟩ := bdo hf
    refine g_put (pc := 38) (o := (some l0)) (a := l0) (ci := 28) (k := 1) (v := .null) (C := RX4) (T := TX4) (N := 7) (ty := tyX4 1) hx hb hts hown hE hk hH hS rfl in_X4 tyX4_ok nmX4 rfl (by decide) (hts _ q354) (fun _ h9 => h9) rfl rfl rfl rfl rfl e6 dJ5_init_3_38 (fun H locs hH hS => ?_)
    exact wJ5_init_3_c28_b41 hk hJ hc l0 l1 l2 l3 S6 _ _ ls _ _ _ _ hkc hks hH hS (lv_sub hl [0, 1, 2, 3] rfl) hf
  · rw [if_neg c5] at hf
    refine lv_aload_n (pc := 28) hx hb dJ5_init_3_28 rfl (lv_at hl 0 rfl) ?_
    exact absurd hf (fun h => by cases h)
theorem mJ5_init_3_c28 {l : Launch} {G : gG} {Rp : gM → gM → Nat → Prop} (hk : rOK Rp) (hJ : JDK l G Rp) {S S2 : gS} {r2 : Unit} {C N : Nat} {l0 : Nat} {l1 : Option Nat} {l2 : Option Nat} {l3 : Int32} {l4 : Int32} (hf : fJ5_init_3_c28 G l0 l1 l2 l3 l4 S = some (r2, S2, C, N)) : gMet l yJ5_init_3 cJ5_init_3 5 (none) 1 40 G Rp [.ref l0, va_rf l1, va_rf l2, .int l3, .int l4] S none S2 C N := by
  refine g_start (by decide) (by simp [lg_sl, va_rf_cat, cat_i, cat_j, cat_r]) (fun p e s m args below meth c ls hc hl hH => ?_)
  have hl : lv_has ls 5 [(0, .ref l0), (1, va_rf l1), (2, va_rf l2), (3, .int l3), (4, .int l4)] := by simpa [lv_args, va_rf_cat, cat_i, cat_j, cat_r] using hl
  exact wJ5_init_3_c28_b0 hk hJ hc l0 l1 l2 l3 l4 S _ _ ls 0 0 C N (by omega) (by omega) hH va_S.rf (lv_sub hl [0, 1, 2, 3, 4] rfl) hf
end
section
variable {r : Unit} {Sf : gS}
def fJ6_init_2_c28 (G : gG) (l0 : Nat) (l1 : Option Nat) (l2 : Option Nat) (l3 : Int32) (l4 : Int32) (S : gS) : gO Unit :=
  gb (fJ5_init_3_c28 G l0 l1 l2 l3 l4 S) fun _ S1 =>
  some ((), S1, 0, 0)
theorem wJ6_init_2_c28_b0 (hk : rOK Rp) (hJ : JDK l G Rp) (hc : gC p s m args meth c G RJ6 "<init>" cJ6_init_2 5 (none)) (l0 : Nat) (l1 : Option Nat) (l2 : Option Nat) (l3 : Int32) (l4 : Int32) (S : gS) (H : Heap) (locs : List Loc) (ls : Array Slot) (kc ks C N : Nat) (hkc : kc + C ≤ mc) (hks : ks + N ≤ ms) (hH : hp G Rp S H) (hS : va_S G.2.2.2 s.heap H locs) (hl : lv_has ls 5 [(0, .ref l0), (1, va_rf l1), (2, va_rf l2), (3, .int l3), (4, .int l4)]) (hf : fJ6_init_2_c28 G l0 l1 l2 l3 l4 S = some (r, Sf, C, N)) : W p l e (gR 2 64 mc ms) s m args below meth c H locs kc ks (gQ below G Rp none Sf args s mc ms) (F0 m 0 ls []) := by
  obtain ⟨hx, hb, hr, hlk, hml, hown, hts, hE, hA, hnm⟩ := hc
  have hc : gC p s m args meth c G RJ6 "<init>" cJ6_init_2 5 (none) := ⟨hx, hb, hr, hlk, hml, hown, hts, hE, hA, hnm⟩
  unfold fJ6_init_2_c28 at hf
  refine lv_aload_n (pc := 0) hx hb dJ6_init_2_0 rfl (lv_at hl 0 rfl) ?_
  refine g_aload_n (pc := 1) (o := l1) hx hb dJ6_init_2_1 rfl (lv_at hl 1 rfl) ?_
  refine g_aload_n (pc := 2) (o := l2) hx hb dJ6_init_2_2 rfl (lv_at hl 2 rfl) ?_
  refine lv_iload_n (pc := 3) hx hb dJ6_init_2_3 rfl (lv_at hl 3 rfl) ?_
  refine lv_iload (pc := 4) hx hb dJ6_init_2_4 (lv_at hl 4 rfl) ?_
  obtain ⟨_, S1, c1, n1, c2_1, n2_1, e1, hf, hC1, hN1⟩ := gbo hf
  refine g_callI (pc := 6) (o := (some l0)) (b := l0) (As := [va_rf l1, va_rf l2, .int l3, .int l4]) (rest := []) hc (mJ5_init_3_c28 hk hJ (l0 := l0) (l1 := l1) (l2 := l2) (l3 := l3) (l4 := l4) e1) (cwI 4 hts (lw_meth q456) rfl rfl rfl (hts _ q106) (hts _ q454) (hts _ q455) rfl hdiJ5_init_3 ⟨Nat.le_of_ble_eq_true rfl, Nat.le_of_ble_eq_true rfl⟩) rfl rfl hl.1 rfl (lv_room (Nat.le_of_ble_eq_true rfl)) dJ6_init_2_6 hH hS (by omega) (by omega) (fun H locs hH hS => ?_)
  have hkc : kc + c1 + c2_1 ≤ mc := by omega
  have hks : ks + n1 + n2_1 ≤ ms := by omega
  exact g_vret (pc := 9) hx hb hr hlk hH hS hkc hks hf dJ6_init_2_9
theorem mJ6_init_2_c28 {l : Launch} {G : gG} {Rp : gM → gM → Nat → Prop} (hk : rOK Rp) (hJ : JDK l G Rp) {S S2 : gS} {r2 : Unit} {C N : Nat} {l0 : Nat} {l1 : Option Nat} {l2 : Option Nat} {l3 : Int32} {l4 : Int32} (hf : fJ6_init_2_c28 G l0 l1 l2 l3 l4 S = some (r2, S2, C, N)) : gMet l yJ6_init_2 cJ6_init_2 5 (none) 2 64 G Rp [.ref l0, va_rf l1, va_rf l2, .int l3, .int l4] S none S2 C N := by
  refine g_start (by decide) (by simp [lg_sl, va_rf_cat, cat_i, cat_j, cat_r]) (fun p e s m args below meth c ls hc hl hH => ?_)
  have hl : lv_has ls 5 [(0, .ref l0), (1, va_rf l1), (2, va_rf l2), (3, .int l3), (4, .int l4)] := by simpa [lv_args, va_rf_cat, cat_i, cat_j, cat_r] using hl
  exact wJ6_init_2_c28_b0 hk hJ hc l0 l1 l2 l3 l4 S _ _ ls 0 0 C N (by omega) (by omega) hH va_S.rf (lv_sub hl [0, 1, 2, 3, 4] rfl) hf
end
section
variable {r : Unit} {Sf : gS}
def fJ7_init_2_c28 (G : gG) (l0 : Nat) (l1 : Option Nat) (l2 : Option Nat) (l3 : Int32) (l4 : Int32) (S : gS) : gO Unit :=
  gb (fJ6_init_2_c28 G l0 l1 l2 l3 l4 S) fun _ S1 =>
  some ((), S1, 0, 0)
theorem wJ7_init_2_c28_b0 (hk : rOK Rp) (hJ : JDK l G Rp) (hc : gC p s m args meth c G RJ7 "<init>" cJ7_init_2 5 (none)) (l0 : Nat) (l1 : Option Nat) (l2 : Option Nat) (l3 : Int32) (l4 : Int32) (S : gS) (H : Heap) (locs : List Loc) (ls : Array Slot) (kc ks C N : Nat) (hkc : kc + C ≤ mc) (hks : ks + N ≤ ms) (hH : hp G Rp S H) (hS : va_S G.2.2.2 s.heap H locs) (hl : lv_has ls 5 [(0, .ref l0), (1, va_rf l1), (2, va_rf l2), (3, .int l3), (4, .int l4)]) (hf : fJ7_init_2_c28 G l0 l1 l2 l3 l4 S = some (r, Sf, C, N)) : W p l e (gR 3 88 mc ms) s m args below meth c H locs kc ks (gQ below G Rp none Sf args s mc ms) (F0 m 0 ls []) := by
  obtain ⟨hx, hb, hr, hlk, hml, hown, hts, hE, hA, hnm⟩ := hc
  have hc : gC p s m args meth c G RJ7 "<init>" cJ7_init_2 5 (none) := ⟨hx, hb, hr, hlk, hml, hown, hts, hE, hA, hnm⟩
  unfold fJ7_init_2_c28 at hf
  refine lv_aload_n (pc := 0) hx hb dJ7_init_2_0 rfl (lv_at hl 0 rfl) ?_
  refine g_aload_n (pc := 1) (o := l1) hx hb dJ7_init_2_1 rfl (lv_at hl 1 rfl) ?_
  refine g_aload_n (pc := 2) (o := l2) hx hb dJ7_init_2_2 rfl (lv_at hl 2 rfl) ?_
  refine lv_iload_n (pc := 3) hx hb dJ7_init_2_3 rfl (lv_at hl 3 rfl) ?_
  refine lv_iload (pc := 4) hx hb dJ7_init_2_4 (lv_at hl 4 rfl) ?_
  obtain ⟨_, S1, c1, n1, c2_1, n2_1, e1, hf, hC1, hN1⟩ := gbo hf
  refine g_callI (pc := 6) (o := (some l0)) (b := l0) (As := [va_rf l1, va_rf l2, .int l3, .int l4]) (rest := []) hc (mJ6_init_2_c28 hk hJ (l0 := l0) (l1 := l1) (l2 := l2) (l3 := l3) (l4 := l4) e1) (cwI 4 hts (lw_meth q453) rfl rfl rfl (hts _ q107) (hts _ q451) (hts _ q452) rfl hdiJ6_init_2 ⟨Nat.le_of_ble_eq_true rfl, Nat.le_of_ble_eq_true rfl⟩) rfl rfl hl.1 rfl (lv_room (Nat.le_of_ble_eq_true rfl)) dJ7_init_2_6 hH hS (by omega) (by omega) (fun H locs hH hS => ?_)
  have hkc : kc + c1 + c2_1 ≤ mc := by omega
  have hks : ks + n1 + n2_1 ≤ ms := by omega
  exact g_vret (pc := 9) hx hb hr hlk hH hS hkc hks hf dJ7_init_2_9
theorem mJ7_init_2_c28 {l : Launch} {G : gG} {Rp : gM → gM → Nat → Prop} (hk : rOK Rp) (hJ : JDK l G Rp) {S S2 : gS} {r2 : Unit} {C N : Nat} {l0 : Nat} {l1 : Option Nat} {l2 : Option Nat} {l3 : Int32} {l4 : Int32} (hf : fJ7_init_2_c28 G l0 l1 l2 l3 l4 S = some (r2, S2, C, N)) : gMet l yJ7_init_2 cJ7_init_2 5 (none) 3 88 G Rp [.ref l0, va_rf l1, va_rf l2, .int l3, .int l4] S none S2 C N := by
  refine g_start (by decide) (by simp [lg_sl, va_rf_cat, cat_i, cat_j, cat_r]) (fun p e s m args below meth c ls hc hl hH => ?_)
  have hl : lv_has ls 5 [(0, .ref l0), (1, va_rf l1), (2, va_rf l2), (3, .int l3), (4, .int l4)] := by simpa [lv_args, va_rf_cat, cat_i, cat_j, cat_r] using hl
  exact wJ7_init_2_c28_b0 hk hJ hc l0 l1 l2 l3 l4 S _ _ ls 0 0 C N (by omega) (by omega) hH va_S.rf (lv_sub hl [0, 1, 2, 3, 4] rfl) hf
end
section
variable {r : Unit} {Sf : gS}
def fX4_init (G : gG) (l0 : Nat) (l1 : Int32) (S : gS) : gO Unit :=
  gb (fJ7_init_2_c28 G l0 none none (nI 0) (nI 0) S) fun _ S1 =>
  bd (wr S1 l0 28 6 (.int l1)) fun S2 =>
  some ((), S2, 0, 0)
theorem wX4_init_b0 (hk : rOK Rp) (hJ : JDK l G Rp) (hc : gC p s m args meth c G RX4 "<init>" cX4_init 2 (none)) (l0 : Nat) (l1 : Int32) (S : gS) (H : Heap) (locs : List Loc) (ls : Array Slot) (kc ks C N : Nat) (hkc : kc + C ≤ mc) (hks : ks + N ≤ ms) (hH : hp G Rp S H) (hS : va_S G.2.2.2 s.heap H locs) (hl : lv_has ls 2 [(0, .ref l0), (1, .int l1)]) (hf : fX4_init G l0 l1 S = some (r, Sf, C, N)) : W p l e (gR 4 112 mc ms) s m args below meth c H locs kc ks (gQ below G Rp none Sf args s mc ms) (F0 m 0 ls []) := by
  obtain ⟨hx, hb, hr, hlk, hml, hown, hts, hE, hA, hnm⟩ := hc
  have hc : gC p s m args meth c G RX4 "<init>" cX4_init 2 (none) := ⟨hx, hb, hr, hlk, hml, hown, hts, hE, hA, hnm⟩
  unfold fX4_init at hf
  refine lv_aload_n (pc := 0) hx hb dX4_init_0 rfl (lv_at hl 0 rfl) ?_
  refine lv_null (pc := 1) hx hb dX4_init_1 ?_
  refine lv_null (pc := 2) hx hb dX4_init_2 ?_
  refine lv_iconst (pc := 3) (v := nI 0) hx hb dX4_init_3 rfl ?_
  refine lv_iconst (pc := 4) (v := nI 0) hx hb dX4_init_4 rfl ?_
  obtain ⟨_, S1, c1, n1, c2_1, n2_1, e1, hf, hC1, hN1⟩ := gbo hf
  refine g_callI (pc := 5) (o := (some l0)) (b := l0) (As := [va_rf none, va_rf none, .int (nI 0), .int (nI 0)]) (rest := []) hc (mJ7_init_2_c28 hk hJ (l0 := l0) (l1 := none) (l2 := none) (l3 := (nI 0)) (l4 := (nI 0)) e1) (cwI 4 hts (lw_meth q450) rfl rfl rfl (hts _ q108) (hts _ q448) (hts _ q449) rfl hdiJ7_init_2 ⟨Nat.le_of_ble_eq_true rfl, Nat.le_of_ble_eq_true rfl⟩) rfl rfl hl.1 rfl (lv_room (Nat.le_of_ble_eq_true rfl)) dX4_init_5 hH hS (by omega) (by omega) (fun H locs hH hS => ?_)
  have hkc : kc + c1 + c2_1 ≤ mc := by omega
  have hks : ks + n1 + n2_1 ≤ ms := by omega
  refine lv_aload_n (pc := 8) hx hb dX4_init_8 rfl (lv_at hl 0 rfl) ?_
  refine lv_iload_n (pc := 9) hx hb dX4_init_9 rfl (lv_at hl 1 rfl) ?_
  obtain ⟨S2, e2, hf⟩ := bdo hf
  refine g_putF (pc := 10) (o := (some l0)) (a := l0) (ci := 28) (k := 6) (v := .int l1) (C := RX4) (T := TX4) (N := 7) (ty := .int) hx hb hts hown hE hk hH hS rfl in_X4 tyX4_ok nmX4 rfl (by decide) (hts _ q457) (fun _ h9 => h9) rfl hnm rfl rfl rfl rfl rfl e2 dX4_init_10 (fun H locs hH hS => ?_)
  exact g_vret (pc := 13) hx hb hr hlk hH hS hkc hks hf dX4_init_13
theorem mX4_init {l : Launch} {G : gG} {Rp : gM → gM → Nat → Prop} (hk : rOK Rp) (hJ : JDK l G Rp) {S S2 : gS} {r2 : Unit} {C N : Nat} {l0 : Nat} {l1 : Int32} (hf : fX4_init G l0 l1 S = some (r2, S2, C, N)) : gMet l yX4_init cX4_init 2 (none) 4 112 G Rp [.ref l0, .int l1] S none S2 C N := by
  refine g_start (by decide) (Nat.le_of_ble_eq_true rfl) (fun p e s m args below meth c ls hc hl hH => ?_)
  have hl : lv_has ls 2 [(0, .ref l0), (1, .int l1)] := hl
  exact wX4_init_b0 hk hJ hc l0 l1 S _ _ ls 0 0 C N (by omega) (by omega) hH va_S.rf (lv_sub hl [0, 1] rfl) hf
end
section
variable {P : Option Nat ⊕ gTh → gS → Prop}
def fX0_rowIn (G : gG) (l0 : Nat) (l1 : Int32) (S : gS) : gX (Option Nat) :=
  bd (rdR S l0 0 3) fun v1 =>
  bd v1 fun a2 =>
  bd (rdAq S a2 6 l1) fun v3 =>
  bd v3 fun a4 =>
  bd (rdR S a4 2 0) fun v5 =>
  bd (insC S v5) fun v6 =>
  if v6 = 0 then
    if v5 = none then
      nw S (cO 28 [.null, .null, .null, .null, .null, .int 0, .int 0]) 7 fun S9 =>
      gb (fX4_init G S.2 (-84) S9) fun _ S10 =>
      bd (chk S10 S.2 28) fun _ =>
      some (.inr ("CreditBroker$Refused", some S.2), S10, 0, 0)
    else
      some (.inl v5, S, 0, 0)
  else
    nw S (cO 28 [.null, .null, .null, .null, .null, .int 0, .int 0]) 7 fun S12 =>
    gb (fX4_init G S.2 (-83) S12) fun _ S13 =>
    bd (chk S13 S.2 28) fun _ =>
    some (.inr ("CreditBroker$Refused", some S.2), S13, 0, 0)
theorem wX0_rowIn_b0 (hk : rOK Rp) (hJ : JDK l G Rp) (hst : l.stackTraces = false) (htb : c.exceptionTable.toList = []) (hc : gC p s m args meth c G RX0 "rowIn" cX0_rowIn 3 (some (.object "java/lang/Object"))) (l0 : Nat) (l1 : Int32) (S : gS) (H : Heap) (locs : List Loc) (ls : Array Slot) (kc ks C N : Nat) (hkc : kc + C ≤ mc) (hks : ks + N ≤ ms) (hH : hp G Rp S H) (hS : va_S G.2.2.2 s.heap H locs) (hl : lv_has ls 3 [(0, .ref l0), (1, .int l1)]) (hf : (∀ j : Nat, oky C N (fX0_rowIn G l0 l1 S) P)) : W p l e (gR 5 133 mc ms) s m args below meth c H locs kc ks (gQJ below G Rp iR P args s mc ms) (F0 m 0 ls []) := by
  obtain ⟨hx, hb, hr, hlk, hml, hown, hts, hE, hA, hnm⟩ := hc
  have hc : gC p s m args meth c G RX0 "rowIn" cX0_rowIn 3 (some (.object "java/lang/Object")) := ⟨hx, hb, hr, hlk, hml, hown, hts, hE, hA, hnm⟩
  simp only [fX0_rowIn] at hf
  refine lv_aload_n (pc := 0) hx hb dX0_rowIn_0 rfl (lv_at hl 0 rfl) ?_
  obtain ⟨v1, e1, hf⟩ := bdJ hf
  refine g_get (pc := 1) (o := (some l0)) (a := l0) (ci := 0) (k := 3) (v := va_rf v1) (C := RX0) (T := TX0) (N := 7) hx hb hts hown hE hk hH in_X0 rfl (by decide) (hts _ q275) (fun _ h9 => h9) rfl (rdR_o e1) dX0_rowIn_1 ?_
  refine lv_iload_n (pc := 4) hx hb dX0_rowIn_4 rfl (lv_at hl 1 rfl) ?_
  obtain ⟨a2, ea2, hf⟩ := bdJ hf
  obtain ⟨v3, e3, hf⟩ := bdJ hf
  refine g_aald (pc := 5) (o := v1) (a := a2) (t := 6) (t0 := 6) hx hb hE hk hH rfl ea2 e3 dX0_rowIn_5 ?_
  obtain ⟨a4, ea4, hf⟩ := bdJ hf
  obtain ⟨v5, e5, hf⟩ := bdJ hf
  refine g_get (pc := 6) (o := v3) (a := a4) (ci := 2) (k := 0) (v := va_rf v5) (C := RX2) (T := TX2) (N := 1) hx hb hts hown hE hk hH in_X2 rfl (by decide) (hts _ q267) (fun _ h9 => h9) ea4 (rdR_o e5) dX0_rowIn_6 ?_
  refine g_astore_n (pc := 9) (i := 2) (o := v5) (lv' := [(2, va_rf v5), (0, .ref l0), (1, .int l1)]) hx hb dX0_rowIn_9 rfl hl (by decide) rfl (fun ls hl => ?_)
  refine g_aload_n (pc := 10) (o := v5) hx hb dX0_rowIn_10 rfl (lv_at hl 0 rfl) ?_
  obtain ⟨v6, e6, hf⟩ := bdJ hf
  refine g_insC (pc := 11) (o := v5) hx hb hts hown hE hk hH q436 e6 dX0_rowIn_11 ?_
  refine lv_if_eq (pc := 14) (tgt := 27) hx hb dX0_rowIn_14 (by decide) (fun c7 => ?_) (fun c7 => ?_)
  · simp only [if_pos c7] at hf
    refine g_aload_n (pc := 27) (o := v5) hx hb dX0_rowIn_27 rfl (lv_at hl 0 rfl) ?_
    refine g_ifnonnull (pc := 28) (o := v5) (tgt := 41) hx hb dX0_rowIn_28 (by decide) (fun c8 => ?_) (fun c8 => ?_)
    · simp only [if_neg c8] at hf
      refine g_aload_n (pc := 41) (o := v5) hx hb dX0_rowIn_41 rfl (lv_at hl 0 rfl) ?_
      exact g_aretJ (pc := 42) (v := v5) hx hb hr (Or.inl ⟨_, rfl⟩) hlk hH hS hkc hks hf dX0_rowIn_42
    · simp only [if_pos c8] at hf
      obtain ⟨S9, c2_9, n2_9, eS9, hf, hC9, hN9⟩ := nwJ hf
      refine g_newo (pc := 31) (ci := 28) (C := RX4) (T := TX4) (N := 7) (fs := [.null, .null, .null, .null, .null, .int 0, .int 0]) hx hb hts hown hE hA hk hH hS in_X4 tyX4_ok q412 q437 q113 rfl (fun j hj => by rcases (show j = 0 ∨ j = 1 ∨ j = 2 ∨ j = 3 ∨ j = 4 ∨ j = 5 ∨ j = 6 by omega) with rfl | rfl | rfl | rfl | rfl | rfl | rfl <;> rfl) eS9 (Nat.le_trans (by omega) hkc) (Nat.le_trans (by omega) hks) dX0_rowIn_31 (fun H hH hS => ?_)
      have hkc : kc + 1 + c2_9 ≤ mc := by omega
      have hks : ks + 7 + n2_9 ≤ ms := by omega
      refine lv_dup (pc := 34) hx hb dX0_rowIn_34 rfl ?_
      refine lv_bipush (pc := 35) (v := -84) hx hb dX0_rowIn_35 gkbm84 ?_
      obtain ⟨_, S10, c10, n10, c2_10, n2_10, e10, hf, hC10, hN10⟩ := gbJ hf
      refine g_callI (pc := 37) (o := (some S.2)) (b := S.2) (As := [.int (-84)]) (rest := [.ref S.2]) hc (mX4_init hk hJ (l0 := S.2) (l1 := (-84)) e10) (cwI 1 hts (lw_meth q447) rfl rfl rfl (hts _ q113) (hts _ q445) (hts _ q446) rfl hdiX4_init ⟨Nat.le_of_ble_eq_true rfl, Nat.le_of_ble_eq_true rfl⟩) rfl rfl hl.1 rfl (lv_room (Nat.le_of_ble_eq_true rfl)) dX0_rowIn_37 hH hS (by omega) (by omega) (fun H locs hH hS => ?_)
      have hkc : kc + 1 + c10 + c2_10 ≤ mc := by omega
      have hks : ks + 7 + n10 + n2_10 ≤ ms := by omega
      obtain ⟨_, e11, hf⟩ := bdJ hf
      refine g_athrow (pc := 40) (o := some S.2) (ci := 28) (cl := (RX4, TX4, 7)) hx hb hE hk hH rfl rfl (chk_o e11).choose_spec dX0_rowIn_40 (fun ce h1 h2 h3 => ?_)
      exact g_outJ (E := "CreditBroker$Refused") (x := some S.2) (by rw [htb]; decide) hlk ⟨rfl, hH⟩ hS (by omega) (by omega) h1 h2 h3 hf
  · simp only [if_neg c7] at hf
    obtain ⟨S12, c2_12, n2_12, eS12, hf, hC12, hN12⟩ := nwJ hf
    refine g_newo (pc := 17) (ci := 28) (C := RX4) (T := TX4) (N := 7) (fs := [.null, .null, .null, .null, .null, .int 0, .int 0]) hx hb hts hown hE hA hk hH hS in_X4 tyX4_ok q412 q437 q113 rfl (fun j hj => by rcases (show j = 0 ∨ j = 1 ∨ j = 2 ∨ j = 3 ∨ j = 4 ∨ j = 5 ∨ j = 6 by omega) with rfl | rfl | rfl | rfl | rfl | rfl | rfl <;> rfl) eS12 (Nat.le_trans (by omega) hkc) (Nat.le_trans (by omega) hks) dX0_rowIn_17 (fun H hH hS => ?_)
    have hkc : kc + 1 + c2_12 ≤ mc := by omega
    have hks : ks + 7 + n2_12 ≤ ms := by omega
    refine lv_dup (pc := 20) hx hb dX0_rowIn_20 rfl ?_
    refine lv_bipush (pc := 21) (v := -83) hx hb dX0_rowIn_21 gkbm83 ?_
    obtain ⟨_, S13, c13, n13, c2_13, n2_13, e13, hf, hC13, hN13⟩ := gbJ hf
    refine g_callI (pc := 23) (o := (some S.2)) (b := S.2) (As := [.int (-83)]) (rest := [.ref S.2]) hc (mX4_init hk hJ (l0 := S.2) (l1 := (-83)) e13) (cwI 1 hts (lw_meth q447) rfl rfl rfl (hts _ q113) (hts _ q445) (hts _ q446) rfl hdiX4_init ⟨Nat.le_of_ble_eq_true rfl, Nat.le_of_ble_eq_true rfl⟩) rfl rfl hl.1 rfl (lv_room (Nat.le_of_ble_eq_true rfl)) dX0_rowIn_23 hH hS (by omega) (by omega) (fun H locs hH hS => ?_)
    have hkc : kc + 1 + c13 + c2_13 ≤ mc := by omega
    have hks : ks + 7 + n13 + n2_13 ≤ ms := by omega
    obtain ⟨_, e14, hf⟩ := bdJ hf
    refine g_athrow (pc := 26) (o := some S.2) (ci := 28) (cl := (RX4, TX4, 7)) hx hb hE hk hH rfl rfl (chk_o e14).choose_spec dX0_rowIn_26 (fun ce h1 h2 h3 => ?_)
    exact g_outJ (E := "CreditBroker$Refused") (x := some S.2) (by rw [htb]; decide) hlk ⟨rfl, hH⟩ hS (by omega) (by omega) h1 h2 h3 hf
theorem mX0_rowIn {l : Launch} {G : gG} {Rp : gM → gM → Nat → Prop} (hk : rOK Rp) (hJ : JDK l G Rp) (hst : l.stackTraces = false) {S : gS} {C N : Nat} {l0 : Nat} {l1 : Int32} {S2 : gS} {r2 : Option Nat ⊕ gTh} (hf : fX0_rowIn G l0 l1 S = some (r2, S2, C, N)) : gMetJ l yX0_rowIn (ws_ yX0_rowIn cX0_rowIn 3 (some (.object "java/lang/Object"))) 5 133 G Rp [.ref l0, .int l1] S iR (fun r S9 => r2 = r ∧ S2 = S9) C N := by
  refine g_startJ (by decide) (Nat.le_of_ble_eq_true rfl) (fun p e s m args below meth c ls hc htb hl hH => ?_)
  have hl : lv_has ls 3 [(0, .ref l0), (1, .int l1)] := hl
  exact wX0_rowIn_b0 hk hJ hst htb hc l0 l1 S _ _ ls 0 0 C N (by omega) (by omega) hH va_S.rf (lv_sub hl [0, 1] rfl) (fun _ => ⟨_, _, _, _, hf, Nat.le_refl _, Nat.le_refl _, rfl, rfl⟩)
end
section
variable {r : Int32} {Sf : gS}
def fX0_sortOf (l0 : Option Nat) (S : gS) : gO Int32 :=
  bd (insA S l0 2) fun v1 =>
  if v1 = 0 then
    bd (insA S l0 3) fun v3 =>
    if v3 = 0 then
      bd (insA S l0 0) fun v5 =>
      if v5 = 0 then
        bd (insA S l0 1) fun v7 =>
        if v7 = 0 then
          some (nI 4, S, 0, 0)
        else
          some (nI 3, S, 0, 0)
      else
        some (nI 2, S, 0, 0)
    else
      some (nI 1, S, 0, 0)
  else
    some (nI 0, S, 0, 0)
theorem wX0_sortOf_b0 (hk : rOK Rp) (hJ : JDK l G Rp) (hc : gC p s m args meth c G RX0 "sortOf" cX0_sortOf 1 (some .int)) (l0 : Option Nat) (S : gS) (H : Heap) (locs : List Loc) (ls : Array Slot) (kc ks C N : Nat) (hkc : kc + C ≤ mc) (hks : ks + N ≤ ms) (hH : hp G Rp S H) (hS : va_S G.2.2.2 s.heap H locs) (hl : lv_has ls 1 [(0, va_rf l0)]) (hf : fX0_sortOf l0 S = some (r, Sf, C, N)) : W p l e (gR 1 40 mc ms) s m args below meth c H locs kc ks (gQ below G Rp (some (.int r)) Sf args s mc ms) (F0 m 0 ls []) := by
  obtain ⟨hx, hb, hr, hlk, hml, hown, hts, hE, hA, hnm⟩ := hc
  have hc : gC p s m args meth c G RX0 "sortOf" cX0_sortOf 1 (some .int) := ⟨hx, hb, hr, hlk, hml, hown, hts, hE, hA, hnm⟩
  unfold fX0_sortOf at hf
  refine g_aload_n (pc := 0) (o := l0) hx hb dX0_sortOf_0 rfl (lv_at hl 0 rfl) ?_
  obtain ⟨v1, e1, hf⟩ := bdo hf
  refine g_insA (pc := 1) (o := l0) (t := 2) hx hb hts hown hE hk hH q469 (by decide) e1 dX0_sortOf_1 ?_
  refine lv_if_eq (pc := 4) (tgt := 9) hx hb dX0_sortOf_4 (by decide) (fun c2 => ?_) (fun c2 => ?_)
  · rw [if_pos c2] at hf
    refine g_aload_n (pc := 9) (o := l0) hx hb dX0_sortOf_9 rfl (lv_at hl 0 rfl) ?_
    obtain ⟨v3, e3, hf⟩ := bdo hf
    refine g_insA (pc := 10) (o := l0) (t := 3) hx hb hts hown hE hk hH q470 (by decide) e3 dX0_sortOf_10 ?_
    refine lv_if_eq (pc := 13) (tgt := 18) hx hb dX0_sortOf_13 (by decide) (fun c4 => ?_) (fun c4 => ?_)
    · rw [if_pos c4] at hf
      refine g_aload_n (pc := 18) (o := l0) hx hb dX0_sortOf_18 rfl (lv_at hl 0 rfl) ?_
      obtain ⟨v5, e5, hf⟩ := bdo hf
      refine g_insA (pc := 19) (o := l0) (t := 0) hx hb hts hown hE hk hH q471 (by decide) e5 dX0_sortOf_19 ?_
      refine lv_if_eq (pc := 22) (tgt := 27) hx hb dX0_sortOf_22 (by decide) (fun c6 => ?_) (fun c6 => ?_)
      · rw [if_pos c6] at hf
        refine g_aload_n (pc := 27) (o := l0) hx hb dX0_sortOf_27 rfl (lv_at hl 0 rfl) ?_
        obtain ⟨v7, e7, hf⟩ := bdo hf
        refine g_insA (pc := 28) (o := l0) (t := 1) hx hb hts hown hE hk hH q472 (by decide) e7 dX0_sortOf_28 ?_
        refine lv_if_eq (pc := 31) (tgt := 38) hx hb dX0_sortOf_31 (by decide) (fun c8 => ?_) (fun c8 => ?_)
        · rw [if_pos c8] at hf
          refine lv_iconst (pc := 38) (v := nI 4) hx hb dX0_sortOf_38 rfl ?_
          exact g_iret (pc := 39) hx hb hr hlk hH hS hkc hks hf dX0_sortOf_39
        · rw [if_neg c8] at hf
          refine lv_iconst (pc := 34) (v := nI 3) hx hb dX0_sortOf_34 rfl ?_
          refine lv_goto (pc := 35) (tgt := 39) hx hb dX0_sortOf_35 (by decide) ?_
          exact g_iret (pc := 39) hx hb hr hlk hH hS hkc hks hf dX0_sortOf_39
      · rw [if_neg c6] at hf
        refine lv_iconst (pc := 25) (v := nI 2) hx hb dX0_sortOf_25 rfl ?_
        exact g_iret (pc := 26) hx hb hr hlk hH hS hkc hks hf dX0_sortOf_26
    · rw [if_neg c4] at hf
      refine lv_iconst (pc := 16) (v := nI 1) hx hb dX0_sortOf_16 rfl ?_
      exact g_iret (pc := 17) hx hb hr hlk hH hS hkc hks hf dX0_sortOf_17
  · rw [if_neg c2] at hf
    refine lv_iconst (pc := 7) (v := nI 0) hx hb dX0_sortOf_7 rfl ?_
    exact g_iret (pc := 8) hx hb hr hlk hH hS hkc hks hf dX0_sortOf_8
theorem mX0_sortOf {l : Launch} {G : gG} {Rp : gM → gM → Nat → Prop} (hk : rOK Rp) (hJ : JDK l G Rp) {S S2 : gS} {r2 : Int32} {C N : Nat} {l0 : Option Nat} (hf : fX0_sortOf l0 S = some (r2, S2, C, N)) : gMet l yX0_sortOf cX0_sortOf 1 (some .int) 1 40 G Rp [va_rf l0] S (some (.int r2)) S2 C N := by
  refine g_start (by decide) (by simp [lg_sl, va_rf_cat, cat_i, cat_j, cat_r]) (fun p e s m args below meth c ls hc hl hH => ?_)
  have hl : lv_has ls 1 [(0, va_rf l0)] := by simpa [lv_args, va_rf_cat, cat_i, cat_j, cat_r] using hl
  exact wX0_sortOf_b0 hk hJ hc l0 S _ _ ls 0 0 C N (by omega) (by omega) hH va_S.rf (lv_sub hl [0] rfl) hf
end
section
variable {P : Int64 ⊕ gTh → gS → Prop}
def fX0_elementOf (l0 : Option Nat) (l1 : Int32) (S : gS) : gX Int64 :=
  gb (fX0_sortOf l0 S) fun v1 S1 =>
  if v1 = 0 then
    bd (ckA S1 l0 2) fun _ =>
    bd l0 fun a5 =>
    bd (lenX S1 a5 2) fun n6 =>
    if l1 < 0 ∨ n6 ≤ l1.toNatClampNeg then some (.inr ("java/lang/ArrayIndexOutOfBoundsException", none), S1, 3, 1010) else
    bd (rdAi S1 a5 2 l1) fun v7 =>
    some (.inl v7.toInt64, S1, 0, 0)
  else if v1 = 1 then
    bd (ckA S1 l0 3) fun _ =>
    bd l0 fun a10 =>
    bd (lenX S1 a10 3) fun n11 =>
    if l1 < 0 ∨ n11 ≤ l1.toNatClampNeg then some (.inr ("java/lang/ArrayIndexOutOfBoundsException", none), S1, 3, 1010) else
    bd (rdAi S1 a10 3 l1) fun v12 =>
    some (.inl v12.toInt64, S1, 0, 0)
  else if v1 = 2 then
    bd (ckA S1 l0 0) fun _ =>
    bd l0 fun a15 =>
    bd (lenX S1 a15 0) fun n16 =>
    if l1 < 0 ∨ n16 ≤ l1.toNatClampNeg then some (.inr ("java/lang/ArrayIndexOutOfBoundsException", none), S1, 3, 1010) else
    bd (rdAi S1 a15 0 l1) fun v17 =>
    some (.inl v17.toInt64, S1, 0, 0)
  else if v1 = 3 then
    bd (ckA S1 l0 1) fun _ =>
    bd l0 fun a20 =>
    bd (lenX S1 a20 1) fun n21 =>
    if l1 < 0 ∨ n21 ≤ l1.toNatClampNeg then some (.inr ("java/lang/ArrayIndexOutOfBoundsException", none), S1, 3, 1010) else
    bd (rdAl S1 a20 1 l1) fun v22 =>
    some (.inl v22, S1, 0, 0)
  else
    bd (ckA S1 l0 4) fun _ =>
    bd l0 fun a25 =>
    bd (lenX S1 a25 4) fun n26 =>
    if l1 < 0 ∨ n26 ≤ l1.toNatClampNeg then some (.inr ("java/lang/ArrayIndexOutOfBoundsException", none), S1, 3, 1010) else
    bd (rdAi S1 a25 4 l1) fun v27 =>
    if v27 = 0 then
      some (.inl (lN 0), S1, 0, 0)
    else
      some (.inl (lN 1), S1, 0, 0)
theorem wX0_elementOf_b0 (hk : rOK Rp) (hJ : JDK l G Rp) (hst : l.stackTraces = false) (htb : c.exceptionTable.toList = []) (hc : gC p s m args meth c G RX0 "elementOf" cX0_elementOf 2 (some .long)) (l0 : Option Nat) (l1 : Int32) (S : gS) (H : Heap) (locs : List Loc) (ls : Array Slot) (kc ks C N : Nat) (hkc : kc + C ≤ mc) (hks : ks + N ≤ ms) (hH : hp G Rp S H) (hS : va_S G.2.2.2 s.heap H locs) (hl : lv_has ls 2 [(0, va_rf l0), (1, .int l1)]) (hf : (∀ j : Nat, oky C N (fX0_elementOf l0 l1 S) P)) : W p l e (gR 12 10500 mc ms) s m args below meth c H locs kc ks (gQJ below G Rp iJ P args s mc ms) (F0 m 0 ls []) := by
  obtain ⟨hx, hb, hr, hlk, hml, hown, hts, hE, hA, hnm⟩ := hc
  have hc : gC p s m args meth c G RX0 "elementOf" cX0_elementOf 2 (some .long) := ⟨hx, hb, hr, hlk, hml, hown, hts, hE, hA, hnm⟩
  simp only [fX0_elementOf] at hf
  refine g_aload_n (pc := 0) (o := l0) hx hb dX0_elementOf_0 rfl (lv_at hl 0 rfl) ?_
  obtain ⟨v1, S1, c1, n1, c2_1, n2_1, e1, hf, hC1, hN1⟩ := gbJ hf
  refine g_callS (pc := 1) (As := [va_rf l0]) (rest := []) (st1 := [.int v1]) hc (mX0_sortOf hk hJ (l0 := l0) e1) (va_cwS 1 hts (lw_S q466 q467 q97 q468) rfl rfl rfl hdX0_sortOf ⟨Nat.le_of_ble_eq_true rfl, Nat.le_of_ble_eq_true rfl⟩) rfl hl.1 rfl rfl (lv_room (Nat.le_of_ble_eq_true rfl)) dX0_elementOf_1 hH hS (by omega) (by omega) (fun H locs hH hS => ?_)
  have hkc : kc + c1 + c2_1 ≤ mc := by omega
  have hks : ks + n1 + n2_1 ≤ ms := by omega
  by_cases c2_0 : v1 = 0
  · simp only [if_pos c2_0] at hf
    refine lv_tableIn (pc := 4) (off := 32) (tgt := 36) hx hb dX0_elementOf_4 (by rw [c2_0]; decide) (by rw [c2_0]; decide) (by rw [c2_0]; rfl) (by decide) ?_
    refine g_aload_n (pc := 36) (o := l0) hx hb dX0_elementOf_36 rfl (lv_at hl 0 rfl) ?_
    obtain ⟨_, e3, hf⟩ := bdJ hf
    refine g_castA (pc := 37) (o := l0) (t := 2) hx hb hts hown hE hk hH q469 e3 dX0_elementOf_37 ?_
    refine lv_iload_n (pc := 40) hx hb dX0_elementOf_40 rfl (lv_at hl 1 rfl) ?_
    obtain ⟨a5, ea5, hf⟩ := bdJ hf
    obtain ⟨n6, e6, hf⟩ := bdJ hf
    by_cases c6 : (l1 < 0 ∨ n6 ≤ l1.toNatClampNeg)
    · simp only [if_pos c6] at hf
      obtain ⟨h9, h8⟩ := okc hf
      exact g_baldX (pc := 41) (o := l0) (a := a5) hx hb hE hk hH ea5 e6 c6 dX0_elementOf_41 (g_vmA (lenX_n e6) hc hst hk hl.1 (by decide) (by simp [va_rf_cat, cat_i, cat_j, cat_r]) (by omega) (by omega) hH hS (fun H q9 ce n9 hn9 hH hS h1 h2 h3 => g_outJ (E := "java/lang/ArrayIndexOutOfBoundsException") (x := none) (by rw [htb]; decide) hlk ⟨n9, hn9, hH⟩ hS (by omega) (by omega) h1 h2 h3 hf))
    · simp only [if_neg c6] at hf
      obtain ⟨v7, e7, hf⟩ := bdJ hf
      refine g_bald (pc := 41) (o := l0) (a := a5) hx hb hE hk hH ea5 e7 dX0_elementOf_41 ?_
      refine lv_i2l (pc := 42) hx hb dX0_elementOf_42 rfl ?_
      exact g_lretJ (pc := 43) hx hb hr hlk hH hS hkc hks hf dX0_elementOf_43
  · simp only [if_neg c2_0] at hf
    by_cases c2_1 : v1 = 1
    · simp only [if_pos c2_1] at hf
      refine lv_tableIn (pc := 4) (off := 40) (tgt := 44) hx hb dX0_elementOf_4 (by rw [c2_1]; decide) (by rw [c2_1]; decide) (by rw [c2_1]; rfl) (by decide) ?_
      refine g_aload_n (pc := 44) (o := l0) hx hb dX0_elementOf_44 rfl (lv_at hl 0 rfl) ?_
      obtain ⟨_, e8, hf⟩ := bdJ hf
      refine g_castA (pc := 45) (o := l0) (t := 3) hx hb hts hown hE hk hH q470 e8 dX0_elementOf_45 ?_
      refine lv_iload_n (pc := 48) hx hb dX0_elementOf_48 rfl (lv_at hl 1 rfl) ?_
      obtain ⟨a10, ea10, hf⟩ := bdJ hf
      obtain ⟨n11, e11, hf⟩ := bdJ hf
      by_cases c11 : (l1 < 0 ∨ n11 ≤ l1.toNatClampNeg)
      · simp only [if_pos c11] at hf
        obtain ⟨h9, h8⟩ := okc hf
        exact g_saldX (pc := 49) (o := l0) (a := a10) hx hb hE hk hH ea10 e11 c11 dX0_elementOf_49 (g_vmA (lenX_n e11) hc hst hk hl.1 (by decide) (by simp [va_rf_cat, cat_i, cat_j, cat_r]) (by omega) (by omega) hH hS (fun H q9 ce n9 hn9 hH hS h1 h2 h3 => g_outJ (E := "java/lang/ArrayIndexOutOfBoundsException") (x := none) (by rw [htb]; decide) hlk ⟨n9, hn9, hH⟩ hS (by omega) (by omega) h1 h2 h3 hf))
      · simp only [if_neg c11] at hf
        obtain ⟨v12, e12, hf⟩ := bdJ hf
        refine g_sald (pc := 49) (o := l0) (a := a10) hx hb hE hk hH ea10 e12 dX0_elementOf_49 ?_
        refine lv_i2l (pc := 50) hx hb dX0_elementOf_50 rfl ?_
        exact g_lretJ (pc := 51) hx hb hr hlk hH hS hkc hks hf dX0_elementOf_51
    · simp only [if_neg c2_1] at hf
      by_cases c2_2 : v1 = 2
      · simp only [if_pos c2_2] at hf
        refine lv_tableIn (pc := 4) (off := 48) (tgt := 52) hx hb dX0_elementOf_4 (by rw [c2_2]; decide) (by rw [c2_2]; decide) (by rw [c2_2]; rfl) (by decide) ?_
        refine g_aload_n (pc := 52) (o := l0) hx hb dX0_elementOf_52 rfl (lv_at hl 0 rfl) ?_
        obtain ⟨_, e13, hf⟩ := bdJ hf
        refine g_castA (pc := 53) (o := l0) (t := 0) hx hb hts hown hE hk hH q471 e13 dX0_elementOf_53 ?_
        refine lv_iload_n (pc := 56) hx hb dX0_elementOf_56 rfl (lv_at hl 1 rfl) ?_
        obtain ⟨a15, ea15, hf⟩ := bdJ hf
        obtain ⟨n16, e16, hf⟩ := bdJ hf
        by_cases c16 : (l1 < 0 ∨ n16 ≤ l1.toNatClampNeg)
        · simp only [if_pos c16] at hf
          obtain ⟨h9, h8⟩ := okc hf
          exact g_ialdX (pc := 57) (o := l0) (a := a15) hx hb hE hk hH ea15 e16 c16 dX0_elementOf_57 (g_vmA (lenX_n e16) hc hst hk hl.1 (by decide) (by simp [va_rf_cat, cat_i, cat_j, cat_r]) (by omega) (by omega) hH hS (fun H q9 ce n9 hn9 hH hS h1 h2 h3 => g_outJ (E := "java/lang/ArrayIndexOutOfBoundsException") (x := none) (by rw [htb]; decide) hlk ⟨n9, hn9, hH⟩ hS (by omega) (by omega) h1 h2 h3 hf))
        · simp only [if_neg c16] at hf
          obtain ⟨v17, e17, hf⟩ := bdJ hf
          refine g_iald (pc := 57) (o := l0) (a := a15) hx hb hE hk hH ea15 e17 dX0_elementOf_57 ?_
          refine lv_i2l (pc := 58) hx hb dX0_elementOf_58 rfl ?_
          exact g_lretJ (pc := 59) hx hb hr hlk hH hS hkc hks hf dX0_elementOf_59
      · simp only [if_neg c2_2] at hf
        by_cases c2_3 : v1 = 3
        · simp only [if_pos c2_3] at hf
          refine lv_tableIn (pc := 4) (off := 56) (tgt := 60) hx hb dX0_elementOf_4 (by rw [c2_3]; decide) (by rw [c2_3]; decide) (by rw [c2_3]; rfl) (by decide) ?_
          refine g_aload_n (pc := 60) (o := l0) hx hb dX0_elementOf_60 rfl (lv_at hl 0 rfl) ?_
          obtain ⟨_, e18, hf⟩ := bdJ hf
          refine g_castA (pc := 61) (o := l0) (t := 1) hx hb hts hown hE hk hH q472 e18 dX0_elementOf_61 ?_
          refine lv_iload_n (pc := 64) hx hb dX0_elementOf_64 rfl (lv_at hl 1 rfl) ?_
          obtain ⟨a20, ea20, hf⟩ := bdJ hf
          obtain ⟨n21, e21, hf⟩ := bdJ hf
          by_cases c21 : (l1 < 0 ∨ n21 ≤ l1.toNatClampNeg)
          · simp only [if_pos c21] at hf
            obtain ⟨h9, h8⟩ := okc hf
            exact g_laldX (pc := 65) (o := l0) (a := a20) hx hb hE hk hH ea20 e21 c21 dX0_elementOf_65 (g_vmA (lenX_n e21) hc hst hk hl.1 (by decide) (by simp [va_rf_cat, cat_i, cat_j, cat_r]) (by omega) (by omega) hH hS (fun H q9 ce n9 hn9 hH hS h1 h2 h3 => g_outJ (E := "java/lang/ArrayIndexOutOfBoundsException") (x := none) (by rw [htb]; decide) hlk ⟨n9, hn9, hH⟩ hS (by omega) (by omega) h1 h2 h3 hf))
          · simp only [if_neg c21] at hf
            obtain ⟨v22, e22, hf⟩ := bdJ hf
            refine g_lald (pc := 65) (o := l0) (a := a20) hx hb hE hk hH ea20 e22 dX0_elementOf_65 ?_
            exact g_lretJ (pc := 66) hx hb hr hlk hH hS hkc hks hf dX0_elementOf_66
        · simp only [if_neg c2_3] at hf
          refine lv_tableOut (pc := 4) (tgt := 67) hx hb dX0_elementOf_4 (tsw3 c2_0 c2_1 c2_2 c2_3) (by decide) ?_
          refine g_aload_n (pc := 67) (o := l0) hx hb dX0_elementOf_67 rfl (lv_at hl 0 rfl) ?_
          obtain ⟨_, e23, hf⟩ := bdJ hf
          refine g_castA (pc := 68) (o := l0) (t := 4) hx hb hts hown hE hk hH q473 e23 dX0_elementOf_68 ?_
          refine lv_iload_n (pc := 71) hx hb dX0_elementOf_71 rfl (lv_at hl 1 rfl) ?_
          obtain ⟨a25, ea25, hf⟩ := bdJ hf
          obtain ⟨n26, e26, hf⟩ := bdJ hf
          by_cases c26 : (l1 < 0 ∨ n26 ≤ l1.toNatClampNeg)
          · simp only [if_pos c26] at hf
            obtain ⟨h9, h8⟩ := okc hf
            exact g_zaldX (pc := 72) (o := l0) (a := a25) hx hb hE hk hH ea25 e26 c26 dX0_elementOf_72 (g_vmA (lenX_n e26) hc hst hk hl.1 (by decide) (by simp [va_rf_cat, cat_i, cat_j, cat_r]) (by omega) (by omega) hH hS (fun H q9 ce n9 hn9 hH hS h1 h2 h3 => g_outJ (E := "java/lang/ArrayIndexOutOfBoundsException") (x := none) (by rw [htb]; decide) hlk ⟨n9, hn9, hH⟩ hS (by omega) (by omega) h1 h2 h3 hf))
          · simp only [if_neg c26] at hf
            obtain ⟨v27, e27, hf⟩ := bdJ hf
            refine g_zald (pc := 72) (o := l0) (a := a25) hx hb hE hk hH ea25 e27 dX0_elementOf_72 ?_
            refine lv_if_eq (pc := 73) (tgt := 80) hx hb dX0_elementOf_73 (by decide) (fun c28 => ?_) (fun c28 => ?_)
            · simp only [if_pos c28] at hf
              refine lv_lconst (pc := 80) (v := lN 0) hx hb dX0_elementOf_80 rfl ?_
              exact g_lretJ (pc := 81) hx hb hr hlk hH hS hkc hks hf dX0_elementOf_81
            · simp only [if_neg c28] at hf
              refine lv_lconst (pc := 76) (v := lN 1) hx hb dX0_elementOf_76 rfl ?_
              refine lv_goto (pc := 77) (tgt := 81) hx hb dX0_elementOf_77 (by decide) ?_
              exact g_lretJ (pc := 81) hx hb hr hlk hH hS hkc hks hf dX0_elementOf_81
theorem mX0_elementOf {l : Launch} {G : gG} {Rp : gM → gM → Nat → Prop} (hk : rOK Rp) (hJ : JDK l G Rp) (hst : l.stackTraces = false) {S : gS} {C N : Nat} {l0 : Option Nat} {l1 : Int32} {S2 : gS} {r2 : Int64 ⊕ gTh} (hf : fX0_elementOf l0 l1 S = some (r2, S2, C, N)) : gMetJ l yX0_elementOf (ws_ yX0_elementOf cX0_elementOf 2 (some .long)) 12 10500 G Rp [va_rf l0, .int l1] S iJ (fun r S9 => r2 = r ∧ S2 = S9) C N := by
  refine g_startJ (by decide) (by simp [lg_sl, va_rf_cat, cat_i, cat_j, cat_r]) (fun p e s m args below meth c ls hc htb hl hH => ?_)
  have hl : lv_has ls 2 [(0, va_rf l0), (1, .int l1)] := by simpa [lv_args, va_rf_cat, cat_i, cat_j, cat_r] using hl
  exact wX0_elementOf_b0 hk hJ hst htb hc l0 l1 S _ _ ls 0 0 C N (by omega) (by omega) hH va_S.rf (lv_sub hl [0, 1] rfl) (fun _ => ⟨_, _, _, _, hf, Nat.le_refl _, Nat.le_refl _, rfl, rfl⟩)
end
section
variable {P : Int64 ⊕ gTh → gS → Prop}
def fX0_element (G : gG) (j : Nat) (l0 : Nat) (l1 : Int32) (l2 : Int32) (S : gS) : gX Int64 :=
  gb (fX0_isShelf l1 S) fun v1 S1 =>
  if v1 = 0 then
    some (.inl (lN 0), S1, 0, 0)
  else
    bd (chk S1 l0 0) fun _ =>
    gb (fX0_rowIn G l0 l1 S1) fun r3 S3 => match r3 with
    | .inl v3 =>
      gb (fX0_elementOf v3 l2 S3) fun r4 S4 => match r4 with
      | .inl v4 =>
        some (.inl v4, S4, 0, 0)
      | .inr (_, some _) => none
      | .inr (E4, none) =>
        if E4 = "java/lang/ArrayIndexOutOfBoundsException" then
          bd (some ((S4.1, S4.2 + j) : gS)) fun S4j =>
          some (.inl (lN 0), S4j, 0, 0)
        else none
    | .inr (_, none) => none
    | .inr (E3, some q3) =>
      if E3 = "CreditBroker$Refused" then
        some (.inl (lN 0), S3, 0, 0)
      else none
theorem wX0_element_b0 (hk : rOK Rp) (hJ : JDK l G Rp) (hst : l.stackTraces = false) (htb : c.exceptionTable.toList = tableOf [(9, 18, 19, 118), (9, 18, 22, 134)]) (hc : gC p s m args meth c G RX0 "element" cX0_element 4 (some .long)) (l0 : Nat) (l1 : Int32) (l2 : Int32) (S : gS) (H : Heap) (locs : List Loc) (ls : Array Slot) (kc ks C N : Nat) (hkc : kc + C ≤ mc) (hks : ks + N ≤ ms) (hH : hp G Rp S H) (hS : va_S G.2.2.2 s.heap H locs) (hl : lv_has ls 4 [(0, .ref l0), (1, .int l1), (2, .int l2)]) (hf : (∀ j : Nat, oky C N (fX0_element G j l0 l1 l2 S) P)) : W p l e (gR 13 10521 mc ms) s m args below meth c H locs kc ks (gQJ below G Rp iJ P args s mc ms) (F0 m 0 ls []) := by
  obtain ⟨hx, hb, hr, hlk, hml, hown, hts, hE, hA, hnm⟩ := hc
  have hc : gC p s m args meth c G RX0 "element" cX0_element 4 (some .long) := ⟨hx, hb, hr, hlk, hml, hown, hts, hE, hA, hnm⟩
  simp only [fX0_element] at hf
  refine lv_iload_n (pc := 0) hx hb dX0_element_0 rfl (lv_at hl 1 rfl) ?_
  obtain ⟨v1, S1, c1, n1, c2_1, n2_1, e1, hf, hC1, hN1⟩ := gbJ hf
  refine g_callS (pc := 1) (As := [.int l1]) (rest := []) (st1 := [.int v1]) hc (mX0_isShelf hk hJ (l0 := l1) e1) (va_cwS 1 hts (lw_S q392 q393 q97 q394) rfl rfl rfl hdX0_isShelf ⟨Nat.le_of_ble_eq_true rfl, Nat.le_of_ble_eq_true rfl⟩) rfl hl.1 rfl rfl (lv_room (Nat.le_of_ble_eq_true rfl)) dX0_element_1 hH hS (by omega) (by omega) (fun H locs hH hS => ?_)
  have hkc : kc + c1 + c2_1 ≤ mc := by omega
  have hks : ks + n1 + n2_1 ≤ ms := by omega
  refine lv_if_ne (pc := 4) (tgt := 9) hx hb dX0_element_4 (by decide) (fun c2 => ?_) (fun c2 => ?_)
  · simp only [if_neg c2] at hf
    refine lv_aload_n (pc := 9) hx hb dX0_element_9 rfl (lv_at hl 0 rfl) ?_
    refine lv_iload_n (pc := 10) hx hb dX0_element_10 rfl (lv_at hl 1 rfl) ?_
    obtain ⟨_, ek3, hf⟩ := bdJ hf
    obtain ⟨r3, S3, c3, n3, c2_3, n2_3, e3, hf, hC3, hN3⟩ := gbJ hf
    refine g_callVJ (pc := 11) (ι := iR) (o := (some l0)) (b := l0) (As := [.int l1]) (rest := []) hc (mX0_rowIn hk hJ hst (l0 := l0) (l1 := l1) e3) (cwV 1 hts (lw_V q432 q434 qs3 q97 q435) rfl rfl rfl hdX0_rowIn ⟨Nat.le_of_ble_eq_true rfl, Nat.le_of_ble_eq_true rfl⟩) (g_recv hE hk hH (ci := 0) (q := (RX0, TX0, 7)) rfl (chk_o ek3).choose_spec) rfl rfl hl.1 rfl (lv_room (Nat.le_of_ble_eq_true rfl)) dX0_element_11 hH hS (by omega) (by omega) (fun v3 S9_3 H locs hP3 hH hS => ?_) (fun E3 x3 S9_3 q3 ce3 H locs hP3 hHx hS h1_3 h2_3 h3_3 => ?_)
    · obtain ⟨rfl, rfl⟩ := hP3
      try dsimp only at hf
      have hkc : kc + c1 + c3 + c2_3 ≤ mc := by omega
      have hks : ks + n1 + n3 + n2_3 ≤ ms := by omega
      refine W.eq (g2 := F0 m 14 ls [va_rf v3]) rfl ?_
      refine lv_iload_n (pc := 14) hx hb dX0_element_14 rfl (lv_at hl 2 rfl) ?_
      obtain ⟨r4, S4, c4, n4, c2_4, n2_4, e4, hf, hC4, hN4⟩ := gbJ hf
      refine g_callSJ (pc := 15) (ι := iJ) (As := [va_rf v3, .int l2]) (rest := []) hc (mX0_elementOf hk hJ hst (l0 := v3) (l1 := l2) e4) (va_cwS 2 hts (lw_S q525 q526 q97 q527) rfl rfl rfl hdX0_elementOf ⟨Nat.le_of_ble_eq_true rfl, Nat.le_of_ble_eq_true rfl⟩) rfl hl.1 rfl (lv_room (Nat.le_of_ble_eq_true rfl)) dX0_element_15 hH hS (by omega) (by omega) (fun v4 S9_4 H locs hP4 hH hS => ?_) (fun E4 x4 S9_4 q4 ce4 H locs hP4 hHx hS h1_4 h2_4 h3_4 => ?_)
      · obtain ⟨rfl, rfl⟩ := hP4
        try dsimp only at hf
        have hkc : kc + c1 + c3 + c4 + c2_4 ≤ mc := by omega
        have hks : ks + n1 + n3 + n4 + n2_4 ≤ ms := by omega
        refine W.eq (g2 := F0 m 18 ls [.long v4]) rfl ?_
        exact g_lretJ (pc := 18) hx hb hr hlk hH hS hkc hks hf dX0_element_18
      · obtain ⟨rfl, rfl⟩ := hP4
        try dsimp only at hf
        have hkc : kc + c1 + c3 + c4 + c2_4 ≤ mc := by omega
        have hks : ks + n1 + n3 + n4 + n2_4 ≤ ms := by omega
        cases x4 with
        | some q9 => exact noJ hf
        | none =>
          obtain ⟨nz, hnz, hH⟩ := hHx
          try dsimp only at hf
          by_cases hE4 : E4 = "java/lang/ArrayIndexOutOfBoundsException"
          · simp only [if_pos hE4] at hf
            have hf := swJ hnz hf
            obtain ⟨S4j, eS4j⟩ : ∃ Sz : gS, Sz = ((S4.1, nz) : gS) := ⟨((S4.1, nz) : gS), rfl⟩
            rw [← eS4j] at hf hH
            subst hE4
            refine vx_catch (own := RX0) (name := "java/lang/ArrayIndexOutOfBoundsException") hown [⟨9, 18, 19, 118⟩] ⟨9, 18, 22, 134⟩ [] (htb.trans rfl) (lpc (Or.inr ⟨by decide, "CreditBroker$Refused", hts _ q412, hE.2.2.2.2.1 _ (List.mem_of_getElem? (i := 61) rfl)⟩) lp0) (by decide) (by decide) (hts _ q413) (va_Nw.use rfl (hE.2.1.1 _ _ q428)) h1_4 h2_4 h3_4 ?_
            refine lv_astore_n (pc := 22) (i := 3) (lv' := [(3, .ref q4), (0, .ref l0), (1, .int l1), (2, .int l2)]) hx hb dX0_element_22 rfl hl (by decide) rfl (fun ls hl => ?_)
            refine lv_lconst (pc := 23) (v := lN 0) hx hb dX0_element_23 rfl ?_
            exact g_lretJ (pc := 24) hx hb hr hlk hH hS hkc hks hf dX0_element_24
          · simp only [if_neg hE4] at hf
            exact noJ hf
    · obtain ⟨rfl, rfl⟩ := hP3
      try dsimp only at hf
      have hkc : kc + c1 + c3 + c2_3 ≤ mc := by omega
      have hks : ks + n1 + n3 + n2_3 ≤ ms := by omega
      cases x3 with
      | none => exact noJ hf
      | some q9 =>
        obtain ⟨rfl, hH⟩ := hHx
        try dsimp only at hf
        by_cases hE3 : E3 = "CreditBroker$Refused"
        · simp only [if_pos hE3] at hf
          subst hE3
          refine vx_catch (own := RX0) (name := "CreditBroker$Refused") hown [] ⟨9, 18, 19, 118⟩ [⟨9, 18, 22, 134⟩] (htb.trans rfl) lp0 (by decide) (by decide) (hts _ q412) (va_Nw.use rfl (hE.2.1.1 _ _ q438)) h1_3 h2_3 h3_3 ?_
          refine lv_astore_n (pc := 19) (i := 3) (lv' := [(3, .ref q3), (0, .ref l0), (1, .int l1), (2, .int l2)]) hx hb dX0_element_19 rfl hl (by decide) rfl (fun ls hl => ?_)
          refine lv_lconst (pc := 20) (v := lN 0) hx hb dX0_element_20 rfl ?_
          exact g_lretJ (pc := 21) hx hb hr hlk hH hS hkc hks hf dX0_element_21
        · simp only [if_neg hE3] at hf
          exact noJ hf
  · simp only [if_pos c2] at hf
    refine lv_lconst (pc := 7) (v := lN 0) hx hb dX0_element_7 rfl ?_
    exact g_lretJ (pc := 8) hx hb hr hlk hH hS hkc hks hf dX0_element_8
theorem mX0_element {l : Launch} {G : gG} {Rp : gM → gM → Nat → Prop} (hk : rOK Rp) (hJ : JDK l G Rp) (hst : l.stackTraces = false) {S : gS} {C N : Nat} {l0 : Nat} {l1 : Int32} {l2 : Int32} {P : Int64 ⊕ gTh → gS → Prop} (hf : ∀ j : Nat, oky C N (fX0_element G j l0 l1 l2 S) P) : gMetJ l yX0_element (wsW_ yX0_element cX0_element 4 (some .long) [(9, 18, 19, 118), (9, 18, 22, 134)]) 13 10521 G Rp [.ref l0, .int l1, .int l2] S iJ P C N := by
  refine g_startJW (by decide) (Nat.le_of_ble_eq_true rfl) (fun p e s m args below meth c ls hc htb hl hH => ?_)
  have hl : lv_has ls 4 [(0, .ref l0), (1, .int l1), (2, .int l2)] := hl
  exact wX0_element_b0 hk hJ hst htb hc l0 l1 l2 S _ _ ls 0 0 C N (by omega) (by omega) hH va_S.rf (lv_sub hl [0, 1, 2] rfl) hf
end
section
variable {P : Option Nat ⊕ gTh → gS → Prop}
def fX0_elementsIn_b6 (G : gG) (j : Nat) : Nat → (Option Nat) → Int32 → Nat → Int32 → gS → gX (Option Nat)
  | 0, _, _, _, _, _ => none
  | n + 1, l0, l1, l2, l3, S =>
    if l1 ≤ l3 then
      some (.inl (some l2), S, 0, 0)
    else
      gb (fX0_elementOf l0 l3 S) fun r2 S2 => match r2 with
      | .inl v2 =>
        bd (wrAl S2 l2 l3 v2) fun S3 =>
        fX0_elementsIn_b6 G j n l0 l1 l2 (l3 + (nI 1)) S3
      | .inr (_, some _) => none
      | .inr (E2, none) =>
        if E2 = "java/lang/ArrayIndexOutOfBoundsException" then
          bd (some ((S2.1, S2.2 + j) : gS)) fun S2j =>
          nw S2j (cO 28 [.null, .null, .null, .null, .null, .int 0, .int 0]) 7 fun S4 =>
          gb (fX4_init G S2j.2 (-82) S4) fun _ S5 =>
          bd (chk S5 S2j.2 28) fun _ =>
          some (.inr ("CreditBroker$Refused", some S2j.2), S5, 0, 0)
        else none
theorem wX0_elementsIn_b6 (hk : rOK Rp) (hJ : JDK l G Rp) (hst : l.stackTraces = false) (htb : c.exceptionTable.toList = tableOf [(4, 25, 28, 134)]) (hc : gC p s m args meth c G RX0 "elementsIn" cX0_elementsIn 4 (some (.array .long))) : ∀ (n : Nat) (l0 : Option Nat) (l1 : Int32) (l2 : Nat) (l3 : Int32) (S : gS) (H : Heap) (locs : List Loc) (ls : Array Slot) (kc ks C N : Nat), kc + C ≤ mc → ks + N ≤ ms → hp G Rp S H → va_S G.2.2.2 s.heap H locs → lv_has ls 4 [(0, va_rf l0), (1, .int l1), (2, .ref l2), (3, .int l3)] → (∀ j : Nat, oky C N (fX0_elementsIn_b6 G j n l0 l1 l2 l3 S) P) → W p l e (gR 13 10521 mc ms) s m args below meth c H locs kc ks (gQJ below G Rp iR P args s mc ms) (F0 m 6 ls []) := by
  obtain ⟨hx, hb, hr, hlk, hml, hown, hts, hE, hA, hnm⟩ := hc
  have hc : gC p s m args meth c G RX0 "elementsIn" cX0_elementsIn 4 (some (.array .long)) := ⟨hx, hb, hr, hlk, hml, hown, hts, hE, hA, hnm⟩
  intro n
  induction n with
  | zero => intro l0 l1 l2 l3 S H locs ls kc ks C N _ _ _ _ _ hf; simp only [fX0_elementsIn_b6] at hf; exact noJ hf
  | succ n ih =>
    intro l0 l1 l2 l3 S H locs ls kc ks C N hkc hks hH hS hl hf
    simp only [fX0_elementsIn_b6] at hf
    refine lv_iload_n (pc := 6) hx hb dX0_elementsIn_6 rfl (lv_at hl 3 rfl) ?_
    refine lv_iload_n (pc := 7) hx hb dX0_elementsIn_7 rfl (lv_at hl 1 rfl) ?_
    refine lv_icmp_ge (pc := 8) (tgt := 25) hx hb dX0_elementsIn_8 (by decide) (fun c1 => ?_) (fun c1 => ?_)
    · simp only [if_pos c1] at hf
      refine lv_goto (pc := 25) (tgt := 39) hx hb dX0_elementsIn_25 (by decide) ?_
      refine lv_aload_n (pc := 39) hx hb dX0_elementsIn_39 rfl (lv_at hl 2 rfl) ?_
      exact g_aretJ (pc := 40) (v := (some l2)) hx hb hr (Or.inr ⟨_, rfl⟩) hlk hH hS hkc hks hf dX0_elementsIn_40
    · simp only [if_neg c1] at hf
      refine lv_aload_n (pc := 11) hx hb dX0_elementsIn_11 rfl (lv_at hl 2 rfl) ?_
      refine lv_iload_n (pc := 12) hx hb dX0_elementsIn_12 rfl (lv_at hl 3 rfl) ?_
      refine g_aload_n (pc := 13) (o := l0) hx hb dX0_elementsIn_13 rfl (lv_at hl 0 rfl) ?_
      refine lv_iload_n (pc := 14) hx hb dX0_elementsIn_14 rfl (lv_at hl 3 rfl) ?_
      obtain ⟨r2, S2, c2, n2, c2_2, n2_2, e2, hf, hC2, hN2⟩ := gbJ hf
      refine g_callSJ (pc := 15) (ι := iJ) (As := [va_rf l0, .int l3]) (rest := [.int l3, .ref l2]) hc (mX0_elementOf hk hJ hst (l0 := l0) (l1 := l3) e2) (va_cwS 2 hts (lw_S q525 q526 q97 q527) rfl rfl rfl hdX0_elementOf ⟨Nat.le_of_ble_eq_true rfl, Nat.le_of_ble_eq_true rfl⟩) rfl hl.1 rfl (lv_room (Nat.le_of_ble_eq_true rfl)) dX0_elementsIn_15 hH hS (by omega) (by omega) (fun v2 S9_2 H locs hP2 hH hS => ?_) (fun E2 x2 S9_2 q2 ce2 H locs hP2 hHx hS h1_2 h2_2 h3_2 => ?_)
      · obtain ⟨rfl, rfl⟩ := hP2
        try dsimp only at hf
        have hkc : kc + c2 + c2_2 ≤ mc := by omega
        have hks : ks + n2 + n2_2 ≤ ms := by omega
        refine W.eq (g2 := F0 m 18 ls [.long v2, .int l3, .ref l2]) rfl ?_
        obtain ⟨S3, e3, hf⟩ := bdJ hf
        refine g_last (pc := 18) (o := (some l2)) (a := l2) hx hb hE hk hH hS rfl e3 dX0_elementsIn_18 (fun H locs hH hS => ?_)
        refine lv_iinc (pc := 19) (v := l3 + (nI 1)) (lv' := [(3, .int (l3 + (nI 1))), (0, va_rf l0), (1, .int l1), (2, .ref l2)]) hx hb dX0_elementsIn_19 hl (k := 3) rfl rfl (by decide) rfl (fun ls hl => ?_)
        refine lv_goto (pc := 22) (tgt := 6) hx hb dX0_elementsIn_22 (by decide) ?_
        exact ih l0 l1 l2 (l3 + (nI 1)) S3 _ _ ls _ _ _ _ hkc hks hH hS (lv_sub hl [1, 2, 3, 0] rfl) hf
      · obtain ⟨rfl, rfl⟩ := hP2
        try dsimp only at hf
        have hkc : kc + c2 + c2_2 ≤ mc := by omega
        have hks : ks + n2 + n2_2 ≤ ms := by omega
        cases x2 with
        | some q9 => exact noJ hf
        | none =>
          obtain ⟨nz, hnz, hH⟩ := hHx
          try dsimp only at hf
          by_cases hE2 : E2 = "java/lang/ArrayIndexOutOfBoundsException"
          · simp only [if_pos hE2] at hf
            have hf := swJ hnz hf
            obtain ⟨S2j, eS2j⟩ : ∃ Sz : gS, Sz = ((S2.1, nz) : gS) := ⟨((S2.1, nz) : gS), rfl⟩
            rw [← eS2j] at hf hH
            subst hE2
            refine vx_catch (own := RX0) (name := "java/lang/ArrayIndexOutOfBoundsException") hown [] ⟨4, 25, 28, 134⟩ [] (htb.trans rfl) lp0 (by decide) (by decide) (hts _ q413) (va_Nw.use rfl (hE.2.1.1 _ _ q428)) h1_2 h2_2 h3_2 ?_
            refine lv_astore_n (pc := 28) (i := 3) (lv' := [(3, .ref q2), (0, va_rf l0), (1, .int l1), (2, .ref l2)]) hx hb dX0_elementsIn_28 rfl hl (by decide) rfl (fun ls hl => ?_)
            obtain ⟨S4, c2_4, n2_4, eS4, hf, hC4, hN4⟩ := nwJ hf
            refine g_newo (pc := 29) (ci := 28) (C := RX4) (T := TX4) (N := 7) (fs := [.null, .null, .null, .null, .null, .int 0, .int 0]) hx hb hts hown hE hA hk hH hS in_X4 tyX4_ok q412 q437 q113 rfl (fun j hj => by rcases (show j = 0 ∨ j = 1 ∨ j = 2 ∨ j = 3 ∨ j = 4 ∨ j = 5 ∨ j = 6 by omega) with rfl | rfl | rfl | rfl | rfl | rfl | rfl <;> rfl) eS4 (Nat.le_trans (by omega) hkc) (Nat.le_trans (by omega) hks) dX0_elementsIn_29 (fun H hH hS => ?_)
            have hkc : kc + c2 + 1 + c2_4 ≤ mc := by omega
            have hks : ks + n2 + 7 + n2_4 ≤ ms := by omega
            refine lv_dup (pc := 32) hx hb dX0_elementsIn_32 rfl ?_
            refine lv_bipush (pc := 33) (v := -82) hx hb dX0_elementsIn_33 gkbm82 ?_
            obtain ⟨_, S5, c5, n5, c2_5, n2_5, e5, hf, hC5, hN5⟩ := gbJ hf
            refine g_callI (pc := 35) (o := (some S2j.2)) (b := S2j.2) (As := [.int (-82)]) (rest := [.ref S2j.2]) hc (mX4_init hk hJ (l0 := S2j.2) (l1 := (-82)) e5) (cwI 1 hts (lw_meth q447) rfl rfl rfl (hts _ q113) (hts _ q445) (hts _ q446) rfl hdiX4_init ⟨Nat.le_of_ble_eq_true rfl, Nat.le_of_ble_eq_true rfl⟩) rfl rfl hl.1 rfl (lv_room (Nat.le_of_ble_eq_true rfl)) dX0_elementsIn_35 hH hS (by omega) (by omega) (fun H locs hH hS => ?_)
            have hkc : kc + c2 + 1 + c5 + c2_5 ≤ mc := by omega
            have hks : ks + n2 + 7 + n5 + n2_5 ≤ ms := by omega
            obtain ⟨_, e6, hf⟩ := bdJ hf
            refine g_athrow (pc := 38) (o := some S2j.2) (ci := 28) (cl := (RX4, TX4, 7)) hx hb hE hk hH rfl rfl (chk_o e6).choose_spec dX0_elementsIn_38 (fun ce h1 h2 h3 => ?_)
            exact g_outJ (E := "CreditBroker$Refused") (x := some S2j.2) (by rw [htb]; decide) hlk ⟨rfl, hH⟩ hS (by omega) (by omega) h1 h2 h3 hf
          · simp only [if_neg hE2] at hf
            exact noJ hf
def fX0_elementsIn (G : gG) (j : Nat) (l0 : Option Nat) (l1 : Int32) (S : gS) : gX (Option Nat) :=
  nwa S 1 l1 fun S1 =>
  fX0_elementsIn_b6 G j FU l0 l1 S.2 (nI 0) S1
theorem wX0_elementsIn_b0 (hk : rOK Rp) (hJ : JDK l G Rp) (hst : l.stackTraces = false) (htb : c.exceptionTable.toList = tableOf [(4, 25, 28, 134)]) (hc : gC p s m args meth c G RX0 "elementsIn" cX0_elementsIn 4 (some (.array .long))) (l0 : Option Nat) (l1 : Int32) (S : gS) (H : Heap) (locs : List Loc) (ls : Array Slot) (kc ks C N : Nat) (hkc : kc + C ≤ mc) (hks : ks + N ≤ ms) (hH : hp G Rp S H) (hS : va_S G.2.2.2 s.heap H locs) (hl : lv_has ls 4 [(0, va_rf l0), (1, .int l1)]) (hf : (∀ j : Nat, oky C N (fX0_elementsIn G j l0 l1 S) P)) : W p l e (gR 13 10521 mc ms) s m args below meth c H locs kc ks (gQJ below G Rp iR P args s mc ms) (F0 m 0 ls []) := by
  obtain ⟨hx, hb, hr, hlk, hml, hown, hts, hE, hA, hnm⟩ := hc
  have hc : gC p s m args meth c G RX0 "elementsIn" cX0_elementsIn 4 (some (.array .long)) := ⟨hx, hb, hr, hlk, hml, hown, hts, hE, hA, hnm⟩
  simp only [fX0_elementsIn] at hf
  refine lv_iload_n (pc := 0) hx hb dX0_elementsIn_0 rfl (lv_at hl 1 rfl) ?_
  obtain ⟨hn1, hi1, S1, c2_1, n2_1, eS1, hf, hC1, hN1⟩ := nwaJ hf
  refine g_newa (pc := 1) (atype := .long) (ty := .long) (t := 1) hx hb hts hE hA hk hH hS q406 rfl rfl rfl (fun _ h => by cases h) hn1 hi1 eS1 (by decide) (Nat.le_trans (by omega) hkc) (Nat.le_trans (by omega) hks) dX0_elementsIn_1 (fun H hH hS => ?_)
  have hkc : kc + 1 + c2_1 ≤ mc := by omega
  have hks : ks + l1.toNatClampNeg + n2_1 ≤ ms := by omega
  refine lv_astore_n (pc := 3) (i := 2) (lv' := [(2, .ref S.2), (0, va_rf l0), (1, .int l1)]) hx hb dX0_elementsIn_3 rfl hl (by decide) rfl (fun ls hl => ?_)
  refine lv_iconst (pc := 4) (v := nI 0) hx hb dX0_elementsIn_4 rfl ?_
  refine lv_istore_n (pc := 5) (i := 3) (lv' := [(3, .int (nI 0)), (2, .ref S.2), (0, va_rf l0), (1, .int l1)]) hx hb dX0_elementsIn_5 rfl hl (by decide) rfl (fun ls hl => ?_)
  exact wX0_elementsIn_b6 hk hJ hst htb hc FU l0 l1 S.2 (nI 0) S1 _ _ ls _ _ _ _ hkc hks hH hS (lv_sub hl [2, 3, 1, 0] rfl) hf
theorem mX0_elementsIn {l : Launch} {G : gG} {Rp : gM → gM → Nat → Prop} (hk : rOK Rp) (hJ : JDK l G Rp) (hst : l.stackTraces = false) {S : gS} {C N : Nat} {l0 : Option Nat} {l1 : Int32} {P : Option Nat ⊕ gTh → gS → Prop} (hf : ∀ j : Nat, oky C N (fX0_elementsIn G j l0 l1 S) P) : gMetJ l yX0_elementsIn (wsW_ yX0_elementsIn cX0_elementsIn 4 (some (.array .long)) [(4, 25, 28, 134)]) 13 10521 G Rp [va_rf l0, .int l1] S iR P C N := by
  refine g_startJW (by decide) (by simp [lg_sl, va_rf_cat, cat_i, cat_j, cat_r]) (fun p e s m args below meth c ls hc htb hl hH => ?_)
  have hl : lv_has ls 4 [(0, va_rf l0), (1, .int l1)] := by simpa [lv_args, va_rf_cat, cat_i, cat_j, cat_r] using hl
  exact wX0_elementsIn_b0 hk hJ hst htb hc l0 l1 S _ _ ls 0 0 C N (by omega) (by omega) hH va_S.rf (lv_sub hl [0, 1] rfl) hf
end
section
variable {r : Int32} {Sf : gS}
def fX0_exclusive_b17 (l0 : Nat) (S : gS) : gO Int32 :=
  bd (chk S l0 0) fun _ =>
  gb (fX0_no l0 (-82) S) fun v1 S1 =>
  some (v1, S1, 0, 0)
theorem wX0_exclusive_b17 (hk : rOK Rp) (hJ : JDK l G Rp) (hc : gC p s m args meth c G RX0 "exclusive" cX0_exclusive 4 (some .int)) (l0 : Nat) (S : gS) (H : Heap) (locs : List Loc) (ls : Array Slot) (kc ks C N : Nat) (hkc : kc + C ≤ mc) (hks : ks + N ≤ ms) (hH : hp G Rp S H) (hS : va_S G.2.2.2 s.heap H locs) (hl : lv_has ls 4 [(0, .ref l0)]) (hf : fX0_exclusive_b17 l0 S = some (r, Sf, C, N)) : W p l e (gR 16 561 mc ms) s m args below meth c H locs kc ks (gQ below G Rp (some (.int r)) Sf args s mc ms) (F0 m 17 ls []) := by
  obtain ⟨hx, hb, hr, hlk, hml, hown, hts, hE, hA, hnm⟩ := hc
  have hc : gC p s m args meth c G RX0 "exclusive" cX0_exclusive 4 (some .int) := ⟨hx, hb, hr, hlk, hml, hown, hts, hE, hA, hnm⟩
  unfold fX0_exclusive_b17 at hf
  refine lv_aload_n (pc := 17) hx hb dX0_exclusive_17 rfl (lv_at hl 0 rfl) ?_
  refine lv_bipush (pc := 18) (v := -82) hx hb dX0_exclusive_18 gkbm82 ?_
  obtain ⟨_, ek1, hf⟩ := bdo hf
  obtain ⟨v1, S1, c1, n1, c2_1, n2_1, e1, hf, hC1, hN1⟩ := gbo hf
  refine g_callV (pc := 20) (o := (some l0)) (b := l0) (As := [.int (-82)]) (rest := []) (st1 := [.int v1]) hc (mX0_no hk hJ (l0 := l0) (l1 := (-82)) e1) (cwV 1 hts (lw_V q398 q400 qs2 q97 q401) rfl rfl rfl hdX0_no ⟨Nat.le_of_ble_eq_true rfl, Nat.le_of_ble_eq_true rfl⟩) (g_recv hE hk hH (ci := 0) (q := (RX0, TX0, 7)) rfl (chk_o ek1).choose_spec) rfl rfl hl.1 rfl rfl (lv_room (Nat.le_of_ble_eq_true rfl)) dX0_exclusive_20 hH hS (by omega) (by omega) (fun H locs hH hS => ?_)
  have hkc : kc + c1 + c2_1 ≤ mc := by omega
  have hks : ks + n1 + n2_1 ≤ ms := by omega
  exact g_iret (pc := 23) hx hb hr hlk hH hS hkc hks hf dX0_exclusive_23
def fX0_exclusive_b40 (l0 : Nat) (l1 : Int32) (l2 : Int32) (t0 : Int32) (S : gS) : gO Int32 :=
  bd (chk S l0 0) fun _ =>
  gb (fX0_queue_2 l0 l1 S) fun v1 S1 =>
  if l2 = (nI 1) then
    bd v1 fun a5 =>
    bd (wrz S1 a5 3 6 (nI 1)) fun S6 =>
    some (t0, S6, 0, 0)
  else
    bd v1 fun a3 =>
    bd (wrz S1 a3 3 6 (nI 0)) fun S4 =>
    some (t0, S4, 0, 0)
theorem wX0_exclusive_b40 (hk : rOK Rp) (hJ : JDK l G Rp) (hc : gC p s m args meth c G RX0 "exclusive" cX0_exclusive 4 (some .int)) (l0 : Nat) (l1 : Int32) (l2 : Int32) (t0 : Int32) (S : gS) (H : Heap) (locs : List Loc) (ls : Array Slot) (kc ks C N : Nat) (hkc : kc + C ≤ mc) (hks : ks + N ≤ ms) (hH : hp G Rp S H) (hS : va_S G.2.2.2 s.heap H locs) (hl : lv_has ls 4 [(0, .ref l0), (1, .int l1), (2, .int l2)]) (hf : fX0_exclusive_b40 l0 l1 l2 t0 S = some (r, Sf, C, N)) : W p l e (gR 16 561 mc ms) s m args below meth c H locs kc ks (gQ below G Rp (some (.int r)) Sf args s mc ms) (F0 m 40 ls [.int t0]) := by
  obtain ⟨hx, hb, hr, hlk, hml, hown, hts, hE, hA, hnm⟩ := hc
  have hc : gC p s m args meth c G RX0 "exclusive" cX0_exclusive 4 (some .int) := ⟨hx, hb, hr, hlk, hml, hown, hts, hE, hA, hnm⟩
  unfold fX0_exclusive_b40 at hf
  refine lv_istore_n (pc := 40) (i := 3) (lv' := [(3, .int t0), (0, .ref l0), (1, .int l1), (2, .int l2)]) hx hb dX0_exclusive_40 rfl hl (by decide) rfl (fun ls hl => ?_)
  refine lv_aload_n (pc := 41) hx hb dX0_exclusive_41 rfl (lv_at hl 1 rfl) ?_
  refine lv_iload_n (pc := 42) hx hb dX0_exclusive_42 rfl (lv_at hl 2 rfl) ?_
  obtain ⟨_, ek1, hf⟩ := bdo hf
  obtain ⟨v1, S1, c1, n1, c2_1, n2_1, e1, hf, hC1, hN1⟩ := gbo hf
  refine g_callV (pc := 43) (o := (some l0)) (b := l0) (As := [.int l1]) (rest := []) (st1 := [va_rf v1]) hc (mX0_queue_2 hk hJ (l0 := l0) (l1 := l1) e1) (cwV 1 hts (lw_V q1218 q1220 qs18 q97 q1221) rfl rfl rfl hdX0_queue_2 ⟨Nat.le_of_ble_eq_true rfl, Nat.le_of_ble_eq_true rfl⟩) (g_recv hE hk hH (ci := 0) (q := (RX0, TX0, 7)) rfl (chk_o ek1).choose_spec) rfl rfl hl.1 rfl rfl (lv_room (Nat.le_of_ble_eq_true rfl)) dX0_exclusive_43 hH hS (by omega) (by omega) (fun H locs hH hS => ?_)
  have hkc : kc + c1 + c2_1 ≤ mc := by omega
  have hks : ks + n1 + n2_1 ≤ ms := by omega
  refine lv_iload_n (pc := 46) hx hb dX0_exclusive_46 rfl (lv_at hl 3 rfl) ?_
  refine lv_iconst (pc := 47) (v := nI 1) hx hb dX0_exclusive_47 rfl ?_
  refine lv_icmp_ne (pc := 48) (tgt := 55) hx hb dX0_exclusive_48 (by decide) (fun c2 => ?_) (fun c2 => ?_)
  · rw [if_neg c2] at hf
    refine lv_iconst (pc := 55) (v := nI 0) hx hb dX0_exclusive_55 rfl ?_
    obtain ⟨a3, ea3, hf⟩ := bdo hf
    obtain ⟨S4, e4, hf⟩ := bdo hf
    refine g_put (pc := 56) (o := v1) (a := a3) (ci := 3) (k := 6) (v := .int (nI 0)) (C := RX8) (T := TX8) (N := 13) (ty := .boolean) hx hb hts hown hE hk hH hS rfl in_X8 tyX8_ok nmX8 rfl (by decide) (hts _ q1166) (fun _ h9 => h9) rfl rfl (nar_z (wrz_o e4).1) (fit_z (wrz_o e4).1) ea3 (wrz_o e4).2 dX0_exclusive_56 (fun H locs hH hS => ?_)
    refine lv_iload_n (pc := 59) hx hb dX0_exclusive_59 rfl (lv_at hl 0 rfl) ?_
    exact g_iret (pc := 60) hx hb hr hlk hH hS hkc hks hf dX0_exclusive_60
  · rw [if_pos c2] at hf
    refine lv_iconst (pc := 51) (v := nI 1) hx hb dX0_exclusive_51 rfl ?_
    refine lv_goto (pc := 52) (tgt := 56) hx hb dX0_exclusive_52 (by decide) ?_
    obtain ⟨a5, ea5, hf⟩ := bdo hf
    obtain ⟨S6, e6, hf⟩ := bdo hf
    refine g_put (pc := 56) (o := v1) (a := a5) (ci := 3) (k := 6) (v := .int (nI 1)) (C := RX8) (T := TX8) (N := 13) (ty := .boolean) hx hb hts hown hE hk hH hS rfl in_X8 tyX8_ok nmX8 rfl (by decide) (hts _ q1166) (fun _ h9 => h9) rfl rfl (nar_z (wrz_o e6).1) (fit_z (wrz_o e6).1) ea5 (wrz_o e6).2 dX0_exclusive_56 (fun H locs hH hS => ?_)
    refine lv_iload_n (pc := 59) hx hb dX0_exclusive_59 rfl (lv_at hl 0 rfl) ?_
    exact g_iret (pc := 60) hx hb hr hlk hH hS hkc hks hf dX0_exclusive_60
def fX0_exclusive (l0 : Nat) (l1 : Int32) (l2 : Int32) (S : gS) : gO Int32 :=
  bd (chk S l0 0) fun _ =>
  gb (fX0_isQueue l0 l1 S) fun v1 S1 =>
  if v1 = 0 then
    fX0_exclusive_b17 l0 S1
  else
    gb (fX0_isIn l2 (nI 0) (nI 1) S1) fun v3 S3 =>
    if v3 = 0 then
      fX0_exclusive_b17 l0 S3
    else
      bd (chk S3 l0 0) fun _ =>
      gb (fX0_queue_2 l0 l1 S3) fun v5 S5 =>
      bd v5 fun a6 =>
      bd (rdI S5 a6 3 6) fun v7 =>
      if v7 = 0 then
        fX0_exclusive_b40 l0 l1 l2 (nI 0) S5
      else
        fX0_exclusive_b40 l0 l1 l2 (nI 1) S5
theorem wX0_exclusive_b0 (hk : rOK Rp) (hJ : JDK l G Rp) (hc : gC p s m args meth c G RX0 "exclusive" cX0_exclusive 4 (some .int)) (l0 : Nat) (l1 : Int32) (l2 : Int32) (S : gS) (H : Heap) (locs : List Loc) (ls : Array Slot) (kc ks C N : Nat) (hkc : kc + C ≤ mc) (hks : ks + N ≤ ms) (hH : hp G Rp S H) (hS : va_S G.2.2.2 s.heap H locs) (hl : lv_has ls 4 [(0, .ref l0), (1, .int l1), (2, .int l2)]) (hf : fX0_exclusive l0 l1 l2 S = some (r, Sf, C, N)) : W p l e (gR 16 561 mc ms) s m args below meth c H locs kc ks (gQ below G Rp (some (.int r)) Sf args s mc ms) (F0 m 0 ls []) := by
  obtain ⟨hx, hb, hr, hlk, hml, hown, hts, hE, hA, hnm⟩ := hc
  have hc : gC p s m args meth c G RX0 "exclusive" cX0_exclusive 4 (some .int) := ⟨hx, hb, hr, hlk, hml, hown, hts, hE, hA, hnm⟩
  unfold fX0_exclusive at hf
  refine lv_aload_n (pc := 0) hx hb dX0_exclusive_0 rfl (lv_at hl 0 rfl) ?_
  refine lv_iload_n (pc := 1) hx hb dX0_exclusive_1 rfl (lv_at hl 1 rfl) ?_
  obtain ⟨_, ek1, hf⟩ := bdo hf
  obtain ⟨v1, S1, c1, n1, c2_1, n2_1, e1, hf, hC1, hN1⟩ := gbo hf
  refine g_callV (pc := 2) (o := (some l0)) (b := l0) (As := [.int l1]) (rest := []) (st1 := [.int v1]) hc (mX0_isQueue hk hJ (l0 := l0) (l1 := l1) e1) (cwV 1 hts (lw_V q1214 q1216 qs17 q97 q1217) rfl rfl rfl hdX0_isQueue ⟨Nat.le_of_ble_eq_true rfl, Nat.le_of_ble_eq_true rfl⟩) (g_recv hE hk hH (ci := 0) (q := (RX0, TX0, 7)) rfl (chk_o ek1).choose_spec) rfl rfl hl.1 rfl rfl (lv_room (Nat.le_of_ble_eq_true rfl)) dX0_exclusive_2 hH hS (by omega) (by omega) (fun H locs hH hS => ?_)
  have hkc : kc + c1 + c2_1 ≤ mc := by omega
  have hks : ks + n1 + n2_1 ≤ ms := by omega
  refine lv_if_eq (pc := 5) (tgt := 17) hx hb dX0_exclusive_5 (by decide) (fun c2 => ?_) (fun c2 => ?_)
  · rw [if_pos c2] at hf
    exact wX0_exclusive_b17 hk hJ hc l0 S1 _ _ ls _ _ _ _ hkc hks hH hS (lv_sub hl [0] rfl) hf
  · rw [if_neg c2] at hf
    refine lv_iload_n (pc := 8) hx hb dX0_exclusive_8 rfl (lv_at hl 2 rfl) ?_
    refine lv_iconst (pc := 9) (v := nI 0) hx hb dX0_exclusive_9 rfl ?_
    refine lv_iconst (pc := 10) (v := nI 1) hx hb dX0_exclusive_10 rfl ?_
    obtain ⟨v3, S3, c3, n3, c2_3, n2_3, e3, hf, hC3, hN3⟩ := gbo hf
    refine g_callS (pc := 11) (As := [.int l2, .int (nI 0), .int (nI 1)]) (rest := []) (st1 := [.int v3]) hc (mX0_isIn hk hJ (l0 := l2) (l1 := (nI 0)) (l2 := (nI 1)) e3) (va_cwS 3 hts (lw_S q395 q396 q97 q397) rfl rfl rfl hdX0_isIn ⟨Nat.le_of_ble_eq_true rfl, Nat.le_of_ble_eq_true rfl⟩) rfl hl.1 rfl rfl (lv_room (Nat.le_of_ble_eq_true rfl)) dX0_exclusive_11 hH hS (by omega) (by omega) (fun H locs hH hS => ?_)
    have hkc : kc + c1 + c3 + c2_3 ≤ mc := by omega
    have hks : ks + n1 + n3 + n2_3 ≤ ms := by omega
    refine lv_if_ne (pc := 14) (tgt := 24) hx hb dX0_exclusive_14 (by decide) (fun c4 => ?_) (fun c4 => ?_)
    · rw [if_neg c4] at hf
      refine lv_aload_n (pc := 24) hx hb dX0_exclusive_24 rfl (lv_at hl 0 rfl) ?_
      refine lv_iload_n (pc := 25) hx hb dX0_exclusive_25 rfl (lv_at hl 1 rfl) ?_
      obtain ⟨_, ek5, hf⟩ := bdo hf
      obtain ⟨v5, S5, c5, n5, c2_5, n2_5, e5, hf, hC5, hN5⟩ := gbo hf
      refine g_callV (pc := 26) (o := (some l0)) (b := l0) (As := [.int l1]) (rest := []) (st1 := [va_rf v5]) hc (mX0_queue_2 hk hJ (l0 := l0) (l1 := l1) e5) (cwV 1 hts (lw_V q1218 q1220 qs18 q97 q1221) rfl rfl rfl hdX0_queue_2 ⟨Nat.le_of_ble_eq_true rfl, Nat.le_of_ble_eq_true rfl⟩) (g_recv hE hk hH (ci := 0) (q := (RX0, TX0, 7)) rfl (chk_o ek5).choose_spec) rfl rfl hl.1 rfl rfl (lv_room (Nat.le_of_ble_eq_true rfl)) dX0_exclusive_26 hH hS (by omega) (by omega) (fun H locs hH hS => ?_)
      have hkc : kc + c1 + c3 + c5 + c2_5 ≤ mc := by omega
      have hks : ks + n1 + n3 + n5 + n2_5 ≤ ms := by omega
      obtain ⟨a6, ea6, hf⟩ := bdo hf
      obtain ⟨v7, e7, hf⟩ := bdo hf
      refine g_get (pc := 29) (o := v5) (a := a6) (ci := 3) (k := 6) (v := .int v7) (C := RX8) (T := TX8) (N := 13) hx hb hts hown hE hk hH in_X8 rfl (by decide) (hts _ q1166) (fun _ h9 => h9) ea6 (rdI_o e7) dX0_exclusive_29 ?_
      refine lv_if_eq (pc := 32) (tgt := 39) hx hb dX0_exclusive_32 (by decide) (fun c8 => ?_) (fun c8 => ?_)
      · rw [if_pos c8] at hf
        refine lv_iconst (pc := 39) (v := nI 0) hx hb dX0_exclusive_39 rfl ?_
        exact wX0_exclusive_b40 hk hJ hc l0 l1 l2 (nI 0) S5 _ _ ls _ _ _ _ hkc hks hH hS (lv_sub hl [0, 1, 2] rfl) hf
      · rw [if_neg c8] at hf
        refine lv_iconst (pc := 35) (v := nI 1) hx hb dX0_exclusive_35 rfl ?_
        refine lv_goto (pc := 36) (tgt := 40) hx hb dX0_exclusive_36 (by decide) ?_
        exact wX0_exclusive_b40 hk hJ hc l0 l1 l2 (nI 1) S5 _ _ ls _ _ _ _ hkc hks hH hS (lv_sub hl [0, 1, 2] rfl) hf
    · rw [if_pos c4] at hf
      exact wX0_exclusive_b17 hk hJ hc l0 S3 _ _ ls _ _ _ _ hkc hks hH hS (lv_sub hl [0] rfl) hf
theorem mX0_exclusive {l : Launch} {G : gG} {Rp : gM → gM → Nat → Prop} (hk : rOK Rp) (hJ : JDK l G Rp) {S S2 : gS} {r2 : Int32} {C N : Nat} {l0 : Nat} {l1 : Int32} {l2 : Int32} (hf : fX0_exclusive l0 l1 l2 S = some (r2, S2, C, N)) : gMet l yX0_exclusive cX0_exclusive 4 (some .int) 16 561 G Rp [.ref l0, .int l1, .int l2] S (some (.int r2)) S2 C N := by
  refine g_start (by decide) (Nat.le_of_ble_eq_true rfl) (fun p e s m args below meth c ls hc hl hH => ?_)
  have hl : lv_has ls 4 [(0, .ref l0), (1, .int l1), (2, .int l2)] := hl
  exact wX0_exclusive_b0 hk hJ hc l0 l1 l2 S _ _ ls 0 0 C N (by omega) (by omega) hH va_S.rf (lv_sub hl [0, 1, 2] rfl) hf
end
section
variable {r : Int32} {Sf : gS}
def fX0_feed (l0 : Nat) (l1 : Int32) (S : gS) : gO Int32 :=
  gb (fX0_isIn l1 (nI 0) (nI 255) S) fun v1 S1 =>
  if v1 = 0 then
    bd (chk S1 l0 0) fun _ =>
    gb (fX0_no l0 (-82) S1) fun v13 S13 =>
    some (v13, S13, 0, 0)
  else
    bd (rdI S1 l0 0 5) fun v3 =>
    if v3 = (nI 250) then
      bd (chk S1 l0 0) fun _ =>
      gb (fX0_no l0 (-86) S1) fun v12 S12 =>
      some (v12, S12, 0, 0)
    else
      bd (rdR S1 l0 0 4) fun v5 =>
      bd (rdI S1 l0 0 5) fun v6 =>
      bd v5 fun a7 =>
      bd (wrAi S1 a7 v6 l1) fun S8 =>
      bd (rdI S8 l0 0 5) fun v9 =>
      bd (wr S8 l0 0 5 (.int (v9 + (nI 1)))) fun S10 =>
      bd (rdI S10 l0 0 5) fun v11 =>
      some (v11, S10, 0, 0)
theorem wX0_feed_b0 (hk : rOK Rp) (hJ : JDK l G Rp) (hc : gC p s m args meth c G RX0 "feed" cX0_feed 2 (some .int)) (l0 : Nat) (l1 : Int32) (S : gS) (H : Heap) (locs : List Loc) (ls : Array Slot) (kc ks C N : Nat) (hkc : kc + C ≤ mc) (hks : ks + N ≤ ms) (hH : hp G Rp S H) (hS : va_S G.2.2.2 s.heap H locs) (hl : lv_has ls 2 [(0, .ref l0), (1, .int l1)]) (hf : fX0_feed l0 l1 S = some (r, Sf, C, N)) : W p l e (gR 2 62 mc ms) s m args below meth c H locs kc ks (gQ below G Rp (some (.int r)) Sf args s mc ms) (F0 m 0 ls []) := by
  obtain ⟨hx, hb, hr, hlk, hml, hown, hts, hE, hA, hnm⟩ := hc
  have hc : gC p s m args meth c G RX0 "feed" cX0_feed 2 (some .int) := ⟨hx, hb, hr, hlk, hml, hown, hts, hE, hA, hnm⟩
  unfold fX0_feed at hf
  refine lv_iload_n (pc := 0) hx hb dX0_feed_0 rfl (lv_at hl 1 rfl) ?_
  refine lv_iconst (pc := 1) (v := nI 0) hx hb dX0_feed_1 rfl ?_
  refine lv_sipush (pc := 2) (v := nI 255) hx hb dX0_feed_2 gks255 ?_
  obtain ⟨v1, S1, c1, n1, c2_1, n2_1, e1, hf, hC1, hN1⟩ := gbo hf
  refine g_callS (pc := 5) (As := [.int l1, .int (nI 0), .int (nI 255)]) (rest := []) (st1 := [.int v1]) hc (mX0_isIn hk hJ (l0 := l1) (l1 := (nI 0)) (l2 := (nI 255)) e1) (va_cwS 3 hts (lw_S q395 q396 q97 q397) rfl rfl rfl hdX0_isIn ⟨Nat.le_of_ble_eq_true rfl, Nat.le_of_ble_eq_true rfl⟩) rfl hl.1 rfl rfl (lv_room (Nat.le_of_ble_eq_true rfl)) dX0_feed_5 hH hS (by omega) (by omega) (fun H locs hH hS => ?_)
  have hkc : kc + c1 + c2_1 ≤ mc := by omega
  have hks : ks + n1 + n2_1 ≤ ms := by omega
  refine lv_if_ne (pc := 8) (tgt := 18) hx hb dX0_feed_8 (by decide) (fun c2 => ?_) (fun c2 => ?_)
  · rw [if_neg c2] at hf
    refine lv_aload_n (pc := 18) hx hb dX0_feed_18 rfl (lv_at hl 0 rfl) ?_
    obtain ⟨v3, e3, hf⟩ := bdo hf
    refine g_get (pc := 19) (o := (some l0)) (a := l0) (ci := 0) (k := 5) (v := .int v3) (C := RX0) (T := TX0) (N := 7) hx hb hts hown hE hk hH in_X0 rfl (by decide) (hts _ q279) (fun _ h9 => h9) rfl (rdI_o e3) dX0_feed_19 ?_
    refine lv_sipush (pc := 22) (v := nI 250) hx hb dX0_feed_22 gks250 ?_
    refine lv_icmp_ne (pc := 25) (tgt := 35) hx hb dX0_feed_25 (by decide) (fun c4 => ?_) (fun c4 => ?_)
    · rw [if_neg c4] at hf
      refine lv_aload_n (pc := 35) hx hb dX0_feed_35 rfl (lv_at hl 0 rfl) ?_
      obtain ⟨v5, e5, hf⟩ := bdo hf
      refine g_get (pc := 36) (o := (some l0)) (a := l0) (ci := 0) (k := 4) (v := va_rf v5) (C := RX0) (T := TX0) (N := 7) hx hb hts hown hE hk hH in_X0 rfl (by decide) (hts _ q277) (fun _ h9 => h9) rfl (rdR_o e5) dX0_feed_36 ?_
      refine lv_aload_n (pc := 39) hx hb dX0_feed_39 rfl (lv_at hl 0 rfl) ?_
      obtain ⟨v6, e6, hf⟩ := bdo hf
      refine g_get (pc := 40) (o := (some l0)) (a := l0) (ci := 0) (k := 5) (v := .int v6) (C := RX0) (T := TX0) (N := 7) hx hb hts hown hE hk hH in_X0 rfl (by decide) (hts _ q279) (fun _ h9 => h9) rfl (rdI_o e6) dX0_feed_40 ?_
      refine lv_iload_n (pc := 43) hx hb dX0_feed_43 rfl (lv_at hl 1 rfl) ?_
      obtain ⟨a7, ea7, hf⟩ := bdo hf
      obtain ⟨S8, e8, hf⟩ := bdo hf
      refine g_iast (pc := 44) (o := v5) (a := a7) hx hb hE hk hH hS ea7 e8 dX0_feed_44 (fun H locs hH hS => ?_)
      refine lv_aload_n (pc := 45) hx hb dX0_feed_45 rfl (lv_at hl 0 rfl) ?_
      refine lv_dup (pc := 46) hx hb dX0_feed_46 rfl ?_
      obtain ⟨v9, e9, hf⟩ := bdo hf
      refine g_get (pc := 47) (o := (some l0)) (a := l0) (ci := 0) (k := 5) (v := .int v9) (C := RX0) (T := TX0) (N := 7) hx hb hts hown hE hk hH in_X0 rfl (by decide) (hts _ q279) (fun _ h9 => h9) rfl (rdI_o e9) dX0_feed_47 ?_
      refine lv_iconst (pc := 50) (v := nI 1) hx hb dX0_feed_50 rfl ?_
      refine lv_iadd (pc := 51) hx hb dX0_feed_51 ?_
      obtain ⟨S10, e10, hf⟩ := bdo hf
      refine g_put (pc := 52) (o := (some l0)) (a := l0) (ci := 0) (k := 5) (v := .int (v9 + (nI 1))) (C := RX0) (T := TX0) (N := 7) (ty := .int) hx hb hts hown hE hk hH hS rfl in_X0 tyX0_ok nmX0 rfl (by decide) (hts _ q279) (fun _ h9 => h9) rfl rfl rfl rfl rfl e10 dX0_feed_52 (fun H locs hH hS => ?_)
      refine lv_aload_n (pc := 55) hx hb dX0_feed_55 rfl (lv_at hl 0 rfl) ?_
      obtain ⟨v11, e11, hf⟩ := bdo hf
      refine g_get (pc := 56) (o := (some l0)) (a := l0) (ci := 0) (k := 5) (v := .int v11) (C := RX0) (T := TX0) (N := 7) hx hb hts hown hE hk hH in_X0 rfl (by decide) (hts _ q279) (fun _ h9 => h9) rfl (rdI_o e11) dX0_feed_56 ?_
      exact g_iret (pc := 59) hx hb hr hlk hH hS hkc hks hf dX0_feed_59
    · rw [if_pos c4] at hf
      refine lv_aload_n (pc := 28) hx hb dX0_feed_28 rfl (lv_at hl 0 rfl) ?_
      refine lv_bipush (pc := 29) (v := -86) hx hb dX0_feed_29 gkbm86 ?_
      obtain ⟨_, ek12, hf⟩ := bdo hf
      obtain ⟨v12, S12, c12, n12, c2_12, n2_12, e12, hf, hC12, hN12⟩ := gbo hf
      refine g_callV (pc := 31) (o := (some l0)) (b := l0) (As := [.int (-86)]) (rest := []) (st1 := [.int v12]) hc (mX0_no hk hJ (l0 := l0) (l1 := (-86)) e12) (cwV 1 hts (lw_V q398 q400 qs2 q97 q401) rfl rfl rfl hdX0_no ⟨Nat.le_of_ble_eq_true rfl, Nat.le_of_ble_eq_true rfl⟩) (g_recv hE hk hH (ci := 0) (q := (RX0, TX0, 7)) rfl (chk_o ek12).choose_spec) rfl rfl hl.1 rfl rfl (lv_room (Nat.le_of_ble_eq_true rfl)) dX0_feed_31 hH hS (by omega) (by omega) (fun H locs hH hS => ?_)
      have hkc : kc + c1 + c12 + c2_12 ≤ mc := by omega
      have hks : ks + n1 + n12 + n2_12 ≤ ms := by omega
      exact g_iret (pc := 34) hx hb hr hlk hH hS hkc hks hf dX0_feed_34
  · rw [if_pos c2] at hf
    refine lv_aload_n (pc := 11) hx hb dX0_feed_11 rfl (lv_at hl 0 rfl) ?_
    refine lv_bipush (pc := 12) (v := -82) hx hb dX0_feed_12 gkbm82 ?_
    obtain ⟨_, ek13, hf⟩ := bdo hf
    obtain ⟨v13, S13, c13, n13, c2_13, n2_13, e13, hf, hC13, hN13⟩ := gbo hf
    refine g_callV (pc := 14) (o := (some l0)) (b := l0) (As := [.int (-82)]) (rest := []) (st1 := [.int v13]) hc (mX0_no hk hJ (l0 := l0) (l1 := (-82)) e13) (cwV 1 hts (lw_V q398 q400 qs2 q97 q401) rfl rfl rfl hdX0_no ⟨Nat.le_of_ble_eq_true rfl, Nat.le_of_ble_eq_true rfl⟩) (g_recv hE hk hH (ci := 0) (q := (RX0, TX0, 7)) rfl (chk_o ek13).choose_spec) rfl rfl hl.1 rfl rfl (lv_room (Nat.le_of_ble_eq_true rfl)) dX0_feed_14 hH hS (by omega) (by omega) (fun H locs hH hS => ?_)
    have hkc : kc + c1 + c13 + c2_13 ≤ mc := by omega
    have hks : ks + n1 + n13 + n2_13 ≤ ms := by omega
    exact g_iret (pc := 17) hx hb hr hlk hH hS hkc hks hf dX0_feed_17
theorem mX0_feed {l : Launch} {G : gG} {Rp : gM → gM → Nat → Prop} (hk : rOK Rp) (hJ : JDK l G Rp) {S S2 : gS} {r2 : Int32} {C N : Nat} {l0 : Nat} {l1 : Int32} (hf : fX0_feed l0 l1 S = some (r2, S2, C, N)) : gMet l yX0_feed cX0_feed 2 (some .int) 2 62 G Rp [.ref l0, .int l1] S (some (.int r2)) S2 C N := by
  refine g_start (by decide) (Nat.le_of_ble_eq_true rfl) (fun p e s m args below meth c ls hc hl hH => ?_)
  have hl : lv_has ls 2 [(0, .ref l0), (1, .int l1)] := hl
  exact wX0_feed_b0 hk hJ hc l0 l1 S _ _ ls 0 0 C N (by omega) (by omega) hH va_S.rf (lv_sub hl [0, 1] rfl) hf
end
section
variable {r : Int32} {Sf : gS}
def fX0_fits_b30 (G : gG) : Nat → Nat → Int32 → (Option Nat) → gS → gO Int32
  | 0, _, _, _, _ => none
  | n + 1, l0, l1, l2, S =>
    bd l2 fun a2 =>
    gb (nI6_hasNext a2 S) fun v1 S1 =>
    if v1 = 0 then
      some (l1, S1, 0, 0)
    else
      gb (nI6_next a2 S1) fun v4 S4 =>
      bd (ckc S4 v4 3) fun _ =>
      bd v4 fun a6 =>
      bd (rdR S4 a6 3 1) fun v7 =>
      bd (rdR S4 l0 0 0) fun v8 =>
      bd v8 fun a9 =>
      bd (rdR S4 a9 1 4) fun v10 =>
      bd v7 fun a12 =>
      bd (chk S4 a12 8) fun _ =>
      gb (fX6_covers G a12 v10 S4) fun v11 S11 =>
      if v11 = 0 then
        fX0_fits_b30 G n l0 (l1 ||| (nI 0)) l2 S11
      else
        bd (rdI S11 a6 3 0) fun v14 =>
        fX0_fits_b30 G n l0 (l1 ||| ((nI 1) <<< (v14 &&& 31))) l2 S11
theorem wX0_fits_b30 (hk : rOK Rp) (hJ : JDK l G Rp) (hc : gC p s m args meth c G RX0 "fits" cX0_fits 4 (some .int)) : ∀ (n : Nat) (l0 : Nat) (l1 : Int32) (l2 : Option Nat) (S : gS) (H : Heap) (locs : List Loc) (ls : Array Slot) (kc ks C N : Nat), kc + C ≤ mc → ks + N ≤ ms → hp G Rp S H → va_S G.2.2.2 s.heap H locs → lv_has ls 4 [(0, .ref l0), (1, .int l1), (2, va_rf l2)] → fX0_fits_b30 G n l0 l1 l2 S = some (r, Sf, C, N) → W p l e (gR 19 628 mc ms) s m args below meth c H locs kc ks (gQ below G Rp (some (.int r)) Sf args s mc ms) (F0 m 30 ls []) := by
  obtain ⟨hx, hb, hr, hlk, hml, hown, hts, hE, hA, hnm⟩ := hc
  have hc : gC p s m args meth c G RX0 "fits" cX0_fits 4 (some .int) := ⟨hx, hb, hr, hlk, hml, hown, hts, hE, hA, hnm⟩
  intro n
  induction n with
  | zero => intro l0 l1 l2 S H locs ls kc ks C N _ _ _ _ _ hf; exact absurd hf (fun h => by cases h)
  | succ n ih =>
    intro l0 l1 l2 S H locs ls kc ks C N hkc hks hH hS hl hf
    rw [fX0_fits_b30] at hf
    refine g_aload_n (pc := 30) (o := l2) hx hb dX0_fits_30 rfl (lv_at hl 2 rfl) ?_
    obtain ⟨a2, ea2, hf⟩ := bdo hf
    obtain ⟨v1, S1, c1, n1, c2_1, n2_1, e1, hf, hC1, hN1⟩ := gbo hf
    refine g_callF (pc := 31) (o := l2) (b := a2) (As := []) (rest := []) (st1 := [.int v1]) (ci := 21) (q := (RJ26, TJ26, 4)) hc (j_nI6_hasNext hJ a2 S v1 S1 c1 n1 e1) (va_cwF 0 hts (lw_app (lw_of4 q2060 q1339 q1341 q135) (lw_meth q1343)) rfl rfl rfl (hE.2.1.2.2.2.2.2 _ _ _ hdx_hasNext.1 q1320 q1319 q1342 q1340 q1338) hdx_hasNext.2 ⟨Nat.le_of_ble_eq_true rfl, Nat.le_of_ble_eq_true rfl⟩) rfl rfl (j_recv hJ _ _ _ _ 6 _ _ hE hH hS (adtR (t := 6) (show bd _ _ = some _ from e1)).choose_spec) ea2 rfl hl.1 rfl rfl (lv_room (Nat.le_of_ble_eq_true rfl)) dX0_fits_31 hH hS (by omega) (by omega) (fun H locs hH hS => ?_)
    have hkc : kc + c1 + c2_1 ≤ mc := by omega
    have hks : ks + n1 + n2_1 ≤ ms := by omega
    refine lv_if_eq (pc := 36) (tgt := 82) hx hb dX0_fits_36 (by decide) (fun c3 => ?_) (fun c3 => ?_)
    · rw [if_pos c3] at hf
      refine lv_iload_n (pc := 82) hx hb dX0_fits_82 rfl (lv_at hl 1 rfl) ?_
      exact g_iret (pc := 83) hx hb hr hlk hH hS hkc hks hf dX0_fits_83
    · rw [if_neg c3] at hf
      refine g_aload_n (pc := 39) (o := l2) hx hb dX0_fits_39 rfl (lv_at hl 2 rfl) ?_
      obtain ⟨v4, S4, c4, n4, c2_4, n2_4, e4, hf, hC4, hN4⟩ := gbo hf
      refine g_callF (pc := 40) (o := l2) (b := a2) (As := []) (rest := []) (st1 := [va_rf v4]) (ci := 21) (q := (RJ26, TJ26, 4)) hc (j_nI6_next hJ a2 S1 v4 S4 c4 n4 e4) (va_cwF 0 hts (lw_app (lw_of4 q2062 q1472 q1474 q135) (lw_meth q1476)) rfl rfl rfl (hE.2.1.2.2.2.2.2 _ _ _ hdx_next.1 q1366 q1365 q1475 q1473 q1338) hdx_next.2 ⟨Nat.le_of_ble_eq_true rfl, Nat.le_of_ble_eq_true rfl⟩) rfl rfl (j_recv hJ _ _ _ _ 6 _ _ hE hH hS (adtR (t := 6) (show bd _ _ = some _ from e4)).choose_spec) ea2 rfl hl.1 rfl rfl (lv_room (Nat.le_of_ble_eq_true rfl)) dX0_fits_40 hH hS (by omega) (by omega) (fun H locs hH hS => ?_)
      have hkc : kc + c1 + c4 + c2_4 ≤ mc := by omega
      have hks : ks + n1 + n4 + n2_4 ≤ ms := by omega
      obtain ⟨_, e5, hf⟩ := bdo hf
      refine g_cast (pc := 45) (o := v4) (ci := 3) (C := RX8) (T := TX8) (N := 13) hx hb hts hown hE hk hH rfl q1135 e5 dX0_fits_45 ?_
      refine g_astore_n (pc := 48) (i := 3) (o := v4) (lv' := [(3, va_rf v4), (0, .ref l0), (1, .int l1), (2, va_rf l2)]) hx hb dX0_fits_48 rfl hl (by decide) (by simp [va_rf_cat, cat_i, cat_j, cat_r] <;> rfl) (fun ls hl => ?_)
      refine lv_iload_n (pc := 49) hx hb dX0_fits_49 rfl (lv_at hl 2 rfl) ?_
      refine g_aload_n (pc := 50) (o := v4) hx hb dX0_fits_50 rfl (lv_at hl 0 rfl) ?_
      obtain ⟨a6, ea6, hf⟩ := bdo hf
      obtain ⟨v7, e7, hf⟩ := bdo hf
      refine g_get (pc := 51) (o := v4) (a := a6) (ci := 3) (k := 1) (v := va_rf v7) (C := RX8) (T := TX8) (N := 13) hx hb hts hown hE hk hH in_X8 rfl (by decide) (hts _ q1155) (fun _ h9 => h9) ea6 (rdR_o e7) dX0_fits_51 ?_
      refine lv_aload_n (pc := 54) hx hb dX0_fits_54 rfl (lv_at hl 1 rfl) ?_
      obtain ⟨v8, e8, hf⟩ := bdo hf
      refine g_get (pc := 55) (o := (some l0)) (a := l0) (ci := 0) (k := 0) (v := va_rf v8) (C := RX0) (T := TX0) (N := 7) hx hb hts hown hE hk hH in_X0 rfl (by decide) (hts _ q272) (fun _ h9 => h9) rfl (rdR_o e8) dX0_fits_55 ?_
      obtain ⟨a9, ea9, hf⟩ := bdo hf
      obtain ⟨v10, e10, hf⟩ := bdo hf
      refine g_get (pc := 58) (o := v8) (a := a9) (ci := 1) (k := 4) (v := va_rf v10) (C := RX1) (T := TX1) (N := 7) hx hb hts hown hE hk hH in_X1 rfl (by decide) (hts _ q240) (fun _ h9 => h9) ea9 (rdR_o e10) dX0_fits_58 ?_
      obtain ⟨a12, ea12, hf⟩ := bdo hf
      obtain ⟨_, ek11, hf⟩ := bdo hf
      obtain ⟨v11, S11, c11, n11, c2_11, n2_11, e11, hf, hC11, hN11⟩ := gbo hf
      refine g_callV (pc := 61) (o := v7) (b := a12) (As := [va_rf v10]) (rest := [.int l1]) (st1 := [.int v11, .int l1]) hc (mX6_covers hk hJ (l0 := a12) (l1 := v10) e11) (cwV 1 hts (lw_V q2529 q1579 q1580 q129 q1581) rfl rfl rfl hdX6_covers ⟨Nat.le_of_ble_eq_true rfl, Nat.le_of_ble_eq_true rfl⟩) (g_recv hE hk hH (ci := 8) (q := (RX6, TX6, 3)) rfl (chk_o ek11).choose_spec) ea12 rfl hl.1 rfl rfl (lv_room (Nat.le_of_ble_eq_true rfl)) dX0_fits_61 hH hS (by omega) (by omega) (fun H locs hH hS => ?_)
      have hkc : kc + c1 + c4 + c11 + c2_11 ≤ mc := by omega
      have hks : ks + n1 + n4 + n11 + n2_11 ≤ ms := by omega
      refine lv_if_eq (pc := 64) (tgt := 76) hx hb dX0_fits_64 (by decide) (fun c13 => ?_) (fun c13 => ?_)
      · rw [if_pos c13] at hf
        refine lv_iconst (pc := 76) (v := nI 0) hx hb dX0_fits_76 rfl ?_
        refine lv_ior (pc := 77) hx hb dX0_fits_77 ?_
        refine lv_istore_n (pc := 78) (i := 1) (lv' := [(1, .int (l1 ||| (nI 0))), (3, va_rf v4), (0, .ref l0), (2, va_rf l2)]) hx hb dX0_fits_78 rfl hl (by decide) rfl (fun ls hl => ?_)
        refine lv_goto (pc := 79) (tgt := 30) hx hb dX0_fits_79 (by decide) ?_
        exact ih l0 (l1 ||| (nI 0)) l2 S11 _ _ ls _ _ _ _ hkc hks hH hS (lv_sub hl [2, 0, 3] rfl) hf
      · rw [if_neg c13] at hf
        refine lv_iconst (pc := 67) (v := nI 1) hx hb dX0_fits_67 rfl ?_
        refine g_aload_n (pc := 68) (o := v4) hx hb dX0_fits_68 rfl (lv_at hl 0 rfl) ?_
        obtain ⟨v14, e14, hf⟩ := bdo hf
        refine g_get (pc := 69) (o := v4) (a := a6) (ci := 3) (k := 0) (v := .int v14) (C := RX8) (T := TX8) (N := 13) hx hb hts hown hE hk hH in_X8 rfl (by decide) (hts _ q1152) (fun _ h9 => h9) ea6 (rdI_o e14) dX0_fits_69 ?_
        refine lv_ishl (pc := 72) hx hb dX0_fits_72 ?_
        refine lv_goto (pc := 73) (tgt := 77) hx hb dX0_fits_73 (by decide) ?_
        refine lv_ior (pc := 77) hx hb dX0_fits_77 ?_
        refine lv_istore_n (pc := 78) (i := 1) (lv' := [(1, .int (l1 ||| ((nI 1) <<< (v14 &&& 31)))), (3, va_rf v4), (0, .ref l0), (2, va_rf l2)]) hx hb dX0_fits_78 rfl hl (by decide) rfl (fun ls hl => ?_)
        refine lv_goto (pc := 79) (tgt := 30) hx hb dX0_fits_79 (by decide) ?_
        exact ih l0 (l1 ||| ((nI 1) <<< (v14 &&& 31))) l2 S11 _ _ ls _ _ _ _ hkc hks hH hS (lv_sub hl [2, 0, 3] rfl) hf
def fX0_fits (G : gG) (l0 : Nat) (S : gS) : gO Int32 :=
  bd (rdR S l0 0 0) fun v1 =>
  bd v1 fun a2 =>
  bd (rdR S a2 1 4) fun v3 =>
  if v3 = none then
    bd (chk S l0 0) fun _ =>
    gb (fX0_no l0 (-85) S) fun v10 S10 =>
    some (v10, S10, 0, 0)
  else
    bd (rdR S l0 0 0) fun v5 =>
    bd v5 fun a6 =>
    bd (rdR S a6 1 0) fun v7 =>
    bd v7 fun a9 =>
    gb (nAL_iter a9  S) fun v8 S8 =>
    fX0_fits_b30 G FU l0 (nI 0) v8 S8
theorem wX0_fits_b0 (hk : rOK Rp) (hJ : JDK l G Rp) (hc : gC p s m args meth c G RX0 "fits" cX0_fits 4 (some .int)) (l0 : Nat) (S : gS) (H : Heap) (locs : List Loc) (ls : Array Slot) (kc ks C N : Nat) (hkc : kc + C ≤ mc) (hks : ks + N ≤ ms) (hH : hp G Rp S H) (hS : va_S G.2.2.2 s.heap H locs) (hl : lv_has ls 4 [(0, .ref l0)]) (hf : fX0_fits G l0 S = some (r, Sf, C, N)) : W p l e (gR 19 628 mc ms) s m args below meth c H locs kc ks (gQ below G Rp (some (.int r)) Sf args s mc ms) (F0 m 0 ls []) := by
  obtain ⟨hx, hb, hr, hlk, hml, hown, hts, hE, hA, hnm⟩ := hc
  have hc : gC p s m args meth c G RX0 "fits" cX0_fits 4 (some .int) := ⟨hx, hb, hr, hlk, hml, hown, hts, hE, hA, hnm⟩
  unfold fX0_fits at hf
  refine lv_aload_n (pc := 0) hx hb dX0_fits_0 rfl (lv_at hl 0 rfl) ?_
  obtain ⟨v1, e1, hf⟩ := bdo hf
  refine g_get (pc := 1) (o := (some l0)) (a := l0) (ci := 0) (k := 0) (v := va_rf v1) (C := RX0) (T := TX0) (N := 7) hx hb hts hown hE hk hH in_X0 rfl (by decide) (hts _ q272) (fun _ h9 => h9) rfl (rdR_o e1) dX0_fits_1 ?_
  obtain ⟨a2, ea2, hf⟩ := bdo hf
  obtain ⟨v3, e3, hf⟩ := bdo hf
  refine g_get (pc := 4) (o := v1) (a := a2) (ci := 1) (k := 4) (v := va_rf v3) (C := RX1) (T := TX1) (N := 7) hx hb hts hown hE hk hH in_X1 rfl (by decide) (hts _ q240) (fun _ h9 => h9) ea2 (rdR_o e3) dX0_fits_4 ?_
  refine g_ifnonnull (pc := 7) (o := v3) (tgt := 17) hx hb dX0_fits_7 (by decide) (fun c4 => ?_) (fun c4 => ?_)
  · rw [if_neg c4] at hf
    refine lv_iconst (pc := 17) (v := nI 0) hx hb dX0_fits_17 rfl ?_
    refine lv_istore_n (pc := 18) (i := 1) (lv' := [(1, .int (nI 0)), (0, .ref l0)]) hx hb dX0_fits_18 rfl hl (by decide) rfl (fun ls hl => ?_)
    refine lv_aload_n (pc := 19) hx hb dX0_fits_19 rfl (lv_at hl 1 rfl) ?_
    obtain ⟨v5, e5, hf⟩ := bdo hf
    refine g_get (pc := 20) (o := (some l0)) (a := l0) (ci := 0) (k := 0) (v := va_rf v5) (C := RX0) (T := TX0) (N := 7) hx hb hts hown hE hk hH in_X0 rfl (by decide) (hts _ q272) (fun _ h9 => h9) rfl (rdR_o e5) dX0_fits_20 ?_
    obtain ⟨a6, ea6, hf⟩ := bdo hf
    obtain ⟨v7, e7, hf⟩ := bdo hf
    refine g_get (pc := 23) (o := v5) (a := a6) (ci := 1) (k := 0) (v := va_rf v7) (C := RX1) (T := TX1) (N := 7) hx hb hts hown hE hk hH in_X1 rfl (by decide) (hts _ q232) (fun _ h9 => h9) ea6 (rdR_o e7) dX0_fits_23 ?_
    obtain ⟨a9, ea9, hf⟩ := bdo hf
    obtain ⟨v8, S8, c8, n8, c2_8, n2_8, e8, hf, hC8, hN8⟩ := gbo hf
    refine g_callV (pc := 26) (o := v7) (b := a9) (As := []) (rest := []) (st1 := [va_rf v8]) hc (j_nAL_iter hJ a9  S v8 S8 c8 n8 e8) (cwV 0 hts (lw_V q2432 q1293 q1294 q101 q1295) rfl rfl rfl hdJ2_iterator ⟨Nat.le_of_ble_eq_true rfl, Nat.le_of_ble_eq_true rfl⟩) (j_recv hJ _ _ _ _ 0 _ _ hE hH hS (adtR (t := 0) (show bd _ _ = some _ from e8)).choose_spec) ea9 rfl hl.1 rfl rfl (lv_room (Nat.le_of_ble_eq_true rfl)) dX0_fits_26 hH hS (by omega) (by omega) (fun H locs hH hS => ?_)
    have hkc : kc + c8 + c2_8 ≤ mc := by omega
    have hks : ks + n8 + n2_8 ≤ ms := by omega
    refine g_astore_n (pc := 29) (i := 2) (o := v8) (lv' := [(2, va_rf v8), (1, .int (nI 0)), (0, .ref l0)]) hx hb dX0_fits_29 rfl hl (by decide) rfl (fun ls hl => ?_)
    exact wX0_fits_b30 hk hJ hc FU l0 (nI 0) v8 S8 _ _ ls _ _ _ _ hkc hks hH hS (lv_sub hl [2, 1, 0] rfl) hf
  · rw [if_pos c4] at hf
    refine lv_aload_n (pc := 10) hx hb dX0_fits_10 rfl (lv_at hl 0 rfl) ?_
    refine lv_bipush (pc := 11) (v := -85) hx hb dX0_fits_11 gkbm85 ?_
    obtain ⟨_, ek10, hf⟩ := bdo hf
    obtain ⟨v10, S10, c10, n10, c2_10, n2_10, e10, hf, hC10, hN10⟩ := gbo hf
    refine g_callV (pc := 13) (o := (some l0)) (b := l0) (As := [.int (-85)]) (rest := []) (st1 := [.int v10]) hc (mX0_no hk hJ (l0 := l0) (l1 := (-85)) e10) (cwV 1 hts (lw_V q398 q400 qs2 q97 q401) rfl rfl rfl hdX0_no ⟨Nat.le_of_ble_eq_true rfl, Nat.le_of_ble_eq_true rfl⟩) (g_recv hE hk hH (ci := 0) (q := (RX0, TX0, 7)) rfl (chk_o ek10).choose_spec) rfl rfl hl.1 rfl rfl (lv_room (Nat.le_of_ble_eq_true rfl)) dX0_fits_13 hH hS (by omega) (by omega) (fun H locs hH hS => ?_)
    have hkc : kc + c10 + c2_10 ≤ mc := by omega
    have hks : ks + n10 + n2_10 ≤ ms := by omega
    exact g_iret (pc := 16) hx hb hr hlk hH hS hkc hks hf dX0_fits_16
theorem mX0_fits {l : Launch} {G : gG} {Rp : gM → gM → Nat → Prop} (hk : rOK Rp) (hJ : JDK l G Rp) {S S2 : gS} {r2 : Int32} {C N : Nat} {l0 : Nat} (hf : fX0_fits G l0 S = some (r2, S2, C, N)) : gMet l yX0_fits cX0_fits 4 (some .int) 19 628 G Rp [.ref l0] S (some (.int r2)) S2 C N := by
  refine g_start (by decide) (Nat.le_of_ble_eq_true rfl) (fun p e s m args below meth c ls hc hl hH => ?_)
  have hl : lv_has ls 4 [(0, .ref l0)] := hl
  exact wX0_fits_b0 hk hJ hc l0 S _ _ ls 0 0 C N (by omega) (by omega) hH va_S.rf (lv_sub hl [0] rfl) hf
end
section
variable {r : Int32} {Sf : gS}
def fX0_give (l0 : Nat) (l1 : Int32) (S : gS) : gO Int32 :=
  bd (chk S l0 0) fun _ =>
  gb (fX0_isQueue l0 l1 S) fun v1 S1 =>
  if v1 = 0 then
    bd (chk S1 l0 0) fun _ =>
    gb (fX0_no l0 (-82) S1) fun v3 S3 =>
    some (v3, S3, 0, 0)
  else
    bd (rdR S1 l0 0 0) fun v4 =>
    bd (chk S1 l0 0) fun _ =>
    gb (fX0_queue_2 l0 l1 S1) fun v5 S5 =>
    bd v4 fun a7 =>
    bd (chk S5 a7 1) fun _ =>
    gb (fX1_gives a7 v5 S5) fun v6 S6 =>
    some (v6, S6, 0, 0)
theorem wX0_give_b0 (hk : rOK Rp) (hJ : JDK l G Rp) (hc : gC p s m args meth c G RX0 "give" cX0_give 2 (some .int)) (l0 : Nat) (l1 : Int32) (S : gS) (H : Heap) (locs : List Loc) (ls : Array Slot) (kc ks C N : Nat) (hkc : kc + C ≤ mc) (hks : ks + N ≤ ms) (hH : hp G Rp S H) (hS : va_S G.2.2.2 s.heap H locs) (hl : lv_has ls 2 [(0, .ref l0), (1, .int l1)]) (hf : fX0_give l0 l1 S = some (r, Sf, C, N)) : W p l e (gR 17 589 mc ms) s m args below meth c H locs kc ks (gQ below G Rp (some (.int r)) Sf args s mc ms) (F0 m 0 ls []) := by
  obtain ⟨hx, hb, hr, hlk, hml, hown, hts, hE, hA, hnm⟩ := hc
  have hc : gC p s m args meth c G RX0 "give" cX0_give 2 (some .int) := ⟨hx, hb, hr, hlk, hml, hown, hts, hE, hA, hnm⟩
  unfold fX0_give at hf
  refine lv_aload_n (pc := 0) hx hb dX0_give_0 rfl (lv_at hl 0 rfl) ?_
  refine lv_iload_n (pc := 1) hx hb dX0_give_1 rfl (lv_at hl 1 rfl) ?_
  obtain ⟨_, ek1, hf⟩ := bdo hf
  obtain ⟨v1, S1, c1, n1, c2_1, n2_1, e1, hf, hC1, hN1⟩ := gbo hf
  refine g_callV (pc := 2) (o := (some l0)) (b := l0) (As := [.int l1]) (rest := []) (st1 := [.int v1]) hc (mX0_isQueue hk hJ (l0 := l0) (l1 := l1) e1) (cwV 1 hts (lw_V q1214 q1216 qs17 q97 q1217) rfl rfl rfl hdX0_isQueue ⟨Nat.le_of_ble_eq_true rfl, Nat.le_of_ble_eq_true rfl⟩) (g_recv hE hk hH (ci := 0) (q := (RX0, TX0, 7)) rfl (chk_o ek1).choose_spec) rfl rfl hl.1 rfl rfl (lv_room (Nat.le_of_ble_eq_true rfl)) dX0_give_2 hH hS (by omega) (by omega) (fun H locs hH hS => ?_)
  have hkc : kc + c1 + c2_1 ≤ mc := by omega
  have hks : ks + n1 + n2_1 ≤ ms := by omega
  refine lv_if_eq (pc := 5) (tgt := 23) hx hb dX0_give_5 (by decide) (fun c2 => ?_) (fun c2 => ?_)
  · rw [if_pos c2] at hf
    refine lv_aload_n (pc := 23) hx hb dX0_give_23 rfl (lv_at hl 0 rfl) ?_
    refine lv_bipush (pc := 24) (v := -82) hx hb dX0_give_24 gkbm82 ?_
    obtain ⟨_, ek3, hf⟩ := bdo hf
    obtain ⟨v3, S3, c3, n3, c2_3, n2_3, e3, hf, hC3, hN3⟩ := gbo hf
    refine g_callV (pc := 26) (o := (some l0)) (b := l0) (As := [.int (-82)]) (rest := []) (st1 := [.int v3]) hc (mX0_no hk hJ (l0 := l0) (l1 := (-82)) e3) (cwV 1 hts (lw_V q398 q400 qs2 q97 q401) rfl rfl rfl hdX0_no ⟨Nat.le_of_ble_eq_true rfl, Nat.le_of_ble_eq_true rfl⟩) (g_recv hE hk hH (ci := 0) (q := (RX0, TX0, 7)) rfl (chk_o ek3).choose_spec) rfl rfl hl.1 rfl rfl (lv_room (Nat.le_of_ble_eq_true rfl)) dX0_give_26 hH hS (by omega) (by omega) (fun H locs hH hS => ?_)
    have hkc : kc + c1 + c3 + c2_3 ≤ mc := by omega
    have hks : ks + n1 + n3 + n2_3 ≤ ms := by omega
    exact g_iret (pc := 29) hx hb hr hlk hH hS hkc hks hf dX0_give_29
  · rw [if_neg c2] at hf
    refine lv_aload_n (pc := 8) hx hb dX0_give_8 rfl (lv_at hl 0 rfl) ?_
    obtain ⟨v4, e4, hf⟩ := bdo hf
    refine g_get (pc := 9) (o := (some l0)) (a := l0) (ci := 0) (k := 0) (v := va_rf v4) (C := RX0) (T := TX0) (N := 7) hx hb hts hown hE hk hH in_X0 rfl (by decide) (hts _ q272) (fun _ h9 => h9) rfl (rdR_o e4) dX0_give_9 ?_
    refine lv_aload_n (pc := 12) hx hb dX0_give_12 rfl (lv_at hl 0 rfl) ?_
    refine lv_iload_n (pc := 13) hx hb dX0_give_13 rfl (lv_at hl 1 rfl) ?_
    obtain ⟨_, ek5, hf⟩ := bdo hf
    obtain ⟨v5, S5, c5, n5, c2_5, n2_5, e5, hf, hC5, hN5⟩ := gbo hf
    refine g_callV (pc := 14) (o := (some l0)) (b := l0) (As := [.int l1]) (rest := [va_rf v4]) (st1 := [va_rf v5, va_rf v4]) hc (mX0_queue_2 hk hJ (l0 := l0) (l1 := l1) e5) (cwV 1 hts (lw_V q1218 q1220 qs18 q97 q1221) rfl rfl rfl hdX0_queue_2 ⟨Nat.le_of_ble_eq_true rfl, Nat.le_of_ble_eq_true rfl⟩) (g_recv hE hk hH (ci := 0) (q := (RX0, TX0, 7)) rfl (chk_o ek5).choose_spec) rfl rfl hl.1 rfl rfl (lv_room (by simp [va_rf_cat, cat_i, cat_j, cat_r])) dX0_give_14 hH hS (by omega) (by omega) (fun H locs hH hS => ?_)
    have hkc : kc + c1 + c5 + c2_5 ≤ mc := by omega
    have hks : ks + n1 + n5 + n2_5 ≤ ms := by omega
    obtain ⟨a7, ea7, hf⟩ := bdo hf
    obtain ⟨_, ek6, hf⟩ := bdo hf
    obtain ⟨v6, S6, c6, n6, c2_6, n2_6, e6, hf, hC6, hN6⟩ := gbo hf
    refine g_callV (pc := 17) (o := v4) (b := a7) (As := [va_rf v5]) (rest := []) (st1 := [.int v6]) hc (mX1_gives hk hJ (l0 := a7) (l1 := v5) e6) (cwV 1 hts (lw_V q1749 q1750 q1751 q98 q1752) rfl rfl rfl hdX1_gives ⟨Nat.le_of_ble_eq_true rfl, Nat.le_of_ble_eq_true rfl⟩) (g_recv hE hk hH (ci := 1) (q := (RX1, TX1, 7)) rfl (chk_o ek6).choose_spec) ea7 rfl hl.1 rfl rfl (lv_room (Nat.le_of_ble_eq_true rfl)) dX0_give_17 hH hS (by omega) (by omega) (fun H locs hH hS => ?_)
    have hkc : kc + c1 + c5 + c6 + c2_6 ≤ mc := by omega
    have hks : ks + n1 + n5 + n6 + n2_6 ≤ ms := by omega
    refine lv_goto (pc := 20) (tgt := 29) hx hb dX0_give_20 (by decide) ?_
    exact g_iret (pc := 29) hx hb hr hlk hH hS hkc hks hf dX0_give_29
theorem mX0_give {l : Launch} {G : gG} {Rp : gM → gM → Nat → Prop} (hk : rOK Rp) (hJ : JDK l G Rp) {S S2 : gS} {r2 : Int32} {C N : Nat} {l0 : Nat} {l1 : Int32} (hf : fX0_give l0 l1 S = some (r2, S2, C, N)) : gMet l yX0_give cX0_give 2 (some .int) 17 589 G Rp [.ref l0, .int l1] S (some (.int r2)) S2 C N := by
  refine g_start (by decide) (Nat.le_of_ble_eq_true rfl) (fun p e s m args below meth c ls hc hl hH => ?_)
  have hl : lv_has ls 2 [(0, .ref l0), (1, .int l1)] := hl
  exact wX0_give_b0 hk hJ hc l0 l1 S _ _ ls 0 0 C N (by omega) (by omega) hH va_S.rf (lv_sub hl [0, 1] rfl) hf
end
section
variable {r : Int32} {Sf : gS}
def fX0_giveAll_b17 : Nat → Nat → Int32 → Int32 → gS → gO Int32
  | 0, _, _, _, _ => none
  | n + 1, l0, l1, l2, S =>
    bd (rdR S l0 0 0) fun v1 =>
    bd (chk S l0 0) fun _ =>
    gb (fX0_queue_2 l0 l1 S) fun v2 S2 =>
    bd v1 fun a4 =>
    bd (chk S2 a4 1) fun _ =>
    gb (fX1_gives a4 v2 S2) fun v3 S3 =>
    if v3 = (-1) then
      some (l2, S3, 0, 0)
    else
      fX0_giveAll_b17 n l0 l1 (l2 + (nI 1)) S3
theorem wX0_giveAll_b17 (hk : rOK Rp) (hJ : JDK l G Rp) (hc : gC p s m args meth c G RX0 "giveAll" cX0_giveAll 3 (some .int)) : ∀ (n : Nat) (l0 : Nat) (l1 : Int32) (l2 : Int32) (S : gS) (H : Heap) (locs : List Loc) (ls : Array Slot) (kc ks C N : Nat), kc + C ≤ mc → ks + N ≤ ms → hp G Rp S H → va_S G.2.2.2 s.heap H locs → lv_has ls 3 [(0, .ref l0), (1, .int l1), (2, .int l2)] → fX0_giveAll_b17 n l0 l1 l2 S = some (r, Sf, C, N) → W p l e (gR 17 589 mc ms) s m args below meth c H locs kc ks (gQ below G Rp (some (.int r)) Sf args s mc ms) (F0 m 17 ls []) := by
  obtain ⟨hx, hb, hr, hlk, hml, hown, hts, hE, hA, hnm⟩ := hc
  have hc : gC p s m args meth c G RX0 "giveAll" cX0_giveAll 3 (some .int) := ⟨hx, hb, hr, hlk, hml, hown, hts, hE, hA, hnm⟩
  intro n
  induction n with
  | zero => intro l0 l1 l2 S H locs ls kc ks C N _ _ _ _ _ hf; exact absurd hf (fun h => by cases h)
  | succ n ih =>
    intro l0 l1 l2 S H locs ls kc ks C N hkc hks hH hS hl hf
    rw [fX0_giveAll_b17] at hf
    refine lv_aload_n (pc := 17) hx hb dX0_giveAll_17 rfl (lv_at hl 0 rfl) ?_
    obtain ⟨v1, e1, hf⟩ := bdo hf
    refine g_get (pc := 18) (o := (some l0)) (a := l0) (ci := 0) (k := 0) (v := va_rf v1) (C := RX0) (T := TX0) (N := 7) hx hb hts hown hE hk hH in_X0 rfl (by decide) (hts _ q272) (fun _ h9 => h9) rfl (rdR_o e1) dX0_giveAll_18 ?_
    refine lv_aload_n (pc := 21) hx hb dX0_giveAll_21 rfl (lv_at hl 0 rfl) ?_
    refine lv_iload_n (pc := 22) hx hb dX0_giveAll_22 rfl (lv_at hl 1 rfl) ?_
    obtain ⟨_, ek2, hf⟩ := bdo hf
    obtain ⟨v2, S2, c2, n2, c2_2, n2_2, e2, hf, hC2, hN2⟩ := gbo hf
    refine g_callV (pc := 23) (o := (some l0)) (b := l0) (As := [.int l1]) (rest := [va_rf v1]) (st1 := [va_rf v2, va_rf v1]) hc (mX0_queue_2 hk hJ (l0 := l0) (l1 := l1) e2) (cwV 1 hts (lw_V q1218 q1220 qs18 q97 q1221) rfl rfl rfl hdX0_queue_2 ⟨Nat.le_of_ble_eq_true rfl, Nat.le_of_ble_eq_true rfl⟩) (g_recv hE hk hH (ci := 0) (q := (RX0, TX0, 7)) rfl (chk_o ek2).choose_spec) rfl rfl hl.1 rfl rfl (lv_room (by simp [va_rf_cat, cat_i, cat_j, cat_r])) dX0_giveAll_23 hH hS (by omega) (by omega) (fun H locs hH hS => ?_)
    have hkc : kc + c2 + c2_2 ≤ mc := by omega
    have hks : ks + n2 + n2_2 ≤ ms := by omega
    obtain ⟨a4, ea4, hf⟩ := bdo hf
    obtain ⟨_, ek3, hf⟩ := bdo hf
    obtain ⟨v3, S3, c3, n3, c2_3, n2_3, e3, hf, hC3, hN3⟩ := gbo hf
    refine g_callV (pc := 26) (o := v1) (b := a4) (As := [va_rf v2]) (rest := []) (st1 := [.int v3]) hc (mX1_gives hk hJ (l0 := a4) (l1 := v2) e3) (cwV 1 hts (lw_V q1749 q1750 q1751 q98 q1752) rfl rfl rfl hdX1_gives ⟨Nat.le_of_ble_eq_true rfl, Nat.le_of_ble_eq_true rfl⟩) (g_recv hE hk hH (ci := 1) (q := (RX1, TX1, 7)) rfl (chk_o ek3).choose_spec) ea4 rfl hl.1 rfl rfl (lv_room (Nat.le_of_ble_eq_true rfl)) dX0_giveAll_26 hH hS (by omega) (by omega) (fun H locs hH hS => ?_)
    have hkc : kc + c2 + c3 + c2_3 ≤ mc := by omega
    have hks : ks + n2 + n3 + n2_3 ≤ ms := by omega
    refine lv_iconst (pc := 29) (v := -1) hx hb dX0_giveAll_29 rfl ?_
    refine lv_icmp_eq (pc := 30) (tgt := 39) hx hb dX0_giveAll_30 (by decide) (fun c5 => ?_) (fun c5 => ?_)
    · rw [if_pos c5] at hf
      refine lv_iload_n (pc := 39) hx hb dX0_giveAll_39 rfl (lv_at hl 2 rfl) ?_
      exact g_iret (pc := 40) hx hb hr hlk hH hS hkc hks hf dX0_giveAll_40
    · rw [if_neg c5] at hf
      refine lv_iinc (pc := 33) (v := l2 + (nI 1)) (lv' := [(2, .int (l2 + (nI 1))), (0, .ref l0), (1, .int l1)]) hx hb dX0_giveAll_33 hl (k := 2) rfl rfl (by decide) rfl (fun ls hl => ?_)
      refine lv_goto (pc := 36) (tgt := 17) hx hb dX0_giveAll_36 (by decide) ?_
      exact ih l0 l1 (l2 + (nI 1)) S3 _ _ ls _ _ _ _ hkc hks hH hS (lv_sub hl [1, 2, 0] rfl) hf
def fX0_giveAll (l0 : Nat) (l1 : Int32) (S : gS) : gO Int32 :=
  bd (chk S l0 0) fun _ =>
  gb (fX0_isQueue l0 l1 S) fun v1 S1 =>
  if v1 = 0 then
    bd (chk S1 l0 0) fun _ =>
    gb (fX0_no l0 (-82) S1) fun v3 S3 =>
    some (v3, S3, 0, 0)
  else
    fX0_giveAll_b17 FU l0 l1 (nI 0) S1
theorem wX0_giveAll_b0 (hk : rOK Rp) (hJ : JDK l G Rp) (hc : gC p s m args meth c G RX0 "giveAll" cX0_giveAll 3 (some .int)) (l0 : Nat) (l1 : Int32) (S : gS) (H : Heap) (locs : List Loc) (ls : Array Slot) (kc ks C N : Nat) (hkc : kc + C ≤ mc) (hks : ks + N ≤ ms) (hH : hp G Rp S H) (hS : va_S G.2.2.2 s.heap H locs) (hl : lv_has ls 3 [(0, .ref l0), (1, .int l1)]) (hf : fX0_giveAll l0 l1 S = some (r, Sf, C, N)) : W p l e (gR 17 589 mc ms) s m args below meth c H locs kc ks (gQ below G Rp (some (.int r)) Sf args s mc ms) (F0 m 0 ls []) := by
  obtain ⟨hx, hb, hr, hlk, hml, hown, hts, hE, hA, hnm⟩ := hc
  have hc : gC p s m args meth c G RX0 "giveAll" cX0_giveAll 3 (some .int) := ⟨hx, hb, hr, hlk, hml, hown, hts, hE, hA, hnm⟩
  unfold fX0_giveAll at hf
  refine lv_aload_n (pc := 0) hx hb dX0_giveAll_0 rfl (lv_at hl 0 rfl) ?_
  refine lv_iload_n (pc := 1) hx hb dX0_giveAll_1 rfl (lv_at hl 1 rfl) ?_
  obtain ⟨_, ek1, hf⟩ := bdo hf
  obtain ⟨v1, S1, c1, n1, c2_1, n2_1, e1, hf, hC1, hN1⟩ := gbo hf
  refine g_callV (pc := 2) (o := (some l0)) (b := l0) (As := [.int l1]) (rest := []) (st1 := [.int v1]) hc (mX0_isQueue hk hJ (l0 := l0) (l1 := l1) e1) (cwV 1 hts (lw_V q1214 q1216 qs17 q97 q1217) rfl rfl rfl hdX0_isQueue ⟨Nat.le_of_ble_eq_true rfl, Nat.le_of_ble_eq_true rfl⟩) (g_recv hE hk hH (ci := 0) (q := (RX0, TX0, 7)) rfl (chk_o ek1).choose_spec) rfl rfl hl.1 rfl rfl (lv_room (Nat.le_of_ble_eq_true rfl)) dX0_giveAll_2 hH hS (by omega) (by omega) (fun H locs hH hS => ?_)
  have hkc : kc + c1 + c2_1 ≤ mc := by omega
  have hks : ks + n1 + n2_1 ≤ ms := by omega
  refine lv_if_ne (pc := 5) (tgt := 15) hx hb dX0_giveAll_5 (by decide) (fun c2 => ?_) (fun c2 => ?_)
  · rw [if_neg c2] at hf
    refine lv_iconst (pc := 15) (v := nI 0) hx hb dX0_giveAll_15 rfl ?_
    refine lv_istore_n (pc := 16) (i := 2) (lv' := [(2, .int (nI 0)), (0, .ref l0), (1, .int l1)]) hx hb dX0_giveAll_16 rfl hl (by decide) rfl (fun ls hl => ?_)
    exact wX0_giveAll_b17 hk hJ hc FU l0 l1 (nI 0) S1 _ _ ls _ _ _ _ hkc hks hH hS (lv_sub hl [1, 2, 0] rfl) hf
  · rw [if_pos c2] at hf
    refine lv_aload_n (pc := 8) hx hb dX0_giveAll_8 rfl (lv_at hl 0 rfl) ?_
    refine lv_bipush (pc := 9) (v := -82) hx hb dX0_giveAll_9 gkbm82 ?_
    obtain ⟨_, ek3, hf⟩ := bdo hf
    obtain ⟨v3, S3, c3, n3, c2_3, n2_3, e3, hf, hC3, hN3⟩ := gbo hf
    refine g_callV (pc := 11) (o := (some l0)) (b := l0) (As := [.int (-82)]) (rest := []) (st1 := [.int v3]) hc (mX0_no hk hJ (l0 := l0) (l1 := (-82)) e3) (cwV 1 hts (lw_V q398 q400 qs2 q97 q401) rfl rfl rfl hdX0_no ⟨Nat.le_of_ble_eq_true rfl, Nat.le_of_ble_eq_true rfl⟩) (g_recv hE hk hH (ci := 0) (q := (RX0, TX0, 7)) rfl (chk_o ek3).choose_spec) rfl rfl hl.1 rfl rfl (lv_room (Nat.le_of_ble_eq_true rfl)) dX0_giveAll_11 hH hS (by omega) (by omega) (fun H locs hH hS => ?_)
    have hkc : kc + c1 + c3 + c2_3 ≤ mc := by omega
    have hks : ks + n1 + n3 + n2_3 ≤ ms := by omega
    exact g_iret (pc := 14) hx hb hr hlk hH hS hkc hks hf dX0_giveAll_14
theorem mX0_giveAll {l : Launch} {G : gG} {Rp : gM → gM → Nat → Prop} (hk : rOK Rp) (hJ : JDK l G Rp) {S S2 : gS} {r2 : Int32} {C N : Nat} {l0 : Nat} {l1 : Int32} (hf : fX0_giveAll l0 l1 S = some (r2, S2, C, N)) : gMet l yX0_giveAll cX0_giveAll 3 (some .int) 17 589 G Rp [.ref l0, .int l1] S (some (.int r2)) S2 C N := by
  refine g_start (by decide) (Nat.le_of_ble_eq_true rfl) (fun p e s m args below meth c ls hc hl hH => ?_)
  have hl : lv_has ls 3 [(0, .ref l0), (1, .int l1)] := hl
  exact wX0_giveAll_b0 hk hJ hc l0 l1 S _ _ ls 0 0 C N (by omega) (by omega) hH va_S.rf (lv_sub hl [0, 1] rfl) hf
end
end
