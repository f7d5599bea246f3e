/-! printed by gen/cgen.py: methods of the component, lifted and walked (9) -/
set_option maxRecDepth 100000
set_option maxHeartbeats 4000000
section
variable {p : Program} {l : Launch} {e : Env} {s : State} {m : MethodId} {args : Array Value} {below : List Frame} {meth : Method} {c : Code} {G : gG} {Rp : gM → gM → Nat → Prop} {mc ms : Nat}
section
variable {P : Option Nat ⊕ gTh → gS → Prop}
def fX5_pattern_b90 (G : gG) (k17 : Nat → Int32 → Nat → Int32 → Int32 → gS → gX (Option Nat)) (l0 : Nat) (l1 : Int32) (l2 : Nat) (l3 : Int32) (l4 : Int32) (t0 : Int32) (S : gS) : gX (Option Nat) :=
  if t0 = 0 then
    nw S (cO 27 [.null, .null, .null, .null, .null, .int 0, .int 0]) 7 fun S4 =>
    bd (rdI S4 l0 9 0) fun v5 =>
    gb (fX7_init G S.2 v5 S4) fun _ S6 =>
    bd (chk S6 S.2 27) fun _ =>
    some (.inr ("CreditBroker$Fault", some S.2), S6, 0, 0)
  else
    bd (rdI S l0 9 0) fun v2 =>
    bd (wr S l0 9 0 (.int (v2 + (nI 1)))) fun S3 =>
    k17 l0 l1 l2 l3 (l4 + (nI 1)) S3
theorem wX5_pattern_b90 (hk : rOK Rp) (hJ : JDK l G Rp) (hst : l.stackTraces = false) (htb : c.exceptionTable.toList = []) (hc : gC p s m args meth c G RX5 "pattern" cX5_pattern 7 (some (.object "CreditBroker$Pattern"))) (k17 : Nat → Int32 → Nat → Int32 → Int32 → gS → gX (Option Nat)) (h17 : ∀ (l0 : Nat) (l1 : Int32) (l2 : Nat) (l3 : Int32) (l4 : Int32) (S : gS) (H : Heap) (locs : List Loc) (ls : Array Slot) (kc ks C N : Nat), kc + C ≤ mc → ks + N ≤ ms → hp G Rp S H → va_S G.2.2.2 s.heap H locs → lv_has ls 7 [(0, .ref l0), (1, .int l1), (2, .ref l2), (3, .int l3), (4, .int l4)] → (∀ j : Nat, oky C N (k17 l0 l1 l2 l3 l4 S) P) → W p l e (gR 17 582 mc ms) s m args below meth c H locs kc ks (gQJ below G Rp iR P args s mc ms) (F0 m 17 ls [])) (l0 : Nat) (l1 : Int32) (l2 : Nat) (l3 : Int32) (l4 : Int32) (t0 : Int32) (S : gS) (H : Heap) (locs : List Loc) (ls : Array Slot) (kc ks C N : Nat) (hkc : kc + C ≤ mc) (hks : ks + N ≤ ms) (hH : hp G Rp S H) (hS : va_S G.2.2.2 s.heap H locs) (hl : lv_has ls 7 [(0, .ref l0), (1, .int l1), (2, .ref l2), (3, .int l3), (4, .int l4)]) (hf : (∀ j : Nat, oky C N (fX5_pattern_b90 G k17 l0 l1 l2 l3 l4 t0 S) P)) : W p l e (gR 17 582 mc ms) s m args below meth c H locs kc ks (gQJ below G Rp iR P args s mc ms) (F0 m 90 ls [.int t0]) := by
  obtain ⟨hx, hb, hr, hlk, hml, hown, hts, hE, hA, hnm⟩ := hc
  have hc : gC p s m args meth c G RX5 "pattern" cX5_pattern 7 (some (.object "CreditBroker$Pattern")) := ⟨hx, hb, hr, hlk, hml, hown, hts, hE, hA, hnm⟩
  simp only [fX5_pattern_b90] at hf
  refine lv_istore (pc := 90) (i := 6) (lv' := [(6, .int t0), (0, .ref l0), (1, .int l1), (2, .ref l2), (3, .int l3), (4, .int l4)]) hx hb dX5_pattern_90 hl (by decide) rfl (fun ls hl => ?_)
  refine lv_iload (pc := 92) hx hb dX5_pattern_92 (lv_at hl 0 rfl) ?_
  refine lv_if_ne (pc := 94) (tgt := 109) hx hb dX5_pattern_94 (by decide) (fun c1 => ?_) (fun c1 => ?_)
  · simp only [if_neg c1] at hf
    refine lv_aload_n (pc := 109) hx hb dX5_pattern_109 rfl (lv_at hl 1 rfl) ?_
    refine lv_dup (pc := 110) hx hb dX5_pattern_110 rfl ?_
    obtain ⟨v2, e2, hf⟩ := bdJ hf
    refine g_get (pc := 111) (o := (some l0)) (a := l0) (ci := 9) (k := 0) (v := .int v2) (C := RX5) (T := TX5) (N := 2) hx hb hts hown hE hk hH in_X5 rfl (by decide) (hts _ q934) (fun _ h9 => h9) rfl (rdI_o e2) dX5_pattern_111 ?_
    refine lv_iconst (pc := 114) (v := nI 1) hx hb dX5_pattern_114 rfl ?_
    refine lv_iadd (pc := 115) hx hb dX5_pattern_115 ?_
    obtain ⟨S3, e3, hf⟩ := bdJ hf
    refine g_put (pc := 116) (o := (some l0)) (a := l0) (ci := 9) (k := 0) (v := .int (v2 + (nI 1))) (C := RX5) (T := TX5) (N := 2) (ty := .int) hx hb hts hown hE hk hH hS rfl in_X5 tyX5_ok nmX5 rfl (by decide) (hts _ q934) (fun _ h9 => h9) rfl rfl rfl rfl rfl e3 dX5_pattern_116 (fun H locs hH hS => ?_)
    refine lv_iinc (pc := 119) (v := l4 + (nI 1)) (lv' := [(4, .int (l4 + (nI 1))), (6, .int t0), (0, .ref l0), (1, .int l1), (2, .ref l2), (3, .int l3)]) hx hb dX5_pattern_119 hl (k := 5) rfl rfl (by decide) rfl (fun ls hl => ?_)
    refine lv_goto (pc := 122) (tgt := 17) hx hb dX5_pattern_122 (by decide) ?_
    exact h17 l0 l1 l2 l3 (l4 + (nI 1)) S3 _ _ ls _ _ _ _ hkc hks hH hS (lv_sub hl [2, 3, 4, 5, 0] rfl) hf
  · simp only [if_pos c1] at hf
    obtain ⟨S4, c2_4, n2_4, eS4, hf, hC4, hN4⟩ := nwJ hf
    refine g_newo (pc := 97) (ci := 27) (C := RX7) (T := TX7) (N := 7) (fs := [.null, .null, .null, .null, .null, .int 0, .int 0]) hx hb hts hown hE hA hk hH hS in_X7 tyX7_ok q1007 q1008 q130 rfl (fun j hj => by rcases (show j = 0 ∨ j = 1 ∨ j = 2 ∨ j = 3 ∨ j = 4 ∨ j = 5 ∨ j = 6 by omega) with rfl | rfl | rfl | rfl | rfl | rfl | rfl <;> rfl) eS4 (Nat.le_trans (by omega) hkc) (Nat.le_trans (by omega) hks) dX5_pattern_97 (fun H hH hS => ?_)
    have hkc : kc + 1 + c2_4 ≤ mc := by omega
    have hks : ks + 7 + n2_4 ≤ ms := by omega
    refine lv_dup (pc := 100) hx hb dX5_pattern_100 rfl ?_
    refine lv_aload_n (pc := 101) hx hb dX5_pattern_101 rfl (lv_at hl 1 rfl) ?_
    obtain ⟨v5, e5, hf⟩ := bdJ hf
    refine g_get (pc := 102) (o := (some l0)) (a := l0) (ci := 9) (k := 0) (v := .int v5) (C := RX5) (T := TX5) (N := 2) hx hb hts hown hE hk hH in_X5 rfl (by decide) (hts _ q934) (fun _ h9 => h9) rfl (rdI_o e5) dX5_pattern_102 ?_
    obtain ⟨_, S6, c6, n6, c2_6, n2_6, e6, hf, hC6, hN6⟩ := gbJ hf
    refine g_callI (pc := 105) (o := (some S.2)) (b := S.2) (As := [.int v5]) (rest := [.ref S.2]) hc (mX7_init hk hJ (l0 := S.2) (l1 := v5) e6) (cwI 1 hts (lw_meth q1018) rfl rfl rfl (hts _ q130) (hts _ q1016) (hts _ q1017) rfl hdiX7_init ⟨Nat.le_of_ble_eq_true rfl, Nat.le_of_ble_eq_true rfl⟩) rfl rfl hl.1 rfl (lv_room (Nat.le_of_ble_eq_true rfl)) dX5_pattern_105 hH hS (by omega) (by omega) (fun H locs hH hS => ?_)
    have hkc : kc + 1 + c6 + c2_6 ≤ mc := by omega
    have hks : ks + 7 + n6 + n2_6 ≤ ms := by omega
    obtain ⟨_, e7, hf⟩ := bdJ hf
    refine g_athrow (pc := 108) (o := some S.2) (ci := 27) (cl := (RX7, TX7, 7)) hx hb hE hk hH rfl rfl (chk_o e7).choose_spec dX5_pattern_108 (fun ce h1 h2 h3 => ?_)
    exact g_outJ (E := "CreditBroker$Fault") (x := some S.2) (by rw [htb]; decide) hlk ⟨rfl, hH⟩ hS (by omega) (by omega) h1 h2 h3 hf
def fX5_pattern_b89 (G : gG) (k17 : Nat → Int32 → Nat → Int32 → Int32 → gS → gX (Option Nat)) (l0 : Nat) (l1 : Int32) (l2 : Nat) (l3 : Int32) (l4 : Int32) (S : gS) : gX (Option Nat) :=
  fX5_pattern_b90 G k17 l0 l1 l2 l3 l4 (nI 0) S
theorem wX5_pattern_b89 (hk : rOK Rp) (hJ : JDK l G Rp) (hst : l.stackTraces = false) (htb : c.exceptionTable.toList = []) (hc : gC p s m args meth c G RX5 "pattern" cX5_pattern 7 (some (.object "CreditBroker$Pattern"))) (k17 : Nat → Int32 → Nat → Int32 → Int32 → gS → gX (Option Nat)) (h17 : ∀ (l0 : Nat) (l1 : Int32) (l2 : Nat) (l3 : Int32) (l4 : Int32) (S : gS) (H : Heap) (locs : List Loc) (ls : Array Slot) (kc ks C N : Nat), kc + C ≤ mc → ks + N ≤ ms → hp G Rp S H → va_S G.2.2.2 s.heap H locs → lv_has ls 7 [(0, .ref l0), (1, .int l1), (2, .ref l2), (3, .int l3), (4, .int l4)] → (∀ j : Nat, oky C N (k17 l0 l1 l2 l3 l4 S) P) → W p l e (gR 17 582 mc ms) s m args below meth c H locs kc ks (gQJ below G Rp iR P args s mc ms) (F0 m 17 ls [])) (l0 : Nat) (l1 : Int32) (l2 : Nat) (l3 : Int32) (l4 : Int32) (S : gS) (H : Heap) (locs : List Loc) (ls : Array Slot) (kc ks C N : Nat) (hkc : kc + C ≤ mc) (hks : ks + N ≤ ms) (hH : hp G Rp S H) (hS : va_S G.2.2.2 s.heap H locs) (hl : lv_has ls 7 [(0, .ref l0), (1, .int l1), (2, .ref l2), (3, .int l3), (4, .int l4)]) (hf : (∀ j : Nat, oky C N (fX5_pattern_b89 G k17 l0 l1 l2 l3 l4 S) P)) : W p l e (gR 17 582 mc ms) s m args below meth c H locs kc ks (gQJ below G Rp iR P args s mc ms) (F0 m 89 ls []) := by
  obtain ⟨hx, hb, hr, hlk, hml, hown, hts, hE, hA, hnm⟩ := hc
  have hc : gC p s m args meth c G RX5 "pattern" cX5_pattern 7 (some (.object "CreditBroker$Pattern")) := ⟨hx, hb, hr, hlk, hml, hown, hts, hE, hA, hnm⟩
  simp only [fX5_pattern_b89] at hf
  refine lv_iconst (pc := 89) (v := nI 0) hx hb dX5_pattern_89 rfl ?_
  exact wX5_pattern_b90 hk hJ hst htb hc k17 h17 l0 l1 l2 l3 l4 (nI 0) S _ _ ls _ _ _ _ hkc hks hH hS (lv_sub hl [0, 1, 2, 3, 4] rfl) hf
def fX5_pattern_b53 (G : gG) (k17 : Nat → Int32 → Nat → Int32 → Int32 → gS → gX (Option Nat)) (l0 : Nat) (l1 : Int32) (l2 : Nat) (l4 : Int32) (l5 : Option Nat) (t0 : Int32) (S : gS) : gX (Option Nat) :=
  if t0 = 0 then
    k17 l0 l1 l2 t0 (l4 + (nI 1)) S
  else
    bd (chk S l0 9) fun _ =>
    gb (fX5_is l0 (nI 46) (nI 46) S) fun v2 S2 =>
    if v2 = 0 then
      fX5_pattern_b89 G k17 l0 l1 l2 t0 l4 S2
    else
      if (nI 4) ≤ l4 then
        fX5_pattern_b89 G k17 l0 l1 l2 t0 l4 S2
      else
        bd l5 fun a6 =>
        gb (nSt_eq a6 (some (G.2.2.1 4)) S2) fun v5 S5 =>
        if v5 = 0 then
          fX5_pattern_b90 G k17 l0 l1 l2 t0 l4 (nI 1) S5
        else
          fX5_pattern_b89 G k17 l0 l1 l2 t0 l4 S5
theorem wX5_pattern_b53 (hk : rOK Rp) (hJ : JDK l G Rp) (hst : l.stackTraces = false) (htb : c.exceptionTable.toList = []) (hc : gC p s m args meth c G RX5 "pattern" cX5_pattern 7 (some (.object "CreditBroker$Pattern"))) (k17 : Nat → Int32 → Nat → Int32 → Int32 → gS → gX (Option Nat)) (h17 : ∀ (l0 : Nat) (l1 : Int32) (l2 : Nat) (l3 : Int32) (l4 : Int32) (S : gS) (H : Heap) (locs : List Loc) (ls : Array Slot) (kc ks C N : Nat), kc + C ≤ mc → ks + N ≤ ms → hp G Rp S H → va_S G.2.2.2 s.heap H locs → lv_has ls 7 [(0, .ref l0), (1, .int l1), (2, .ref l2), (3, .int l3), (4, .int l4)] → (∀ j : Nat, oky C N (k17 l0 l1 l2 l3 l4 S) P) → W p l e (gR 17 582 mc ms) s m args below meth c H locs kc ks (gQJ below G Rp iR P args s mc ms) (F0 m 17 ls [])) (l0 : Nat) (l1 : Int32) (l2 : Nat) (l4 : Int32) (l5 : Option Nat) (t0 : Int32) (S : gS) (H : Heap) (locs : List Loc) (ls : Array Slot) (kc ks C N : Nat) (hkc : kc + C ≤ mc) (hks : ks + N ≤ ms) (hH : hp G Rp S H) (hS : va_S G.2.2.2 s.heap H locs) (hl : lv_has ls 7 [(0, .ref l0), (1, .int l1), (2, .ref l2), (4, .int l4), (5, va_rf l5)]) (hf : (∀ j : Nat, oky C N (fX5_pattern_b53 G k17 l0 l1 l2 l4 l5 t0 S) P)) : W p l e (gR 17 582 mc ms) s m args below meth c H locs kc ks (gQJ below G Rp iR P args s mc ms) (F0 m 53 ls [.int t0]) := by
  obtain ⟨hx, hb, hr, hlk, hml, hown, hts, hE, hA, hnm⟩ := hc
  have hc : gC p s m args meth c G RX5 "pattern" cX5_pattern 7 (some (.object "CreditBroker$Pattern")) := ⟨hx, hb, hr, hlk, hml, hown, hts, hE, hA, hnm⟩
  simp only [fX5_pattern_b53] at hf
  refine lv_istore_n (pc := 53) (i := 3) (lv' := [(3, .int t0), (0, .ref l0), (1, .int l1), (2, .ref l2), (4, .int l4), (5, va_rf l5)]) hx hb dX5_pattern_53 rfl hl (by decide) rfl (fun ls hl => ?_)
  refine lv_iload_n (pc := 54) hx hb dX5_pattern_54 rfl (lv_at hl 0 rfl) ?_
  refine lv_if_eq (pc := 55) (tgt := 119) hx hb dX5_pattern_55 (by decide) (fun c1 => ?_) (fun c1 => ?_)
  · simp only [if_pos c1] at hf
    refine lv_iinc (pc := 119) (v := l4 + (nI 1)) (lv' := [(4, .int (l4 + (nI 1))), (3, .int t0), (0, .ref l0), (1, .int l1), (2, .ref l2), (5, va_rf l5)]) hx hb dX5_pattern_119 hl (k := 4) rfl rfl (by decide) rfl (fun ls hl => ?_)
    refine lv_goto (pc := 122) (tgt := 17) hx hb dX5_pattern_122 (by decide) ?_
    exact h17 l0 l1 l2 t0 (l4 + (nI 1)) S _ _ ls _ _ _ _ hkc hks hH hS (lv_sub hl [2, 3, 4, 1, 0] rfl) hf
  · simp only [if_neg c1] at hf
    refine lv_aload_n (pc := 58) hx hb dX5_pattern_58 rfl (lv_at hl 1 rfl) ?_
    refine lv_bipush (pc := 59) (v := nI 46) hx hb dX5_pattern_59 gkb46 ?_
    refine lv_bipush (pc := 61) (v := nI 46) hx hb dX5_pattern_61 gkb46 ?_
    obtain ⟨_, ek2, hf⟩ := bdJ hf
    obtain ⟨v2, S2, c2, n2, c2_2, n2_2, e2, hf, hC2, hN2⟩ := gbJ hf
    refine g_callV (pc := 63) (o := (some l0)) (b := l0) (As := [.int (nI 46), .int (nI 46)]) (rest := []) (st1 := [.int v2]) hc (mX5_is hk hJ (l0 := l0) (l1 := (nI 46)) (l2 := (nI 46)) e2) (cwV 2 hts (lw_V q996 q998 qs11 q128 q999) rfl rfl rfl hdX5_is ⟨Nat.le_of_ble_eq_true rfl, Nat.le_of_ble_eq_true rfl⟩) (g_recv hE hk hH (ci := 9) (q := (RX5, TX5, 2)) rfl (chk_o ek2).choose_spec) rfl rfl hl.1 rfl rfl (lv_room (Nat.le_of_ble_eq_true rfl)) dX5_pattern_63 hH hS (by omega) (by omega) (fun H locs hH hS => ?_)
    have hkc : kc + c2 + c2_2 ≤ mc := by omega
    have hks : ks + n2 + n2_2 ≤ ms := by omega
    refine lv_if_eq (pc := 66) (tgt := 89) hx hb dX5_pattern_66 (by decide) (fun c3 => ?_) (fun c3 => ?_)
    · simp only [if_pos c3] at hf
      exact wX5_pattern_b89 hk hJ hst htb hc k17 h17 l0 l1 l2 t0 l4 S2 _ _ ls _ _ _ _ hkc hks hH hS (lv_sub hl [1, 2, 3, 0, 4] rfl) hf
    · simp only [if_neg c3] at hf
      refine lv_iload (pc := 69) hx hb dX5_pattern_69 (lv_at hl 4 rfl) ?_
      refine lv_iconst (pc := 71) (v := nI 4) hx hb dX5_pattern_71 rfl ?_
      refine lv_icmp_ge (pc := 72) (tgt := 89) hx hb dX5_pattern_72 (by decide) (fun c4 => ?_) (fun c4 => ?_)
      · simp only [if_pos c4] at hf
        exact wX5_pattern_b89 hk hJ hst htb hc k17 h17 l0 l1 l2 t0 l4 S2 _ _ ls _ _ _ _ hkc hks hH hS (lv_sub hl [1, 2, 3, 0, 4] rfl) hf
      · simp only [if_neg c4] at hf
        refine g_aload (pc := 75) (o := l5) hx hb dX5_pattern_75 (lv_at hl 5 rfl) ?_
        refine g_ldcS (pc := 77) hx hb hown hE.2.2.2.1.2.1 dX5_pattern_77 ?_
        obtain ⟨a6, ea6, hf⟩ := bdJ hf
        obtain ⟨v5, S5, c5, n5, c2_5, n2_5, e5, hf, hC5, hN5⟩ := gbJ hf
        refine g_callV (pc := 79) (o := l5) (b := a6) (As := [.ref (G.2.2.1 4)]) (rest := []) (st1 := [.int v5]) hc (j_nSt_eq hJ a6 (some (G.2.2.1 4)) S2 v5 S5 c5 n5 e5) (cwV 1 hts (lw_V q1114 q1032 q1033 q110 q1034) rfl rfl rfl hdJ9_equals ⟨Nat.le_of_ble_eq_true rfl, Nat.le_of_ble_eq_true rfl⟩) (j_recv hJ _ _ _ _ 5 _ _ hE hH hS (adtR (t := 5) (show bd _ _ = some _ from e5)).choose_spec) ea6 rfl hl.1 rfl rfl (lv_room (Nat.le_of_ble_eq_true rfl)) dX5_pattern_79 hH hS (by omega) (by omega) (fun H locs hH hS => ?_)
        have hkc : kc + c2 + c5 + c2_5 ≤ mc := by omega
        have hks : ks + n2 + n5 + n2_5 ≤ ms := by omega
        refine lv_if_ne (pc := 82) (tgt := 89) hx hb dX5_pattern_82 (by decide) (fun c7 => ?_) (fun c7 => ?_)
        · simp only [if_neg c7] at hf
          exact wX5_pattern_b89 hk hJ hst htb hc k17 h17 l0 l1 l2 t0 l4 S5 _ _ ls _ _ _ _ hkc hks hH hS (lv_sub hl [1, 2, 3, 0, 4] rfl) hf
        · simp only [if_pos c7] at hf
          refine lv_iconst (pc := 85) (v := nI 1) hx hb dX5_pattern_85 rfl ?_
          refine lv_goto (pc := 86) (tgt := 90) hx hb dX5_pattern_86 (by decide) ?_
          exact wX5_pattern_b90 hk hJ hst htb hc k17 h17 l0 l1 l2 t0 l4 (nI 1) S5 _ _ ls _ _ _ _ hkc hks hH hS (lv_sub hl [1, 2, 3, 0, 4] rfl) hf
def fX5_pattern_b17 (G : gG) : Nat → Nat → Int32 → Nat → Int32 → Int32 → gS → gX (Option Nat)
  | 0, _, _, _, _, _, _ => none
  | n + 1, l0, l1, l2, l3, l4, S =>
    if l3 = 0 then
      some (.inl (some l2), S, 0, 0)
    else
      bd (chk S l0 9) fun _ =>
      gb (fX5_part G l0 l1 S) fun r2 S2 => match r2 with
      | .inl v2 =>
        bd (chk S2 l2 8) fun _ =>
        gb (fX6_adds G l2 v2 S2) fun _ S3 =>
        bd (rdI S3 l0 9 0) fun v4 =>
        bd (rdR S3 l0 9 1) fun v5 =>
        bd v5 fun a6 =>
        bd (rdI S3 a6 0 5) fun v7 =>
        if v7 ≤ v4 then
          fX5_pattern_b53 G (fX5_pattern_b17 G n) l0 l1 l2 l4 v2 (nI 0) S3
        else
          fX5_pattern_b53 G (fX5_pattern_b17 G n) l0 l1 l2 l4 v2 (nI 1) S3
      | .inr t2 => some (.inr t2, S2, 0, 0)
theorem wX5_pattern_b17 (hk : rOK Rp) (hJ : JDK l G Rp) (hst : l.stackTraces = false) (htb : c.exceptionTable.toList = []) (hc : gC p s m args meth c G RX5 "pattern" cX5_pattern 7 (some (.object "CreditBroker$Pattern"))) : ∀ (n : Nat) (l0 : Nat) (l1 : Int32) (l2 : Nat) (l3 : Int32) (l4 : Int32) (S : gS) (H : Heap) (locs : List Loc) (ls : Array Slot) (kc ks C N : Nat), kc + C ≤ mc → ks + N ≤ ms → hp G Rp S H → va_S G.2.2.2 s.heap H locs → lv_has ls 7 [(0, .ref l0), (1, .int l1), (2, .ref l2), (3, .int l3), (4, .int l4)] → (∀ j : Nat, oky C N (fX5_pattern_b17 G n l0 l1 l2 l3 l4 S) P) → W p l e (gR 17 582 mc ms) s m args below meth c H locs kc ks (gQJ below G Rp iR P args s mc ms) (F0 m 17 ls []) := by
  obtain ⟨hx, hb, hr, hlk, hml, hown, hts, hE, hA, hnm⟩ := hc
  have hc : gC p s m args meth c G RX5 "pattern" cX5_pattern 7 (some (.object "CreditBroker$Pattern")) := ⟨hx, hb, hr, hlk, hml, hown, hts, hE, hA, hnm⟩
  intro n
  induction n with
  | zero => intro l0 l1 l2 l3 l4 S H locs ls kc ks C N _ _ _ _ _ hf; simp only [fX5_pattern_b17] at hf; exact noJ hf
  | succ n ih =>
    intro l0 l1 l2 l3 l4 S H locs ls kc ks C N hkc hks hH hS hl hf
    simp only [fX5_pattern_b17] at hf
    refine lv_iload_n (pc := 17) hx hb dX5_pattern_17 rfl (lv_at hl 3 rfl) ?_
    refine lv_if_eq (pc := 18) (tgt := 125) hx hb dX5_pattern_18 (by decide) (fun c1 => ?_) (fun c1 => ?_)
    · simp only [if_pos c1] at hf
      refine lv_aload_n (pc := 125) hx hb dX5_pattern_125 rfl (lv_at hl 2 rfl) ?_
      exact g_aretJ (pc := 126) (v := (some l2)) hx hb hr (Or.inl ⟨_, rfl⟩) hlk hH hS hkc hks hf dX5_pattern_126
    · simp only [if_neg c1] at hf
      refine lv_aload_n (pc := 21) hx hb dX5_pattern_21 rfl (lv_at hl 0 rfl) ?_
      refine lv_iload_n (pc := 22) hx hb dX5_pattern_22 rfl (lv_at hl 1 rfl) ?_
      obtain ⟨_, ek2, hf⟩ := bdJ hf
      obtain ⟨r2, S2, c2, n2, c2_2, n2_2, e2, hf, hC2, hN2⟩ := gbJ hf
      refine g_callVJ (pc := 23) (ι := iR) (o := (some l0)) (b := l0) (As := [.int l1]) (rest := []) hc (mX5_part hk hJ hst (l0 := l0) (l1 := l1) e2) (cwV 1 hts (lw_V q992 q994 qs10 q128 q995) rfl rfl rfl hdX5_part ⟨Nat.le_of_ble_eq_true rfl, Nat.le_of_ble_eq_true rfl⟩) (g_recv hE hk hH (ci := 9) (q := (RX5, TX5, 2)) rfl (chk_o ek2).choose_spec) rfl rfl hl.1 rfl (lv_room (Nat.le_of_ble_eq_true rfl)) dX5_pattern_23 hH hS (by omega) (by omega) (fun v2 S9_2 H locs hP2 hH hS => ?_) (fun E2 x2 S9_2 q2 ce2 H locs hP2 hHx hS h1_2 h2_2 h3_2 => ?_)
      · obtain ⟨rfl, rfl⟩ := hP2
        try dsimp only at hf
        have hkc : kc + c2 + c2_2 ≤ mc := by omega
        have hks : ks + n2 + n2_2 ≤ ms := by omega
        refine W.eq (g2 := F0 m 26 ls [va_rf v2]) rfl ?_
        refine g_astore (pc := 26) (i := 5) (o := v2) (lv' := [(5, va_rf v2), (0, .ref l0), (1, .int l1), (2, .ref l2), (3, .int l3), (4, .int l4)]) hx hb dX5_pattern_26 hl (by decide) rfl (fun ls hl => ?_)
        refine lv_aload_n (pc := 28) hx hb dX5_pattern_28 rfl (lv_at hl 3 rfl) ?_
        refine g_aload (pc := 29) (o := v2) hx hb dX5_pattern_29 (lv_at hl 0 rfl) ?_
        obtain ⟨_, ek3, hf⟩ := bdJ hf
        obtain ⟨_, S3, c3, n3, c2_3, n2_3, e3, hf, hC3, hN3⟩ := gbJ hf
        refine g_callV (pc := 31) (o := (some l2)) (b := l2) (As := [va_rf v2]) (rest := []) (st1 := []) hc (mX6_adds hk hJ (l0 := l2) (l1 := v2) e3) (cwV 1 hts (lw_V q1026 q1027 q1028 q129 q1029) rfl rfl rfl hdX6_adds ⟨Nat.le_of_ble_eq_true rfl, Nat.le_of_ble_eq_true rfl⟩) (g_recv hE hk hH (ci := 8) (q := (RX6, TX6, 3)) rfl (chk_o ek3).choose_spec) rfl rfl hl.1 rfl rfl (lv_room (Nat.le_of_ble_eq_true rfl)) dX5_pattern_31 hH hS (by omega) (by omega) (fun H locs hH hS => ?_)
        have hkc : kc + c2 + c3 + c2_3 ≤ mc := by omega
        have hks : ks + n2 + n3 + n2_3 ≤ ms := by omega
        refine lv_aload_n (pc := 34) hx hb dX5_pattern_34 rfl (lv_at hl 1 rfl) ?_
        obtain ⟨v4, e4, hf⟩ := bdJ hf
        refine g_get (pc := 35) (o := (some l0)) (a := l0) (ci := 9) (k := 0) (v := .int v4) (C := RX5) (T := TX5) (N := 2) hx hb hts hown hE hk hH in_X5 rfl (by decide) (hts _ q934) (fun _ h9 => h9) rfl (rdI_o e4) dX5_pattern_35 ?_
        refine lv_aload_n (pc := 38) hx hb dX5_pattern_38 rfl (lv_at hl 1 rfl) ?_
        obtain ⟨v5, e5, hf⟩ := bdJ hf
        refine g_get (pc := 39) (o := (some l0)) (a := l0) (ci := 9) (k := 1) (v := va_rf v5) (C := RX5) (T := TX5) (N := 2) hx hb hts hown hE hk hH in_X5 rfl (by decide) (hts _ q935) (fun _ h9 => h9) rfl (rdR_o e5) dX5_pattern_39 ?_
        obtain ⟨a6, ea6, hf⟩ := bdJ hf
        obtain ⟨v7, e7, hf⟩ := bdJ hf
        refine g_getN (pc := 42) (o := v5) (a := a6) (ci := 0) (k := 5) (v := .int v7) (C := RX0) (T := TX0) (N := 7) hx hb hts hown hE hk hH in_X0 rfl (by decide) (va_Nw.use rfl (hE.2.1.2.2.1 _ _ _ _ _ _ q278)) (fun _ h9 => h9) ea6 (rdI_o e7) dX5_pattern_42 ?_
        refine lv_icmp_ge (pc := 45) (tgt := 52) hx hb dX5_pattern_45 (by decide) (fun c8 => ?_) (fun c8 => ?_)
        · simp only [if_pos c8] at hf
          refine lv_iconst (pc := 52) (v := nI 0) hx hb dX5_pattern_52 rfl ?_
          exact wX5_pattern_b53 hk hJ hst htb hc (fX5_pattern_b17 G n) ih l0 l1 l2 l4 v2 (nI 0) S3 _ _ ls _ _ _ _ hkc hks hH hS (lv_sub hl [1, 2, 3, 5, 0] rfl) hf
        · simp only [if_neg c8] at hf
          refine lv_iconst (pc := 48) (v := nI 1) hx hb dX5_pattern_48 rfl ?_
          refine lv_goto (pc := 49) (tgt := 53) hx hb dX5_pattern_49 (by decide) ?_
          exact wX5_pattern_b53 hk hJ hst htb hc (fX5_pattern_b17 G n) ih l0 l1 l2 l4 v2 (nI 1) S3 _ _ ls _ _ _ _ hkc hks hH hS (lv_sub hl [1, 2, 3, 5, 0] rfl) hf
      · obtain ⟨rfl, rfl⟩ := hP2
        try dsimp only at hf
        have hkc : kc + c2 + c2_2 ≤ mc := by omega
        have hks : ks + n2 + n2_2 ≤ ms := by omega
        exact g_outJ (E := E2) (x := x2) (by rw [htb]; decide) hlk hHx hS (by omega) (by omega) h1_2 h2_2 h3_2 hf
def fX5_pattern (G : gG) (l0 : Nat) (l1 : Int32) (S : gS) : gX (Option Nat) :=
  nw S (cO 8 [.null, .null, .int 0]) 3 fun S1 =>
  bd (chk S1 l0 9) fun _ =>
  gb (fX5_text G l0 S1) fun v2 S2 =>
  gb (fX6_init S.2 v2 S2) fun _ S3 =>
  fX5_pattern_b17 G FU l0 l1 S.2 (nI 1) (nI 1) S3
theorem wX5_pattern_b0 (hk : rOK Rp) (hJ : JDK l G Rp) (hst : l.stackTraces = false) (htb : c.exceptionTable.toList = []) (hc : gC p s m args meth c G RX5 "pattern" cX5_pattern 7 (some (.object "CreditBroker$Pattern"))) (l0 : Nat) (l1 : Int32) (S : gS) (H : Heap) (locs : List Loc) (ls : Array Slot) (kc ks C N : Nat) (hkc : kc + C ≤ mc) (hks : ks + N ≤ ms) (hH : hp G Rp S H) (hS : va_S G.2.2.2 s.heap H locs) (hl : lv_has ls 7 [(0, .ref l0), (1, .int l1)]) (hf : (∀ j : Nat, oky C N (fX5_pattern G l0 l1 S) P)) : W p l e (gR 17 582 mc ms) s m args below meth c H locs kc ks (gQJ below G Rp iR P args s mc ms) (F0 m 0 ls []) := by
  obtain ⟨hx, hb, hr, hlk, hml, hown, hts, hE, hA, hnm⟩ := hc
  have hc : gC p s m args meth c G RX5 "pattern" cX5_pattern 7 (some (.object "CreditBroker$Pattern")) := ⟨hx, hb, hr, hlk, hml, hown, hts, hE, hA, hnm⟩
  simp only [fX5_pattern] at hf
  obtain ⟨S1, c2_1, n2_1, eS1, hf, hC1, hN1⟩ := nwJ hf
  refine g_newo (pc := 0) (ci := 8) (C := RX6) (T := TX6) (N := 3) (fs := [.null, .null, .int 0]) hx hb hts hown hE hA hk hH hS in_X6 tyX6_ok q945 q946 q129 rfl (fun j hj => by rcases (show j = 0 ∨ j = 1 ∨ j = 2 by omega) with rfl | rfl | rfl <;> rfl) eS1 (Nat.le_trans (by omega) hkc) (Nat.le_trans (by omega) hks) dX5_pattern_0 (fun H hH hS => ?_)
  have hkc : kc + 1 + c2_1 ≤ mc := by omega
  have hks : ks + 3 + n2_1 ≤ ms := by omega
  refine lv_dup (pc := 3) hx hb dX5_pattern_3 rfl ?_
  refine lv_aload_n (pc := 4) hx hb dX5_pattern_4 rfl (lv_at hl 0 rfl) ?_
  obtain ⟨_, ek2, hf⟩ := bdJ hf
  obtain ⟨v2, S2, c2, n2, c2_2, n2_2, e2, hf, hC2, hN2⟩ := gbJ hf
  refine g_callV (pc := 5) (o := (some l0)) (b := l0) (As := []) (rest := [.ref S.2, .ref S.2]) (st1 := [va_rf v2, .ref S.2, .ref S.2]) hc (mX5_text hk hJ (l0 := l0) e2) (cwV 0 hts (lw_V q947 q949 qs9 q128 q950) rfl rfl rfl hdX5_text ⟨Nat.le_of_ble_eq_true rfl, Nat.le_of_ble_eq_true rfl⟩) (g_recv hE hk hH (ci := 9) (q := (RX5, TX5, 2)) rfl (chk_o ek2).choose_spec) rfl rfl hl.1 rfl rfl (lv_room (Nat.le_of_ble_eq_true rfl)) dX5_pattern_5 hH hS (by omega) (by omega) (fun H locs hH hS => ?_)
  have hkc : kc + 1 + c2 + c2_2 ≤ mc := by omega
  have hks : ks + 3 + n2 + n2_2 ≤ ms := by omega
  obtain ⟨_, S3, c3, n3, c2_3, n2_3, e3, hf, hC3, hN3⟩ := gbJ hf
  refine g_callI (pc := 8) (o := (some S.2)) (b := S.2) (As := [va_rf v2]) (rest := [.ref S.2]) hc (mX6_init hk hJ (l0 := S.2) (l1 := v2) e3) (cwI 1 hts (lw_meth q978) rfl rfl rfl (hts _ q129) (hts _ q976) (hts _ q977) rfl hdiX6_init ⟨Nat.le_of_ble_eq_true rfl, Nat.le_of_ble_eq_true rfl⟩) rfl rfl hl.1 rfl (lv_room (Nat.le_of_ble_eq_true rfl)) dX5_pattern_8 hH hS (by omega) (by omega) (fun H locs hH hS => ?_)
  have hkc : kc + 1 + c2 + c3 + c2_3 ≤ mc := by omega
  have hks : ks + 3 + n2 + n3 + n2_3 ≤ ms := by omega
  refine lv_astore_n (pc := 11) (i := 2) (lv' := [(2, .ref S.2), (0, .ref l0), (1, .int l1)]) hx hb dX5_pattern_11 rfl hl (by decide) rfl (fun ls hl => ?_)
  refine lv_iconst (pc := 12) (v := nI 1) hx hb dX5_pattern_12 rfl ?_
  refine lv_istore_n (pc := 13) (i := 3) (lv' := [(3, .int (nI 1)), (2, .ref S.2), (0, .ref l0), (1, .int l1)]) hx hb dX5_pattern_13 rfl hl (by decide) rfl (fun ls hl => ?_)
  refine lv_iconst (pc := 14) (v := nI 1) hx hb dX5_pattern_14 rfl ?_
  refine lv_istore (pc := 15) (i := 4) (lv' := [(4, .int (nI 1)), (3, .int (nI 1)), (2, .ref S.2), (0, .ref l0), (1, .int l1)]) hx hb dX5_pattern_15 hl (by decide) rfl (fun ls hl => ?_)
  exact wX5_pattern_b17 hk hJ hst htb hc FU l0 l1 S.2 (nI 1) (nI 1) S3 _ _ ls _ _ _ _ hkc hks hH hS (lv_sub hl [3, 4, 2, 1, 0] rfl) hf
theorem mX5_pattern {l : Launch} {G : gG} {Rp : gM → gM → Nat → Prop} (hk : rOK Rp) (hJ : JDK l G Rp) (hst : l.stackTraces = false) {S : gS} {C N : Nat} {l0 : Nat} {l1 : Int32} {S2 : gS} {r2 : Option Nat ⊕ gTh} (hf : fX5_pattern G l0 l1 S = some (r2, S2, C, N)) : gMetJ l yX5_pattern (ws_ yX5_pattern cX5_pattern 7 (some (.object "CreditBroker$Pattern"))) 17 582 G Rp [.ref l0, .int l1] S iR (fun r S9 => r2 = r ∧ S2 = S9) C N := by
  refine g_startJ (by decide) (Nat.le_of_ble_eq_true rfl) (fun p e s m args below meth c ls hc htb hl hH => ?_)
  have hl : lv_has ls 7 [(0, .ref l0), (1, .int l1)] := hl
  exact wX5_pattern_b0 hk hJ hst htb hc l0 l1 S _ _ ls 0 0 C N (by omega) (by omega) hH va_S.rf (lv_sub hl [0, 1] rfl) (fun _ => ⟨_, _, _, _, hf, Nat.le_refl _, Nat.le_refl _, rfl, rfl⟩)
end
section
variable {P : Int32 ⊕ gTh → gS → Prop}
def fX0_queued (G : gG) (l0 : Nat) (l1 : Option Nat) (S : gS) : gX Int32 :=
  nw S (cO 9 [.int 0, .null]) 2 fun S1 =>
  gb (fX5_init S.2 (some l0) S1) fun _ S2 =>
  bd (chk S2 S.2 9) fun _ =>
  gb (fX5_pattern G S.2 (nI 1) S2) fun r3 S3 => match r3 with
  | .inl v3 =>
    bd (rdR S3 l0 0 0) fun v4 =>
    bd v4 fun a5 =>
    bd (rdR S3 a5 1 0) fun v6 =>
    bd v6 fun a8 =>
    gb (nAL_size a8  S3) fun v7 S7 =>
    if v7 = (nI 8) then
      bd (chk S7 l0 0) fun _ =>
      gb (fX0_no l0 (-86) S7) fun v28 S28 =>
      bd (wr S28 l0 0 5 (.int (nI 0))) fun S29 =>
      some (.inl v28, S29, 0, 0)
    else
      bd (rdR S7 l0 0 0) fun v10 =>
      bd v10 fun a11 =>
      bd (rdR S7 a11 1 0) fun v12 =>
      nw S7 (cO 3 [.int 0, .null, .int 0, .int 0, .int 0, .int 0, .int 0, .null, .null, .int 0, .int 0, .int 0, .int 0]) 13 fun S13 =>
      bd (rdR S13 l0 0 0) fun v14 =>
      bd v14 fun a15 =>
      bd (rdR S13 a15 1 0) fun v16 =>
      bd v16 fun a18 =>
      gb (nAL_size a18  S13) fun v17 S17 =>
      gb (fX8_init S7.2 v17 v3 l1 S17) fun _ S19 =>
      bd v12 fun a21 =>
      gb (nAL_add a21 (some S7.2) S19) fun v20 S20 =>
      bd (rdR S20 l0 0 0) fun v22 =>
      bd v22 fun a23 =>
      bd (rdR S20 a23 1 0) fun v24 =>
      bd v24 fun a26 =>
      gb (nAL_size a26  S20) fun v25 S25 =>
      bd (wr S25 l0 0 5 (.int (nI 0))) fun S27 =>
      some (.inl (v25 - (nI 1)), S27, 0, 0)
  | .inr (_, none) => none
  | .inr (E3, some q3) =>
    if E3 = "CreditBroker$Fault" then
      bd (chk S3 l0 0) fun _ =>
      gb (fX0_no l0 (-82) S3) fun v30 S30 =>
      bd (rdI S30 q3 27 6) fun v31 =>
      bd (wr S30 l0 0 5 (.int (nI 0))) fun S32 =>
      some (.inl ((-300) - v31), S32, 0, 0)
    else none
theorem wX0_queued_b0 (hk : rOK Rp) (hJ : JDK l G Rp) (hst : l.stackTraces = false) (htb : c.exceptionTable.toList = tableOf [(0, 35, 92, 216), (42, 85, 92, 216), (0, 35, 116, 0), (42, 85, 116, 0), (92, 109, 116, 0), (116, 118, 116, 0)]) (hc : gC p s m args meth c G RX0 "queued" cX0_queued 5 (some .int)) (l0 : Nat) (l1 : Option Nat) (S : gS) (H : Heap) (locs : List Loc) (ls : Array Slot) (kc ks C N : Nat) (hkc : kc + C ≤ mc) (hks : ks + N ≤ ms) (hH : hp G Rp S H) (hS : va_S G.2.2.2 s.heap H locs) (hl : lv_has ls 5 [(0, .ref l0), (1, va_rf l1)]) (hf : (∀ j : Nat, oky C N (fX0_queued G l0 l1 S) P)) : W p l e (gR 18 608 mc ms) s m args below meth c H locs kc ks (gQJ below G Rp iI P args s mc ms) (F0 m 0 ls []) := by
  obtain ⟨hx, hb, hr, hlk, hml, hown, hts, hE, hA, hnm⟩ := hc
  have hc : gC p s m args meth c G RX0 "queued" cX0_queued 5 (some .int) := ⟨hx, hb, hr, hlk, hml, hown, hts, hE, hA, hnm⟩
  simp only [fX0_queued] at hf
  obtain ⟨S1, c2_1, n2_1, eS1, hf, hC1, hN1⟩ := nwJ hf
  refine g_newo (pc := 0) (ci := 9) (C := RX5) (T := TX5) (N := 2) (fs := [.int 0, .null]) hx hb hts hown hE hA hk hH hS in_X5 tyX5_ok q928 q929 q128 rfl (fun j hj => by rcases (show j = 0 ∨ j = 1 by omega) with rfl | rfl <;> rfl) eS1 (Nat.le_trans (by omega) hkc) (Nat.le_trans (by omega) hks) dX0_queued_0 (fun H hH hS => ?_)
  have hkc : kc + 1 + c2_1 ≤ mc := by omega
  have hks : ks + 2 + n2_1 ≤ ms := by omega
  refine lv_dup (pc := 3) hx hb dX0_queued_3 rfl ?_
  refine lv_aload_n (pc := 4) hx hb dX0_queued_4 rfl (lv_at hl 0 rfl) ?_
  obtain ⟨_, S2, c2, n2, c2_2, n2_2, e2, hf, hC2, hN2⟩ := gbJ hf
  refine g_callIN (pc := 5) (o := (some S.2)) (b := S.2) (As := [.ref l0]) (rest := [.ref S.2]) hc (mX5_init hk hJ (l0 := S.2) (l1 := (some l0)) e2) q930 q932 q128 q931 rfl hdiX5_init ⟨Nat.le_of_ble_eq_true rfl, Nat.le_of_ble_eq_true rfl⟩ rfl rfl hl.1 rfl (lv_room (Nat.le_of_ble_eq_true rfl)) dX0_queued_5 hH hS (by omega) (by omega) (fun H locs hH hS => ?_)
  have hkc : kc + 1 + c2 + c2_2 ≤ mc := by omega
  have hks : ks + 2 + n2 + n2_2 ≤ ms := by omega
  refine lv_iconst (pc := 8) (v := nI 1) hx hb dX0_queued_8 rfl ?_
  obtain ⟨_, ek3, hf⟩ := bdJ hf
  obtain ⟨r3, S3, c3, n3, c2_3, n2_3, e3, hf, hC3, hN3⟩ := gbJ hf
  refine g_callVJ (pc := 9) (ι := iR) (o := (some S.2)) (b := S.2) (As := [.int (nI 1)]) (rest := []) hc (mX5_pattern hk hJ hst (l0 := S.2) (l1 := (nI 1)) e3) (cwV 1 hts (lw_V q941 q942 q943 q128 q944) rfl rfl rfl hdX5_pattern ⟨Nat.le_of_ble_eq_true rfl, Nat.le_of_ble_eq_true rfl⟩) (g_recv hE hk hH (ci := 9) (q := (RX5, TX5, 2)) rfl (chk_o ek3).choose_spec) rfl rfl hl.1 rfl (lv_room (Nat.le_of_ble_eq_true rfl)) dX0_queued_9 hH hS (by omega) (by omega) (fun v3 S9_3 H locs hP3 hH hS => ?_) (fun E3 x3 S9_3 q3 ce3 H locs hP3 hHx hS h1_3 h2_3 h3_3 => ?_)
  · obtain ⟨rfl, rfl⟩ := hP3
    try dsimp only at hf
    have hkc : kc + 1 + c2 + c3 + c2_3 ≤ mc := by omega
    have hks : ks + 2 + n2 + n3 + n2_3 ≤ ms := by omega
    refine W.eq (g2 := F0 m 12 ls [va_rf v3]) rfl ?_
    refine g_astore_n (pc := 12) (i := 2) (o := v3) (lv' := [(2, va_rf v3), (0, .ref l0), (1, va_rf l1)]) hx hb dX0_queued_12 rfl hl (by decide) (by simp [va_rf_cat, cat_i, cat_j, cat_r] <;> rfl) (fun ls hl => ?_)
    refine lv_aload_n (pc := 13) hx hb dX0_queued_13 rfl (lv_at hl 1 rfl) ?_
    obtain ⟨v4, e4, hf⟩ := bdJ hf
    refine g_get (pc := 14) (o := (some l0)) (a := l0) (ci := 0) (k := 0) (v := va_rf v4) (C := RX0) (T := TX0) (N := 7) hx hb hts hown hE hk hH in_X0 rfl (by decide) (hts _ q272) (fun _ h9 => h9) rfl (rdR_o e4) dX0_queued_14 ?_
    obtain ⟨a5, ea5, hf⟩ := bdJ hf
    obtain ⟨v6, e6, hf⟩ := bdJ hf
    refine g_get (pc := 17) (o := v4) (a := a5) (ci := 1) (k := 0) (v := va_rf v6) (C := RX1) (T := TX1) (N := 7) hx hb hts hown hE hk hH in_X1 rfl (by decide) (hts _ q232) (fun _ h9 => h9) ea5 (rdR_o e6) dX0_queued_17 ?_
    obtain ⟨a8, ea8, hf⟩ := bdJ hf
    obtain ⟨v7, S7, c7, n7, c2_7, n2_7, e7, hf, hC7, hN7⟩ := gbJ hf
    refine g_callV (pc := 20) (o := v6) (b := a8) (As := []) (rest := []) (st1 := [.int v7]) hc (j_nAL_size hJ a8  S3 v7 S7 c7 n7 e7) (cwV 0 hts (lw_V q1134 q1120 q1121 q101 q1122) rfl rfl rfl hdJ2_size ⟨Nat.le_of_ble_eq_true rfl, Nat.le_of_ble_eq_true rfl⟩) (j_recv hJ _ _ _ _ 0 _ _ hE hH hS (adtR (t := 0) (show bd _ _ = some _ from e7)).choose_spec) ea8 rfl hl.1 rfl rfl (lv_room (Nat.le_of_ble_eq_true rfl)) dX0_queued_20 hH hS (by omega) (by omega) (fun H locs hH hS => ?_)
    have hkc : kc + 1 + c2 + c3 + c7 + c2_7 ≤ mc := by omega
    have hks : ks + 2 + n2 + n3 + n7 + n2_7 ≤ ms := by omega
    refine lv_bipush (pc := 23) (v := nI 8) hx hb dX0_queued_23 gkb8 ?_
    refine lv_icmp_ne (pc := 25) (tgt := 42) hx hb dX0_queued_25 (by decide) (fun c9 => ?_) (fun c9 => ?_)
    · simp only [if_neg c9] at hf
      refine lv_aload_n (pc := 42) hx hb dX0_queued_42 rfl (lv_at hl 1 rfl) ?_
      obtain ⟨v10, e10, hf⟩ := bdJ hf
      refine g_get (pc := 43) (o := (some l0)) (a := l0) (ci := 0) (k := 0) (v := va_rf v10) (C := RX0) (T := TX0) (N := 7) hx hb hts hown hE hk hH in_X0 rfl (by decide) (hts _ q272) (fun _ h9 => h9) rfl (rdR_o e10) dX0_queued_43 ?_
      obtain ⟨a11, ea11, hf⟩ := bdJ hf
      obtain ⟨v12, e12, hf⟩ := bdJ hf
      refine g_get (pc := 46) (o := v10) (a := a11) (ci := 1) (k := 0) (v := va_rf v12) (C := RX1) (T := TX1) (N := 7) hx hb hts hown hE hk hH in_X1 rfl (by decide) (hts _ q232) (fun _ h9 => h9) ea11 (rdR_o e12) dX0_queued_46 ?_
      obtain ⟨S13, c2_13, n2_13, eS13, hf, hC13, hN13⟩ := nwJ hf
      refine g_newo (pc := 49) (ci := 3) (C := RX8) (T := TX8) (N := 13) (fs := [.int 0, .null, .int 0, .int 0, .int 0, .int 0, .int 0, .null, .null, .int 0, .int 0, .int 0, .int 0]) hx hb hts hown hE hA hk hH hS in_X8 tyX8_ok q1135 q1136 q131 rfl (fun j hj => by rcases (show j = 0 ∨ j = 1 ∨ j = 2 ∨ j = 3 ∨ j = 4 ∨ j = 5 ∨ j = 6 ∨ j = 7 ∨ j = 8 ∨ j = 9 ∨ j = 10 ∨ j = 11 ∨ j = 12 by omega) with rfl | rfl | rfl | rfl | rfl | rfl | rfl | rfl | rfl | rfl | rfl | rfl | rfl <;> rfl) eS13 (Nat.le_trans (by omega) hkc) (Nat.le_trans (by omega) hks) dX0_queued_49 (fun H hH hS => ?_)
      have hkc : kc + 1 + c2 + c3 + c7 + 1 + c2_13 ≤ mc := by omega
      have hks : ks + 2 + n2 + n3 + n7 + 13 + n2_13 ≤ ms := by omega
      refine lv_dup (pc := 52) hx hb dX0_queued_52 rfl ?_
      refine lv_aload_n (pc := 53) hx hb dX0_queued_53 rfl (lv_at hl 1 rfl) ?_
      obtain ⟨v14, e14, hf⟩ := bdJ hf
      refine g_get (pc := 54) (o := (some l0)) (a := l0) (ci := 0) (k := 0) (v := va_rf v14) (C := RX0) (T := TX0) (N := 7) hx hb hts hown hE hk hH in_X0 rfl (by decide) (hts _ q272) (fun _ h9 => h9) rfl (rdR_o e14) dX0_queued_54 ?_
      obtain ⟨a15, ea15, hf⟩ := bdJ hf
      obtain ⟨v16, e16, hf⟩ := bdJ hf
      refine g_get (pc := 57) (o := v14) (a := a15) (ci := 1) (k := 0) (v := va_rf v16) (C := RX1) (T := TX1) (N := 7) hx hb hts hown hE hk hH in_X1 rfl (by decide) (hts _ q232) (fun _ h9 => h9) ea15 (rdR_o e16) dX0_queued_57 ?_
      obtain ⟨a18, ea18, hf⟩ := bdJ hf
      obtain ⟨v17, S17, c17, n17, c2_17, n2_17, e17, hf, hC17, hN17⟩ := gbJ hf
      refine g_callV (pc := 60) (o := v16) (b := a18) (As := []) (rest := [.ref S7.2, .ref S7.2, va_rf v12]) (st1 := [.int v17, .ref S7.2, .ref S7.2, va_rf v12]) hc (j_nAL_size hJ a18  S13 v17 S17 c17 n17 e17) (cwV 0 hts (lw_V q1134 q1120 q1121 q101 q1122) rfl rfl rfl hdJ2_size ⟨Nat.le_of_ble_eq_true rfl, Nat.le_of_ble_eq_true rfl⟩) (j_recv hJ _ _ _ _ 0 _ _ hE hH hS (adtR (t := 0) (show bd _ _ = some _ from e17)).choose_spec) ea18 rfl hl.1 rfl rfl (lv_room (by simp [va_rf_cat, cat_i, cat_j, cat_r])) dX0_queued_60 hH hS (by omega) (by omega) (fun H locs hH hS => ?_)
      have hkc : kc + 1 + c2 + c3 + c7 + 1 + c17 + c2_17 ≤ mc := by omega
      have hks : ks + 2 + n2 + n3 + n7 + 13 + n17 + n2_17 ≤ ms := by omega
      refine g_aload_n (pc := 63) (o := v3) hx hb dX0_queued_63 rfl (lv_at hl 0 rfl) ?_
      refine g_aload_n (pc := 64) (o := l1) hx hb dX0_queued_64 rfl (lv_at hl 2 rfl) ?_
      obtain ⟨_, S19, c19, n19, c2_19, n2_19, e19, hf, hC19, hN19⟩ := gbJ hf
      refine g_callI (pc := 65) (o := (some S7.2)) (b := S7.2) (As := [.int v17, va_rf v3, va_rf l1]) (rest := [.ref S7.2, va_rf v12]) hc (mX8_init hk hJ (l0 := S7.2) (l1 := v17) (l2 := v3) (l3 := l1) e19) (cwI 3 hts (lw_meth q1139) rfl rfl rfl (hts _ q131) (hts _ q1137) (hts _ q1138) rfl hdiX8_init ⟨Nat.le_of_ble_eq_true rfl, Nat.le_of_ble_eq_true rfl⟩) rfl rfl hl.1 rfl (lv_room (by simp [va_rf_cat, cat_i, cat_j, cat_r])) dX0_queued_65 hH hS (by omega) (by omega) (fun H locs hH hS => ?_)
      have hkc : kc + 1 + c2 + c3 + c7 + 1 + c17 + c19 + c2_19 ≤ mc := by omega
      have hks : ks + 2 + n2 + n3 + n7 + 13 + n17 + n19 + n2_19 ≤ ms := by omega
      obtain ⟨a21, ea21, hf⟩ := bdJ hf
      obtain ⟨v20, S20, c20, n20, c2_20, n2_20, e20, hf, hC20, hN20⟩ := gbJ hf
      refine g_callV (pc := 68) (o := v12) (b := a21) (As := [.ref S7.2]) (rest := []) (st1 := [.int v20]) hc (j_nAL_add hJ a21 (some S7.2) S19 v20 S20 c20 n20 e20) (cwV 1 hts (lw_V q1209 q1040 q1041 q101 q1042) rfl rfl rfl hdJ2_add ⟨Nat.le_of_ble_eq_true rfl, Nat.le_of_ble_eq_true rfl⟩) (j_recv hJ _ _ _ _ 0 _ _ hE hH hS (adtR (t := 0) (show bd _ _ = some _ from e20)).choose_spec) ea21 rfl hl.1 rfl rfl (lv_room (Nat.le_of_ble_eq_true rfl)) dX0_queued_68 hH hS (by omega) (by omega) (fun H locs hH hS => ?_)
      have hkc : kc + 1 + c2 + c3 + c7 + 1 + c17 + c19 + c20 + c2_20 ≤ mc := by omega
      have hks : ks + 2 + n2 + n3 + n7 + 13 + n17 + n19 + n20 + n2_20 ≤ ms := by omega
      refine lv_pop (pc := 71) hx hb dX0_queued_71 rfl ?_
      refine lv_aload_n (pc := 72) hx hb dX0_queued_72 rfl (lv_at hl 1 rfl) ?_
      obtain ⟨v22, e22, hf⟩ := bdJ hf
      refine g_get (pc := 73) (o := (some l0)) (a := l0) (ci := 0) (k := 0) (v := va_rf v22) (C := RX0) (T := TX0) (N := 7) hx hb hts hown hE hk hH in_X0 rfl (by decide) (hts _ q272) (fun _ h9 => h9) rfl (rdR_o e22) dX0_queued_73 ?_
      obtain ⟨a23, ea23, hf⟩ := bdJ hf
      obtain ⟨v24, e24, hf⟩ := bdJ hf
      refine g_get (pc := 76) (o := v22) (a := a23) (ci := 1) (k := 0) (v := va_rf v24) (C := RX1) (T := TX1) (N := 7) hx hb hts hown hE hk hH in_X1 rfl (by decide) (hts _ q232) (fun _ h9 => h9) ea23 (rdR_o e24) dX0_queued_76 ?_
      obtain ⟨a26, ea26, hf⟩ := bdJ hf
      obtain ⟨v25, S25, c25, n25, c2_25, n2_25, e25, hf, hC25, hN25⟩ := gbJ hf
      refine g_callV (pc := 79) (o := v24) (b := a26) (As := []) (rest := []) (st1 := [.int v25]) hc (j_nAL_size hJ a26  S20 v25 S25 c25 n25 e25) (cwV 0 hts (lw_V q1134 q1120 q1121 q101 q1122) rfl rfl rfl hdJ2_size ⟨Nat.le_of_ble_eq_true rfl, Nat.le_of_ble_eq_true rfl⟩) (j_recv hJ _ _ _ _ 0 _ _ hE hH hS (adtR (t := 0) (show bd _ _ = some _ from e25)).choose_spec) ea26 rfl hl.1 rfl rfl (lv_room (Nat.le_of_ble_eq_true rfl)) dX0_queued_79 hH hS (by omega) (by omega) (fun H locs hH hS => ?_)
      have hkc : kc + 1 + c2 + c3 + c7 + 1 + c17 + c19 + c20 + c25 + c2_25 ≤ mc := by omega
      have hks : ks + 2 + n2 + n3 + n7 + 13 + n17 + n19 + n20 + n25 + n2_25 ≤ ms := by omega
      refine lv_iconst (pc := 82) (v := nI 1) hx hb dX0_queued_82 rfl ?_
      refine lv_isub (pc := 83) hx hb dX0_queued_83 ?_
      refine lv_istore_n (pc := 84) (i := 3) (lv' := [(3, .int (v25 - (nI 1))), (2, va_rf v3), (0, .ref l0), (1, va_rf l1)]) hx hb dX0_queued_84 rfl hl (by decide) (by simp [va_rf_cat, cat_i, cat_j, cat_r] <;> rfl) (fun ls hl => ?_)
      refine lv_aload_n (pc := 85) hx hb dX0_queued_85 rfl (lv_at hl 2 rfl) ?_
      refine lv_iconst (pc := 86) (v := nI 0) hx hb dX0_queued_86 rfl ?_
      obtain ⟨S27, e27, hf⟩ := bdJ hf
      refine g_put (pc := 87) (o := (some l0)) (a := l0) (ci := 0) (k := 5) (v := .int (nI 0)) (C := RX0) (T := TX0) (N := 7) (ty := .int) hx hb hts hown hE hk hH hS rfl in_X0 tyX0_ok nmX0 rfl (by decide) (hts _ q279) (fun _ h9 => h9) rfl rfl rfl rfl rfl e27 dX0_queued_87 (fun H locs hH hS => ?_)
      refine lv_iload_n (pc := 90) hx hb dX0_queued_90 rfl (lv_at hl 0 rfl) ?_
      exact g_iretJ (pc := 91) hx hb hr hlk hH hS hkc hks hf dX0_queued_91
    · simp only [if_pos c9] at hf
      refine lv_aload_n (pc := 28) hx hb dX0_queued_28 rfl (lv_at hl 1 rfl) ?_
      refine lv_bipush (pc := 29) (v := -86) hx hb dX0_queued_29 gkbm86 ?_
      obtain ⟨_, ek28, hf⟩ := bdJ hf
      obtain ⟨v28, S28, c28, n28, c2_28, n2_28, e28, hf, hC28, hN28⟩ := gbJ hf
      refine g_callV (pc := 31) (o := (some l0)) (b := l0) (As := [.int (-86)]) (rest := []) (st1 := [.int v28]) hc (mX0_no hk hJ (l0 := l0) (l1 := (-86)) e28) (cwV 1 hts (lw_V q398 q400 qs2 q97 q401) rfl rfl rfl hdX0_no ⟨Nat.le_of_ble_eq_true rfl, Nat.le_of_ble_eq_true rfl⟩) (g_recv hE hk hH (ci := 0) (q := (RX0, TX0, 7)) rfl (chk_o ek28).choose_spec) rfl rfl hl.1 rfl rfl (lv_room (Nat.le_of_ble_eq_true rfl)) dX0_queued_31 hH hS (by omega) (by omega) (fun H locs hH hS => ?_)
      have hkc : kc + 1 + c2 + c3 + c7 + c28 + c2_28 ≤ mc := by omega
      have hks : ks + 2 + n2 + n3 + n7 + n28 + n2_28 ≤ ms := by omega
      refine lv_istore_n (pc := 34) (i := 3) (lv' := [(3, .int v28), (2, va_rf v3), (0, .ref l0), (1, va_rf l1)]) hx hb dX0_queued_34 rfl hl (by decide) (by simp [va_rf_cat, cat_i, cat_j, cat_r] <;> rfl) (fun ls hl => ?_)
      refine lv_aload_n (pc := 35) hx hb dX0_queued_35 rfl (lv_at hl 2 rfl) ?_
      refine lv_iconst (pc := 36) (v := nI 0) hx hb dX0_queued_36 rfl ?_
      obtain ⟨S29, e29, hf⟩ := bdJ hf
      refine g_put (pc := 37) (o := (some l0)) (a := l0) (ci := 0) (k := 5) (v := .int (nI 0)) (C := RX0) (T := TX0) (N := 7) (ty := .int) hx hb hts hown hE hk hH hS rfl in_X0 tyX0_ok nmX0 rfl (by decide) (hts _ q279) (fun _ h9 => h9) rfl rfl rfl rfl rfl e29 dX0_queued_37 (fun H locs hH hS => ?_)
      refine lv_iload_n (pc := 40) hx hb dX0_queued_40 rfl (lv_at hl 0 rfl) ?_
      exact g_iretJ (pc := 41) hx hb hr hlk hH hS hkc hks hf dX0_queued_41
  · obtain ⟨rfl, rfl⟩ := hP3
    try dsimp only at hf
    have hkc : kc + 1 + c2 + c3 + c2_3 ≤ mc := by omega
    have hks : ks + 2 + n2 + n3 + n2_3 ≤ ms := by omega
    cases x3 with
    | none => exact noJ hf
    | some q9 =>
      obtain ⟨rfl, hH⟩ := hHx
      try dsimp only at hf
      by_cases hE3 : E3 = "CreditBroker$Fault"
      · simp only [if_pos hE3] at hf
        subst hE3
        refine vx_catch (own := RX0) (name := "CreditBroker$Fault") hown [] ⟨0, 35, 92, 216⟩ [⟨42, 85, 92, 216⟩, ⟨0, 35, 116, 0⟩, ⟨42, 85, 116, 0⟩, ⟨92, 109, 116, 0⟩, ⟨116, 118, 116, 0⟩] (htb.trans rfl) lp0 (by decide) (by decide) (hts _ q927) (va_Nw.use rfl (hE.2.1.1 _ _ q1009)) h1_3 h2_3 h3_3 ?_
        refine lv_astore_n (pc := 92) (i := 2) (lv' := [(2, .ref q3), (0, .ref l0), (1, va_rf l1)]) hx hb dX0_queued_92 rfl hl (by decide) (by simp [va_rf_cat, cat_i, cat_j, cat_r] <;> rfl) (fun ls hl => ?_)
        refine lv_aload_n (pc := 93) hx hb dX0_queued_93 rfl (lv_at hl 1 rfl) ?_
        refine lv_bipush (pc := 94) (v := -82) hx hb dX0_queued_94 gkbm82 ?_
        obtain ⟨_, ek30, hf⟩ := bdJ hf
        obtain ⟨v30, S30, c30, n30, c2_30, n2_30, e30, hf, hC30, hN30⟩ := gbJ hf
        refine g_callV (pc := 96) (o := (some l0)) (b := l0) (As := [.int (-82)]) (rest := []) (st1 := [.int v30]) hc (mX0_no hk hJ (l0 := l0) (l1 := (-82)) e30) (cwV 1 hts (lw_V q398 q400 qs2 q97 q401) rfl rfl rfl hdX0_no ⟨Nat.le_of_ble_eq_true rfl, Nat.le_of_ble_eq_true rfl⟩) (g_recv hE hk hH (ci := 0) (q := (RX0, TX0, 7)) rfl (chk_o ek30).choose_spec) rfl rfl hl.1 rfl rfl (lv_room (Nat.le_of_ble_eq_true rfl)) dX0_queued_96 hH hS (by omega) (by omega) (fun H locs hH hS => ?_)
        have hkc : kc + 1 + c2 + c3 + c30 + c2_30 ≤ mc := by omega
        have hks : ks + 2 + n2 + n3 + n30 + n2_30 ≤ ms := by omega
        refine lv_pop (pc := 99) hx hb dX0_queued_99 rfl ?_
        refine lv_sipush (pc := 100) (v := -300) hx hb dX0_queued_100 gksm300 ?_
        refine lv_aload_n (pc := 103) hx hb dX0_queued_103 rfl (lv_at hl 0 rfl) ?_
        obtain ⟨v31, e31, hf⟩ := bdJ hf
        refine g_get (pc := 104) (o := (some q3)) (a := q3) (ci := 27) (k := 6) (v := .int v31) (C := RX7) (T := TX7) (N := 7) hx hb hts hown hE hk hH in_X7 rfl (by decide) (hts _ q1021) (fun _ h9 => h9) rfl (rdI_o e31) dX0_queued_104 ?_
        refine lv_isub (pc := 107) hx hb dX0_queued_107 ?_
        refine lv_istore_n (pc := 108) (i := 3) (lv' := [(3, .int ((-300) - v31)), (2, .ref q3), (0, .ref l0), (1, va_rf l1)]) hx hb dX0_queued_108 rfl hl (by decide) rfl (fun ls hl => ?_)
        refine lv_aload_n (pc := 109) hx hb dX0_queued_109 rfl (lv_at hl 2 rfl) ?_
        refine lv_iconst (pc := 110) (v := nI 0) hx hb dX0_queued_110 rfl ?_
        obtain ⟨S32, e32, hf⟩ := bdJ hf
        refine g_put (pc := 111) (o := (some l0)) (a := l0) (ci := 0) (k := 5) (v := .int (nI 0)) (C := RX0) (T := TX0) (N := 7) (ty := .int) hx hb hts hown hE hk hH hS rfl in_X0 tyX0_ok nmX0 rfl (by decide) (hts _ q279) (fun _ h9 => h9) rfl rfl rfl rfl rfl e32 dX0_queued_111 (fun H locs hH hS => ?_)
        refine lv_iload_n (pc := 114) hx hb dX0_queued_114 rfl (lv_at hl 0 rfl) ?_
        exact g_iretJ (pc := 115) hx hb hr hlk hH hS hkc hks hf dX0_queued_115
      · simp only [if_neg hE3] at hf
        exact noJ hf
theorem mX0_queued {l : Launch} {G : gG} {Rp : gM → gM → Nat → Prop} (hk : rOK Rp) (hJ : JDK l G Rp) (hst : l.stackTraces = false) {S : gS} {C N : Nat} {l0 : Nat} {l1 : Option Nat} {S2 : gS} {r2 : Int32} (hf : fX0_queued G l0 l1 S = some (.inl r2, S2, C, N)) : gMetW l yX0_queued cX0_queued 5 (some .int) [(0, 35, 92, 216), (42, 85, 92, 216), (0, 35, 116, 0), (42, 85, 116, 0), (92, 109, 116, 0), (116, 118, 116, 0)] 18 608 G Rp [.ref l0, va_rf l1] S (some (.int r2)) S2 C N := by
  refine gMetJ_W (ι := iI) (r2 := r2) ?_
  refine g_startJW (by decide) (by simp [lg_sl, va_rf_cat, cat_i, cat_j, cat_r]) (fun p e s m args below meth c ls hc htb hl hH => ?_)
  have hl : lv_has ls 5 [(0, .ref l0), (1, va_rf l1)] := by simpa [lv_args, va_rf_cat, cat_i, cat_j, cat_r] using hl
  exact wX0_queued_b0 hk hJ hst htb hc l0 l1 S _ _ ls 0 0 C N (by omega) (by omega) hH va_S.rf (lv_sub hl [0, 1] rfl) (fun _ => ⟨_, _, _, _, hf, Nat.le_refl _, Nat.le_refl _, rfl, rfl⟩)
end
section
variable {r : Int32} {Sf : gS}
def fX0_queue (G : gG) (l0 : Nat) (l1 : Int32) (l2 : Int32) (l3 : Int32) (l4 : Int32) (S : gS) : gO Int32 :=
  nwa S 4 (nI 4) fun S1 =>
  gb (fX0_isIn l1 (nI 1) (nI 20) S1) fun v2 S2 =>
  bd (wrAz S2 S.2 (nI 0) v2) fun S3 =>
  gb (fX0_isIn l2 (nI 1) (nI 5) S3) fun v4 S4 =>
  bd (wrAz S4 S.2 (nI 1) v4) fun S5 =>
  gb (fX0_isIn l3 (nI 1) (nI 99) S5) fun v6 S6 =>
  bd (wrAz S6 S.2 (nI 2) v6) fun S7 =>
  gb (fX0_isIn l4 (nI 0) (nI 999) S7) fun v8 S8 =>
  bd (wrAz S8 S.2 (nI 3) v8) fun S9 =>
  gb (fX0_are (some S.2) S9) fun v10 S10 =>
  if v10 = 0 then
    bd (chk S10 l0 0) fun _ =>
    gb (fX0_no l0 (-82) S10) fun v12 S12 =>
    some (v12, S12, 0, 0)
  else
    nwa S10 0 (nI 4) fun S13 =>
    bd (wrAi S13 S10.2 (nI 0) l1) fun S14 =>
    bd (wrAi S14 S10.2 (nI 1) l2) fun S15 =>
    bd (wrAi S15 S10.2 (nI 2) l3) fun S16 =>
    bd (wrAi S16 S10.2 (nI 3) l4) fun S17 =>
    bd (chk S17 l0 0) fun _ =>
    gb (xin (fX0_queued G l0 (some S10.2) S17)) fun v18 S18 =>
    some (v18, S18, 0, 0)
theorem wX0_queue_b0 (hk : rOK Rp) (hJ : JDK l G Rp) (hst : l.stackTraces = false) (hc : gC p s m args meth c G RX0 "queue" cX0_queue 6 (some .int)) (l0 : Nat) (l1 : Int32) (l2 : Int32) (l3 : Int32) (l4 : Int32) (S : gS) (H : Heap) (locs : List Loc) (ls : Array Slot) (kc ks C N : Nat) (hkc : kc + C ≤ mc) (hks : ks + N ≤ ms) (hH : hp G Rp S H) (hS : va_S G.2.2.2 s.heap H locs) (hl : lv_has ls 6 [(0, .ref l0), (1, .int l1), (2, .int l2), (3, .int l3), (4, .int l4)]) (hf : fX0_queue G l0 l1 l2 l3 l4 S = some (r, Sf, C, N)) : W p l e (gR 19 632 mc ms) s m args below meth c H locs kc ks (gQ below G Rp (some (.int r)) Sf args s mc ms) (F0 m 0 ls []) := by
  obtain ⟨hx, hb, hr, hlk, hml, hown, hts, hE, hA, hnm⟩ := hc
  have hc : gC p s m args meth c G RX0 "queue" cX0_queue 6 (some .int) := ⟨hx, hb, hr, hlk, hml, hown, hts, hE, hA, hnm⟩
  unfold fX0_queue at hf
  refine lv_iconst (pc := 0) (v := nI 4) hx hb dX0_queue_0 rfl ?_
  obtain ⟨hn1, hi1, S1, c2_1, n2_1, eS1, hf, hC1, hN1⟩ := nwao hf
  refine g_newa (pc := 1) (atype := .boolean) (ty := .boolean) (t := 4) hx hb hts hE hA hk hH hS q407 rfl rfl rfl (fun _ h => by cases h) hn1 hi1 eS1 (by decide) (Nat.le_trans (by omega) hkc) (Nat.le_trans (by omega) hks) dX0_queue_1 (fun H hH hS => ?_)
  have hkc : kc + 1 + c2_1 ≤ mc := by omega
  have hks : ks + (nI 4).toNatClampNeg + n2_1 ≤ ms := by omega
  refine lv_dup (pc := 3) hx hb dX0_queue_3 rfl ?_
  refine lv_iconst (pc := 4) (v := nI 0) hx hb dX0_queue_4 rfl ?_
  refine lv_iload_n (pc := 5) hx hb dX0_queue_5 rfl (lv_at hl 1 rfl) ?_
  refine lv_iconst (pc := 6) (v := nI 1) hx hb dX0_queue_6 rfl ?_
  refine lv_bipush (pc := 7) (v := nI 20) hx hb dX0_queue_7 gkb20 ?_
  obtain ⟨v2, S2, c2, n2, c2_2, n2_2, e2, hf, hC2, hN2⟩ := gbo hf
  refine g_callS (pc := 9) (As := [.int l1, .int (nI 1), .int (nI 20)]) (rest := [.int (nI 0), .ref S.2, .ref S.2]) (st1 := [.int v2, .int (nI 0), .ref S.2, .ref S.2]) hc (mX0_isIn hk hJ (l0 := l1) (l1 := (nI 1)) (l2 := (nI 20)) e2) (va_cwS 3 hts (lw_S q395 q396 q97 q397) rfl rfl rfl hdX0_isIn ⟨Nat.le_of_ble_eq_true rfl, Nat.le_of_ble_eq_true rfl⟩) rfl hl.1 rfl rfl (lv_room (Nat.le_of_ble_eq_true rfl)) dX0_queue_9 hH hS (by omega) (by omega) (fun H locs hH hS => ?_)
  have hkc : kc + 1 + c2 + c2_2 ≤ mc := by omega
  have hks : ks + (nI 4).toNatClampNeg + n2 + n2_2 ≤ ms := by omega
  obtain ⟨S3, e3, hf⟩ := bdo hf
  refine g_zast (pc := 12) (o := (some S.2)) (a := S.2) hx hb hE hk hH hS rfl e3 dX0_queue_12 (fun H locs hH hS => ?_)
  refine lv_dup (pc := 13) hx hb dX0_queue_13 rfl ?_
  refine lv_iconst (pc := 14) (v := nI 1) hx hb dX0_queue_14 rfl ?_
  refine lv_iload_n (pc := 15) hx hb dX0_queue_15 rfl (lv_at hl 2 rfl) ?_
  refine lv_iconst (pc := 16) (v := nI 1) hx hb dX0_queue_16 rfl ?_
  refine lv_iconst (pc := 17) (v := nI 5) hx hb dX0_queue_17 rfl ?_
  obtain ⟨v4, S4, c4, n4, c2_4, n2_4, e4, hf, hC4, hN4⟩ := gbo hf
  refine g_callS (pc := 18) (As := [.int l2, .int (nI 1), .int (nI 5)]) (rest := [.int (nI 1), .ref S.2, .ref S.2]) (st1 := [.int v4, .int (nI 1), .ref S.2, .ref S.2]) hc (mX0_isIn hk hJ (l0 := l2) (l1 := (nI 1)) (l2 := (nI 5)) e4) (va_cwS 3 hts (lw_S q395 q396 q97 q397) rfl rfl rfl hdX0_isIn ⟨Nat.le_of_ble_eq_true rfl, Nat.le_of_ble_eq_true rfl⟩) rfl hl.1 rfl rfl (lv_room (Nat.le_of_ble_eq_true rfl)) dX0_queue_18 hH hS (by omega) (by omega) (fun H locs hH hS => ?_)
  have hkc : kc + 1 + c2 + c4 + c2_4 ≤ mc := by omega
  have hks : ks + (nI 4).toNatClampNeg + n2 + n4 + n2_4 ≤ ms := by omega
  obtain ⟨S5, e5, hf⟩ := bdo hf
  refine g_zast (pc := 21) (o := (some S.2)) (a := S.2) hx hb hE hk hH hS rfl e5 dX0_queue_21 (fun H locs hH hS => ?_)
  refine lv_dup (pc := 22) hx hb dX0_queue_22 rfl ?_
  refine lv_iconst (pc := 23) (v := nI 2) hx hb dX0_queue_23 rfl ?_
  refine lv_iload_n (pc := 24) hx hb dX0_queue_24 rfl (lv_at hl 3 rfl) ?_
  refine lv_iconst (pc := 25) (v := nI 1) hx hb dX0_queue_25 rfl ?_
  refine lv_bipush (pc := 26) (v := nI 99) hx hb dX0_queue_26 gkb99 ?_
  obtain ⟨v6, S6, c6, n6, c2_6, n2_6, e6, hf, hC6, hN6⟩ := gbo hf
  refine g_callS (pc := 28) (As := [.int l3, .int (nI 1), .int (nI 99)]) (rest := [.int (nI 2), .ref S.2, .ref S.2]) (st1 := [.int v6, .int (nI 2), .ref S.2, .ref S.2]) hc (mX0_isIn hk hJ (l0 := l3) (l1 := (nI 1)) (l2 := (nI 99)) e6) (va_cwS 3 hts (lw_S q395 q396 q97 q397) rfl rfl rfl hdX0_isIn ⟨Nat.le_of_ble_eq_true rfl, Nat.le_of_ble_eq_true rfl⟩) rfl hl.1 rfl rfl (lv_room (Nat.le_of_ble_eq_true rfl)) dX0_queue_28 hH hS (by omega) (by omega) (fun H locs hH hS => ?_)
  have hkc : kc + 1 + c2 + c4 + c6 + c2_6 ≤ mc := by omega
  have hks : ks + (nI 4).toNatClampNeg + n2 + n4 + n6 + n2_6 ≤ ms := by omega
  obtain ⟨S7, e7, hf⟩ := bdo hf
  refine g_zast (pc := 31) (o := (some S.2)) (a := S.2) hx hb hE hk hH hS rfl e7 dX0_queue_31 (fun H locs hH hS => ?_)
  refine lv_dup (pc := 32) hx hb dX0_queue_32 rfl ?_
  refine lv_iconst (pc := 33) (v := nI 3) hx hb dX0_queue_33 rfl ?_
  refine lv_iload (pc := 34) hx hb dX0_queue_34 (lv_at hl 4 rfl) ?_
  refine lv_iconst (pc := 36) (v := nI 0) hx hb dX0_queue_36 rfl ?_
  refine lv_sipush (pc := 37) (v := nI 999) hx hb dX0_queue_37 gks999 ?_
  obtain ⟨v8, S8, c8, n8, c2_8, n2_8, e8, hf, hC8, hN8⟩ := gbo hf
  refine g_callS (pc := 40) (As := [.int l4, .int (nI 0), .int (nI 999)]) (rest := [.int (nI 3), .ref S.2, .ref S.2]) (st1 := [.int v8, .int (nI 3), .ref S.2, .ref S.2]) hc (mX0_isIn hk hJ (l0 := l4) (l1 := (nI 0)) (l2 := (nI 999)) e8) (va_cwS 3 hts (lw_S q395 q396 q97 q397) rfl rfl rfl hdX0_isIn ⟨Nat.le_of_ble_eq_true rfl, Nat.le_of_ble_eq_true rfl⟩) rfl hl.1 rfl rfl (lv_room (Nat.le_of_ble_eq_true rfl)) dX0_queue_40 hH hS (by omega) (by omega) (fun H locs hH hS => ?_)
  have hkc : kc + 1 + c2 + c4 + c6 + c8 + c2_8 ≤ mc := by omega
  have hks : ks + (nI 4).toNatClampNeg + n2 + n4 + n6 + n8 + n2_8 ≤ ms := by omega
  obtain ⟨S9, e9, hf⟩ := bdo hf
  refine g_zast (pc := 43) (o := (some S.2)) (a := S.2) hx hb hE hk hH hS rfl e9 dX0_queue_43 (fun H locs hH hS => ?_)
  obtain ⟨v10, S10, c10, n10, c2_10, n2_10, e10, hf, hC10, hN10⟩ := gbo hf
  refine g_callS (pc := 44) (As := [.ref S.2]) (rest := []) (st1 := [.int v10]) hc (mX0_are hk hJ (l0 := (some S.2)) e10) (va_cwS 1 hts (lw_S q1127 q1128 q97 q1129) rfl rfl rfl hdX0_are ⟨Nat.le_of_ble_eq_true rfl, Nat.le_of_ble_eq_true rfl⟩) rfl hl.1 rfl rfl (lv_room (Nat.le_of_ble_eq_true rfl)) dX0_queue_44 hH hS (by omega) (by omega) (fun H locs hH hS => ?_)
  have hkc : kc + 1 + c2 + c4 + c6 + c8 + c10 + c2_10 ≤ mc := by omega
  have hks : ks + (nI 4).toNatClampNeg + n2 + n4 + n6 + n8 + n10 + n2_10 ≤ ms := by omega
  refine lv_istore (pc := 47) (i := 5) (lv' := [(5, .int v10), (0, .ref l0), (1, .int l1), (2, .int l2), (3, .int l3), (4, .int l4)]) hx hb dX0_queue_47 hl (by decide) rfl (fun ls hl => ?_)
  refine lv_iload (pc := 49) hx hb dX0_queue_49 (lv_at hl 0 rfl) ?_
  refine lv_if_eq (pc := 51) (tgt := 81) hx hb dX0_queue_51 (by decide) (fun c11 => ?_) (fun c11 => ?_)
  · rw [if_pos c11] at hf
    refine lv_aload_n (pc := 81) hx hb dX0_queue_81 rfl (lv_at hl 1 rfl) ?_
    refine lv_bipush (pc := 82) (v := -82) hx hb dX0_queue_82 gkbm82 ?_
    obtain ⟨_, ek12, hf⟩ := bdo hf
    obtain ⟨v12, S12, c12, n12, c2_12, n2_12, e12, hf, hC12, hN12⟩ := gbo hf
    refine g_callV (pc := 84) (o := (some l0)) (b := l0) (As := [.int (-82)]) (rest := []) (st1 := [.int v12]) hc (mX0_no hk hJ (l0 := l0) (l1 := (-82)) e12) (cwV 1 hts (lw_V q398 q400 qs2 q97 q401) rfl rfl rfl hdX0_no ⟨Nat.le_of_ble_eq_true rfl, Nat.le_of_ble_eq_true rfl⟩) (g_recv hE hk hH (ci := 0) (q := (RX0, TX0, 7)) rfl (chk_o ek12).choose_spec) rfl rfl hl.1 rfl rfl (lv_room (Nat.le_of_ble_eq_true rfl)) dX0_queue_84 hH hS (by omega) (by omega) (fun H locs hH hS => ?_)
    have hkc : kc + 1 + c2 + c4 + c6 + c8 + c10 + c12 + c2_12 ≤ mc := by omega
    have hks : ks + (nI 4).toNatClampNeg + n2 + n4 + n6 + n8 + n10 + n12 + n2_12 ≤ ms := by omega
    exact g_iret (pc := 87) hx hb hr hlk hH hS hkc hks hf dX0_queue_87
  · rw [if_neg c11] at hf
    refine lv_aload_n (pc := 54) hx hb dX0_queue_54 rfl (lv_at hl 1 rfl) ?_
    refine lv_iconst (pc := 55) (v := nI 4) hx hb dX0_queue_55 rfl ?_
    obtain ⟨hn13, hi13, S13, c2_13, n2_13, eS13, hf, hC13, hN13⟩ := nwao hf
    refine g_newa (pc := 56) (atype := .int) (ty := .int) (t := 0) hx hb hts hE hA hk hH hS q271 rfl rfl rfl (fun _ h => by cases h) hn13 hi13 eS13 (by decide) (Nat.le_trans (by omega) hkc) (Nat.le_trans (by omega) hks) dX0_queue_56 (fun H hH hS => ?_)
    have hkc : kc + 1 + c2 + c4 + c6 + c8 + c10 + 1 + c2_13 ≤ mc := by omega
    have hks : ks + (nI 4).toNatClampNeg + n2 + n4 + n6 + n8 + n10 + (nI 4).toNatClampNeg + n2_13 ≤ ms := by omega
    refine lv_dup (pc := 58) hx hb dX0_queue_58 rfl ?_
    refine lv_iconst (pc := 59) (v := nI 0) hx hb dX0_queue_59 rfl ?_
    refine lv_iload_n (pc := 60) hx hb dX0_queue_60 rfl (lv_at hl 2 rfl) ?_
    obtain ⟨S14, e14, hf⟩ := bdo hf
    refine g_iast (pc := 61) (o := (some S10.2)) (a := S10.2) hx hb hE hk hH hS rfl e14 dX0_queue_61 (fun H locs hH hS => ?_)
    refine lv_dup (pc := 62) hx hb dX0_queue_62 rfl ?_
    refine lv_iconst (pc := 63) (v := nI 1) hx hb dX0_queue_63 rfl ?_
    refine lv_iload_n (pc := 64) hx hb dX0_queue_64 rfl (lv_at hl 3 rfl) ?_
    obtain ⟨S15, e15, hf⟩ := bdo hf
    refine g_iast (pc := 65) (o := (some S10.2)) (a := S10.2) hx hb hE hk hH hS rfl e15 dX0_queue_65 (fun H locs hH hS => ?_)
    refine lv_dup (pc := 66) hx hb dX0_queue_66 rfl ?_
    refine lv_iconst (pc := 67) (v := nI 2) hx hb dX0_queue_67 rfl ?_
    refine lv_iload_n (pc := 68) hx hb dX0_queue_68 rfl (lv_at hl 4 rfl) ?_
    obtain ⟨S16, e16, hf⟩ := bdo hf
    refine g_iast (pc := 69) (o := (some S10.2)) (a := S10.2) hx hb hE hk hH hS rfl e16 dX0_queue_69 (fun H locs hH hS => ?_)
    refine lv_dup (pc := 70) hx hb dX0_queue_70 rfl ?_
    refine lv_iconst (pc := 71) (v := nI 3) hx hb dX0_queue_71 rfl ?_
    refine lv_iload (pc := 72) hx hb dX0_queue_72 (lv_at hl 5 rfl) ?_
    obtain ⟨S17, e17, hf⟩ := bdo hf
    refine g_iast (pc := 74) (o := (some S10.2)) (a := S10.2) hx hb hE hk hH hS rfl e17 dX0_queue_74 (fun H locs hH hS => ?_)
    obtain ⟨_, ek18, hf⟩ := bdo hf
    obtain ⟨v18, S18, c18, n18, c2_18, n2_18, e18, hf, hC18, hN18⟩ := gbo hf
    refine g_callVW (pc := 75) (o := (some l0)) (b := l0) (As := [.ref S10.2]) (rest := []) (st1 := [.int v18]) hc (mX0_queued hk hJ hst (l0 := l0) (l1 := (some S10.2)) (xin_o e18)) (vx_cwVW 1 hts (lw_VW q1130 q1132 qs16 q97 q1133) rfl rfl rfl hdX0_queued ⟨Nat.le_of_ble_eq_true rfl, Nat.le_of_ble_eq_true rfl⟩) (g_recv hE hk hH (ci := 0) (q := (RX0, TX0, 7)) rfl (chk_o ek18).choose_spec) rfl rfl hl.1 rfl rfl (lv_room (Nat.le_of_ble_eq_true rfl)) dX0_queue_75 hH hS (by omega) (by omega) (fun H locs hH hS => ?_)
    have hkc : kc + 1 + c2 + c4 + c6 + c8 + c10 + 1 + c18 + c2_18 ≤ mc := by omega
    have hks : ks + (nI 4).toNatClampNeg + n2 + n4 + n6 + n8 + n10 + (nI 4).toNatClampNeg + n18 + n2_18 ≤ ms := by omega
    refine lv_goto (pc := 78) (tgt := 87) hx hb dX0_queue_78 (by decide) ?_
    exact g_iret (pc := 87) hx hb hr hlk hH hS hkc hks hf dX0_queue_87
theorem mX0_queue {l : Launch} {G : gG} {Rp : gM → gM → Nat → Prop} (hk : rOK Rp) (hJ : JDK l G Rp) (hst : l.stackTraces = false) {S S2 : gS} {r2 : Int32} {C N : Nat} {l0 : Nat} {l1 : Int32} {l2 : Int32} {l3 : Int32} {l4 : Int32} (hf : fX0_queue G l0 l1 l2 l3 l4 S = some (r2, S2, C, N)) : gMet l yX0_queue cX0_queue 6 (some .int) 19 632 G Rp [.ref l0, .int l1, .int l2, .int l3, .int l4] S (some (.int r2)) S2 C N := by
  refine g_start (by decide) (Nat.le_of_ble_eq_true rfl) (fun p e s m args below meth c ls hc hl hH => ?_)
  have hl : lv_has ls 6 [(0, .ref l0), (1, .int l1), (2, .int l2), (3, .int l3), (4, .int l4)] := hl
  exact wX0_queue_b0 hk hJ hst hc l0 l1 l2 l3 l4 S _ _ ls 0 0 C N (by omega) (by omega) hH va_S.rf (lv_sub hl [0, 1, 2, 3, 4] rfl) hf
end
section
variable {r : Int32} {Sf : gS}
def fX0_queueOf_b18 (G : gG) (l0 : Nat) (S : gS) : gO Int32 :=
  bd (chk S l0 0) fun _ =>
  gb (fX0_no l0 (-82) S) fun v1 S1 =>
  some (v1, S1, 0, 0)
theorem wX0_queueOf_b18 (hk : rOK Rp) (hJ : JDK l G Rp) (hc : gC p s m args meth c G RX0 "queueOf" cX0_queueOf 4 (some .int)) (hnd : s.methodNamed? yX0_queueOf = some m) (l0 : Nat) (S : gS) (H : Heap) (locs : List Loc) (ls : Array Slot) (kc ks C N : Nat) (hkc : kc + C ≤ mc) (hks : ks + N ≤ ms) (hH : hp G Rp S H) (hS : va_S G.2.2.2 s.heap H locs) (hl : lv_has ls 4 [(0, .ref l0)]) (hf : fX0_queueOf_b18 G l0 S = some (r, Sf, C, N)) : W p l e (gR 16 3300 mc ms) s m args below meth c H locs kc ks (gQ below G Rp (some (.int r)) Sf args s mc ms) (F0 m 18 ls []) := by
  obtain ⟨hx, hb, hr, hlk, hml, hown, hts, hE, hA, hnm⟩ := hc
  have hc : gC p s m args meth c G RX0 "queueOf" cX0_queueOf 4 (some .int) := ⟨hx, hb, hr, hlk, hml, hown, hts, hE, hA, hnm⟩
  unfold fX0_queueOf_b18 at hf
  refine lv_aload_n (pc := 18) hx hb dX0_queueOf_18 rfl (lv_at hl 0 rfl) ?_
  refine lv_bipush (pc := 19) (v := -82) hx hb dX0_queueOf_19 gkbm82 ?_
  obtain ⟨_, ek1, hf⟩ := bdo hf
  obtain ⟨v1, S1, c1, n1, c2_1, n2_1, e1, hf, hC1, hN1⟩ := gbo hf
  refine g_callV (pc := 21) (o := (some l0)) (b := l0) (As := [.int (-82)]) (rest := []) (st1 := [.int v1]) hc (mX0_no hk hJ (l0 := l0) (l1 := (-82)) e1) (cwV 1 hts (lw_V q398 q400 qs2 q97 q401) rfl rfl rfl hdX0_no ⟨Nat.le_of_ble_eq_true rfl, Nat.le_of_ble_eq_true rfl⟩) (g_recv hE hk hH (ci := 0) (q := (RX0, TX0, 7)) rfl (chk_o ek1).choose_spec) rfl rfl hl.1 rfl rfl (lv_room (Nat.le_of_ble_eq_true rfl)) dX0_queueOf_21 hH hS (by omega) (by omega) (fun H locs hH hS => ?_)
  have hkc : kc + c1 + c2_1 ≤ mc := by omega
  have hks : ks + n1 + n2_1 ≤ ms := by omega
  exact g_iret (pc := 24) hx hb hr hlk hH hS hkc hks hf dX0_queueOf_24
def fX0_queueOf_b98 (G : gG) (l2 : Int32) (l3 : Option Nat) (S : gS) : gO Int32 :=
  nw S (cAi 22 1 (fun _ => l2)) 1 fun S1 =>
  bd l3 fun a3 =>
  bd (chk S1 a3 3) fun _ =>
  gb (fX8_many G a3 (some S.2) S1) fun v2 S2 =>
  some (v2, S2, 0, 0)
theorem wX0_queueOf_b98 (hk : rOK Rp) (hJ : JDK l G Rp) (hc : gC p s m args meth c G RX0 "queueOf" cX0_queueOf 4 (some .int)) (hnd : s.methodNamed? yX0_queueOf = some m) (l2 : Int32) (l3 : Option Nat) (S : gS) (H : Heap) (locs : List Loc) (ls : Array Slot) (kc ks C N : Nat) (hkc : kc + C ≤ mc) (hks : ks + N ≤ ms) (hH : hp G Rp S H) (hS : va_S G.2.2.2 s.heap H locs) (hl : lv_has ls 4 [(2, .int l2), (3, va_rf l3)]) (hf : fX0_queueOf_b98 G l2 l3 S = some (r, Sf, C, N)) : W p l e (gR 16 3300 mc ms) s m args below meth c H locs kc ks (gQ below G Rp (some (.int r)) Sf args s mc ms) (F0 m 98 ls []) := by
  obtain ⟨hx, hb, hr, hlk, hml, hown, hts, hE, hA, hnm⟩ := hc
  have hc : gC p s m args meth c G RX0 "queueOf" cX0_queueOf 4 (some .int) := ⟨hx, hb, hr, hlk, hml, hown, hts, hE, hA, hnm⟩
  unfold fX0_queueOf_b98 at hf
  refine g_aload_n (pc := 98) (o := l3) hx hb dX0_queueOf_98 rfl (lv_at hl 1 rfl) ?_
  refine lv_iload_n (pc := 99) hx hb dX0_queueOf_99 rfl (lv_at hl 0 rfl) ?_
  obtain ⟨S1, c2_1, n2_1, eS1, hf, hC1, hN1⟩ := nwo hf
  refine g_lamMake (pc := 100) (t := 22) (v := .int l2) (cel := cAi 22 1 (fun _ => l2)) (a0 := (1, .inl (fun _ => l2))) (x := lxW) (y := yX0_lambda_queueOf_1) hx hb hml hts hE hA hk hH hS lC2 (gE_L hE).2.2.2.1 rfl (hts _ q3371) ly2 lx2 (static_ex (hts _ q2437)).choose_spec.choose_spec.1 (va_any rfl (gE_L hE).1.2) hnd lT2 rfl rfl rfl rfl rfl (fun _ => rfl) eS1 hl.1 (by simp [gR, va_rf_cat, cat_i, cat_j, cat_r]) (Nat.le_trans (by omega) hkc) (Nat.le_trans (by omega) hks) dX0_queueOf_100 (fun H hH hS => ?_)
  have hkc : kc + 1 + c2_1 ≤ mc := by omega
  have hks : ks + 1 + n2_1 ≤ ms := by omega
  obtain ⟨a3, ea3, hf⟩ := bdo hf
  obtain ⟨_, ek2, hf⟩ := bdo hf
  obtain ⟨v2, S2, c2, n2, c2_2, n2_2, e2, hf, hC2, hN2⟩ := gbo hf
  refine g_callV (pc := 105) (o := l3) (b := a3) (As := [.ref S.2]) (rest := []) (st1 := [.int v2]) hc (mX8_many hk hJ (l0 := a3) (l1 := (some S.2)) e2) (cwV 1 hts (lw_V q1856 q1857 q1858 q131 q1859) rfl rfl rfl hdX8_many ⟨Nat.le_of_ble_eq_true rfl, Nat.le_of_ble_eq_true rfl⟩) (g_recv hE hk hH (ci := 3) (q := (RX8, TX8, 13)) rfl (chk_o ek2).choose_spec) ea3 rfl hl.1 rfl rfl (lv_room (Nat.le_of_ble_eq_true rfl)) dX0_queueOf_105 hH hS (by omega) (by omega) (fun H locs hH hS => ?_)
  have hkc : kc + 1 + c2 + c2_2 ≤ mc := by omega
  have hks : ks + 1 + n2 + n2_2 ≤ ms := by omega
  refine lv_goto (pc := 108) (tgt := 172) hx hb dX0_queueOf_108 (by decide) ?_
  exact g_iret (pc := 172) hx hb hr hlk hH hS hkc hks hf dX0_queueOf_172
def fX0_queueOf (G : gG) (l0 : Nat) (l1 : Int32) (l2 : Int32) (S : gS) : gO Int32 :=
  bd (chk S l0 0) fun _ =>
  gb (fX0_isQueue l0 l1 S) fun v1 S1 =>
  if v1 = 0 then
    fX0_queueOf_b18 G l0 S1
  else
    gb (fX0_isIn l2 (nI 0) (nI 10) S1) fun v3 S3 =>
    if v3 = 0 then
      fX0_queueOf_b18 G l0 S3
    else
      bd (chk S3 l0 0) fun _ =>
      gb (fX0_queue_2 l0 l1 S3) fun v5 S5 =>
      if l2 = 0 then
        bd v5 fun a7 =>
        bd (rdR S5 a7 3 7) fun v8 =>
        bd v8 fun a10 =>
        gb (nAL_size a10  S5) fun v9 S9 =>
        some (v9, S9, 0, 0)
      else if l2 = 1 then
        fX0_queueOf_b98 G l2 v5 S5
      else if l2 = 2 then
        fX0_queueOf_b98 G l2 v5 S5
      else if l2 = 3 then
        fX0_queueOf_b98 G l2 v5 S5
      else if l2 = 4 then
        bd v5 fun a12 =>
        bd (chk S5 a12 3) fun _ =>
        gb (fX8_mays a12 S5) fun v11 S11 =>
        bd v11 fun a14 =>
        gb (nPQ_size a14  S11) fun v13 S13 =>
        some (v13, S13, 0, 0)
      else if l2 = 5 then
        bd (chk S5 l0 0) fun _ =>
        gb (fX0_consumersOf l0 l1 (nI 0) S5) fun v15 S15 =>
        some (v15, S15, 0, 0)
      else if l2 = 6 then
        bd (chk S5 l0 0) fun _ =>
        gb (fX0_consumersOf l0 l1 (nI 1) S5) fun v16 S16 =>
        some (v16, S16, 0, 0)
      else if l2 = 7 then
        bd v5 fun a17 =>
        bd (rdI S5 a17 3 6) fun v18 =>
        if v18 = 0 then
          some (nI 0, S5, 0, 0)
        else
          some (nI 1, S5, 0, 0)
      else if l2 = 8 then
        bd v5 fun a20 =>
        bd (rdI S5 a20 3 10) fun v21 =>
        some (v21, S5, 0, 0)
      else if l2 = 9 then
        bd v5 fun a22 =>
        bd (rdI S5 a22 3 11) fun v23 =>
        some (v23, S5, 0, 0)
      else
        bd v5 fun a24 =>
        bd (rdI S5 a24 3 12) fun v25 =>
        some (v25, S5, 0, 0)
theorem wX0_queueOf_b0 (hk : rOK Rp) (hJ : JDK l G Rp) (hc : gC p s m args meth c G RX0 "queueOf" cX0_queueOf 4 (some .int)) (hnd : s.methodNamed? yX0_queueOf = some m) (l0 : Nat) (l1 : Int32) (l2 : Int32) (S : gS) (H : Heap) (locs : List Loc) (ls : Array Slot) (kc ks C N : Nat) (hkc : kc + C ≤ mc) (hks : ks + N ≤ ms) (hH : hp G Rp S H) (hS : va_S G.2.2.2 s.heap H locs) (hl : lv_has ls 4 [(0, .ref l0), (1, .int l1), (2, .int l2)]) (hf : fX0_queueOf G l0 l1 l2 S = some (r, Sf, C, N)) : W p l e (gR 16 3300 mc ms) s m args below meth c H locs kc ks (gQ below G Rp (some (.int r)) Sf args s mc ms) (F0 m 0 ls []) := by
  obtain ⟨hx, hb, hr, hlk, hml, hown, hts, hE, hA, hnm⟩ := hc
  have hc : gC p s m args meth c G RX0 "queueOf" cX0_queueOf 4 (some .int) := ⟨hx, hb, hr, hlk, hml, hown, hts, hE, hA, hnm⟩
  unfold fX0_queueOf at hf
  refine lv_aload_n (pc := 0) hx hb dX0_queueOf_0 rfl (lv_at hl 0 rfl) ?_
  refine lv_iload_n (pc := 1) hx hb dX0_queueOf_1 rfl (lv_at hl 1 rfl) ?_
  obtain ⟨_, ek1, hf⟩ := bdo hf
  obtain ⟨v1, S1, c1, n1, c2_1, n2_1, e1, hf, hC1, hN1⟩ := gbo hf
  refine g_callV (pc := 2) (o := (some l0)) (b := l0) (As := [.int l1]) (rest := []) (st1 := [.int v1]) hc (mX0_isQueue hk hJ (l0 := l0) (l1 := l1) e1) (cwV 1 hts (lw_V q1214 q1216 qs17 q97 q1217) rfl rfl rfl hdX0_isQueue ⟨Nat.le_of_ble_eq_true rfl, Nat.le_of_ble_eq_true rfl⟩) (g_recv hE hk hH (ci := 0) (q := (RX0, TX0, 7)) rfl (chk_o ek1).choose_spec) rfl rfl hl.1 rfl rfl (lv_room (Nat.le_of_ble_eq_true rfl)) dX0_queueOf_2 hH hS (by omega) (by omega) (fun H locs hH hS => ?_)
  have hkc : kc + c1 + c2_1 ≤ mc := by omega
  have hks : ks + n1 + n2_1 ≤ ms := by omega
  refine lv_if_eq (pc := 5) (tgt := 18) hx hb dX0_queueOf_5 (by decide) (fun c2 => ?_) (fun c2 => ?_)
  · rw [if_pos c2] at hf
    exact wX0_queueOf_b18 hk hJ hc hnd l0 S1 _ _ ls _ _ _ _ hkc hks hH hS (lv_sub hl [0] rfl) hf
  · rw [if_neg c2] at hf
    refine lv_iload_n (pc := 8) hx hb dX0_queueOf_8 rfl (lv_at hl 2 rfl) ?_
    refine lv_iconst (pc := 9) (v := nI 0) hx hb dX0_queueOf_9 rfl ?_
    refine lv_bipush (pc := 10) (v := nI 10) hx hb dX0_queueOf_10 gkb10 ?_
    obtain ⟨v3, S3, c3, n3, c2_3, n2_3, e3, hf, hC3, hN3⟩ := gbo hf
    refine g_callS (pc := 12) (As := [.int l2, .int (nI 0), .int (nI 10)]) (rest := []) (st1 := [.int v3]) hc (mX0_isIn hk hJ (l0 := l2) (l1 := (nI 0)) (l2 := (nI 10)) e3) (va_cwS 3 hts (lw_S q395 q396 q97 q397) rfl rfl rfl hdX0_isIn ⟨Nat.le_of_ble_eq_true rfl, Nat.le_of_ble_eq_true rfl⟩) rfl hl.1 rfl rfl (lv_room (Nat.le_of_ble_eq_true rfl)) dX0_queueOf_12 hH hS (by omega) (by omega) (fun H locs hH hS => ?_)
    have hkc : kc + c1 + c3 + c2_3 ≤ mc := by omega
    have hks : ks + n1 + n3 + n2_3 ≤ ms := by omega
    refine lv_if_ne (pc := 15) (tgt := 25) hx hb dX0_queueOf_15 (by decide) (fun c4 => ?_) (fun c4 => ?_)
    · rw [if_neg c4] at hf
      refine lv_aload_n (pc := 25) hx hb dX0_queueOf_25 rfl (lv_at hl 0 rfl) ?_
      refine lv_iload_n (pc := 26) hx hb dX0_queueOf_26 rfl (lv_at hl 1 rfl) ?_
      obtain ⟨_, ek5, hf⟩ := bdo hf
      obtain ⟨v5, S5, c5, n5, c2_5, n2_5, e5, hf, hC5, hN5⟩ := gbo hf
      refine g_callV (pc := 27) (o := (some l0)) (b := l0) (As := [.int l1]) (rest := []) (st1 := [va_rf v5]) hc (mX0_queue_2 hk hJ (l0 := l0) (l1 := l1) e5) (cwV 1 hts (lw_V q1218 q1220 qs18 q97 q1221) rfl rfl rfl hdX0_queue_2 ⟨Nat.le_of_ble_eq_true rfl, Nat.le_of_ble_eq_true rfl⟩) (g_recv hE hk hH (ci := 0) (q := (RX0, TX0, 7)) rfl (chk_o ek5).choose_spec) rfl rfl hl.1 rfl rfl (lv_room (Nat.le_of_ble_eq_true rfl)) dX0_queueOf_27 hH hS (by omega) (by omega) (fun H locs hH hS => ?_)
      have hkc : kc + c1 + c3 + c5 + c2_5 ≤ mc := by omega
      have hks : ks + n1 + n3 + n5 + n2_5 ≤ ms := by omega
      refine g_astore_n (pc := 30) (i := 3) (o := v5) (lv' := [(3, va_rf v5), (0, .ref l0), (1, .int l1), (2, .int l2)]) hx hb dX0_queueOf_30 rfl hl (by decide) rfl (fun ls hl => ?_)
      refine lv_iload_n (pc := 31) hx hb dX0_queueOf_31 rfl (lv_at hl 3 rfl) ?_
      by_cases c6_0 : l2 = 0
      · rw [if_pos c6_0] at hf
        refine lv_tableIn (pc := 32) (off := 56) (tgt := 88) hx hb dX0_queueOf_32 (by rw [c6_0]; decide) (by rw [c6_0]; decide) (by rw [c6_0]; rfl) (by decide) ?_
        refine g_aload_n (pc := 88) (o := v5) hx hb dX0_queueOf_88 rfl (lv_at hl 0 rfl) ?_
        obtain ⟨a7, ea7, hf⟩ := bdo hf
        obtain ⟨v8, e8, hf⟩ := bdo hf
        refine g_get (pc := 89) (o := v5) (a := a7) (ci := 3) (k := 7) (v := va_rf v8) (C := RX8) (T := TX8) (N := 13) hx hb hts hown hE hk hH in_X8 rfl (by decide) (hts _ q1169) (fun _ h9 => h9) ea7 (rdR_o e8) dX0_queueOf_89 ?_
        obtain ⟨a10, ea10, hf⟩ := bdo hf
        obtain ⟨v9, S9, c9, n9, c2_9, n2_9, e9, hf, hC9, hN9⟩ := gbo hf
        refine g_callV (pc := 92) (o := v8) (b := a10) (As := []) (rest := []) (st1 := [.int v9]) hc (j_nAL_size hJ a10  S5 v9 S9 c9 n9 e9) (cwV 0 hts (lw_V q1134 q1120 q1121 q101 q1122) rfl rfl rfl hdJ2_size ⟨Nat.le_of_ble_eq_true rfl, Nat.le_of_ble_eq_true rfl⟩) (j_recv hJ _ _ _ _ 0 _ _ hE hH hS (adtR (t := 0) (show bd _ _ = some _ from e9)).choose_spec) ea10 rfl hl.1 rfl rfl (lv_room (Nat.le_of_ble_eq_true rfl)) dX0_queueOf_92 hH hS (by omega) (by omega) (fun H locs hH hS => ?_)
        have hkc : kc + c1 + c3 + c5 + c9 + c2_9 ≤ mc := by omega
        have hks : ks + n1 + n3 + n5 + n9 + n2_9 ≤ ms := by omega
        refine lv_goto (pc := 95) (tgt := 172) hx hb dX0_queueOf_95 (by decide) ?_
        exact g_iret (pc := 172) hx hb hr hlk hH hS hkc hks hf dX0_queueOf_172
      · rw [if_neg c6_0] at hf
        by_cases c6_1 : l2 = 1
        · rw [if_pos c6_1] at hf
          refine lv_tableIn (pc := 32) (off := 66) (tgt := 98) hx hb dX0_queueOf_32 (by rw [c6_1]; decide) (by rw [c6_1]; decide) (by rw [c6_1]; rfl) (by decide) ?_
          exact wX0_queueOf_b98 hk hJ hc hnd l2 v5 S5 _ _ ls _ _ _ _ hkc hks hH hS (lv_sub hl [3, 0] rfl) hf
        · rw [if_neg c6_1] at hf
          by_cases c6_2 : l2 = 2
          · rw [if_pos c6_2] at hf
            refine lv_tableIn (pc := 32) (off := 66) (tgt := 98) hx hb dX0_queueOf_32 (by rw [c6_2]; decide) (by rw [c6_2]; decide) (by rw [c6_2]; rfl) (by decide) ?_
            exact wX0_queueOf_b98 hk hJ hc hnd l2 v5 S5 _ _ ls _ _ _ _ hkc hks hH hS (lv_sub hl [3, 0] rfl) hf
          · rw [if_neg c6_2] at hf
            by_cases c6_3 : l2 = 3
            · rw [if_pos c6_3] at hf
              refine lv_tableIn (pc := 32) (off := 66) (tgt := 98) hx hb dX0_queueOf_32 (by rw [c6_3]; decide) (by rw [c6_3]; decide) (by rw [c6_3]; rfl) (by decide) ?_
              exact wX0_queueOf_b98 hk hJ hc hnd l2 v5 S5 _ _ ls _ _ _ _ hkc hks hH hS (lv_sub hl [3, 0] rfl) hf
            · rw [if_neg c6_3] at hf
              by_cases c6_4 : l2 = 4
              · rw [if_pos c6_4] at hf
                refine lv_tableIn (pc := 32) (off := 79) (tgt := 111) hx hb dX0_queueOf_32 (by rw [c6_4]; decide) (by rw [c6_4]; decide) (by rw [c6_4]; rfl) (by decide) ?_
                refine g_aload_n (pc := 111) (o := v5) hx hb dX0_queueOf_111 rfl (lv_at hl 0 rfl) ?_
                obtain ⟨a12, ea12, hf⟩ := bdo hf
                obtain ⟨_, ek11, hf⟩ := bdo hf
                obtain ⟨v11, S11, c11, n11, c2_11, n2_11, e11, hf, hC11, hN11⟩ := gbo hf
                refine g_callV (pc := 112) (o := v5) (b := a12) (As := []) (rest := []) (st1 := [va_rf v11]) hc (mX8_mays hk hJ (l0 := a12) e11) (cwV 0 hts (lw_V q2439 q2440 q2441 q131 q2442) rfl rfl rfl hdX8_mays ⟨Nat.le_of_ble_eq_true rfl, Nat.le_of_ble_eq_true rfl⟩) (g_recv hE hk hH (ci := 3) (q := (RX8, TX8, 13)) rfl (chk_o ek11).choose_spec) ea12 rfl hl.1 rfl rfl (lv_room (Nat.le_of_ble_eq_true rfl)) dX0_queueOf_112 hH hS (by omega) (by omega) (fun H locs hH hS => ?_)
                have hkc : kc + c1 + c3 + c5 + c11 + c2_11 ≤ mc := by omega
                have hks : ks + n1 + n3 + n5 + n11 + n2_11 ≤ ms := by omega
                obtain ⟨a14, ea14, hf⟩ := bdo hf
                obtain ⟨v13, S13, c13, n13, c2_13, n2_13, e13, hf, hC13, hN13⟩ := gbo hf
                refine g_callV (pc := 115) (o := v11) (b := a14) (As := []) (rest := []) (st1 := [.int v13]) hc (j_nPQ_size hJ a14  S11 v13 S13 c13 n13 e13) (cwV 0 hts (lw_V q2484 q2485 q2486 q156 q2487) rfl rfl rfl hdJ36_size ⟨Nat.le_of_ble_eq_true rfl, Nat.le_of_ble_eq_true rfl⟩) (j_recv hJ _ _ _ _ 2 _ _ hE hH hS (adtR (t := 2) (show bd _ _ = some _ from e13)).choose_spec) ea14 rfl hl.1 rfl rfl (lv_room (Nat.le_of_ble_eq_true rfl)) dX0_queueOf_115 hH hS (by omega) (by omega) (fun H locs hH hS => ?_)
                have hkc : kc + c1 + c3 + c5 + c11 + c13 + c2_13 ≤ mc := by omega
                have hks : ks + n1 + n3 + n5 + n11 + n13 + n2_13 ≤ ms := by omega
                refine lv_goto (pc := 118) (tgt := 172) hx hb dX0_queueOf_118 (by decide) ?_
                exact g_iret (pc := 172) hx hb hr hlk hH hS hkc hks hf dX0_queueOf_172
              · rw [if_neg c6_4] at hf
                by_cases c6_5 : l2 = 5
                · rw [if_pos c6_5] at hf
                  refine lv_tableIn (pc := 32) (off := 89) (tgt := 121) hx hb dX0_queueOf_32 (by rw [c6_5]; decide) (by rw [c6_5]; decide) (by rw [c6_5]; rfl) (by decide) ?_
                  refine lv_aload_n (pc := 121) hx hb dX0_queueOf_121 rfl (lv_at hl 1 rfl) ?_
                  refine lv_iload_n (pc := 122) hx hb dX0_queueOf_122 rfl (lv_at hl 2 rfl) ?_
                  refine lv_iconst (pc := 123) (v := nI 0) hx hb dX0_queueOf_123 rfl ?_
                  obtain ⟨_, ek15, hf⟩ := bdo hf
                  obtain ⟨v15, S15, c15, n15, c2_15, n2_15, e15, hf, hC15, hN15⟩ := gbo hf
                  refine g_callV (pc := 124) (o := (some l0)) (b := l0) (As := [.int l1, .int (nI 0)]) (rest := []) (st1 := [.int v15]) hc (mX0_consumersOf hk hJ (l0 := l0) (l1 := l1) (l2 := (nI 0)) e15) (cwV 2 hts (lw_V q2488 q2490 qs42 q97 q2491) rfl rfl rfl hdX0_consumersOf ⟨Nat.le_of_ble_eq_true rfl, Nat.le_of_ble_eq_true rfl⟩) (g_recv hE hk hH (ci := 0) (q := (RX0, TX0, 7)) rfl (chk_o ek15).choose_spec) rfl rfl hl.1 rfl rfl (lv_room (Nat.le_of_ble_eq_true rfl)) dX0_queueOf_124 hH hS (by omega) (by omega) (fun H locs hH hS => ?_)
                  have hkc : kc + c1 + c3 + c5 + c15 + c2_15 ≤ mc := by omega
                  have hks : ks + n1 + n3 + n5 + n15 + n2_15 ≤ ms := by omega
                  refine lv_goto (pc := 127) (tgt := 172) hx hb dX0_queueOf_127 (by decide) ?_
                  exact g_iret (pc := 172) hx hb hr hlk hH hS hkc hks hf dX0_queueOf_172
                · rw [if_neg c6_5] at hf
                  by_cases c6_6 : l2 = 6
                  · rw [if_pos c6_6] at hf
                    refine lv_tableIn (pc := 32) (off := 98) (tgt := 130) hx hb dX0_queueOf_32 (by rw [c6_6]; decide) (by rw [c6_6]; decide) (by rw [c6_6]; rfl) (by decide) ?_
                    refine lv_aload_n (pc := 130) hx hb dX0_queueOf_130 rfl (lv_at hl 1 rfl) ?_
                    refine lv_iload_n (pc := 131) hx hb dX0_queueOf_131 rfl (lv_at hl 2 rfl) ?_
                    refine lv_iconst (pc := 132) (v := nI 1) hx hb dX0_queueOf_132 rfl ?_
                    obtain ⟨_, ek16, hf⟩ := bdo hf
                    obtain ⟨v16, S16, c16, n16, c2_16, n2_16, e16, hf, hC16, hN16⟩ := gbo hf
                    refine g_callV (pc := 133) (o := (some l0)) (b := l0) (As := [.int l1, .int (nI 1)]) (rest := []) (st1 := [.int v16]) hc (mX0_consumersOf hk hJ (l0 := l0) (l1 := l1) (l2 := (nI 1)) e16) (cwV 2 hts (lw_V q2488 q2490 qs42 q97 q2491) rfl rfl rfl hdX0_consumersOf ⟨Nat.le_of_ble_eq_true rfl, Nat.le_of_ble_eq_true rfl⟩) (g_recv hE hk hH (ci := 0) (q := (RX0, TX0, 7)) rfl (chk_o ek16).choose_spec) rfl rfl hl.1 rfl rfl (lv_room (Nat.le_of_ble_eq_true rfl)) dX0_queueOf_133 hH hS (by omega) (by omega) (fun H locs hH hS => ?_)
                    have hkc : kc + c1 + c3 + c5 + c16 + c2_16 ≤ mc := by omega
                    have hks : ks + n1 + n3 + n5 + n16 + n2_16 ≤ ms := by omega
                    refine lv_goto (pc := 136) (tgt := 172) hx hb dX0_queueOf_136 (by decide) ?_
                    exact g_iret (pc := 172) hx hb hr hlk hH hS hkc hks hf dX0_queueOf_172
                  · rw [if_neg c6_6] at hf
                    by_cases c6_7 : l2 = 7
                    · rw [if_pos c6_7] at hf
                      refine lv_tableIn (pc := 32) (off := 107) (tgt := 139) hx hb dX0_queueOf_32 (by rw [c6_7]; decide) (by rw [c6_7]; decide) (by rw [c6_7]; rfl) (by decide) ?_
                      refine g_aload_n (pc := 139) (o := v5) hx hb dX0_queueOf_139 rfl (lv_at hl 0 rfl) ?_
                      obtain ⟨a17, ea17, hf⟩ := bdo hf
                      obtain ⟨v18, e18, hf⟩ := bdo hf
                      refine g_get (pc := 140) (o := v5) (a := a17) (ci := 3) (k := 6) (v := .int v18) (C := RX8) (T := TX8) (N := 13) hx hb hts hown hE hk hH in_X8 rfl (by decide) (hts _ q1166) (fun _ h9 => h9) ea17 (rdI_o e18) dX0_queueOf_140 ?_
                      refine lv_if_eq (pc := 143) (tgt := 150) hx hb dX0_queueOf_143 (by decide) (fun c19 => ?_) (fun c19 => ?_)
                      · rw [if_pos c19] at hf
                        refine lv_iconst (pc := 150) (v := nI 0) hx hb dX0_queueOf_150 rfl ?_
                        refine lv_goto (pc := 151) (tgt := 172) hx hb dX0_queueOf_151 (by decide) ?_
                        exact g_iret (pc := 172) hx hb hr hlk hH hS hkc hks hf dX0_queueOf_172
                      · rw [if_neg c19] at hf
                        refine lv_iconst (pc := 146) (v := nI 1) hx hb dX0_queueOf_146 rfl ?_
                        refine lv_goto (pc := 147) (tgt := 172) hx hb dX0_queueOf_147 (by decide) ?_
                        exact g_iret (pc := 172) hx hb hr hlk hH hS hkc hks hf dX0_queueOf_172
                    · rw [if_neg c6_7] at hf
                      by_cases c6_8 : l2 = 8
                      · rw [if_pos c6_8] at hf
                        refine lv_tableIn (pc := 32) (off := 122) (tgt := 154) hx hb dX0_queueOf_32 (by rw [c6_8]; decide) (by rw [c6_8]; decide) (by rw [c6_8]; rfl) (by decide) ?_
                        refine g_aload_n (pc := 154) (o := v5) hx hb dX0_queueOf_154 rfl (lv_at hl 0 rfl) ?_
                        obtain ⟨a20, ea20, hf⟩ := bdo hf
                        obtain ⟨v21, e21, hf⟩ := bdo hf
                        refine g_get (pc := 155) (o := v5) (a := a20) (ci := 3) (k := 10) (v := .int v21) (C := RX8) (T := TX8) (N := 13) hx hb hts hown hE hk hH in_X8 rfl (by decide) (hts _ q1175) (fun _ h9 => h9) ea20 (rdI_o e21) dX0_queueOf_155 ?_
                        refine lv_goto (pc := 158) (tgt := 172) hx hb dX0_queueOf_158 (by decide) ?_
                        exact g_iret (pc := 172) hx hb hr hlk hH hS hkc hks hf dX0_queueOf_172
                      · rw [if_neg c6_8] at hf
                        by_cases c6_9 : l2 = 9
                        · rw [if_pos c6_9] at hf
                          refine lv_tableIn (pc := 32) (off := 129) (tgt := 161) hx hb dX0_queueOf_32 (by rw [c6_9]; decide) (by rw [c6_9]; decide) (by rw [c6_9]; rfl) (by decide) ?_
                          refine g_aload_n (pc := 161) (o := v5) hx hb dX0_queueOf_161 rfl (lv_at hl 0 rfl) ?_
                          obtain ⟨a22, ea22, hf⟩ := bdo hf
                          obtain ⟨v23, e23, hf⟩ := bdo hf
                          refine g_get (pc := 162) (o := v5) (a := a22) (ci := 3) (k := 11) (v := .int v23) (C := RX8) (T := TX8) (N := 13) hx hb hts hown hE hk hH in_X8 rfl (by decide) (hts _ q1178) (fun _ h9 => h9) ea22 (rdI_o e23) dX0_queueOf_162 ?_
                          refine lv_goto (pc := 165) (tgt := 172) hx hb dX0_queueOf_165 (by decide) ?_
                          exact g_iret (pc := 172) hx hb hr hlk hH hS hkc hks hf dX0_queueOf_172
                        · rw [if_neg c6_9] at hf
                          refine lv_tableOut (pc := 32) (tgt := 168) hx hb dX0_queueOf_32 (tsw9 c6_0 c6_1 c6_2 c6_3 c6_4 c6_5 c6_6 c6_7 c6_8 c6_9) (by decide) ?_
                          refine g_aload_n (pc := 168) (o := v5) hx hb dX0_queueOf_168 rfl (lv_at hl 0 rfl) ?_
                          obtain ⟨a24, ea24, hf⟩ := bdo hf
                          obtain ⟨v25, e25, hf⟩ := bdo hf
                          refine g_get (pc := 169) (o := v5) (a := a24) (ci := 3) (k := 12) (v := .int v25) (C := RX8) (T := TX8) (N := 13) hx hb hts hown hE hk hH in_X8 rfl (by decide) (hts _ q1181) (fun _ h9 => h9) ea24 (rdI_o e25) dX0_queueOf_169 ?_
                          exact g_iret (pc := 172) hx hb hr hlk hH hS hkc hks hf dX0_queueOf_172
    · rw [if_pos c4] at hf
      exact wX0_queueOf_b18 hk hJ hc hnd l0 S3 _ _ ls _ _ _ _ hkc hks hH hS (lv_sub hl [0] rfl) hf
theorem mX0_queueOf {l : Launch} {G : gG} {Rp : gM → gM → Nat → Prop} (hk : rOK Rp) (hJ : JDK l G Rp) {S S2 : gS} {r2 : Int32} {C N : Nat} {l0 : Nat} {l1 : Int32} {l2 : Int32} (hf : fX0_queueOf G l0 l1 l2 S = some (r2, S2, C, N)) : gMet l yX0_queueOf cX0_queueOf 4 (some .int) 16 3300 G Rp [.ref l0, .int l1, .int l2] S (some (.int r2)) S2 C N := by
  refine g_startN (by decide) (Nat.le_of_ble_eq_true rfl) (fun p e s m args below meth c ls hnd hc hl hH => ?_)
  have hl : lv_has ls 4 [(0, .ref l0), (1, .int l1), (2, .int l2)] := hl
  exact wX0_queueOf_b0 hk hJ hc hnd l0 l1 l2 S _ _ ls 0 0 C N (by omega) (by omega) hH va_S.rf (lv_sub hl [0, 1, 2] rfl) hf
end
section
variable {r : Unit} {Sf : gS}
def fX8_takes_b57 (l0 : Nat) (l1 : Option Nat) (l2 : Int32) (S : gS) : gO Unit :=
  bd (rdR S l0 3 7) fun v1 =>
  bd v1 fun a3 =>
  gb (nAL_addAt a3 l2 l1 S) fun _ S2 =>
  some ((), S2, 0, 0)
theorem wX8_takes_b57 (hk : rOK Rp) (hJ : JDK l G Rp) (hc : gC p s m args meth c G RX8 "takes" cX8_takes 5 (none)) (l0 : Nat) (l1 : Option Nat) (l2 : Int32) (S : gS) (H : Heap) (locs : List Loc) (ls : Array Slot) (kc ks C N : Nat) (hkc : kc + C ≤ mc) (hks : ks + N ≤ ms) (hH : hp G Rp S H) (hS : va_S G.2.2.2 s.heap H locs) (hl : lv_has ls 5 [(0, .ref l0), (1, va_rf l1), (2, .int l2)]) (hf : fX8_takes_b57 l0 l1 l2 S = some (r, Sf, C, N)) : W p l e (gR 15 540 mc ms) s m args below meth c H locs kc ks (gQ below G Rp none Sf args s mc ms) (F0 m 57 ls []) := by
  obtain ⟨hx, hb, hr, hlk, hml, hown, hts, hE, hA, hnm⟩ := hc
  have hc : gC p s m args meth c G RX8 "takes" cX8_takes 5 (none) := ⟨hx, hb, hr, hlk, hml, hown, hts, hE, hA, hnm⟩
  unfold fX8_takes_b57 at hf
  refine lv_aload_n (pc := 57) hx hb dX8_takes_57 rfl (lv_at hl 0 rfl) ?_
  obtain ⟨v1, e1, hf⟩ := bdo hf
  refine g_get (pc := 58) (o := (some l0)) (a := l0) (ci := 3) (k := 7) (v := va_rf v1) (C := RX8) (T := TX8) (N := 13) hx hb hts hown hE hk hH in_X8 rfl (by decide) (hts _ q1167) (fun _ h9 => h9) rfl (rdR_o e1) dX8_takes_58 ?_
  refine lv_iload_n (pc := 61) hx hb dX8_takes_61 rfl (lv_at hl 2 rfl) ?_
  refine g_aload_n (pc := 62) (o := l1) hx hb dX8_takes_62 rfl (lv_at hl 1 rfl) ?_
  obtain ⟨a3, ea3, hf⟩ := bdo hf
  obtain ⟨_, S2, c2, n2, c2_2, n2_2, e2, hf, hC2, hN2⟩ := gbo hf
  refine g_callV (pc := 63) (o := v1) (b := a3) (As := [.int l2, va_rf l1]) (rest := []) (st1 := []) hc (j_nAL_addAt hJ a3 l2 l1 S () S2 c2 n2 e2) (cwV 2 hts (lw_V q1967 q1968 q1969 q101 q1970) rfl rfl rfl hdJ2_add_3 ⟨Nat.le_of_ble_eq_true rfl, Nat.le_of_ble_eq_true rfl⟩) (j_recv hJ _ _ _ _ 0 _ _ hE hH hS (adtR (t := 0) (show bd _ _ = some _ from e2)).choose_spec) ea3 rfl hl.1 rfl rfl (lv_room (Nat.le_of_ble_eq_true rfl)) dX8_takes_63 hH hS (by omega) (by omega) (fun H locs hH hS => ?_)
  have hkc : kc + c2 + c2_2 ≤ mc := by omega
  have hks : ks + n2 + n2_2 ≤ ms := by omega
  exact g_vret (pc := 66) hx hb hr hlk hH hS hkc hks hf dX8_takes_66
def fX8_takes_b10 : Nat → Nat → (Option Nat) → Int32 → (Option Nat) → gS → gO Unit
  | 0, _, _, _, _, _ => none
  | n + 1, l0, l1, l2, l3, S =>
    bd l3 fun a2 =>
    gb (nI6_hasNext a2 S) fun v1 S1 =>
    if v1 = 0 then
      fX8_takes_b57 l0 l1 l2 S1
    else
      gb (nI6_next a2 S1) fun v4 S4 =>
      bd (ckc S4 v4 4) fun _ =>
      bd v4 fun a6 =>
      bd (rdR S4 a6 4 0) fun v7 =>
      bd v7 fun a8 =>
      bd (rdI S4 a8 5 0) fun v9 =>
      bd l1 fun a10 =>
      bd (rdR S4 a10 4 0) fun v11 =>
      bd v11 fun a12 =>
      bd (rdI S4 a12 5 0) fun v13 =>
      if v9 ≤ v13 then
        fX8_takes_b10 n l0 l1 (l2 + (nI 1)) l3 S4
      else
        fX8_takes_b57 l0 l1 l2 S4
theorem wX8_takes_b10 (hk : rOK Rp) (hJ : JDK l G Rp) (hc : gC p s m args meth c G RX8 "takes" cX8_takes 5 (none)) : ∀ (n : Nat) (l0 : Nat) (l1 : Option Nat) (l2 : Int32) (l3 : Option Nat) (S : gS) (H : Heap) (locs : List Loc) (ls : Array Slot) (kc ks C N : Nat), kc + C ≤ mc → ks + N ≤ ms → hp G Rp S H → va_S G.2.2.2 s.heap H locs → lv_has ls 5 [(0, .ref l0), (1, va_rf l1), (2, .int l2), (3, va_rf l3)] → fX8_takes_b10 n l0 l1 l2 l3 S = some (r, Sf, C, N) → W p l e (gR 15 540 mc ms) s m args below meth c H locs kc ks (gQ below G Rp none Sf args s mc ms) (F0 m 10 ls []) := by
  obtain ⟨hx, hb, hr, hlk, hml, hown, hts, hE, hA, hnm⟩ := hc
  have hc : gC p s m args meth c G RX8 "takes" cX8_takes 5 (none) := ⟨hx, hb, hr, hlk, hml, hown, hts, hE, hA, hnm⟩
  intro n
  induction n with
  | zero => intro l0 l1 l2 l3 S H locs ls kc ks C N _ _ _ _ _ hf; exact absurd hf (fun h => by cases h)
  | succ n ih =>
    intro l0 l1 l2 l3 S H locs ls kc ks C N hkc hks hH hS hl hf
    rw [fX8_takes_b10] at hf
    refine g_aload_n (pc := 10) (o := l3) hx hb dX8_takes_10 rfl (lv_at hl 3 rfl) ?_
    obtain ⟨a2, ea2, hf⟩ := bdo hf
    obtain ⟨v1, S1, c1, n1, c2_1, n2_1, e1, hf, hC1, hN1⟩ := gbo hf
    refine g_callF (pc := 11) (o := l3) (b := a2) (As := []) (rest := []) (st1 := [.int v1]) (ci := 21) (q := (RJ26, TJ26, 4)) hc (j_nI6_hasNext hJ a2 S v1 S1 c1 n1 e1) (va_cwF 0 hts (lw_app (lw_of4 q1964 q1339 q1341 q135) (lw_meth q1343)) rfl rfl rfl (hE.2.1.2.2.2.2.2 _ _ _ hdx_hasNext.1 q1320 q1319 q1342 q1340 q1338) hdx_hasNext.2 ⟨Nat.le_of_ble_eq_true rfl, Nat.le_of_ble_eq_true rfl⟩) rfl rfl (j_recv hJ _ _ _ _ 6 _ _ hE hH hS (adtR (t := 6) (show bd _ _ = some _ from e1)).choose_spec) ea2 rfl hl.1 rfl rfl (lv_room (Nat.le_of_ble_eq_true rfl)) dX8_takes_11 hH hS (by omega) (by omega) (fun H locs hH hS => ?_)
    have hkc : kc + c1 + c2_1 ≤ mc := by omega
    have hks : ks + n1 + n2_1 ≤ ms := by omega
    refine lv_if_eq (pc := 16) (tgt := 57) hx hb dX8_takes_16 (by decide) (fun c3 => ?_) (fun c3 => ?_)
    · rw [if_pos c3] at hf
      exact wX8_takes_b57 hk hJ hc l0 l1 l2 S1 _ _ ls _ _ _ _ hkc hks hH hS (lv_sub hl [0, 1, 2] rfl) hf
    · rw [if_neg c3] at hf
      refine g_aload_n (pc := 19) (o := l3) hx hb dX8_takes_19 rfl (lv_at hl 3 rfl) ?_
      obtain ⟨v4, S4, c4, n4, c2_4, n2_4, e4, hf, hC4, hN4⟩ := gbo hf
      refine g_callF (pc := 20) (o := l3) (b := a2) (As := []) (rest := []) (st1 := [va_rf v4]) (ci := 21) (q := (RJ26, TJ26, 4)) hc (j_nI6_next hJ a2 S1 v4 S4 c4 n4 e4) (va_cwF 0 hts (lw_app (lw_of4 q1966 q1472 q1474 q135) (lw_meth q1476)) rfl rfl rfl (hE.2.1.2.2.2.2.2 _ _ _ hdx_next.1 q1366 q1365 q1475 q1473 q1338) hdx_next.2 ⟨Nat.le_of_ble_eq_true rfl, Nat.le_of_ble_eq_true rfl⟩) rfl rfl (j_recv hJ _ _ _ _ 6 _ _ hE hH hS (adtR (t := 6) (show bd _ _ = some _ from e4)).choose_spec) ea2 rfl hl.1 rfl rfl (lv_room (Nat.le_of_ble_eq_true rfl)) dX8_takes_20 hH hS (by omega) (by omega) (fun H locs hH hS => ?_)
      have hkc : kc + c1 + c4 + c2_4 ≤ mc := by omega
      have hks : ks + n1 + n4 + n2_4 ≤ ms := by omega
      obtain ⟨_, e5, hf⟩ := bdo hf
      refine g_cast (pc := 25) (o := v4) (ci := 4) (C := RX16) (T := TX16) (N := 6) hx hb hts hown hE hk hH rfl q1758 e5 dX8_takes_25 ?_
      refine g_astore (pc := 28) (i := 4) (o := v4) (lv' := [(4, va_rf v4), (0, .ref l0), (1, va_rf l1), (2, .int l2), (3, va_rf l3)]) hx hb dX8_takes_28 hl (by decide) (by simp [va_rf_cat, cat_i, cat_j, cat_r] <;> rfl) (fun ls hl => ?_)
      refine g_aload (pc := 30) (o := v4) hx hb dX8_takes_30 (lv_at hl 0 rfl) ?_
      obtain ⟨a6, ea6, hf⟩ := bdo hf
      obtain ⟨v7, e7, hf⟩ := bdo hf
      refine g_get (pc := 32) (o := v4) (a := a6) (ci := 4) (k := 0) (v := va_rf v7) (C := RX16) (T := TX16) (N := 6) hx hb hts hown hE hk hH in_X16 rfl (by decide) (hts _ q1711) (fun _ h9 => h9) ea6 (rdR_o e7) dX8_takes_32 ?_
      obtain ⟨a8, ea8, hf⟩ := bdo hf
      obtain ⟨v9, e9, hf⟩ := bdo hf
      refine g_get (pc := 35) (o := v7) (a := a8) (ci := 5) (k := 0) (v := .int v9) (C := RX11) (T := TX11) (N := 6) hx hb hts hown hE hk hH in_X11 rfl (by decide) (hts _ q1548) (fun _ h9 => h9) ea8 (rdI_o e9) dX8_takes_35 ?_
      refine g_aload_n (pc := 38) (o := l1) hx hb dX8_takes_38 rfl (lv_at hl 2 rfl) ?_
      obtain ⟨a10, ea10, hf⟩ := bdo hf
      obtain ⟨v11, e11, hf⟩ := bdo hf
      refine g_get (pc := 39) (o := l1) (a := a10) (ci := 4) (k := 0) (v := va_rf v11) (C := RX16) (T := TX16) (N := 6) hx hb hts hown hE hk hH in_X16 rfl (by decide) (hts _ q1711) (fun _ h9 => h9) ea10 (rdR_o e11) dX8_takes_39 ?_
      obtain ⟨a12, ea12, hf⟩ := bdo hf
      obtain ⟨v13, e13, hf⟩ := bdo hf
      refine g_get (pc := 42) (o := v11) (a := a12) (ci := 5) (k := 0) (v := .int v13) (C := RX11) (T := TX11) (N := 6) hx hb hts hown hE hk hH in_X11 rfl (by decide) (hts _ q1548) (fun _ h9 => h9) ea12 (rdI_o e13) dX8_takes_42 ?_
      refine lv_icmp_le (pc := 45) (tgt := 51) hx hb dX8_takes_45 (by decide) (fun c14 => ?_) (fun c14 => ?_)
      · rw [if_pos c14] at hf
        refine lv_iinc (pc := 51) (v := l2 + (nI 1)) (lv' := [(2, .int (l2 + (nI 1))), (4, va_rf v4), (0, .ref l0), (1, va_rf l1), (3, va_rf l3)]) hx hb dX8_takes_51 hl (k := 3) rfl rfl (by decide) (by simp [va_rf_cat, cat_i, cat_j, cat_r] <;> rfl) (fun ls hl => ?_)
        refine lv_goto (pc := 54) (tgt := 10) hx hb dX8_takes_54 (by decide) ?_
        exact ih l0 l1 (l2 + (nI 1)) l3 S4 _ _ ls _ _ _ _ hkc hks hH hS (lv_sub hl [2, 3, 0, 4] rfl) hf
      · rw [if_neg c14] at hf
        refine lv_goto (pc := 48) (tgt := 57) hx hb dX8_takes_48 (by decide) ?_
        exact wX8_takes_b57 hk hJ hc l0 l1 l2 S4 _ _ ls _ _ _ _ hkc hks hH hS (lv_sub hl [1, 2, 3] rfl) hf
def fX8_takes (l0 : Nat) (l1 : Option Nat) (S : gS) : gO Unit :=
  bd (rdR S l0 3 7) fun v1 =>
  bd v1 fun a3 =>
  gb (nAL_iter a3  S) fun v2 S2 =>
  fX8_takes_b10 FU l0 l1 (nI 0) v2 S2
theorem wX8_takes_b0 (hk : rOK Rp) (hJ : JDK l G Rp) (hc : gC p s m args meth c G RX8 "takes" cX8_takes 5 (none)) (l0 : Nat) (l1 : Option Nat) (S : gS) (H : Heap) (locs : List Loc) (ls : Array Slot) (kc ks C N : Nat) (hkc : kc + C ≤ mc) (hks : ks + N ≤ ms) (hH : hp G Rp S H) (hS : va_S G.2.2.2 s.heap H locs) (hl : lv_has ls 5 [(0, .ref l0), (1, va_rf l1)]) (hf : fX8_takes l0 l1 S = some (r, Sf, C, N)) : W p l e (gR 15 540 mc ms) s m args below meth c H locs kc ks (gQ below G Rp none Sf args s mc ms) (F0 m 0 ls []) := by
  obtain ⟨hx, hb, hr, hlk, hml, hown, hts, hE, hA, hnm⟩ := hc
  have hc : gC p s m args meth c G RX8 "takes" cX8_takes 5 (none) := ⟨hx, hb, hr, hlk, hml, hown, hts, hE, hA, hnm⟩
  unfold fX8_takes at hf
  refine lv_iconst (pc := 0) (v := nI 0) hx hb dX8_takes_0 rfl ?_
  refine lv_istore_n (pc := 1) (i := 2) (lv' := [(2, .int (nI 0)), (0, .ref l0), (1, va_rf l1)]) hx hb dX8_takes_1 rfl hl (by decide) (by simp [va_rf_cat, cat_i, cat_j, cat_r] <;> rfl) (fun ls hl => ?_)
  refine lv_aload_n (pc := 2) hx hb dX8_takes_2 rfl (lv_at hl 1 rfl) ?_
  obtain ⟨v1, e1, hf⟩ := bdo hf
  refine g_get (pc := 3) (o := (some l0)) (a := l0) (ci := 3) (k := 7) (v := va_rf v1) (C := RX8) (T := TX8) (N := 13) hx hb hts hown hE hk hH in_X8 rfl (by decide) (hts _ q1167) (fun _ h9 => h9) rfl (rdR_o e1) dX8_takes_3 ?_
  obtain ⟨a3, ea3, hf⟩ := bdo hf
  obtain ⟨v2, S2, c2, n2, c2_2, n2_2, e2, hf, hC2, hN2⟩ := gbo hf
  refine g_callV (pc := 6) (o := v1) (b := a3) (As := []) (rest := []) (st1 := [va_rf v2]) hc (j_nAL_iter hJ a3  S v2 S2 c2 n2 e2) (cwV 0 hts (lw_V q1962 q1293 q1294 q101 q1295) rfl rfl rfl hdJ2_iterator ⟨Nat.le_of_ble_eq_true rfl, Nat.le_of_ble_eq_true rfl⟩) (j_recv hJ _ _ _ _ 0 _ _ hE hH hS (adtR (t := 0) (show bd _ _ = some _ from e2)).choose_spec) ea3 rfl hl.1 rfl rfl (lv_room (Nat.le_of_ble_eq_true rfl)) dX8_takes_6 hH hS (by omega) (by omega) (fun H locs hH hS => ?_)
  have hkc : kc + c2 + c2_2 ≤ mc := by omega
  have hks : ks + n2 + n2_2 ≤ ms := by omega
  refine g_astore_n (pc := 9) (i := 3) (o := v2) (lv' := [(3, va_rf v2), (2, .int (nI 0)), (0, .ref l0), (1, va_rf l1)]) hx hb dX8_takes_9 rfl hl (by decide) rfl (fun ls hl => ?_)
  exact wX8_takes_b10 hk hJ hc FU l0 l1 (nI 0) v2 S2 _ _ ls _ _ _ _ hkc hks hH hS (lv_sub hl [2, 3, 1, 0] rfl) hf
theorem mX8_takes {l : Launch} {G : gG} {Rp : gM → gM → Nat → Prop} (hk : rOK Rp) (hJ : JDK l G Rp) {S S2 : gS} {r2 : Unit} {C N : Nat} {l0 : Nat} {l1 : Option Nat} (hf : fX8_takes l0 l1 S = some (r2, S2, C, N)) : gMet l yX8_takes cX8_takes 5 (none) 15 540 G Rp [.ref l0, va_rf l1] S none S2 C N := by
  refine g_start (by decide) (by simp [lg_sl, va_rf_cat, cat_i, cat_j, cat_r]) (fun p e s m args below meth c ls hc hl hH => ?_)
  have hl : lv_has ls 5 [(0, .ref l0), (1, va_rf l1)] := by simpa [lv_args, va_rf_cat, cat_i, cat_j, cat_r] using hl
  exact wX8_takes_b0 hk hJ hc l0 l1 S _ _ ls 0 0 C N (by omega) (by omega) hH va_S.rf (lv_sub hl [0, 1] rfl) hf
end
section
variable {r : Int32} {Sf : gS}
def fX0_revive (l0 : Nat) (l1 : Int32) (S : gS) : gO Int32 :=
  bd (chk S l0 0) fun _ =>
  gb (fX0_isDead l0 l1 S) fun v1 S1 =>
  if v1 = 0 then
    bd (chk S1 l0 0) fun _ =>
    gb (fX0_no l0 (-82) S1) fun v33 S33 =>
    some (v33, S33, 0, 0)
  else
    bd (rdR S1 l0 0 0) fun v3 =>
    bd v3 fun a4 =>
    bd (rdR S1 a4 1 3) fun v5 =>
    bd v5 fun a7 =>
    gb (nLL_get a7 l1 S1) fun v6 S6 =>
    bd (ckc S6 v6 7) fun _ =>
    bd v6 fun a9 =>
    bd (rdI S6 a9 7 1) fun v10 =>
    bd (chk S6 l0 0) fun _ =>
    gb (fX0_queue_2 l0 v10 S6) fun v11 S11 =>
    bd v11 fun a13 =>
    bd (chk S11 a13 3) fun _ =>
    gb (fX8_isFull a13 S11) fun v12 S12 =>
    if v12 = 0 then
      bd (rdR S12 l0 0 0) fun v15 =>
      bd v15 fun a16 =>
      bd (rdR S12 a16 1 3) fun v17 =>
      bd v17 fun a19 =>
      gb (nLL_removeI a19 l1 S12) fun v18 S18 =>
      bd (rdI S18 a9 7 1) fun v20 =>
      bd (chk S18 l0 0) fun _ =>
      gb (fX0_queue_2 l0 v20 S18) fun v21 S21 =>
      nw S21 (cO 4 [.null, .int 0, .int 0, .int 0, .int 0, .null]) 6 fun S22 =>
      bd (rdR S22 a9 7 0) fun v23 =>
      gb (fX16_init S21.2 v23 S22) fun _ S24 =>
      bd v21 fun a26 =>
      bd (chk S24 a26 3) fun _ =>
      gb (fX8_takes a26 (some S21.2) S24) fun _ S25 =>
      bd (rdR S25 l0 0 0) fun v27 =>
      bd v27 fun a28 =>
      bd (rdR S25 a28 1 3) fun v29 =>
      bd v29 fun a31 =>
      gb (nLL_size a31  S25) fun v30 S30 =>
      some (v30, S30, 0, 0)
    else
      bd (chk S12 l0 0) fun _ =>
      gb (fX0_no l0 (-86) S12) fun v32 S32 =>
      some (v32, S32, 0, 0)
theorem wX0_revive_b0 (hk : rOK Rp) (hJ : JDK l G Rp) (hc : gC p s m args meth c G RX0 "revive" cX0_revive 3 (some .int)) (l0 : Nat) (l1 : Int32) (S : gS) (H : Heap) (locs : List Loc) (ls : Array Slot) (kc ks C N : Nat) (hkc : kc + C ≤ mc) (hks : ks + N ≤ ms) (hH : hp G Rp S H) (hS : va_S G.2.2.2 s.heap H locs) (hl : lv_has ls 3 [(0, .ref l0), (1, .int l1)]) (hf : fX0_revive l0 l1 S = some (r, Sf, C, N)) : W p l e (gR 16 564 mc ms) s m args below meth c H locs kc ks (gQ below G Rp (some (.int r)) Sf args s mc ms) (F0 m 0 ls []) := by
  obtain ⟨hx, hb, hr, hlk, hml, hown, hts, hE, hA, hnm⟩ := hc
  have hc : gC p s m args meth c G RX0 "revive" cX0_revive 3 (some .int) := ⟨hx, hb, hr, hlk, hml, hown, hts, hE, hA, hnm⟩
  unfold fX0_revive at hf
  refine lv_aload_n (pc := 0) hx hb dX0_revive_0 rfl (lv_at hl 0 rfl) ?_
  refine lv_iload_n (pc := 1) hx hb dX0_revive_1 rfl (lv_at hl 1 rfl) ?_
  obtain ⟨_, ek1, hf⟩ := bdo hf
  obtain ⟨v1, S1, c1, n1, c2_1, n2_1, e1, hf, hC1, hN1⟩ := gbo hf
  refine g_callV (pc := 2) (o := (some l0)) (b := l0) (As := [.int l1]) (rest := []) (st1 := [.int v1]) hc (mX0_isDead hk hJ (l0 := l0) (l1 := l1) e1) (cwV 1 hts (lw_V q572 q574 qs5 q97 q575) rfl rfl rfl hdX0_isDead ⟨Nat.le_of_ble_eq_true rfl, Nat.le_of_ble_eq_true rfl⟩) (g_recv hE hk hH (ci := 0) (q := (RX0, TX0, 7)) rfl (chk_o ek1).choose_spec) rfl rfl hl.1 rfl rfl (lv_room (Nat.le_of_ble_eq_true rfl)) dX0_revive_2 hH hS (by omega) (by omega) (fun H locs hH hS => ?_)
  have hkc : kc + c1 + c2_1 ≤ mc := by omega
  have hks : ks + n1 + n2_1 ≤ ms := by omega
  refine lv_if_ne (pc := 5) (tgt := 15) hx hb dX0_revive_5 (by decide) (fun c2 => ?_) (fun c2 => ?_)
  · rw [if_neg c2] at hf
    refine lv_aload_n (pc := 15) hx hb dX0_revive_15 rfl (lv_at hl 0 rfl) ?_
    obtain ⟨v3, e3, hf⟩ := bdo hf
    refine g_get (pc := 16) (o := (some l0)) (a := l0) (ci := 0) (k := 0) (v := va_rf v3) (C := RX0) (T := TX0) (N := 7) hx hb hts hown hE hk hH in_X0 rfl (by decide) (hts _ q272) (fun _ h9 => h9) rfl (rdR_o e3) dX0_revive_16 ?_
    obtain ⟨a4, ea4, hf⟩ := bdo hf
    obtain ⟨v5, e5, hf⟩ := bdo hf
    refine g_get (pc := 19) (o := v3) (a := a4) (ci := 1) (k := 3) (v := va_rf v5) (C := RX1) (T := TX1) (N := 7) hx hb hts hown hE hk hH in_X1 rfl (by decide) (hts _ q238) (fun _ h9 => h9) ea4 (rdR_o e5) dX0_revive_19 ?_
    refine lv_iload_n (pc := 22) hx hb dX0_revive_22 rfl (lv_at hl 1 rfl) ?_
    obtain ⟨a7, ea7, hf⟩ := bdo hf
    obtain ⟨v6, S6, c6, n6, c2_6, n2_6, e6, hf, hC6, hN6⟩ := gbo hf
    refine g_callV (pc := 23) (o := v5) (b := a7) (As := [.int l1]) (rest := []) (st1 := [va_rf v6]) hc (j_nLL_get hJ a7 l1 S1 v6 S6 c6 n6 e6) (cwV 1 hts (lw_V q580 q581 q582 q103 q583) rfl rfl rfl hdJ4_get ⟨Nat.le_of_ble_eq_true rfl, Nat.le_of_ble_eq_true rfl⟩) (j_recv hJ _ _ _ _ 1 _ _ hE hH hS (adtR (t := 1) (show bd _ _ = some _ from e6)).choose_spec) ea7 rfl hl.1 rfl rfl (lv_room (Nat.le_of_ble_eq_true rfl)) dX0_revive_23 hH hS (by omega) (by omega) (fun H locs hH hS => ?_)
    have hkc : kc + c1 + c6 + c2_6 ≤ mc := by omega
    have hks : ks + n1 + n6 + n2_6 ≤ ms := by omega
    obtain ⟨_, e8, hf⟩ := bdo hf
    refine g_cast (pc := 26) (o := v6) (ci := 7) (C := RX15) (T := TX15) (N := 4) hx hb hts hown hE hk hH rfl q848 e8 dX0_revive_26 ?_
    refine g_astore_n (pc := 29) (i := 2) (o := v6) (lv' := [(2, va_rf v6), (0, .ref l0), (1, .int l1)]) hx hb dX0_revive_29 rfl hl (by decide) rfl (fun ls hl => ?_)
    refine lv_aload_n (pc := 30) hx hb dX0_revive_30 rfl (lv_at hl 1 rfl) ?_
    refine g_aload_n (pc := 31) (o := v6) hx hb dX0_revive_31 rfl (lv_at hl 0 rfl) ?_
    obtain ⟨a9, ea9, hf⟩ := bdo hf
    obtain ⟨v10, e10, hf⟩ := bdo hf
    refine g_get (pc := 32) (o := v6) (a := a9) (ci := 7) (k := 1) (v := .int v10) (C := RX15) (T := TX15) (N := 4) hx hb hts hown hE hk hH in_X15 rfl (by decide) (hts _ q1650) (fun _ h9 => h9) ea9 (rdI_o e10) dX0_revive_32 ?_
    obtain ⟨_, ek11, hf⟩ := bdo hf
    obtain ⟨v11, S11, c11, n11, c2_11, n2_11, e11, hf, hC11, hN11⟩ := gbo hf
    refine g_callV (pc := 35) (o := (some l0)) (b := l0) (As := [.int v10]) (rest := []) (st1 := [va_rf v11]) hc (mX0_queue_2 hk hJ (l0 := l0) (l1 := v10) e11) (cwV 1 hts (lw_V q1218 q1220 qs18 q97 q1221) rfl rfl rfl hdX0_queue_2 ⟨Nat.le_of_ble_eq_true rfl, Nat.le_of_ble_eq_true rfl⟩) (g_recv hE hk hH (ci := 0) (q := (RX0, TX0, 7)) rfl (chk_o ek11).choose_spec) rfl rfl hl.1 rfl rfl (lv_room (Nat.le_of_ble_eq_true rfl)) dX0_revive_35 hH hS (by omega) (by omega) (fun H locs hH hS => ?_)
    have hkc : kc + c1 + c6 + c11 + c2_11 ≤ mc := by omega
    have hks : ks + n1 + n6 + n11 + n2_11 ≤ ms := by omega
    obtain ⟨a13, ea13, hf⟩ := bdo hf
    obtain ⟨_, ek12, hf⟩ := bdo hf
    obtain ⟨v12, S12, c12, n12, c2_12, n2_12, e12, hf, hC12, hN12⟩ := gbo hf
    refine g_callV (pc := 38) (o := v11) (b := a13) (As := []) (rest := []) (st1 := [.int v12]) hc (mX8_isFull hk hJ (l0 := a13) e12) (cwV 0 hts (lw_V q1947 q1602 q1603 q131 q1604) rfl rfl rfl hdX8_isFull ⟨Nat.le_of_ble_eq_true rfl, Nat.le_of_ble_eq_true rfl⟩) (g_recv hE hk hH (ci := 3) (q := (RX8, TX8, 13)) rfl (chk_o ek12).choose_spec) ea13 rfl hl.1 rfl rfl (lv_room (Nat.le_of_ble_eq_true rfl)) dX0_revive_38 hH hS (by omega) (by omega) (fun H locs hH hS => ?_)
    have hkc : kc + c1 + c6 + c11 + c12 + c2_12 ≤ mc := by omega
    have hks : ks + n1 + n6 + n11 + n12 + n2_12 ≤ ms := by omega
    refine lv_if_eq (pc := 41) (tgt := 51) hx hb dX0_revive_41 (by decide) (fun c14 => ?_) (fun c14 => ?_)
    · rw [if_pos c14] at hf
      refine lv_aload_n (pc := 51) hx hb dX0_revive_51 rfl (lv_at hl 1 rfl) ?_
      obtain ⟨v15, e15, hf⟩ := bdo hf
      refine g_get (pc := 52) (o := (some l0)) (a := l0) (ci := 0) (k := 0) (v := va_rf v15) (C := RX0) (T := TX0) (N := 7) hx hb hts hown hE hk hH in_X0 rfl (by decide) (hts _ q272) (fun _ h9 => h9) rfl (rdR_o e15) dX0_revive_52 ?_
      obtain ⟨a16, ea16, hf⟩ := bdo hf
      obtain ⟨v17, e17, hf⟩ := bdo hf
      refine g_get (pc := 55) (o := v15) (a := a16) (ci := 1) (k := 3) (v := va_rf v17) (C := RX1) (T := TX1) (N := 7) hx hb hts hown hE hk hH in_X1 rfl (by decide) (hts _ q238) (fun _ h9 => h9) ea16 (rdR_o e17) dX0_revive_55 ?_
      refine lv_iload_n (pc := 58) hx hb dX0_revive_58 rfl (lv_at hl 2 rfl) ?_
      obtain ⟨a19, ea19, hf⟩ := bdo hf
      obtain ⟨v18, S18, c18, n18, c2_18, n2_18, e18, hf, hC18, hN18⟩ := gbo hf
      refine g_callV (pc := 59) (o := v17) (b := a19) (As := [.int l1]) (rest := []) (st1 := [va_rf v18]) hc (j_nLL_removeI hJ a19 l1 S12 v18 S18 c18 n18 e18) (cwV 1 hts (lw_V q1948 q1949 q1950 q103 q1951) rfl rfl rfl hdJ4_remove ⟨Nat.le_of_ble_eq_true rfl, Nat.le_of_ble_eq_true rfl⟩) (j_recv hJ _ _ _ _ 1 _ _ hE hH hS (adtR (t := 1) (show bd _ _ = some _ from e18)).choose_spec) ea19 rfl hl.1 rfl rfl (lv_room (Nat.le_of_ble_eq_true rfl)) dX0_revive_59 hH hS (by omega) (by omega) (fun H locs hH hS => ?_)
      have hkc : kc + c1 + c6 + c11 + c12 + c18 + c2_18 ≤ mc := by omega
      have hks : ks + n1 + n6 + n11 + n12 + n18 + n2_18 ≤ ms := by omega
      refine lv_pop (pc := 62) hx hb dX0_revive_62 (va_rf_cat _) ?_
      refine lv_aload_n (pc := 63) hx hb dX0_revive_63 rfl (lv_at hl 1 rfl) ?_
      refine g_aload_n (pc := 64) (o := v6) hx hb dX0_revive_64 rfl (lv_at hl 0 rfl) ?_
      obtain ⟨v20, e20, hf⟩ := bdo hf
      refine g_get (pc := 65) (o := v6) (a := a9) (ci := 7) (k := 1) (v := .int v20) (C := RX15) (T := TX15) (N := 4) hx hb hts hown hE hk hH in_X15 rfl (by decide) (hts _ q1650) (fun _ h9 => h9) ea9 (rdI_o e20) dX0_revive_65 ?_
      obtain ⟨_, ek21, hf⟩ := bdo hf
      obtain ⟨v21, S21, c21, n21, c2_21, n2_21, e21, hf, hC21, hN21⟩ := gbo hf
      refine g_callV (pc := 68) (o := (some l0)) (b := l0) (As := [.int v20]) (rest := []) (st1 := [va_rf v21]) hc (mX0_queue_2 hk hJ (l0 := l0) (l1 := v20) e21) (cwV 1 hts (lw_V q1218 q1220 qs18 q97 q1221) rfl rfl rfl hdX0_queue_2 ⟨Nat.le_of_ble_eq_true rfl, Nat.le_of_ble_eq_true rfl⟩) (g_recv hE hk hH (ci := 0) (q := (RX0, TX0, 7)) rfl (chk_o ek21).choose_spec) rfl rfl hl.1 rfl rfl (lv_room (Nat.le_of_ble_eq_true rfl)) dX0_revive_68 hH hS (by omega) (by omega) (fun H locs hH hS => ?_)
      have hkc : kc + c1 + c6 + c11 + c12 + c18 + c21 + c2_21 ≤ mc := by omega
      have hks : ks + n1 + n6 + n11 + n12 + n18 + n21 + n2_21 ≤ ms := by omega
      obtain ⟨S22, c2_22, n2_22, eS22, hf, hC22, hN22⟩ := nwo hf
      refine g_newo (pc := 71) (ci := 4) (C := RX16) (T := TX16) (N := 6) (fs := [.null, .int 0, .int 0, .int 0, .int 0, .null]) hx hb hts hown hE hA hk hH hS in_X16 tyX16_ok q1956 q1702 q144 rfl (fun j hj => by rcases (show j = 0 ∨ j = 1 ∨ j = 2 ∨ j = 3 ∨ j = 4 ∨ j = 5 by omega) with rfl | rfl | rfl | rfl | rfl | rfl <;> rfl) eS22 (Nat.le_trans (by omega) hkc) (Nat.le_trans (by omega) hks) dX0_revive_71 (fun H hH hS => ?_)
      have hkc : kc + c1 + c6 + c11 + c12 + c18 + c21 + 1 + c2_22 ≤ mc := by omega
      have hks : ks + n1 + n6 + n11 + n12 + n18 + n21 + 6 + n2_22 ≤ ms := by omega
      refine lv_dup (pc := 74) hx hb dX0_revive_74 rfl ?_
      refine g_aload_n (pc := 75) (o := v6) hx hb dX0_revive_75 rfl (lv_at hl 0 rfl) ?_
      obtain ⟨v23, e23, hf⟩ := bdo hf
      refine g_get (pc := 76) (o := v6) (a := a9) (ci := 7) (k := 0) (v := va_rf v23) (C := RX15) (T := TX15) (N := 4) hx hb hts hown hE hk hH in_X15 rfl (by decide) (hts _ q1648) (fun _ h9 => h9) ea9 (rdR_o e23) dX0_revive_76 ?_
      obtain ⟨_, S24, c24, n24, c2_24, n2_24, e24, hf, hC24, hN24⟩ := gbo hf
      refine g_callI (pc := 79) (o := (some S21.2)) (b := S21.2) (As := [va_rf v23]) (rest := [.ref S21.2, va_rf v21]) hc (mX16_init hk hJ (l0 := S21.2) (l1 := v23) e24) (cwI 1 hts (lw_meth q1705) rfl rfl rfl (hts _ q144) (hts _ q1957) (hts _ q1704) rfl hdiX16_init ⟨Nat.le_of_ble_eq_true rfl, Nat.le_of_ble_eq_true rfl⟩) rfl rfl hl.1 rfl (lv_room (by simp [va_rf_cat, cat_i, cat_j, cat_r])) dX0_revive_79 hH hS (by omega) (by omega) (fun H locs hH hS => ?_)
      have hkc : kc + c1 + c6 + c11 + c12 + c18 + c21 + 1 + c24 + c2_24 ≤ mc := by omega
      have hks : ks + n1 + n6 + n11 + n12 + n18 + n21 + 6 + n24 + n2_24 ≤ ms := by omega
      obtain ⟨a26, ea26, hf⟩ := bdo hf
      obtain ⟨_, ek25, hf⟩ := bdo hf
      obtain ⟨_, S25, c25, n25, c2_25, n2_25, e25, hf, hC25, hN25⟩ := gbo hf
      refine g_callV (pc := 82) (o := v21) (b := a26) (As := [.ref S21.2]) (rest := []) (st1 := []) hc (mX8_takes hk hJ (l0 := a26) (l1 := (some S21.2)) e25) (cwV 1 hts (lw_V q1958 q1959 q1960 q131 q1961) rfl rfl rfl hdX8_takes ⟨Nat.le_of_ble_eq_true rfl, Nat.le_of_ble_eq_true rfl⟩) (g_recv hE hk hH (ci := 3) (q := (RX8, TX8, 13)) rfl (chk_o ek25).choose_spec) ea26 rfl hl.1 rfl rfl (lv_room (Nat.le_of_ble_eq_true rfl)) dX0_revive_82 hH hS (by omega) (by omega) (fun H locs hH hS => ?_)
      have hkc : kc + c1 + c6 + c11 + c12 + c18 + c21 + 1 + c24 + c25 + c2_25 ≤ mc := by omega
      have hks : ks + n1 + n6 + n11 + n12 + n18 + n21 + 6 + n24 + n25 + n2_25 ≤ ms := by omega
      refine lv_aload_n (pc := 85) hx hb dX0_revive_85 rfl (lv_at hl 1 rfl) ?_
      obtain ⟨v27, e27, hf⟩ := bdo hf
      refine g_get (pc := 86) (o := (some l0)) (a := l0) (ci := 0) (k := 0) (v := va_rf v27) (C := RX0) (T := TX0) (N := 7) hx hb hts hown hE hk hH in_X0 rfl (by decide) (hts _ q272) (fun _ h9 => h9) rfl (rdR_o e27) dX0_revive_86 ?_
      obtain ⟨a28, ea28, hf⟩ := bdo hf
      obtain ⟨v29, e29, hf⟩ := bdo hf
      refine g_get (pc := 89) (o := v27) (a := a28) (ci := 1) (k := 3) (v := va_rf v29) (C := RX1) (T := TX1) (N := 7) hx hb hts hown hE hk hH in_X1 rfl (by decide) (hts _ q238) (fun _ h9 => h9) ea28 (rdR_o e29) dX0_revive_89 ?_
      obtain ⟨a31, ea31, hf⟩ := bdo hf
      obtain ⟨v30, S30, c30, n30, c2_30, n2_30, e30, hf, hC30, hN30⟩ := gbo hf
      refine g_callV (pc := 92) (o := v29) (b := a31) (As := []) (rest := []) (st1 := [.int v30]) hc (j_nLL_size hJ a31  S25 v30 S30 c30 n30 e30) (cwV 0 hts (lw_V q576 q577 q578 q103 q579) rfl rfl rfl hdJ4_size ⟨Nat.le_of_ble_eq_true rfl, Nat.le_of_ble_eq_true rfl⟩) (j_recv hJ _ _ _ _ 1 _ _ hE hH hS (adtR (t := 1) (show bd _ _ = some _ from e30)).choose_spec) ea31 rfl hl.1 rfl rfl (lv_room (Nat.le_of_ble_eq_true rfl)) dX0_revive_92 hH hS (by omega) (by omega) (fun H locs hH hS => ?_)
      have hkc : kc + c1 + c6 + c11 + c12 + c18 + c21 + 1 + c24 + c25 + c30 + c2_30 ≤ mc := by omega
      have hks : ks + n1 + n6 + n11 + n12 + n18 + n21 + 6 + n24 + n25 + n30 + n2_30 ≤ ms := by omega
      exact g_iret (pc := 95) hx hb hr hlk hH hS hkc hks hf dX0_revive_95
    · rw [if_neg c14] at hf
      refine lv_aload_n (pc := 44) hx hb dX0_revive_44 rfl (lv_at hl 1 rfl) ?_
      refine lv_bipush (pc := 45) (v := -86) hx hb dX0_revive_45 gkbm86 ?_
      obtain ⟨_, ek32, hf⟩ := bdo hf
      obtain ⟨v32, S32, c32, n32, c2_32, n2_32, e32, hf, hC32, hN32⟩ := gbo hf
      refine g_callV (pc := 47) (o := (some l0)) (b := l0) (As := [.int (-86)]) (rest := []) (st1 := [.int v32]) hc (mX0_no hk hJ (l0 := l0) (l1 := (-86)) e32) (cwV 1 hts (lw_V q398 q400 qs2 q97 q401) rfl rfl rfl hdX0_no ⟨Nat.le_of_ble_eq_true rfl, Nat.le_of_ble_eq_true rfl⟩) (g_recv hE hk hH (ci := 0) (q := (RX0, TX0, 7)) rfl (chk_o ek32).choose_spec) rfl rfl hl.1 rfl rfl (lv_room (Nat.le_of_ble_eq_true rfl)) dX0_revive_47 hH hS (by omega) (by omega) (fun H locs hH hS => ?_)
      have hkc : kc + c1 + c6 + c11 + c12 + c32 + c2_32 ≤ mc := by omega
      have hks : ks + n1 + n6 + n11 + n12 + n32 + n2_32 ≤ ms := by omega
      exact g_iret (pc := 50) hx hb hr hlk hH hS hkc hks hf dX0_revive_50
  · rw [if_pos c2] at hf
    refine lv_aload_n (pc := 8) hx hb dX0_revive_8 rfl (lv_at hl 0 rfl) ?_
    refine lv_bipush (pc := 9) (v := -82) hx hb dX0_revive_9 gkbm82 ?_
    obtain ⟨_, ek33, hf⟩ := bdo hf
    obtain ⟨v33, S33, c33, n33, c2_33, n2_33, e33, hf, hC33, hN33⟩ := gbo hf
    refine g_callV (pc := 11) (o := (some l0)) (b := l0) (As := [.int (-82)]) (rest := []) (st1 := [.int v33]) hc (mX0_no hk hJ (l0 := l0) (l1 := (-82)) e33) (cwV 1 hts (lw_V q398 q400 qs2 q97 q401) rfl rfl rfl hdX0_no ⟨Nat.le_of_ble_eq_true rfl, Nat.le_of_ble_eq_true rfl⟩) (g_recv hE hk hH (ci := 0) (q := (RX0, TX0, 7)) rfl (chk_o ek33).choose_spec) rfl rfl hl.1 rfl rfl (lv_room (Nat.le_of_ble_eq_true rfl)) dX0_revive_11 hH hS (by omega) (by omega) (fun H locs hH hS => ?_)
    have hkc : kc + c1 + c33 + c2_33 ≤ mc := by omega
    have hks : ks + n1 + n33 + n2_33 ≤ ms := by omega
    exact g_iret (pc := 14) hx hb hr hlk hH hS hkc hks hf dX0_revive_14
theorem mX0_revive {l : Launch} {G : gG} {Rp : gM → gM → Nat → Prop} (hk : rOK Rp) (hJ : JDK l G Rp) {S S2 : gS} {r2 : Int32} {C N : Nat} {l0 : Nat} {l1 : Int32} (hf : fX0_revive l0 l1 S = some (r2, S2, C, N)) : gMet l yX0_revive cX0_revive 3 (some .int) 16 564 G Rp [.ref l0, .int l1] S (some (.int r2)) S2 C N := by
  refine g_start (by decide) (Nat.le_of_ble_eq_true rfl) (fun p e s m args below meth c ls hc hl hH => ?_)
  have hl : lv_has ls 3 [(0, .ref l0), (1, .int l1)] := hl
  exact wX0_revive_b0 hk hJ hc l0 l1 S _ _ ls 0 0 C N (by omega) (by omega) hH va_S.rf (lv_sub hl [0, 1] rfl) hf
end
section
variable {P : Option Nat ⊕ gTh → gS → Prop}
def fX0_rowOf (l0 : Int32) (l1 : Int32) (S : gS) : gX (Option Nat) :=
  if l0 = 0 then
    if l1 < 0 then some (.inr ("java/lang/NegativeArraySizeException", none), S, 3, 1010) else
    nwa S 2 l1 fun S2 =>
    some (.inl (some S.2), S2, 0, 0)
  else if l0 = 1 then
    if l1 < 0 then some (.inr ("java/lang/NegativeArraySizeException", none), S, 3, 1010) else
    nwa S 3 l1 fun S3 =>
    some (.inl (some S.2), S3, 0, 0)
  else if l0 = 2 then
    if l1 < 0 then some (.inr ("java/lang/NegativeArraySizeException", none), S, 3, 1010) else
    nwa S 0 l1 fun S4 =>
    some (.inl (some S.2), S4, 0, 0)
  else if l0 = 3 then
    if l1 < 0 then some (.inr ("java/lang/NegativeArraySizeException", none), S, 3, 1010) else
    nwa S 1 l1 fun S5 =>
    some (.inl (some S.2), S5, 0, 0)
  else
    if l1 < 0 then some (.inr ("java/lang/NegativeArraySizeException", none), S, 3, 1010) else
    nwa S 4 l1 fun S6 =>
    some (.inl (some S.2), S6, 0, 0)
theorem wX0_rowOf_b0 (hk : rOK Rp) (hJ : JDK l G Rp) (hst : l.stackTraces = false) (htb : c.exceptionTable.toList = []) (hc : gC p s m args meth c G RX0 "rowOf" cX0_rowOf 2 (some (.object "java/lang/Object"))) (l0 : Int32) (l1 : Int32) (S : gS) (H : Heap) (locs : List Loc) (ls : Array Slot) (kc ks C N : Nat) (hkc : kc + C ≤ mc) (hks : ks + N ≤ ms) (hH : hp G Rp S H) (hS : va_S G.2.2.2 s.heap H locs) (hl : lv_has ls 2 [(0, .int l0), (1, .int l1)]) (hf : (∀ j : Nat, oky C N (fX0_rowOf l0 l1 S) P)) : W p l e (gR 12 10500 mc ms) s m args below meth c H locs kc ks (gQJ below G Rp iR P args s mc ms) (F0 m 0 ls []) := by
  obtain ⟨hx, hb, hr, hlk, hml, hown, hts, hE, hA, hnm⟩ := hc
  have hc : gC p s m args meth c G RX0 "rowOf" cX0_rowOf 2 (some (.object "java/lang/Object")) := ⟨hx, hb, hr, hlk, hml, hown, hts, hE, hA, hnm⟩
  simp only [fX0_rowOf] at hf
  refine lv_iload_n (pc := 0) hx hb dX0_rowOf_0 rfl (lv_at hl 0 rfl) ?_
  by_cases c1_0 : l0 = 0
  · simp only [if_pos c1_0] at hf
    refine lv_tableIn (pc := 1) (off := 31) (tgt := 32) hx hb dX0_rowOf_1 (by rw [c1_0]; decide) (by rw [c1_0]; decide) (by rw [c1_0]; rfl) (by decide) ?_
    refine lv_iload_n (pc := 32) hx hb dX0_rowOf_32 rfl (lv_at hl 1 rfl) ?_
    by_cases c2 : l1 < 0
    · simp only [if_pos c2] at hf
      obtain ⟨h9, h8⟩ := okc hf
      exact vx_newarrayZ (pc := 33) hx hb c2 dX0_rowOf_33 (g_vmN c2 hc hst hk hl.1 (by decide) (by simp [va_rf_cat, cat_i, cat_j, cat_r]) (by omega) (by omega) hH hS (fun H q9 ce n9 hn9 hH hS h1 h2 h3 => g_outJ (E := "java/lang/NegativeArraySizeException") (x := none) (by rw [htb]; decide) hlk ⟨n9, hn9, hH⟩ hS (by omega) (by omega) h1 h2 h3 hf))
    · simp only [if_neg c2] at hf
      obtain ⟨hn2, hi2, S2, c2_2, n2_2, eS2, hf, hC2, hN2⟩ := nwaJ hf
      refine g_newa (pc := 33) (atype := .byte) (ty := .byte) (t := 2) hx hb hts hE hA hk hH hS q387 rfl rfl rfl (fun _ h => by cases h) hn2 hi2 eS2 (by decide) (Nat.le_trans (by omega) hkc) (Nat.le_trans (by omega) hks) dX0_rowOf_33 (fun H hH hS => ?_)
      have hkc : kc + 1 + c2_2 ≤ mc := by omega
      have hks : ks + l1.toNatClampNeg + n2_2 ≤ ms := by omega
      exact g_aretJ (pc := 35) (v := (some S.2)) hx hb hr (Or.inl ⟨_, rfl⟩) hlk hH hS hkc hks hf dX0_rowOf_35
  · simp only [if_neg c1_0] at hf
    by_cases c1_1 : l0 = 1
    · simp only [if_pos c1_1] at hf
      refine lv_tableIn (pc := 1) (off := 35) (tgt := 36) hx hb dX0_rowOf_1 (by rw [c1_1]; decide) (by rw [c1_1]; decide) (by rw [c1_1]; rfl) (by decide) ?_
      refine lv_iload_n (pc := 36) hx hb dX0_rowOf_36 rfl (lv_at hl 1 rfl) ?_
      by_cases c3 : l1 < 0
      · simp only [if_pos c3] at hf
        obtain ⟨h9, h8⟩ := okc hf
        exact vx_newarrayZ (pc := 37) hx hb c3 dX0_rowOf_37 (g_vmN c3 hc hst hk hl.1 (by decide) (by simp [va_rf_cat, cat_i, cat_j, cat_r]) (by omega) (by omega) hH hS (fun H q9 ce n9 hn9 hH hS h1 h2 h3 => g_outJ (E := "java/lang/NegativeArraySizeException") (x := none) (by rw [htb]; decide) hlk ⟨n9, hn9, hH⟩ hS (by omega) (by omega) h1 h2 h3 hf))
      · simp only [if_neg c3] at hf
        obtain ⟨hn3, hi3, S3, c2_3, n2_3, eS3, hf, hC3, hN3⟩ := nwaJ hf
        refine g_newa (pc := 37) (atype := .short) (ty := .short) (t := 3) hx hb hts hE hA hk hH hS q405 rfl rfl rfl (fun _ h => by cases h) hn3 hi3 eS3 (by decide) (Nat.le_trans (by omega) hkc) (Nat.le_trans (by omega) hks) dX0_rowOf_37 (fun H hH hS => ?_)
        have hkc : kc + 1 + c2_3 ≤ mc := by omega
        have hks : ks + l1.toNatClampNeg + n2_3 ≤ ms := by omega
        exact g_aretJ (pc := 39) (v := (some S.2)) hx hb hr (Or.inl ⟨_, rfl⟩) hlk hH hS hkc hks hf dX0_rowOf_39
    · simp only [if_neg c1_1] at hf
      by_cases c1_2 : l0 = 2
      · simp only [if_pos c1_2] at hf
        refine lv_tableIn (pc := 1) (off := 39) (tgt := 40) hx hb dX0_rowOf_1 (by rw [c1_2]; decide) (by rw [c1_2]; decide) (by rw [c1_2]; rfl) (by decide) ?_
        refine lv_iload_n (pc := 40) hx hb dX0_rowOf_40 rfl (lv_at hl 1 rfl) ?_
        by_cases c4 : l1 < 0
        · simp only [if_pos c4] at hf
          obtain ⟨h9, h8⟩ := okc hf
          exact vx_newarrayZ (pc := 41) hx hb c4 dX0_rowOf_41 (g_vmN c4 hc hst hk hl.1 (by decide) (by simp [va_rf_cat, cat_i, cat_j, cat_r]) (by omega) (by omega) hH hS (fun H q9 ce n9 hn9 hH hS h1 h2 h3 => g_outJ (E := "java/lang/NegativeArraySizeException") (x := none) (by rw [htb]; decide) hlk ⟨n9, hn9, hH⟩ hS (by omega) (by omega) h1 h2 h3 hf))
        · simp only [if_neg c4] at hf
          obtain ⟨hn4, hi4, S4, c2_4, n2_4, eS4, hf, hC4, hN4⟩ := nwaJ hf
          refine g_newa (pc := 41) (atype := .int) (ty := .int) (t := 0) hx hb hts hE hA hk hH hS q271 rfl rfl rfl (fun _ h => by cases h) hn4 hi4 eS4 (by decide) (Nat.le_trans (by omega) hkc) (Nat.le_trans (by omega) hks) dX0_rowOf_41 (fun H hH hS => ?_)
          have hkc : kc + 1 + c2_4 ≤ mc := by omega
          have hks : ks + l1.toNatClampNeg + n2_4 ≤ ms := by omega
          exact g_aretJ (pc := 43) (v := (some S.2)) hx hb hr (Or.inl ⟨_, rfl⟩) hlk hH hS hkc hks hf dX0_rowOf_43
      · simp only [if_neg c1_2] at hf
        by_cases c1_3 : l0 = 3
        · simp only [if_pos c1_3] at hf
          refine lv_tableIn (pc := 1) (off := 43) (tgt := 44) hx hb dX0_rowOf_1 (by rw [c1_3]; decide) (by rw [c1_3]; decide) (by rw [c1_3]; rfl) (by decide) ?_
          refine lv_iload_n (pc := 44) hx hb dX0_rowOf_44 rfl (lv_at hl 1 rfl) ?_
          by_cases c5 : l1 < 0
          · simp only [if_pos c5] at hf
            obtain ⟨h9, h8⟩ := okc hf
            exact vx_newarrayZ (pc := 45) hx hb c5 dX0_rowOf_45 (g_vmN c5 hc hst hk hl.1 (by decide) (by simp [va_rf_cat, cat_i, cat_j, cat_r]) (by omega) (by omega) hH hS (fun H q9 ce n9 hn9 hH hS h1 h2 h3 => g_outJ (E := "java/lang/NegativeArraySizeException") (x := none) (by rw [htb]; decide) hlk ⟨n9, hn9, hH⟩ hS (by omega) (by omega) h1 h2 h3 hf))
          · simp only [if_neg c5] at hf
            obtain ⟨hn5, hi5, S5, c2_5, n2_5, eS5, hf, hC5, hN5⟩ := nwaJ hf
            refine g_newa (pc := 45) (atype := .long) (ty := .long) (t := 1) hx hb hts hE hA hk hH hS q406 rfl rfl rfl (fun _ h => by cases h) hn5 hi5 eS5 (by decide) (Nat.le_trans (by omega) hkc) (Nat.le_trans (by omega) hks) dX0_rowOf_45 (fun H hH hS => ?_)
            have hkc : kc + 1 + c2_5 ≤ mc := by omega
            have hks : ks + l1.toNatClampNeg + n2_5 ≤ ms := by omega
            exact g_aretJ (pc := 47) (v := (some S.2)) hx hb hr (Or.inl ⟨_, rfl⟩) hlk hH hS hkc hks hf dX0_rowOf_47
        · simp only [if_neg c1_3] at hf
          refine lv_tableOut (pc := 1) (tgt := 48) hx hb dX0_rowOf_1 (tsw3 c1_0 c1_1 c1_2 c1_3) (by decide) ?_
          refine lv_iload_n (pc := 48) hx hb dX0_rowOf_48 rfl (lv_at hl 1 rfl) ?_
          by_cases c6 : l1 < 0
          · simp only [if_pos c6] at hf
            obtain ⟨h9, h8⟩ := okc hf
            exact vx_newarrayZ (pc := 49) hx hb c6 dX0_rowOf_49 (g_vmN c6 hc hst hk hl.1 (by decide) (by simp [va_rf_cat, cat_i, cat_j, cat_r]) (by omega) (by omega) hH hS (fun H q9 ce n9 hn9 hH hS h1 h2 h3 => g_outJ (E := "java/lang/NegativeArraySizeException") (x := none) (by rw [htb]; decide) hlk ⟨n9, hn9, hH⟩ hS (by omega) (by omega) h1 h2 h3 hf))
          · simp only [if_neg c6] at hf
            obtain ⟨hn6, hi6, S6, c2_6, n2_6, eS6, hf, hC6, hN6⟩ := nwaJ hf
            refine g_newa (pc := 49) (atype := .boolean) (ty := .boolean) (t := 4) hx hb hts hE hA hk hH hS q407 rfl rfl rfl (fun _ h => by cases h) hn6 hi6 eS6 (by decide) (Nat.le_trans (by omega) hkc) (Nat.le_trans (by omega) hks) dX0_rowOf_49 (fun H hH hS => ?_)
            have hkc : kc + 1 + c2_6 ≤ mc := by omega
            have hks : ks + l1.toNatClampNeg + n2_6 ≤ ms := by omega
            exact g_aretJ (pc := 51) (v := (some S.2)) hx hb hr (Or.inl ⟨_, rfl⟩) hlk hH hS hkc hks hf dX0_rowOf_51
theorem mX0_rowOf {l : Launch} {G : gG} {Rp : gM → gM → Nat → Prop} (hk : rOK Rp) (hJ : JDK l G Rp) (hst : l.stackTraces = false) {S : gS} {C N : Nat} {l0 : Int32} {l1 : Int32} {S2 : gS} {r2 : Option Nat ⊕ gTh} (hf : fX0_rowOf l0 l1 S = some (r2, S2, C, N)) : gMetJ l yX0_rowOf (ws_ yX0_rowOf cX0_rowOf 2 (some (.object "java/lang/Object"))) 12 10500 G Rp [.int l0, .int l1] S iR (fun r S9 => r2 = r ∧ S2 = S9) C N := by
  refine g_startJ (by decide) (Nat.le_of_ble_eq_true rfl) (fun p e s m args below meth c ls hc htb hl hH => ?_)
  have hl : lv_has ls 2 [(0, .int l0), (1, .int l1)] := hl
  exact wX0_rowOf_b0 hk hJ hst htb hc l0 l1 S _ _ ls 0 0 C N (by omega) (by omega) hH va_S.rf (lv_sub hl [0, 1] rfl) (fun _ => ⟨_, _, _, _, hf, Nat.le_refl _, Nat.le_refl _, rfl, rfl⟩)
end
section
variable {P : Int32 ⊕ gTh → gS → Prop}
def fX0_row_b22 (j : Nat) (l0 : Nat) (S : gS) : gX Int32 :=
  bd (chk S l0 0) fun _ =>
  gb (fX0_no l0 (-82) S) fun v1 S1 =>
  some (.inl v1, S1, 0, 0)
theorem wX0_row_b22 (hk : rOK Rp) (hJ : JDK l G Rp) (hst : l.stackTraces = false) (htb : c.exceptionTable.toList = tableOf [(29, 43, 46, 116)]) (hc : gC p s m args meth c G RX0 "row" cX0_row 5 (some .int)) (l0 : Nat) (S : gS) (H : Heap) (locs : List Loc) (ls : Array Slot) (kc ks C N : Nat) (hkc : kc + C ≤ mc) (hks : ks + N ≤ ms) (hH : hp G Rp S H) (hS : va_S G.2.2.2 s.heap H locs) (hl : lv_has ls 5 [(0, .ref l0)]) (hf : (∀ j : Nat, oky C N (fX0_row_b22 j l0 S) P)) : W p l e (gR 13 10521 mc ms) s m args below meth c H locs kc ks (gQJ below G Rp iI P args s mc ms) (F0 m 22 ls []) := by
  obtain ⟨hx, hb, hr, hlk, hml, hown, hts, hE, hA, hnm⟩ := hc
  have hc : gC p s m args meth c G RX0 "row" cX0_row 5 (some .int) := ⟨hx, hb, hr, hlk, hml, hown, hts, hE, hA, hnm⟩
  simp only [fX0_row_b22] at hf
  refine lv_aload_n (pc := 22) hx hb dX0_row_22 rfl (lv_at hl 0 rfl) ?_
  refine lv_bipush (pc := 23) (v := -82) hx hb dX0_row_23 gkbm82 ?_
  obtain ⟨_, ek1, hf⟩ := bdJ hf
  obtain ⟨v1, S1, c1, n1, c2_1, n2_1, e1, hf, hC1, hN1⟩ := gbJ hf
  refine g_callV (pc := 25) (o := (some l0)) (b := l0) (As := [.int (-82)]) (rest := []) (st1 := [.int v1]) hc (mX0_no hk hJ (l0 := l0) (l1 := (-82)) e1) (cwV 1 hts (lw_V q398 q400 qs2 q97 q401) rfl rfl rfl hdX0_no ⟨Nat.le_of_ble_eq_true rfl, Nat.le_of_ble_eq_true rfl⟩) (g_recv hE hk hH (ci := 0) (q := (RX0, TX0, 7)) rfl (chk_o ek1).choose_spec) rfl rfl hl.1 rfl rfl (lv_room (Nat.le_of_ble_eq_true rfl)) dX0_row_25 hH hS (by omega) (by omega) (fun H locs hH hS => ?_)
  have hkc : kc + c1 + c2_1 ≤ mc := by omega
  have hks : ks + n1 + n2_1 ≤ ms := by omega
  exact g_iretJ (pc := 28) hx hb hr hlk hH hS hkc hks hf dX0_row_28
def fX0_row (j : Nat) (l0 : Nat) (l1 : Int32) (l2 : Int32) (l3 : Int32) (S : gS) : gX Int32 :=
  gb (fX0_isShelf l1 S) fun v1 S1 =>
  if v1 = 0 then
    fX0_row_b22 j l0 S1
  else
    if l2 < 0 then
      fX0_row_b22 j l0 S1
    else
      if (nI 4) < l2 then
        fX0_row_b22 j l0 S1
      else
        if l3 ≤ (nI 40) then
          bd (rdR S1 l0 0 3) fun v6 =>
          bd v6 fun a7 =>
          bd (rdAq S1 a7 6 l1) fun v8 =>
          gb (fX0_rowOf l2 l3 S1) fun r9 S9 => match r9 with
          | .inl v9 =>
            bd v8 fun a10 =>
            bd (wr S9 a10 2 0 (va_rf v9)) fun S11 =>
            some (.inl (nI 1), S11, 0, 0)
          | .inr (_, some _) => none
          | .inr (E9, none) =>
            if E9 = "java/lang/NegativeArraySizeException" then
              bd (some ((S9.1, S9.2 + j) : gS)) fun S9j =>
              bd (chk S9j l0 0) fun _ =>
              gb (fX0_no l0 (-82) S9j) fun v12 S12 =>
              some (.inl v12, S12, 0, 0)
            else none
        else
          fX0_row_b22 j l0 S1
theorem wX0_row_b0 (hk : rOK Rp) (hJ : JDK l G Rp) (hst : l.stackTraces = false) (htb : c.exceptionTable.toList = tableOf [(29, 43, 46, 116)]) (hc : gC p s m args meth c G RX0 "row" cX0_row 5 (some .int)) (l0 : Nat) (l1 : Int32) (l2 : Int32) (l3 : Int32) (S : gS) (H : Heap) (locs : List Loc) (ls : Array Slot) (kc ks C N : Nat) (hkc : kc + C ≤ mc) (hks : ks + N ≤ ms) (hH : hp G Rp S H) (hS : va_S G.2.2.2 s.heap H locs) (hl : lv_has ls 5 [(0, .ref l0), (1, .int l1), (2, .int l2), (3, .int l3)]) (hf : (∀ j : Nat, oky C N (fX0_row j l0 l1 l2 l3 S) P)) : W p l e (gR 13 10521 mc ms) s m args below meth c H locs kc ks (gQJ below G Rp iI P args s mc ms) (F0 m 0 ls []) := by
  obtain ⟨hx, hb, hr, hlk, hml, hown, hts, hE, hA, hnm⟩ := hc
  have hc : gC p s m args meth c G RX0 "row" cX0_row 5 (some .int) := ⟨hx, hb, hr, hlk, hml, hown, hts, hE, hA, hnm⟩
  simp only [fX0_row] at hf
  refine lv_iload_n (pc := 0) hx hb dX0_row_0 rfl (lv_at hl 1 rfl) ?_
  obtain ⟨v1, S1, c1, n1, c2_1, n2_1, e1, hf, hC1, hN1⟩ := gbJ hf
  refine g_callS (pc := 1) (As := [.int l1]) (rest := []) (st1 := [.int v1]) hc (mX0_isShelf hk hJ (l0 := l1) e1) (va_cwS 1 hts (lw_S q392 q393 q97 q394) rfl rfl rfl hdX0_isShelf ⟨Nat.le_of_ble_eq_true rfl, Nat.le_of_ble_eq_true rfl⟩) rfl hl.1 rfl rfl (lv_room (Nat.le_of_ble_eq_true rfl)) dX0_row_1 hH hS (by omega) (by omega) (fun H locs hH hS => ?_)
  have hkc : kc + c1 + c2_1 ≤ mc := by omega
  have hks : ks + n1 + n2_1 ≤ ms := by omega
  refine lv_if_eq (pc := 4) (tgt := 22) hx hb dX0_row_4 (by decide) (fun c2 => ?_) (fun c2 => ?_)
  · simp only [if_pos c2] at hf
    exact wX0_row_b22 hk hJ hst htb hc l0 S1 _ _ ls _ _ _ _ hkc hks hH hS (lv_sub hl [0] rfl) hf
  · simp only [if_neg c2] at hf
    refine lv_iload_n (pc := 7) hx hb dX0_row_7 rfl (lv_at hl 2 rfl) ?_
    refine lv_if_lt (pc := 8) (tgt := 22) hx hb dX0_row_8 (by decide) (fun c3 => ?_) (fun c3 => ?_)
    · simp only [if_pos c3] at hf
      exact wX0_row_b22 hk hJ hst htb hc l0 S1 _ _ ls _ _ _ _ hkc hks hH hS (lv_sub hl [0] rfl) hf
    · simp only [if_neg c3] at hf
      refine lv_iload_n (pc := 11) hx hb dX0_row_11 rfl (lv_at hl 2 rfl) ?_
      refine lv_iconst (pc := 12) (v := nI 4) hx hb dX0_row_12 rfl ?_
      refine lv_icmp_gt (pc := 13) (tgt := 22) hx hb dX0_row_13 (by decide) (fun c4 => ?_) (fun c4 => ?_)
      · simp only [if_pos c4] at hf
        exact wX0_row_b22 hk hJ hst htb hc l0 S1 _ _ ls _ _ _ _ hkc hks hH hS (lv_sub hl [0] rfl) hf
      · simp only [if_neg c4] at hf
        refine lv_iload_n (pc := 16) hx hb dX0_row_16 rfl (lv_at hl 3 rfl) ?_
        refine lv_bipush (pc := 17) (v := nI 40) hx hb dX0_row_17 gkb40 ?_
        refine lv_icmp_le (pc := 19) (tgt := 29) hx hb dX0_row_19 (by decide) (fun c5 => ?_) (fun c5 => ?_)
        · simp only [if_pos c5] at hf
          refine lv_aload_n (pc := 29) hx hb dX0_row_29 rfl (lv_at hl 0 rfl) ?_
          obtain ⟨v6, e6, hf⟩ := bdJ hf
          refine g_get (pc := 30) (o := (some l0)) (a := l0) (ci := 0) (k := 3) (v := va_rf v6) (C := RX0) (T := TX0) (N := 7) hx hb hts hown hE hk hH in_X0 rfl (by decide) (hts _ q275) (fun _ h9 => h9) rfl (rdR_o e6) dX0_row_30 ?_
          refine lv_iload_n (pc := 33) hx hb dX0_row_33 rfl (lv_at hl 1 rfl) ?_
          obtain ⟨a7, ea7, hf⟩ := bdJ hf
          obtain ⟨v8, e8, hf⟩ := bdJ hf
          refine g_aald (pc := 34) (o := v6) (a := a7) (t := 6) (t0 := 6) hx hb hE hk hH rfl ea7 e8 dX0_row_34 ?_
          refine lv_iload_n (pc := 35) hx hb dX0_row_35 rfl (lv_at hl 2 rfl) ?_
          refine lv_iload_n (pc := 36) hx hb dX0_row_36 rfl (lv_at hl 3 rfl) ?_
          obtain ⟨r9, S9, c9, n9, c2_9, n2_9, e9, hf, hC9, hN9⟩ := gbJ hf
          refine g_callSJ (pc := 37) (ι := iR) (As := [.int l2, .int l3]) (rest := [va_rf v8]) hc (mX0_rowOf hk hJ hst (l0 := l2) (l1 := l3) e9) (va_cwS 2 hts (lw_S q402 q403 q97 q404) rfl rfl rfl hdX0_rowOf ⟨Nat.le_of_ble_eq_true rfl, Nat.le_of_ble_eq_true rfl⟩) rfl hl.1 rfl (lv_room (by simp [va_rf_cat, cat_i, cat_j, cat_r])) dX0_row_37 hH hS (by omega) (by omega) (fun v9 S9_9 H locs hP9 hH hS => ?_) (fun E9 x9 S9_9 q9 ce9 H locs hP9 hHx hS h1_9 h2_9 h3_9 => ?_)
          · obtain ⟨rfl, rfl⟩ := hP9
            try dsimp only at hf
            have hkc : kc + c1 + c9 + c2_9 ≤ mc := by omega
            have hks : ks + n1 + n9 + n2_9 ≤ ms := by omega
            refine W.eq (g2 := F0 m 40 ls [va_rf v9, va_rf v8]) rfl ?_
            obtain ⟨a10, ea10, hf⟩ := bdJ hf
            obtain ⟨S11, e11, hf⟩ := bdJ hf
            refine g_put (pc := 40) (o := v8) (a := a10) (ci := 2) (k := 0) (v := va_rf v9) (C := RX2) (T := TX2) (N := 1) (ty := .object "java/lang/Object") hx hb hts hown hE hk hH hS rfl in_X2 tyX2_ok nmX2 rfl (by decide) (hts _ q267) (fun _ h9 => h9) rfl rfl (nar_rf _ _) (fit_rf _ _) ea10 e11 dX0_row_40 (fun H locs hH hS => ?_)
            refine lv_goto (pc := 43) (tgt := 55) hx hb dX0_row_43 (by decide) ?_
            refine lv_iconst (pc := 55) (v := nI 1) hx hb dX0_row_55 rfl ?_
            exact g_iretJ (pc := 56) hx hb hr hlk hH hS hkc hks hf dX0_row_56
          · obtain ⟨rfl, rfl⟩ := hP9
            try dsimp only at hf
            have hkc : kc + c1 + c9 + c2_9 ≤ mc := by omega
            have hks : ks + n1 + n9 + n2_9 ≤ ms := by omega
            cases x9 with
            | some q9 => exact noJ hf
            | none =>
              obtain ⟨nz, hnz, hH⟩ := hHx
              try dsimp only at hf
              by_cases hE9 : E9 = "java/lang/NegativeArraySizeException"
              · simp only [if_pos hE9] at hf
                have hf := swJ hnz hf
                obtain ⟨S9j, eS9j⟩ : ∃ Sz : gS, Sz = ((S9.1, nz) : gS) := ⟨((S9.1, nz) : gS), rfl⟩
                rw [← eS9j] at hf hH
                subst hE9
                refine vx_catch (own := RX0) (name := "java/lang/NegativeArraySizeException") hown [] ⟨29, 43, 46, 116⟩ [] (htb.trans rfl) lp0 (by decide) (by decide) (hts _ q300) (va_Nw.use rfl (hE.2.1.1 _ _ q369)) h1_9 h2_9 h3_9 ?_
                refine lv_astore (pc := 46) (i := 4) (lv' := [(4, .ref q9), (0, .ref l0), (1, .int l1), (2, .int l2), (3, .int l3)]) hx hb dX0_row_46 hl (by decide) rfl (fun ls hl => ?_)
                refine lv_aload_n (pc := 48) hx hb dX0_row_48 rfl (lv_at hl 1 rfl) ?_
                refine lv_bipush (pc := 49) (v := -82) hx hb dX0_row_49 gkbm82 ?_
                obtain ⟨_, ek12, hf⟩ := bdJ hf
                obtain ⟨v12, S12, c12, n12, c2_12, n2_12, e12, hf, hC12, hN12⟩ := gbJ hf
                refine g_callV (pc := 51) (o := (some l0)) (b := l0) (As := [.int (-82)]) (rest := []) (st1 := [.int v12]) hc (mX0_no hk hJ (l0 := l0) (l1 := (-82)) e12) (cwV 1 hts (lw_V q398 q400 qs2 q97 q401) rfl rfl rfl hdX0_no ⟨Nat.le_of_ble_eq_true rfl, Nat.le_of_ble_eq_true rfl⟩) (g_recv hE hk hH (ci := 0) (q := (RX0, TX0, 7)) rfl (chk_o ek12).choose_spec) rfl rfl hl.1 rfl rfl (lv_room (Nat.le_of_ble_eq_true rfl)) dX0_row_51 hH hS (by omega) (by omega) (fun H locs hH hS => ?_)
                have hkc : kc + c1 + c9 + c12 + c2_12 ≤ mc := by omega
                have hks : ks + n1 + n9 + n12 + n2_12 ≤ ms := by omega
                exact g_iretJ (pc := 54) hx hb hr hlk hH hS hkc hks hf dX0_row_54
              · simp only [if_neg hE9] at hf
                exact noJ hf
        · simp only [if_neg c5] at hf
          exact wX0_row_b22 hk hJ hst htb hc l0 S1 _ _ ls _ _ _ _ hkc hks hH hS (lv_sub hl [0] rfl) hf
theorem mX0_row {l : Launch} {G : gG} {Rp : gM → gM → Nat → Prop} (hk : rOK Rp) (hJ : JDK l G Rp) (hst : l.stackTraces = false) {S : gS} {C N : Nat} {l0 : Nat} {l1 : Int32} {l2 : Int32} {l3 : Int32} {P : Int32 ⊕ gTh → gS → Prop} (hf : ∀ j : Nat, oky C N (fX0_row j l0 l1 l2 l3 S) P) : gMetJ l yX0_row (wsW_ yX0_row cX0_row 5 (some .int) [(29, 43, 46, 116)]) 13 10521 G Rp [.ref l0, .int l1, .int l2, .int l3] S iI P C N := by
  refine g_startJW (by decide) (Nat.le_of_ble_eq_true rfl) (fun p e s m args below meth c ls hc htb hl hH => ?_)
  have hl : lv_has ls 5 [(0, .ref l0), (1, .int l1), (2, .int l2), (3, .int l3)] := hl
  exact wX0_row_b0 hk hJ hst htb hc l0 l1 l2 l3 S _ _ ls 0 0 C N (by omega) (by omega) hH va_S.rf (lv_sub hl [0, 1, 2, 3] rfl) hf
end
section
variable {r : Int32} {Sf : gS}
def fX0_seed (l0 : Nat) (l1 : Int32) (S : gS) : gO Int32 :=
  bd (rdR S l0 0 0) fun v1 =>
  bd v1 fun a2 =>
  bd (rdI S a2 1 6) fun v3 =>
  bd (rdR S l0 0 0) fun v4 =>
  bd v4 fun a5 =>
  bd (wr S a5 1 6 (.int l1)) fun S6 =>
  some (v3, S6, 0, 0)
theorem wX0_seed_b0 (hk : rOK Rp) (hJ : JDK l G Rp) (hc : gC p s m args meth c G RX0 "seed" cX0_seed 3 (some .int)) (l0 : Nat) (l1 : Int32) (S : gS) (H : Heap) (locs : List Loc) (ls : Array Slot) (kc ks C N : Nat) (hkc : kc + C ≤ mc) (hks : ks + N ≤ ms) (hH : hp G Rp S H) (hS : va_S G.2.2.2 s.heap H locs) (hl : lv_has ls 3 [(0, .ref l0), (1, .int l1)]) (hf : fX0_seed l0 l1 S = some (r, Sf, C, N)) : W p l e (gR 1 40 mc ms) s m args below meth c H locs kc ks (gQ below G Rp (some (.int r)) Sf args s mc ms) (F0 m 0 ls []) := by
  obtain ⟨hx, hb, hr, hlk, hml, hown, hts, hE, hA, hnm⟩ := hc
  have hc : gC p s m args meth c G RX0 "seed" cX0_seed 3 (some .int) := ⟨hx, hb, hr, hlk, hml, hown, hts, hE, hA, hnm⟩
  unfold fX0_seed at hf
  refine lv_aload_n (pc := 0) hx hb dX0_seed_0 rfl (lv_at hl 0 rfl) ?_
  obtain ⟨v1, e1, hf⟩ := bdo hf
  refine g_get (pc := 1) (o := (some l0)) (a := l0) (ci := 0) (k := 0) (v := va_rf v1) (C := RX0) (T := TX0) (N := 7) hx hb hts hown hE hk hH in_X0 rfl (by decide) (hts _ q272) (fun _ h9 => h9) rfl (rdR_o e1) dX0_seed_1 ?_
  obtain ⟨a2, ea2, hf⟩ := bdo hf
  obtain ⟨v3, e3, hf⟩ := bdo hf
  refine g_get (pc := 4) (o := v1) (a := a2) (ci := 1) (k := 6) (v := .int v3) (C := RX1) (T := TX1) (N := 7) hx hb hts hown hE hk hH in_X1 rfl (by decide) (hts _ q244) (fun _ h9 => h9) ea2 (rdI_o e3) dX0_seed_4 ?_
  refine lv_istore_n (pc := 7) (i := 2) (lv' := [(2, .int v3), (0, .ref l0), (1, .int l1)]) hx hb dX0_seed_7 rfl hl (by decide) rfl (fun ls hl => ?_)
  refine lv_aload_n (pc := 8) hx hb dX0_seed_8 rfl (lv_at hl 1 rfl) ?_
  obtain ⟨v4, e4, hf⟩ := bdo hf
  refine g_get (pc := 9) (o := (some l0)) (a := l0) (ci := 0) (k := 0) (v := va_rf v4) (C := RX0) (T := TX0) (N := 7) hx hb hts hown hE hk hH in_X0 rfl (by decide) (hts _ q272) (fun _ h9 => h9) rfl (rdR_o e4) dX0_seed_9 ?_
  refine lv_iload_n (pc := 12) hx hb dX0_seed_12 rfl (lv_at hl 2 rfl) ?_
  obtain ⟨a5, ea5, hf⟩ := bdo hf
  obtain ⟨S6, e6, hf⟩ := bdo hf
  refine g_put (pc := 13) (o := v4) (a := a5) (ci := 1) (k := 6) (v := .int l1) (C := RX1) (T := TX1) (N := 7) (ty := .int) hx hb hts hown hE hk hH hS rfl in_X1 tyX1_ok nmX1 rfl (by decide) (hts _ q244) (fun _ h9 => h9) rfl rfl rfl rfl ea5 e6 dX0_seed_13 (fun H locs hH hS => ?_)
  refine lv_iload_n (pc := 16) hx hb dX0_seed_16 rfl (lv_at hl 0 rfl) ?_
  exact g_iret (pc := 17) hx hb hr hlk hH hS hkc hks hf dX0_seed_17
theorem mX0_seed {l : Launch} {G : gG} {Rp : gM → gM → Nat → Prop} (hk : rOK Rp) (hJ : JDK l G Rp) {S S2 : gS} {r2 : Int32} {C N : Nat} {l0 : Nat} {l1 : Int32} (hf : fX0_seed l0 l1 S = some (r2, S2, C, N)) : gMet l yX0_seed cX0_seed 3 (some .int) 1 40 G Rp [.ref l0, .int l1] S (some (.int r2)) S2 C N := by
  refine g_start (by decide) (Nat.le_of_ble_eq_true rfl) (fun p e s m args below meth c ls hc hl hH => ?_)
  have hl : lv_has ls 3 [(0, .ref l0), (1, .int l1)] := hl
  exact wX0_seed_b0 hk hJ hc l0 l1 S _ _ ls 0 0 C N (by omega) (by omega) hH va_S.rf (lv_sub hl [0, 1] rfl) hf
end
section
variable {P : Int32 ⊕ gTh → gS → Prop}
def fX0_set (G : gG) (j : Nat) (l0 : Nat) (l1 : Int32) (l2 : Int32) (l3 : Int64) (S : gS) : gX Int32 :=
  gb (fX0_isShelf l1 S) fun v1 S1 =>
  if v1 = 0 then
    bd (chk S1 l0 0) fun _ =>
    gb (fX0_no l0 (-82) S1) fun v8 S8 =>
    some (.inl v8, S8, 0, 0)
  else
    bd (chk S1 l0 0) fun _ =>
    gb (fX0_rowIn G l0 l1 S1) fun r3 S3 => match r3 with
    | .inl v3 =>
      gb (fX0_puts v3 l2 l3 S3) fun r4 S4 => match r4 with
      | .inl _ =>
        some (.inl (nI 1), S4, 0, 0)
      | .inr (_, some _) => none
      | .inr (E4, none) =>
        if E4 = "java/lang/ArrayIndexOutOfBoundsException" then
          bd (some ((S4.1, S4.2 + j) : gS)) fun S4j =>
          bd (chk S4j l0 0) fun _ =>
          gb (fX0_no l0 (-82) S4j) fun v5 S5 =>
          some (.inl v5, S5, 0, 0)
        else none
    | .inr (_, none) => none
    | .inr (E3, some q3) =>
      if E3 = "CreditBroker$Refused" then
        bd (rdI S3 q3 28 6) fun v6 =>
        bd (chk S3 l0 0) fun _ =>
        gb (fX0_no l0 v6 S3) fun v7 S7 =>
        some (.inl v7, S7, 0, 0)
      else none
theorem wX0_set_b0 (hk : rOK Rp) (hJ : JDK l G Rp) (hst : l.stackTraces = false) (htb : c.exceptionTable.toList = tableOf [(14, 25, 26, 118), (14, 25, 38, 134)]) (hc : gC p s m args meth c G RX0 "set" cX0_set 6 (some .int)) (l0 : Nat) (l1 : Int32) (l2 : Int32) (l3 : Int64) (S : gS) (H : Heap) (locs : List Loc) (ls : Array Slot) (kc ks C N : Nat) (hkc : kc + C ≤ mc) (hks : ks + N ≤ ms) (hH : hp G Rp S H) (hS : va_S G.2.2.2 s.heap H locs) (hl : lv_has ls 6 [(0, .ref l0), (1, .int l1), (2, .int l2), (3, .long l3)]) (hf : (∀ j : Nat, oky C N (fX0_set G j l0 l1 l2 l3 S) P)) : W p l e (gR 13 10523 mc ms) s m args below meth c H locs kc ks (gQJ below G Rp iI P args s mc ms) (F0 m 0 ls []) := by
  obtain ⟨hx, hb, hr, hlk, hml, hown, hts, hE, hA, hnm⟩ := hc
  have hc : gC p s m args meth c G RX0 "set" cX0_set 6 (some .int) := ⟨hx, hb, hr, hlk, hml, hown, hts, hE, hA, hnm⟩
  simp only [fX0_set] at hf
  refine lv_iload_n (pc := 0) hx hb dX0_set_0 rfl (lv_at hl 1 rfl) ?_
  obtain ⟨v1, S1, c1, n1, c2_1, n2_1, e1, hf, hC1, hN1⟩ := gbJ hf
  refine g_callS (pc := 1) (As := [.int l1]) (rest := []) (st1 := [.int v1]) hc (mX0_isShelf hk hJ (l0 := l1) e1) (va_cwS 1 hts (lw_S q392 q393 q97 q394) rfl rfl rfl hdX0_isShelf ⟨Nat.le_of_ble_eq_true rfl, Nat.le_of_ble_eq_true rfl⟩) rfl hl.1 rfl rfl (lv_room (Nat.le_of_ble_eq_true rfl)) dX0_set_1 hH hS (by omega) (by omega) (fun H locs hH hS => ?_)
  have hkc : kc + c1 + c2_1 ≤ mc := by omega
  have hks : ks + n1 + n2_1 ≤ ms := by omega
  refine lv_if_ne (pc := 4) (tgt := 14) hx hb dX0_set_4 (by decide) (fun c2 => ?_) (fun c2 => ?_)
  · simp only [if_neg c2] at hf
    refine lv_aload_n (pc := 14) hx hb dX0_set_14 rfl (lv_at hl 0 rfl) ?_
    refine lv_iload_n (pc := 15) hx hb dX0_set_15 rfl (lv_at hl 1 rfl) ?_
    obtain ⟨_, ek3, hf⟩ := bdJ hf
    obtain ⟨r3, S3, c3, n3, c2_3, n2_3, e3, hf, hC3, hN3⟩ := gbJ hf
    refine g_callVJ (pc := 16) (ι := iR) (o := (some l0)) (b := l0) (As := [.int l1]) (rest := []) hc (mX0_rowIn hk hJ hst (l0 := l0) (l1 := l1) e3) (cwV 1 hts (lw_V q432 q434 qs3 q97 q435) rfl rfl rfl hdX0_rowIn ⟨Nat.le_of_ble_eq_true rfl, Nat.le_of_ble_eq_true rfl⟩) (g_recv hE hk hH (ci := 0) (q := (RX0, TX0, 7)) rfl (chk_o ek3).choose_spec) rfl rfl hl.1 rfl (lv_room (Nat.le_of_ble_eq_true rfl)) dX0_set_16 hH hS (by omega) (by omega) (fun v3 S9_3 H locs hP3 hH hS => ?_) (fun E3 x3 S9_3 q3 ce3 H locs hP3 hHx hS h1_3 h2_3 h3_3 => ?_)
    · obtain ⟨rfl, rfl⟩ := hP3
      try dsimp only at hf
      have hkc : kc + c1 + c3 + c2_3 ≤ mc := by omega
      have hks : ks + n1 + n3 + n2_3 ≤ ms := by omega
      refine W.eq (g2 := F0 m 19 ls [va_rf v3]) rfl ?_
      refine lv_iload_n (pc := 19) hx hb dX0_set_19 rfl (lv_at hl 2 rfl) ?_
      refine lv_lload_n (pc := 20) hx hb dX0_set_20 rfl (lv_at hl 3 rfl) ?_
      obtain ⟨r4, S4, c4, n4, c2_4, n2_4, e4, hf, hC4, hN4⟩ := gbJ hf
      refine g_callSJ (pc := 21) (ι := iV) (As := [va_rf v3, .int l2, .long l3]) (rest := []) hc (mX0_puts hk hJ hst (l0 := v3) (l1 := l2) (l2 := l3) e4) (va_cwS 3 hts (lw_S q463 q464 q97 q465) rfl rfl rfl hdX0_puts ⟨Nat.le_of_ble_eq_true rfl, Nat.le_of_ble_eq_true rfl⟩) rfl hl.1 rfl (lv_room (Nat.le_of_ble_eq_true rfl)) dX0_set_21 hH hS (by omega) (by omega) (fun u4 S9_4 H locs hP4 hH hS => ?_) (fun E4 x4 S9_4 q4 ce4 H locs hP4 hHx hS h1_4 h2_4 h3_4 => ?_)
      · obtain ⟨rfl, rfl⟩ := hP4
        try dsimp only at hf
        have hkc : kc + c1 + c3 + c4 + c2_4 ≤ mc := by omega
        have hks : ks + n1 + n3 + n4 + n2_4 ≤ ms := by omega
        refine W.eq (g2 := F0 m 24 ls []) rfl ?_
        refine lv_iconst (pc := 24) (v := nI 1) hx hb dX0_set_24 rfl ?_
        exact g_iretJ (pc := 25) hx hb hr hlk hH hS hkc hks hf dX0_set_25
      · obtain ⟨rfl, rfl⟩ := hP4
        try dsimp only at hf
        have hkc : kc + c1 + c3 + c4 + c2_4 ≤ mc := by omega
        have hks : ks + n1 + n3 + n4 + n2_4 ≤ ms := by omega
        cases x4 with
        | some q9 => exact noJ hf
        | none =>
          obtain ⟨nz, hnz, hH⟩ := hHx
          try dsimp only at hf
          by_cases hE4 : E4 = "java/lang/ArrayIndexOutOfBoundsException"
          · simp only [if_pos hE4] at hf
            have hf := swJ hnz hf
            obtain ⟨S4j, eS4j⟩ : ∃ Sz : gS, Sz = ((S4.1, nz) : gS) := ⟨((S4.1, nz) : gS), rfl⟩
            rw [← eS4j] at hf hH
            subst hE4
            refine vx_catch (own := RX0) (name := "java/lang/ArrayIndexOutOfBoundsException") hown [⟨14, 25, 26, 118⟩] ⟨14, 25, 38, 134⟩ [] (htb.trans rfl) (lpc (Or.inr ⟨by decide, "CreditBroker$Refused", hts _ q412, hE.2.2.2.2.1 _ (List.mem_of_getElem? (i := 61) rfl)⟩) lp0) (by decide) (by decide) (hts _ q413) (va_Nw.use rfl (hE.2.1.1 _ _ q428)) h1_4 h2_4 h3_4 ?_
            refine lv_astore (pc := 38) (i := 5) (lv' := [(5, .ref q4), (0, .ref l0), (1, .int l1), (2, .int l2), (3, .long l3)]) hx hb dX0_set_38 hl (by decide) rfl (fun ls hl => ?_)
            refine lv_aload_n (pc := 40) hx hb dX0_set_40 rfl (lv_at hl 1 rfl) ?_
            refine lv_bipush (pc := 41) (v := -82) hx hb dX0_set_41 gkbm82 ?_
            obtain ⟨_, ek5, hf⟩ := bdJ hf
            obtain ⟨v5, S5, c5, n5, c2_5, n2_5, e5, hf, hC5, hN5⟩ := gbJ hf
            refine g_callV (pc := 43) (o := (some l0)) (b := l0) (As := [.int (-82)]) (rest := []) (st1 := [.int v5]) hc (mX0_no hk hJ (l0 := l0) (l1 := (-82)) e5) (cwV 1 hts (lw_V q398 q400 qs2 q97 q401) rfl rfl rfl hdX0_no ⟨Nat.le_of_ble_eq_true rfl, Nat.le_of_ble_eq_true rfl⟩) (g_recv hE hk hH (ci := 0) (q := (RX0, TX0, 7)) rfl (chk_o ek5).choose_spec) rfl rfl hl.1 rfl rfl (lv_room (Nat.le_of_ble_eq_true rfl)) dX0_set_43 hH hS (by omega) (by omega) (fun H locs hH hS => ?_)
            have hkc : kc + c1 + c3 + c4 + c5 + c2_5 ≤ mc := by omega
            have hks : ks + n1 + n3 + n4 + n5 + n2_5 ≤ ms := by omega
            exact g_iretJ (pc := 46) hx hb hr hlk hH hS hkc hks hf dX0_set_46
          · simp only [if_neg hE4] at hf
            exact noJ hf
    · obtain ⟨rfl, rfl⟩ := hP3
      try dsimp only at hf
      have hkc : kc + c1 + c3 + c2_3 ≤ mc := by omega
      have hks : ks + n1 + n3 + n2_3 ≤ ms := by omega
      cases x3 with
      | none => exact noJ hf
      | some q9 =>
        obtain ⟨rfl, hH⟩ := hHx
        try dsimp only at hf
        by_cases hE3 : E3 = "CreditBroker$Refused"
        · simp only [if_pos hE3] at hf
          subst hE3
          refine vx_catch (own := RX0) (name := "CreditBroker$Refused") hown [] ⟨14, 25, 26, 118⟩ [⟨14, 25, 38, 134⟩] (htb.trans rfl) lp0 (by decide) (by decide) (hts _ q412) (va_Nw.use rfl (hE.2.1.1 _ _ q438)) h1_3 h2_3 h3_3 ?_
          refine lv_astore (pc := 26) (i := 5) (lv' := [(5, .ref q3), (0, .ref l0), (1, .int l1), (2, .int l2), (3, .long l3)]) hx hb dX0_set_26 hl (by decide) rfl (fun ls hl => ?_)
          refine lv_aload_n (pc := 28) hx hb dX0_set_28 rfl (lv_at hl 1 rfl) ?_
          refine lv_aload (pc := 29) hx hb dX0_set_29 (lv_at hl 0 rfl) ?_
          obtain ⟨v6, e6, hf⟩ := bdJ hf
          refine g_get (pc := 31) (o := (some q3)) (a := q3) (ci := 28) (k := 6) (v := .int v6) (C := RX4) (T := TX4) (N := 7) hx hb hts hown hE hk hH in_X4 rfl (by decide) (hts _ q458) (fun _ h9 => h9) rfl (rdI_o e6) dX0_set_31 ?_
          obtain ⟨_, ek7, hf⟩ := bdJ hf
          obtain ⟨v7, S7, c7, n7, c2_7, n2_7, e7, hf, hC7, hN7⟩ := gbJ hf
          refine g_callV (pc := 34) (o := (some l0)) (b := l0) (As := [.int v6]) (rest := []) (st1 := [.int v7]) hc (mX0_no hk hJ (l0 := l0) (l1 := v6) e7) (cwV 1 hts (lw_V q398 q400 qs2 q97 q401) rfl rfl rfl hdX0_no ⟨Nat.le_of_ble_eq_true rfl, Nat.le_of_ble_eq_true rfl⟩) (g_recv hE hk hH (ci := 0) (q := (RX0, TX0, 7)) rfl (chk_o ek7).choose_spec) rfl rfl hl.1 rfl rfl (lv_room (Nat.le_of_ble_eq_true rfl)) dX0_set_34 hH hS (by omega) (by omega) (fun H locs hH hS => ?_)
          have hkc : kc + c1 + c3 + c7 + c2_7 ≤ mc := by omega
          have hks : ks + n1 + n3 + n7 + n2_7 ≤ ms := by omega
          exact g_iretJ (pc := 37) hx hb hr hlk hH hS hkc hks hf dX0_set_37
        · simp only [if_neg hE3] at hf
          exact noJ hf
  · simp only [if_pos c2] at hf
    refine lv_aload_n (pc := 7) hx hb dX0_set_7 rfl (lv_at hl 0 rfl) ?_
    refine lv_bipush (pc := 8) (v := -82) hx hb dX0_set_8 gkbm82 ?_
    obtain ⟨_, ek8, hf⟩ := bdJ hf
    obtain ⟨v8, S8, c8, n8, c2_8, n2_8, e8, hf, hC8, hN8⟩ := gbJ hf
    refine g_callV (pc := 10) (o := (some l0)) (b := l0) (As := [.int (-82)]) (rest := []) (st1 := [.int v8]) hc (mX0_no hk hJ (l0 := l0) (l1 := (-82)) e8) (cwV 1 hts (lw_V q398 q400 qs2 q97 q401) rfl rfl rfl hdX0_no ⟨Nat.le_of_ble_eq_true rfl, Nat.le_of_ble_eq_true rfl⟩) (g_recv hE hk hH (ci := 0) (q := (RX0, TX0, 7)) rfl (chk_o ek8).choose_spec) rfl rfl hl.1 rfl rfl (lv_room (Nat.le_of_ble_eq_true rfl)) dX0_set_10 hH hS (by omega) (by omega) (fun H locs hH hS => ?_)
    have hkc : kc + c1 + c8 + c2_8 ≤ mc := by omega
    have hks : ks + n1 + n8 + n2_8 ≤ ms := by omega
    exact g_iretJ (pc := 13) hx hb hr hlk hH hS hkc hks hf dX0_set_13
theorem mX0_set {l : Launch} {G : gG} {Rp : gM → gM → Nat → Prop} (hk : rOK Rp) (hJ : JDK l G Rp) (hst : l.stackTraces = false) {S : gS} {C N : Nat} {l0 : Nat} {l1 : Int32} {l2 : Int32} {l3 : Int64} {P : Int32 ⊕ gTh → gS → Prop} (hf : ∀ j : Nat, oky C N (fX0_set G j l0 l1 l2 l3 S) P) : gMetJ l yX0_set (wsW_ yX0_set cX0_set 6 (some .int) [(14, 25, 26, 118), (14, 25, 38, 134)]) 13 10523 G Rp [.ref l0, .int l1, .int l2, .long l3] S iI P C N := by
  refine g_startJW (by decide) (Nat.le_of_ble_eq_true rfl) (fun p e s m args below meth c ls hc htb hl hH => ?_)
  have hl : lv_has ls 6 [(0, .ref l0), (1, .int l1), (2, .int l2), (3, .long l3)] := hl
  exact wX0_set_b0 hk hJ hst htb hc l0 l1 l2 l3 S _ _ ls 0 0 C N (by omega) (by omega) hH va_S.rf (lv_sub hl [0, 1, 2, 3] rfl) hf
end
end
