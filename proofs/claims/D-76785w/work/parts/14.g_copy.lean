/-! printed by gen/cgen.py (SC=1): the methods says and copy, lifted and walked -/
set_option maxRecDepth 100000
set_option maxHeartbeats 4000000
section
variable {p : Program} {l : Launch} {e : Env} {s : State} {m : MethodId} {args : Array Value} {below : List Frame} {meth : Method} {c : Code} {G : gG} {Rp : gM → gM → Nat → Prop} {mc ms : Nat}
section
variable {P : Int32 ⊕ gTh → gS → Prop}
def fX0_copy_b14 (j : Nat) (l0 : Nat) (S : gS) : gX Int32 :=
  bd (chk S l0 0) fun _ =>
  gb (fX0_no l0 (-82) S) fun v1 S1 =>
  some (.inl v1, S1, 0, 0)
theorem wX0_copy_b14 (hk : rOK Rp) (hJ : JDK l G Rp) (hst : l.stackTraces = false) (htb : c.exceptionTable.toList = tableOf [(66, 80, 81, 142), (66, 80, 90, 144), (66, 80, 99, 146)]) (hc : gC p s m args meth c G RX0 "copy" cX0_copy 9 (some .int)) (l0 : Nat) (S : gS) (H : Heap) (locs : List Loc) (ls : Array Slot) (kc ks C N : Nat) (hkc : kc + C ≤ mc) (hks : ks + N ≤ ms) (hH : hp G Rp S H) (hS : va_S G.2.2.2 s.heap H locs) (hl : lv_has ls 9 [(0, .ref l0)]) (hf : (∀ j : Nat, oky C N (fX0_copy_b14 j l0 S) P)) : W p l e (gR 12 10500 mc ms) s m args below meth c H locs kc ks (gQJ below G Rp iI P args s mc ms) (F0 m 14 ls []) := by
  obtain ⟨hx, hb, hr, hlk, hml, hown, hts, hE, hA, hnm⟩ := hc
  have hc : gC p s m args meth c G RX0 "copy" cX0_copy 9 (some .int) := ⟨hx, hb, hr, hlk, hml, hown, hts, hE, hA, hnm⟩
  simp only [fX0_copy_b14] at hf
  refine lv_aload_n (pc := 14) hx hb dX0_copy_14 rfl (lv_at hl 0 rfl) ?_
  refine lv_bipush (pc := 15) (v := -82) hx hb dX0_copy_15 gkbm82 ?_
  obtain ⟨_, ek1, hf⟩ := bdJ hf
  obtain ⟨v1, S1, c1, n1, c2_1, n2_1, e1, hf, hC1, hN1⟩ := gbJ hf
  refine g_callV (pc := 17) (o := (some l0)) (b := l0) (As := [.int (-82)]) (rest := []) (st1 := [.int v1]) hc (mX0_no hk hJ (l0 := l0) (l1 := (-82)) e1) (cwV 1 hts (lw_V q398 q400 qs2 q97 q401) rfl rfl rfl hdX0_no ⟨Nat.le_of_ble_eq_true rfl, Nat.le_of_ble_eq_true rfl⟩) (g_recv hE hk hH (ci := 0) (q := (RX0, TX0, 7)) rfl (chk_o ek1).choose_spec) rfl rfl hl.1 rfl rfl (lv_room (Nat.le_of_ble_eq_true rfl)) dX0_copy_17 hH hS (by omega) (by omega) (fun H locs hH hS => ?_)
  have hkc : kc + c1 + c2_1 ≤ mc := by omega
  have hks : ks + n1 + n2_1 ≤ ms := by omega
  exact g_iretJ (pc := 20) hx hb hr hlk hH hS hkc hks hf dX0_copy_20
def fX0_copy_b59 (j : Nat) (l0 : Nat) (S : gS) : gX Int32 :=
  bd (chk S l0 0) fun _ =>
  gb (fX0_no l0 (-83) S) fun v1 S1 =>
  some (.inl v1, S1, 0, 0)
theorem wX0_copy_b59 (hk : rOK Rp) (hJ : JDK l G Rp) (hst : l.stackTraces = false) (htb : c.exceptionTable.toList = tableOf [(66, 80, 81, 142), (66, 80, 90, 144), (66, 80, 99, 146)]) (hc : gC p s m args meth c G RX0 "copy" cX0_copy 9 (some .int)) (l0 : Nat) (S : gS) (H : Heap) (locs : List Loc) (ls : Array Slot) (kc ks C N : Nat) (hkc : kc + C ≤ mc) (hks : ks + N ≤ ms) (hH : hp G Rp S H) (hS : va_S G.2.2.2 s.heap H locs) (hl : lv_has ls 9 [(0, .ref l0)]) (hf : (∀ j : Nat, oky C N (fX0_copy_b59 j l0 S) P)) : W p l e (gR 12 10500 mc ms) s m args below meth c H locs kc ks (gQJ below G Rp iI P args s mc ms) (F0 m 59 ls []) := by
  obtain ⟨hx, hb, hr, hlk, hml, hown, hts, hE, hA, hnm⟩ := hc
  have hc : gC p s m args meth c G RX0 "copy" cX0_copy 9 (some .int) := ⟨hx, hb, hr, hlk, hml, hown, hts, hE, hA, hnm⟩
  simp only [fX0_copy_b59] at hf
  refine lv_aload_n (pc := 59) hx hb dX0_copy_59 rfl (lv_at hl 0 rfl) ?_
  refine lv_bipush (pc := 60) (v := -83) hx hb dX0_copy_60 gkbm83 ?_
  obtain ⟨_, ek1, hf⟩ := bdJ hf
  obtain ⟨v1, S1, c1, n1, c2_1, n2_1, e1, hf, hC1, hN1⟩ := gbJ hf
  refine g_callV (pc := 62) (o := (some l0)) (b := l0) (As := [.int (-83)]) (rest := []) (st1 := [.int v1]) hc (mX0_no hk hJ (l0 := l0) (l1 := (-83)) e1) (cwV 1 hts (lw_V q398 q400 qs2 q97 q401) rfl rfl rfl hdX0_no ⟨Nat.le_of_ble_eq_true rfl, Nat.le_of_ble_eq_true rfl⟩) (g_recv hE hk hH (ci := 0) (q := (RX0, TX0, 7)) rfl (chk_o ek1).choose_spec) rfl rfl hl.1 rfl rfl (lv_room (Nat.le_of_ble_eq_true rfl)) dX0_copy_62 hH hS (by omega) (by omega) (fun H locs hH hS => ?_)
  have hkc : kc + c1 + c2_1 ≤ mc := by omega
  have hks : ks + n1 + n2_1 ≤ ms := by omega
  exact g_iretJ (pc := 65) hx hb hr hlk hH hS hkc hks hf dX0_copy_65
def fX0_copy (j : Nat) (l0 : Nat) (l1 : Int32) (l2 : Int32) (l3 : Int32) (l4 : Int32) (l5 : Int32) (S : gS) : gX Int32 :=
  gb (fX0_isShelf l1 S) fun v1 S1 =>
  if v1 = 0 then
    fX0_copy_b14 j l0 S1
  else
    gb (fX0_isShelf l2 S1) fun v3 S3 =>
    if v3 = 0 then
      fX0_copy_b14 j l0 S3
    else
      bd (rdR S3 l0 0 3) fun v5 =>
      bd v5 fun a6 =>
      bd (rdAq S3 a6 6 l1) fun v7 =>
      bd v7 fun a8 =>
      bd (rdR S3 a8 2 0) fun v9 =>
      bd (rdR S3 l0 0 3) fun v10 =>
      bd v10 fun a11 =>
      bd (rdAq S3 a11 6 l2) fun v12 =>
      bd v12 fun a13 =>
      bd (rdR S3 a13 2 0) fun v14 =>
      bd (insC S3 v9) fun v15 =>
      if v15 = 0 then
        bd (insC S3 v14) fun v17 =>
        if v17 = 0 then
          bd (cpyX S3 v9 l3 v14 l4 l5) fun r19 =>
          if r19.1 ≠ 0 then ad 3 1010 (
            bd (some ((S3.1, S3.2 + j) : gS)) fun S19j =>
            if r19.1 = 1 then
              bd (chk S19j l0 0) fun _ =>
              gb (fX0_no l0 (-84) S19j) fun v20 S20 =>
              some (.inl v20, S20, 0, 0)
            else if r19.1 = 2 then
              bd (chk S19j l0 0) fun _ =>
              gb (fX0_no l0 (-83) S19j) fun v21 S21 =>
              some (.inl v21, S21, 0, 0)
            else
              bd (chk S19j l0 0) fun _ =>
              gb (fX0_no l0 (-82) S19j) fun v22 S22 =>
              some (.inl v22, S22, 0, 0)) else
          some (.inl l5, r19.2, 0, 0)
        else
          fX0_copy_b59 j l0 S3
      else
        fX0_copy_b59 j l0 S3
theorem wX0_copy_b0 (hk : rOK Rp) (hJ : JDK l G Rp) (hst : l.stackTraces = false) (htb : c.exceptionTable.toList = tableOf [(66, 80, 81, 142), (66, 80, 90, 144), (66, 80, 99, 146)]) (hc : gC p s m args meth c G RX0 "copy" cX0_copy 9 (some .int)) (l0 : Nat) (l1 : Int32) (l2 : Int32) (l3 : Int32) (l4 : Int32) (l5 : Int32) (S : gS) (H : Heap) (locs : List Loc) (ls : Array Slot) (kc ks C N : Nat) (hkc : kc + C ≤ mc) (hks : ks + N ≤ ms) (hH : hp G Rp S H) (hS : va_S G.2.2.2 s.heap H locs) (hl : lv_has ls 9 [(0, .ref l0), (1, .int l1), (2, .int l2), (3, .int l3), (4, .int l4), (5, .int l5)]) (hf : (∀ j : Nat, oky C N (fX0_copy j l0 l1 l2 l3 l4 l5 S) P)) : W p l e (gR 12 10500 mc ms) s m args below meth c H locs kc ks (gQJ below G Rp iI P args s mc ms) (F0 m 0 ls []) := by
  obtain ⟨hx, hb, hr, hlk, hml, hown, hts, hE, hA, hnm⟩ := hc
  have hc : gC p s m args meth c G RX0 "copy" cX0_copy 9 (some .int) := ⟨hx, hb, hr, hlk, hml, hown, hts, hE, hA, hnm⟩
  simp only [fX0_copy] at hf
  refine lv_iload_n (pc := 0) hx hb dX0_copy_0 rfl (lv_at hl 1 rfl) ?_
  obtain ⟨v1, S1, c1, n1, c2_1, n2_1, e1, hf, hC1, hN1⟩ := gbJ hf
  refine g_callS (pc := 1) (As := [.int l1]) (rest := []) (st1 := [.int v1]) hc (mX0_isShelf hk hJ (l0 := l1) e1) (va_cwS 1 hts (lw_S q392 q393 q97 q394) rfl rfl rfl hdX0_isShelf ⟨Nat.le_of_ble_eq_true rfl, Nat.le_of_ble_eq_true rfl⟩) rfl hl.1 rfl rfl (lv_room (Nat.le_of_ble_eq_true rfl)) dX0_copy_1 hH hS (by omega) (by omega) (fun H locs hH hS => ?_)
  have hkc : kc + c1 + c2_1 ≤ mc := by omega
  have hks : ks + n1 + n2_1 ≤ ms := by omega
  refine lv_if_eq (pc := 4) (tgt := 14) hx hb dX0_copy_4 (by decide) (fun c2 => ?_) (fun c2 => ?_)
  · simp only [if_pos c2] at hf
    exact wX0_copy_b14 hk hJ hst htb hc l0 S1 _ _ ls _ _ _ _ hkc hks hH hS (lv_sub hl [0] rfl) hf
  · simp only [if_neg c2] at hf
    refine lv_iload_n (pc := 7) hx hb dX0_copy_7 rfl (lv_at hl 2 rfl) ?_
    obtain ⟨v3, S3, c3, n3, c2_3, n2_3, e3, hf, hC3, hN3⟩ := gbJ hf
    refine g_callS (pc := 8) (As := [.int l2]) (rest := []) (st1 := [.int v3]) hc (mX0_isShelf hk hJ (l0 := l2) e3) (va_cwS 1 hts (lw_S q392 q393 q97 q394) rfl rfl rfl hdX0_isShelf ⟨Nat.le_of_ble_eq_true rfl, Nat.le_of_ble_eq_true rfl⟩) rfl hl.1 rfl rfl (lv_room (Nat.le_of_ble_eq_true rfl)) dX0_copy_8 hH hS (by omega) (by omega) (fun H locs hH hS => ?_)
    have hkc : kc + c1 + c3 + c2_3 ≤ mc := by omega
    have hks : ks + n1 + n3 + n2_3 ≤ ms := by omega
    refine lv_if_ne (pc := 11) (tgt := 21) hx hb dX0_copy_11 (by decide) (fun c4 => ?_) (fun c4 => ?_)
    · simp only [if_neg c4] at hf
      refine lv_aload_n (pc := 21) hx hb dX0_copy_21 rfl (lv_at hl 0 rfl) ?_
      obtain ⟨v5, e5, hf⟩ := bdJ hf
      refine g_get (pc := 22) (o := (some l0)) (a := l0) (ci := 0) (k := 3) (v := va_rf v5) (C := RX0) (T := TX0) (N := 7) hx hb hts hown hE hk hH in_X0 rfl (by decide) (hts _ q275) (fun _ h9 => h9) rfl (rdR_o e5) dX0_copy_22 ?_
      refine lv_iload_n (pc := 25) hx hb dX0_copy_25 rfl (lv_at hl 1 rfl) ?_
      obtain ⟨a6, ea6, hf⟩ := bdJ hf
      obtain ⟨v7, e7, hf⟩ := bdJ hf
      refine g_aald (pc := 26) (o := v5) (a := a6) (t := 6) (t0 := 6) hx hb hE hk hH rfl ea6 e7 dX0_copy_26 ?_
      obtain ⟨a8, ea8, hf⟩ := bdJ hf
      obtain ⟨v9, e9, hf⟩ := bdJ hf
      refine g_get (pc := 27) (o := v7) (a := a8) (ci := 2) (k := 0) (v := va_rf v9) (C := RX2) (T := TX2) (N := 1) hx hb hts hown hE hk hH in_X2 rfl (by decide) (hts _ q267) (fun _ h9 => h9) ea8 (rdR_o e9) dX0_copy_27 ?_
      refine g_astore (pc := 30) (i := 6) (o := v9) (lv' := [(6, va_rf v9), (0, .ref l0), (1, .int l1), (2, .int l2), (3, .int l3), (4, .int l4), (5, .int l5)]) hx hb dX0_copy_30 hl (by decide) rfl (fun ls hl => ?_)
      refine lv_aload_n (pc := 32) hx hb dX0_copy_32 rfl (lv_at hl 1 rfl) ?_
      obtain ⟨v10, e10, hf⟩ := bdJ hf
      refine g_get (pc := 33) (o := (some l0)) (a := l0) (ci := 0) (k := 3) (v := va_rf v10) (C := RX0) (T := TX0) (N := 7) hx hb hts hown hE hk hH in_X0 rfl (by decide) (hts _ q275) (fun _ h9 => h9) rfl (rdR_o e10) dX0_copy_33 ?_
      refine lv_iload_n (pc := 36) hx hb dX0_copy_36 rfl (lv_at hl 3 rfl) ?_
      obtain ⟨a11, ea11, hf⟩ := bdJ hf
      obtain ⟨v12, e12, hf⟩ := bdJ hf
      refine g_aald (pc := 37) (o := v10) (a := a11) (t := 6) (t0 := 6) hx hb hE hk hH rfl ea11 e12 dX0_copy_37 ?_
      obtain ⟨a13, ea13, hf⟩ := bdJ hf
      obtain ⟨v14, e14, hf⟩ := bdJ hf
      refine g_get (pc := 38) (o := v12) (a := a13) (ci := 2) (k := 0) (v := va_rf v14) (C := RX2) (T := TX2) (N := 1) hx hb hts hown hE hk hH in_X2 rfl (by decide) (hts _ q267) (fun _ h9 => h9) ea13 (rdR_o e14) dX0_copy_38 ?_
      refine g_astore (pc := 41) (i := 7) (o := v14) (lv' := [(7, va_rf v14), (6, va_rf v9), (0, .ref l0), (1, .int l1), (2, .int l2), (3, .int l3), (4, .int l4), (5, .int l5)]) hx hb dX0_copy_41 hl (by decide) (by simp [va_rf_cat, cat_i, cat_j, cat_r] <;> rfl) (fun ls hl => ?_)
      refine g_aload (pc := 43) (o := v9) hx hb dX0_copy_43 (lv_at hl 1 rfl) ?_
      obtain ⟨v15, e15, hf⟩ := bdJ hf
      refine g_insC (pc := 45) (o := v9) hx hb hts hown hE hk hH q436 e15 dX0_copy_45 ?_
      refine lv_if_ne (pc := 48) (tgt := 59) hx hb dX0_copy_48 (by decide) (fun c16 => ?_) (fun c16 => ?_)
      · simp only [if_neg c16] at hf
        exact wX0_copy_b59 hk hJ hst htb hc l0 S3 _ _ ls _ _ _ _ hkc hks hH hS (lv_sub hl [2] rfl) hf
      · simp only [if_pos c16] at hf
        refine g_aload (pc := 51) (o := v14) hx hb dX0_copy_51 (lv_at hl 0 rfl) ?_
        obtain ⟨v17, e17, hf⟩ := bdJ hf
        refine g_insC (pc := 53) (o := v14) hx hb hts hown hE hk hH q436 e17 dX0_copy_53 ?_
        refine lv_if_eq (pc := 56) (tgt := 66) hx hb dX0_copy_56 (by decide) (fun c18 => ?_) (fun c18 => ?_)
        · simp only [if_pos c18] at hf
          refine g_aload (pc := 66) (o := v9) hx hb dX0_copy_66 (lv_at hl 1 rfl) ?_
          refine lv_iload_n (pc := 68) hx hb dX0_copy_68 rfl (lv_at hl 5 rfl) ?_
          refine g_aload (pc := 69) (o := v14) hx hb dX0_copy_69 (lv_at hl 0 rfl) ?_
          refine lv_iload (pc := 71) hx hb dX0_copy_71 (lv_at hl 6 rfl) ?_
          refine lv_iload (pc := 73) hx hb dX0_copy_73 (lv_at hl 7 rfl) ?_
          obtain ⟨r19, e19, hf⟩ := bdJ hf
          by_cases c19 : r19.1 ≠ 0
          · simp only [if_pos c19] at hf
            obtain ⟨c2_19, n2_19, hf, hC19, hN19⟩ := adJ hf
            have hkc : kc + c1 + c3 + 3 + c2_19 ≤ mc := by omega
            have hks : ks + n1 + n3 + 1010 + n2_19 ≤ ms := by omega
            by_cases h1 : r19.1 = 1
            · simp only [if_pos h1] at hf
              refine g_acN (pc := 75) (o0 := v9) (o := v14) hc hst (hml.trans hl.1.symm) hk hH hS q518 q520 q519 q116 e19 h1 (by decide) (by simp [va_rf_cat, cat_i, cat_j, cat_r]) (by omega) (by omega) dX0_copy_75 (fun H q19 ce nz hnz hH hS h1_19 h2_19 h3_19 => ?_)
              have hf := swJ hnz hf
              obtain ⟨S19j, eS19j⟩ : ∃ Sz : gS, Sz = ((S3.1, nz) : gS) := ⟨((S3.1, nz) : gS), rfl⟩
              rw [← eS19j] at hf hH
              refine vx_catch (own := RX0) (name := "java/lang/NullPointerException") hown [] ⟨66, 80, 81, 142⟩ [⟨66, 80, 90, 144⟩, ⟨66, 80, 99, 146⟩] (htb.trans rfl) lp0 (by decide) (by decide) (hts _ q478) (va_Nw.use rfl (hE.2.1.1 _ _ q500)) h1_19 h2_19 h3_19 ?_
              refine lv_astore (pc := 81) (i := 8) (lv' := [(8, .ref q19), (7, va_rf v14), (6, va_rf v9), (0, .ref l0), (1, .int l1), (2, .int l2), (3, .int l3), (4, .int l4), (5, .int l5)]) hx hb dX0_copy_81 hl (by decide) (by simp [va_rf_cat, cat_i, cat_j, cat_r] <;> rfl) (fun ls hl => ?_)
              refine lv_aload_n (pc := 83) hx hb dX0_copy_83 rfl (lv_at hl 3 rfl) ?_
              refine lv_bipush (pc := 84) (v := -84) hx hb dX0_copy_84 gkbm84 ?_
              obtain ⟨_, ek20, hf⟩ := bdJ hf
              obtain ⟨v20, S20, c20, n20, c2_20, n2_20, e20, hf, hC20, hN20⟩ := gbJ hf
              refine g_callV (pc := 86) (o := (some l0)) (b := l0) (As := [.int (-84)]) (rest := []) (st1 := [.int v20]) hc (mX0_no hk hJ (l0 := l0) (l1 := (-84)) e20) (cwV 1 hts (lw_V q398 q400 qs2 q97 q401) rfl rfl rfl hdX0_no ⟨Nat.le_of_ble_eq_true rfl, Nat.le_of_ble_eq_true rfl⟩) (g_recv hE hk hH (ci := 0) (q := (RX0, TX0, 7)) rfl (chk_o ek20).choose_spec) rfl rfl hl.1 rfl rfl (lv_room (Nat.le_of_ble_eq_true rfl)) dX0_copy_86 hH hS (by omega) (by omega) (fun H locs hH hS => ?_)
              have hkc : kc + c1 + c3 + 3 + c20 + c2_20 ≤ mc := by omega
              have hks : ks + n1 + n3 + 1010 + n20 + n2_20 ≤ ms := by omega
              exact g_iretJ (pc := 89) hx hb hr hlk hH hS hkc hks hf dX0_copy_89
            · simp only [if_neg h1] at hf
              by_cases h2 : r19.1 = 2
              · simp only [if_pos h2] at hf
                refine g_acS (pc := 75) (o0 := v9) (o := v14) hc hst (hml.trans hl.1.symm) hk hH hS q518 q520 q519 q116 e19 h2 (by decide) (by simp [va_rf_cat, cat_i, cat_j, cat_r]) (by omega) (by omega) dX0_copy_75 (fun H q19 ce nz hnz hH hS h1_19 h2_19 h3_19 => ?_)
                have hf := swJ hnz hf
                obtain ⟨S19j, eS19j⟩ : ∃ Sz : gS, Sz = ((S3.1, nz) : gS) := ⟨((S3.1, nz) : gS), rfl⟩
                rw [← eS19j] at hf hH
                refine vx_catch (own := RX0) (name := "java/lang/ArrayStoreException") hown [⟨66, 80, 81, 142⟩] ⟨66, 80, 90, 144⟩ [⟨66, 80, 99, 146⟩] (htb.trans rfl) (lpc (Or.inr ⟨by decide, "java/lang/NullPointerException", hts _ q478, hE.2.2.2.2.1 _ (List.mem_of_getElem? (i := 62) rfl)⟩) lp0) (by decide) (by decide) (hts _ q503) (va_Nw.use rfl (hE.2.1.1 _ _ q515)) h1_19 h2_19 h3_19 ?_
                refine lv_astore (pc := 90) (i := 8) (lv' := [(8, .ref q19), (7, va_rf v14), (6, va_rf v9), (0, .ref l0), (1, .int l1), (2, .int l2), (3, .int l3), (4, .int l4), (5, .int l5)]) hx hb dX0_copy_90 hl (by decide) (by simp [va_rf_cat, cat_i, cat_j, cat_r] <;> rfl) (fun ls hl => ?_)
                refine lv_aload_n (pc := 92) hx hb dX0_copy_92 rfl (lv_at hl 3 rfl) ?_
                refine lv_bipush (pc := 93) (v := -83) hx hb dX0_copy_93 gkbm83 ?_
                obtain ⟨_, ek21, hf⟩ := bdJ hf
                obtain ⟨v21, S21, c21, n21, c2_21, n2_21, e21, hf, hC21, hN21⟩ := gbJ hf
                refine g_callV (pc := 95) (o := (some l0)) (b := l0) (As := [.int (-83)]) (rest := []) (st1 := [.int v21]) hc (mX0_no hk hJ (l0 := l0) (l1 := (-83)) e21) (cwV 1 hts (lw_V q398 q400 qs2 q97 q401) rfl rfl rfl hdX0_no ⟨Nat.le_of_ble_eq_true rfl, Nat.le_of_ble_eq_true rfl⟩) (g_recv hE hk hH (ci := 0) (q := (RX0, TX0, 7)) rfl (chk_o ek21).choose_spec) rfl rfl hl.1 rfl rfl (lv_room (Nat.le_of_ble_eq_true rfl)) dX0_copy_95 hH hS (by omega) (by omega) (fun H locs hH hS => ?_)
                have hkc : kc + c1 + c3 + 3 + c21 + c2_21 ≤ mc := by omega
                have hks : ks + n1 + n3 + 1010 + n21 + n2_21 ≤ ms := by omega
                exact g_iretJ (pc := 98) hx hb hr hlk hH hS hkc hks hf dX0_copy_98
              · simp only [if_neg h2] at hf
                refine g_acA (pc := 75) (o0 := v9) (o := v14) hc hst (hml.trans hl.1.symm) hk hH hS q518 q520 q519 q116 e19 c19 h1 h2 (by decide) (by simp [va_rf_cat, cat_i, cat_j, cat_r]) (by omega) (by omega) dX0_copy_75 (fun H q19 ce nz hnz hH hS h1_19 h2_19 h3_19 => ?_)
                have hf := swJ hnz hf
                obtain ⟨S19j, eS19j⟩ : ∃ Sz : gS, Sz = ((S3.1, nz) : gS) := ⟨((S3.1, nz) : gS), rfl⟩
                rw [← eS19j] at hf hH
                refine vx_catch (own := RX0) (name := "java/lang/IndexOutOfBoundsException") hown [⟨66, 80, 81, 142⟩, ⟨66, 80, 90, 144⟩] ⟨66, 80, 99, 146⟩ [] (htb.trans rfl) (lpc (Or.inr ⟨by decide, "java/lang/NullPointerException", hts _ q478, hE.2.2.2.2.1 _ (List.mem_of_getElem? (i := 63) rfl)⟩) (lpc (Or.inr ⟨by decide, "java/lang/ArrayStoreException", hts _ q503, hE.2.2.2.2.1 _ (List.mem_of_getElem? (i := 64) rfl)⟩) lp0)) (by decide) (by decide) (hts _ q517) (va_Nw.use rfl (hE.2.1.1 _ _ q3302)) h1_19 h2_19 h3_19 ?_
                refine lv_astore (pc := 99) (i := 8) (lv' := [(8, .ref q19), (7, va_rf v14), (6, va_rf v9), (0, .ref l0), (1, .int l1), (2, .int l2), (3, .int l3), (4, .int l4), (5, .int l5)]) hx hb dX0_copy_99 hl (by decide) (by simp [va_rf_cat, cat_i, cat_j, cat_r] <;> rfl) (fun ls hl => ?_)
                refine lv_aload_n (pc := 101) hx hb dX0_copy_101 rfl (lv_at hl 3 rfl) ?_
                refine lv_bipush (pc := 102) (v := -82) hx hb dX0_copy_102 gkbm82 ?_
                obtain ⟨_, ek22, hf⟩ := bdJ hf
                obtain ⟨v22, S22, c22, n22, c2_22, n2_22, e22, hf, hC22, hN22⟩ := gbJ hf
                refine g_callV (pc := 104) (o := (some l0)) (b := l0) (As := [.int (-82)]) (rest := []) (st1 := [.int v22]) hc (mX0_no hk hJ (l0 := l0) (l1 := (-82)) e22) (cwV 1 hts (lw_V q398 q400 qs2 q97 q401) rfl rfl rfl hdX0_no ⟨Nat.le_of_ble_eq_true rfl, Nat.le_of_ble_eq_true rfl⟩) (g_recv hE hk hH (ci := 0) (q := (RX0, TX0, 7)) rfl (chk_o ek22).choose_spec) rfl rfl hl.1 rfl rfl (lv_room (Nat.le_of_ble_eq_true rfl)) dX0_copy_104 hH hS (by omega) (by omega) (fun H locs hH hS => ?_)
                have hkc : kc + c1 + c3 + 3 + c22 + c2_22 ≤ mc := by omega
                have hks : ks + n1 + n3 + 1010 + n22 + n2_22 ≤ ms := by omega
                exact g_iretJ (pc := 107) hx hb hr hlk hH hS hkc hks hf dX0_copy_107
          · simp only [if_neg c19] at hf
            refine g_ac0 (pc := 75) (o0 := v9) (o := v14) hx hb (hml.trans hl.1.symm) hts hown hE hk hH hS q518 q520 q519 q116 e19 (Decidable.not_not.mp c19) (Nat.le_of_ble_eq_true rfl) (by simp [gR, va_rf_cat, cat_i, cat_j, cat_r]) dX0_copy_75 (fun H locs hH hS => ?_)
            refine W.eq (g2 := F0 m 78 ls []) rfl ?_
            refine lv_iload (pc := 78) hx hb dX0_copy_78 (lv_at hl 7 rfl) ?_
            exact g_iretJ (pc := 80) hx hb hr hlk hH hS hkc hks hf dX0_copy_80
        · simp only [if_neg c18] at hf
          exact wX0_copy_b59 hk hJ hst htb hc l0 S3 _ _ ls _ _ _ _ hkc hks hH hS (lv_sub hl [2] rfl) hf
    · simp only [if_pos c4] at hf
      exact wX0_copy_b14 hk hJ hst htb hc l0 S3 _ _ ls _ _ _ _ hkc hks hH hS (lv_sub hl [0] rfl) hf
theorem mX0_copy {l : Launch} {G : gG} {Rp : gM → gM → Nat → Prop} (hk : rOK Rp) (hJ : JDK l G Rp) (hst : l.stackTraces = false) {S : gS} {C N : Nat} {l0 : Nat} {l1 : Int32} {l2 : Int32} {l3 : Int32} {l4 : Int32} {l5 : Int32} {P : Int32 ⊕ gTh → gS → Prop} (hf : ∀ j : Nat, oky C N (fX0_copy j l0 l1 l2 l3 l4 l5 S) P) : gMetJ l yX0_copy (wsW_ yX0_copy cX0_copy 9 (some .int) [(66, 80, 81, 142), (66, 80, 90, 144), (66, 80, 99, 146)]) 12 10500 G Rp [.ref l0, .int l1, .int l2, .int l3, .int l4, .int l5] S iI P C N := by
  refine g_startJW (by decide) (Nat.le_of_ble_eq_true rfl) (fun p e s m args below meth c ls hc htb hl hH => ?_)
  have hl : lv_has ls 9 [(0, .ref l0), (1, .int l1), (2, .int l2), (3, .int l3), (4, .int l4), (5, .int l5)] := hl
  exact wX0_copy_b0 hk hJ hst htb hc l0 l1 l2 l3 l4 l5 S _ _ ls 0 0 C N (by omega) (by omega) hH va_S.rf (lv_sub hl [0, 1, 2, 3, 4, 5] rfl) hf
end
end
