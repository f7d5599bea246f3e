/-! printed by gen/mgen.py: the methods of CreditBrokerModel, lifted and walked (4) -/
set_option maxRecDepth 100000
set_option maxHeartbeats 4000000
section
variable {p : Program} {l : Launch} {e : Env} {s : State} {m : MethodId} {args : Array Value} {below : List Frame} {meth : Method} {c : Code} {D : va_G} {am : Nat → Nat} {cI cJ : ClassId}
section
variable {r : Int32} {Sf : mS}
def fX3_refuses (l1 : Int32) (l2 : Int32) (S : mS) : Option (Int32 × mS) :=
  bd2 (fX3_ofConsumer l1 (nI 0) S) fun v1 S1 =>
  bd2 (fX3_letterOf v1 l2 (nI 2) S1) fun v2 S2 =>
  bd2 (fX3_credits l1 S2) fun _ S3 =>
  bd2 (fX3_fails v1 l2 (nI 3) l1 S3) fun v4 S4 =>
  some (v2 + (nI 1), S4)
theorem wX3_refuses_b0 (hc : mC p s m args meth c D cI cJ cX3_refuses 6 (some .int)) (l1 : Int32) (l2 : Int32) (S : mS) (H : Heap) (locs : List Loc) (ls : Array Slot) (hP : va_P D mCl (mws am cI cJ S) H) (hD : va_D (mA am) (mws am cI cJ S)) (hS : va_S (mA am) s.heap H locs) (hl : lv_has ls 6 [(0, .ref (am 0)), (1, .int l1), (2, .int l2)]) (hf : fX3_refuses l1 l2 S = some (r, Sf)) : W p l e (mR 4 102) s m args below meth c H locs 0 0 (mQ below D am cI cJ (some (.int r)) Sf args s) (F0 m 0 ls []) := by
  obtain ⟨hx, hb, hr, hlk, hml, hown, hts, hK⟩ := hc
  have hc : mC p s m args meth c D cI cJ cX3_refuses 6 (some .int) := ⟨hx, hb, hr, hlk, hml, hown, hts, hK⟩
  unfold fX3_refuses at hf
  refine lv_aload_n (pc := 0) hx hb dX3_refuses_0 rfl (lv_at hl 0 rfl) ?_
  refine lv_iload_n (pc := 1) hx hb dX3_refuses_1 rfl (lv_at hl 1 rfl) ?_
  refine lv_iconst (pc := 2) (v := nI 0) hx hb dX3_refuses_2 rfl ?_
  obtain ⟨v1, S1, e1, hf⟩ := bd2o hf
  refine m_callV (pc := 3) (As := [.int l1, .int (nI 0)]) (rest := []) (st1 := [.int v1]) hc (mX3_ofConsumer e1) (cwV 2 hts (lw_V q3035 q3037 qs75 q105 q3038) rfl rfl rfl hdX3_ofConsumer ⟨Nat.le_of_ble_eq_true rfl, Nat.le_of_ble_eq_true rfl⟩) rfl hl.1 rfl rfl (lv_room (Nat.le_of_ble_eq_true rfl)) dX3_refuses_3 hP hD hS (fun H locs hP hD hS => ?_)
  refine lv_istore_n (pc := 6) (lv' := [(3, .int v1), (0, .ref (am 0)), (1, .int l1), (2, .int l2)]) hx hb dX3_refuses_6 rfl hl (by decide) rfl (fun ls hl => ?_)
  refine lv_aload_n (pc := 7) hx hb dX3_refuses_7 rfl (lv_at hl 1 rfl) ?_
  refine lv_iload_n (pc := 8) hx hb dX3_refuses_8 rfl (lv_at hl 0 rfl) ?_
  refine lv_iload_n (pc := 9) hx hb dX3_refuses_9 rfl (lv_at hl 3 rfl) ?_
  refine lv_iconst (pc := 10) (v := nI 2) hx hb dX3_refuses_10 rfl ?_
  obtain ⟨v2, S2, e2, hf⟩ := bd2o hf
  refine m_callV (pc := 11) (As := [.int v1, .int l2, .int (nI 2)]) (rest := []) (st1 := [.int v2]) hc (mX3_letterOf e2) (cwV 3 hts (lw_V q2991 q2993 qs65 q105 q2994) rfl rfl rfl hdX3_letterOf ⟨Nat.le_of_ble_eq_true rfl, Nat.le_of_ble_eq_true rfl⟩) rfl hl.1 rfl rfl (lv_room (Nat.le_of_ble_eq_true rfl)) dX3_refuses_11 hP hD hS (fun H locs hP hD hS => ?_)
  refine lv_iconst (pc := 14) (v := nI 1) hx hb dX3_refuses_14 rfl ?_
  refine lv_iadd (pc := 15) hx hb dX3_refuses_15 ?_
  refine lv_istore (pc := 16) (lv' := [(4, .int (v2 + (nI 1))), (3, .int v1), (0, .ref (am 0)), (1, .int l1), (2, .int l2)]) hx hb dX3_refuses_16 hl (by decide) rfl (fun ls hl => ?_)
  refine lv_aload_n (pc := 18) hx hb dX3_refuses_18 rfl (lv_at hl 2 rfl) ?_
  refine lv_iload_n (pc := 19) hx hb dX3_refuses_19 rfl (lv_at hl 3 rfl) ?_
  obtain ⟨v3, S3, e3, hf⟩ := bd2o hf
  refine m_callV (pc := 20) (As := [.int l1]) (rest := []) (st1 := []) hc (mX3_credits e3) (cwV 1 hts (lw_V q3059 q3061 qs79 q105 q3062) rfl rfl rfl hdX3_credits ⟨Nat.le_of_ble_eq_true rfl, Nat.le_of_ble_eq_true rfl⟩) rfl hl.1 rfl rfl (lv_room (Nat.le_of_ble_eq_true rfl)) dX3_refuses_20 hP hD hS (fun H locs hP hD hS => ?_)
  refine lv_aload_n (pc := 23) hx hb dX3_refuses_23 rfl (lv_at hl 2 rfl) ?_
  refine lv_iload_n (pc := 24) hx hb dX3_refuses_24 rfl (lv_at hl 1 rfl) ?_
  refine lv_iload_n (pc := 25) hx hb dX3_refuses_25 rfl (lv_at hl 4 rfl) ?_
  refine lv_iconst (pc := 26) (v := nI 3) hx hb dX3_refuses_26 rfl ?_
  refine lv_iload_n (pc := 27) hx hb dX3_refuses_27 rfl (lv_at hl 3 rfl) ?_
  obtain ⟨v4, S4, e4, hf⟩ := bd2o hf
  refine m_callV (pc := 28) (As := [.int v1, .int l2, .int (nI 3), .int l1]) (rest := []) (st1 := [.int v4]) hc (mX3_fails e4) (cwV 4 hts (lw_V q3076 q3078 qs82 q105 q3079) rfl rfl rfl hdX3_fails ⟨Nat.le_of_ble_eq_true rfl, Nat.le_of_ble_eq_true rfl⟩) rfl hl.1 rfl rfl (lv_room (Nat.le_of_ble_eq_true rfl)) dX3_refuses_28 hP hD hS (fun H locs hP hD hS => ?_)
  refine lv_istore (pc := 31) (lv' := [(5, .int v4), (4, .int (v2 + (nI 1))), (3, .int v1), (0, .ref (am 0)), (1, .int l1), (2, .int l2)]) hx hb dX3_refuses_31 hl (by decide) rfl (fun ls hl => ?_)
  refine lv_iload (pc := 33) hx hb dX3_refuses_33 (lv_at hl 1 rfl) ?_
  exact m_iret (pc := 35) hx hb hr hlk hP hD hS hf dX3_refuses_35
theorem mX3_refuses {S S2 : mS} {r2 : Int32} {l1 : Int32} {l2 : Int32} (hf : fX3_refuses l1 l2 S = some (r2, S2)) : mMet l yX3_refuses cX3_refuses 6 (some .int) 4 102 D am cI cJ [.ref (am 0), .int l1, .int l2] S (some (.int r2)) S2 := by
  exact m_start (by decide) rfl (Nat.le_of_ble_eq_true rfl) (fun p e s m args below meth c ls hc hl hP hD => wX3_refuses_b0 hc l1 l2 S _ _ ls hP hD va_S.rf (lv_sub hl [0, 1, 2] rfl) hf)
end
section
variable {r : Int32} {Sf : mS}
def fX3_nack_b21 (S : mS) : Option (Int32 × mS) :=
  bd2 (fX3_refused (-82) S) fun v1 S1 =>
  some (v1, S1)
theorem wX3_nack_b21 (hc : mC p s m args meth c D cI cJ cX3_nack 3 (some .int)) (S : mS) (H : Heap) (locs : List Loc) (ls : Array Slot) (hP : va_P D mCl (mws am cI cJ S) H) (hD : va_D (mA am) (mws am cI cJ S)) (hS : va_S (mA am) s.heap H locs) (hl : lv_has ls 3 [(0, .ref (am 0))]) (hf : fX3_nack_b21  S = some (r, Sf)) : W p l e (mR 5 127) s m args below meth c H locs 0 0 (mQ below D am cI cJ (some (.int r)) Sf args s) (F0 m 21 ls []) := by
  obtain ⟨hx, hb, hr, hlk, hml, hown, hts, hK⟩ := hc
  have hc : mC p s m args meth c D cI cJ cX3_nack 3 (some .int) := ⟨hx, hb, hr, hlk, hml, hown, hts, hK⟩
  unfold fX3_nack_b21 at hf
  refine lv_aload_n (pc := 21) hx hb dX3_nack_21 rfl (lv_at hl 0 rfl) ?_
  refine lv_bipush (pc := 22) (v := -82) hx hb dX3_nack_22 kcbm82 ?_
  obtain ⟨v1, S1, e1, hf⟩ := bd2o hf
  refine m_callV (pc := 24) (As := [.int (-82)]) (rest := []) (st1 := [.int v1]) hc (mX3_refused e1) (cwV 1 hts (lw_V q2899 q2901 qs51 q105 q2902) rfl rfl rfl hdX3_refused ⟨Nat.le_of_ble_eq_true rfl, Nat.le_of_ble_eq_true rfl⟩) rfl hl.1 rfl rfl (lv_room (Nat.le_of_ble_eq_true rfl)) dX3_nack_24 hP hD hS (fun H locs hP hD hS => ?_)
  exact m_iret (pc := 27) hx hb hr hlk hP hD hS hf dX3_nack_27
def fX3_nack (l1 : Int32) (l2 : Int32) (S : mS) : Option (Int32 × mS) :=
  bd2 (fX3_isHere l1 S) fun v1 S1 =>
  if v1 = 0 then
    fX3_nack_b21  S1
  else
    if l2 < 0 then
      fX3_nack_b21  S1
    else
      bd2 (fX3_outAt l1 l2 S1) fun v4 S4 =>
      if 0 ≤ v4 then
        bd2 (fX3_outAt l1 l2 S4) fun v6 S6 =>
        bd2 (fX3_refuses l1 v6 S6) fun v7 S7 =>
        some (v7, S7)
      else
        fX3_nack_b21  S4
theorem wX3_nack_b0 (hc : mC p s m args meth c D cI cJ cX3_nack 3 (some .int)) (l1 : Int32) (l2 : Int32) (S : mS) (H : Heap) (locs : List Loc) (ls : Array Slot) (hP : va_P D mCl (mws am cI cJ S) H) (hD : va_D (mA am) (mws am cI cJ S)) (hS : va_S (mA am) s.heap H locs) (hl : lv_has ls 3 [(0, .ref (am 0)), (1, .int l1), (2, .int l2)]) (hf : fX3_nack l1 l2 S = some (r, Sf)) : W p l e (mR 5 127) s m args below meth c H locs 0 0 (mQ below D am cI cJ (some (.int r)) Sf args s) (F0 m 0 ls []) := by
  obtain ⟨hx, hb, hr, hlk, hml, hown, hts, hK⟩ := hc
  have hc : mC p s m args meth c D cI cJ cX3_nack 3 (some .int) := ⟨hx, hb, hr, hlk, hml, hown, hts, hK⟩
  unfold fX3_nack at hf
  refine lv_aload_n (pc := 0) hx hb dX3_nack_0 rfl (lv_at hl 0 rfl) ?_
  refine lv_iload_n (pc := 1) hx hb dX3_nack_1 rfl (lv_at hl 1 rfl) ?_
  obtain ⟨v1, S1, e1, hf⟩ := bd2o hf
  refine m_callV (pc := 2) (As := [.int l1]) (rest := []) (st1 := [.int v1]) hc (mX3_isHere e1) (cwV 1 hts (lw_V q3027 q3029 qs73 q105 q3030) rfl rfl rfl hdX3_isHere ⟨Nat.le_of_ble_eq_true rfl, Nat.le_of_ble_eq_true rfl⟩) rfl hl.1 rfl rfl (lv_room (Nat.le_of_ble_eq_true rfl)) dX3_nack_2 hP hD hS (fun H locs hP hD hS => ?_)
  refine lv_if_eq (pc := 5) (tgt := 21) hx hb dX3_nack_5 (by decide) (fun c2 => ?_) (fun c2 => ?_)
  · rw [if_pos c2] at hf
    exact wX3_nack_b21 hc  S1 _ _ ls hP hD hS (lv_sub hl [0] rfl) hf
  · rw [if_neg c2] at hf
    refine lv_iload_n (pc := 8) hx hb dX3_nack_8 rfl (lv_at hl 2 rfl) ?_
    refine lv_if_lt (pc := 9) (tgt := 21) hx hb dX3_nack_9 (by decide) (fun c3 => ?_) (fun c3 => ?_)
    · rw [if_pos c3] at hf
      exact wX3_nack_b21 hc  S1 _ _ ls hP hD hS (lv_sub hl [0] rfl) hf
    · rw [if_neg c3] at hf
      refine lv_aload_n (pc := 12) hx hb dX3_nack_12 rfl (lv_at hl 0 rfl) ?_
      refine lv_iload_n (pc := 13) hx hb dX3_nack_13 rfl (lv_at hl 1 rfl) ?_
      refine lv_iload_n (pc := 14) hx hb dX3_nack_14 rfl (lv_at hl 2 rfl) ?_
      obtain ⟨v4, S4, e4, hf⟩ := bd2o hf
      refine m_callV (pc := 15) (As := [.int l1, .int l2]) (rest := []) (st1 := [.int v4]) hc (mX3_outAt e4) (cwV 2 hts (lw_V q3047 q3049 qs76 q105 q3050) rfl rfl rfl hdX3_outAt ⟨Nat.le_of_ble_eq_true rfl, Nat.le_of_ble_eq_true rfl⟩) rfl hl.1 rfl rfl (lv_room (Nat.le_of_ble_eq_true rfl)) dX3_nack_15 hP hD hS (fun H locs hP hD hS => ?_)
      refine lv_if_ge (pc := 18) (tgt := 28) hx hb dX3_nack_18 (by decide) (fun c5 => ?_) (fun c5 => ?_)
      · rw [if_pos c5] at hf
        refine lv_aload_n (pc := 28) hx hb dX3_nack_28 rfl (lv_at hl 0 rfl) ?_
        refine lv_iload_n (pc := 29) hx hb dX3_nack_29 rfl (lv_at hl 1 rfl) ?_
        refine lv_aload_n (pc := 30) hx hb dX3_nack_30 rfl (lv_at hl 0 rfl) ?_
        refine lv_iload_n (pc := 31) hx hb dX3_nack_31 rfl (lv_at hl 1 rfl) ?_
        refine lv_iload_n (pc := 32) hx hb dX3_nack_32 rfl (lv_at hl 2 rfl) ?_
        obtain ⟨v6, S6, e6, hf⟩ := bd2o hf
        refine m_callV (pc := 33) (As := [.int l1, .int l2]) (rest := [.int l1, .ref (am 0)]) (st1 := [.int v6, .int l1, .ref (am 0)]) hc (mX3_outAt e6) (cwV 2 hts (lw_V q3047 q3049 qs76 q105 q3050) rfl rfl rfl hdX3_outAt ⟨Nat.le_of_ble_eq_true rfl, Nat.le_of_ble_eq_true rfl⟩) rfl hl.1 rfl rfl (lv_room (Nat.le_of_ble_eq_true rfl)) dX3_nack_33 hP hD hS (fun H locs hP hD hS => ?_)
        obtain ⟨v7, S7, e7, hf⟩ := bd2o hf
        refine m_callV (pc := 36) (As := [.int l1, .int v6]) (rest := []) (st1 := [.int v7]) hc (mX3_refuses e7) (cwV 2 hts (lw_V q3072 q3074 qs81 q105 q3075) rfl rfl rfl hdX3_refuses ⟨Nat.le_of_ble_eq_true rfl, Nat.le_of_ble_eq_true rfl⟩) rfl hl.1 rfl rfl (lv_room (Nat.le_of_ble_eq_true rfl)) dX3_nack_36 hP hD hS (fun H locs hP hD hS => ?_)
        exact m_iret (pc := 39) hx hb hr hlk hP hD hS hf dX3_nack_39
      · rw [if_neg c5] at hf
        exact wX3_nack_b21 hc  S4 _ _ ls hP hD hS (lv_sub hl [0] rfl) hf
theorem mX3_nack {S S2 : mS} {r2 : Int32} {l1 : Int32} {l2 : Int32} (hf : fX3_nack l1 l2 S = some (r2, S2)) : mMet l yX3_nack cX3_nack 3 (some .int) 5 127 D am cI cJ [.ref (am 0), .int l1, .int l2] S (some (.int r2)) S2 := by
  exact m_start (by decide) rfl (Nat.le_of_ble_eq_true rfl) (fun p e s m args below meth c ls hc hl hP hD => wX3_nack_b0 hc l1 l2 S _ _ ls hP hD va_S.rf (lv_sub hl [0, 1, 2] rfl) hf)
end
section
variable {r : Int32} {Sf : mS}
def fX3_ages_b96 (l1 : Int32) (l2 : Int32) (S : mS) : Option (Int32 × mS) :=
  bd (mrd S 0 7919 (nI 4)) fun v1 =>
  bd2 (fX3_letterOf l1 l2 (nI 0) S) fun v2 S2 =>
  bd2 (fX3_message v2 (nI 8) S2) fun v3 S3 =>
  bd2 (fX3_letterOf l1 l2 (nI 1) S3) fun v4 S4 =>
  if v4 = 0 then
    bd2 (fX3_of l1 (nI 29) S4) fun v6 S6 =>
    if v6 ≤ 0 then
      zr (nI 0) S6
    else
      bd2 (fX3_of l1 (nI 29) S6) fun v8 S8 =>
      if (v1 - v3) < v8 then
        zr (nI 0) S8
      else
        bd2 (fX3_dies l1 l2 (nI 5) (v1 - v3) S8) fun _ S10 =>
        zr (nI 1) S10
  else
    zr (nI 0) S4
theorem wX3_ages_b96 (hc : mC p s m args meth c D cI cJ cX3_ages 4 (some .boolean)) (l1 : Int32) (l2 : Int32) (S : mS) (H : Heap) (locs : List Loc) (ls : Array Slot) (hP : va_P D mCl (mws am cI cJ S) H) (hD : va_D (mA am) (mws am cI cJ S)) (hS : va_S (mA am) s.heap H locs) (hl : lv_has ls 4 [(0, .ref (am 0)), (1, .int l1), (2, .int l2)]) (hf : fX3_ages_b96 l1 l2 S = some (r, Sf)) : W p l e (mR 4 102) s m args below meth c H locs 0 0 (mQ below D am cI cJ (some (.int r)) Sf args s) (F0 m 96 ls []) := by
  obtain ⟨hx, hb, hr, hlk, hml, hown, hts, hK⟩ := hc
  have hc : mC p s m args meth c D cI cJ cX3_ages 4 (some .boolean) := ⟨hx, hb, hr, hlk, hml, hown, hts, hK⟩
  unfold fX3_ages_b96 at hf
  refine lv_aload_n (pc := 96) hx hb dX3_ages_96 rfl (lv_at hl 0 rfl) ?_
  refine va_get (D := D) (ci := 0) (v := .ref (am 1)) (C := RX3) (T := TX3) (N := 17) (pc := 97) hx hb hts in_X3 hown hK hP 0 rfl rfl 0 (by decide) (hts _ q2839) (fun _ h9 => h9) rfl dX3_ages_97 ?_
  refine lv_iconst (pc := 100) (v := nI 4) hx hb dX3_ages_100 rfl ?_
  obtain ⟨v1, e1, hf⟩ := bdo hf
  refine m_iald (pc := 101) (k := 0) hx hb hK hP rfl e1 dX3_ages_101 ?_
  refine lv_aload_n (pc := 102) hx hb dX3_ages_102 rfl (lv_at hl 0 rfl) ?_
  refine lv_aload_n (pc := 103) hx hb dX3_ages_103 rfl (lv_at hl 0 rfl) ?_
  refine lv_iload_n (pc := 104) hx hb dX3_ages_104 rfl (lv_at hl 1 rfl) ?_
  refine lv_iload_n (pc := 105) hx hb dX3_ages_105 rfl (lv_at hl 2 rfl) ?_
  refine lv_iconst (pc := 106) (v := nI 0) hx hb dX3_ages_106 rfl ?_
  obtain ⟨v2, S2, e2, hf⟩ := bd2o hf
  refine m_callV (pc := 107) (As := [.int l1, .int l2, .int (nI 0)]) (rest := [.ref (am 0), .int v1]) (st1 := [.int v2, .ref (am 0), .int v1]) hc (mX3_letterOf e2) (cwV 3 hts (lw_V q2991 q2993 qs65 q105 q2994) rfl rfl rfl hdX3_letterOf ⟨Nat.le_of_ble_eq_true rfl, Nat.le_of_ble_eq_true rfl⟩) rfl hl.1 rfl rfl (lv_room (Nat.le_of_ble_eq_true rfl)) dX3_ages_107 hP hD hS (fun H locs hP hD hS => ?_)
  refine lv_bipush (pc := 110) (v := nI 8) hx hb dX3_ages_110 kcb8 ?_
  obtain ⟨v3, S3, e3, hf⟩ := bd2o hf
  refine m_callV (pc := 112) (As := [.int v2, .int (nI 8)]) (rest := [.int v1]) (st1 := [.int v3, .int v1]) hc (mX3_message e3) (cwV 2 hts (lw_V q3019 q3021 qs71 q105 q3022) rfl rfl rfl hdX3_message ⟨Nat.le_of_ble_eq_true rfl, Nat.le_of_ble_eq_true rfl⟩) rfl hl.1 rfl rfl (lv_room (Nat.le_of_ble_eq_true rfl)) dX3_ages_112 hP hD hS (fun H locs hP hD hS => ?_)
  refine lv_isub (pc := 115) hx hb dX3_ages_115 ?_
  refine lv_istore_n (pc := 116) (lv' := [(3, .int (v1 - v3)), (0, .ref (am 0)), (1, .int l1), (2, .int l2)]) hx hb dX3_ages_116 rfl hl (by decide) rfl (fun ls hl => ?_)
  refine lv_aload_n (pc := 117) hx hb dX3_ages_117 rfl (lv_at hl 1 rfl) ?_
  refine lv_iload_n (pc := 118) hx hb dX3_ages_118 rfl (lv_at hl 2 rfl) ?_
  refine lv_iload_n (pc := 119) hx hb dX3_ages_119 rfl (lv_at hl 3 rfl) ?_
  refine lv_iconst (pc := 120) (v := nI 1) hx hb dX3_ages_120 rfl ?_
  obtain ⟨v4, S4, e4, hf⟩ := bd2o hf
  refine m_callV (pc := 121) (As := [.int l1, .int l2, .int (nI 1)]) (rest := []) (st1 := [.int v4]) hc (mX3_letterOf e4) (cwV 3 hts (lw_V q2991 q2993 qs65 q105 q2994) rfl rfl rfl hdX3_letterOf ⟨Nat.le_of_ble_eq_true rfl, Nat.le_of_ble_eq_true rfl⟩) rfl hl.1 rfl rfl (lv_room (Nat.le_of_ble_eq_true rfl)) dX3_ages_121 hP hD hS (fun H locs hP hD hS => ?_)
  refine lv_if_ne (pc := 124) (tgt := 158) hx hb dX3_ages_124 (by decide) (fun c5 => ?_) (fun c5 => ?_)
  · rw [if_neg c5] at hf
    refine lv_iconst (pc := 158) (v := nI 0) hx hb dX3_ages_158 rfl ?_
    exact m_zret (pc := 159) hx hb hr hlk hP hD hS hf dX3_ages_159
  · rw [if_pos c5] at hf
    refine lv_aload_n (pc := 127) hx hb dX3_ages_127 rfl (lv_at hl 1 rfl) ?_
    refine lv_iload_n (pc := 128) hx hb dX3_ages_128 rfl (lv_at hl 2 rfl) ?_
    refine lv_bipush (pc := 129) (v := nI 29) hx hb dX3_ages_129 kcb29 ?_
    obtain ⟨v6, S6, e6, hf⟩ := bd2o hf
    refine m_callV (pc := 131) (As := [.int l1, .int (nI 29)]) (rest := []) (st1 := [.int v6]) hc (mX3_of e6) (cwV 2 hts (lw_V q2949 q2951 qs58 q105 q2952) rfl rfl rfl hdX3_of ⟨Nat.le_of_ble_eq_true rfl, Nat.le_of_ble_eq_true rfl⟩) rfl hl.1 rfl rfl (lv_room (Nat.le_of_ble_eq_true rfl)) dX3_ages_131 hP hD hS (fun H locs hP hD hS => ?_)
    refine lv_if_le (pc := 134) (tgt := 158) hx hb dX3_ages_134 (by decide) (fun c7 => ?_) (fun c7 => ?_)
    · rw [if_pos c7] at hf
      refine lv_iconst (pc := 158) (v := nI 0) hx hb dX3_ages_158 rfl ?_
      exact m_zret (pc := 159) hx hb hr hlk hP hD hS hf dX3_ages_159
    · rw [if_neg c7] at hf
      refine lv_iload_n (pc := 137) hx hb dX3_ages_137 rfl (lv_at hl 0 rfl) ?_
      refine lv_aload_n (pc := 138) hx hb dX3_ages_138 rfl (lv_at hl 1 rfl) ?_
      refine lv_iload_n (pc := 139) hx hb dX3_ages_139 rfl (lv_at hl 2 rfl) ?_
      refine lv_bipush (pc := 140) (v := nI 29) hx hb dX3_ages_140 kcb29 ?_
      obtain ⟨v8, S8, e8, hf⟩ := bd2o hf
      refine m_callV (pc := 142) (As := [.int l1, .int (nI 29)]) (rest := [.int (v1 - v3)]) (st1 := [.int v8, .int (v1 - v3)]) hc (mX3_of e8) (cwV 2 hts (lw_V q2949 q2951 qs58 q105 q2952) rfl rfl rfl hdX3_of ⟨Nat.le_of_ble_eq_true rfl, Nat.le_of_ble_eq_true rfl⟩) rfl hl.1 rfl rfl (lv_room (Nat.le_of_ble_eq_true rfl)) dX3_ages_142 hP hD hS (fun H locs hP hD hS => ?_)
      refine lv_icmp_lt (pc := 145) (tgt := 158) hx hb dX3_ages_145 (by decide) (fun c9 => ?_) (fun c9 => ?_)
      · rw [if_pos c9] at hf
        refine lv_iconst (pc := 158) (v := nI 0) hx hb dX3_ages_158 rfl ?_
        exact m_zret (pc := 159) hx hb hr hlk hP hD hS hf dX3_ages_159
      · rw [if_neg c9] at hf
        refine lv_aload_n (pc := 148) hx hb dX3_ages_148 rfl (lv_at hl 1 rfl) ?_
        refine lv_iload_n (pc := 149) hx hb dX3_ages_149 rfl (lv_at hl 2 rfl) ?_
        refine lv_iload_n (pc := 150) hx hb dX3_ages_150 rfl (lv_at hl 3 rfl) ?_
        refine lv_iconst (pc := 151) (v := nI 5) hx hb dX3_ages_151 rfl ?_
        refine lv_iload_n (pc := 152) hx hb dX3_ages_152 rfl (lv_at hl 0 rfl) ?_
        obtain ⟨v10, S10, e10, hf⟩ := bd2o hf
        refine m_callV (pc := 153) (As := [.int l1, .int l2, .int (nI 5), .int (v1 - v3)]) (rest := []) (st1 := []) hc (mX3_dies e10) (cwV 4 hts (lw_V q3080 q3082 qs83 q105 q3083) rfl rfl rfl hdX3_dies ⟨Nat.le_of_ble_eq_true rfl, Nat.le_of_ble_eq_true rfl⟩) rfl hl.1 rfl rfl (lv_room (Nat.le_of_ble_eq_true rfl)) dX3_ages_153 hP hD hS (fun H locs hP hD hS => ?_)
        refine lv_iconst (pc := 156) (v := nI 1) hx hb dX3_ages_156 rfl ?_
        exact m_zret (pc := 157) hx hb hr hlk hP hD hS hf dX3_ages_157
def fX3_ages_b53 (l1 : Int32) (l2 : Int32) (S : mS) : Option (Int32 × mS) :=
  bd2 (fX3_letterOf l1 l2 (nI 1) S) fun v1 S1 =>
  if v1 = (nI 1) then
    bd2 (fX3_letterOf l1 l2 (nI 4) S1) fun v3 S3 =>
    bd (mrd S3 0 7919 (nI 4)) fun v4 =>
    if v4 < v3 then
      fX3_ages_b96 l1 l2 S3
    else
      bd2 (fX3_letterIs l1 l2 (nI 1) (nI 0) S3) fun _ S6 =>
      bd2 (fX3_letterIs l1 l2 (nI 4) (-1) S6) fun _ S7 =>
      fX3_ages_b96 l1 l2 S7
  else
    fX3_ages_b96 l1 l2 S1
theorem wX3_ages_b53 (hc : mC p s m args meth c D cI cJ cX3_ages 4 (some .boolean)) (l1 : Int32) (l2 : Int32) (S : mS) (H : Heap) (locs : List Loc) (ls : Array Slot) (hP : va_P D mCl (mws am cI cJ S) H) (hD : va_D (mA am) (mws am cI cJ S)) (hS : va_S (mA am) s.heap H locs) (hl : lv_has ls 4 [(0, .ref (am 0)), (1, .int l1), (2, .int l2)]) (hf : fX3_ages_b53 l1 l2 S = some (r, Sf)) : W p l e (mR 4 102) s m args below meth c H locs 0 0 (mQ below D am cI cJ (some (.int r)) Sf args s) (F0 m 53 ls []) := by
  obtain ⟨hx, hb, hr, hlk, hml, hown, hts, hK⟩ := hc
  have hc : mC p s m args meth c D cI cJ cX3_ages 4 (some .boolean) := ⟨hx, hb, hr, hlk, hml, hown, hts, hK⟩
  unfold fX3_ages_b53 at hf
  refine lv_aload_n (pc := 53) hx hb dX3_ages_53 rfl (lv_at hl 0 rfl) ?_
  refine lv_iload_n (pc := 54) hx hb dX3_ages_54 rfl (lv_at hl 1 rfl) ?_
  refine lv_iload_n (pc := 55) hx hb dX3_ages_55 rfl (lv_at hl 2 rfl) ?_
  refine lv_iconst (pc := 56) (v := nI 1) hx hb dX3_ages_56 rfl ?_
  obtain ⟨v1, S1, e1, hf⟩ := bd2o hf
  refine m_callV (pc := 57) (As := [.int l1, .int l2, .int (nI 1)]) (rest := []) (st1 := [.int v1]) hc (mX3_letterOf e1) (cwV 3 hts (lw_V q2991 q2993 qs65 q105 q2994) rfl rfl rfl hdX3_letterOf ⟨Nat.le_of_ble_eq_true rfl, Nat.le_of_ble_eq_true rfl⟩) rfl hl.1 rfl rfl (lv_room (Nat.le_of_ble_eq_true rfl)) dX3_ages_57 hP hD hS (fun H locs hP hD hS => ?_)
  refine lv_iconst (pc := 60) (v := nI 1) hx hb dX3_ages_60 rfl ?_
  refine lv_icmp_ne (pc := 61) (tgt := 96) hx hb dX3_ages_61 (by decide) (fun c2 => ?_) (fun c2 => ?_)
  · rw [if_neg c2] at hf
    exact wX3_ages_b96 hc l1 l2 S1 _ _ ls hP hD hS (lv_sub hl [0, 1, 2] rfl) hf
  · rw [if_pos c2] at hf
    refine lv_aload_n (pc := 64) hx hb dX3_ages_64 rfl (lv_at hl 0 rfl) ?_
    refine lv_iload_n (pc := 65) hx hb dX3_ages_65 rfl (lv_at hl 1 rfl) ?_
    refine lv_iload_n (pc := 66) hx hb dX3_ages_66 rfl (lv_at hl 2 rfl) ?_
    refine lv_iconst (pc := 67) (v := nI 4) hx hb dX3_ages_67 rfl ?_
    obtain ⟨v3, S3, e3, hf⟩ := bd2o hf
    refine m_callV (pc := 68) (As := [.int l1, .int l2, .int (nI 4)]) (rest := []) (st1 := [.int v3]) hc (mX3_letterOf e3) (cwV 3 hts (lw_V q2991 q2993 qs65 q105 q2994) rfl rfl rfl hdX3_letterOf ⟨Nat.le_of_ble_eq_true rfl, Nat.le_of_ble_eq_true rfl⟩) rfl hl.1 rfl rfl (lv_room (Nat.le_of_ble_eq_true rfl)) dX3_ages_68 hP hD hS (fun H locs hP hD hS => ?_)
    refine lv_aload_n (pc := 71) hx hb dX3_ages_71 rfl (lv_at hl 0 rfl) ?_
    refine va_get (D := D) (ci := 0) (v := .ref (am 1)) (C := RX3) (T := TX3) (N := 17) (pc := 72) hx hb hts in_X3 hown hK hP 0 rfl rfl 0 (by decide) (hts _ q2839) (fun _ h9 => h9) rfl dX3_ages_72 ?_
    refine lv_iconst (pc := 75) (v := nI 4) hx hb dX3_ages_75 rfl ?_
    obtain ⟨v4, e4, hf⟩ := bdo hf
    refine m_iald (pc := 76) (k := 0) hx hb hK hP rfl e4 dX3_ages_76 ?_
    refine lv_icmp_gt (pc := 77) (tgt := 96) hx hb dX3_ages_77 (by decide) (fun c5 => ?_) (fun c5 => ?_)
    · rw [if_pos c5] at hf
      exact wX3_ages_b96 hc l1 l2 S3 _ _ ls hP hD hS (lv_sub hl [0, 1, 2] rfl) hf
    · rw [if_neg c5] at hf
      refine lv_aload_n (pc := 80) hx hb dX3_ages_80 rfl (lv_at hl 0 rfl) ?_
      refine lv_iload_n (pc := 81) hx hb dX3_ages_81 rfl (lv_at hl 1 rfl) ?_
      refine lv_iload_n (pc := 82) hx hb dX3_ages_82 rfl (lv_at hl 2 rfl) ?_
      refine lv_iconst (pc := 83) (v := nI 1) hx hb dX3_ages_83 rfl ?_
      refine lv_iconst (pc := 84) (v := nI 0) hx hb dX3_ages_84 rfl ?_
      obtain ⟨v6, S6, e6, hf⟩ := bd2o hf
      refine m_callV (pc := 85) (As := [.int l1, .int l2, .int (nI 1), .int (nI 0)]) (rest := []) (st1 := []) hc (mX3_letterIs e6) (cwV 4 hts (lw_V q2995 q2997 qs66 q105 q2998) rfl rfl rfl hdX3_letterIs ⟨Nat.le_of_ble_eq_true rfl, Nat.le_of_ble_eq_true rfl⟩) rfl hl.1 rfl rfl (lv_room (Nat.le_of_ble_eq_true rfl)) dX3_ages_85 hP hD hS (fun H locs hP hD hS => ?_)
      refine lv_aload_n (pc := 88) hx hb dX3_ages_88 rfl (lv_at hl 0 rfl) ?_
      refine lv_iload_n (pc := 89) hx hb dX3_ages_89 rfl (lv_at hl 1 rfl) ?_
      refine lv_iload_n (pc := 90) hx hb dX3_ages_90 rfl (lv_at hl 2 rfl) ?_
      refine lv_iconst (pc := 91) (v := nI 4) hx hb dX3_ages_91 rfl ?_
      refine lv_iconst (pc := 92) (v := -1) hx hb dX3_ages_92 rfl ?_
      obtain ⟨v7, S7, e7, hf⟩ := bd2o hf
      refine m_callV (pc := 93) (As := [.int l1, .int l2, .int (nI 4), .int (-1)]) (rest := []) (st1 := []) hc (mX3_letterIs e7) (cwV 4 hts (lw_V q2995 q2997 qs66 q105 q2998) rfl rfl rfl hdX3_letterIs ⟨Nat.le_of_ble_eq_true rfl, Nat.le_of_ble_eq_true rfl⟩) rfl hl.1 rfl rfl (lv_room (Nat.le_of_ble_eq_true rfl)) dX3_ages_93 hP hD hS (fun H locs hP hD hS => ?_)
      exact wX3_ages_b96 hc l1 l2 S7 _ _ ls hP hD hS (lv_sub hl [0, 1, 2] rfl) hf
def fX3_ages (l1 : Int32) (l2 : Int32) (S : mS) : Option (Int32 × mS) :=
  bd2 (fX3_letterOf l1 l2 (nI 1) S) fun v1 S1 =>
  if v1 = (nI 2) then
    bd2 (fX3_letterOf l1 l2 (nI 4) S1) fun v3 S3 =>
    bd (mrd S3 0 7919 (nI 4)) fun v4 =>
    if v4 < v3 then
      fX3_ages_b53 l1 l2 S3
    else
      bd2 (fX3_letterOf l1 l2 (nI 3) S3) fun v6 S6 =>
      bd2 (fX3_credits v6 S6) fun _ S7 =>
      bd2 (fX3_fails l1 l2 (nI 4) v6 S7) fun v8 S8 =>
      if v8 = 0 then
        fX3_ages_b53 l1 l2 S8
      else
        zr (nI 1) S8
  else
    fX3_ages_b53 l1 l2 S1
theorem wX3_ages_b0 (hc : mC p s m args meth c D cI cJ cX3_ages 4 (some .boolean)) (l1 : Int32) (l2 : Int32) (S : mS) (H : Heap) (locs : List Loc) (ls : Array Slot) (hP : va_P D mCl (mws am cI cJ S) H) (hD : va_D (mA am) (mws am cI cJ S)) (hS : va_S (mA am) s.heap H locs) (hl : lv_has ls 4 [(0, .ref (am 0)), (1, .int l1), (2, .int l2)]) (hf : fX3_ages l1 l2 S = some (r, Sf)) : W p l e (mR 4 102) s m args below meth c H locs 0 0 (mQ below D am cI cJ (some (.int r)) Sf args s) (F0 m 0 ls []) := by
  obtain ⟨hx, hb, hr, hlk, hml, hown, hts, hK⟩ := hc
  have hc : mC p s m args meth c D cI cJ cX3_ages 4 (some .boolean) := ⟨hx, hb, hr, hlk, hml, hown, hts, hK⟩
  unfold fX3_ages at hf
  refine lv_aload_n (pc := 0) hx hb dX3_ages_0 rfl (lv_at hl 0 rfl) ?_
  refine lv_iload_n (pc := 1) hx hb dX3_ages_1 rfl (lv_at hl 1 rfl) ?_
  refine lv_iload_n (pc := 2) hx hb dX3_ages_2 rfl (lv_at hl 2 rfl) ?_
  refine lv_iconst (pc := 3) (v := nI 1) hx hb dX3_ages_3 rfl ?_
  obtain ⟨v1, S1, e1, hf⟩ := bd2o hf
  refine m_callV (pc := 4) (As := [.int l1, .int l2, .int (nI 1)]) (rest := []) (st1 := [.int v1]) hc (mX3_letterOf e1) (cwV 3 hts (lw_V q2991 q2993 qs65 q105 q2994) rfl rfl rfl hdX3_letterOf ⟨Nat.le_of_ble_eq_true rfl, Nat.le_of_ble_eq_true rfl⟩) rfl hl.1 rfl rfl (lv_room (Nat.le_of_ble_eq_true rfl)) dX3_ages_4 hP hD hS (fun H locs hP hD hS => ?_)
  refine lv_iconst (pc := 7) (v := nI 2) hx hb dX3_ages_7 rfl ?_
  refine lv_icmp_ne (pc := 8) (tgt := 53) hx hb dX3_ages_8 (by decide) (fun c2 => ?_) (fun c2 => ?_)
  · rw [if_neg c2] at hf
    exact wX3_ages_b53 hc l1 l2 S1 _ _ ls hP hD hS (lv_sub hl [0, 1, 2] rfl) hf
  · rw [if_pos c2] at hf
    refine lv_aload_n (pc := 11) hx hb dX3_ages_11 rfl (lv_at hl 0 rfl) ?_
    refine lv_iload_n (pc := 12) hx hb dX3_ages_12 rfl (lv_at hl 1 rfl) ?_
    refine lv_iload_n (pc := 13) hx hb dX3_ages_13 rfl (lv_at hl 2 rfl) ?_
    refine lv_iconst (pc := 14) (v := nI 4) hx hb dX3_ages_14 rfl ?_
    obtain ⟨v3, S3, e3, hf⟩ := bd2o hf
    refine m_callV (pc := 15) (As := [.int l1, .int l2, .int (nI 4)]) (rest := []) (st1 := [.int v3]) hc (mX3_letterOf e3) (cwV 3 hts (lw_V q2991 q2993 qs65 q105 q2994) rfl rfl rfl hdX3_letterOf ⟨Nat.le_of_ble_eq_true rfl, Nat.le_of_ble_eq_true rfl⟩) rfl hl.1 rfl rfl (lv_room (Nat.le_of_ble_eq_true rfl)) dX3_ages_15 hP hD hS (fun H locs hP hD hS => ?_)
    refine lv_aload_n (pc := 18) hx hb dX3_ages_18 rfl (lv_at hl 0 rfl) ?_
    refine va_get (D := D) (ci := 0) (v := .ref (am 1)) (C := RX3) (T := TX3) (N := 17) (pc := 19) hx hb hts in_X3 hown hK hP 0 rfl rfl 0 (by decide) (hts _ q2839) (fun _ h9 => h9) rfl dX3_ages_19 ?_
    refine lv_iconst (pc := 22) (v := nI 4) hx hb dX3_ages_22 rfl ?_
    obtain ⟨v4, e4, hf⟩ := bdo hf
    refine m_iald (pc := 23) (k := 0) hx hb hK hP rfl e4 dX3_ages_23 ?_
    refine lv_icmp_gt (pc := 24) (tgt := 53) hx hb dX3_ages_24 (by decide) (fun c5 => ?_) (fun c5 => ?_)
    · rw [if_pos c5] at hf
      exact wX3_ages_b53 hc l1 l2 S3 _ _ ls hP hD hS (lv_sub hl [0, 1, 2] rfl) hf
    · rw [if_neg c5] at hf
      refine lv_aload_n (pc := 27) hx hb dX3_ages_27 rfl (lv_at hl 0 rfl) ?_
      refine lv_iload_n (pc := 28) hx hb dX3_ages_28 rfl (lv_at hl 1 rfl) ?_
      refine lv_iload_n (pc := 29) hx hb dX3_ages_29 rfl (lv_at hl 2 rfl) ?_
      refine lv_iconst (pc := 30) (v := nI 3) hx hb dX3_ages_30 rfl ?_
      obtain ⟨v6, S6, e6, hf⟩ := bd2o hf
      refine m_callV (pc := 31) (As := [.int l1, .int l2, .int (nI 3)]) (rest := []) (st1 := [.int v6]) hc (mX3_letterOf e6) (cwV 3 hts (lw_V q2991 q2993 qs65 q105 q2994) rfl rfl rfl hdX3_letterOf ⟨Nat.le_of_ble_eq_true rfl, Nat.le_of_ble_eq_true rfl⟩) rfl hl.1 rfl rfl (lv_room (Nat.le_of_ble_eq_true rfl)) dX3_ages_31 hP hD hS (fun H locs hP hD hS => ?_)
      refine lv_istore_n (pc := 34) (lv' := [(3, .int v6), (0, .ref (am 0)), (1, .int l1), (2, .int l2)]) hx hb dX3_ages_34 rfl hl (by decide) rfl (fun ls hl => ?_)
      refine lv_aload_n (pc := 35) hx hb dX3_ages_35 rfl (lv_at hl 1 rfl) ?_
      refine lv_iload_n (pc := 36) hx hb dX3_ages_36 rfl (lv_at hl 0 rfl) ?_
      obtain ⟨v7, S7, e7, hf⟩ := bd2o hf
      refine m_callV (pc := 37) (As := [.int v6]) (rest := []) (st1 := []) hc (mX3_credits e7) (cwV 1 hts (lw_V q3059 q3061 qs79 q105 q3062) rfl rfl rfl hdX3_credits ⟨Nat.le_of_ble_eq_true rfl, Nat.le_of_ble_eq_true rfl⟩) rfl hl.1 rfl rfl (lv_room (Nat.le_of_ble_eq_true rfl)) dX3_ages_37 hP hD hS (fun H locs hP hD hS => ?_)
      refine lv_aload_n (pc := 40) hx hb dX3_ages_40 rfl (lv_at hl 1 rfl) ?_
      refine lv_iload_n (pc := 41) hx hb dX3_ages_41 rfl (lv_at hl 2 rfl) ?_
      refine lv_iload_n (pc := 42) hx hb dX3_ages_42 rfl (lv_at hl 3 rfl) ?_
      refine lv_iconst (pc := 43) (v := nI 4) hx hb dX3_ages_43 rfl ?_
      refine lv_iload_n (pc := 44) hx hb dX3_ages_44 rfl (lv_at hl 0 rfl) ?_
      obtain ⟨v8, S8, e8, hf⟩ := bd2o hf
      refine m_callV (pc := 45) (As := [.int l1, .int l2, .int (nI 4), .int v6]) (rest := []) (st1 := [.int v8]) hc (mX3_fails e8) (cwV 4 hts (lw_V q3076 q3078 qs82 q105 q3079) rfl rfl rfl hdX3_fails ⟨Nat.le_of_ble_eq_true rfl, Nat.le_of_ble_eq_true rfl⟩) rfl hl.1 rfl rfl (lv_room (Nat.le_of_ble_eq_true rfl)) dX3_ages_45 hP hD hS (fun H locs hP hD hS => ?_)
      refine lv_if_eq (pc := 48) (tgt := 53) hx hb dX3_ages_48 (by decide) (fun c9 => ?_) (fun c9 => ?_)
      · rw [if_pos c9] at hf
        exact wX3_ages_b53 hc l1 l2 S8 _ _ ls hP hD hS (lv_sub hl [1, 2, 3] rfl) hf
      · rw [if_neg c9] at hf
        refine lv_iconst (pc := 51) (v := nI 1) hx hb dX3_ages_51 rfl ?_
        exact m_zret (pc := 52) hx hb hr hlk hP hD hS hf dX3_ages_52
theorem mX3_ages {S S2 : mS} {r2 : Int32} {l1 : Int32} {l2 : Int32} (hf : fX3_ages l1 l2 S = some (r2, S2)) : mMet l yX3_ages cX3_ages 4 (some .boolean) 4 102 D am cI cJ [.ref (am 0), .int l1, .int l2] S (some (.int r2)) S2 := by
  exact m_start (by decide) rfl (Nat.le_of_ble_eq_true rfl) (fun p e s m args below meth c ls hc hl hP hD => wX3_ages_b0 hc l1 l2 S _ _ ls hP hD va_S.rf (lv_sub hl [0, 1, 2] rfl) hf)
end
section
variable {r : Int32} {Sf : mS}
def fX3_passes_b36 (k4 : Int32 → Int32 → Int32 → mS → Option (Int32 × mS)) (k22 : Int32 → Int32 → Int32 → Int32 → mS → Option (Int32 × mS)) : Nat → Int32 → Int32 → Int32 → Int32 → Int32 → mS → Option (Int32 × mS)
  | 0, _, _, _, _, _, _ => none
  | n + 1, l1, l2, l3, l4, l5, S =>
    bd2 (fX3_of l4 (nI 35) S) fun v1 S1 =>
    if v1 ≤ l5 then
      k22 l1 l2 l3 (l4 + (nI 1)) S1
    else
      bd2 (fX3_ages l4 l5 S1) fun v3 S3 =>
      if v3 = 0 then
        fX3_passes_b36 k4 k22 n l1 l2 l3 l4 (l5 + (nI 1)) S3
      else
        fX3_passes_b36 k4 k22 n l1 (l2 + (nI 1)) l3 l4 l5 S3
theorem wX3_passes_b36 (hc : mC p s m args meth c D cI cJ cX3_passes 6 (some .int)) (k4 : Int32 → Int32 → Int32 → mS → Option (Int32 × mS)) (h4 : ∀ (l1 : Int32) (l2 : Int32) (l3 : Int32) (S : mS) (H : Heap) (locs : List Loc) (ls : Array Slot), va_P D mCl (mws am cI cJ S) H → va_D (mA am) (mws am cI cJ S) → va_S (mA am) s.heap H locs → lv_has ls 6 [(0, .ref (am 0)), (1, .int l1), (2, .int l2), (3, .int l3)] → k4 l1 l2 l3 S = some (r, Sf) → W p l e (mR 5 125) s m args below meth c H locs 0 0 (mQ below D am cI cJ (some (.int r)) Sf args s) (F0 m 4 ls [])) (k22 : Int32 → Int32 → Int32 → Int32 → mS → Option (Int32 × mS)) (h22 : ∀ (l1 : Int32) (l2 : Int32) (l3 : Int32) (l4 : Int32) (S : mS) (H : Heap) (locs : List Loc) (ls : Array Slot), va_P D mCl (mws am cI cJ S) H → va_D (mA am) (mws am cI cJ S) → va_S (mA am) s.heap H locs → lv_has ls 6 [(0, .ref (am 0)), (1, .int l1), (2, .int l2), (3, .int l3), (4, .int l4)] → k22 l1 l2 l3 l4 S = some (r, Sf) → W p l e (mR 5 125) s m args below meth c H locs 0 0 (mQ below D am cI cJ (some (.int r)) Sf args s) (F0 m 22 ls [])) : ∀ (n : Nat) (l1 : Int32) (l2 : Int32) (l3 : Int32) (l4 : Int32) (l5 : Int32) (S : mS) (H : Heap) (locs : List Loc) (ls : Array Slot), va_P D mCl (mws am cI cJ S) H → va_D (mA am) (mws am cI cJ S) → va_S (mA am) s.heap H locs → lv_has ls 6 [(0, .ref (am 0)), (1, .int l1), (2, .int l2), (3, .int l3), (4, .int l4), (5, .int l5)] → fX3_passes_b36 k4 k22 n l1 l2 l3 l4 l5 S = some (r, Sf) → W p l e (mR 5 125) s m args below meth c H locs 0 0 (mQ below D am cI cJ (some (.int r)) Sf args s) (F0 m 36 ls []) := by
  obtain ⟨hx, hb, hr, hlk, hml, hown, hts, hK⟩ := hc
  have hc : mC p s m args meth c D cI cJ cX3_passes 6 (some .int) := ⟨hx, hb, hr, hlk, hml, hown, hts, hK⟩
  intro n
  induction n with
  | zero => intro l1 l2 l3 l4 l5 S H locs ls _ _ _ _ hf; exact absurd hf (fun h => by cases h)
  | succ n ih =>
    intro l1 l2 l3 l4 l5 S H locs ls hP hD hS hl hf
    rw [fX3_passes_b36] at hf
    refine lv_iload (pc := 36) hx hb dX3_passes_36 (lv_at hl 5 rfl) ?_
    refine lv_aload_n (pc := 38) hx hb dX3_passes_38 rfl (lv_at hl 0 rfl) ?_
    refine lv_iload (pc := 39) hx hb dX3_passes_39 (lv_at hl 4 rfl) ?_
    refine lv_bipush (pc := 41) (v := nI 35) hx hb dX3_passes_41 kcb35 ?_
    obtain ⟨v1, S1, e1, hf⟩ := bd2o hf
    refine m_callV (pc := 43) (As := [.int l4, .int (nI 35)]) (rest := [.int l5]) (st1 := [.int v1, .int l5]) hc (mX3_of e1) (cwV 2 hts (lw_V q2949 q2951 qs58 q105 q2952) rfl rfl rfl hdX3_of ⟨Nat.le_of_ble_eq_true rfl, Nat.le_of_ble_eq_true rfl⟩) rfl hl.1 rfl rfl (lv_room (Nat.le_of_ble_eq_true rfl)) dX3_passes_43 hP hD hS (fun H locs hP hD hS => ?_)
    refine lv_icmp_ge (pc := 46) (tgt := 72) hx hb dX3_passes_46 (by decide) (fun c2 => ?_) (fun c2 => ?_)
    · rw [if_pos c2] at hf
      refine lv_iinc (pc := 72) (v := l4 + (nI 1)) (lv' := [(4, .int (l4 + (nI 1))), (0, .ref (am 0)), (1, .int l1), (2, .int l2), (3, .int l3), (5, .int l5)]) hx hb dX3_passes_72 hl (k := 4) rfl rfl (by decide) rfl (fun ls hl => ?_)
      refine lv_goto (pc := 75) (tgt := 22) hx hb dX3_passes_75 (by decide) ?_
      exact h22 l1 l2 l3 (l4 + (nI 1)) S1 _ _ ls hP hD hS (lv_sub hl [1, 2, 3, 4, 0] rfl) hf
    · rw [if_neg c2] at hf
      refine lv_aload_n (pc := 49) hx hb dX3_passes_49 rfl (lv_at hl 0 rfl) ?_
      refine lv_iload (pc := 50) hx hb dX3_passes_50 (lv_at hl 4 rfl) ?_
      refine lv_iload (pc := 52) hx hb dX3_passes_52 (lv_at hl 5 rfl) ?_
      obtain ⟨v3, S3, e3, hf⟩ := bd2o hf
      refine m_callV (pc := 54) (As := [.int l4, .int l5]) (rest := []) (st1 := [.int v3]) hc (mX3_ages e3) (cwV 2 hts (lw_V q3109 q3111 qs85 q105 q3112) rfl rfl rfl hdX3_ages ⟨Nat.le_of_ble_eq_true rfl, Nat.le_of_ble_eq_true rfl⟩) rfl hl.1 rfl rfl (lv_room (Nat.le_of_ble_eq_true rfl)) dX3_passes_54 hP hD hS (fun H locs hP hD hS => ?_)
      refine lv_if_eq (pc := 57) (tgt := 66) hx hb dX3_passes_57 (by decide) (fun c4 => ?_) (fun c4 => ?_)
      · rw [if_pos c4] at hf
        refine lv_iinc (pc := 66) (v := l5 + (nI 1)) (lv' := [(5, .int (l5 + (nI 1))), (0, .ref (am 0)), (1, .int l1), (2, .int l2), (3, .int l3), (4, .int l4)]) hx hb dX3_passes_66 hl (k := 5) rfl rfl (by decide) rfl (fun ls hl => ?_)
        refine lv_goto (pc := 69) (tgt := 36) hx hb dX3_passes_69 (by decide) ?_
        exact ih l1 l2 l3 l4 (l5 + (nI 1)) S3 _ _ ls hP hD hS (lv_sub hl [1, 2, 3, 4, 5, 0] rfl) hf
      · rw [if_neg c4] at hf
        refine lv_iinc (pc := 60) (v := l2 + (nI 1)) (lv' := [(2, .int (l2 + (nI 1))), (0, .ref (am 0)), (1, .int l1), (3, .int l3), (4, .int l4), (5, .int l5)]) hx hb dX3_passes_60 hl (k := 2) rfl rfl (by decide) rfl (fun ls hl => ?_)
        refine lv_goto (pc := 63) (tgt := 36) hx hb dX3_passes_63 (by decide) ?_
        exact ih l1 (l2 + (nI 1)) l3 l4 l5 S3 _ _ ls hP hD hS (lv_sub hl [1, 2, 0, 3, 4, 5] rfl) hf
def fX3_passes_b22 (k4 : Int32 → Int32 → Int32 → mS → Option (Int32 × mS)) : Nat → Int32 → Int32 → Int32 → Int32 → mS → Option (Int32 × mS)
  | 0, _, _, _, _, _ => none
  | n + 1, l1, l2, l3, l4, S =>
    bd (mrd S 0 7919 (nI 0)) fun v1 =>
    if v1 ≤ l4 then
      k4 l1 l2 (l3 + (nI 1)) S
    else
      fX3_passes_b36 k4 (fX3_passes_b22 k4 n) FU l1 l2 l3 l4 (nI 0) S
theorem wX3_passes_b22 (hc : mC p s m args meth c D cI cJ cX3_passes 6 (some .int)) (k4 : Int32 → Int32 → Int32 → mS → Option (Int32 × mS)) (h4 : ∀ (l1 : Int32) (l2 : Int32) (l3 : Int32) (S : mS) (H : Heap) (locs : List Loc) (ls : Array Slot), va_P D mCl (mws am cI cJ S) H → va_D (mA am) (mws am cI cJ S) → va_S (mA am) s.heap H locs → lv_has ls 6 [(0, .ref (am 0)), (1, .int l1), (2, .int l2), (3, .int l3)] → k4 l1 l2 l3 S = some (r, Sf) → W p l e (mR 5 125) s m args below meth c H locs 0 0 (mQ below D am cI cJ (some (.int r)) Sf args s) (F0 m 4 ls [])) : ∀ (n : Nat) (l1 : Int32) (l2 : Int32) (l3 : Int32) (l4 : Int32) (S : mS) (H : Heap) (locs : List Loc) (ls : Array Slot), va_P D mCl (mws am cI cJ S) H → va_D (mA am) (mws am cI cJ S) → va_S (mA am) s.heap H locs → lv_has ls 6 [(0, .ref (am 0)), (1, .int l1), (2, .int l2), (3, .int l3), (4, .int l4)] → fX3_passes_b22 k4 n l1 l2 l3 l4 S = some (r, Sf) → W p l e (mR 5 125) s m args below meth c H locs 0 0 (mQ below D am cI cJ (some (.int r)) Sf args s) (F0 m 22 ls []) := by
  obtain ⟨hx, hb, hr, hlk, hml, hown, hts, hK⟩ := hc
  have hc : mC p s m args meth c D cI cJ cX3_passes 6 (some .int) := ⟨hx, hb, hr, hlk, hml, hown, hts, hK⟩
  intro n
  induction n with
  | zero => intro l1 l2 l3 l4 S H locs ls _ _ _ _ hf; exact absurd hf (fun h => by cases h)
  | succ n ih =>
    intro l1 l2 l3 l4 S H locs ls hP hD hS hl hf
    rw [fX3_passes_b22] at hf
    refine lv_iload (pc := 22) hx hb dX3_passes_22 (lv_at hl 4 rfl) ?_
    refine lv_aload_n (pc := 24) hx hb dX3_passes_24 rfl (lv_at hl 0 rfl) ?_
    refine va_get (D := D) (ci := 0) (v := .ref (am 1)) (C := RX3) (T := TX3) (N := 17) (pc := 25) hx hb hts in_X3 hown hK hP 0 rfl rfl 0 (by decide) (hts _ q2839) (fun _ h9 => h9) rfl dX3_passes_25 ?_
    refine lv_iconst (pc := 28) (v := nI 0) hx hb dX3_passes_28 rfl ?_
    obtain ⟨v1, e1, hf⟩ := bdo hf
    refine m_iald (pc := 29) (k := 0) hx hb hK hP rfl e1 dX3_passes_29 ?_
    refine lv_icmp_ge (pc := 30) (tgt := 78) hx hb dX3_passes_30 (by decide) (fun c2 => ?_) (fun c2 => ?_)
    · rw [if_pos c2] at hf
      refine lv_iinc (pc := 78) (v := l3 + (nI 1)) (lv' := [(3, .int (l3 + (nI 1))), (0, .ref (am 0)), (1, .int l1), (2, .int l2), (4, .int l4)]) hx hb dX3_passes_78 hl (k := 3) rfl rfl (by decide) rfl (fun ls hl => ?_)
      refine lv_goto (pc := 81) (tgt := 4) hx hb dX3_passes_81 (by decide) ?_
      exact h4 l1 l2 (l3 + (nI 1)) S _ _ ls hP hD hS (lv_sub hl [1, 2, 3, 0] rfl) hf
    · rw [if_neg c2] at hf
      refine lv_iconst (pc := 33) (v := nI 0) hx hb dX3_passes_33 rfl ?_
      refine lv_istore (pc := 34) (lv' := [(5, .int (nI 0)), (0, .ref (am 0)), (1, .int l1), (2, .int l2), (3, .int l3), (4, .int l4)]) hx hb dX3_passes_34 hl (by decide) rfl (fun ls hl => ?_)
      exact wX3_passes_b36 hc k4 h4 (fX3_passes_b22 k4 n) ih FU l1 l2 l3 l4 (nI 0) S _ _ ls hP hD hS (lv_sub hl [1, 2, 3, 4, 5, 0] rfl) hf
def fX3_passes_b4 : Nat → Int32 → Int32 → Int32 → mS → Option (Int32 × mS)
  | 0, _, _, _, _ => none
  | n + 1, l1, l2, l3, S =>
    if l1 ≤ l3 then
      some (l2, S)
    else
      bd (mrd S 0 7919 (nI 4)) fun v2 =>
      bd (mwr S 0 7919 (nI 4) (v2 + (nI 1))) fun S3 =>
      fX3_passes_b22 (fX3_passes_b4 n) FU l1 l2 l3 (nI 0) S3
theorem wX3_passes_b4 (hc : mC p s m args meth c D cI cJ cX3_passes 6 (some .int)) : ∀ (n : Nat) (l1 : Int32) (l2 : Int32) (l3 : Int32) (S : mS) (H : Heap) (locs : List Loc) (ls : Array Slot), va_P D mCl (mws am cI cJ S) H → va_D (mA am) (mws am cI cJ S) → va_S (mA am) s.heap H locs → lv_has ls 6 [(0, .ref (am 0)), (1, .int l1), (2, .int l2), (3, .int l3)] → fX3_passes_b4 n l1 l2 l3 S = some (r, Sf) → W p l e (mR 5 125) s m args below meth c H locs 0 0 (mQ below D am cI cJ (some (.int r)) Sf args s) (F0 m 4 ls []) := by
  obtain ⟨hx, hb, hr, hlk, hml, hown, hts, hK⟩ := hc
  have hc : mC p s m args meth c D cI cJ cX3_passes 6 (some .int) := ⟨hx, hb, hr, hlk, hml, hown, hts, hK⟩
  intro n
  induction n with
  | zero => intro l1 l2 l3 S H locs ls _ _ _ _ hf; exact absurd hf (fun h => by cases h)
  | succ n ih =>
    intro l1 l2 l3 S H locs ls hP hD hS hl hf
    rw [fX3_passes_b4] at hf
    refine lv_iload_n (pc := 4) hx hb dX3_passes_4 rfl (lv_at hl 3 rfl) ?_
    refine lv_iload_n (pc := 5) hx hb dX3_passes_5 rfl (lv_at hl 1 rfl) ?_
    refine lv_icmp_ge (pc := 6) (tgt := 84) hx hb dX3_passes_6 (by decide) (fun c1 => ?_) (fun c1 => ?_)
    · rw [if_pos c1] at hf
      refine lv_iload_n (pc := 84) hx hb dX3_passes_84 rfl (lv_at hl 2 rfl) ?_
      exact m_iret (pc := 85) hx hb hr hlk hP hD hS hf dX3_passes_85
    · rw [if_neg c1] at hf
      refine lv_aload_n (pc := 9) hx hb dX3_passes_9 rfl (lv_at hl 0 rfl) ?_
      refine va_get (D := D) (ci := 0) (v := .ref (am 1)) (C := RX3) (T := TX3) (N := 17) (pc := 10) hx hb hts in_X3 hown hK hP 0 rfl rfl 0 (by decide) (hts _ q2839) (fun _ h9 => h9) rfl dX3_passes_10 ?_
      refine lv_iconst (pc := 13) (v := nI 4) hx hb dX3_passes_13 rfl ?_
      refine lv_dup2_11 (pc := 14) hx hb dX3_passes_14 rfl rfl ?_
      obtain ⟨v2, e2, hf⟩ := bdo hf
      refine m_iald (pc := 15) (k := 0) hx hb hK hP rfl e2 dX3_passes_15 ?_
      refine lv_iconst (pc := 16) (v := nI 1) hx hb dX3_passes_16 rfl ?_
      refine lv_iadd (pc := 17) hx hb dX3_passes_17 ?_
      obtain ⟨S3, e3, hf⟩ := bdo hf
      refine m_iast (pc := 18) (k := 0) hx hb hK hP hD hS rfl (fun _ _ => rfl) e3 dX3_passes_18 (fun H locs hP hD hS => ?_)
      refine lv_iconst (pc := 19) (v := nI 0) hx hb dX3_passes_19 rfl ?_
      refine lv_istore (pc := 20) (lv' := [(4, .int (nI 0)), (0, .ref (am 0)), (1, .int l1), (2, .int l2), (3, .int l3)]) hx hb dX3_passes_20 hl (by decide) rfl (fun ls hl => ?_)
      exact wX3_passes_b22 hc (fX3_passes_b4 n) ih FU l1 l2 l3 (nI 0) S3 _ _ ls hP hD hS (lv_sub hl [1, 2, 3, 4, 0] rfl) hf
def fX3_passes (l1 : Int32) (S : mS) : Option (Int32 × mS) :=
  fX3_passes_b4 FU l1 (nI 0) (nI 0) S
theorem wX3_passes_b0 (hc : mC p s m args meth c D cI cJ cX3_passes 6 (some .int)) (l1 : Int32) (S : mS) (H : Heap) (locs : List Loc) (ls : Array Slot) (hP : va_P D mCl (mws am cI cJ S) H) (hD : va_D (mA am) (mws am cI cJ S)) (hS : va_S (mA am) s.heap H locs) (hl : lv_has ls 6 [(0, .ref (am 0)), (1, .int l1)]) (hf : fX3_passes l1 S = some (r, Sf)) : W p l e (mR 5 125) s m args below meth c H locs 0 0 (mQ below D am cI cJ (some (.int r)) Sf args s) (F0 m 0 ls []) := by
  obtain ⟨hx, hb, hr, hlk, hml, hown, hts, hK⟩ := hc
  have hc : mC p s m args meth c D cI cJ cX3_passes 6 (some .int) := ⟨hx, hb, hr, hlk, hml, hown, hts, hK⟩
  unfold fX3_passes at hf
  refine lv_iconst (pc := 0) (v := nI 0) hx hb dX3_passes_0 rfl ?_
  refine lv_istore_n (pc := 1) (lv' := [(2, .int (nI 0)), (0, .ref (am 0)), (1, .int l1)]) hx hb dX3_passes_1 rfl hl (by decide) rfl (fun ls hl => ?_)
  refine lv_iconst (pc := 2) (v := nI 0) hx hb dX3_passes_2 rfl ?_
  refine lv_istore_n (pc := 3) (lv' := [(3, .int (nI 0)), (2, .int (nI 0)), (0, .ref (am 0)), (1, .int l1)]) hx hb dX3_passes_3 rfl hl (by decide) rfl (fun ls hl => ?_)
  exact wX3_passes_b4 hc FU l1 (nI 0) (nI 0) S _ _ ls hP hD hS (lv_sub hl [2, 3, 1, 0] rfl) hf
theorem mX3_passes {S S2 : mS} {r2 : Int32} {l1 : Int32} (hf : fX3_passes l1 S = some (r2, S2)) : mMet l yX3_passes cX3_passes 6 (some .int) 5 125 D am cI cJ [.ref (am 0), .int l1] S (some (.int r2)) S2 := by
  exact m_start (by decide) rfl (Nat.le_of_ble_eq_true rfl) (fun p e s m args below meth c ls hc hl hP hD => wX3_passes_b0 hc l1 S _ _ ls hP hD va_S.rf (lv_sub hl [0, 1] rfl) hf)
end
section
variable {r : Int32} {Sf : mS}
def fX3_pass (l1 : Int32) (S : mS) : Option (Int32 × mS) :=
  bd2 (fX3_in l1.toInt64 (lN 0) (lN 99) S) fun v1 S1 =>
  if v1 = 0 then
    bd2 (fX3_refused (-82) S1) fun v3 S3 =>
    some (v3, S3)
  else
    bd2 (fX3_passes l1 S1) fun v4 S4 =>
    some (v4, S4)
theorem wX3_pass_b0 (hc : mC p s m args meth c D cI cJ cX3_pass 2 (some .int)) (l1 : Int32) (S : mS) (H : Heap) (locs : List Loc) (ls : Array Slot) (hP : va_P D mCl (mws am cI cJ S) H) (hD : va_D (mA am) (mws am cI cJ S)) (hS : va_S (mA am) s.heap H locs) (hl : lv_has ls 2 [(0, .ref (am 0)), (1, .int l1)]) (hf : fX3_pass l1 S = some (r, Sf)) : W p l e (mR 6 150) s m args below meth c H locs 0 0 (mQ below D am cI cJ (some (.int r)) Sf args s) (F0 m 0 ls []) := by
  obtain ⟨hx, hb, hr, hlk, hml, hown, hts, hK⟩ := hc
  have hc : mC p s m args meth c D cI cJ cX3_pass 2 (some .int) := ⟨hx, hb, hr, hlk, hml, hown, hts, hK⟩
  unfold fX3_pass at hf
  refine lv_iload_n (pc := 0) hx hb dX3_pass_0 rfl (lv_at hl 1 rfl) ?_
  refine lv_i2l (pc := 1) hx hb dX3_pass_1 rfl ?_
  refine lv_lconst (pc := 2) (v := lN 0) hx hb dX3_pass_2 rfl ?_
  refine lv_ldc2 (pc := 3) (v := lN 99) hx hb hown (hts _ q2931) dX3_pass_3 ?_
  obtain ⟨v1, S1, e1, hf⟩ := bd2o hf
  refine m_callS (pc := 6) (As := [.long l1.toInt64, .long (lN 0), .long (lN 99)]) (rest := []) (st1 := [.int v1]) hc (mX3_in e1) (va_cwS 3 hts (lw_S q2896 q2897 q105 q2898) rfl rfl rfl hdX3_in ⟨Nat.le_of_ble_eq_true rfl, Nat.le_of_ble_eq_true rfl⟩) rfl hl.1 rfl rfl (lv_room (Nat.le_of_ble_eq_true rfl)) dX3_pass_6 hP hD hS (fun H locs hP hD hS => ?_)
  refine lv_if_eq (pc := 9) (tgt := 20) hx hb dX3_pass_9 (by decide) (fun c2 => ?_) (fun c2 => ?_)
  · rw [if_pos c2] at hf
    refine lv_aload_n (pc := 20) hx hb dX3_pass_20 rfl (lv_at hl 0 rfl) ?_
    refine lv_bipush (pc := 21) (v := -82) hx hb dX3_pass_21 kcbm82 ?_
    obtain ⟨v3, S3, e3, hf⟩ := bd2o hf
    refine m_callV (pc := 23) (As := [.int (-82)]) (rest := []) (st1 := [.int v3]) hc (mX3_refused e3) (cwV 1 hts (lw_V q2899 q2901 qs51 q105 q2902) rfl rfl rfl hdX3_refused ⟨Nat.le_of_ble_eq_true rfl, Nat.le_of_ble_eq_true rfl⟩) rfl hl.1 rfl rfl (lv_room (Nat.le_of_ble_eq_true rfl)) dX3_pass_23 hP hD hS (fun H locs hP hD hS => ?_)
    exact m_iret (pc := 26) hx hb hr hlk hP hD hS hf dX3_pass_26
  · rw [if_neg c2] at hf
    refine lv_aload_n (pc := 12) hx hb dX3_pass_12 rfl (lv_at hl 0 rfl) ?_
    refine lv_iload_n (pc := 13) hx hb dX3_pass_13 rfl (lv_at hl 1 rfl) ?_
    obtain ⟨v4, S4, e4, hf⟩ := bd2o hf
    refine m_callV (pc := 14) (As := [.int l1]) (rest := []) (st1 := [.int v4]) hc (mX3_passes e4) (cwV 1 hts (lw_V q3105 q3107 qs84 q105 q3108) rfl rfl rfl hdX3_passes ⟨Nat.le_of_ble_eq_true rfl, Nat.le_of_ble_eq_true rfl⟩) rfl hl.1 rfl rfl (lv_room (Nat.le_of_ble_eq_true rfl)) dX3_pass_14 hP hD hS (fun H locs hP hD hS => ?_)
    refine lv_goto (pc := 17) (tgt := 26) hx hb dX3_pass_17 (by decide) ?_
    exact m_iret (pc := 26) hx hb hr hlk hP hD hS hf dX3_pass_26
theorem mX3_pass {S S2 : mS} {r2 : Int32} {l1 : Int32} (hf : fX3_pass l1 S = some (r2, S2)) : mMet l yX3_pass cX3_pass 2 (some .int) 6 150 D am cI cJ [.ref (am 0), .int l1] S (some (.int r2)) S2 := by
  exact m_start (by decide) rfl (Nat.le_of_ble_eq_true rfl) (fun p e s m args below meth c ls hc hl hP hD => wX3_pass_b0 hc l1 S _ _ ls hP hD va_S.rf (lv_sub hl [0, 1] rfl) hf)
end
section
variable {r : Unit} {Sf : mS}
def fX3_losesDead_b19 : Nat → Int32 → mS → Option (Unit × mS)
  | 0, _, _ => none
  | n + 1, l2, S =>
    bd (mrd S 0 7919 (nI 3)) fun v1 =>
    if ((nI 2751) + ((nI 24) * v1)) ≤ l2 then
      some ((), S)
    else
      bd (mrd S 0 7919 (l2 + (nI 24))) fun v3 =>
      bd (mwr S 0 7919 l2 v3) fun S4 =>
      fX3_losesDead_b19 n (l2 + (nI 1)) S4
theorem wX3_losesDead_b19 (hc : mC p s m args meth c D cI cJ cX3_losesDead 3 (none)) : ∀ (n : Nat) (l2 : Int32) (S : mS) (H : Heap) (locs : List Loc) (ls : Array Slot), va_P D mCl (mws am cI cJ S) H → va_D (mA am) (mws am cI cJ S) → va_S (mA am) s.heap H locs → lv_has ls 3 [(0, .ref (am 0)), (2, .int l2)] → fX3_losesDead_b19 n l2 S = some (r, Sf) → W p l e (mR 0 0) s m args below meth c H locs 0 0 (mQ below D am cI cJ none Sf args s) (F0 m 19 ls []) := by
  obtain ⟨hx, hb, hr, hlk, hml, hown, hts, hK⟩ := hc
  have hc : mC p s m args meth c D cI cJ cX3_losesDead 3 (none) := ⟨hx, hb, hr, hlk, hml, hown, hts, hK⟩
  intro n
  induction n with
  | zero => intro l2 S H locs ls _ _ _ _ hf; exact absurd hf (fun h => by cases h)
  | succ n ih =>
    intro l2 S H locs ls hP hD hS hl hf
    rw [fX3_losesDead_b19] at hf
    refine lv_iload_n (pc := 19) hx hb dX3_losesDead_19 rfl (lv_at hl 1 rfl) ?_
    refine lv_sipush (pc := 20) (v := nI 2751) hx hb dX3_losesDead_20 kcs2751 ?_
    refine lv_bipush (pc := 23) (v := nI 24) hx hb dX3_losesDead_23 kcb24 ?_
    refine lv_aload_n (pc := 25) hx hb dX3_losesDead_25 rfl (lv_at hl 0 rfl) ?_
    refine va_get (D := D) (ci := 0) (v := .ref (am 1)) (C := RX3) (T := TX3) (N := 17) (pc := 26) hx hb hts in_X3 hown hK hP 0 rfl rfl 0 (by decide) (hts _ q2839) (fun _ h9 => h9) rfl dX3_losesDead_26 ?_
    refine lv_iconst (pc := 29) (v := nI 3) hx hb dX3_losesDead_29 rfl ?_
    obtain ⟨v1, e1, hf⟩ := bdo hf
    refine m_iald (pc := 30) (k := 0) hx hb hK hP rfl e1 dX3_losesDead_30 ?_
    refine lv_imul (pc := 31) hx hb dX3_losesDead_31 ?_
    refine lv_iadd (pc := 32) hx hb dX3_losesDead_32 ?_
    refine lv_icmp_ge (pc := 33) (tgt := 57) hx hb dX3_losesDead_33 (by decide) (fun c2 => ?_) (fun c2 => ?_)
    · rw [if_pos c2] at hf
      exact m_vret (pc := 57) hx hb hr hlk hP hD hS hf dX3_losesDead_57
    · rw [if_neg c2] at hf
      refine lv_aload_n (pc := 36) hx hb dX3_losesDead_36 rfl (lv_at hl 0 rfl) ?_
      refine va_get (D := D) (ci := 0) (v := .ref (am 1)) (C := RX3) (T := TX3) (N := 17) (pc := 37) hx hb hts in_X3 hown hK hP 0 rfl rfl 0 (by decide) (hts _ q2839) (fun _ h9 => h9) rfl dX3_losesDead_37 ?_
      refine lv_iload_n (pc := 40) hx hb dX3_losesDead_40 rfl (lv_at hl 1 rfl) ?_
      refine lv_aload_n (pc := 41) hx hb dX3_losesDead_41 rfl (lv_at hl 0 rfl) ?_
      refine va_get (D := D) (ci := 0) (v := .ref (am 1)) (C := RX3) (T := TX3) (N := 17) (pc := 42) hx hb hts in_X3 hown hK hP 0 rfl rfl 0 (by decide) (hts _ q2839) (fun _ h9 => h9) rfl dX3_losesDead_42 ?_
      refine lv_iload_n (pc := 45) hx hb dX3_losesDead_45 rfl (lv_at hl 1 rfl) ?_
      refine lv_bipush (pc := 46) (v := nI 24) hx hb dX3_losesDead_46 kcb24 ?_
      refine lv_iadd (pc := 48) hx hb dX3_losesDead_48 ?_
      obtain ⟨v3, e3, hf⟩ := bdo hf
      refine m_iald (pc := 49) (k := 0) hx hb hK hP rfl e3 dX3_losesDead_49 ?_
      obtain ⟨S4, e4, hf⟩ := bdo hf
      refine m_iast (pc := 50) (k := 0) hx hb hK hP hD hS rfl (fun _ _ => rfl) e4 dX3_losesDead_50 (fun H locs hP hD hS => ?_)
      refine lv_iinc (pc := 51) (v := l2 + (nI 1)) (lv' := [(2, .int (l2 + (nI 1))), (0, .ref (am 0))]) hx hb dX3_losesDead_51 hl (k := 1) rfl rfl (by decide) rfl (fun ls hl => ?_)
      refine lv_goto (pc := 54) (tgt := 19) hx hb dX3_losesDead_54 (by decide) ?_
      exact ih (l2 + (nI 1)) S4 _ _ ls hP hD hS (lv_sub hl [1, 0] rfl) hf
def fX3_losesDead (l1 : Int32) (S : mS) : Option (Unit × mS) :=
  bd (mrd S 0 7919 (nI 3)) fun v1 =>
  bd (mwr S 0 7919 (nI 3) (v1 - (nI 1))) fun S2 =>
  fX3_losesDead_b19 FU ((nI 2751) + ((nI 24) * l1)) S2
theorem wX3_losesDead_b0 (hc : mC p s m args meth c D cI cJ cX3_losesDead 3 (none)) (l1 : Int32) (S : mS) (H : Heap) (locs : List Loc) (ls : Array Slot) (hP : va_P D mCl (mws am cI cJ S) H) (hD : va_D (mA am) (mws am cI cJ S)) (hS : va_S (mA am) s.heap H locs) (hl : lv_has ls 3 [(0, .ref (am 0)), (1, .int l1)]) (hf : fX3_losesDead l1 S = some (r, Sf)) : W p l e (mR 0 0) s m args below meth c H locs 0 0 (mQ below D am cI cJ none Sf args s) (F0 m 0 ls []) := by
  obtain ⟨hx, hb, hr, hlk, hml, hown, hts, hK⟩ := hc
  have hc : mC p s m args meth c D cI cJ cX3_losesDead 3 (none) := ⟨hx, hb, hr, hlk, hml, hown, hts, hK⟩
  unfold fX3_losesDead at hf
  refine lv_aload_n (pc := 0) hx hb dX3_losesDead_0 rfl (lv_at hl 0 rfl) ?_
  refine va_get (D := D) (ci := 0) (v := .ref (am 1)) (C := RX3) (T := TX3) (N := 17) (pc := 1) hx hb hts in_X3 hown hK hP 0 rfl rfl 0 (by decide) (hts _ q2839) (fun _ h9 => h9) rfl dX3_losesDead_1 ?_
  refine lv_iconst (pc := 4) (v := nI 3) hx hb dX3_losesDead_4 rfl ?_
  refine lv_dup2_11 (pc := 5) hx hb dX3_losesDead_5 rfl rfl ?_
  obtain ⟨v1, e1, hf⟩ := bdo hf
  refine m_iald (pc := 6) (k := 0) hx hb hK hP rfl e1 dX3_losesDead_6 ?_
  refine lv_iconst (pc := 7) (v := nI 1) hx hb dX3_losesDead_7 rfl ?_
  refine lv_isub (pc := 8) hx hb dX3_losesDead_8 ?_
  obtain ⟨S2, e2, hf⟩ := bdo hf
  refine m_iast (pc := 9) (k := 0) hx hb hK hP hD hS rfl (fun _ _ => rfl) e2 dX3_losesDead_9 (fun H locs hP hD hS => ?_)
  refine lv_sipush (pc := 10) (v := nI 2751) hx hb dX3_losesDead_10 kcs2751 ?_
  refine lv_bipush (pc := 13) (v := nI 24) hx hb dX3_losesDead_13 kcb24 ?_
  refine lv_iload_n (pc := 15) hx hb dX3_losesDead_15 rfl (lv_at hl 1 rfl) ?_
  refine lv_imul (pc := 16) hx hb dX3_losesDead_16 ?_
  refine lv_iadd (pc := 17) hx hb dX3_losesDead_17 ?_
  refine lv_istore_n (pc := 18) (lv' := [(2, .int ((nI 2751) + ((nI 24) * l1))), (0, .ref (am 0)), (1, .int l1)]) hx hb dX3_losesDead_18 rfl hl (by decide) rfl (fun ls hl => ?_)
  exact wX3_losesDead_b19 hc FU ((nI 2751) + ((nI 24) * l1)) S2 _ _ ls hP hD hS (lv_sub hl [1, 0] rfl) hf
theorem mX3_losesDead {S S2 : mS} {r2 : Unit} {l1 : Int32} (hf : fX3_losesDead l1 S = some (r2, S2)) : mMet l yX3_losesDead cX3_losesDead 3 (none) 0 0 D am cI cJ [.ref (am 0), .int l1] S none S2 := by
  exact m_start (by decide) rfl (Nat.le_of_ble_eq_true rfl) (fun p e s m args below meth c ls hc hl hP hD => wX3_losesDead_b0 hc l1 S _ _ ls hP hD va_S.rf (lv_sub hl [0, 1] rfl) hf)
end
section
variable {r : Int32} {Sf : mS}
def fX3_revive (l1 : Int32) (S : mS) : Option (Int32 × mS) :=
  bd (mrd S 0 7919 (nI 3)) fun v1 =>
  bd2 (fX3_in l1.toInt64 (lN 0) ((v1 - (nI 1)).toInt64) S) fun v2 S2 =>
  if v2 = 0 then
    bd2 (fX3_refused (-82) S2) fun v13 S13 =>
    some (v13, S13)
  else
    bd (mrd S2 0 7919 (((nI 2751) + ((nI 24) * l1)) + (nI 1))) fun v4 =>
    bd2 (fX3_of v4 (nI 35) S2) fun v5 S5 =>
    bd2 (fX3_of v4 (nI 26) S5) fun v6 S6 =>
    if v5 = v6 then
      bd2 (fX3_refused (-86) S6) fun v12 S12 =>
      some (v12, S12)
    else
      bd (mrd S6 0 7919 ((nI 2751) + ((nI 24) * l1))) fun v8 =>
      bd2 (fX3_comes v4 v8 S6) fun _ S9 =>
      bd2 (fX3_losesDead l1 S9) fun _ S10 =>
      bd (mrd S10 0 7919 (nI 3)) fun v11 =>
      some (v11, S10)
theorem wX3_revive_b0 (hc : mC p s m args meth c D cI cJ cX3_revive 4 (some .int)) (l1 : Int32) (S : mS) (H : Heap) (locs : List Loc) (ls : Array Slot) (hP : va_P D mCl (mws am cI cJ S) H) (hD : va_D (mA am) (mws am cI cJ S)) (hS : va_S (mA am) s.heap H locs) (hl : lv_has ls 4 [(0, .ref (am 0)), (1, .int l1)]) (hf : fX3_revive l1 S = some (r, Sf)) : W p l e (mR 3 72) s m args below meth c H locs 0 0 (mQ below D am cI cJ (some (.int r)) Sf args s) (F0 m 0 ls []) := by
  obtain ⟨hx, hb, hr, hlk, hml, hown, hts, hK⟩ := hc
  have hc : mC p s m args meth c D cI cJ cX3_revive 4 (some .int) := ⟨hx, hb, hr, hlk, hml, hown, hts, hK⟩
  unfold fX3_revive at hf
  refine lv_iload_n (pc := 0) hx hb dX3_revive_0 rfl (lv_at hl 1 rfl) ?_
  refine lv_i2l (pc := 1) hx hb dX3_revive_1 rfl ?_
  refine lv_lconst (pc := 2) (v := lN 0) hx hb dX3_revive_2 rfl ?_
  refine lv_aload_n (pc := 3) hx hb dX3_revive_3 rfl (lv_at hl 0 rfl) ?_
  refine va_get (D := D) (ci := 0) (v := .ref (am 1)) (C := RX3) (T := TX3) (N := 17) (pc := 4) hx hb hts in_X3 hown hK hP 0 rfl rfl 0 (by decide) (hts _ q2839) (fun _ h9 => h9) rfl dX3_revive_4 ?_
  refine lv_iconst (pc := 7) (v := nI 3) hx hb dX3_revive_7 rfl ?_
  obtain ⟨v1, e1, hf⟩ := bdo hf
  refine m_iald (pc := 8) (k := 0) hx hb hK hP rfl e1 dX3_revive_8 ?_
  refine lv_iconst (pc := 9) (v := nI 1) hx hb dX3_revive_9 rfl ?_
  refine lv_isub (pc := 10) hx hb dX3_revive_10 ?_
  refine lv_i2l (pc := 11) hx hb dX3_revive_11 rfl ?_
  obtain ⟨v2, S2, e2, hf⟩ := bd2o hf
  refine m_callS (pc := 12) (As := [.long l1.toInt64, .long (lN 0), .long ((v1 - (nI 1)).toInt64)]) (rest := []) (st1 := [.int v2]) hc (mX3_in e2) (va_cwS 3 hts (lw_S q2896 q2897 q105 q2898) rfl rfl rfl hdX3_in ⟨Nat.le_of_ble_eq_true rfl, Nat.le_of_ble_eq_true rfl⟩) rfl hl.1 rfl rfl (lv_room (Nat.le_of_ble_eq_true rfl)) dX3_revive_12 hP hD hS (fun H locs hP hD hS => ?_)
  refine lv_if_ne (pc := 15) (tgt := 25) hx hb dX3_revive_15 (by decide) (fun c3 => ?_) (fun c3 => ?_)
  · rw [if_neg c3] at hf
    refine lv_sipush (pc := 25) (v := nI 2751) hx hb dX3_revive_25 kcs2751 ?_
    refine lv_bipush (pc := 28) (v := nI 24) hx hb dX3_revive_28 kcb24 ?_
    refine lv_iload_n (pc := 30) hx hb dX3_revive_30 rfl (lv_at hl 1 rfl) ?_
    refine lv_imul (pc := 31) hx hb dX3_revive_31 ?_
    refine lv_iadd (pc := 32) hx hb dX3_revive_32 ?_
    refine lv_istore_n (pc := 33) (lv' := [(2, .int ((nI 2751) + ((nI 24) * l1))), (0, .ref (am 0)), (1, .int l1)]) hx hb dX3_revive_33 rfl hl (by decide) rfl (fun ls hl => ?_)
    refine lv_aload_n (pc := 34) hx hb dX3_revive_34 rfl (lv_at hl 1 rfl) ?_
    refine va_get (D := D) (ci := 0) (v := .ref (am 1)) (C := RX3) (T := TX3) (N := 17) (pc := 35) hx hb hts in_X3 hown hK hP 0 rfl rfl 0 (by decide) (hts _ q2839) (fun _ h9 => h9) rfl dX3_revive_35 ?_
    refine lv_iload_n (pc := 38) hx hb dX3_revive_38 rfl (lv_at hl 0 rfl) ?_
    refine lv_iconst (pc := 39) (v := nI 1) hx hb dX3_revive_39 rfl ?_
    refine lv_iadd (pc := 40) hx hb dX3_revive_40 ?_
    obtain ⟨v4, e4, hf⟩ := bdo hf
    refine m_iald (pc := 41) (k := 0) hx hb hK hP rfl e4 dX3_revive_41 ?_
    refine lv_istore_n (pc := 42) (lv' := [(3, .int v4), (2, .int ((nI 2751) + ((nI 24) * l1))), (0, .ref (am 0)), (1, .int l1)]) hx hb dX3_revive_42 rfl hl (by decide) rfl (fun ls hl => ?_)
    refine lv_aload_n (pc := 43) hx hb dX3_revive_43 rfl (lv_at hl 2 rfl) ?_
    refine lv_iload_n (pc := 44) hx hb dX3_revive_44 rfl (lv_at hl 0 rfl) ?_
    refine lv_bipush (pc := 45) (v := nI 35) hx hb dX3_revive_45 kcb35 ?_
    obtain ⟨v5, S5, e5, hf⟩ := bd2o hf
    refine m_callV (pc := 47) (As := [.int v4, .int (nI 35)]) (rest := []) (st1 := [.int v5]) hc (mX3_of e5) (cwV 2 hts (lw_V q2949 q2951 qs58 q105 q2952) rfl rfl rfl hdX3_of ⟨Nat.le_of_ble_eq_true rfl, Nat.le_of_ble_eq_true rfl⟩) rfl hl.1 rfl rfl (lv_room (Nat.le_of_ble_eq_true rfl)) dX3_revive_47 hP hD hS (fun H locs hP hD hS => ?_)
    refine lv_aload_n (pc := 50) hx hb dX3_revive_50 rfl (lv_at hl 2 rfl) ?_
    refine lv_iload_n (pc := 51) hx hb dX3_revive_51 rfl (lv_at hl 0 rfl) ?_
    refine lv_bipush (pc := 52) (v := nI 26) hx hb dX3_revive_52 kcb26 ?_
    obtain ⟨v6, S6, e6, hf⟩ := bd2o hf
    refine m_callV (pc := 54) (As := [.int v4, .int (nI 26)]) (rest := [.int v5]) (st1 := [.int v6, .int v5]) hc (mX3_of e6) (cwV 2 hts (lw_V q2949 q2951 qs58 q105 q2952) rfl rfl rfl hdX3_of ⟨Nat.le_of_ble_eq_true rfl, Nat.le_of_ble_eq_true rfl⟩) rfl hl.1 rfl rfl (lv_room (Nat.le_of_ble_eq_true rfl)) dX3_revive_54 hP hD hS (fun H locs hP hD hS => ?_)
    refine lv_icmp_ne (pc := 57) (tgt := 67) hx hb dX3_revive_57 (by decide) (fun c7 => ?_) (fun c7 => ?_)
    · rw [if_neg c7] at hf
      refine lv_aload_n (pc := 67) hx hb dX3_revive_67 rfl (lv_at hl 2 rfl) ?_
      refine lv_iload_n (pc := 68) hx hb dX3_revive_68 rfl (lv_at hl 0 rfl) ?_
      refine lv_aload_n (pc := 69) hx hb dX3_revive_69 rfl (lv_at hl 2 rfl) ?_
      refine va_get (D := D) (ci := 0) (v := .ref (am 1)) (C := RX3) (T := TX3) (N := 17) (pc := 70) hx hb hts in_X3 hown hK hP 0 rfl rfl 0 (by decide) (hts _ q2839) (fun _ h9 => h9) rfl dX3_revive_70 ?_
      refine lv_iload_n (pc := 73) hx hb dX3_revive_73 rfl (lv_at hl 1 rfl) ?_
      obtain ⟨v8, e8, hf⟩ := bdo hf
      refine m_iald (pc := 74) (k := 0) hx hb hK hP rfl e8 dX3_revive_74 ?_
      obtain ⟨v9, S9, e9, hf⟩ := bd2o hf
      refine m_callV (pc := 75) (As := [.int v4, .int v8]) (rest := []) (st1 := []) hc (mX3_comes e9) (cwV 2 hts (lw_V q2987 q2989 qs64 q105 q2990) rfl rfl rfl hdX3_comes ⟨Nat.le_of_ble_eq_true rfl, Nat.le_of_ble_eq_true rfl⟩) rfl hl.1 rfl rfl (lv_room (Nat.le_of_ble_eq_true rfl)) dX3_revive_75 hP hD hS (fun H locs hP hD hS => ?_)
      refine lv_aload_n (pc := 78) hx hb dX3_revive_78 rfl (lv_at hl 2 rfl) ?_
      refine lv_iload_n (pc := 79) hx hb dX3_revive_79 rfl (lv_at hl 3 rfl) ?_
      obtain ⟨v10, S10, e10, hf⟩ := bd2o hf
      refine m_callV (pc := 80) (As := [.int l1]) (rest := []) (st1 := []) hc (mX3_losesDead e10) (cwV 1 hts (lw_V q3117 q3119 qs86 q105 q3120) rfl rfl rfl hdX3_losesDead ⟨Nat.le_of_ble_eq_true rfl, Nat.le_of_ble_eq_true rfl⟩) rfl hl.1 rfl rfl (lv_room (Nat.le_of_ble_eq_true rfl)) dX3_revive_80 hP hD hS (fun H locs hP hD hS => ?_)
      refine lv_aload_n (pc := 83) hx hb dX3_revive_83 rfl (lv_at hl 2 rfl) ?_
      refine va_get (D := D) (ci := 0) (v := .ref (am 1)) (C := RX3) (T := TX3) (N := 17) (pc := 84) hx hb hts in_X3 hown hK hP 0 rfl rfl 0 (by decide) (hts _ q2839) (fun _ h9 => h9) rfl dX3_revive_84 ?_
      refine lv_iconst (pc := 87) (v := nI 3) hx hb dX3_revive_87 rfl ?_
      obtain ⟨v11, e11, hf⟩ := bdo hf
      refine m_iald (pc := 88) (k := 0) hx hb hK hP rfl e11 dX3_revive_88 ?_
      exact m_iret (pc := 89) hx hb hr hlk hP hD hS hf dX3_revive_89
    · rw [if_pos c7] at hf
      refine lv_aload_n (pc := 60) hx hb dX3_revive_60 rfl (lv_at hl 2 rfl) ?_
      refine lv_bipush (pc := 61) (v := -86) hx hb dX3_revive_61 kcbm86 ?_
      obtain ⟨v12, S12, e12, hf⟩ := bd2o hf
      refine m_callV (pc := 63) (As := [.int (-86)]) (rest := []) (st1 := [.int v12]) hc (mX3_refused e12) (cwV 1 hts (lw_V q2899 q2901 qs51 q105 q2902) rfl rfl rfl hdX3_refused ⟨Nat.le_of_ble_eq_true rfl, Nat.le_of_ble_eq_true rfl⟩) rfl hl.1 rfl rfl (lv_room (Nat.le_of_ble_eq_true rfl)) dX3_revive_63 hP hD hS (fun H locs hP hD hS => ?_)
      exact m_iret (pc := 66) hx hb hr hlk hP hD hS hf dX3_revive_66
  · rw [if_pos c3] at hf
    refine lv_aload_n (pc := 18) hx hb dX3_revive_18 rfl (lv_at hl 0 rfl) ?_
    refine lv_bipush (pc := 19) (v := -82) hx hb dX3_revive_19 kcbm82 ?_
    obtain ⟨v13, S13, e13, hf⟩ := bd2o hf
    refine m_callV (pc := 21) (As := [.int (-82)]) (rest := []) (st1 := [.int v13]) hc (mX3_refused e13) (cwV 1 hts (lw_V q2899 q2901 qs51 q105 q2902) rfl rfl rfl hdX3_refused ⟨Nat.le_of_ble_eq_true rfl, Nat.le_of_ble_eq_true rfl⟩) rfl hl.1 rfl rfl (lv_room (Nat.le_of_ble_eq_true rfl)) dX3_revive_21 hP hD hS (fun H locs hP hD hS => ?_)
    exact m_iret (pc := 24) hx hb hr hlk hP hD hS hf dX3_revive_24
theorem mX3_revive {S S2 : mS} {r2 : Int32} {l1 : Int32} (hf : fX3_revive l1 S = some (r2, S2)) : mMet l yX3_revive cX3_revive 4 (some .int) 3 72 D am cI cJ [.ref (am 0), .int l1] S (some (.int r2)) S2 := by
  exact m_start (by decide) rfl (Nat.le_of_ble_eq_true rfl) (fun p e s m args below meth c ls hc hl hP hD => wX3_revive_b0 hc l1 S _ _ ls hP hD va_S.rf (lv_sub hl [0, 1] rfl) hf)
end
section
variable {r : Int32} {Sf : mS}
def fX3_bury_b59 (k31 : Int32 → Int32 → Int32 → mS → Option (Int32 × mS)) (l1 : Int32) (l2 : Int32) (l3 : Int32) (S : mS) : Option (Int32 × mS) :=
  bd2 (fX3_losesDead l3 S) fun _ S1 =>
  k31 l1 (l2 + (nI 1)) (l3 + (-1)) S1
theorem wX3_bury_b59 (hc : mC p s m args meth c D cI cJ cX3_bury 4 (some .int)) (k31 : Int32 → Int32 → Int32 → mS → Option (Int32 × mS)) (h31 : ∀ (l1 : Int32) (l2 : Int32) (l3 : Int32) (S : mS) (H : Heap) (locs : List Loc) (ls : Array Slot), va_P D mCl (mws am cI cJ S) H → va_D (mA am) (mws am cI cJ S) → va_S (mA am) s.heap H locs → lv_has ls 4 [(0, .ref (am 0)), (1, .int l1), (2, .int l2), (3, .int l3)] → k31 l1 l2 l3 S = some (r, Sf) → W p l e (mR 2 46) s m args below meth c H locs 0 0 (mQ below D am cI cJ (some (.int r)) Sf args s) (F0 m 31 ls [])) (l1 : Int32) (l2 : Int32) (l3 : Int32) (S : mS) (H : Heap) (locs : List Loc) (ls : Array Slot) (hP : va_P D mCl (mws am cI cJ S) H) (hD : va_D (mA am) (mws am cI cJ S)) (hS : va_S (mA am) s.heap H locs) (hl : lv_has ls 4 [(0, .ref (am 0)), (1, .int l1), (2, .int l2), (3, .int l3)]) (hf : fX3_bury_b59 k31 l1 l2 l3 S = some (r, Sf)) : W p l e (mR 2 46) s m args below meth c H locs 0 0 (mQ below D am cI cJ (some (.int r)) Sf args s) (F0 m 59 ls []) := by
  obtain ⟨hx, hb, hr, hlk, hml, hown, hts, hK⟩ := hc
  have hc : mC p s m args meth c D cI cJ cX3_bury 4 (some .int) := ⟨hx, hb, hr, hlk, hml, hown, hts, hK⟩
  unfold fX3_bury_b59 at hf
  refine lv_aload_n (pc := 59) hx hb dX3_bury_59 rfl (lv_at hl 0 rfl) ?_
  refine lv_iload_n (pc := 60) hx hb dX3_bury_60 rfl (lv_at hl 3 rfl) ?_
  obtain ⟨v1, S1, e1, hf⟩ := bd2o hf
  refine m_callV (pc := 61) (As := [.int l3]) (rest := []) (st1 := []) hc (mX3_losesDead e1) (cwV 1 hts (lw_V q3117 q3119 qs86 q105 q3120) rfl rfl rfl hdX3_losesDead ⟨Nat.le_of_ble_eq_true rfl, Nat.le_of_ble_eq_true rfl⟩) rfl hl.1 rfl rfl (lv_room (Nat.le_of_ble_eq_true rfl)) dX3_bury_61 hP hD hS (fun H locs hP hD hS => ?_)
  refine lv_iinc (pc := 64) (v := l2 + (nI 1)) (lv' := [(2, .int (l2 + (nI 1))), (0, .ref (am 0)), (1, .int l1), (3, .int l3)]) hx hb dX3_bury_64 hl (k := 2) rfl rfl (by decide) rfl (fun ls hl => ?_)
  refine lv_iinc (pc := 67) (v := l3 + (-1)) (lv' := [(3, .int (l3 + (-1))), (2, .int (l2 + (nI 1))), (0, .ref (am 0)), (1, .int l1)]) hx hb dX3_bury_67 hl (k := 3) rfl rfl (by decide) rfl (fun ls hl => ?_)
  refine lv_goto (pc := 70) (tgt := 31) hx hb dX3_bury_70 (by decide) ?_
  exact h31 l1 (l2 + (nI 1)) (l3 + (-1)) S1 _ _ ls hP hD hS (lv_sub hl [2, 3, 1, 0] rfl) hf
def fX3_bury_b31 : Nat → Int32 → Int32 → Int32 → mS → Option (Int32 × mS)
  | 0, _, _, _, _ => none
  | n + 1, l1, l2, l3, S =>
    if l3 < 0 then
      some (l2, S)
    else
      if l1 = (-1) then
        fX3_bury_b59 (fX3_bury_b31 n) l1 l2 l3 S
      else
        bd (mrd S 0 7919 (((nI 2751) + ((nI 24) * l3)) + (nI 1))) fun v3 =>
        if v3 = l1 then
          fX3_bury_b59 (fX3_bury_b31 n) l1 l2 l3 S
        else
          fX3_bury_b31 n l1 l2 (l3 + (-1)) S
theorem wX3_bury_b31 (hc : mC p s m args meth c D cI cJ cX3_bury 4 (some .int)) : ∀ (n : Nat) (l1 : Int32) (l2 : Int32) (l3 : Int32) (S : mS) (H : Heap) (locs : List Loc) (ls : Array Slot), va_P D mCl (mws am cI cJ S) H → va_D (mA am) (mws am cI cJ S) → va_S (mA am) s.heap H locs → lv_has ls 4 [(0, .ref (am 0)), (1, .int l1), (2, .int l2), (3, .int l3)] → fX3_bury_b31 n l1 l2 l3 S = some (r, Sf) → W p l e (mR 2 46) s m args below meth c H locs 0 0 (mQ below D am cI cJ (some (.int r)) Sf args s) (F0 m 31 ls []) := by
  obtain ⟨hx, hb, hr, hlk, hml, hown, hts, hK⟩ := hc
  have hc : mC p s m args meth c D cI cJ cX3_bury 4 (some .int) := ⟨hx, hb, hr, hlk, hml, hown, hts, hK⟩
  intro n
  induction n with
  | zero => intro l1 l2 l3 S H locs ls _ _ _ _ hf; exact absurd hf (fun h => by cases h)
  | succ n ih =>
    intro l1 l2 l3 S H locs ls hP hD hS hl hf
    rw [fX3_bury_b31] at hf
    refine lv_iload_n (pc := 31) hx hb dX3_bury_31 rfl (lv_at hl 3 rfl) ?_
    refine lv_if_lt (pc := 32) (tgt := 73) hx hb dX3_bury_32 (by decide) (fun c1 => ?_) (fun c1 => ?_)
    · rw [if_pos c1] at hf
      refine lv_iload_n (pc := 73) hx hb dX3_bury_73 rfl (lv_at hl 2 rfl) ?_
      exact m_iret (pc := 74) hx hb hr hlk hP hD hS hf dX3_bury_74
    · rw [if_neg c1] at hf
      refine lv_iload_n (pc := 35) hx hb dX3_bury_35 rfl (lv_at hl 1 rfl) ?_
      refine lv_iconst (pc := 36) (v := -1) hx hb dX3_bury_36 rfl ?_
      refine lv_icmp_eq (pc := 37) (tgt := 59) hx hb dX3_bury_37 (by decide) (fun c2 => ?_) (fun c2 => ?_)
      · rw [if_pos c2] at hf
        exact wX3_bury_b59 hc (fX3_bury_b31 n) ih l1 l2 l3 S _ _ ls hP hD hS (lv_sub hl [0, 1, 2, 3] rfl) hf
      · rw [if_neg c2] at hf
        refine lv_aload_n (pc := 40) hx hb dX3_bury_40 rfl (lv_at hl 0 rfl) ?_
        refine va_get (D := D) (ci := 0) (v := .ref (am 1)) (C := RX3) (T := TX3) (N := 17) (pc := 41) hx hb hts in_X3 hown hK hP 0 rfl rfl 0 (by decide) (hts _ q2839) (fun _ h9 => h9) rfl dX3_bury_41 ?_
        refine lv_sipush (pc := 44) (v := nI 2751) hx hb dX3_bury_44 kcs2751 ?_
        refine lv_bipush (pc := 47) (v := nI 24) hx hb dX3_bury_47 kcb24 ?_
        refine lv_iload_n (pc := 49) hx hb dX3_bury_49 rfl (lv_at hl 3 rfl) ?_
        refine lv_imul (pc := 50) hx hb dX3_bury_50 ?_
        refine lv_iadd (pc := 51) hx hb dX3_bury_51 ?_
        refine lv_iconst (pc := 52) (v := nI 1) hx hb dX3_bury_52 rfl ?_
        refine lv_iadd (pc := 53) hx hb dX3_bury_53 ?_
        obtain ⟨v3, e3, hf⟩ := bdo hf
        refine m_iald (pc := 54) (k := 0) hx hb hK hP rfl e3 dX3_bury_54 ?_
        refine lv_iload_n (pc := 55) hx hb dX3_bury_55 rfl (lv_at hl 1 rfl) ?_
        refine lv_icmp_ne (pc := 56) (tgt := 67) hx hb dX3_bury_56 (by decide) (fun c4 => ?_) (fun c4 => ?_)
        · rw [if_neg c4] at hf
          refine lv_iinc (pc := 67) (v := l3 + (-1)) (lv' := [(3, .int (l3 + (-1))), (0, .ref (am 0)), (1, .int l1), (2, .int l2)]) hx hb dX3_bury_67 hl (k := 3) rfl rfl (by decide) rfl (fun ls hl => ?_)
          refine lv_goto (pc := 70) (tgt := 31) hx hb dX3_bury_70 (by decide) ?_
          exact ih l1 l2 (l3 + (-1)) S _ _ ls hP hD hS (lv_sub hl [1, 2, 3, 0] rfl) hf
        · rw [if_pos c4] at hf
          exact wX3_bury_b59 hc (fX3_bury_b31 n) ih l1 l2 l3 S _ _ ls hP hD hS (lv_sub hl [0, 1, 2, 3] rfl) hf
def fX3_bury_b20 (l1 : Int32) (S : mS) : Option (Int32 × mS) :=
  bd (mrd S 0 7919 (nI 3)) fun v1 =>
  fX3_bury_b31 FU l1 (nI 0) (v1 - (nI 1)) S
theorem wX3_bury_b20 (hc : mC p s m args meth c D cI cJ cX3_bury 4 (some .int)) (l1 : Int32) (S : mS) (H : Heap) (locs : List Loc) (ls : Array Slot) (hP : va_P D mCl (mws am cI cJ S) H) (hD : va_D (mA am) (mws am cI cJ S)) (hS : va_S (mA am) s.heap H locs) (hl : lv_has ls 4 [(0, .ref (am 0)), (1, .int l1)]) (hf : fX3_bury_b20 l1 S = some (r, Sf)) : W p l e (mR 2 46) s m args below meth c H locs 0 0 (mQ below D am cI cJ (some (.int r)) Sf args s) (F0 m 20 ls []) := by
  obtain ⟨hx, hb, hr, hlk, hml, hown, hts, hK⟩ := hc
  have hc : mC p s m args meth c D cI cJ cX3_bury 4 (some .int) := ⟨hx, hb, hr, hlk, hml, hown, hts, hK⟩
  unfold fX3_bury_b20 at hf
  refine lv_iconst (pc := 20) (v := nI 0) hx hb dX3_bury_20 rfl ?_
  refine lv_istore_n (pc := 21) (lv' := [(2, .int (nI 0)), (0, .ref (am 0)), (1, .int l1)]) hx hb dX3_bury_21 rfl hl (by decide) rfl (fun ls hl => ?_)
  refine lv_aload_n (pc := 22) hx hb dX3_bury_22 rfl (lv_at hl 1 rfl) ?_
  refine va_get (D := D) (ci := 0) (v := .ref (am 1)) (C := RX3) (T := TX3) (N := 17) (pc := 23) hx hb hts in_X3 hown hK hP 0 rfl rfl 0 (by decide) (hts _ q2839) (fun _ h9 => h9) rfl dX3_bury_23 ?_
  refine lv_iconst (pc := 26) (v := nI 3) hx hb dX3_bury_26 rfl ?_
  obtain ⟨v1, e1, hf⟩ := bdo hf
  refine m_iald (pc := 27) (k := 0) hx hb hK hP rfl e1 dX3_bury_27 ?_
  refine lv_iconst (pc := 28) (v := nI 1) hx hb dX3_bury_28 rfl ?_
  refine lv_isub (pc := 29) hx hb dX3_bury_29 ?_
  refine lv_istore_n (pc := 30) (lv' := [(3, .int (v1 - (nI 1))), (2, .int (nI 0)), (0, .ref (am 0)), (1, .int l1)]) hx hb dX3_bury_30 rfl hl (by decide) rfl (fun ls hl => ?_)
  exact wX3_bury_b31 hc FU l1 (nI 0) (v1 - (nI 1)) S _ _ ls hP hD hS (lv_sub hl [2, 3, 1, 0] rfl) hf
def fX3_bury (l1 : Int32) (S : mS) : Option (Int32 × mS) :=
  if l1 = (-1) then
    fX3_bury_b20 l1 S
  else
    bd2 (fX3_isQueue l1 S) fun v2 S2 =>
    if v2 = 0 then
      bd2 (fX3_refused (-82) S2) fun v4 S4 =>
      some (v4, S4)
    else
      fX3_bury_b20 l1 S2
theorem wX3_bury_b0 (hc : mC p s m args meth c D cI cJ cX3_bury 4 (some .int)) (l1 : Int32) (S : mS) (H : Heap) (locs : List Loc) (ls : Array Slot) (hP : va_P D mCl (mws am cI cJ S) H) (hD : va_D (mA am) (mws am cI cJ S)) (hS : va_S (mA am) s.heap H locs) (hl : lv_has ls 4 [(0, .ref (am 0)), (1, .int l1)]) (hf : fX3_bury l1 S = some (r, Sf)) : W p l e (mR 2 46) s m args below meth c H locs 0 0 (mQ below D am cI cJ (some (.int r)) Sf args s) (F0 m 0 ls []) := by
  obtain ⟨hx, hb, hr, hlk, hml, hown, hts, hK⟩ := hc
  have hc : mC p s m args meth c D cI cJ cX3_bury 4 (some .int) := ⟨hx, hb, hr, hlk, hml, hown, hts, hK⟩
  unfold fX3_bury at hf
  refine lv_iload_n (pc := 0) hx hb dX3_bury_0 rfl (lv_at hl 1 rfl) ?_
  refine lv_iconst (pc := 1) (v := -1) hx hb dX3_bury_1 rfl ?_
  refine lv_icmp_eq (pc := 2) (tgt := 20) hx hb dX3_bury_2 (by decide) (fun c1 => ?_) (fun c1 => ?_)
  · rw [if_pos c1] at hf
    exact wX3_bury_b20 hc l1 S _ _ ls hP hD hS (lv_sub hl [0, 1] rfl) hf
  · rw [if_neg c1] at hf
    refine lv_aload_n (pc := 5) hx hb dX3_bury_5 rfl (lv_at hl 0 rfl) ?_
    refine lv_iload_n (pc := 6) hx hb dX3_bury_6 rfl (lv_at hl 1 rfl) ?_
    obtain ⟨v2, S2, e2, hf⟩ := bd2o hf
    refine m_callV (pc := 7) (As := [.int l1]) (rest := []) (st1 := [.int v2]) hc (mX3_isQueue e2) (cwV 1 hts (lw_V q2961 q2963 qs60 q105 q2964) rfl rfl rfl hdX3_isQueue ⟨Nat.le_of_ble_eq_true rfl, Nat.le_of_ble_eq_true rfl⟩) rfl hl.1 rfl rfl (lv_room (Nat.le_of_ble_eq_true rfl)) dX3_bury_7 hP hD hS (fun H locs hP hD hS => ?_)
    refine lv_if_ne (pc := 10) (tgt := 20) hx hb dX3_bury_10 (by decide) (fun c3 => ?_) (fun c3 => ?_)
    · rw [if_neg c3] at hf
      exact wX3_bury_b20 hc l1 S2 _ _ ls hP hD hS (lv_sub hl [0, 1] rfl) hf
    · rw [if_pos c3] at hf
      refine lv_aload_n (pc := 13) hx hb dX3_bury_13 rfl (lv_at hl 0 rfl) ?_
      refine lv_bipush (pc := 14) (v := -82) hx hb dX3_bury_14 kcbm82 ?_
      obtain ⟨v4, S4, e4, hf⟩ := bd2o hf
      refine m_callV (pc := 16) (As := [.int (-82)]) (rest := []) (st1 := [.int v4]) hc (mX3_refused e4) (cwV 1 hts (lw_V q2899 q2901 qs51 q105 q2902) rfl rfl rfl hdX3_refused ⟨Nat.le_of_ble_eq_true rfl, Nat.le_of_ble_eq_true rfl⟩) rfl hl.1 rfl rfl (lv_room (Nat.le_of_ble_eq_true rfl)) dX3_bury_16 hP hD hS (fun H locs hP hD hS => ?_)
      exact m_iret (pc := 19) hx hb hr hlk hP hD hS hf dX3_bury_19
theorem mX3_bury {S S2 : mS} {r2 : Int32} {l1 : Int32} (hf : fX3_bury l1 S = some (r2, S2)) : mMet l yX3_bury cX3_bury 4 (some .int) 2 46 D am cI cJ [.ref (am 0), .int l1] S (some (.int r2)) S2 := by
  exact m_start (by decide) rfl (Nat.le_of_ble_eq_true rfl) (fun p e s m args below meth c ls hc hl hP hD => wX3_bury_b0 hc l1 S _ _ ls hP hD va_S.rf (lv_sub hl [0, 1] rfl) hf)
end
section
variable {r : Int32} {Sf : mS}
def fX3_purge_b27 : Nat → Int32 → Int32 → Int32 → mS → Option (Int32 × mS)
  | 0, _, _, _, _ => none
  | n + 1, l1, l2, l3, S =>
    if l3 < 0 then
      some (l2, S)
    else
      bd2 (fX3_letterOf l1 l3 (nI 1) S) fun v2 S2 =>
      if v2 = (nI 2) then
        fX3_purge_b27 n l1 l2 (l3 + (-1)) S2
      else
        bd2 (fX3_goes l1 l3 S2) fun _ S4 =>
        fX3_purge_b27 n l1 (l2 + (nI 1)) (l3 + (-1)) S4
theorem wX3_purge_b27 (hc : mC p s m args meth c D cI cJ cX3_purge 4 (some .int)) : ∀ (n : Nat) (l1 : Int32) (l2 : Int32) (l3 : Int32) (S : mS) (H : Heap) (locs : List Loc) (ls : Array Slot), va_P D mCl (mws am cI cJ S) H → va_D (mA am) (mws am cI cJ S) → va_S (mA am) s.heap H locs → lv_has ls 4 [(0, .ref (am 0)), (1, .int l1), (2, .int l2), (3, .int l3)] → fX3_purge_b27 n l1 l2 l3 S = some (r, Sf) → W p l e (mR 2 47) s m args below meth c H locs 0 0 (mQ below D am cI cJ (some (.int r)) Sf args s) (F0 m 27 ls []) := by
  obtain ⟨hx, hb, hr, hlk, hml, hown, hts, hK⟩ := hc
  have hc : mC p s m args meth c D cI cJ cX3_purge 4 (some .int) := ⟨hx, hb, hr, hlk, hml, hown, hts, hK⟩
  intro n
  induction n with
  | zero => intro l1 l2 l3 S H locs ls _ _ _ _ hf; exact absurd hf (fun h => by cases h)
  | succ n ih =>
    intro l1 l2 l3 S H locs ls hP hD hS hl hf
    rw [fX3_purge_b27] at hf
    refine lv_iload_n (pc := 27) hx hb dX3_purge_27 rfl (lv_at hl 3 rfl) ?_
    refine lv_if_lt (pc := 28) (tgt := 57) hx hb dX3_purge_28 (by decide) (fun c1 => ?_) (fun c1 => ?_)
    · rw [if_pos c1] at hf
      refine lv_iload_n (pc := 57) hx hb dX3_purge_57 rfl (lv_at hl 2 rfl) ?_
      exact m_iret (pc := 58) hx hb hr hlk hP hD hS hf dX3_purge_58
    · rw [if_neg c1] at hf
      refine lv_aload_n (pc := 31) hx hb dX3_purge_31 rfl (lv_at hl 0 rfl) ?_
      refine lv_iload_n (pc := 32) hx hb dX3_purge_32 rfl (lv_at hl 1 rfl) ?_
      refine lv_iload_n (pc := 33) hx hb dX3_purge_33 rfl (lv_at hl 3 rfl) ?_
      refine lv_iconst (pc := 34) (v := nI 1) hx hb dX3_purge_34 rfl ?_
      obtain ⟨v2, S2, e2, hf⟩ := bd2o hf
      refine m_callV (pc := 35) (As := [.int l1, .int l3, .int (nI 1)]) (rest := []) (st1 := [.int v2]) hc (mX3_letterOf e2) (cwV 3 hts (lw_V q2991 q2993 qs65 q105 q2994) rfl rfl rfl hdX3_letterOf ⟨Nat.le_of_ble_eq_true rfl, Nat.le_of_ble_eq_true rfl⟩) rfl hl.1 rfl rfl (lv_room (Nat.le_of_ble_eq_true rfl)) dX3_purge_35 hP hD hS (fun H locs hP hD hS => ?_)
      refine lv_iconst (pc := 38) (v := nI 2) hx hb dX3_purge_38 rfl ?_
      refine lv_icmp_eq (pc := 39) (tgt := 51) hx hb dX3_purge_39 (by decide) (fun c3 => ?_) (fun c3 => ?_)
      · rw [if_pos c3] at hf
        refine lv_iinc (pc := 51) (v := l3 + (-1)) (lv' := [(3, .int (l3 + (-1))), (0, .ref (am 0)), (1, .int l1), (2, .int l2)]) hx hb dX3_purge_51 hl (k := 3) rfl rfl (by decide) rfl (fun ls hl => ?_)
        refine lv_goto (pc := 54) (tgt := 27) hx hb dX3_purge_54 (by decide) ?_
        exact ih l1 l2 (l3 + (-1)) S2 _ _ ls hP hD hS (lv_sub hl [1, 2, 3, 0] rfl) hf
      · rw [if_neg c3] at hf
        refine lv_aload_n (pc := 42) hx hb dX3_purge_42 rfl (lv_at hl 0 rfl) ?_
        refine lv_iload_n (pc := 43) hx hb dX3_purge_43 rfl (lv_at hl 1 rfl) ?_
        refine lv_iload_n (pc := 44) hx hb dX3_purge_44 rfl (lv_at hl 3 rfl) ?_
        obtain ⟨v4, S4, e4, hf⟩ := bd2o hf
        refine m_callV (pc := 45) (As := [.int l1, .int l3]) (rest := []) (st1 := []) hc (mX3_goes e4) (cwV 2 hts (lw_V q3055 q3057 qs78 q105 q3058) rfl rfl rfl hdX3_goes ⟨Nat.le_of_ble_eq_true rfl, Nat.le_of_ble_eq_true rfl⟩) rfl hl.1 rfl rfl (lv_room (Nat.le_of_ble_eq_true rfl)) dX3_purge_45 hP hD hS (fun H locs hP hD hS => ?_)
        refine lv_iinc (pc := 48) (v := l2 + (nI 1)) (lv' := [(2, .int (l2 + (nI 1))), (0, .ref (am 0)), (1, .int l1), (3, .int l3)]) hx hb dX3_purge_48 hl (k := 2) rfl rfl (by decide) rfl (fun ls hl => ?_)
        refine lv_iinc (pc := 51) (v := l3 + (-1)) (lv' := [(3, .int (l3 + (-1))), (2, .int (l2 + (nI 1))), (0, .ref (am 0)), (1, .int l1)]) hx hb dX3_purge_51 hl (k := 3) rfl rfl (by decide) rfl (fun ls hl => ?_)
        refine lv_goto (pc := 54) (tgt := 27) hx hb dX3_purge_54 (by decide) ?_
        exact ih l1 (l2 + (nI 1)) (l3 + (-1)) S4 _ _ ls hP hD hS (lv_sub hl [2, 3, 1, 0] rfl) hf
def fX3_purge (l1 : Int32) (S : mS) : Option (Int32 × mS) :=
  bd2 (fX3_isQueue l1 S) fun v1 S1 =>
  if v1 = 0 then
    bd2 (fX3_refused (-82) S1) fun v4 S4 =>
    some (v4, S4)
  else
    bd2 (fX3_of l1 (nI 35) S1) fun v3 S3 =>
    fX3_purge_b27 FU l1 (nI 0) (v3 - (nI 1)) S3
theorem wX3_purge_b0 (hc : mC p s m args meth c D cI cJ cX3_purge 4 (some .int)) (l1 : Int32) (S : mS) (H : Heap) (locs : List Loc) (ls : Array Slot) (hP : va_P D mCl (mws am cI cJ S) H) (hD : va_D (mA am) (mws am cI cJ S)) (hS : va_S (mA am) s.heap H locs) (hl : lv_has ls 4 [(0, .ref (am 0)), (1, .int l1)]) (hf : fX3_purge l1 S = some (r, Sf)) : W p l e (mR 2 47) s m args below meth c H locs 0 0 (mQ below D am cI cJ (some (.int r)) Sf args s) (F0 m 0 ls []) := by
  obtain ⟨hx, hb, hr, hlk, hml, hown, hts, hK⟩ := hc
  have hc : mC p s m args meth c D cI cJ cX3_purge 4 (some .int) := ⟨hx, hb, hr, hlk, hml, hown, hts, hK⟩
  unfold fX3_purge at hf
  refine lv_aload_n (pc := 0) hx hb dX3_purge_0 rfl (lv_at hl 0 rfl) ?_
  refine lv_iload_n (pc := 1) hx hb dX3_purge_1 rfl (lv_at hl 1 rfl) ?_
  obtain ⟨v1, S1, e1, hf⟩ := bd2o hf
  refine m_callV (pc := 2) (As := [.int l1]) (rest := []) (st1 := [.int v1]) hc (mX3_isQueue e1) (cwV 1 hts (lw_V q2961 q2963 qs60 q105 q2964) rfl rfl rfl hdX3_isQueue ⟨Nat.le_of_ble_eq_true rfl, Nat.le_of_ble_eq_true rfl⟩) rfl hl.1 rfl rfl (lv_room (Nat.le_of_ble_eq_true rfl)) dX3_purge_2 hP hD hS (fun H locs hP hD hS => ?_)
  refine lv_if_ne (pc := 5) (tgt := 15) hx hb dX3_purge_5 (by decide) (fun c2 => ?_) (fun c2 => ?_)
  · rw [if_neg c2] at hf
    refine lv_iconst (pc := 15) (v := nI 0) hx hb dX3_purge_15 rfl ?_
    refine lv_istore_n (pc := 16) (lv' := [(2, .int (nI 0)), (0, .ref (am 0)), (1, .int l1)]) hx hb dX3_purge_16 rfl hl (by decide) rfl (fun ls hl => ?_)
    refine lv_aload_n (pc := 17) hx hb dX3_purge_17 rfl (lv_at hl 1 rfl) ?_
    refine lv_iload_n (pc := 18) hx hb dX3_purge_18 rfl (lv_at hl 2 rfl) ?_
    refine lv_bipush (pc := 19) (v := nI 35) hx hb dX3_purge_19 kcb35 ?_
    obtain ⟨v3, S3, e3, hf⟩ := bd2o hf
    refine m_callV (pc := 21) (As := [.int l1, .int (nI 35)]) (rest := []) (st1 := [.int v3]) hc (mX3_of e3) (cwV 2 hts (lw_V q2949 q2951 qs58 q105 q2952) rfl rfl rfl hdX3_of ⟨Nat.le_of_ble_eq_true rfl, Nat.le_of_ble_eq_true rfl⟩) rfl hl.1 rfl rfl (lv_room (Nat.le_of_ble_eq_true rfl)) dX3_purge_21 hP hD hS (fun H locs hP hD hS => ?_)
    refine lv_iconst (pc := 24) (v := nI 1) hx hb dX3_purge_24 rfl ?_
    refine lv_isub (pc := 25) hx hb dX3_purge_25 ?_
    refine lv_istore_n (pc := 26) (lv' := [(3, .int (v3 - (nI 1))), (2, .int (nI 0)), (0, .ref (am 0)), (1, .int l1)]) hx hb dX3_purge_26 rfl hl (by decide) rfl (fun ls hl => ?_)
    exact wX3_purge_b27 hc FU l1 (nI 0) (v3 - (nI 1)) S3 _ _ ls hP hD hS (lv_sub hl [2, 3, 1, 0] rfl) hf
  · rw [if_pos c2] at hf
    refine lv_aload_n (pc := 8) hx hb dX3_purge_8 rfl (lv_at hl 0 rfl) ?_
    refine lv_bipush (pc := 9) (v := -82) hx hb dX3_purge_9 kcbm82 ?_
    obtain ⟨v4, S4, e4, hf⟩ := bd2o hf
    refine m_callV (pc := 11) (As := [.int (-82)]) (rest := []) (st1 := [.int v4]) hc (mX3_refused e4) (cwV 1 hts (lw_V q2899 q2901 qs51 q105 q2902) rfl rfl rfl hdX3_refused ⟨Nat.le_of_ble_eq_true rfl, Nat.le_of_ble_eq_true rfl⟩) rfl hl.1 rfl rfl (lv_room (Nat.le_of_ble_eq_true rfl)) dX3_purge_11 hP hD hS (fun H locs hP hD hS => ?_)
    exact m_iret (pc := 14) hx hb hr hlk hP hD hS hf dX3_purge_14
theorem mX3_purge {S S2 : mS} {r2 : Int32} {l1 : Int32} (hf : fX3_purge l1 S = some (r2, S2)) : mMet l yX3_purge cX3_purge 4 (some .int) 2 47 D am cI cJ [.ref (am 0), .int l1] S (some (.int r2)) S2 := by
  exact m_start (by decide) rfl (Nat.le_of_ble_eq_true rfl) (fun p e s m args below meth c ls hc hl hP hD => wX3_purge_b0 hc l1 S _ _ ls hP hD va_S.rf (lv_sub hl [0, 1] rfl) hf)
end
section
variable {r : Int32} {Sf : mS}
def fX3_lettersOf_b5 : Nat → Int32 → Int32 → Int32 → Int32 → mS → Option (Int32 × mS)
  | 0, _, _, _, _, _ => none
  | n + 1, l1, l2, l3, l4, S =>
    bd2 (fX3_of l1 (nI 35) S) fun v1 S1 =>
    if v1 ≤ l4 then
      some (l3, S1)
    else
      bd2 (fX3_letterOf l1 l4 (nI 1) S1) fun v3 S3 =>
      if v3 = l2 then
        fX3_lettersOf_b5 n l1 l2 (l3 + (nI 1)) (l4 + (nI 1)) S3
      else
        fX3_lettersOf_b5 n l1 l2 (l3 + (nI 0)) (l4 + (nI 1)) S3
theorem wX3_lettersOf_b5 (hc : mC p s m args meth c D cI cJ cX3_lettersOf 5 (some .int)) : ∀ (n : Nat) (l1 : Int32) (l2 : Int32) (l3 : Int32) (l4 : Int32) (S : mS) (H : Heap) (locs : List Loc) (ls : Array Slot), va_P D mCl (mws am cI cJ S) H → va_D (mA am) (mws am cI cJ S) → va_S (mA am) s.heap H locs → lv_has ls 5 [(0, .ref (am 0)), (1, .int l1), (2, .int l2), (3, .int l3), (4, .int l4)] → fX3_lettersOf_b5 n l1 l2 l3 l4 S = some (r, Sf) → W p l e (mR 2 45) s m args below meth c H locs 0 0 (mQ below D am cI cJ (some (.int r)) Sf args s) (F0 m 5 ls []) := by
  obtain ⟨hx, hb, hr, hlk, hml, hown, hts, hK⟩ := hc
  have hc : mC p s m args meth c D cI cJ cX3_lettersOf 5 (some .int) := ⟨hx, hb, hr, hlk, hml, hown, hts, hK⟩
  intro n
  induction n with
  | zero => intro l1 l2 l3 l4 S H locs ls _ _ _ _ hf; exact absurd hf (fun h => by cases h)
  | succ n ih =>
    intro l1 l2 l3 l4 S H locs ls hP hD hS hl hf
    rw [fX3_lettersOf_b5] at hf
    refine lv_iload (pc := 5) hx hb dX3_lettersOf_5 (lv_at hl 4 rfl) ?_
    refine lv_aload_n (pc := 7) hx hb dX3_lettersOf_7 rfl (lv_at hl 0 rfl) ?_
    refine lv_iload_n (pc := 8) hx hb dX3_lettersOf_8 rfl (lv_at hl 1 rfl) ?_
    refine lv_bipush (pc := 9) (v := nI 35) hx hb dX3_lettersOf_9 kcb35 ?_
    obtain ⟨v1, S1, e1, hf⟩ := bd2o hf
    refine m_callV (pc := 11) (As := [.int l1, .int (nI 35)]) (rest := [.int l4]) (st1 := [.int v1, .int l4]) hc (mX3_of e1) (cwV 2 hts (lw_V q2949 q2951 qs58 q105 q2952) rfl rfl rfl hdX3_of ⟨Nat.le_of_ble_eq_true rfl, Nat.le_of_ble_eq_true rfl⟩) rfl hl.1 rfl rfl (lv_room (Nat.le_of_ble_eq_true rfl)) dX3_lettersOf_11 hP hD hS (fun H locs hP hD hS => ?_)
    refine lv_icmp_ge (pc := 14) (tgt := 43) hx hb dX3_lettersOf_14 (by decide) (fun c2 => ?_) (fun c2 => ?_)
    · rw [if_pos c2] at hf
      refine lv_iload_n (pc := 43) hx hb dX3_lettersOf_43 rfl (lv_at hl 3 rfl) ?_
      exact m_iret (pc := 44) hx hb hr hlk hP hD hS hf dX3_lettersOf_44
    · rw [if_neg c2] at hf
      refine lv_iload_n (pc := 17) hx hb dX3_lettersOf_17 rfl (lv_at hl 3 rfl) ?_
      refine lv_aload_n (pc := 18) hx hb dX3_lettersOf_18 rfl (lv_at hl 0 rfl) ?_
      refine lv_iload_n (pc := 19) hx hb dX3_lettersOf_19 rfl (lv_at hl 1 rfl) ?_
      refine lv_iload (pc := 20) hx hb dX3_lettersOf_20 (lv_at hl 4 rfl) ?_
      refine lv_iconst (pc := 22) (v := nI 1) hx hb dX3_lettersOf_22 rfl ?_
      obtain ⟨v3, S3, e3, hf⟩ := bd2o hf
      refine m_callV (pc := 23) (As := [.int l1, .int l4, .int (nI 1)]) (rest := [.int l3]) (st1 := [.int v3, .int l3]) hc (mX3_letterOf e3) (cwV 3 hts (lw_V q2991 q2993 qs65 q105 q2994) rfl rfl rfl hdX3_letterOf ⟨Nat.le_of_ble_eq_true rfl, Nat.le_of_ble_eq_true rfl⟩) rfl hl.1 rfl rfl (lv_room (Nat.le_of_ble_eq_true rfl)) dX3_lettersOf_23 hP hD hS (fun H locs hP hD hS => ?_)
      refine lv_iload_n (pc := 26) hx hb dX3_lettersOf_26 rfl (lv_at hl 2 rfl) ?_
      refine lv_icmp_ne (pc := 27) (tgt := 34) hx hb dX3_lettersOf_27 (by decide) (fun c4 => ?_) (fun c4 => ?_)
      · rw [if_neg c4] at hf
        refine lv_iconst (pc := 34) (v := nI 0) hx hb dX3_lettersOf_34 rfl ?_
        refine lv_iadd (pc := 35) hx hb dX3_lettersOf_35 ?_
        refine lv_istore_n (pc := 36) (lv' := [(3, .int (l3 + (nI 0))), (0, .ref (am 0)), (1, .int l1), (2, .int l2), (4, .int l4)]) hx hb dX3_lettersOf_36 rfl hl (by decide) rfl (fun ls hl => ?_)
        refine lv_iinc (pc := 37) (v := l4 + (nI 1)) (lv' := [(4, .int (l4 + (nI 1))), (3, .int (l3 + (nI 0))), (0, .ref (am 0)), (1, .int l1), (2, .int l2)]) hx hb dX3_lettersOf_37 hl (k := 4) rfl rfl (by decide) rfl (fun ls hl => ?_)
        refine lv_goto (pc := 40) (tgt := 5) hx hb dX3_lettersOf_40 (by decide) ?_
        exact ih l1 l2 (l3 + (nI 0)) (l4 + (nI 1)) S3 _ _ ls hP hD hS (lv_sub hl [2, 3, 4, 1, 0] rfl) hf
      · rw [if_pos c4] at hf
        refine lv_iconst (pc := 30) (v := nI 1) hx hb dX3_lettersOf_30 rfl ?_
        refine lv_goto (pc := 31) (tgt := 35) hx hb dX3_lettersOf_31 (by decide) ?_
        refine lv_iadd (pc := 35) hx hb dX3_lettersOf_35 ?_
        refine lv_istore_n (pc := 36) (lv' := [(3, .int (l3 + (nI 1))), (0, .ref (am 0)), (1, .int l1), (2, .int l2), (4, .int l4)]) hx hb dX3_lettersOf_36 rfl hl (by decide) rfl (fun ls hl => ?_)
        refine lv_iinc (pc := 37) (v := l4 + (nI 1)) (lv' := [(4, .int (l4 + (nI 1))), (3, .int (l3 + (nI 1))), (0, .ref (am 0)), (1, .int l1), (2, .int l2)]) hx hb dX3_lettersOf_37 hl (k := 4) rfl rfl (by decide) rfl (fun ls hl => ?_)
        refine lv_goto (pc := 40) (tgt := 5) hx hb dX3_lettersOf_40 (by decide) ?_
        exact ih l1 l2 (l3 + (nI 1)) (l4 + (nI 1)) S3 _ _ ls hP hD hS (lv_sub hl [2, 3, 4, 1, 0] rfl) hf
def fX3_lettersOf (l1 : Int32) (l2 : Int32) (S : mS) : Option (Int32 × mS) :=
  fX3_lettersOf_b5 FU l1 l2 (nI 0) (nI 0) S
theorem wX3_lettersOf_b0 (hc : mC p s m args meth c D cI cJ cX3_lettersOf 5 (some .int)) (l1 : Int32) (l2 : Int32) (S : mS) (H : Heap) (locs : List Loc) (ls : Array Slot) (hP : va_P D mCl (mws am cI cJ S) H) (hD : va_D (mA am) (mws am cI cJ S)) (hS : va_S (mA am) s.heap H locs) (hl : lv_has ls 5 [(0, .ref (am 0)), (1, .int l1), (2, .int l2)]) (hf : fX3_lettersOf l1 l2 S = some (r, Sf)) : W p l e (mR 2 45) s m args below meth c H locs 0 0 (mQ below D am cI cJ (some (.int r)) Sf args s) (F0 m 0 ls []) := by
  obtain ⟨hx, hb, hr, hlk, hml, hown, hts, hK⟩ := hc
  have hc : mC p s m args meth c D cI cJ cX3_lettersOf 5 (some .int) := ⟨hx, hb, hr, hlk, hml, hown, hts, hK⟩
  unfold fX3_lettersOf at hf
  refine lv_iconst (pc := 0) (v := nI 0) hx hb dX3_lettersOf_0 rfl ?_
  refine lv_istore_n (pc := 1) (lv' := [(3, .int (nI 0)), (0, .ref (am 0)), (1, .int l1), (2, .int l2)]) hx hb dX3_lettersOf_1 rfl hl (by decide) rfl (fun ls hl => ?_)
  refine lv_iconst (pc := 2) (v := nI 0) hx hb dX3_lettersOf_2 rfl ?_
  refine lv_istore (pc := 3) (lv' := [(4, .int (nI 0)), (3, .int (nI 0)), (0, .ref (am 0)), (1, .int l1), (2, .int l2)]) hx hb dX3_lettersOf_3 hl (by decide) rfl (fun ls hl => ?_)
  exact wX3_lettersOf_b5 hc FU l1 l2 (nI 0) (nI 0) S _ _ ls hP hD hS (lv_sub hl [2, 3, 4, 1, 0] rfl) hf
theorem mX3_lettersOf {S S2 : mS} {r2 : Int32} {l1 : Int32} {l2 : Int32} (hf : fX3_lettersOf l1 l2 S = some (r2, S2)) : mMet l yX3_lettersOf cX3_lettersOf 5 (some .int) 2 45 D am cI cJ [.ref (am 0), .int l1, .int l2] S (some (.int r2)) S2 := by
  exact m_start (by decide) rfl (Nat.le_of_ble_eq_true rfl) (fun p e s m args below meth c ls hc hl hP hD => wX3_lettersOf_b0 hc l1 l2 S _ _ ls hP hD va_S.rf (lv_sub hl [0, 1, 2] rfl) hf)
end
section
variable {r : Int32} {Sf : mS}
def fX3_mayMany_b4 : Nat → Int32 → Int32 → Int32 → mS → Option (Int32 × mS)
  | 0, _, _, _, _ => none
  | n + 1, l1, l2, l3, S =>
    bd2 (fX3_of l1 (nI 35) S) fun v1 S1 =>
    if v1 ≤ l3 then
      some (l2, S1)
    else
      bd2 (fX3_may l1 l3 S1) fun v3 S3 =>
      if v3 = 0 then
        fX3_mayMany_b4 n l1 (l2 + (nI 0)) (l3 + (nI 1)) S3
      else
        fX3_mayMany_b4 n l1 (l2 + (nI 1)) (l3 + (nI 1)) S3
theorem wX3_mayMany_b4 (hc : mC p s m args meth c D cI cJ cX3_mayMany 4 (some .int)) : ∀ (n : Nat) (l1 : Int32) (l2 : Int32) (l3 : Int32) (S : mS) (H : Heap) (locs : List Loc) (ls : Array Slot), va_P D mCl (mws am cI cJ S) H → va_D (mA am) (mws am cI cJ S) → va_S (mA am) s.heap H locs → lv_has ls 4 [(0, .ref (am 0)), (1, .int l1), (2, .int l2), (3, .int l3)] → fX3_mayMany_b4 n l1 l2 l3 S = some (r, Sf) → W p l e (mR 4 90) s m args below meth c H locs 0 0 (mQ below D am cI cJ (some (.int r)) Sf args s) (F0 m 4 ls []) := by
  obtain ⟨hx, hb, hr, hlk, hml, hown, hts, hK⟩ := hc
  have hc : mC p s m args meth c D cI cJ cX3_mayMany 4 (some .int) := ⟨hx, hb, hr, hlk, hml, hown, hts, hK⟩
  intro n
  induction n with
  | zero => intro l1 l2 l3 S H locs ls _ _ _ _ hf; exact absurd hf (fun h => by cases h)
  | succ n ih =>
    intro l1 l2 l3 S H locs ls hP hD hS hl hf
    rw [fX3_mayMany_b4] at hf
    refine lv_iload_n (pc := 4) hx hb dX3_mayMany_4 rfl (lv_at hl 3 rfl) ?_
    refine lv_aload_n (pc := 5) hx hb dX3_mayMany_5 rfl (lv_at hl 0 rfl) ?_
    refine lv_iload_n (pc := 6) hx hb dX3_mayMany_6 rfl (lv_at hl 1 rfl) ?_
    refine lv_bipush (pc := 7) (v := nI 35) hx hb dX3_mayMany_7 kcb35 ?_
    obtain ⟨v1, S1, e1, hf⟩ := bd2o hf
    refine m_callV (pc := 9) (As := [.int l1, .int (nI 35)]) (rest := [.int l3]) (st1 := [.int v1, .int l3]) hc (mX3_of e1) (cwV 2 hts (lw_V q2949 q2951 qs58 q105 q2952) rfl rfl rfl hdX3_of ⟨Nat.le_of_ble_eq_true rfl, Nat.le_of_ble_eq_true rfl⟩) rfl hl.1 rfl rfl (lv_room (Nat.le_of_ble_eq_true rfl)) dX3_mayMany_9 hP hD hS (fun H locs hP hD hS => ?_)
    refine lv_icmp_ge (pc := 12) (tgt := 38) hx hb dX3_mayMany_12 (by decide) (fun c2 => ?_) (fun c2 => ?_)
    · rw [if_pos c2] at hf
      refine lv_iload_n (pc := 38) hx hb dX3_mayMany_38 rfl (lv_at hl 2 rfl) ?_
      exact m_iret (pc := 39) hx hb hr hlk hP hD hS hf dX3_mayMany_39
    · rw [if_neg c2] at hf
      refine lv_iload_n (pc := 15) hx hb dX3_mayMany_15 rfl (lv_at hl 2 rfl) ?_
      refine lv_aload_n (pc := 16) hx hb dX3_mayMany_16 rfl (lv_at hl 0 rfl) ?_
      refine lv_iload_n (pc := 17) hx hb dX3_mayMany_17 rfl (lv_at hl 1 rfl) ?_
      refine lv_iload_n (pc := 18) hx hb dX3_mayMany_18 rfl (lv_at hl 3 rfl) ?_
      obtain ⟨v3, S3, e3, hf⟩ := bd2o hf
      refine m_callV (pc := 19) (As := [.int l1, .int l3]) (rest := [.int l2]) (st1 := [.int v3, .int l2]) hc (mX3_may e3) (cwV 2 hts (lw_V q3011 q3013 qs69 q105 q3014) rfl rfl rfl hdX3_may ⟨Nat.le_of_ble_eq_true rfl, Nat.le_of_ble_eq_true rfl⟩) rfl hl.1 rfl rfl (lv_room (Nat.le_of_ble_eq_true rfl)) dX3_mayMany_19 hP hD hS (fun H locs hP hD hS => ?_)
      refine lv_if_eq (pc := 22) (tgt := 29) hx hb dX3_mayMany_22 (by decide) (fun c4 => ?_) (fun c4 => ?_)
      · rw [if_pos c4] at hf
        refine lv_iconst (pc := 29) (v := nI 0) hx hb dX3_mayMany_29 rfl ?_
        refine lv_iadd (pc := 30) hx hb dX3_mayMany_30 ?_
        refine lv_istore_n (pc := 31) (lv' := [(2, .int (l2 + (nI 0))), (0, .ref (am 0)), (1, .int l1), (3, .int l3)]) hx hb dX3_mayMany_31 rfl hl (by decide) rfl (fun ls hl => ?_)
        refine lv_iinc (pc := 32) (v := l3 + (nI 1)) (lv' := [(3, .int (l3 + (nI 1))), (2, .int (l2 + (nI 0))), (0, .ref (am 0)), (1, .int l1)]) hx hb dX3_mayMany_32 hl (k := 3) rfl rfl (by decide) rfl (fun ls hl => ?_)
        refine lv_goto (pc := 35) (tgt := 4) hx hb dX3_mayMany_35 (by decide) ?_
        exact ih l1 (l2 + (nI 0)) (l3 + (nI 1)) S3 _ _ ls hP hD hS (lv_sub hl [2, 3, 1, 0] rfl) hf
      · rw [if_neg c4] at hf
        refine lv_iconst (pc := 25) (v := nI 1) hx hb dX3_mayMany_25 rfl ?_
        refine lv_goto (pc := 26) (tgt := 30) hx hb dX3_mayMany_26 (by decide) ?_
        refine lv_iadd (pc := 30) hx hb dX3_mayMany_30 ?_
        refine lv_istore_n (pc := 31) (lv' := [(2, .int (l2 + (nI 1))), (0, .ref (am 0)), (1, .int l1), (3, .int l3)]) hx hb dX3_mayMany_31 rfl hl (by decide) rfl (fun ls hl => ?_)
        refine lv_iinc (pc := 32) (v := l3 + (nI 1)) (lv' := [(3, .int (l3 + (nI 1))), (2, .int (l2 + (nI 1))), (0, .ref (am 0)), (1, .int l1)]) hx hb dX3_mayMany_32 hl (k := 3) rfl rfl (by decide) rfl (fun ls hl => ?_)
        refine lv_goto (pc := 35) (tgt := 4) hx hb dX3_mayMany_35 (by decide) ?_
        exact ih l1 (l2 + (nI 1)) (l3 + (nI 1)) S3 _ _ ls hP hD hS (lv_sub hl [2, 3, 1, 0] rfl) hf
def fX3_mayMany (l1 : Int32) (S : mS) : Option (Int32 × mS) :=
  fX3_mayMany_b4 FU l1 (nI 0) (nI 0) S
theorem wX3_mayMany_b0 (hc : mC p s m args meth c D cI cJ cX3_mayMany 4 (some .int)) (l1 : Int32) (S : mS) (H : Heap) (locs : List Loc) (ls : Array Slot) (hP : va_P D mCl (mws am cI cJ S) H) (hD : va_D (mA am) (mws am cI cJ S)) (hS : va_S (mA am) s.heap H locs) (hl : lv_has ls 4 [(0, .ref (am 0)), (1, .int l1)]) (hf : fX3_mayMany l1 S = some (r, Sf)) : W p l e (mR 4 90) s m args below meth c H locs 0 0 (mQ below D am cI cJ (some (.int r)) Sf args s) (F0 m 0 ls []) := by
  obtain ⟨hx, hb, hr, hlk, hml, hown, hts, hK⟩ := hc
  have hc : mC p s m args meth c D cI cJ cX3_mayMany 4 (some .int) := ⟨hx, hb, hr, hlk, hml, hown, hts, hK⟩
  unfold fX3_mayMany at hf
  refine lv_iconst (pc := 0) (v := nI 0) hx hb dX3_mayMany_0 rfl ?_
  refine lv_istore_n (pc := 1) (lv' := [(2, .int (nI 0)), (0, .ref (am 0)), (1, .int l1)]) hx hb dX3_mayMany_1 rfl hl (by decide) rfl (fun ls hl => ?_)
  refine lv_iconst (pc := 2) (v := nI 0) hx hb dX3_mayMany_2 rfl ?_
  refine lv_istore_n (pc := 3) (lv' := [(3, .int (nI 0)), (2, .int (nI 0)), (0, .ref (am 0)), (1, .int l1)]) hx hb dX3_mayMany_3 rfl hl (by decide) rfl (fun ls hl => ?_)
  exact wX3_mayMany_b4 hc FU l1 (nI 0) (nI 0) S _ _ ls hP hD hS (lv_sub hl [2, 3, 1, 0] rfl) hf
theorem mX3_mayMany {S S2 : mS} {r2 : Int32} {l1 : Int32} (hf : fX3_mayMany l1 S = some (r2, S2)) : mMet l yX3_mayMany cX3_mayMany 4 (some .int) 4 90 D am cI cJ [.ref (am 0), .int l1] S (some (.int r2)) S2 := by
  exact m_start (by decide) rfl (Nat.le_of_ble_eq_true rfl) (fun p e s m args below meth c ls hc hl hP hD => wX3_mayMany_b0 hc l1 S _ _ ls hP hD va_S.rf (lv_sub hl [0, 1] rfl) hf)
end
section
variable {r : Int32} {Sf : mS}
def fX3_consumersOf_b5 : Nat → Int32 → Int32 → Int32 → Int32 → mS → Option (Int32 × mS)
  | 0, _, _, _, _, _ => none
  | n + 1, l1, l2, l3, l4, S =>
    bd (mrd S 0 7919 (nI 1)) fun v1 =>
    if v1 ≤ l4 then
      some (l3, S)
    else
      bd2 (fX3_isHere l4 S) fun v3 S3 =>
      if v3 = 0 then
        fX3_consumersOf_b5 n l1 l2 l3 (l4 + (nI 1)) S3
      else
        bd2 (fX3_ofConsumer l4 (nI 0) S3) fun v5 S5 =>
        if v5 = l1 then
          if l2 = 0 then
            fX3_consumersOf_b5 n l1 l2 (l3 + (nI 1)) (l4 + (nI 1)) S5
          else
            bd2 (fX3_ofConsumer l4 (nI 1) S5) fun v8 S8 =>
            fX3_consumersOf_b5 n l1 l2 (l3 + v8) (l4 + (nI 1)) S8
        else
          fX3_consumersOf_b5 n l1 l2 l3 (l4 + (nI 1)) S5
theorem wX3_consumersOf_b5 (hc : mC p s m args meth c D cI cJ cX3_consumersOf 5 (some .int)) : ∀ (n : Nat) (l1 : Int32) (l2 : Int32) (l3 : Int32) (l4 : Int32) (S : mS) (H : Heap) (locs : List Loc) (ls : Array Slot), va_P D mCl (mws am cI cJ S) H → va_D (mA am) (mws am cI cJ S) → va_S (mA am) s.heap H locs → lv_has ls 5 [(0, .ref (am 0)), (1, .int l1), (2, .int l2), (3, .int l3), (4, .int l4)] → fX3_consumersOf_b5 n l1 l2 l3 l4 S = some (r, Sf) → W p l e (mR 3 67) s m args below meth c H locs 0 0 (mQ below D am cI cJ (some (.int r)) Sf args s) (F0 m 5 ls []) := by
  obtain ⟨hx, hb, hr, hlk, hml, hown, hts, hK⟩ := hc
  have hc : mC p s m args meth c D cI cJ cX3_consumersOf 5 (some .int) := ⟨hx, hb, hr, hlk, hml, hown, hts, hK⟩
  intro n
  induction n with
  | zero => intro l1 l2 l3 l4 S H locs ls _ _ _ _ hf; exact absurd hf (fun h => by cases h)
  | succ n ih =>
    intro l1 l2 l3 l4 S H locs ls hP hD hS hl hf
    rw [fX3_consumersOf_b5] at hf
    refine lv_iload (pc := 5) hx hb dX3_consumersOf_5 (lv_at hl 4 rfl) ?_
    refine lv_aload_n (pc := 7) hx hb dX3_consumersOf_7 rfl (lv_at hl 0 rfl) ?_
    refine va_get (D := D) (ci := 0) (v := .ref (am 1)) (C := RX3) (T := TX3) (N := 17) (pc := 8) hx hb hts in_X3 hown hK hP 0 rfl rfl 0 (by decide) (hts _ q2839) (fun _ h9 => h9) rfl dX3_consumersOf_8 ?_
    refine lv_iconst (pc := 11) (v := nI 1) hx hb dX3_consumersOf_11 rfl ?_
    obtain ⟨v1, e1, hf⟩ := bdo hf
    refine m_iald (pc := 12) (k := 0) hx hb hK hP rfl e1 dX3_consumersOf_12 ?_
    refine lv_icmp_ge (pc := 13) (tgt := 60) hx hb dX3_consumersOf_13 (by decide) (fun c2 => ?_) (fun c2 => ?_)
    · rw [if_pos c2] at hf
      refine lv_iload_n (pc := 60) hx hb dX3_consumersOf_60 rfl (lv_at hl 3 rfl) ?_
      exact m_iret (pc := 61) hx hb hr hlk hP hD hS hf dX3_consumersOf_61
    · rw [if_neg c2] at hf
      refine lv_aload_n (pc := 16) hx hb dX3_consumersOf_16 rfl (lv_at hl 0 rfl) ?_
      refine lv_iload (pc := 17) hx hb dX3_consumersOf_17 (lv_at hl 4 rfl) ?_
      obtain ⟨v3, S3, e3, hf⟩ := bd2o hf
      refine m_callV (pc := 19) (As := [.int l4]) (rest := []) (st1 := [.int v3]) hc (mX3_isHere e3) (cwV 1 hts (lw_V q3027 q3029 qs73 q105 q3030) rfl rfl rfl hdX3_isHere ⟨Nat.le_of_ble_eq_true rfl, Nat.le_of_ble_eq_true rfl⟩) rfl hl.1 rfl rfl (lv_room (Nat.le_of_ble_eq_true rfl)) dX3_consumersOf_19 hP hD hS (fun H locs hP hD hS => ?_)
      refine lv_if_eq (pc := 22) (tgt := 54) hx hb dX3_consumersOf_22 (by decide) (fun c4 => ?_) (fun c4 => ?_)
      · rw [if_pos c4] at hf
        refine lv_iinc (pc := 54) (v := l4 + (nI 1)) (lv' := [(4, .int (l4 + (nI 1))), (0, .ref (am 0)), (1, .int l1), (2, .int l2), (3, .int l3)]) hx hb dX3_consumersOf_54 hl (k := 4) rfl rfl (by decide) rfl (fun ls hl => ?_)
        refine lv_goto (pc := 57) (tgt := 5) hx hb dX3_consumersOf_57 (by decide) ?_
        exact ih l1 l2 l3 (l4 + (nI 1)) S3 _ _ ls hP hD hS (lv_sub hl [1, 2, 3, 4, 0] rfl) hf
      · rw [if_neg c4] at hf
        refine lv_aload_n (pc := 25) hx hb dX3_consumersOf_25 rfl (lv_at hl 0 rfl) ?_
        refine lv_iload (pc := 26) hx hb dX3_consumersOf_26 (lv_at hl 4 rfl) ?_
        refine lv_iconst (pc := 28) (v := nI 0) hx hb dX3_consumersOf_28 rfl ?_
        obtain ⟨v5, S5, e5, hf⟩ := bd2o hf
        refine m_callV (pc := 29) (As := [.int l4, .int (nI 0)]) (rest := []) (st1 := [.int v5]) hc (mX3_ofConsumer e5) (cwV 2 hts (lw_V q3035 q3037 qs75 q105 q3038) rfl rfl rfl hdX3_ofConsumer ⟨Nat.le_of_ble_eq_true rfl, Nat.le_of_ble_eq_true rfl⟩) rfl hl.1 rfl rfl (lv_room (Nat.le_of_ble_eq_true rfl)) dX3_consumersOf_29 hP hD hS (fun H locs hP hD hS => ?_)
        refine lv_iload_n (pc := 32) hx hb dX3_consumersOf_32 rfl (lv_at hl 1 rfl) ?_
        refine lv_icmp_ne (pc := 33) (tgt := 54) hx hb dX3_consumersOf_33 (by decide) (fun c6 => ?_) (fun c6 => ?_)
        · rw [if_neg c6] at hf
          refine lv_iinc (pc := 54) (v := l4 + (nI 1)) (lv' := [(4, .int (l4 + (nI 1))), (0, .ref (am 0)), (1, .int l1), (2, .int l2), (3, .int l3)]) hx hb dX3_consumersOf_54 hl (k := 4) rfl rfl (by decide) rfl (fun ls hl => ?_)
          refine lv_goto (pc := 57) (tgt := 5) hx hb dX3_consumersOf_57 (by decide) ?_
          exact ih l1 l2 l3 (l4 + (nI 1)) S5 _ _ ls hP hD hS (lv_sub hl [1, 2, 3, 4, 0] rfl) hf
        · rw [if_pos c6] at hf
          refine lv_iload_n (pc := 36) hx hb dX3_consumersOf_36 rfl (lv_at hl 3 rfl) ?_
          refine lv_iload_n (pc := 37) hx hb dX3_consumersOf_37 rfl (lv_at hl 2 rfl) ?_
          refine lv_if_eq (pc := 38) (tgt := 51) hx hb dX3_consumersOf_38 (by decide) (fun c7 => ?_) (fun c7 => ?_)
          · rw [if_pos c7] at hf
            refine lv_iconst (pc := 51) (v := nI 1) hx hb dX3_consumersOf_51 rfl ?_
            refine lv_iadd (pc := 52) hx hb dX3_consumersOf_52 ?_
            refine lv_istore_n (pc := 53) (lv' := [(3, .int (l3 + (nI 1))), (0, .ref (am 0)), (1, .int l1), (2, .int l2), (4, .int l4)]) hx hb dX3_consumersOf_53 rfl hl (by decide) rfl (fun ls hl => ?_)
            refine lv_iinc (pc := 54) (v := l4 + (nI 1)) (lv' := [(4, .int (l4 + (nI 1))), (3, .int (l3 + (nI 1))), (0, .ref (am 0)), (1, .int l1), (2, .int l2)]) hx hb dX3_consumersOf_54 hl (k := 4) rfl rfl (by decide) rfl (fun ls hl => ?_)
            refine lv_goto (pc := 57) (tgt := 5) hx hb dX3_consumersOf_57 (by decide) ?_
            exact ih l1 l2 (l3 + (nI 1)) (l4 + (nI 1)) S5 _ _ ls hP hD hS (lv_sub hl [2, 3, 4, 1, 0] rfl) hf
          · rw [if_neg c7] at hf
            refine lv_aload_n (pc := 41) hx hb dX3_consumersOf_41 rfl (lv_at hl 0 rfl) ?_
            refine lv_iload (pc := 42) hx hb dX3_consumersOf_42 (lv_at hl 4 rfl) ?_
            refine lv_iconst (pc := 44) (v := nI 1) hx hb dX3_consumersOf_44 rfl ?_
            obtain ⟨v8, S8, e8, hf⟩ := bd2o hf
            refine m_callV (pc := 45) (As := [.int l4, .int (nI 1)]) (rest := [.int l3]) (st1 := [.int v8, .int l3]) hc (mX3_ofConsumer e8) (cwV 2 hts (lw_V q3035 q3037 qs75 q105 q3038) rfl rfl rfl hdX3_ofConsumer ⟨Nat.le_of_ble_eq_true rfl, Nat.le_of_ble_eq_true rfl⟩) rfl hl.1 rfl rfl (lv_room (Nat.le_of_ble_eq_true rfl)) dX3_consumersOf_45 hP hD hS (fun H locs hP hD hS => ?_)
            refine lv_goto (pc := 48) (tgt := 52) hx hb dX3_consumersOf_48 (by decide) ?_
            refine lv_iadd (pc := 52) hx hb dX3_consumersOf_52 ?_
            refine lv_istore_n (pc := 53) (lv' := [(3, .int (l3 + v8)), (0, .ref (am 0)), (1, .int l1), (2, .int l2), (4, .int l4)]) hx hb dX3_consumersOf_53 rfl hl (by decide) rfl (fun ls hl => ?_)
            refine lv_iinc (pc := 54) (v := l4 + (nI 1)) (lv' := [(4, .int (l4 + (nI 1))), (3, .int (l3 + v8)), (0, .ref (am 0)), (1, .int l1), (2, .int l2)]) hx hb dX3_consumersOf_54 hl (k := 4) rfl rfl (by decide) rfl (fun ls hl => ?_)
            refine lv_goto (pc := 57) (tgt := 5) hx hb dX3_consumersOf_57 (by decide) ?_
            exact ih l1 l2 (l3 + v8) (l4 + (nI 1)) S8 _ _ ls hP hD hS (lv_sub hl [2, 3, 4, 1, 0] rfl) hf
def fX3_consumersOf (l1 : Int32) (l2 : Int32) (S : mS) : Option (Int32 × mS) :=
  fX3_consumersOf_b5 FU l1 l2 (nI 0) (nI 0) S
theorem wX3_consumersOf_b0 (hc : mC p s m args meth c D cI cJ cX3_consumersOf 5 (some .int)) (l1 : Int32) (l2 : Int32) (S : mS) (H : Heap) (locs : List Loc) (ls : Array Slot) (hP : va_P D mCl (mws am cI cJ S) H) (hD : va_D (mA am) (mws am cI cJ S)) (hS : va_S (mA am) s.heap H locs) (hl : lv_has ls 5 [(0, .ref (am 0)), (1, .int l1), (2, .int l2)]) (hf : fX3_consumersOf l1 l2 S = some (r, Sf)) : W p l e (mR 3 67) s m args below meth c H locs 0 0 (mQ below D am cI cJ (some (.int r)) Sf args s) (F0 m 0 ls []) := by
  obtain ⟨hx, hb, hr, hlk, hml, hown, hts, hK⟩ := hc
  have hc : mC p s m args meth c D cI cJ cX3_consumersOf 5 (some .int) := ⟨hx, hb, hr, hlk, hml, hown, hts, hK⟩
  unfold fX3_consumersOf at hf
  refine lv_iconst (pc := 0) (v := nI 0) hx hb dX3_consumersOf_0 rfl ?_
  refine lv_istore_n (pc := 1) (lv' := [(3, .int (nI 0)), (0, .ref (am 0)), (1, .int l1), (2, .int l2)]) hx hb dX3_consumersOf_1 rfl hl (by decide) rfl (fun ls hl => ?_)
  refine lv_iconst (pc := 2) (v := nI 0) hx hb dX3_consumersOf_2 rfl ?_
  refine lv_istore (pc := 3) (lv' := [(4, .int (nI 0)), (3, .int (nI 0)), (0, .ref (am 0)), (1, .int l1), (2, .int l2)]) hx hb dX3_consumersOf_3 hl (by decide) rfl (fun ls hl => ?_)
  exact wX3_consumersOf_b5 hc FU l1 l2 (nI 0) (nI 0) S _ _ ls hP hD hS (lv_sub hl [2, 3, 4, 1, 0] rfl) hf
theorem mX3_consumersOf {S S2 : mS} {r2 : Int32} {l1 : Int32} {l2 : Int32} (hf : fX3_consumersOf l1 l2 S = some (r2, S2)) : mMet l yX3_consumersOf cX3_consumersOf 5 (some .int) 3 67 D am cI cJ [.ref (am 0), .int l1, .int l2] S (some (.int r2)) S2 := by
  exact m_start (by decide) rfl (Nat.le_of_ble_eq_true rfl) (fun p e s m args below meth c ls hc hl hP hD => wX3_consumersOf_b0 hc l1 l2 S _ _ ls hP hD va_S.rf (lv_sub hl [0, 1, 2] rfl) hf)
end
section
variable {r : Int32} {Sf : mS}
def fX3_queueOf_b20 (S : mS) : Option (Int32 × mS) :=
  bd2 (fX3_refused (-82) S) fun v1 S1 =>
  some (v1, S1)
theorem wX3_queueOf_b20 (hc : mC p s m args meth c D cI cJ cX3_queueOf 3 (some .int)) (S : mS) (H : Heap) (locs : List Loc) (ls : Array Slot) (hP : va_P D mCl (mws am cI cJ S) H) (hD : va_D (mA am) (mws am cI cJ S)) (hS : va_S (mA am) s.heap H locs) (hl : lv_has ls 3 [(0, .ref (am 0))]) (hf : fX3_queueOf_b20  S = some (r, Sf)) : W p l e (mR 5 113) s m args below meth c H locs 0 0 (mQ below D am cI cJ (some (.int r)) Sf args s) (F0 m 20 ls []) := by
  obtain ⟨hx, hb, hr, hlk, hml, hown, hts, hK⟩ := hc
  have hc : mC p s m args meth c D cI cJ cX3_queueOf 3 (some .int) := ⟨hx, hb, hr, hlk, hml, hown, hts, hK⟩
  unfold fX3_queueOf_b20 at hf
  refine lv_aload_n (pc := 20) hx hb dX3_queueOf_20 rfl (lv_at hl 0 rfl) ?_
  refine lv_bipush (pc := 21) (v := -82) hx hb dX3_queueOf_21 kcbm82 ?_
  obtain ⟨v1, S1, e1, hf⟩ := bd2o hf
  refine m_callV (pc := 23) (As := [.int (-82)]) (rest := []) (st1 := [.int v1]) hc (mX3_refused e1) (cwV 1 hts (lw_V q2899 q2901 qs51 q105 q2902) rfl rfl rfl hdX3_refused ⟨Nat.le_of_ble_eq_true rfl, Nat.le_of_ble_eq_true rfl⟩) rfl hl.1 rfl rfl (lv_room (Nat.le_of_ble_eq_true rfl)) dX3_queueOf_23 hP hD hS (fun H locs hP hD hS => ?_)
  exact m_iret (pc := 26) hx hb hr hlk hP hD hS hf dX3_queueOf_26
def fX3_queueOf_b84 (l1 : Int32) (l2 : Int32) (S : mS) : Option (Int32 × mS) :=
  bd2 (fX3_lettersOf l1 (l2 - (nI 1)) S) fun v1 S1 =>
  some (v1, S1)
theorem wX3_queueOf_b84 (hc : mC p s m args meth c D cI cJ cX3_queueOf 3 (some .int)) (l1 : Int32) (l2 : Int32) (S : mS) (H : Heap) (locs : List Loc) (ls : Array Slot) (hP : va_P D mCl (mws am cI cJ S) H) (hD : va_D (mA am) (mws am cI cJ S)) (hS : va_S (mA am) s.heap H locs) (hl : lv_has ls 3 [(0, .ref (am 0)), (1, .int l1), (2, .int l2)]) (hf : fX3_queueOf_b84 l1 l2 S = some (r, Sf)) : W p l e (mR 5 113) s m args below meth c H locs 0 0 (mQ below D am cI cJ (some (.int r)) Sf args s) (F0 m 84 ls []) := by
  obtain ⟨hx, hb, hr, hlk, hml, hown, hts, hK⟩ := hc
  have hc : mC p s m args meth c D cI cJ cX3_queueOf 3 (some .int) := ⟨hx, hb, hr, hlk, hml, hown, hts, hK⟩
  unfold fX3_queueOf_b84 at hf
  refine lv_aload_n (pc := 84) hx hb dX3_queueOf_84 rfl (lv_at hl 0 rfl) ?_
  refine lv_iload_n (pc := 85) hx hb dX3_queueOf_85 rfl (lv_at hl 1 rfl) ?_
  refine lv_iload_n (pc := 86) hx hb dX3_queueOf_86 rfl (lv_at hl 2 rfl) ?_
  refine lv_iconst (pc := 87) (v := nI 1) hx hb dX3_queueOf_87 rfl ?_
  refine lv_isub (pc := 88) hx hb dX3_queueOf_88 ?_
  obtain ⟨v1, S1, e1, hf⟩ := bd2o hf
  refine m_callV (pc := 89) (As := [.int l1, .int (l2 - (nI 1))]) (rest := []) (st1 := [.int v1]) hc (mX3_lettersOf e1) (cwV 2 hts (lw_V q3134 q3136 qs87 q105 q3137) rfl rfl rfl hdX3_lettersOf ⟨Nat.le_of_ble_eq_true rfl, Nat.le_of_ble_eq_true rfl⟩) rfl hl.1 rfl rfl (lv_room (Nat.le_of_ble_eq_true rfl)) dX3_queueOf_89 hP hD hS (fun H locs hP hD hS => ?_)
  exact m_iret (pc := 92) hx hb hr hlk hP hD hS hf dX3_queueOf_92
def fX3_queueOf (l1 : Int32) (l2 : Int32) (S : mS) : Option (Int32 × mS) :=
  bd2 (fX3_isQueue l1 S) fun v1 S1 =>
  if v1 = 0 then
    fX3_queueOf_b20  S1
  else
    bd2 (fX3_in l2.toInt64 (lN 0) (lN 10) S1) fun v3 S3 =>
    if v3 = 0 then
      fX3_queueOf_b20  S3
    else
      if l2 = 0 then
        bd2 (fX3_of l1 (nI 35) S3) fun v6 S6 =>
        some (v6, S6)
      else if l2 = 1 then
        fX3_queueOf_b84 l1 l2 S3
      else if l2 = 2 then
        fX3_queueOf_b84 l1 l2 S3
      else if l2 = 3 then
        fX3_queueOf_b84 l1 l2 S3
      else if l2 = 4 then
        bd2 (fX3_mayMany l1 S3) fun v7 S7 =>
        some (v7, S7)
      else if l2 = 5 then
        bd2 (fX3_consumersOf l1 (nI 0) S3) fun v8 S8 =>
        some (v8, S8)
      else if l2 = 6 then
        bd2 (fX3_consumersOf l1 (nI 1) S3) fun v9 S9 =>
        some (v9, S9)
      else if l2 = 7 then
        bd2 (fX3_of l1 (nI 30) S3) fun v10 S10 =>
        some (v10, S10)
      else
        bd2 (fX3_of l1 (((nI 32) + l2) - (nI 8)) S3) fun v11 S11 =>
        some (v11, S11)
theorem wX3_queueOf_b0 (hc : mC p s m args meth c D cI cJ cX3_queueOf 3 (some .int)) (l1 : Int32) (l2 : Int32) (S : mS) (H : Heap) (locs : List Loc) (ls : Array Slot) (hP : va_P D mCl (mws am cI cJ S) H) (hD : va_D (mA am) (mws am cI cJ S)) (hS : va_S (mA am) s.heap H locs) (hl : lv_has ls 3 [(0, .ref (am 0)), (1, .int l1), (2, .int l2)]) (hf : fX3_queueOf l1 l2 S = some (r, Sf)) : W p l e (mR 5 113) s m args below meth c H locs 0 0 (mQ below D am cI cJ (some (.int r)) Sf args s) (F0 m 0 ls []) := by
  obtain ⟨hx, hb, hr, hlk, hml, hown, hts, hK⟩ := hc
  have hc : mC p s m args meth c D cI cJ cX3_queueOf 3 (some .int) := ⟨hx, hb, hr, hlk, hml, hown, hts, hK⟩
  unfold fX3_queueOf at hf
  refine lv_aload_n (pc := 0) hx hb dX3_queueOf_0 rfl (lv_at hl 0 rfl) ?_
  refine lv_iload_n (pc := 1) hx hb dX3_queueOf_1 rfl (lv_at hl 1 rfl) ?_
  obtain ⟨v1, S1, e1, hf⟩ := bd2o hf
  refine m_callV (pc := 2) (As := [.int l1]) (rest := []) (st1 := [.int v1]) hc (mX3_isQueue e1) (cwV 1 hts (lw_V q2961 q2963 qs60 q105 q2964) rfl rfl rfl hdX3_isQueue ⟨Nat.le_of_ble_eq_true rfl, Nat.le_of_ble_eq_true rfl⟩) rfl hl.1 rfl rfl (lv_room (Nat.le_of_ble_eq_true rfl)) dX3_queueOf_2 hP hD hS (fun H locs hP hD hS => ?_)
  refine lv_if_eq (pc := 5) (tgt := 20) hx hb dX3_queueOf_5 (by decide) (fun c2 => ?_) (fun c2 => ?_)
  · rw [if_pos c2] at hf
    exact wX3_queueOf_b20 hc  S1 _ _ ls hP hD hS (lv_sub hl [0] rfl) hf
  · rw [if_neg c2] at hf
    refine lv_iload_n (pc := 8) hx hb dX3_queueOf_8 rfl (lv_at hl 2 rfl) ?_
    refine lv_i2l (pc := 9) hx hb dX3_queueOf_9 rfl ?_
    refine lv_lconst (pc := 10) (v := lN 0) hx hb dX3_queueOf_10 rfl ?_
    refine lv_ldc2 (pc := 11) (v := lN 10) hx hb hown (hts _ q3133) dX3_queueOf_11 ?_
    obtain ⟨v3, S3, e3, hf⟩ := bd2o hf
    refine m_callS (pc := 14) (As := [.long l2.toInt64, .long (lN 0), .long (lN 10)]) (rest := []) (st1 := [.int v3]) hc (mX3_in e3) (va_cwS 3 hts (lw_S q2896 q2897 q105 q2898) rfl rfl rfl hdX3_in ⟨Nat.le_of_ble_eq_true rfl, Nat.le_of_ble_eq_true rfl⟩) rfl hl.1 rfl rfl (lv_room (Nat.le_of_ble_eq_true rfl)) dX3_queueOf_14 hP hD hS (fun H locs hP hD hS => ?_)
    refine lv_if_ne (pc := 17) (tgt := 27) hx hb dX3_queueOf_17 (by decide) (fun c4 => ?_) (fun c4 => ?_)
    · rw [if_neg c4] at hf
      refine lv_iload_n (pc := 27) hx hb dX3_queueOf_27 rfl (lv_at hl 2 rfl) ?_
      by_cases c5_0 : l2 = 0
      · rw [if_pos c5_0] at hf
        refine lv_tableIn (pc := 28) (off := 48) (tgt := 76) hx hb dX3_queueOf_28 (by rw [c5_0]; decide) (by rw [c5_0]; decide) (by rw [c5_0]; rfl) (by decide) ?_
        refine lv_aload_n (pc := 76) hx hb dX3_queueOf_76 rfl (lv_at hl 0 rfl) ?_
        refine lv_iload_n (pc := 77) hx hb dX3_queueOf_77 rfl (lv_at hl 1 rfl) ?_
        refine lv_bipush (pc := 78) (v := nI 35) hx hb dX3_queueOf_78 kcb35 ?_
        obtain ⟨v6, S6, e6, hf⟩ := bd2o hf
        refine m_callV (pc := 80) (As := [.int l1, .int (nI 35)]) (rest := []) (st1 := [.int v6]) hc (mX3_of e6) (cwV 2 hts (lw_V q2949 q2951 qs58 q105 q2952) rfl rfl rfl hdX3_of ⟨Nat.le_of_ble_eq_true rfl, Nat.le_of_ble_eq_true rfl⟩) rfl hl.1 rfl rfl (lv_room (Nat.le_of_ble_eq_true rfl)) dX3_queueOf_80 hP hD hS (fun H locs hP hD hS => ?_)
        exact m_iret (pc := 83) hx hb hr hlk hP hD hS hf dX3_queueOf_83
      · rw [if_neg c5_0] at hf
        by_cases c5_1 : l2 = 1
        · rw [if_pos c5_1] at hf
          refine lv_tableIn (pc := 28) (off := 56) (tgt := 84) hx hb dX3_queueOf_28 (by rw [c5_1]; decide) (by rw [c5_1]; decide) (by rw [c5_1]; rfl) (by decide) ?_
          exact wX3_queueOf_b84 hc l1 l2 S3 _ _ ls hP hD hS (lv_sub hl [0, 1, 2] rfl) hf
        · rw [if_neg c5_1] at hf
          by_cases c5_2 : l2 = 2
          · rw [if_pos c5_2] at hf
            refine lv_tableIn (pc := 28) (off := 56) (tgt := 84) hx hb dX3_queueOf_28 (by rw [c5_2]; decide) (by rw [c5_2]; decide) (by rw [c5_2]; rfl) (by decide) ?_
            exact wX3_queueOf_b84 hc l1 l2 S3 _ _ ls hP hD hS (lv_sub hl [0, 1, 2] rfl) hf
          · rw [if_neg c5_2] at hf
            by_cases c5_3 : l2 = 3
            · rw [if_pos c5_3] at hf
              refine lv_tableIn (pc := 28) (off := 56) (tgt := 84) hx hb dX3_queueOf_28 (by rw [c5_3]; decide) (by rw [c5_3]; decide) (by rw [c5_3]; rfl) (by decide) ?_
              exact wX3_queueOf_b84 hc l1 l2 S3 _ _ ls hP hD hS (lv_sub hl [0, 1, 2] rfl) hf
            · rw [if_neg c5_3] at hf
              by_cases c5_4 : l2 = 4
              · rw [if_pos c5_4] at hf
                refine lv_tableIn (pc := 28) (off := 65) (tgt := 93) hx hb dX3_queueOf_28 (by rw [c5_4]; decide) (by rw [c5_4]; decide) (by rw [c5_4]; rfl) (by decide) ?_
                refine lv_aload_n (pc := 93) hx hb dX3_queueOf_93 rfl (lv_at hl 0 rfl) ?_
                refine lv_iload_n (pc := 94) hx hb dX3_queueOf_94 rfl (lv_at hl 1 rfl) ?_
                obtain ⟨v7, S7, e7, hf⟩ := bd2o hf
                refine m_callV (pc := 95) (As := [.int l1]) (rest := []) (st1 := [.int v7]) hc (mX3_mayMany e7) (cwV 1 hts (lw_V q3138 q3140 qs88 q105 q3141) rfl rfl rfl hdX3_mayMany ⟨Nat.le_of_ble_eq_true rfl, Nat.le_of_ble_eq_true rfl⟩) rfl hl.1 rfl rfl (lv_room (Nat.le_of_ble_eq_true rfl)) dX3_queueOf_95 hP hD hS (fun H locs hP hD hS => ?_)
                exact m_iret (pc := 98) hx hb hr hlk hP hD hS hf dX3_queueOf_98
              · rw [if_neg c5_4] at hf
                by_cases c5_5 : l2 = 5
                · rw [if_pos c5_5] at hf
                  refine lv_tableIn (pc := 28) (off := 71) (tgt := 99) hx hb dX3_queueOf_28 (by rw [c5_5]; decide) (by rw [c5_5]; decide) (by rw [c5_5]; rfl) (by decide) ?_
                  refine lv_aload_n (pc := 99) hx hb dX3_queueOf_99 rfl (lv_at hl 0 rfl) ?_
                  refine lv_iload_n (pc := 100) hx hb dX3_queueOf_100 rfl (lv_at hl 1 rfl) ?_
                  refine lv_iconst (pc := 101) (v := nI 0) hx hb dX3_queueOf_101 rfl ?_
                  obtain ⟨v8, S8, e8, hf⟩ := bd2o hf
                  refine m_callV (pc := 102) (As := [.int l1, .int (nI 0)]) (rest := []) (st1 := [.int v8]) hc (mX3_consumersOf e8) (cwV 2 hts (lw_V q3142 q3144 qs89 q105 q3145) rfl rfl rfl hdX3_consumersOf ⟨Nat.le_of_ble_eq_true rfl, Nat.le_of_ble_eq_true rfl⟩) rfl hl.1 rfl rfl (lv_room (Nat.le_of_ble_eq_true rfl)) dX3_queueOf_102 hP hD hS (fun H locs hP hD hS => ?_)
                  exact m_iret (pc := 105) hx hb hr hlk hP hD hS hf dX3_queueOf_105
                · rw [if_neg c5_5] at hf
                  by_cases c5_6 : l2 = 6
                  · rw [if_pos c5_6] at hf
                    refine lv_tableIn (pc := 28) (off := 78) (tgt := 106) hx hb dX3_queueOf_28 (by rw [c5_6]; decide) (by rw [c5_6]; decide) (by rw [c5_6]; rfl) (by decide) ?_
                    refine lv_aload_n (pc := 106) hx hb dX3_queueOf_106 rfl (lv_at hl 0 rfl) ?_
                    refine lv_iload_n (pc := 107) hx hb dX3_queueOf_107 rfl (lv_at hl 1 rfl) ?_
                    refine lv_iconst (pc := 108) (v := nI 1) hx hb dX3_queueOf_108 rfl ?_
                    obtain ⟨v9, S9, e9, hf⟩ := bd2o hf
                    refine m_callV (pc := 109) (As := [.int l1, .int (nI 1)]) (rest := []) (st1 := [.int v9]) hc (mX3_consumersOf e9) (cwV 2 hts (lw_V q3142 q3144 qs89 q105 q3145) rfl rfl rfl hdX3_consumersOf ⟨Nat.le_of_ble_eq_true rfl, Nat.le_of_ble_eq_true rfl⟩) rfl hl.1 rfl rfl (lv_room (Nat.le_of_ble_eq_true rfl)) dX3_queueOf_109 hP hD hS (fun H locs hP hD hS => ?_)
                    exact m_iret (pc := 112) hx hb hr hlk hP hD hS hf dX3_queueOf_112
                  · rw [if_neg c5_6] at hf
                    by_cases c5_7 : l2 = 7
                    · rw [if_pos c5_7] at hf
                      refine lv_tableIn (pc := 28) (off := 85) (tgt := 113) hx hb dX3_queueOf_28 (by rw [c5_7]; decide) (by rw [c5_7]; decide) (by rw [c5_7]; rfl) (by decide) ?_
                      refine lv_aload_n (pc := 113) hx hb dX3_queueOf_113 rfl (lv_at hl 0 rfl) ?_
                      refine lv_iload_n (pc := 114) hx hb dX3_queueOf_114 rfl (lv_at hl 1 rfl) ?_
                      refine lv_bipush (pc := 115) (v := nI 30) hx hb dX3_queueOf_115 kcb30 ?_
                      obtain ⟨v10, S10, e10, hf⟩ := bd2o hf
                      refine m_callV (pc := 117) (As := [.int l1, .int (nI 30)]) (rest := []) (st1 := [.int v10]) hc (mX3_of e10) (cwV 2 hts (lw_V q2949 q2951 qs58 q105 q2952) rfl rfl rfl hdX3_of ⟨Nat.le_of_ble_eq_true rfl, Nat.le_of_ble_eq_true rfl⟩) rfl hl.1 rfl rfl (lv_room (Nat.le_of_ble_eq_true rfl)) dX3_queueOf_117 hP hD hS (fun H locs hP hD hS => ?_)
                      exact m_iret (pc := 120) hx hb hr hlk hP hD hS hf dX3_queueOf_120
                    · rw [if_neg c5_7] at hf
                      refine lv_tableOut (pc := 28) (tgt := 121) hx hb dX3_queueOf_28 (tsw7 c5_0 c5_1 c5_2 c5_3 c5_4 c5_5 c5_6 c5_7) (by decide) ?_
                      refine lv_aload_n (pc := 121) hx hb dX3_queueOf_121 rfl (lv_at hl 0 rfl) ?_
                      refine lv_iload_n (pc := 122) hx hb dX3_queueOf_122 rfl (lv_at hl 1 rfl) ?_
                      refine lv_bipush (pc := 123) (v := nI 32) hx hb dX3_queueOf_123 kcb32 ?_
                      refine lv_iload_n (pc := 125) hx hb dX3_queueOf_125 rfl (lv_at hl 2 rfl) ?_
                      refine lv_iadd (pc := 126) hx hb dX3_queueOf_126 ?_
                      refine lv_bipush (pc := 127) (v := nI 8) hx hb dX3_queueOf_127 kcb8 ?_
                      refine lv_isub (pc := 129) hx hb dX3_queueOf_129 ?_
                      obtain ⟨v11, S11, e11, hf⟩ := bd2o hf
                      refine m_callV (pc := 130) (As := [.int l1, .int (((nI 32) + l2) - (nI 8))]) (rest := []) (st1 := [.int v11]) hc (mX3_of e11) (cwV 2 hts (lw_V q2949 q2951 qs58 q105 q2952) rfl rfl rfl hdX3_of ⟨Nat.le_of_ble_eq_true rfl, Nat.le_of_ble_eq_true rfl⟩) rfl hl.1 rfl rfl (lv_room (Nat.le_of_ble_eq_true rfl)) dX3_queueOf_130 hP hD hS (fun H locs hP hD hS => ?_)
                      exact m_iret (pc := 133) hx hb hr hlk hP hD hS hf dX3_queueOf_133
    · rw [if_pos c4] at hf
      exact wX3_queueOf_b20 hc  S3 _ _ ls hP hD hS (lv_sub hl [0] rfl) hf
theorem mX3_queueOf {S S2 : mS} {r2 : Int32} {l1 : Int32} {l2 : Int32} (hf : fX3_queueOf l1 l2 S = some (r2, S2)) : mMet l yX3_queueOf cX3_queueOf 3 (some .int) 5 113 D am cI cJ [.ref (am 0), .int l1, .int l2] S (some (.int r2)) S2 := by
  exact m_start (by decide) rfl (Nat.le_of_ble_eq_true rfl) (fun p e s m args below meth c ls hc hl hP hD => wX3_queueOf_b0 hc l1 l2 S _ _ ls hP hD va_S.rf (lv_sub hl [0, 1, 2] rfl) hf)
end
section
variable {r : Int32} {Sf : mS}
def fX3_letter_b39 (S : mS) : Option (Int32 × mS) :=
  bd2 (fX3_refused (-82) S) fun v1 S1 =>
  some (v1, S1)
theorem wX3_letter_b39 (hc : mC p s m args meth c D cI cJ cX3_letter 4 (some .int)) (S : mS) (H : Heap) (locs : List Loc) (ls : Array Slot) (hP : va_P D mCl (mws am cI cJ S) H) (hD : va_D (mA am) (mws am cI cJ S)) (hS : va_S (mA am) s.heap H locs) (hl : lv_has ls 4 [(0, .ref (am 0))]) (hf : fX3_letter_b39  S = some (r, Sf)) : W p l e (mR 2 46) s m args below meth c H locs 0 0 (mQ below D am cI cJ (some (.int r)) Sf args s) (F0 m 39 ls []) := by
  obtain ⟨hx, hb, hr, hlk, hml, hown, hts, hK⟩ := hc
  have hc : mC p s m args meth c D cI cJ cX3_letter 4 (some .int) := ⟨hx, hb, hr, hlk, hml, hown, hts, hK⟩
  unfold fX3_letter_b39 at hf
  refine lv_aload_n (pc := 39) hx hb dX3_letter_39 rfl (lv_at hl 0 rfl) ?_
  refine lv_bipush (pc := 40) (v := -82) hx hb dX3_letter_40 kcbm82 ?_
  obtain ⟨v1, S1, e1, hf⟩ := bd2o hf
  refine m_callV (pc := 42) (As := [.int (-82)]) (rest := []) (st1 := [.int v1]) hc (mX3_refused e1) (cwV 1 hts (lw_V q2899 q2901 qs51 q105 q2902) rfl rfl rfl hdX3_refused ⟨Nat.le_of_ble_eq_true rfl, Nat.le_of_ble_eq_true rfl⟩) rfl hl.1 rfl rfl (lv_room (Nat.le_of_ble_eq_true rfl)) dX3_letter_42 hP hD hS (fun H locs hP hD hS => ?_)
  exact m_iret (pc := 45) hx hb hr hlk hP hD hS hf dX3_letter_45
def fX3_letter (l1 : Int32) (l2 : Int32) (l3 : Int32) (S : mS) : Option (Int32 × mS) :=
  bd2 (fX3_isQueue l1 S) fun v1 S1 =>
  if v1 = 0 then
    fX3_letter_b39  S1
  else
    bd2 (fX3_in l3.toInt64 (lN 0) (lN 4) S1) fun v3 S3 =>
    if v3 = 0 then
      fX3_letter_b39  S3
    else
      bd2 (fX3_of l1 (nI 35) S3) fun v5 S5 =>
      bd2 (fX3_in l2.toInt64 (lN 0) ((v5 - (nI 1)).toInt64) S5) fun v6 S6 =>
      if v6 = 0 then
        fX3_letter_b39  S6
      else
        bd2 (fX3_letterOf l1 l2 l3 S6) fun v8 S8 =>
        some (v8, S8)
theorem wX3_letter_b0 (hc : mC p s m args meth c D cI cJ cX3_letter 4 (some .int)) (l1 : Int32) (l2 : Int32) (l3 : Int32) (S : mS) (H : Heap) (locs : List Loc) (ls : Array Slot) (hP : va_P D mCl (mws am cI cJ S) H) (hD : va_D (mA am) (mws am cI cJ S)) (hS : va_S (mA am) s.heap H locs) (hl : lv_has ls 4 [(0, .ref (am 0)), (1, .int l1), (2, .int l2), (3, .int l3)]) (hf : fX3_letter l1 l2 l3 S = some (r, Sf)) : W p l e (mR 2 46) s m args below meth c H locs 0 0 (mQ below D am cI cJ (some (.int r)) Sf args s) (F0 m 0 ls []) := by
  obtain ⟨hx, hb, hr, hlk, hml, hown, hts, hK⟩ := hc
  have hc : mC p s m args meth c D cI cJ cX3_letter 4 (some .int) := ⟨hx, hb, hr, hlk, hml, hown, hts, hK⟩
  unfold fX3_letter at hf
  refine lv_aload_n (pc := 0) hx hb dX3_letter_0 rfl (lv_at hl 0 rfl) ?_
  refine lv_iload_n (pc := 1) hx hb dX3_letter_1 rfl (lv_at hl 1 rfl) ?_
  obtain ⟨v1, S1, e1, hf⟩ := bd2o hf
  refine m_callV (pc := 2) (As := [.int l1]) (rest := []) (st1 := [.int v1]) hc (mX3_isQueue e1) (cwV 1 hts (lw_V q2961 q2963 qs60 q105 q2964) rfl rfl rfl hdX3_isQueue ⟨Nat.le_of_ble_eq_true rfl, Nat.le_of_ble_eq_true rfl⟩) rfl hl.1 rfl rfl (lv_room (Nat.le_of_ble_eq_true rfl)) dX3_letter_2 hP hD hS (fun H locs hP hD hS => ?_)
  refine lv_if_eq (pc := 5) (tgt := 39) hx hb dX3_letter_5 (by decide) (fun c2 => ?_) (fun c2 => ?_)
  · rw [if_pos c2] at hf
    exact wX3_letter_b39 hc  S1 _ _ ls hP hD hS (lv_sub hl [0] rfl) hf
  · rw [if_neg c2] at hf
    refine lv_iload_n (pc := 8) hx hb dX3_letter_8 rfl (lv_at hl 3 rfl) ?_
    refine lv_i2l (pc := 9) hx hb dX3_letter_9 rfl ?_
    refine lv_lconst (pc := 10) (v := lN 0) hx hb dX3_letter_10 rfl ?_
    refine lv_ldc2 (pc := 11) (v := lN 4) hx hb hown (hts _ q3150) dX3_letter_11 ?_
    obtain ⟨v3, S3, e3, hf⟩ := bd2o hf
    refine m_callS (pc := 14) (As := [.long l3.toInt64, .long (lN 0), .long (lN 4)]) (rest := []) (st1 := [.int v3]) hc (mX3_in e3) (va_cwS 3 hts (lw_S q2896 q2897 q105 q2898) rfl rfl rfl hdX3_in ⟨Nat.le_of_ble_eq_true rfl, Nat.le_of_ble_eq_true rfl⟩) rfl hl.1 rfl rfl (lv_room (Nat.le_of_ble_eq_true rfl)) dX3_letter_14 hP hD hS (fun H locs hP hD hS => ?_)
    refine lv_if_eq (pc := 17) (tgt := 39) hx hb dX3_letter_17 (by decide) (fun c4 => ?_) (fun c4 => ?_)
    · rw [if_pos c4] at hf
      exact wX3_letter_b39 hc  S3 _ _ ls hP hD hS (lv_sub hl [0] rfl) hf
    · rw [if_neg c4] at hf
      refine lv_iload_n (pc := 20) hx hb dX3_letter_20 rfl (lv_at hl 2 rfl) ?_
      refine lv_i2l (pc := 21) hx hb dX3_letter_21 rfl ?_
      refine lv_lconst (pc := 22) (v := lN 0) hx hb dX3_letter_22 rfl ?_
      refine lv_aload_n (pc := 23) hx hb dX3_letter_23 rfl (lv_at hl 0 rfl) ?_
      refine lv_iload_n (pc := 24) hx hb dX3_letter_24 rfl (lv_at hl 1 rfl) ?_
      refine lv_bipush (pc := 25) (v := nI 35) hx hb dX3_letter_25 kcb35 ?_
      obtain ⟨v5, S5, e5, hf⟩ := bd2o hf
      refine m_callV (pc := 27) (As := [.int l1, .int (nI 35)]) (rest := [.long (lN 0), .long l2.toInt64]) (st1 := [.int v5, .long (lN 0), .long l2.toInt64]) hc (mX3_of e5) (cwV 2 hts (lw_V q2949 q2951 qs58 q105 q2952) rfl rfl rfl hdX3_of ⟨Nat.le_of_ble_eq_true rfl, Nat.le_of_ble_eq_true rfl⟩) rfl hl.1 rfl rfl (lv_room (Nat.le_of_ble_eq_true rfl)) dX3_letter_27 hP hD hS (fun H locs hP hD hS => ?_)
      refine lv_iconst (pc := 30) (v := nI 1) hx hb dX3_letter_30 rfl ?_
      refine lv_isub (pc := 31) hx hb dX3_letter_31 ?_
      refine lv_i2l (pc := 32) hx hb dX3_letter_32 rfl ?_
      obtain ⟨v6, S6, e6, hf⟩ := bd2o hf
      refine m_callS (pc := 33) (As := [.long l2.toInt64, .long (lN 0), .long ((v5 - (nI 1)).toInt64)]) (rest := []) (st1 := [.int v6]) hc (mX3_in e6) (va_cwS 3 hts (lw_S q2896 q2897 q105 q2898) rfl rfl rfl hdX3_in ⟨Nat.le_of_ble_eq_true rfl, Nat.le_of_ble_eq_true rfl⟩) rfl hl.1 rfl rfl (lv_room (Nat.le_of_ble_eq_true rfl)) dX3_letter_33 hP hD hS (fun H locs hP hD hS => ?_)
      refine lv_if_ne (pc := 36) (tgt := 46) hx hb dX3_letter_36 (by decide) (fun c7 => ?_) (fun c7 => ?_)
      · rw [if_neg c7] at hf
        refine lv_aload_n (pc := 46) hx hb dX3_letter_46 rfl (lv_at hl 0 rfl) ?_
        refine lv_iload_n (pc := 47) hx hb dX3_letter_47 rfl (lv_at hl 1 rfl) ?_
        refine lv_iload_n (pc := 48) hx hb dX3_letter_48 rfl (lv_at hl 2 rfl) ?_
        refine lv_iload_n (pc := 49) hx hb dX3_letter_49 rfl (lv_at hl 3 rfl) ?_
        obtain ⟨v8, S8, e8, hf⟩ := bd2o hf
        refine m_callV (pc := 50) (As := [.int l1, .int l2, .int l3]) (rest := []) (st1 := [.int v8]) hc (mX3_letterOf e8) (cwV 3 hts (lw_V q2991 q2993 qs65 q105 q2994) rfl rfl rfl hdX3_letterOf ⟨Nat.le_of_ble_eq_true rfl, Nat.le_of_ble_eq_true rfl⟩) rfl hl.1 rfl rfl (lv_room (Nat.le_of_ble_eq_true rfl)) dX3_letter_50 hP hD hS (fun H locs hP hD hS => ?_)
        exact m_iret (pc := 53) hx hb hr hlk hP hD hS hf dX3_letter_53
      · rw [if_pos c7] at hf
        exact wX3_letter_b39 hc  S6 _ _ ls hP hD hS (lv_sub hl [0] rfl) hf
theorem mX3_letter {S S2 : mS} {r2 : Int32} {l1 : Int32} {l2 : Int32} {l3 : Int32} (hf : fX3_letter l1 l2 l3 S = some (r2, S2)) : mMet l yX3_letter cX3_letter 4 (some .int) 2 46 D am cI cJ [.ref (am 0), .int l1, .int l2, .int l3] S (some (.int r2)) S2 := by
  exact m_start (by decide) rfl (Nat.le_of_ble_eq_true rfl) (fun p e s m args below meth c ls hc hl hP hD => wX3_letter_b0 hc l1 l2 l3 S _ _ ls hP hD va_S.rf (lv_sub hl [0, 1, 2, 3] rfl) hf)
end
section
variable {r : Int32} {Sf : mS}
def fX3_consumerOf_b20 (S : mS) : Option (Int32 × mS) :=
  bd2 (fX3_refused (-82) S) fun v1 S1 =>
  some (v1, S1)
theorem wX3_consumerOf_b20 (hc : mC p s m args meth c D cI cJ cX3_consumerOf 3 (some .int)) (S : mS) (H : Heap) (locs : List Loc) (ls : Array Slot) (hP : va_P D mCl (mws am cI cJ S) H) (hD : va_D (mA am) (mws am cI cJ S)) (hS : va_S (mA am) s.heap H locs) (hl : lv_has ls 3 [(0, .ref (am 0))]) (hf : fX3_consumerOf_b20  S = some (r, Sf)) : W p l e (mR 3 69) s m args below meth c H locs 0 0 (mQ below D am cI cJ (some (.int r)) Sf args s) (F0 m 20 ls []) := by
  obtain ⟨hx, hb, hr, hlk, hml, hown, hts, hK⟩ := hc
  have hc : mC p s m args meth c D cI cJ cX3_consumerOf 3 (some .int) := ⟨hx, hb, hr, hlk, hml, hown, hts, hK⟩
  unfold fX3_consumerOf_b20 at hf
  refine lv_aload_n (pc := 20) hx hb dX3_consumerOf_20 rfl (lv_at hl 0 rfl) ?_
  refine lv_bipush (pc := 21) (v := -82) hx hb dX3_consumerOf_21 kcbm82 ?_
  obtain ⟨v1, S1, e1, hf⟩ := bd2o hf
  refine m_callV (pc := 23) (As := [.int (-82)]) (rest := []) (st1 := [.int v1]) hc (mX3_refused e1) (cwV 1 hts (lw_V q2899 q2901 qs51 q105 q2902) rfl rfl rfl hdX3_refused ⟨Nat.le_of_ble_eq_true rfl, Nat.le_of_ble_eq_true rfl⟩) rfl hl.1 rfl rfl (lv_room (Nat.le_of_ble_eq_true rfl)) dX3_consumerOf_23 hP hD hS (fun H locs hP hD hS => ?_)
  exact m_iret (pc := 26) hx hb hr hlk hP hD hS hf dX3_consumerOf_26
def fX3_consumerOf_b60 (l1 : Int32) (l2 : Int32) (S : mS) : Option (Int32 × mS) :=
  bd2 (fX3_ofConsumer l1 l2 S) fun v1 S1 =>
  some (v1, S1)
theorem wX3_consumerOf_b60 (hc : mC p s m args meth c D cI cJ cX3_consumerOf 3 (some .int)) (l1 : Int32) (l2 : Int32) (S : mS) (H : Heap) (locs : List Loc) (ls : Array Slot) (hP : va_P D mCl (mws am cI cJ S) H) (hD : va_D (mA am) (mws am cI cJ S)) (hS : va_S (mA am) s.heap H locs) (hl : lv_has ls 3 [(0, .ref (am 0)), (1, .int l1), (2, .int l2)]) (hf : fX3_consumerOf_b60 l1 l2 S = some (r, Sf)) : W p l e (mR 3 69) s m args below meth c H locs 0 0 (mQ below D am cI cJ (some (.int r)) Sf args s) (F0 m 60 ls []) := by
  obtain ⟨hx, hb, hr, hlk, hml, hown, hts, hK⟩ := hc
  have hc : mC p s m args meth c D cI cJ cX3_consumerOf 3 (some .int) := ⟨hx, hb, hr, hlk, hml, hown, hts, hK⟩
  unfold fX3_consumerOf_b60 at hf
  refine lv_aload_n (pc := 60) hx hb dX3_consumerOf_60 rfl (lv_at hl 0 rfl) ?_
  refine lv_iload_n (pc := 61) hx hb dX3_consumerOf_61 rfl (lv_at hl 1 rfl) ?_
  refine lv_iload_n (pc := 62) hx hb dX3_consumerOf_62 rfl (lv_at hl 2 rfl) ?_
  obtain ⟨v1, S1, e1, hf⟩ := bd2o hf
  refine m_callV (pc := 63) (As := [.int l1, .int l2]) (rest := []) (st1 := [.int v1]) hc (mX3_ofConsumer e1) (cwV 2 hts (lw_V q3035 q3037 qs75 q105 q3038) rfl rfl rfl hdX3_ofConsumer ⟨Nat.le_of_ble_eq_true rfl, Nat.le_of_ble_eq_true rfl⟩) rfl hl.1 rfl rfl (lv_room (Nat.le_of_ble_eq_true rfl)) dX3_consumerOf_63 hP hD hS (fun H locs hP hD hS => ?_)
  exact m_iret (pc := 66) hx hb hr hlk hP hD hS hf dX3_consumerOf_66
def fX3_consumerOf (l1 : Int32) (l2 : Int32) (S : mS) : Option (Int32 × mS) :=
  bd2 (fX3_isConsumer l1 S) fun v1 S1 =>
  if v1 = 0 then
    fX3_consumerOf_b20  S1
  else
    bd2 (fX3_in l2.toInt64 (lN 0) (lN 4) S1) fun v3 S3 =>
    if v3 = 0 then
      fX3_consumerOf_b20  S3
    else
      if l2 = 0 then
        fX3_consumerOf_b60 l1 l2 S3
      else if l2 = 1 then
        fX3_consumerOf_b60 l1 l2 S3
      else if l2 = 2 then
        bd2 (fX3_outOf l1 S3) fun v6 S6 =>
        some (v6, S6)
      else if l2 = 3 then
        bd2 (fX3_ofConsumer l1 (nI 2) S3) fun v7 S7 =>
        some (v7, S7)
      else
        bd2 (fX3_ofConsumer l1 (nI 3) S3) fun v8 S8 =>
        some (v8, S8)
theorem wX3_consumerOf_b0 (hc : mC p s m args meth c D cI cJ cX3_consumerOf 3 (some .int)) (l1 : Int32) (l2 : Int32) (S : mS) (H : Heap) (locs : List Loc) (ls : Array Slot) (hP : va_P D mCl (mws am cI cJ S) H) (hD : va_D (mA am) (mws am cI cJ S)) (hS : va_S (mA am) s.heap H locs) (hl : lv_has ls 3 [(0, .ref (am 0)), (1, .int l1), (2, .int l2)]) (hf : fX3_consumerOf l1 l2 S = some (r, Sf)) : W p l e (mR 3 69) s m args below meth c H locs 0 0 (mQ below D am cI cJ (some (.int r)) Sf args s) (F0 m 0 ls []) := by
  obtain ⟨hx, hb, hr, hlk, hml, hown, hts, hK⟩ := hc
  have hc : mC p s m args meth c D cI cJ cX3_consumerOf 3 (some .int) := ⟨hx, hb, hr, hlk, hml, hown, hts, hK⟩
  unfold fX3_consumerOf at hf
  refine lv_aload_n (pc := 0) hx hb dX3_consumerOf_0 rfl (lv_at hl 0 rfl) ?_
  refine lv_iload_n (pc := 1) hx hb dX3_consumerOf_1 rfl (lv_at hl 1 rfl) ?_
  obtain ⟨v1, S1, e1, hf⟩ := bd2o hf
  refine m_callV (pc := 2) (As := [.int l1]) (rest := []) (st1 := [.int v1]) hc (mX3_isConsumer e1) (cwV 1 hts (lw_V q3031 q3033 qs74 q105 q3034) rfl rfl rfl hdX3_isConsumer ⟨Nat.le_of_ble_eq_true rfl, Nat.le_of_ble_eq_true rfl⟩) rfl hl.1 rfl rfl (lv_room (Nat.le_of_ble_eq_true rfl)) dX3_consumerOf_2 hP hD hS (fun H locs hP hD hS => ?_)
  refine lv_if_eq (pc := 5) (tgt := 20) hx hb dX3_consumerOf_5 (by decide) (fun c2 => ?_) (fun c2 => ?_)
  · rw [if_pos c2] at hf
    exact wX3_consumerOf_b20 hc  S1 _ _ ls hP hD hS (lv_sub hl [0] rfl) hf
  · rw [if_neg c2] at hf
    refine lv_iload_n (pc := 8) hx hb dX3_consumerOf_8 rfl (lv_at hl 2 rfl) ?_
    refine lv_i2l (pc := 9) hx hb dX3_consumerOf_9 rfl ?_
    refine lv_lconst (pc := 10) (v := lN 0) hx hb dX3_consumerOf_10 rfl ?_
    refine lv_ldc2 (pc := 11) (v := lN 4) hx hb hown (hts _ q3150) dX3_consumerOf_11 ?_
    obtain ⟨v3, S3, e3, hf⟩ := bd2o hf
    refine m_callS (pc := 14) (As := [.long l2.toInt64, .long (lN 0), .long (lN 4)]) (rest := []) (st1 := [.int v3]) hc (mX3_in e3) (va_cwS 3 hts (lw_S q2896 q2897 q105 q2898) rfl rfl rfl hdX3_in ⟨Nat.le_of_ble_eq_true rfl, Nat.le_of_ble_eq_true rfl⟩) rfl hl.1 rfl rfl (lv_room (Nat.le_of_ble_eq_true rfl)) dX3_consumerOf_14 hP hD hS (fun H locs hP hD hS => ?_)
    refine lv_if_ne (pc := 17) (tgt := 27) hx hb dX3_consumerOf_17 (by decide) (fun c4 => ?_) (fun c4 => ?_)
    · rw [if_neg c4] at hf
      refine lv_iload_n (pc := 27) hx hb dX3_consumerOf_27 rfl (lv_at hl 2 rfl) ?_
      by_cases c5_0 : l2 = 0
      · rw [if_pos c5_0] at hf
        refine lv_tableIn (pc := 28) (off := 32) (tgt := 60) hx hb dX3_consumerOf_28 (by rw [c5_0]; decide) (by rw [c5_0]; decide) (by rw [c5_0]; rfl) (by decide) ?_
        exact wX3_consumerOf_b60 hc l1 l2 S3 _ _ ls hP hD hS (lv_sub hl [0, 1, 2] rfl) hf
      · rw [if_neg c5_0] at hf
        by_cases c5_1 : l2 = 1
        · rw [if_pos c5_1] at hf
          refine lv_tableIn (pc := 28) (off := 32) (tgt := 60) hx hb dX3_consumerOf_28 (by rw [c5_1]; decide) (by rw [c5_1]; decide) (by rw [c5_1]; rfl) (by decide) ?_
          exact wX3_consumerOf_b60 hc l1 l2 S3 _ _ ls hP hD hS (lv_sub hl [0, 1, 2] rfl) hf
        · rw [if_neg c5_1] at hf
          by_cases c5_2 : l2 = 2
          · rw [if_pos c5_2] at hf
            refine lv_tableIn (pc := 28) (off := 39) (tgt := 67) hx hb dX3_consumerOf_28 (by rw [c5_2]; decide) (by rw [c5_2]; decide) (by rw [c5_2]; rfl) (by decide) ?_
            refine lv_aload_n (pc := 67) hx hb dX3_consumerOf_67 rfl (lv_at hl 0 rfl) ?_
            refine lv_iload_n (pc := 68) hx hb dX3_consumerOf_68 rfl (lv_at hl 1 rfl) ?_
            obtain ⟨v6, S6, e6, hf⟩ := bd2o hf
            refine m_callV (pc := 69) (As := [.int l1]) (rest := []) (st1 := [.int v6]) hc (mX3_outOf e6) (cwV 1 hts (lw_V q3064 q3066 qs80 q105 q3067) rfl rfl rfl hdX3_outOf ⟨Nat.le_of_ble_eq_true rfl, Nat.le_of_ble_eq_true rfl⟩) rfl hl.1 rfl rfl (lv_room (Nat.le_of_ble_eq_true rfl)) dX3_consumerOf_69 hP hD hS (fun H locs hP hD hS => ?_)
            exact m_iret (pc := 72) hx hb hr hlk hP hD hS hf dX3_consumerOf_72
          · rw [if_neg c5_2] at hf
            by_cases c5_3 : l2 = 3
            · rw [if_pos c5_3] at hf
              refine lv_tableIn (pc := 28) (off := 45) (tgt := 73) hx hb dX3_consumerOf_28 (by rw [c5_3]; decide) (by rw [c5_3]; decide) (by rw [c5_3]; rfl) (by decide) ?_
              refine lv_aload_n (pc := 73) hx hb dX3_consumerOf_73 rfl (lv_at hl 0 rfl) ?_
              refine lv_iload_n (pc := 74) hx hb dX3_consumerOf_74 rfl (lv_at hl 1 rfl) ?_
              refine lv_iconst (pc := 75) (v := nI 2) hx hb dX3_consumerOf_75 rfl ?_
              obtain ⟨v7, S7, e7, hf⟩ := bd2o hf
              refine m_callV (pc := 76) (As := [.int l1, .int (nI 2)]) (rest := []) (st1 := [.int v7]) hc (mX3_ofConsumer e7) (cwV 2 hts (lw_V q3035 q3037 qs75 q105 q3038) rfl rfl rfl hdX3_ofConsumer ⟨Nat.le_of_ble_eq_true rfl, Nat.le_of_ble_eq_true rfl⟩) rfl hl.1 rfl rfl (lv_room (Nat.le_of_ble_eq_true rfl)) dX3_consumerOf_76 hP hD hS (fun H locs hP hD hS => ?_)
              exact m_iret (pc := 79) hx hb hr hlk hP hD hS hf dX3_consumerOf_79
            · rw [if_neg c5_3] at hf
              refine lv_tableOut (pc := 28) (tgt := 80) hx hb dX3_consumerOf_28 (tsw3 c5_0 c5_1 c5_2 c5_3) (by decide) ?_
              refine lv_aload_n (pc := 80) hx hb dX3_consumerOf_80 rfl (lv_at hl 0 rfl) ?_
              refine lv_iload_n (pc := 81) hx hb dX3_consumerOf_81 rfl (lv_at hl 1 rfl) ?_
              refine lv_iconst (pc := 82) (v := nI 3) hx hb dX3_consumerOf_82 rfl ?_
              obtain ⟨v8, S8, e8, hf⟩ := bd2o hf
              refine m_callV (pc := 83) (As := [.int l1, .int (nI 3)]) (rest := []) (st1 := [.int v8]) hc (mX3_ofConsumer e8) (cwV 2 hts (lw_V q3035 q3037 qs75 q105 q3038) rfl rfl rfl hdX3_ofConsumer ⟨Nat.le_of_ble_eq_true rfl, Nat.le_of_ble_eq_true rfl⟩) rfl hl.1 rfl rfl (lv_room (Nat.le_of_ble_eq_true rfl)) dX3_consumerOf_83 hP hD hS (fun H locs hP hD hS => ?_)
              exact m_iret (pc := 86) hx hb hr hlk hP hD hS hf dX3_consumerOf_86
    · rw [if_pos c4] at hf
      exact wX3_consumerOf_b20 hc  S3 _ _ ls hP hD hS (lv_sub hl [0] rfl) hf
theorem mX3_consumerOf {S S2 : mS} {r2 : Int32} {l1 : Int32} {l2 : Int32} (hf : fX3_consumerOf l1 l2 S = some (r2, S2)) : mMet l yX3_consumerOf cX3_consumerOf 3 (some .int) 3 69 D am cI cJ [.ref (am 0), .int l1, .int l2] S (some (.int r2)) S2 := by
  exact m_start (by decide) rfl (Nat.le_of_ble_eq_true rfl) (fun p e s m args below meth c ls hc hl hP hD => wX3_consumerOf_b0 hc l1 l2 S _ _ ls hP hD va_S.rf (lv_sub hl [0, 1, 2] rfl) hf)
end
section
variable {r : Int32} {Sf : mS}
def fX3_held_b12 (S : mS) : Option (Int32 × mS) :=
  bd2 (fX3_refused (-82) S) fun v1 S1 =>
  some (v1, S1)
theorem wX3_held_b12 (hc : mC p s m args meth c D cI cJ cX3_held 6 (some .int)) (S : mS) (H : Heap) (locs : List Loc) (ls : Array Slot) (hP : va_P D mCl (mws am cI cJ S) H) (hD : va_D (mA am) (mws am cI cJ S)) (hS : va_S (mA am) s.heap H locs) (hl : lv_has ls 6 [(0, .ref (am 0))]) (hf : fX3_held_b12  S = some (r, Sf)) : W p l e (mR 2 46) s m args below meth c H locs 0 0 (mQ below D am cI cJ (some (.int r)) Sf args s) (F0 m 12 ls []) := by
  obtain ⟨hx, hb, hr, hlk, hml, hown, hts, hK⟩ := hc
  have hc : mC p s m args meth c D cI cJ cX3_held 6 (some .int) := ⟨hx, hb, hr, hlk, hml, hown, hts, hK⟩
  unfold fX3_held_b12 at hf
  refine lv_aload_n (pc := 12) hx hb dX3_held_12 rfl (lv_at hl 0 rfl) ?_
  refine lv_bipush (pc := 13) (v := -82) hx hb dX3_held_13 kcbm82 ?_
  obtain ⟨v1, S1, e1, hf⟩ := bd2o hf
  refine m_callV (pc := 15) (As := [.int (-82)]) (rest := []) (st1 := [.int v1]) hc (mX3_refused e1) (cwV 1 hts (lw_V q2899 q2901 qs51 q105 q2902) rfl rfl rfl hdX3_refused ⟨Nat.le_of_ble_eq_true rfl, Nat.le_of_ble_eq_true rfl⟩) rfl hl.1 rfl rfl (lv_room (Nat.le_of_ble_eq_true rfl)) dX3_held_15 hP hD hS (fun H locs hP hD hS => ?_)
  exact m_iret (pc := 18) hx hb hr hlk hP hD hS hf dX3_held_18
def fX3_held_b32 : Nat → Int32 → Int32 → Int32 → Int32 → Int32 → mS → Option (Int32 × mS)
  | 0, _, _, _, _, _, _ => none
  | n + 1, l1, l2, l3, l4, l5, S =>
    bd2 (fX3_of l3 (nI 35) S) fun v1 S1 =>
    if v1 ≤ l5 then
      bd2 (fX3_refused (-82) S1) fun v3 S3 =>
      some (v3, S3)
    else
      bd2 (fX3_letterOf l3 l5 (nI 3) S1) fun v4 S4 =>
      if v4 = l1 then
        if l4 = l2 then
          bd2 (fX3_letterOf l3 l5 (nI 0) S4) fun v7 S7 =>
          some (v7, S7)
        else
          fX3_held_b32 n l1 l2 l3 (l4 + (nI 1)) (l5 + (nI 1)) S4
      else
        fX3_held_b32 n l1 l2 l3 l4 (l5 + (nI 1)) S4
theorem wX3_held_b32 (hc : mC p s m args meth c D cI cJ cX3_held 6 (some .int)) : ∀ (n : Nat) (l1 : Int32) (l2 : Int32) (l3 : Int32) (l4 : Int32) (l5 : Int32) (S : mS) (H : Heap) (locs : List Loc) (ls : Array Slot), va_P D mCl (mws am cI cJ S) H → va_D (mA am) (mws am cI cJ S) → va_S (mA am) s.heap H locs → lv_has ls 6 [(0, .ref (am 0)), (1, .int l1), (2, .int l2), (3, .int l3), (4, .int l4), (5, .int l5)] → fX3_held_b32 n l1 l2 l3 l4 l5 S = some (r, Sf) → W p l e (mR 2 46) s m args below meth c H locs 0 0 (mQ below D am cI cJ (some (.int r)) Sf args s) (F0 m 32 ls []) := by
  obtain ⟨hx, hb, hr, hlk, hml, hown, hts, hK⟩ := hc
  have hc : mC p s m args meth c D cI cJ cX3_held 6 (some .int) := ⟨hx, hb, hr, hlk, hml, hown, hts, hK⟩
  intro n
  induction n with
  | zero => intro l1 l2 l3 l4 l5 S H locs ls _ _ _ _ hf; exact absurd hf (fun h => by cases h)
  | succ n ih =>
    intro l1 l2 l3 l4 l5 S H locs ls hP hD hS hl hf
    rw [fX3_held_b32] at hf
    refine lv_iload (pc := 32) hx hb dX3_held_32 (lv_at hl 5 rfl) ?_
    refine lv_aload_n (pc := 34) hx hb dX3_held_34 rfl (lv_at hl 0 rfl) ?_
    refine lv_iload_n (pc := 35) hx hb dX3_held_35 rfl (lv_at hl 3 rfl) ?_
    refine lv_bipush (pc := 36) (v := nI 35) hx hb dX3_held_36 kcb35 ?_
    obtain ⟨v1, S1, e1, hf⟩ := bd2o hf
    refine m_callV (pc := 38) (As := [.int l3, .int (nI 35)]) (rest := [.int l5]) (st1 := [.int v1, .int l5]) hc (mX3_of e1) (cwV 2 hts (lw_V q2949 q2951 qs58 q105 q2952) rfl rfl rfl hdX3_of ⟨Nat.le_of_ble_eq_true rfl, Nat.le_of_ble_eq_true rfl⟩) rfl hl.1 rfl rfl (lv_room (Nat.le_of_ble_eq_true rfl)) dX3_held_38 hP hD hS (fun H locs hP hD hS => ?_)
    refine lv_icmp_ge (pc := 41) (tgt := 80) hx hb dX3_held_41 (by decide) (fun c2 => ?_) (fun c2 => ?_)
    · rw [if_pos c2] at hf
      refine lv_aload_n (pc := 80) hx hb dX3_held_80 rfl (lv_at hl 0 rfl) ?_
      refine lv_bipush (pc := 81) (v := -82) hx hb dX3_held_81 kcbm82 ?_
      obtain ⟨v3, S3, e3, hf⟩ := bd2o hf
      refine m_callV (pc := 83) (As := [.int (-82)]) (rest := []) (st1 := [.int v3]) hc (mX3_refused e3) (cwV 1 hts (lw_V q2899 q2901 qs51 q105 q2902) rfl rfl rfl hdX3_refused ⟨Nat.le_of_ble_eq_true rfl, Nat.le_of_ble_eq_true rfl⟩) rfl hl.1 rfl rfl (lv_room (Nat.le_of_ble_eq_true rfl)) dX3_held_83 hP hD hS (fun H locs hP hD hS => ?_)
      exact m_iret (pc := 86) hx hb hr hlk hP hD hS hf dX3_held_86
    · rw [if_neg c2] at hf
      refine lv_aload_n (pc := 44) hx hb dX3_held_44 rfl (lv_at hl 0 rfl) ?_
      refine lv_iload_n (pc := 45) hx hb dX3_held_45 rfl (lv_at hl 3 rfl) ?_
      refine lv_iload (pc := 46) hx hb dX3_held_46 (lv_at hl 5 rfl) ?_
      refine lv_iconst (pc := 48) (v := nI 3) hx hb dX3_held_48 rfl ?_
      obtain ⟨v4, S4, e4, hf⟩ := bd2o hf
      refine m_callV (pc := 49) (As := [.int l3, .int l5, .int (nI 3)]) (rest := []) (st1 := [.int v4]) hc (mX3_letterOf e4) (cwV 3 hts (lw_V q2991 q2993 qs65 q105 q2994) rfl rfl rfl hdX3_letterOf ⟨Nat.le_of_ble_eq_true rfl, Nat.le_of_ble_eq_true rfl⟩) rfl hl.1 rfl rfl (lv_room (Nat.le_of_ble_eq_true rfl)) dX3_held_49 hP hD hS (fun H locs hP hD hS => ?_)
      refine lv_iload_n (pc := 52) hx hb dX3_held_52 rfl (lv_at hl 1 rfl) ?_
      refine lv_icmp_ne (pc := 53) (tgt := 74) hx hb dX3_held_53 (by decide) (fun c5 => ?_) (fun c5 => ?_)
      · rw [if_neg c5] at hf
        refine lv_iinc (pc := 74) (v := l5 + (nI 1)) (lv' := [(5, .int (l5 + (nI 1))), (0, .ref (am 0)), (1, .int l1), (2, .int l2), (3, .int l3), (4, .int l4)]) hx hb dX3_held_74 hl (k := 5) rfl rfl (by decide) rfl (fun ls hl => ?_)
        refine lv_goto (pc := 77) (tgt := 32) hx hb dX3_held_77 (by decide) ?_
        exact ih l1 l2 l3 l4 (l5 + (nI 1)) S4 _ _ ls hP hD hS (lv_sub hl [1, 2, 3, 4, 5, 0] rfl) hf
      · rw [if_pos c5] at hf
        refine lv_iload (pc := 56) hx hb dX3_held_56 (lv_at hl 4 rfl) ?_
        refine lv_iload_n (pc := 58) hx hb dX3_held_58 rfl (lv_at hl 2 rfl) ?_
        refine lv_icmp_ne (pc := 59) (tgt := 71) hx hb dX3_held_59 (by decide) (fun c6 => ?_) (fun c6 => ?_)
        · rw [if_neg c6] at hf
          refine lv_iinc (pc := 71) (v := l4 + (nI 1)) (lv' := [(4, .int (l4 + (nI 1))), (0, .ref (am 0)), (1, .int l1), (2, .int l2), (3, .int l3), (5, .int l5)]) hx hb dX3_held_71 hl (k := 4) rfl rfl (by decide) rfl (fun ls hl => ?_)
          refine lv_iinc (pc := 74) (v := l5 + (nI 1)) (lv' := [(5, .int (l5 + (nI 1))), (4, .int (l4 + (nI 1))), (0, .ref (am 0)), (1, .int l1), (2, .int l2), (3, .int l3)]) hx hb dX3_held_74 hl (k := 5) rfl rfl (by decide) rfl (fun ls hl => ?_)
          refine lv_goto (pc := 77) (tgt := 32) hx hb dX3_held_77 (by decide) ?_
          exact ih l1 l2 l3 (l4 + (nI 1)) (l5 + (nI 1)) S4 _ _ ls hP hD hS (lv_sub hl [2, 3, 4, 5, 1, 0] rfl) hf
        · rw [if_pos c6] at hf
          refine lv_aload_n (pc := 62) hx hb dX3_held_62 rfl (lv_at hl 0 rfl) ?_
          refine lv_iload_n (pc := 63) hx hb dX3_held_63 rfl (lv_at hl 3 rfl) ?_
          refine lv_iload (pc := 64) hx hb dX3_held_64 (lv_at hl 5 rfl) ?_
          refine lv_iconst (pc := 66) (v := nI 0) hx hb dX3_held_66 rfl ?_
          obtain ⟨v7, S7, e7, hf⟩ := bd2o hf
          refine m_callV (pc := 67) (As := [.int l3, .int l5, .int (nI 0)]) (rest := []) (st1 := [.int v7]) hc (mX3_letterOf e7) (cwV 3 hts (lw_V q2991 q2993 qs65 q105 q2994) rfl rfl rfl hdX3_letterOf ⟨Nat.le_of_ble_eq_true rfl, Nat.le_of_ble_eq_true rfl⟩) rfl hl.1 rfl rfl (lv_room (Nat.le_of_ble_eq_true rfl)) dX3_held_67 hP hD hS (fun H locs hP hD hS => ?_)
          exact m_iret (pc := 70) hx hb hr hlk hP hD hS hf dX3_held_70
def fX3_held (l1 : Int32) (l2 : Int32) (S : mS) : Option (Int32 × mS) :=
  bd2 (fX3_isConsumer l1 S) fun v1 S1 =>
  if v1 = 0 then
    fX3_held_b12  S1
  else
    if 0 ≤ l2 then
      bd2 (fX3_ofConsumer l1 (nI 0) S1) fun v4 S4 =>
      fX3_held_b32 FU l1 l2 v4 (nI 0) (nI 0) S4
    else
      fX3_held_b12  S1
theorem wX3_held_b0 (hc : mC p s m args meth c D cI cJ cX3_held 6 (some .int)) (l1 : Int32) (l2 : Int32) (S : mS) (H : Heap) (locs : List Loc) (ls : Array Slot) (hP : va_P D mCl (mws am cI cJ S) H) (hD : va_D (mA am) (mws am cI cJ S)) (hS : va_S (mA am) s.heap H locs) (hl : lv_has ls 6 [(0, .ref (am 0)), (1, .int l1), (2, .int l2)]) (hf : fX3_held l1 l2 S = some (r, Sf)) : W p l e (mR 2 46) s m args below meth c H locs 0 0 (mQ below D am cI cJ (some (.int r)) Sf args s) (F0 m 0 ls []) := by
  obtain ⟨hx, hb, hr, hlk, hml, hown, hts, hK⟩ := hc
  have hc : mC p s m args meth c D cI cJ cX3_held 6 (some .int) := ⟨hx, hb, hr, hlk, hml, hown, hts, hK⟩
  unfold fX3_held at hf
  refine lv_aload_n (pc := 0) hx hb dX3_held_0 rfl (lv_at hl 0 rfl) ?_
  refine lv_iload_n (pc := 1) hx hb dX3_held_1 rfl (lv_at hl 1 rfl) ?_
  obtain ⟨v1, S1, e1, hf⟩ := bd2o hf
  refine m_callV (pc := 2) (As := [.int l1]) (rest := []) (st1 := [.int v1]) hc (mX3_isConsumer e1) (cwV 1 hts (lw_V q3031 q3033 qs74 q105 q3034) rfl rfl rfl hdX3_isConsumer ⟨Nat.le_of_ble_eq_true rfl, Nat.le_of_ble_eq_true rfl⟩) rfl hl.1 rfl rfl (lv_room (Nat.le_of_ble_eq_true rfl)) dX3_held_2 hP hD hS (fun H locs hP hD hS => ?_)
  refine lv_if_eq (pc := 5) (tgt := 12) hx hb dX3_held_5 (by decide) (fun c2 => ?_) (fun c2 => ?_)
  · rw [if_pos c2] at hf
    exact wX3_held_b12 hc  S1 _ _ ls hP hD hS (lv_sub hl [0] rfl) hf
  · rw [if_neg c2] at hf
    refine lv_iload_n (pc := 8) hx hb dX3_held_8 rfl (lv_at hl 2 rfl) ?_
    refine lv_if_ge (pc := 9) (tgt := 19) hx hb dX3_held_9 (by decide) (fun c3 => ?_) (fun c3 => ?_)
    · rw [if_pos c3] at hf
      refine lv_aload_n (pc := 19) hx hb dX3_held_19 rfl (lv_at hl 0 rfl) ?_
      refine lv_iload_n (pc := 20) hx hb dX3_held_20 rfl (lv_at hl 1 rfl) ?_
      refine lv_iconst (pc := 21) (v := nI 0) hx hb dX3_held_21 rfl ?_
      obtain ⟨v4, S4, e4, hf⟩ := bd2o hf
      refine m_callV (pc := 22) (As := [.int l1, .int (nI 0)]) (rest := []) (st1 := [.int v4]) hc (mX3_ofConsumer e4) (cwV 2 hts (lw_V q3035 q3037 qs75 q105 q3038) rfl rfl rfl hdX3_ofConsumer ⟨Nat.le_of_ble_eq_true rfl, Nat.le_of_ble_eq_true rfl⟩) rfl hl.1 rfl rfl (lv_room (Nat.le_of_ble_eq_true rfl)) dX3_held_22 hP hD hS (fun H locs hP hD hS => ?_)
      refine lv_istore_n (pc := 25) (lv' := [(3, .int v4), (0, .ref (am 0)), (1, .int l1), (2, .int l2)]) hx hb dX3_held_25 rfl hl (by decide) rfl (fun ls hl => ?_)
      refine lv_iconst (pc := 26) (v := nI 0) hx hb dX3_held_26 rfl ?_
      refine lv_istore (pc := 27) (lv' := [(4, .int (nI 0)), (3, .int v4), (0, .ref (am 0)), (1, .int l1), (2, .int l2)]) hx hb dX3_held_27 hl (by decide) rfl (fun ls hl => ?_)
      refine lv_iconst (pc := 29) (v := nI 0) hx hb dX3_held_29 rfl ?_
      refine lv_istore (pc := 30) (lv' := [(5, .int (nI 0)), (4, .int (nI 0)), (3, .int v4), (0, .ref (am 0)), (1, .int l1), (2, .int l2)]) hx hb dX3_held_30 hl (by decide) rfl (fun ls hl => ?_)
      exact wX3_held_b32 hc FU l1 l2 v4 (nI 0) (nI 0) S4 _ _ ls hP hD hS (lv_sub hl [3, 4, 5, 2, 1, 0] rfl) hf
    · rw [if_neg c3] at hf
      exact wX3_held_b12 hc  S1 _ _ ls hP hD hS (lv_sub hl [0] rfl) hf
theorem mX3_held {S S2 : mS} {r2 : Int32} {l1 : Int32} {l2 : Int32} (hf : fX3_held l1 l2 S = some (r2, S2)) : mMet l yX3_held cX3_held 6 (some .int) 2 46 D am cI cJ [.ref (am 0), .int l1, .int l2] S (some (.int r2)) S2 := by
  exact m_start (by decide) rfl (Nat.le_of_ble_eq_true rfl) (fun p e s m args below meth c ls hc hl hP hD => wX3_held_b0 hc l1 l2 S _ _ ls hP hD va_S.rf (lv_sub hl [0, 1, 2] rfl) hf)
end
end
