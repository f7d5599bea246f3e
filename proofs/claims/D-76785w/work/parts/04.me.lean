/-! printed by gen/mgen.py: the methods of CreditBrokerModel, lifted and walked (5) -/
set_option maxRecDepth 100000
set_option maxHeartbeats 4000000
section
variable {p : Program} {l : Launch} {e : Env} {s : State} {m : MethodId} {args : Array Value} {below : List Frame} {meth : Method} {c : Code} {D : va_G} {am : Nat → Nat} {cI cJ : ClassId}
section
variable {r : Int32} {Sf : mS}
def fX3_messageOf_b30 (S : mS) : Option (Int32 × mS) :=
  bd2 (fX3_refused (-82) S) fun v1 S1 =>
  some (v1, S1)
theorem wX3_messageOf_b30 (hc : mC p s m args meth c D cI cJ cX3_messageOf 6 (some .int)) (S : mS) (H : Heap) (locs : List Loc) (ls : Array Slot) (hP : va_P D mCl (mws am cI cJ S) H) (hD : va_D (mA am) (mws am cI cJ S)) (hS : va_S (mA am) s.heap H locs) (hl : lv_has ls 6 [(0, .ref (am 0))]) (hf : fX3_messageOf_b30  S = some (r, Sf)) : W p l e (mR 2 45) s m args below meth c H locs 0 0 (mQ below D am cI cJ (some (.int r)) Sf args s) (F0 m 30 ls []) := by
  obtain ⟨hx, hb, hr, hlk, hml, hown, hts, hK⟩ := hc
  have hc : mC p s m args meth c D cI cJ cX3_messageOf 6 (some .int) := ⟨hx, hb, hr, hlk, hml, hown, hts, hK⟩
  unfold fX3_messageOf_b30 at hf
  refine lv_aload_n (pc := 30) hx hb dX3_messageOf_30 rfl (lv_at hl 0 rfl) ?_
  refine lv_bipush (pc := 31) (v := -82) hx hb dX3_messageOf_31 kcbm82 ?_
  obtain ⟨v1, S1, e1, hf⟩ := bd2o hf
  refine m_callV (pc := 33) (As := [.int (-82)]) (rest := []) (st1 := [.int v1]) hc (mX3_refused e1) (cwV 1 hts (lw_V q2899 q2901 qs51 q105 q2902) rfl rfl rfl hdX3_refused ⟨Nat.le_of_ble_eq_true rfl, Nat.le_of_ble_eq_true rfl⟩) rfl hl.1 rfl rfl (lv_room (Nat.le_of_ble_eq_true rfl)) dX3_messageOf_33 hP hD hS (fun H locs hP hD hS => ?_)
  exact m_iret (pc := 36) hx hb hr hlk hP hD hS hf dX3_messageOf_36
def fX3_messageOf_b82 (k68 : Int32 → Int32 → Int32 → mS → Option (Int32 × mS)) : Nat → Int32 → Int32 → Int32 → Int32 → mS → Option (Int32 × mS)
  | 0, _, _, _, _, _ => none
  | n + 1, l1, l3, l4, l5, S =>
    bd2 (fX3_of l4 (nI 35) S) fun v1 S1 =>
    if v1 ≤ l5 then
      k68 l1 l3 (l4 + (nI 1)) S1
    else
      bd2 (fX3_letterOf l4 l5 (nI 0) S1) fun v3 S3 =>
      if v3 = l1 then
        fX3_messageOf_b82 k68 n l1 (l3 + (nI 1)) l4 (l5 + (nI 1)) S3
      else
        fX3_messageOf_b82 k68 n l1 (l3 + (nI 0)) l4 (l5 + (nI 1)) S3
theorem wX3_messageOf_b82 (hc : mC p s m args meth c D cI cJ cX3_messageOf 6 (some .int)) (k68 : Int32 → Int32 → Int32 → mS → Option (Int32 × mS)) (h68 : ∀ (l1 : Int32) (l3 : Int32) (l4 : Int32) (S : mS) (H : Heap) (locs : List Loc) (ls : Array Slot), va_P D mCl (mws am cI cJ S) H → va_D (mA am) (mws am cI cJ S) → va_S (mA am) s.heap H locs → lv_has ls 6 [(0, .ref (am 0)), (1, .int l1), (3, .int l3), (4, .int l4)] → k68 l1 l3 l4 S = some (r, Sf) → W p l e (mR 2 45) s m args below meth c H locs 0 0 (mQ below D am cI cJ (some (.int r)) Sf args s) (F0 m 68 ls [])) : ∀ (n : Nat) (l1 : Int32) (l3 : Int32) (l4 : Int32) (l5 : Int32) (S : mS) (H : Heap) (locs : List Loc) (ls : Array Slot), va_P D mCl (mws am cI cJ S) H → va_D (mA am) (mws am cI cJ S) → va_S (mA am) s.heap H locs → lv_has ls 6 [(0, .ref (am 0)), (1, .int l1), (3, .int l3), (4, .int l4), (5, .int l5)] → fX3_messageOf_b82 k68 n l1 l3 l4 l5 S = some (r, Sf) → W p l e (mR 2 45) s m args below meth c H locs 0 0 (mQ below D am cI cJ (some (.int r)) Sf args s) (F0 m 82 ls []) := by
  obtain ⟨hx, hb, hr, hlk, hml, hown, hts, hK⟩ := hc
  have hc : mC p s m args meth c D cI cJ cX3_messageOf 6 (some .int) := ⟨hx, hb, hr, hlk, hml, hown, hts, hK⟩
  intro n
  induction n with
  | zero => intro l1 l3 l4 l5 S H locs ls _ _ _ _ hf; exact absurd hf (fun h => by cases h)
  | succ n ih =>
    intro l1 l3 l4 l5 S H locs ls hP hD hS hl hf
    rw [fX3_messageOf_b82] at hf
    refine lv_iload (pc := 82) hx hb dX3_messageOf_82 (lv_at hl 4 rfl) ?_
    refine lv_aload_n (pc := 84) hx hb dX3_messageOf_84 rfl (lv_at hl 0 rfl) ?_
    refine lv_iload (pc := 85) hx hb dX3_messageOf_85 (lv_at hl 3 rfl) ?_
    refine lv_bipush (pc := 87) (v := nI 35) hx hb dX3_messageOf_87 kcb35 ?_
    obtain ⟨v1, S1, e1, hf⟩ := bd2o hf
    refine m_callV (pc := 89) (As := [.int l4, .int (nI 35)]) (rest := [.int l5]) (st1 := [.int v1, .int l5]) hc (mX3_of e1) (cwV 2 hts (lw_V q2949 q2951 qs58 q105 q2952) rfl rfl rfl hdX3_of ⟨Nat.le_of_ble_eq_true rfl, Nat.le_of_ble_eq_true rfl⟩) rfl hl.1 rfl rfl (lv_room (Nat.le_of_ble_eq_true rfl)) dX3_messageOf_89 hP hD hS (fun H locs hP hD hS => ?_)
    refine lv_icmp_ge (pc := 92) (tgt := 122) hx hb dX3_messageOf_92 (by decide) (fun c2 => ?_) (fun c2 => ?_)
    · rw [if_pos c2] at hf
      refine lv_iinc (pc := 122) (v := l4 + (nI 1)) (lv' := [(4, .int (l4 + (nI 1))), (0, .ref (am 0)), (1, .int l1), (3, .int l3), (5, .int l5)]) hx hb dX3_messageOf_122 hl (k := 3) rfl rfl (by decide) rfl (fun ls hl => ?_)
      refine lv_goto (pc := 125) (tgt := 68) hx hb dX3_messageOf_125 (by decide) ?_
      exact h68 l1 l3 (l4 + (nI 1)) S1 _ _ ls hP hD hS (lv_sub hl [1, 2, 3, 0] rfl) hf
    · rw [if_neg c2] at hf
      refine lv_iload_n (pc := 95) hx hb dX3_messageOf_95 rfl (lv_at hl 2 rfl) ?_
      refine lv_aload_n (pc := 96) hx hb dX3_messageOf_96 rfl (lv_at hl 0 rfl) ?_
      refine lv_iload (pc := 97) hx hb dX3_messageOf_97 (lv_at hl 3 rfl) ?_
      refine lv_iload (pc := 99) hx hb dX3_messageOf_99 (lv_at hl 4 rfl) ?_
      refine lv_iconst (pc := 101) (v := nI 0) hx hb dX3_messageOf_101 rfl ?_
      obtain ⟨v3, S3, e3, hf⟩ := bd2o hf
      refine m_callV (pc := 102) (As := [.int l4, .int l5, .int (nI 0)]) (rest := [.int l3]) (st1 := [.int v3, .int l3]) hc (mX3_letterOf e3) (cwV 3 hts (lw_V q2991 q2993 qs65 q105 q2994) rfl rfl rfl hdX3_letterOf ⟨Nat.le_of_ble_eq_true rfl, Nat.le_of_ble_eq_true rfl⟩) rfl hl.1 rfl rfl (lv_room (Nat.le_of_ble_eq_true rfl)) dX3_messageOf_102 hP hD hS (fun H locs hP hD hS => ?_)
      refine lv_iload_n (pc := 105) hx hb dX3_messageOf_105 rfl (lv_at hl 1 rfl) ?_
      refine lv_icmp_ne (pc := 106) (tgt := 113) hx hb dX3_messageOf_106 (by decide) (fun c4 => ?_) (fun c4 => ?_)
      · rw [if_neg c4] at hf
        refine lv_iconst (pc := 113) (v := nI 0) hx hb dX3_messageOf_113 rfl ?_
        refine lv_iadd (pc := 114) hx hb dX3_messageOf_114 ?_
        refine lv_istore_n (pc := 115) (lv' := [(3, .int (l3 + (nI 0))), (0, .ref (am 0)), (1, .int l1), (4, .int l4), (5, .int l5)]) hx hb dX3_messageOf_115 rfl hl (by decide) rfl (fun ls hl => ?_)
        refine lv_iinc (pc := 116) (v := l5 + (nI 1)) (lv' := [(5, .int (l5 + (nI 1))), (3, .int (l3 + (nI 0))), (0, .ref (am 0)), (1, .int l1), (4, .int l4)]) hx hb dX3_messageOf_116 hl (k := 4) rfl rfl (by decide) rfl (fun ls hl => ?_)
        refine lv_goto (pc := 119) (tgt := 82) hx hb dX3_messageOf_119 (by decide) ?_
        exact ih l1 (l3 + (nI 0)) l4 (l5 + (nI 1)) S3 _ _ ls hP hD hS (lv_sub hl [2, 3, 1, 4, 0] rfl) hf
      · rw [if_pos c4] at hf
        refine lv_iconst (pc := 109) (v := nI 1) hx hb dX3_messageOf_109 rfl ?_
        refine lv_goto (pc := 110) (tgt := 114) hx hb dX3_messageOf_110 (by decide) ?_
        refine lv_iadd (pc := 114) hx hb dX3_messageOf_114 ?_
        refine lv_istore_n (pc := 115) (lv' := [(3, .int (l3 + (nI 1))), (0, .ref (am 0)), (1, .int l1), (4, .int l4), (5, .int l5)]) hx hb dX3_messageOf_115 rfl hl (by decide) rfl (fun ls hl => ?_)
        refine lv_iinc (pc := 116) (v := l5 + (nI 1)) (lv' := [(5, .int (l5 + (nI 1))), (3, .int (l3 + (nI 1))), (0, .ref (am 0)), (1, .int l1), (4, .int l4)]) hx hb dX3_messageOf_116 hl (k := 4) rfl rfl (by decide) rfl (fun ls hl => ?_)
        refine lv_goto (pc := 119) (tgt := 82) hx hb dX3_messageOf_119 (by decide) ?_
        exact ih l1 (l3 + (nI 1)) l4 (l5 + (nI 1)) S3 _ _ ls hP hD hS (lv_sub hl [2, 3, 1, 4, 0] rfl) hf
def fX3_messageOf_b68 : Nat → Int32 → Int32 → Int32 → mS → Option (Int32 × mS)
  | 0, _, _, _, _ => none
  | n + 1, l1, l3, l4, S =>
    bd (mrd S 0 7919 (nI 0)) fun v1 =>
    if v1 ≤ l4 then
      some (l3, S)
    else
      fX3_messageOf_b82 (fX3_messageOf_b68 n) FU l1 l3 l4 (nI 0) S
theorem wX3_messageOf_b68 (hc : mC p s m args meth c D cI cJ cX3_messageOf 6 (some .int)) : ∀ (n : Nat) (l1 : Int32) (l3 : Int32) (l4 : Int32) (S : mS) (H : Heap) (locs : List Loc) (ls : Array Slot), va_P D mCl (mws am cI cJ S) H → va_D (mA am) (mws am cI cJ S) → va_S (mA am) s.heap H locs → lv_has ls 6 [(0, .ref (am 0)), (1, .int l1), (3, .int l3), (4, .int l4)] → fX3_messageOf_b68 n l1 l3 l4 S = some (r, Sf) → W p l e (mR 2 45) s m args below meth c H locs 0 0 (mQ below D am cI cJ (some (.int r)) Sf args s) (F0 m 68 ls []) := by
  obtain ⟨hx, hb, hr, hlk, hml, hown, hts, hK⟩ := hc
  have hc : mC p s m args meth c D cI cJ cX3_messageOf 6 (some .int) := ⟨hx, hb, hr, hlk, hml, hown, hts, hK⟩
  intro n
  induction n with
  | zero => intro l1 l3 l4 S H locs ls _ _ _ _ hf; exact absurd hf (fun h => by cases h)
  | succ n ih =>
    intro l1 l3 l4 S H locs ls hP hD hS hl hf
    rw [fX3_messageOf_b68] at hf
    refine lv_iload (pc := 68) hx hb dX3_messageOf_68 (lv_at hl 3 rfl) ?_
    refine lv_aload_n (pc := 70) hx hb dX3_messageOf_70 rfl (lv_at hl 0 rfl) ?_
    refine va_get (D := D) (ci := 0) (v := .ref (am 1)) (C := RX3) (T := TX3) (N := 17) (pc := 71) hx hb hts in_X3 hown hK hP 0 rfl rfl 0 (by decide) (hts _ q2839) (fun _ h9 => h9) rfl dX3_messageOf_71 ?_
    refine lv_iconst (pc := 74) (v := nI 0) hx hb dX3_messageOf_74 rfl ?_
    obtain ⟨v1, e1, hf⟩ := bdo hf
    refine m_iald (pc := 75) (k := 0) hx hb hK hP rfl e1 dX3_messageOf_75 ?_
    refine lv_icmp_ge (pc := 76) (tgt := 128) hx hb dX3_messageOf_76 (by decide) (fun c2 => ?_) (fun c2 => ?_)
    · rw [if_pos c2] at hf
      refine lv_iload_n (pc := 128) hx hb dX3_messageOf_128 rfl (lv_at hl 2 rfl) ?_
      exact m_iret (pc := 129) hx hb hr hlk hP hD hS hf dX3_messageOf_129
    · rw [if_neg c2] at hf
      refine lv_iconst (pc := 79) (v := nI 0) hx hb dX3_messageOf_79 rfl ?_
      refine lv_istore (pc := 80) (lv' := [(5, .int (nI 0)), (0, .ref (am 0)), (1, .int l1), (3, .int l3), (4, .int l4)]) hx hb dX3_messageOf_80 hl (by decide) rfl (fun ls hl => ?_)
      exact wX3_messageOf_b82 hc (fX3_messageOf_b68 n) ih FU l1 l3 l4 (nI 0) S _ _ ls hP hD hS (lv_sub hl [1, 2, 3, 4, 0] rfl) hf
def fX3_messageOf (l1 : Int32) (l2 : Int32) (S : mS) : Option (Int32 × mS) :=
  bd (mrd S 0 7919 (nI 2)) fun v1 =>
  bd2 (fX3_in l1.toInt64 (lN 0) ((v1 - (nI 1)).toInt64) S) fun v2 S2 =>
  if v2 = 0 then
    fX3_messageOf_b30  S2
  else
    bd2 (fX3_in l2.toInt64 (lN 0) (lN 5) S2) fun v4 S4 =>
    if v4 = 0 then
      fX3_messageOf_b30  S4
    else
      if (nI 4) ≤ l2 then
        if l2 = (nI 5) then
          bd2 (fX3_message l1 (nI 0) S4) fun v8 S8 =>
          some (v8, S8)
        else
          fX3_messageOf_b68 FU l1 (nI 0) (nI 0) S4
      else
        bd2 (fX3_message l1 ((nI 5) + l2) S4) fun v9 S9 =>
        some (v9, S9)
theorem wX3_messageOf_b0 (hc : mC p s m args meth c D cI cJ cX3_messageOf 6 (some .int)) (l1 : Int32) (l2 : Int32) (S : mS) (H : Heap) (locs : List Loc) (ls : Array Slot) (hP : va_P D mCl (mws am cI cJ S) H) (hD : va_D (mA am) (mws am cI cJ S)) (hS : va_S (mA am) s.heap H locs) (hl : lv_has ls 6 [(0, .ref (am 0)), (1, .int l1), (2, .int l2)]) (hf : fX3_messageOf l1 l2 S = some (r, Sf)) : W p l e (mR 2 45) s m args below meth c H locs 0 0 (mQ below D am cI cJ (some (.int r)) Sf args s) (F0 m 0 ls []) := by
  obtain ⟨hx, hb, hr, hlk, hml, hown, hts, hK⟩ := hc
  have hc : mC p s m args meth c D cI cJ cX3_messageOf 6 (some .int) := ⟨hx, hb, hr, hlk, hml, hown, hts, hK⟩
  unfold fX3_messageOf at hf
  refine lv_iload_n (pc := 0) hx hb dX3_messageOf_0 rfl (lv_at hl 1 rfl) ?_
  refine lv_i2l (pc := 1) hx hb dX3_messageOf_1 rfl ?_
  refine lv_lconst (pc := 2) (v := lN 0) hx hb dX3_messageOf_2 rfl ?_
  refine lv_aload_n (pc := 3) hx hb dX3_messageOf_3 rfl (lv_at hl 0 rfl) ?_
  refine va_get (D := D) (ci := 0) (v := .ref (am 1)) (C := RX3) (T := TX3) (N := 17) (pc := 4) hx hb hts in_X3 hown hK hP 0 rfl rfl 0 (by decide) (hts _ q2839) (fun _ h9 => h9) rfl dX3_messageOf_4 ?_
  refine lv_iconst (pc := 7) (v := nI 2) hx hb dX3_messageOf_7 rfl ?_
  obtain ⟨v1, e1, hf⟩ := bdo hf
  refine m_iald (pc := 8) (k := 0) hx hb hK hP rfl e1 dX3_messageOf_8 ?_
  refine lv_iconst (pc := 9) (v := nI 1) hx hb dX3_messageOf_9 rfl ?_
  refine lv_isub (pc := 10) hx hb dX3_messageOf_10 ?_
  refine lv_i2l (pc := 11) hx hb dX3_messageOf_11 rfl ?_
  obtain ⟨v2, S2, e2, hf⟩ := bd2o hf
  refine m_callS (pc := 12) (As := [.long l1.toInt64, .long (lN 0), .long ((v1 - (nI 1)).toInt64)]) (rest := []) (st1 := [.int v2]) hc (mX3_in e2) (va_cwS 3 hts (lw_S q2896 q2897 q105 q2898) rfl rfl rfl hdX3_in ⟨Nat.le_of_ble_eq_true rfl, Nat.le_of_ble_eq_true rfl⟩) rfl hl.1 rfl rfl (lv_room (Nat.le_of_ble_eq_true rfl)) dX3_messageOf_12 hP hD hS (fun H locs hP hD hS => ?_)
  refine lv_if_eq (pc := 15) (tgt := 30) hx hb dX3_messageOf_15 (by decide) (fun c3 => ?_) (fun c3 => ?_)
  · rw [if_pos c3] at hf
    exact wX3_messageOf_b30 hc  S2 _ _ ls hP hD hS (lv_sub hl [0] rfl) hf
  · rw [if_neg c3] at hf
    refine lv_iload_n (pc := 18) hx hb dX3_messageOf_18 rfl (lv_at hl 2 rfl) ?_
    refine lv_i2l (pc := 19) hx hb dX3_messageOf_19 rfl ?_
    refine lv_lconst (pc := 20) (v := lN 0) hx hb dX3_messageOf_20 rfl ?_
    refine lv_ldc2 (pc := 21) (v := lN 5) hx hb hown (hts _ q2930) dX3_messageOf_21 ?_
    obtain ⟨v4, S4, e4, hf⟩ := bd2o hf
    refine m_callS (pc := 24) (As := [.long l2.toInt64, .long (lN 0), .long (lN 5)]) (rest := []) (st1 := [.int v4]) hc (mX3_in e4) (va_cwS 3 hts (lw_S q2896 q2897 q105 q2898) rfl rfl rfl hdX3_in ⟨Nat.le_of_ble_eq_true rfl, Nat.le_of_ble_eq_true rfl⟩) rfl hl.1 rfl rfl (lv_room (Nat.le_of_ble_eq_true rfl)) dX3_messageOf_24 hP hD hS (fun H locs hP hD hS => ?_)
    refine lv_if_ne (pc := 27) (tgt := 37) hx hb dX3_messageOf_27 (by decide) (fun c5 => ?_) (fun c5 => ?_)
    · rw [if_neg c5] at hf
      refine lv_iload_n (pc := 37) hx hb dX3_messageOf_37 rfl (lv_at hl 2 rfl) ?_
      refine lv_iconst (pc := 38) (v := nI 4) hx hb dX3_messageOf_38 rfl ?_
      refine lv_icmp_ge (pc := 39) (tgt := 51) hx hb dX3_messageOf_39 (by decide) (fun c6 => ?_) (fun c6 => ?_)
      · rw [if_pos c6] at hf
        refine lv_iload_n (pc := 51) hx hb dX3_messageOf_51 rfl (lv_at hl 2 rfl) ?_
        refine lv_iconst (pc := 52) (v := nI 5) hx hb dX3_messageOf_52 rfl ?_
        refine lv_icmp_ne (pc := 53) (tgt := 63) hx hb dX3_messageOf_53 (by decide) (fun c7 => ?_) (fun c7 => ?_)
        · rw [if_neg c7] at hf
          refine lv_iconst (pc := 63) (v := nI 0) hx hb dX3_messageOf_63 rfl ?_
          refine lv_istore_n (pc := 64) (lv' := [(3, .int (nI 0)), (0, .ref (am 0)), (1, .int l1), (2, .int l2)]) hx hb dX3_messageOf_64 rfl hl (by decide) rfl (fun ls hl => ?_)
          refine lv_iconst (pc := 65) (v := nI 0) hx hb dX3_messageOf_65 rfl ?_
          refine lv_istore (pc := 66) (lv' := [(4, .int (nI 0)), (3, .int (nI 0)), (0, .ref (am 0)), (1, .int l1), (2, .int l2)]) hx hb dX3_messageOf_66 hl (by decide) rfl (fun ls hl => ?_)
          exact wX3_messageOf_b68 hc FU l1 (nI 0) (nI 0) S4 _ _ ls hP hD hS (lv_sub hl [2, 3, 1, 0] rfl) hf
        · rw [if_pos c7] at hf
          refine lv_aload_n (pc := 56) hx hb dX3_messageOf_56 rfl (lv_at hl 0 rfl) ?_
          refine lv_iload_n (pc := 57) hx hb dX3_messageOf_57 rfl (lv_at hl 1 rfl) ?_
          refine lv_iconst (pc := 58) (v := nI 0) hx hb dX3_messageOf_58 rfl ?_
          obtain ⟨v8, S8, e8, hf⟩ := bd2o hf
          refine m_callV (pc := 59) (As := [.int l1, .int (nI 0)]) (rest := []) (st1 := [.int v8]) hc (mX3_message e8) (cwV 2 hts (lw_V q3019 q3021 qs71 q105 q3022) rfl rfl rfl hdX3_message ⟨Nat.le_of_ble_eq_true rfl, Nat.le_of_ble_eq_true rfl⟩) rfl hl.1 rfl rfl (lv_room (Nat.le_of_ble_eq_true rfl)) dX3_messageOf_59 hP hD hS (fun H locs hP hD hS => ?_)
          exact m_iret (pc := 62) hx hb hr hlk hP hD hS hf dX3_messageOf_62
      · rw [if_neg c6] at hf
        refine lv_aload_n (pc := 42) hx hb dX3_messageOf_42 rfl (lv_at hl 0 rfl) ?_
        refine lv_iload_n (pc := 43) hx hb dX3_messageOf_43 rfl (lv_at hl 1 rfl) ?_
        refine lv_iconst (pc := 44) (v := nI 5) hx hb dX3_messageOf_44 rfl ?_
        refine lv_iload_n (pc := 45) hx hb dX3_messageOf_45 rfl (lv_at hl 2 rfl) ?_
        refine lv_iadd (pc := 46) hx hb dX3_messageOf_46 ?_
        obtain ⟨v9, S9, e9, hf⟩ := bd2o hf
        refine m_callV (pc := 47) (As := [.int l1, .int ((nI 5) + l2)]) (rest := []) (st1 := [.int v9]) hc (mX3_message e9) (cwV 2 hts (lw_V q3019 q3021 qs71 q105 q3022) rfl rfl rfl hdX3_message ⟨Nat.le_of_ble_eq_true rfl, Nat.le_of_ble_eq_true rfl⟩) rfl hl.1 rfl rfl (lv_room (Nat.le_of_ble_eq_true rfl)) dX3_messageOf_47 hP hD hS (fun H locs hP hD hS => ?_)
        exact m_iret (pc := 50) hx hb hr hlk hP hD hS hf dX3_messageOf_50
    · rw [if_pos c5] at hf
      exact wX3_messageOf_b30 hc  S4 _ _ ls hP hD hS (lv_sub hl [0] rfl) hf
theorem mX3_messageOf {S S2 : mS} {r2 : Int32} {l1 : Int32} {l2 : Int32} (hf : fX3_messageOf l1 l2 S = some (r2, S2)) : mMet l yX3_messageOf cX3_messageOf 6 (some .int) 2 45 D am cI cJ [.ref (am 0), .int l1, .int l2] S (some (.int r2)) S2 := by
  exact m_start (by decide) rfl (Nat.le_of_ble_eq_true rfl) (fun p e s m args below meth c ls hc hl hP hD => wX3_messageOf_b0 hc l1 l2 S _ _ ls hP hD va_S.rf (lv_sub hl [0, 1, 2] rfl) hf)
end
section
variable {r : Int32} {Sf : mS}
def fX3_dead_b48 (S : mS) : Option (Int32 × mS) :=
  bd2 (fX3_refused (-82) S) fun v1 S1 =>
  some (v1, S1)
theorem wX3_dead_b48 (hc : mC p s m args meth c D cI cJ cX3_dead 3 (some .int)) (S : mS) (H : Heap) (locs : List Loc) (ls : Array Slot) (hP : va_P D mCl (mws am cI cJ S) H) (hD : va_D (mA am) (mws am cI cJ S)) (hS : va_S (mA am) s.heap H locs) (hl : lv_has ls 3 [(0, .ref (am 0))]) (hf : fX3_dead_b48  S = some (r, Sf)) : W p l e (mR 1 25) s m args below meth c H locs 0 0 (mQ below D am cI cJ (some (.int r)) Sf args s) (F0 m 48 ls []) := by
  obtain ⟨hx, hb, hr, hlk, hml, hown, hts, hK⟩ := hc
  have hc : mC p s m args meth c D cI cJ cX3_dead 3 (some .int) := ⟨hx, hb, hr, hlk, hml, hown, hts, hK⟩
  unfold fX3_dead_b48 at hf
  refine lv_aload_n (pc := 48) hx hb dX3_dead_48 rfl (lv_at hl 0 rfl) ?_
  refine lv_bipush (pc := 49) (v := -82) hx hb dX3_dead_49 kcbm82 ?_
  obtain ⟨v1, S1, e1, hf⟩ := bd2o hf
  refine m_callV (pc := 51) (As := [.int (-82)]) (rest := []) (st1 := [.int v1]) hc (mX3_refused e1) (cwV 1 hts (lw_V q2899 q2901 qs51 q105 q2902) rfl rfl rfl hdX3_refused ⟨Nat.le_of_ble_eq_true rfl, Nat.le_of_ble_eq_true rfl⟩) rfl hl.1 rfl rfl (lv_room (Nat.le_of_ble_eq_true rfl)) dX3_dead_51 hP hD hS (fun H locs hP hD hS => ?_)
  exact m_iret (pc := 54) hx hb hr hlk hP hD hS hf dX3_dead_54
def fX3_dead (l1 : Int32) (l2 : Int32) (S : mS) : Option (Int32 × mS) :=
  bd (mrd S 0 7919 (nI 3)) fun v1 =>
  bd2 (fX3_in l1.toInt64 (lN 0) ((v1 - (nI 1)).toInt64) S) fun v2 S2 =>
  if v2 = 0 then
    fX3_dead_b48  S2
  else
    bd2 (fX3_in l2.toInt64 (lN 0) (lN 3) S2) fun v4 S4 =>
    if v4 = 0 then
      fX3_dead_b48  S4
    else
      bd (mrd S4 0 7919 (((nI 2751) + ((nI 24) * l1)) + l2)) fun v6 =>
      some (v6, S4)
theorem wX3_dead_b0 (hc : mC p s m args meth c D cI cJ cX3_dead 3 (some .int)) (l1 : Int32) (l2 : Int32) (S : mS) (H : Heap) (locs : List Loc) (ls : Array Slot) (hP : va_P D mCl (mws am cI cJ S) H) (hD : va_D (mA am) (mws am cI cJ S)) (hS : va_S (mA am) s.heap H locs) (hl : lv_has ls 3 [(0, .ref (am 0)), (1, .int l1), (2, .int l2)]) (hf : fX3_dead l1 l2 S = some (r, Sf)) : W p l e (mR 1 25) s m args below meth c H locs 0 0 (mQ below D am cI cJ (some (.int r)) Sf args s) (F0 m 0 ls []) := by
  obtain ⟨hx, hb, hr, hlk, hml, hown, hts, hK⟩ := hc
  have hc : mC p s m args meth c D cI cJ cX3_dead 3 (some .int) := ⟨hx, hb, hr, hlk, hml, hown, hts, hK⟩
  unfold fX3_dead at hf
  refine lv_iload_n (pc := 0) hx hb dX3_dead_0 rfl (lv_at hl 1 rfl) ?_
  refine lv_i2l (pc := 1) hx hb dX3_dead_1 rfl ?_
  refine lv_lconst (pc := 2) (v := lN 0) hx hb dX3_dead_2 rfl ?_
  refine lv_aload_n (pc := 3) hx hb dX3_dead_3 rfl (lv_at hl 0 rfl) ?_
  refine va_get (D := D) (ci := 0) (v := .ref (am 1)) (C := RX3) (T := TX3) (N := 17) (pc := 4) hx hb hts in_X3 hown hK hP 0 rfl rfl 0 (by decide) (hts _ q2839) (fun _ h9 => h9) rfl dX3_dead_4 ?_
  refine lv_iconst (pc := 7) (v := nI 3) hx hb dX3_dead_7 rfl ?_
  obtain ⟨v1, e1, hf⟩ := bdo hf
  refine m_iald (pc := 8) (k := 0) hx hb hK hP rfl e1 dX3_dead_8 ?_
  refine lv_iconst (pc := 9) (v := nI 1) hx hb dX3_dead_9 rfl ?_
  refine lv_isub (pc := 10) hx hb dX3_dead_10 ?_
  refine lv_i2l (pc := 11) hx hb dX3_dead_11 rfl ?_
  obtain ⟨v2, S2, e2, hf⟩ := bd2o hf
  refine m_callS (pc := 12) (As := [.long l1.toInt64, .long (lN 0), .long ((v1 - (nI 1)).toInt64)]) (rest := []) (st1 := [.int v2]) hc (mX3_in e2) (va_cwS 3 hts (lw_S q2896 q2897 q105 q2898) rfl rfl rfl hdX3_in ⟨Nat.le_of_ble_eq_true rfl, Nat.le_of_ble_eq_true rfl⟩) rfl hl.1 rfl rfl (lv_room (Nat.le_of_ble_eq_true rfl)) dX3_dead_12 hP hD hS (fun H locs hP hD hS => ?_)
  refine lv_if_eq (pc := 15) (tgt := 48) hx hb dX3_dead_15 (by decide) (fun c3 => ?_) (fun c3 => ?_)
  · rw [if_pos c3] at hf
    exact wX3_dead_b48 hc  S2 _ _ ls hP hD hS (lv_sub hl [0] rfl) hf
  · rw [if_neg c3] at hf
    refine lv_iload_n (pc := 18) hx hb dX3_dead_18 rfl (lv_at hl 2 rfl) ?_
    refine lv_i2l (pc := 19) hx hb dX3_dead_19 rfl ?_
    refine lv_lconst (pc := 20) (v := lN 0) hx hb dX3_dead_20 rfl ?_
    refine lv_ldc2 (pc := 21) (v := lN 3) hx hb hown (hts _ q2974) dX3_dead_21 ?_
    obtain ⟨v4, S4, e4, hf⟩ := bd2o hf
    refine m_callS (pc := 24) (As := [.long l2.toInt64, .long (lN 0), .long (lN 3)]) (rest := []) (st1 := [.int v4]) hc (mX3_in e4) (va_cwS 3 hts (lw_S q2896 q2897 q105 q2898) rfl rfl rfl hdX3_in ⟨Nat.le_of_ble_eq_true rfl, Nat.le_of_ble_eq_true rfl⟩) rfl hl.1 rfl rfl (lv_room (Nat.le_of_ble_eq_true rfl)) dX3_dead_24 hP hD hS (fun H locs hP hD hS => ?_)
    refine lv_if_eq (pc := 27) (tgt := 48) hx hb dX3_dead_27 (by decide) (fun c5 => ?_) (fun c5 => ?_)
    · rw [if_pos c5] at hf
      exact wX3_dead_b48 hc  S4 _ _ ls hP hD hS (lv_sub hl [0] rfl) hf
    · rw [if_neg c5] at hf
      refine lv_aload_n (pc := 30) hx hb dX3_dead_30 rfl (lv_at hl 0 rfl) ?_
      refine va_get (D := D) (ci := 0) (v := .ref (am 1)) (C := RX3) (T := TX3) (N := 17) (pc := 31) hx hb hts in_X3 hown hK hP 0 rfl rfl 0 (by decide) (hts _ q2839) (fun _ h9 => h9) rfl dX3_dead_31 ?_
      refine lv_sipush (pc := 34) (v := nI 2751) hx hb dX3_dead_34 kcs2751 ?_
      refine lv_bipush (pc := 37) (v := nI 24) hx hb dX3_dead_37 kcb24 ?_
      refine lv_iload_n (pc := 39) hx hb dX3_dead_39 rfl (lv_at hl 1 rfl) ?_
      refine lv_imul (pc := 40) hx hb dX3_dead_40 ?_
      refine lv_iadd (pc := 41) hx hb dX3_dead_41 ?_
      refine lv_iload_n (pc := 42) hx hb dX3_dead_42 rfl (lv_at hl 2 rfl) ?_
      refine lv_iadd (pc := 43) hx hb dX3_dead_43 ?_
      obtain ⟨v6, e6, hf⟩ := bdo hf
      refine m_iald (pc := 44) (k := 0) hx hb hK hP rfl e6 dX3_dead_44 ?_
      refine lv_goto (pc := 45) (tgt := 54) hx hb dX3_dead_45 (by decide) ?_
      exact m_iret (pc := 54) hx hb hr hlk hP hD hS hf dX3_dead_54
theorem mX3_dead {S S2 : mS} {r2 : Int32} {l1 : Int32} {l2 : Int32} (hf : fX3_dead l1 l2 S = some (r2, S2)) : mMet l yX3_dead cX3_dead 3 (some .int) 1 25 D am cI cJ [.ref (am 0), .int l1, .int l2] S (some (.int r2)) S2 := by
  exact m_start (by decide) rfl (Nat.le_of_ble_eq_true rfl) (fun p e s m args below meth c ls hc hl hP hD => wX3_dead_b0 hc l1 l2 S _ _ ls hP hD va_S.rf (lv_sub hl [0, 1, 2] rfl) hf)
end
section
variable {r : Int32} {Sf : mS}
def fX3_cause_b43 (S : mS) : Option (Int32 × mS) :=
  bd2 (fX3_refused (-82) S) fun v1 S1 =>
  some (v1, S1)
theorem wX3_cause_b43 (hc : mC p s m args meth c D cI cJ cX3_cause 4 (some .int)) (S : mS) (H : Heap) (locs : List Loc) (ls : Array Slot) (hP : va_P D mCl (mws am cI cJ S) H) (hD : va_D (mA am) (mws am cI cJ S)) (hS : va_S (mA am) s.heap H locs) (hl : lv_has ls 4 [(0, .ref (am 0))]) (hf : fX3_cause_b43  S = some (r, Sf)) : W p l e (mR 2 47) s m args below meth c H locs 0 0 (mQ below D am cI cJ (some (.int r)) Sf args s) (F0 m 43 ls []) := by
  obtain ⟨hx, hb, hr, hlk, hml, hown, hts, hK⟩ := hc
  have hc : mC p s m args meth c D cI cJ cX3_cause 4 (some .int) := ⟨hx, hb, hr, hlk, hml, hown, hts, hK⟩
  unfold fX3_cause_b43 at hf
  refine lv_aload_n (pc := 43) hx hb dX3_cause_43 rfl (lv_at hl 0 rfl) ?_
  refine lv_bipush (pc := 44) (v := -82) hx hb dX3_cause_44 kcbm82 ?_
  obtain ⟨v1, S1, e1, hf⟩ := bd2o hf
  refine m_callV (pc := 46) (As := [.int (-82)]) (rest := []) (st1 := [.int v1]) hc (mX3_refused e1) (cwV 1 hts (lw_V q2899 q2901 qs51 q105 q2902) rfl rfl rfl hdX3_refused ⟨Nat.le_of_ble_eq_true rfl, Nat.le_of_ble_eq_true rfl⟩) rfl hl.1 rfl rfl (lv_room (Nat.le_of_ble_eq_true rfl)) dX3_cause_46 hP hD hS (fun H locs hP hD hS => ?_)
  exact m_iret (pc := 49) hx hb hr hlk hP hD hS hf dX3_cause_49
def fX3_cause (l1 : Int32) (l2 : Int32) (l3 : Int32) (S : mS) : Option (Int32 × mS) :=
  bd2 (fX3_isCause l1 l2 S) fun v1 S1 =>
  if v1 = 0 then
    fX3_cause_b43  S1
  else
    bd2 (fX3_in l3.toInt64 (lN 0) (lN 1) S1) fun v3 S3 =>
    if v3 = 0 then
      fX3_cause_b43  S3
    else
      bd (mrd S3 0 7919 (((((nI 2751) + ((nI 24) * l1)) + (nI 4)) + ((nI 4) * l2)) + l3)) fun v5 =>
      some (v5, S3)
theorem wX3_cause_b0 (hc : mC p s m args meth c D cI cJ cX3_cause 4 (some .int)) (l1 : Int32) (l2 : Int32) (l3 : Int32) (S : mS) (H : Heap) (locs : List Loc) (ls : Array Slot) (hP : va_P D mCl (mws am cI cJ S) H) (hD : va_D (mA am) (mws am cI cJ S)) (hS : va_S (mA am) s.heap H locs) (hl : lv_has ls 4 [(0, .ref (am 0)), (1, .int l1), (2, .int l2), (3, .int l3)]) (hf : fX3_cause l1 l2 l3 S = some (r, Sf)) : W p l e (mR 2 47) s m args below meth c H locs 0 0 (mQ below D am cI cJ (some (.int r)) Sf args s) (F0 m 0 ls []) := by
  obtain ⟨hx, hb, hr, hlk, hml, hown, hts, hK⟩ := hc
  have hc : mC p s m args meth c D cI cJ cX3_cause 4 (some .int) := ⟨hx, hb, hr, hlk, hml, hown, hts, hK⟩
  unfold fX3_cause at hf
  refine lv_aload_n (pc := 0) hx hb dX3_cause_0 rfl (lv_at hl 0 rfl) ?_
  refine lv_iload_n (pc := 1) hx hb dX3_cause_1 rfl (lv_at hl 1 rfl) ?_
  refine lv_iload_n (pc := 2) hx hb dX3_cause_2 rfl (lv_at hl 2 rfl) ?_
  obtain ⟨v1, S1, e1, hf⟩ := bd2o hf
  refine m_callV (pc := 3) (As := [.int l1, .int l2]) (rest := []) (st1 := [.int v1]) hc (mX3_isCause e1) (cwV 2 hts (lw_V q3171 q3173 qs90 q105 q3174) rfl rfl rfl hdX3_isCause ⟨Nat.le_of_ble_eq_true rfl, Nat.le_of_ble_eq_true rfl⟩) rfl hl.1 rfl rfl (lv_room (Nat.le_of_ble_eq_true rfl)) dX3_cause_3 hP hD hS (fun H locs hP hD hS => ?_)
  refine lv_if_eq (pc := 6) (tgt := 43) hx hb dX3_cause_6 (by decide) (fun c2 => ?_) (fun c2 => ?_)
  · rw [if_pos c2] at hf
    exact wX3_cause_b43 hc  S1 _ _ ls hP hD hS (lv_sub hl [0] rfl) hf
  · rw [if_neg c2] at hf
    refine lv_iload_n (pc := 9) hx hb dX3_cause_9 rfl (lv_at hl 3 rfl) ?_
    refine lv_i2l (pc := 10) hx hb dX3_cause_10 rfl ?_
    refine lv_lconst (pc := 11) (v := lN 0) hx hb dX3_cause_11 rfl ?_
    refine lv_lconst (pc := 12) (v := lN 1) hx hb dX3_cause_12 rfl ?_
    obtain ⟨v3, S3, e3, hf⟩ := bd2o hf
    refine m_callS (pc := 13) (As := [.long l3.toInt64, .long (lN 0), .long (lN 1)]) (rest := []) (st1 := [.int v3]) hc (mX3_in e3) (va_cwS 3 hts (lw_S q2896 q2897 q105 q2898) rfl rfl rfl hdX3_in ⟨Nat.le_of_ble_eq_true rfl, Nat.le_of_ble_eq_true rfl⟩) rfl hl.1 rfl rfl (lv_room (Nat.le_of_ble_eq_true rfl)) dX3_cause_13 hP hD hS (fun H locs hP hD hS => ?_)
    refine lv_if_eq (pc := 16) (tgt := 43) hx hb dX3_cause_16 (by decide) (fun c4 => ?_) (fun c4 => ?_)
    · rw [if_pos c4] at hf
      exact wX3_cause_b43 hc  S3 _ _ ls hP hD hS (lv_sub hl [0] rfl) hf
    · rw [if_neg c4] at hf
      refine lv_aload_n (pc := 19) hx hb dX3_cause_19 rfl (lv_at hl 0 rfl) ?_
      refine va_get (D := D) (ci := 0) (v := .ref (am 1)) (C := RX3) (T := TX3) (N := 17) (pc := 20) hx hb hts in_X3 hown hK hP 0 rfl rfl 0 (by decide) (hts _ q2839) (fun _ h9 => h9) rfl dX3_cause_20 ?_
      refine lv_sipush (pc := 23) (v := nI 2751) hx hb dX3_cause_23 kcs2751 ?_
      refine lv_bipush (pc := 26) (v := nI 24) hx hb dX3_cause_26 kcb24 ?_
      refine lv_iload_n (pc := 28) hx hb dX3_cause_28 rfl (lv_at hl 1 rfl) ?_
      refine lv_imul (pc := 29) hx hb dX3_cause_29 ?_
      refine lv_iadd (pc := 30) hx hb dX3_cause_30 ?_
      refine lv_iconst (pc := 31) (v := nI 4) hx hb dX3_cause_31 rfl ?_
      refine lv_iadd (pc := 32) hx hb dX3_cause_32 ?_
      refine lv_iconst (pc := 33) (v := nI 4) hx hb dX3_cause_33 rfl ?_
      refine lv_iload_n (pc := 34) hx hb dX3_cause_34 rfl (lv_at hl 2 rfl) ?_
      refine lv_imul (pc := 35) hx hb dX3_cause_35 ?_
      refine lv_iadd (pc := 36) hx hb dX3_cause_36 ?_
      refine lv_iload_n (pc := 37) hx hb dX3_cause_37 rfl (lv_at hl 3 rfl) ?_
      refine lv_iadd (pc := 38) hx hb dX3_cause_38 ?_
      obtain ⟨v5, e5, hf⟩ := bdo hf
      refine m_iald (pc := 39) (k := 0) hx hb hK hP rfl e5 dX3_cause_39 ?_
      refine lv_goto (pc := 40) (tgt := 49) hx hb dX3_cause_40 (by decide) ?_
      exact m_iret (pc := 49) hx hb hr hlk hP hD hS hf dX3_cause_49
theorem mX3_cause {S S2 : mS} {r2 : Int32} {l1 : Int32} {l2 : Int32} {l3 : Int32} (hf : fX3_cause l1 l2 l3 S = some (r2, S2)) : mMet l yX3_cause cX3_cause 4 (some .int) 2 47 D am cI cJ [.ref (am 0), .int l1, .int l2, .int l3] S (some (.int r2)) S2 := by
  exact m_start (by decide) rfl (Nat.le_of_ble_eq_true rfl) (fun p e s m args below meth c ls hc hl hP hD => wX3_cause_b0 hc l1 l2 l3 S _ _ ls hP hD va_S.rf (lv_sub hl [0, 1, 2, 3] rfl) hf)
end
section
variable {r : Int32} {Sf : mS}
def fX3_fits_b21 : Nat → Int32 → Int32 → mS → Option (Int32 × mS)
  | 0, _, _, _ => none
  | n + 1, l1, l2, S =>
    bd (mrd S 0 7919 (nI 0)) fun v1 =>
    if v1 ≤ l2 then
      some (l1, S)
    else
      bd2 (fX3_isFit l2 S) fun v3 S3 =>
      if v3 = 0 then
        fX3_fits_b21 n (l1 ||| (nI 0)) (l2 + (nI 1)) S3
      else
        fX3_fits_b21 n (l1 ||| ((nI 1) <<< (l2 &&& 31))) (l2 + (nI 1)) S3
theorem wX3_fits_b21 (hc : mC p s m args meth c D cI cJ cX3_fits 3 (some .int)) : ∀ (n : Nat) (l1 : Int32) (l2 : Int32) (S : mS) (H : Heap) (locs : List Loc) (ls : Array Slot), va_P D mCl (mws am cI cJ S) H → va_D (mA am) (mws am cI cJ S) → va_S (mA am) s.heap H locs → lv_has ls 3 [(0, .ref (am 0)), (1, .int l1), (2, .int l2)] → fX3_fits_b21 n l1 l2 S = some (r, Sf) → W p l e (mR 3 67) s m args below meth c H locs 0 0 (mQ below D am cI cJ (some (.int r)) Sf args s) (F0 m 21 ls []) := by
  obtain ⟨hx, hb, hr, hlk, hml, hown, hts, hK⟩ := hc
  have hc : mC p s m args meth c D cI cJ cX3_fits 3 (some .int) := ⟨hx, hb, hr, hlk, hml, hown, hts, hK⟩
  intro n
  induction n with
  | zero => intro l1 l2 S H locs ls _ _ _ _ hf; exact absurd hf (fun h => by cases h)
  | succ n ih =>
    intro l1 l2 S H locs ls hP hD hS hl hf
    rw [fX3_fits_b21] at hf
    refine lv_iload_n (pc := 21) hx hb dX3_fits_21 rfl (lv_at hl 2 rfl) ?_
    refine lv_aload_n (pc := 22) hx hb dX3_fits_22 rfl (lv_at hl 0 rfl) ?_
    refine va_get (D := D) (ci := 0) (v := .ref (am 1)) (C := RX3) (T := TX3) (N := 17) (pc := 23) hx hb hts in_X3 hown hK hP 0 rfl rfl 0 (by decide) (hts _ q2839) (fun _ h9 => h9) rfl dX3_fits_23 ?_
    refine lv_iconst (pc := 26) (v := nI 0) hx hb dX3_fits_26 rfl ?_
    obtain ⟨v1, e1, hf⟩ := bdo hf
    refine m_iald (pc := 27) (k := 0) hx hb hK hP rfl e1 dX3_fits_27 ?_
    refine lv_icmp_ge (pc := 28) (tgt := 55) hx hb dX3_fits_28 (by decide) (fun c2 => ?_) (fun c2 => ?_)
    · rw [if_pos c2] at hf
      refine lv_iload_n (pc := 55) hx hb dX3_fits_55 rfl (lv_at hl 1 rfl) ?_
      exact m_iret (pc := 56) hx hb hr hlk hP hD hS hf dX3_fits_56
    · rw [if_neg c2] at hf
      refine lv_iload_n (pc := 31) hx hb dX3_fits_31 rfl (lv_at hl 1 rfl) ?_
      refine lv_aload_n (pc := 32) hx hb dX3_fits_32 rfl (lv_at hl 0 rfl) ?_
      refine lv_iload_n (pc := 33) hx hb dX3_fits_33 rfl (lv_at hl 2 rfl) ?_
      obtain ⟨v3, S3, e3, hf⟩ := bd2o hf
      refine m_callV (pc := 34) (As := [.int l2]) (rest := [.int l1]) (st1 := [.int v3, .int l1]) hc (mX3_isFit e3) (cwV 1 hts (lw_V q2941 q2943 qs56 q105 q2944) rfl rfl rfl hdX3_isFit ⟨Nat.le_of_ble_eq_true rfl, Nat.le_of_ble_eq_true rfl⟩) rfl hl.1 rfl rfl (lv_room (Nat.le_of_ble_eq_true rfl)) dX3_fits_34 hP hD hS (fun H locs hP hD hS => ?_)
      refine lv_if_eq (pc := 37) (tgt := 46) hx hb dX3_fits_37 (by decide) (fun c4 => ?_) (fun c4 => ?_)
      · rw [if_pos c4] at hf
        refine lv_iconst (pc := 46) (v := nI 0) hx hb dX3_fits_46 rfl ?_
        refine lv_ior (pc := 47) hx hb dX3_fits_47 ?_
        refine lv_istore_n (pc := 48) (lv' := [(1, .int (l1 ||| (nI 0))), (0, .ref (am 0)), (2, .int l2)]) hx hb dX3_fits_48 rfl hl (by decide) rfl (fun ls hl => ?_)
        refine lv_iinc (pc := 49) (v := l2 + (nI 1)) (lv' := [(2, .int (l2 + (nI 1))), (1, .int (l1 ||| (nI 0))), (0, .ref (am 0))]) hx hb dX3_fits_49 hl (k := 2) rfl rfl (by decide) rfl (fun ls hl => ?_)
        refine lv_goto (pc := 52) (tgt := 21) hx hb dX3_fits_52 (by decide) ?_
        exact ih (l1 ||| (nI 0)) (l2 + (nI 1)) S3 _ _ ls hP hD hS (lv_sub hl [2, 1, 0] rfl) hf
      · rw [if_neg c4] at hf
        refine lv_iconst (pc := 40) (v := nI 1) hx hb dX3_fits_40 rfl ?_
        refine lv_iload_n (pc := 41) hx hb dX3_fits_41 rfl (lv_at hl 2 rfl) ?_
        refine lv_ishl (pc := 42) hx hb dX3_fits_42 ?_
        refine lv_goto (pc := 43) (tgt := 47) hx hb dX3_fits_43 (by decide) ?_
        refine lv_ior (pc := 47) hx hb dX3_fits_47 ?_
        refine lv_istore_n (pc := 48) (lv' := [(1, .int (l1 ||| ((nI 1) <<< (l2 &&& 31)))), (0, .ref (am 0)), (2, .int l2)]) hx hb dX3_fits_48 rfl hl (by decide) rfl (fun ls hl => ?_)
        refine lv_iinc (pc := 49) (v := l2 + (nI 1)) (lv' := [(2, .int (l2 + (nI 1))), (1, .int (l1 ||| ((nI 1) <<< (l2 &&& 31)))), (0, .ref (am 0))]) hx hb dX3_fits_49 hl (k := 2) rfl rfl (by decide) rfl (fun ls hl => ?_)
        refine lv_goto (pc := 52) (tgt := 21) hx hb dX3_fits_52 (by decide) ?_
        exact ih (l1 ||| ((nI 1) <<< (l2 &&& 31))) (l2 + (nI 1)) S3 _ _ ls hP hD hS (lv_sub hl [2, 1, 0] rfl) hf
def fX3_fits (S : mS) : Option (Int32 × mS) :=
  bd (mrd S 0 7919 (nI 6)) fun v1 =>
  if v1 = 0 then
    bd2 (fX3_refused (-85) S) fun v3 S3 =>
    some (v3, S3)
  else
    fX3_fits_b21 FU (nI 0) (nI 0) S
theorem wX3_fits_b0 (hc : mC p s m args meth c D cI cJ cX3_fits 3 (some .int)) (S : mS) (H : Heap) (locs : List Loc) (ls : Array Slot) (hP : va_P D mCl (mws am cI cJ S) H) (hD : va_D (mA am) (mws am cI cJ S)) (hS : va_S (mA am) s.heap H locs) (hl : lv_has ls 3 [(0, .ref (am 0))]) (hf : fX3_fits  S = some (r, Sf)) : W p l e (mR 3 67) s m args below meth c H locs 0 0 (mQ below D am cI cJ (some (.int r)) Sf args s) (F0 m 0 ls []) := by
  obtain ⟨hx, hb, hr, hlk, hml, hown, hts, hK⟩ := hc
  have hc : mC p s m args meth c D cI cJ cX3_fits 3 (some .int) := ⟨hx, hb, hr, hlk, hml, hown, hts, hK⟩
  unfold fX3_fits at hf
  refine lv_aload_n (pc := 0) hx hb dX3_fits_0 rfl (lv_at hl 0 rfl) ?_
  refine va_get (D := D) (ci := 0) (v := .ref (am 1)) (C := RX3) (T := TX3) (N := 17) (pc := 1) hx hb hts in_X3 hown hK hP 0 rfl rfl 0 (by decide) (hts _ q2839) (fun _ h9 => h9) rfl dX3_fits_1 ?_
  refine lv_bipush (pc := 4) (v := nI 6) hx hb dX3_fits_4 kcb6 ?_
  obtain ⟨v1, e1, hf⟩ := bdo hf
  refine m_iald (pc := 6) (k := 0) hx hb hK hP rfl e1 dX3_fits_6 ?_
  refine lv_if_ne (pc := 7) (tgt := 17) hx hb dX3_fits_7 (by decide) (fun c2 => ?_) (fun c2 => ?_)
  · rw [if_neg c2] at hf
    refine lv_iconst (pc := 17) (v := nI 0) hx hb dX3_fits_17 rfl ?_
    refine lv_istore_n (pc := 18) (lv' := [(1, .int (nI 0)), (0, .ref (am 0))]) hx hb dX3_fits_18 rfl hl (by decide) rfl (fun ls hl => ?_)
    refine lv_iconst (pc := 19) (v := nI 0) hx hb dX3_fits_19 rfl ?_
    refine lv_istore_n (pc := 20) (lv' := [(2, .int (nI 0)), (1, .int (nI 0)), (0, .ref (am 0))]) hx hb dX3_fits_20 rfl hl (by decide) rfl (fun ls hl => ?_)
    exact wX3_fits_b21 hc FU (nI 0) (nI 0) S _ _ ls hP hD hS (lv_sub hl [2, 1, 0] rfl) hf
  · rw [if_pos c2] at hf
    refine lv_aload_n (pc := 10) hx hb dX3_fits_10 rfl (lv_at hl 0 rfl) ?_
    refine lv_bipush (pc := 11) (v := -85) hx hb dX3_fits_11 kcbm85 ?_
    obtain ⟨v3, S3, e3, hf⟩ := bd2o hf
    refine m_callV (pc := 13) (As := [.int (-85)]) (rest := []) (st1 := [.int v3]) hc (mX3_refused e3) (cwV 1 hts (lw_V q2899 q2901 qs51 q105 q2902) rfl rfl rfl hdX3_refused ⟨Nat.le_of_ble_eq_true rfl, Nat.le_of_ble_eq_true rfl⟩) rfl hl.1 rfl rfl (lv_room (Nat.le_of_ble_eq_true rfl)) dX3_fits_13 hP hD hS (fun H locs hP hD hS => ?_)
    exact m_iret (pc := 16) hx hb hr hlk hP hD hS hf dX3_fits_16
theorem mX3_fits {S S2 : mS} {r2 : Int32} (hf : fX3_fits  S = some (r2, S2)) : mMet l yX3_fits cX3_fits 3 (some .int) 3 67 D am cI cJ [.ref (am 0)] S (some (.int r2)) S2 := by
  exact m_start (by decide) rfl (Nat.le_of_ble_eq_true rfl) (fun p e s m args below meth c ls hc hl hP hD => wX3_fits_b0 hc  S _ _ ls hP hD va_S.rf (lv_sub hl [0] rfl) hf)
end
section
variable {r : Int32} {Sf : mS}
def fX3_covers_b16 (S : mS) : Option (Int32 × mS) :=
  bd2 (fX3_refused (-82) S) fun v1 S1 =>
  some (v1, S1)
theorem wX3_covers_b16 (hc : mC p s m args meth c D cI cJ cX3_covers 5 (some .int)) (S : mS) (H : Heap) (locs : List Loc) (ls : Array Slot) (hP : va_P D mCl (mws am cI cJ S) H) (hD : va_D (mA am) (mws am cI cJ S)) (hS : va_S (mA am) s.heap H locs) (hl : lv_has ls 5 [(0, .ref (am 0))]) (hf : fX3_covers_b16  S = some (r, Sf)) : W p l e (mR 2 46) s m args below meth c H locs 0 0 (mQ below D am cI cJ (some (.int r)) Sf args s) (F0 m 16 ls []) := by
  obtain ⟨hx, hb, hr, hlk, hml, hown, hts, hK⟩ := hc
  have hc : mC p s m args meth c D cI cJ cX3_covers 5 (some .int) := ⟨hx, hb, hr, hlk, hml, hown, hts, hK⟩
  unfold fX3_covers_b16 at hf
  refine lv_aload_n (pc := 16) hx hb dX3_covers_16 rfl (lv_at hl 0 rfl) ?_
  refine lv_bipush (pc := 17) (v := -82) hx hb dX3_covers_17 kcbm82 ?_
  obtain ⟨v1, S1, e1, hf⟩ := bd2o hf
  refine m_callV (pc := 19) (As := [.int (-82)]) (rest := []) (st1 := [.int v1]) hc (mX3_refused e1) (cwV 1 hts (lw_V q2899 q2901 qs51 q105 q2902) rfl rfl rfl hdX3_refused ⟨Nat.le_of_ble_eq_true rfl, Nat.le_of_ble_eq_true rfl⟩) rfl hl.1 rfl rfl (lv_room (Nat.le_of_ble_eq_true rfl)) dX3_covers_19 hP hD hS (fun H locs hP hD hS => ?_)
  exact m_iret (pc := 22) hx hb hr hlk hP hD hS hf dX3_covers_22
def fX3_covers_b56 (k25 : Int32 → Int32 → Int32 → mS → Option (Int32 × mS)) : Nat → Int32 → Int32 → Int32 → Int32 → mS → Option (Int32 × mS)
  | 0, _, _, _, _, _ => none
  | n + 1, l1, l2, l3, l4, S =>
    if l3 ≤ l4 then
      k25 l1 l2 (l3 + (nI 1)) S
    else
      bd2 (fX3_partOf l1 l4 S) fun v2 S2 =>
      if v2 = (-2) then
        fX3_covers_b56 k25 n l1 l2 l3 (l4 + (nI 1)) S2
      else
        bd2 (fX3_partOf l1 l4 S2) fun v4 S4 =>
        bd2 (fX3_partOf l2 l4 S4) fun v5 S5 =>
        if v4 = v5 then
          fX3_covers_b56 k25 n l1 l2 l3 (l4 + (nI 1)) S5
        else
          some (nI 0, S5)
theorem wX3_covers_b56 (hc : mC p s m args meth c D cI cJ cX3_covers 5 (some .int)) (k25 : Int32 → Int32 → Int32 → mS → Option (Int32 × mS)) (h25 : ∀ (l1 : Int32) (l2 : Int32) (l3 : Int32) (S : mS) (H : Heap) (locs : List Loc) (ls : Array Slot), va_P D mCl (mws am cI cJ S) H → va_D (mA am) (mws am cI cJ S) → va_S (mA am) s.heap H locs → lv_has ls 5 [(0, .ref (am 0)), (1, .int l1), (2, .int l2), (3, .int l3)] → k25 l1 l2 l3 S = some (r, Sf) → W p l e (mR 2 46) s m args below meth c H locs 0 0 (mQ below D am cI cJ (some (.int r)) Sf args s) (F0 m 25 ls [])) : ∀ (n : Nat) (l1 : Int32) (l2 : Int32) (l3 : Int32) (l4 : Int32) (S : mS) (H : Heap) (locs : List Loc) (ls : Array Slot), va_P D mCl (mws am cI cJ S) H → va_D (mA am) (mws am cI cJ S) → va_S (mA am) s.heap H locs → lv_has ls 5 [(0, .ref (am 0)), (1, .int l1), (2, .int l2), (3, .int l3), (4, .int l4)] → fX3_covers_b56 k25 n l1 l2 l3 l4 S = some (r, Sf) → W p l e (mR 2 46) s m args below meth c H locs 0 0 (mQ below D am cI cJ (some (.int r)) Sf args s) (F0 m 56 ls []) := by
  obtain ⟨hx, hb, hr, hlk, hml, hown, hts, hK⟩ := hc
  have hc : mC p s m args meth c D cI cJ cX3_covers 5 (some .int) := ⟨hx, hb, hr, hlk, hml, hown, hts, hK⟩
  intro n
  induction n with
  | zero => intro l1 l2 l3 l4 S H locs ls _ _ _ _ hf; exact absurd hf (fun h => by cases h)
  | succ n ih =>
    intro l1 l2 l3 l4 S H locs ls hP hD hS hl hf
    rw [fX3_covers_b56] at hf
    refine lv_iload (pc := 56) hx hb dX3_covers_56 (lv_at hl 4 rfl) ?_
    refine lv_iload_n (pc := 58) hx hb dX3_covers_58 rfl (lv_at hl 3 rfl) ?_
    refine lv_icmp_ge (pc := 59) (tgt := 99) hx hb dX3_covers_59 (by decide) (fun c1 => ?_) (fun c1 => ?_)
    · rw [if_pos c1] at hf
      refine lv_iinc (pc := 99) (v := l3 + (nI 1)) (lv' := [(3, .int (l3 + (nI 1))), (0, .ref (am 0)), (1, .int l1), (2, .int l2), (4, .int l4)]) hx hb dX3_covers_99 hl (k := 3) rfl rfl (by decide) rfl (fun ls hl => ?_)
      refine lv_goto (pc := 102) (tgt := 25) hx hb dX3_covers_102 (by decide) ?_
      exact h25 l1 l2 (l3 + (nI 1)) S _ _ ls hP hD hS (lv_sub hl [1, 2, 3, 0] rfl) hf
    · rw [if_neg c1] at hf
      refine lv_aload_n (pc := 62) hx hb dX3_covers_62 rfl (lv_at hl 0 rfl) ?_
      refine lv_iload_n (pc := 63) hx hb dX3_covers_63 rfl (lv_at hl 1 rfl) ?_
      refine lv_iload (pc := 64) hx hb dX3_covers_64 (lv_at hl 4 rfl) ?_
      obtain ⟨v2, S2, e2, hf⟩ := bd2o hf
      refine m_callV (pc := 66) (As := [.int l1, .int l4]) (rest := []) (st1 := [.int v2]) hc (mX3_partOf e2) (cwV 2 hts (lw_V q2953 q2955 qs59 q105 q2956) rfl rfl rfl hdX3_partOf ⟨Nat.le_of_ble_eq_true rfl, Nat.le_of_ble_eq_true rfl⟩) rfl hl.1 rfl rfl (lv_room (Nat.le_of_ble_eq_true rfl)) dX3_covers_66 hP hD hS (fun H locs hP hD hS => ?_)
      refine lv_bipush (pc := 69) (v := -2) hx hb dX3_covers_69 kcbm2 ?_
      refine lv_icmp_eq (pc := 71) (tgt := 93) hx hb dX3_covers_71 (by decide) (fun c3 => ?_) (fun c3 => ?_)
      · rw [if_pos c3] at hf
        refine lv_iinc (pc := 93) (v := l4 + (nI 1)) (lv' := [(4, .int (l4 + (nI 1))), (0, .ref (am 0)), (1, .int l1), (2, .int l2), (3, .int l3)]) hx hb dX3_covers_93 hl (k := 4) rfl rfl (by decide) rfl (fun ls hl => ?_)
        refine lv_goto (pc := 96) (tgt := 56) hx hb dX3_covers_96 (by decide) ?_
        exact ih l1 l2 l3 (l4 + (nI 1)) S2 _ _ ls hP hD hS (lv_sub hl [1, 2, 3, 4, 0] rfl) hf
      · rw [if_neg c3] at hf
        refine lv_aload_n (pc := 74) hx hb dX3_covers_74 rfl (lv_at hl 0 rfl) ?_
        refine lv_iload_n (pc := 75) hx hb dX3_covers_75 rfl (lv_at hl 1 rfl) ?_
        refine lv_iload (pc := 76) hx hb dX3_covers_76 (lv_at hl 4 rfl) ?_
        obtain ⟨v4, S4, e4, hf⟩ := bd2o hf
        refine m_callV (pc := 78) (As := [.int l1, .int l4]) (rest := []) (st1 := [.int v4]) hc (mX3_partOf e4) (cwV 2 hts (lw_V q2953 q2955 qs59 q105 q2956) rfl rfl rfl hdX3_partOf ⟨Nat.le_of_ble_eq_true rfl, Nat.le_of_ble_eq_true rfl⟩) rfl hl.1 rfl rfl (lv_room (Nat.le_of_ble_eq_true rfl)) dX3_covers_78 hP hD hS (fun H locs hP hD hS => ?_)
        refine lv_aload_n (pc := 81) hx hb dX3_covers_81 rfl (lv_at hl 0 rfl) ?_
        refine lv_iload_n (pc := 82) hx hb dX3_covers_82 rfl (lv_at hl 2 rfl) ?_
        refine lv_iload (pc := 83) hx hb dX3_covers_83 (lv_at hl 4 rfl) ?_
        obtain ⟨v5, S5, e5, hf⟩ := bd2o hf
        refine m_callV (pc := 85) (As := [.int l2, .int l4]) (rest := [.int v4]) (st1 := [.int v5, .int v4]) hc (mX3_partOf e5) (cwV 2 hts (lw_V q2953 q2955 qs59 q105 q2956) rfl rfl rfl hdX3_partOf ⟨Nat.le_of_ble_eq_true rfl, Nat.le_of_ble_eq_true rfl⟩) rfl hl.1 rfl rfl (lv_room (Nat.le_of_ble_eq_true rfl)) dX3_covers_85 hP hD hS (fun H locs hP hD hS => ?_)
        refine lv_icmp_eq (pc := 88) (tgt := 93) hx hb dX3_covers_88 (by decide) (fun c6 => ?_) (fun c6 => ?_)
        · rw [if_pos c6] at hf
          refine lv_iinc (pc := 93) (v := l4 + (nI 1)) (lv' := [(4, .int (l4 + (nI 1))), (0, .ref (am 0)), (1, .int l1), (2, .int l2), (3, .int l3)]) hx hb dX3_covers_93 hl (k := 4) rfl rfl (by decide) rfl (fun ls hl => ?_)
          refine lv_goto (pc := 96) (tgt := 56) hx hb dX3_covers_96 (by decide) ?_
          exact ih l1 l2 l3 (l4 + (nI 1)) S5 _ _ ls hP hD hS (lv_sub hl [1, 2, 3, 4, 0] rfl) hf
        · rw [if_neg c6] at hf
          refine lv_iconst (pc := 91) (v := nI 0) hx hb dX3_covers_91 rfl ?_
          exact m_iret (pc := 92) hx hb hr hlk hP hD hS hf dX3_covers_92
def fX3_covers_b25 : Nat → Int32 → Int32 → Int32 → mS → Option (Int32 × mS)
  | 0, _, _, _, _ => none
  | n + 1, l1, l2, l3, S =>
    if (nI 4) < l3 then
      some (nI 1, S)
    else
      bd2 (fX3_isLong l2 l3 S) fun v2 S2 =>
      if v2 = 0 then
        fX3_covers_b25 n l1 l2 (l3 + (nI 1)) S2
      else
        bd2 (fX3_isLong l1 l3 S2) fun v4 S4 =>
        if v4 = 0 then
          some (nI 0, S4)
        else
          fX3_covers_b56 (fX3_covers_b25 n) FU l1 l2 l3 (nI 0) S4
theorem wX3_covers_b25 (hc : mC p s m args meth c D cI cJ cX3_covers 5 (some .int)) : ∀ (n : Nat) (l1 : Int32) (l2 : Int32) (l3 : Int32) (S : mS) (H : Heap) (locs : List Loc) (ls : Array Slot), va_P D mCl (mws am cI cJ S) H → va_D (mA am) (mws am cI cJ S) → va_S (mA am) s.heap H locs → lv_has ls 5 [(0, .ref (am 0)), (1, .int l1), (2, .int l2), (3, .int l3)] → fX3_covers_b25 n l1 l2 l3 S = some (r, Sf) → W p l e (mR 2 46) s m args below meth c H locs 0 0 (mQ below D am cI cJ (some (.int r)) Sf args s) (F0 m 25 ls []) := by
  obtain ⟨hx, hb, hr, hlk, hml, hown, hts, hK⟩ := hc
  have hc : mC p s m args meth c D cI cJ cX3_covers 5 (some .int) := ⟨hx, hb, hr, hlk, hml, hown, hts, hK⟩
  intro n
  induction n with
  | zero => intro l1 l2 l3 S H locs ls _ _ _ _ hf; exact absurd hf (fun h => by cases h)
  | succ n ih =>
    intro l1 l2 l3 S H locs ls hP hD hS hl hf
    rw [fX3_covers_b25] at hf
    refine lv_iload_n (pc := 25) hx hb dX3_covers_25 rfl (lv_at hl 3 rfl) ?_
    refine lv_iconst (pc := 26) (v := nI 4) hx hb dX3_covers_26 rfl ?_
    refine lv_icmp_gt (pc := 27) (tgt := 105) hx hb dX3_covers_27 (by decide) (fun c1 => ?_) (fun c1 => ?_)
    · rw [if_pos c1] at hf
      refine lv_iconst (pc := 105) (v := nI 1) hx hb dX3_covers_105 rfl ?_
      exact m_iret (pc := 106) hx hb hr hlk hP hD hS hf dX3_covers_106
    · rw [if_neg c1] at hf
      refine lv_aload_n (pc := 30) hx hb dX3_covers_30 rfl (lv_at hl 0 rfl) ?_
      refine lv_iload_n (pc := 31) hx hb dX3_covers_31 rfl (lv_at hl 2 rfl) ?_
      refine lv_iload_n (pc := 32) hx hb dX3_covers_32 rfl (lv_at hl 3 rfl) ?_
      obtain ⟨v2, S2, e2, hf⟩ := bd2o hf
      refine m_callV (pc := 33) (As := [.int l2, .int l3]) (rest := []) (st1 := [.int v2]) hc (mX3_isLong e2) (cwV 2 hts (lw_V q2945 q2947 qs57 q105 q2948) rfl rfl rfl hdX3_isLong ⟨Nat.le_of_ble_eq_true rfl, Nat.le_of_ble_eq_true rfl⟩) rfl hl.1 rfl rfl (lv_room (Nat.le_of_ble_eq_true rfl)) dX3_covers_33 hP hD hS (fun H locs hP hD hS => ?_)
      refine lv_if_ne (pc := 36) (tgt := 42) hx hb dX3_covers_36 (by decide) (fun c3 => ?_) (fun c3 => ?_)
      · rw [if_neg c3] at hf
        refine lv_aload_n (pc := 42) hx hb dX3_covers_42 rfl (lv_at hl 0 rfl) ?_
        refine lv_iload_n (pc := 43) hx hb dX3_covers_43 rfl (lv_at hl 1 rfl) ?_
        refine lv_iload_n (pc := 44) hx hb dX3_covers_44 rfl (lv_at hl 3 rfl) ?_
        obtain ⟨v4, S4, e4, hf⟩ := bd2o hf
        refine m_callV (pc := 45) (As := [.int l1, .int l3]) (rest := []) (st1 := [.int v4]) hc (mX3_isLong e4) (cwV 2 hts (lw_V q2945 q2947 qs57 q105 q2948) rfl rfl rfl hdX3_isLong ⟨Nat.le_of_ble_eq_true rfl, Nat.le_of_ble_eq_true rfl⟩) rfl hl.1 rfl rfl (lv_room (Nat.le_of_ble_eq_true rfl)) dX3_covers_45 hP hD hS (fun H locs hP hD hS => ?_)
        refine lv_if_ne (pc := 48) (tgt := 53) hx hb dX3_covers_48 (by decide) (fun c5 => ?_) (fun c5 => ?_)
        · rw [if_neg c5] at hf
          refine lv_iconst (pc := 53) (v := nI 0) hx hb dX3_covers_53 rfl ?_
          refine lv_istore (pc := 54) (lv' := [(4, .int (nI 0)), (0, .ref (am 0)), (1, .int l1), (2, .int l2), (3, .int l3)]) hx hb dX3_covers_54 hl (by decide) rfl (fun ls hl => ?_)
          exact wX3_covers_b56 hc (fX3_covers_b25 n) ih FU l1 l2 l3 (nI 0) S4 _ _ ls hP hD hS (lv_sub hl [1, 2, 3, 4, 0] rfl) hf
        · rw [if_pos c5] at hf
          refine lv_iconst (pc := 51) (v := nI 0) hx hb dX3_covers_51 rfl ?_
          exact m_iret (pc := 52) hx hb hr hlk hP hD hS hf dX3_covers_52
      · rw [if_pos c3] at hf
        refine lv_goto (pc := 39) (tgt := 99) hx hb dX3_covers_39 (by decide) ?_
        refine lv_iinc (pc := 99) (v := l3 + (nI 1)) (lv' := [(3, .int (l3 + (nI 1))), (0, .ref (am 0)), (1, .int l1), (2, .int l2)]) hx hb dX3_covers_99 hl (k := 3) rfl rfl (by decide) rfl (fun ls hl => ?_)
        refine lv_goto (pc := 102) (tgt := 25) hx hb dX3_covers_102 (by decide) ?_
        exact ih l1 l2 (l3 + (nI 1)) S2 _ _ ls hP hD hS (lv_sub hl [1, 2, 3, 0] rfl) hf
def fX3_covers (l1 : Int32) (l2 : Int32) (S : mS) : Option (Int32 × mS) :=
  bd2 (fX3_isQueue l1 S) fun v1 S1 =>
  if v1 = 0 then
    fX3_covers_b16  S1
  else
    bd2 (fX3_isQueue l2 S1) fun v3 S3 =>
    if v3 = 0 then
      fX3_covers_b16  S3
    else
      fX3_covers_b25 FU l1 l2 (nI 1) S3
theorem wX3_covers_b0 (hc : mC p s m args meth c D cI cJ cX3_covers 5 (some .int)) (l1 : Int32) (l2 : Int32) (S : mS) (H : Heap) (locs : List Loc) (ls : Array Slot) (hP : va_P D mCl (mws am cI cJ S) H) (hD : va_D (mA am) (mws am cI cJ S)) (hS : va_S (mA am) s.heap H locs) (hl : lv_has ls 5 [(0, .ref (am 0)), (1, .int l1), (2, .int l2)]) (hf : fX3_covers l1 l2 S = some (r, Sf)) : W p l e (mR 2 46) s m args below meth c H locs 0 0 (mQ below D am cI cJ (some (.int r)) Sf args s) (F0 m 0 ls []) := by
  obtain ⟨hx, hb, hr, hlk, hml, hown, hts, hK⟩ := hc
  have hc : mC p s m args meth c D cI cJ cX3_covers 5 (some .int) := ⟨hx, hb, hr, hlk, hml, hown, hts, hK⟩
  unfold fX3_covers at hf
  refine lv_aload_n (pc := 0) hx hb dX3_covers_0 rfl (lv_at hl 0 rfl) ?_
  refine lv_iload_n (pc := 1) hx hb dX3_covers_1 rfl (lv_at hl 1 rfl) ?_
  obtain ⟨v1, S1, e1, hf⟩ := bd2o hf
  refine m_callV (pc := 2) (As := [.int l1]) (rest := []) (st1 := [.int v1]) hc (mX3_isQueue e1) (cwV 1 hts (lw_V q2961 q2963 qs60 q105 q2964) rfl rfl rfl hdX3_isQueue ⟨Nat.le_of_ble_eq_true rfl, Nat.le_of_ble_eq_true rfl⟩) rfl hl.1 rfl rfl (lv_room (Nat.le_of_ble_eq_true rfl)) dX3_covers_2 hP hD hS (fun H locs hP hD hS => ?_)
  refine lv_if_eq (pc := 5) (tgt := 16) hx hb dX3_covers_5 (by decide) (fun c2 => ?_) (fun c2 => ?_)
  · rw [if_pos c2] at hf
    exact wX3_covers_b16 hc  S1 _ _ ls hP hD hS (lv_sub hl [0] rfl) hf
  · rw [if_neg c2] at hf
    refine lv_aload_n (pc := 8) hx hb dX3_covers_8 rfl (lv_at hl 0 rfl) ?_
    refine lv_iload_n (pc := 9) hx hb dX3_covers_9 rfl (lv_at hl 2 rfl) ?_
    obtain ⟨v3, S3, e3, hf⟩ := bd2o hf
    refine m_callV (pc := 10) (As := [.int l2]) (rest := []) (st1 := [.int v3]) hc (mX3_isQueue e3) (cwV 1 hts (lw_V q2961 q2963 qs60 q105 q2964) rfl rfl rfl hdX3_isQueue ⟨Nat.le_of_ble_eq_true rfl, Nat.le_of_ble_eq_true rfl⟩) rfl hl.1 rfl rfl (lv_room (Nat.le_of_ble_eq_true rfl)) dX3_covers_10 hP hD hS (fun H locs hP hD hS => ?_)
    refine lv_if_ne (pc := 13) (tgt := 23) hx hb dX3_covers_13 (by decide) (fun c4 => ?_) (fun c4 => ?_)
    · rw [if_neg c4] at hf
      refine lv_iconst (pc := 23) (v := nI 1) hx hb dX3_covers_23 rfl ?_
      refine lv_istore_n (pc := 24) (lv' := [(3, .int (nI 1)), (0, .ref (am 0)), (1, .int l1), (2, .int l2)]) hx hb dX3_covers_24 rfl hl (by decide) rfl (fun ls hl => ?_)
      exact wX3_covers_b25 hc FU l1 l2 (nI 1) S3 _ _ ls hP hD hS (lv_sub hl [1, 2, 3, 0] rfl) hf
    · rw [if_pos c4] at hf
      exact wX3_covers_b16 hc  S3 _ _ ls hP hD hS (lv_sub hl [0] rfl) hf
theorem mX3_covers {S S2 : mS} {r2 : Int32} {l1 : Int32} {l2 : Int32} (hf : fX3_covers l1 l2 S = some (r2, S2)) : mMet l yX3_covers cX3_covers 5 (some .int) 2 46 D am cI cJ [.ref (am 0), .int l1, .int l2] S (some (.int r2)) S2 := by
  exact m_start (by decide) rfl (Nat.le_of_ble_eq_true rfl) (fun p e s m args below meth c ls hc hl hP hD => wX3_covers_b0 hc l1 l2 S _ _ ls hP hD va_S.rf (lv_sub hl [0, 1, 2] rfl) hf)
end
section
variable {r : Int32} {Sf : mS}
def fX3_pattern (l1 : Int32) (l2 : Int32) (S : mS) : Option (Int32 × mS) :=
  bd2 (fX3_isQueue l1 S) fun v1 S1 =>
  if v1 = 0 then
    bd2 (fX3_refused (-82) S1) fun v7 S7 =>
    some (v7, S7)
  else
    bd2 (fX3_of l1 (nI 5) S1) fun v3 S3 =>
    bd2 (fX3_in l2.toInt64 (lN 0) ((v3 - (nI 1)).toInt64) S3) fun v4 S4 =>
    if v4 = 0 then
      some (-1, S4)
    else
      bd2 (fX3_of l1 ((nI 6) + l2) S4) fun v6 S6 =>
      some (v6, S6)
theorem wX3_pattern_b0 (hc : mC p s m args meth c D cI cJ cX3_pattern 3 (some .int)) (l1 : Int32) (l2 : Int32) (S : mS) (H : Heap) (locs : List Loc) (ls : Array Slot) (hP : va_P D mCl (mws am cI cJ S) H) (hD : va_D (mA am) (mws am cI cJ S)) (hS : va_S (mA am) s.heap H locs) (hl : lv_has ls 3 [(0, .ref (am 0)), (1, .int l1), (2, .int l2)]) (hf : fX3_pattern l1 l2 S = some (r, Sf)) : W p l e (mR 2 46) s m args below meth c H locs 0 0 (mQ below D am cI cJ (some (.int r)) Sf args s) (F0 m 0 ls []) := by
  obtain ⟨hx, hb, hr, hlk, hml, hown, hts, hK⟩ := hc
  have hc : mC p s m args meth c D cI cJ cX3_pattern 3 (some .int) := ⟨hx, hb, hr, hlk, hml, hown, hts, hK⟩
  unfold fX3_pattern at hf
  refine lv_aload_n (pc := 0) hx hb dX3_pattern_0 rfl (lv_at hl 0 rfl) ?_
  refine lv_iload_n (pc := 1) hx hb dX3_pattern_1 rfl (lv_at hl 1 rfl) ?_
  obtain ⟨v1, S1, e1, hf⟩ := bd2o hf
  refine m_callV (pc := 2) (As := [.int l1]) (rest := []) (st1 := [.int v1]) hc (mX3_isQueue e1) (cwV 1 hts (lw_V q2961 q2963 qs60 q105 q2964) rfl rfl rfl hdX3_isQueue ⟨Nat.le_of_ble_eq_true rfl, Nat.le_of_ble_eq_true rfl⟩) rfl hl.1 rfl rfl (lv_room (Nat.le_of_ble_eq_true rfl)) dX3_pattern_2 hP hD hS (fun H locs hP hD hS => ?_)
  refine lv_if_ne (pc := 5) (tgt := 15) hx hb dX3_pattern_5 (by decide) (fun c2 => ?_) (fun c2 => ?_)
  · rw [if_neg c2] at hf
    refine lv_iload_n (pc := 15) hx hb dX3_pattern_15 rfl (lv_at hl 2 rfl) ?_
    refine lv_i2l (pc := 16) hx hb dX3_pattern_16 rfl ?_
    refine lv_lconst (pc := 17) (v := lN 0) hx hb dX3_pattern_17 rfl ?_
    refine lv_aload_n (pc := 18) hx hb dX3_pattern_18 rfl (lv_at hl 0 rfl) ?_
    refine lv_iload_n (pc := 19) hx hb dX3_pattern_19 rfl (lv_at hl 1 rfl) ?_
    refine lv_iconst (pc := 20) (v := nI 5) hx hb dX3_pattern_20 rfl ?_
    obtain ⟨v3, S3, e3, hf⟩ := bd2o hf
    refine m_callV (pc := 21) (As := [.int l1, .int (nI 5)]) (rest := [.long (lN 0), .long l2.toInt64]) (st1 := [.int v3, .long (lN 0), .long l2.toInt64]) hc (mX3_of e3) (cwV 2 hts (lw_V q2949 q2951 qs58 q105 q2952) rfl rfl rfl hdX3_of ⟨Nat.le_of_ble_eq_true rfl, Nat.le_of_ble_eq_true rfl⟩) rfl hl.1 rfl rfl (lv_room (Nat.le_of_ble_eq_true rfl)) dX3_pattern_21 hP hD hS (fun H locs hP hD hS => ?_)
    refine lv_iconst (pc := 24) (v := nI 1) hx hb dX3_pattern_24 rfl ?_
    refine lv_isub (pc := 25) hx hb dX3_pattern_25 ?_
    refine lv_i2l (pc := 26) hx hb dX3_pattern_26 rfl ?_
    obtain ⟨v4, S4, e4, hf⟩ := bd2o hf
    refine m_callS (pc := 27) (As := [.long l2.toInt64, .long (lN 0), .long ((v3 - (nI 1)).toInt64)]) (rest := []) (st1 := [.int v4]) hc (mX3_in e4) (va_cwS 3 hts (lw_S q2896 q2897 q105 q2898) rfl rfl rfl hdX3_in ⟨Nat.le_of_ble_eq_true rfl, Nat.le_of_ble_eq_true rfl⟩) rfl hl.1 rfl rfl (lv_room (Nat.le_of_ble_eq_true rfl)) dX3_pattern_27 hP hD hS (fun H locs hP hD hS => ?_)
    refine lv_if_eq (pc := 30) (tgt := 45) hx hb dX3_pattern_30 (by decide) (fun c5 => ?_) (fun c5 => ?_)
    · rw [if_pos c5] at hf
      refine lv_iconst (pc := 45) (v := -1) hx hb dX3_pattern_45 rfl ?_
      exact m_iret (pc := 46) hx hb hr hlk hP hD hS hf dX3_pattern_46
    · rw [if_neg c5] at hf
      refine lv_aload_n (pc := 33) hx hb dX3_pattern_33 rfl (lv_at hl 0 rfl) ?_
      refine lv_iload_n (pc := 34) hx hb dX3_pattern_34 rfl (lv_at hl 1 rfl) ?_
      refine lv_bipush (pc := 35) (v := nI 6) hx hb dX3_pattern_35 kcb6 ?_
      refine lv_iload_n (pc := 37) hx hb dX3_pattern_37 rfl (lv_at hl 2 rfl) ?_
      refine lv_iadd (pc := 38) hx hb dX3_pattern_38 ?_
      obtain ⟨v6, S6, e6, hf⟩ := bd2o hf
      refine m_callV (pc := 39) (As := [.int l1, .int ((nI 6) + l2)]) (rest := []) (st1 := [.int v6]) hc (mX3_of e6) (cwV 2 hts (lw_V q2949 q2951 qs58 q105 q2952) rfl rfl rfl hdX3_of ⟨Nat.le_of_ble_eq_true rfl, Nat.le_of_ble_eq_true rfl⟩) rfl hl.1 rfl rfl (lv_room (Nat.le_of_ble_eq_true rfl)) dX3_pattern_39 hP hD hS (fun H locs hP hD hS => ?_)
      refine lv_goto (pc := 42) (tgt := 46) hx hb dX3_pattern_42 (by decide) ?_
      exact m_iret (pc := 46) hx hb hr hlk hP hD hS hf dX3_pattern_46
  · rw [if_pos c2] at hf
    refine lv_aload_n (pc := 8) hx hb dX3_pattern_8 rfl (lv_at hl 0 rfl) ?_
    refine lv_bipush (pc := 9) (v := -82) hx hb dX3_pattern_9 kcbm82 ?_
    obtain ⟨v7, S7, e7, hf⟩ := bd2o hf
    refine m_callV (pc := 11) (As := [.int (-82)]) (rest := []) (st1 := [.int v7]) hc (mX3_refused e7) (cwV 1 hts (lw_V q2899 q2901 qs51 q105 q2902) rfl rfl rfl hdX3_refused ⟨Nat.le_of_ble_eq_true rfl, Nat.le_of_ble_eq_true rfl⟩) rfl hl.1 rfl rfl (lv_room (Nat.le_of_ble_eq_true rfl)) dX3_pattern_11 hP hD hS (fun H locs hP hD hS => ?_)
    exact m_iret (pc := 14) hx hb hr hlk hP hD hS hf dX3_pattern_14
theorem mX3_pattern {S S2 : mS} {r2 : Int32} {l1 : Int32} {l2 : Int32} (hf : fX3_pattern l1 l2 S = some (r2, S2)) : mMet l yX3_pattern cX3_pattern 3 (some .int) 2 46 D am cI cJ [.ref (am 0), .int l1, .int l2] S (some (.int r2)) S2 := by
  exact m_start (by decide) rfl (Nat.le_of_ble_eq_true rfl) (fun p e s m args below meth c ls hc hl hP hD => wX3_pattern_b0 hc l1 l2 S _ _ ls hP hD va_S.rf (lv_sub hl [0, 1, 2] rfl) hf)
end
section
variable {r : Int32} {Sf : mS}
def fX3_next_b18 (S : mS) : Option (Int32 × mS) :=
  bd2 (fX3_refused (-82) S) fun v1 S1 =>
  some (v1, S1)
theorem wX3_next_b18 (hc : mC p s m args meth c D cI cJ cX3_next 4 (some .int)) (S : mS) (H : Heap) (locs : List Loc) (ls : Array Slot) (hP : va_P D mCl (mws am cI cJ S) H) (hD : va_D (mA am) (mws am cI cJ S)) (hS : va_S (mA am) s.heap H locs) (hl : lv_has ls 4 [(0, .ref (am 0))]) (hf : fX3_next_b18  S = some (r, Sf)) : W p l e (mR 5 113) s m args below meth c H locs 0 0 (mQ below D am cI cJ (some (.int r)) Sf args s) (F0 m 18 ls []) := by
  obtain ⟨hx, hb, hr, hlk, hml, hown, hts, hK⟩ := hc
  have hc : mC p s m args meth c D cI cJ cX3_next 4 (some .int) := ⟨hx, hb, hr, hlk, hml, hown, hts, hK⟩
  unfold fX3_next_b18 at hf
  refine lv_aload_n (pc := 18) hx hb dX3_next_18 rfl (lv_at hl 0 rfl) ?_
  refine lv_bipush (pc := 19) (v := -82) hx hb dX3_next_19 kcbm82 ?_
  obtain ⟨v1, S1, e1, hf⟩ := bd2o hf
  refine m_callV (pc := 21) (As := [.int (-82)]) (rest := []) (st1 := [.int v1]) hc (mX3_refused e1) (cwV 1 hts (lw_V q2899 q2901 qs51 q105 q2902) rfl rfl rfl hdX3_refused ⟨Nat.le_of_ble_eq_true rfl, Nat.le_of_ble_eq_true rfl⟩) rfl hl.1 rfl rfl (lv_room (Nat.le_of_ble_eq_true rfl)) dX3_next_21 hP hD hS (fun H locs hP hD hS => ?_)
  exact m_iret (pc := 24) hx hb hr hlk hP hD hS hf dX3_next_24
def fX3_next (l1 : Int32) (l2 : Int32) (S : mS) : Option (Int32 × mS) :=
  bd2 (fX3_isQueue l1 S) fun v1 S1 =>
  if v1 = 0 then
    fX3_next_b18  S1
  else
    bd2 (fX3_in l2.toInt64 (lN 0) (lN 1) S1) fun v3 S3 =>
    if v3 = 0 then
      fX3_next_b18  S3
    else
      bd2 (fX3_nextOf l1 S3) fun v5 S5 =>
      if 0 ≤ v5 then
        if l2 = 0 then
          bd2 (fX3_letterOf l1 v5 (nI 0) S5) fun v9 S9 =>
          some (v9, S9)
        else
          bd2 (fX3_who l1 S5) fun v8 S8 =>
          some (v8, S8)
      else
        some (-1, S5)
theorem wX3_next_b0 (hc : mC p s m args meth c D cI cJ cX3_next 4 (some .int)) (l1 : Int32) (l2 : Int32) (S : mS) (H : Heap) (locs : List Loc) (ls : Array Slot) (hP : va_P D mCl (mws am cI cJ S) H) (hD : va_D (mA am) (mws am cI cJ S)) (hS : va_S (mA am) s.heap H locs) (hl : lv_has ls 4 [(0, .ref (am 0)), (1, .int l1), (2, .int l2)]) (hf : fX3_next l1 l2 S = some (r, Sf)) : W p l e (mR 5 113) s m args below meth c H locs 0 0 (mQ below D am cI cJ (some (.int r)) Sf args s) (F0 m 0 ls []) := by
  obtain ⟨hx, hb, hr, hlk, hml, hown, hts, hK⟩ := hc
  have hc : mC p s m args meth c D cI cJ cX3_next 4 (some .int) := ⟨hx, hb, hr, hlk, hml, hown, hts, hK⟩
  unfold fX3_next at hf
  refine lv_aload_n (pc := 0) hx hb dX3_next_0 rfl (lv_at hl 0 rfl) ?_
  refine lv_iload_n (pc := 1) hx hb dX3_next_1 rfl (lv_at hl 1 rfl) ?_
  obtain ⟨v1, S1, e1, hf⟩ := bd2o hf
  refine m_callV (pc := 2) (As := [.int l1]) (rest := []) (st1 := [.int v1]) hc (mX3_isQueue e1) (cwV 1 hts (lw_V q2961 q2963 qs60 q105 q2964) rfl rfl rfl hdX3_isQueue ⟨Nat.le_of_ble_eq_true rfl, Nat.le_of_ble_eq_true rfl⟩) rfl hl.1 rfl rfl (lv_room (Nat.le_of_ble_eq_true rfl)) dX3_next_2 hP hD hS (fun H locs hP hD hS => ?_)
  refine lv_if_eq (pc := 5) (tgt := 18) hx hb dX3_next_5 (by decide) (fun c2 => ?_) (fun c2 => ?_)
  · rw [if_pos c2] at hf
    exact wX3_next_b18 hc  S1 _ _ ls hP hD hS (lv_sub hl [0] rfl) hf
  · rw [if_neg c2] at hf
    refine lv_iload_n (pc := 8) hx hb dX3_next_8 rfl (lv_at hl 2 rfl) ?_
    refine lv_i2l (pc := 9) hx hb dX3_next_9 rfl ?_
    refine lv_lconst (pc := 10) (v := lN 0) hx hb dX3_next_10 rfl ?_
    refine lv_lconst (pc := 11) (v := lN 1) hx hb dX3_next_11 rfl ?_
    obtain ⟨v3, S3, e3, hf⟩ := bd2o hf
    refine m_callS (pc := 12) (As := [.long l2.toInt64, .long (lN 0), .long (lN 1)]) (rest := []) (st1 := [.int v3]) hc (mX3_in e3) (va_cwS 3 hts (lw_S q2896 q2897 q105 q2898) rfl rfl rfl hdX3_in ⟨Nat.le_of_ble_eq_true rfl, Nat.le_of_ble_eq_true rfl⟩) rfl hl.1 rfl rfl (lv_room (Nat.le_of_ble_eq_true rfl)) dX3_next_12 hP hD hS (fun H locs hP hD hS => ?_)
    refine lv_if_ne (pc := 15) (tgt := 25) hx hb dX3_next_15 (by decide) (fun c4 => ?_) (fun c4 => ?_)
    · rw [if_neg c4] at hf
      refine lv_aload_n (pc := 25) hx hb dX3_next_25 rfl (lv_at hl 0 rfl) ?_
      refine lv_iload_n (pc := 26) hx hb dX3_next_26 rfl (lv_at hl 1 rfl) ?_
      obtain ⟨v5, S5, e5, hf⟩ := bd2o hf
      refine m_callV (pc := 27) (As := [.int l1]) (rest := []) (st1 := [.int v5]) hc (mX3_nextOf e5) (cwV 1 hts (lw_V q3007 q3009 qs68 q105 q3010) rfl rfl rfl hdX3_nextOf ⟨Nat.le_of_ble_eq_true rfl, Nat.le_of_ble_eq_true rfl⟩) rfl hl.1 rfl rfl (lv_room (Nat.le_of_ble_eq_true rfl)) dX3_next_27 hP hD hS (fun H locs hP hD hS => ?_)
      refine lv_istore_n (pc := 30) (lv' := [(3, .int v5), (0, .ref (am 0)), (1, .int l1), (2, .int l2)]) hx hb dX3_next_30 rfl hl (by decide) rfl (fun ls hl => ?_)
      refine lv_iload_n (pc := 31) hx hb dX3_next_31 rfl (lv_at hl 0 rfl) ?_
      refine lv_if_ge (pc := 32) (tgt := 39) hx hb dX3_next_32 (by decide) (fun c6 => ?_) (fun c6 => ?_)
      · rw [if_pos c6] at hf
        refine lv_iload_n (pc := 39) hx hb dX3_next_39 rfl (lv_at hl 3 rfl) ?_
        refine lv_if_ne (pc := 40) (tgt := 53) hx hb dX3_next_40 (by decide) (fun c7 => ?_) (fun c7 => ?_)
        · rw [if_neg c7] at hf
          refine lv_aload_n (pc := 53) hx hb dX3_next_53 rfl (lv_at hl 1 rfl) ?_
          refine lv_iload_n (pc := 54) hx hb dX3_next_54 rfl (lv_at hl 2 rfl) ?_
          obtain ⟨v8, S8, e8, hf⟩ := bd2o hf
          refine m_callV (pc := 55) (As := [.int l1]) (rest := []) (st1 := [.int v8]) hc (mX3_who e8) (cwV 1 hts (lw_V q3023 q3025 qs72 q105 q3026) rfl rfl rfl hdX3_who ⟨Nat.le_of_ble_eq_true rfl, Nat.le_of_ble_eq_true rfl⟩) rfl hl.1 rfl rfl (lv_room (Nat.le_of_ble_eq_true rfl)) dX3_next_55 hP hD hS (fun H locs hP hD hS => ?_)
          exact m_iret (pc := 58) hx hb hr hlk hP hD hS hf dX3_next_58
        · rw [if_pos c7] at hf
          refine lv_aload_n (pc := 43) hx hb dX3_next_43 rfl (lv_at hl 1 rfl) ?_
          refine lv_iload_n (pc := 44) hx hb dX3_next_44 rfl (lv_at hl 2 rfl) ?_
          refine lv_iload_n (pc := 45) hx hb dX3_next_45 rfl (lv_at hl 0 rfl) ?_
          refine lv_iconst (pc := 46) (v := nI 0) hx hb dX3_next_46 rfl ?_
          obtain ⟨v9, S9, e9, hf⟩ := bd2o hf
          refine m_callV (pc := 47) (As := [.int l1, .int v5, .int (nI 0)]) (rest := []) (st1 := [.int v9]) hc (mX3_letterOf e9) (cwV 3 hts (lw_V q2991 q2993 qs65 q105 q2994) rfl rfl rfl hdX3_letterOf ⟨Nat.le_of_ble_eq_true rfl, Nat.le_of_ble_eq_true rfl⟩) rfl hl.1 rfl rfl (lv_room (Nat.le_of_ble_eq_true rfl)) dX3_next_47 hP hD hS (fun H locs hP hD hS => ?_)
          refine lv_goto (pc := 50) (tgt := 58) hx hb dX3_next_50 (by decide) ?_
          exact m_iret (pc := 58) hx hb hr hlk hP hD hS hf dX3_next_58
      · rw [if_neg c6] at hf
        refine lv_iconst (pc := 35) (v := -1) hx hb dX3_next_35 rfl ?_
        refine lv_goto (pc := 36) (tgt := 58) hx hb dX3_next_36 (by decide) ?_
        exact m_iret (pc := 58) hx hb hr hlk hP hD hS hf dX3_next_58
    · rw [if_pos c4] at hf
      exact wX3_next_b18 hc  S3 _ _ ls hP hD hS (lv_sub hl [0] rfl) hf
theorem mX3_next {S S2 : mS} {r2 : Int32} {l1 : Int32} {l2 : Int32} (hf : fX3_next l1 l2 S = some (r2, S2)) : mMet l yX3_next cX3_next 4 (some .int) 5 113 D am cI cJ [.ref (am 0), .int l1, .int l2] S (some (.int r2)) S2 := by
  exact m_start (by decide) rfl (Nat.le_of_ble_eq_true rfl) (fun p e s m args below meth c ls hc hl hP hD => wX3_next_b0 hc l1 l2 S _ _ ls hP hD va_S.rf (lv_sub hl [0, 1, 2] rfl) hf)
end
section
variable {r : Int32} {Sf : mS}
def fX3_blocked_b59 (k22 : Int32 → Int32 → Int32 → Int32 → mS → Option (Int32 × mS)) (l1 : Int32) (l3 : Int32) (l4 : Int32) (t0 : Int32) (t1 : Int32) (S : mS) : Option (Int32 × mS) :=
  bd2 (fX3_may l1 l4 S) fun v1 S1 =>
  if v1 = 0 then
    k22 l1 (t0 ||| t1) (l3 ||| (nI 0)) (l4 + (nI 1)) S1
  else
    bd2 (fX3_keyOf l1 l4 S1) fun v3 S3 =>
    k22 l1 (t0 ||| t1) (l3 ||| ((nI 1) <<< (v3 &&& 31))) (l4 + (nI 1)) S3
theorem wX3_blocked_b59 (hc : mC p s m args meth c D cI cJ cX3_blocked 5 (some .int)) (k22 : Int32 → Int32 → Int32 → Int32 → mS → Option (Int32 × mS)) (h22 : ∀ (l1 : Int32) (l2 : Int32) (l3 : Int32) (l4 : Int32) (S : mS) (H : Heap) (locs : List Loc) (ls : Array Slot), va_P D mCl (mws am cI cJ S) H → va_D (mA am) (mws am cI cJ S) → va_S (mA am) s.heap H locs → lv_has ls 5 [(0, .ref (am 0)), (1, .int l1), (2, .int l2), (3, .int l3), (4, .int l4)] → k22 l1 l2 l3 l4 S = some (r, Sf) → W p l e (mR 4 90) s m args below meth c H locs 0 0 (mQ below D am cI cJ (some (.int r)) Sf args s) (F0 m 22 ls [])) (l1 : Int32) (l3 : Int32) (l4 : Int32) (t0 : Int32) (t1 : Int32) (S : mS) (H : Heap) (locs : List Loc) (ls : Array Slot) (hP : va_P D mCl (mws am cI cJ S) H) (hD : va_D (mA am) (mws am cI cJ S)) (hS : va_S (mA am) s.heap H locs) (hl : lv_has ls 5 [(0, .ref (am 0)), (1, .int l1), (3, .int l3), (4, .int l4)]) (hf : fX3_blocked_b59 k22 l1 l3 l4 t0 t1 S = some (r, Sf)) : W p l e (mR 4 90) s m args below meth c H locs 0 0 (mQ below D am cI cJ (some (.int r)) Sf args s) (F0 m 59 ls [.int t1, .int t0]) := by
  obtain ⟨hx, hb, hr, hlk, hml, hown, hts, hK⟩ := hc
  have hc : mC p s m args meth c D cI cJ cX3_blocked 5 (some .int) := ⟨hx, hb, hr, hlk, hml, hown, hts, hK⟩
  unfold fX3_blocked_b59 at hf
  refine lv_ior (pc := 59) hx hb dX3_blocked_59 ?_
  refine lv_istore_n (pc := 60) (lv' := [(2, .int (t0 ||| t1)), (0, .ref (am 0)), (1, .int l1), (3, .int l3), (4, .int l4)]) hx hb dX3_blocked_60 rfl hl (by decide) rfl (fun ls hl => ?_)
  refine lv_iload_n (pc := 61) hx hb dX3_blocked_61 rfl (lv_at hl 3 rfl) ?_
  refine lv_aload_n (pc := 62) hx hb dX3_blocked_62 rfl (lv_at hl 1 rfl) ?_
  refine lv_iload_n (pc := 63) hx hb dX3_blocked_63 rfl (lv_at hl 2 rfl) ?_
  refine lv_iload (pc := 64) hx hb dX3_blocked_64 (lv_at hl 4 rfl) ?_
  obtain ⟨v1, S1, e1, hf⟩ := bd2o hf
  refine m_callV (pc := 66) (As := [.int l1, .int l4]) (rest := [.int l3]) (st1 := [.int v1, .int l3]) hc (mX3_may e1) (cwV 2 hts (lw_V q3011 q3013 qs69 q105 q3014) rfl rfl rfl hdX3_may ⟨Nat.le_of_ble_eq_true rfl, Nat.le_of_ble_eq_true rfl⟩) rfl hl.1 rfl rfl (lv_room (Nat.le_of_ble_eq_true rfl)) dX3_blocked_66 hP hD hS (fun H locs hP hD hS => ?_)
  refine lv_if_eq (pc := 69) (tgt := 84) hx hb dX3_blocked_69 (by decide) (fun c2 => ?_) (fun c2 => ?_)
  · rw [if_pos c2] at hf
    refine lv_iconst (pc := 84) (v := nI 0) hx hb dX3_blocked_84 rfl ?_
    refine lv_ior (pc := 85) hx hb dX3_blocked_85 ?_
    refine lv_istore_n (pc := 86) (lv' := [(3, .int (l3 ||| (nI 0))), (2, .int (t0 ||| t1)), (0, .ref (am 0)), (1, .int l1), (4, .int l4)]) hx hb dX3_blocked_86 rfl hl (by decide) rfl (fun ls hl => ?_)
    refine lv_iinc (pc := 87) (v := l4 + (nI 1)) (lv' := [(4, .int (l4 + (nI 1))), (3, .int (l3 ||| (nI 0))), (2, .int (t0 ||| t1)), (0, .ref (am 0)), (1, .int l1)]) hx hb dX3_blocked_87 hl (k := 4) rfl rfl (by decide) rfl (fun ls hl => ?_)
    refine lv_goto (pc := 90) (tgt := 22) hx hb dX3_blocked_90 (by decide) ?_
    exact h22 l1 (t0 ||| t1) (l3 ||| (nI 0)) (l4 + (nI 1)) S1 _ _ ls hP hD hS (lv_sub hl [3, 4, 2, 1, 0] rfl) hf
  · rw [if_neg c2] at hf
    refine lv_iconst (pc := 72) (v := nI 1) hx hb dX3_blocked_72 rfl ?_
    refine lv_aload_n (pc := 73) hx hb dX3_blocked_73 rfl (lv_at hl 1 rfl) ?_
    refine lv_iload_n (pc := 74) hx hb dX3_blocked_74 rfl (lv_at hl 2 rfl) ?_
    refine lv_iload (pc := 75) hx hb dX3_blocked_75 (lv_at hl 4 rfl) ?_
    obtain ⟨v3, S3, e3, hf⟩ := bd2o hf
    refine m_callV (pc := 77) (As := [.int l1, .int l4]) (rest := [.int (nI 1), .int l3]) (st1 := [.int v3, .int (nI 1), .int l3]) hc (mX3_keyOf e3) (cwV 2 hts (lw_V q3015 q3017 qs70 q105 q3018) rfl rfl rfl hdX3_keyOf ⟨Nat.le_of_ble_eq_true rfl, Nat.le_of_ble_eq_true rfl⟩) rfl hl.1 rfl rfl (lv_room (Nat.le_of_ble_eq_true rfl)) dX3_blocked_77 hP hD hS (fun H locs hP hD hS => ?_)
    refine lv_ishl (pc := 80) hx hb dX3_blocked_80 ?_
    refine lv_goto (pc := 81) (tgt := 85) hx hb dX3_blocked_81 (by decide) ?_
    refine lv_ior (pc := 85) hx hb dX3_blocked_85 ?_
    refine lv_istore_n (pc := 86) (lv' := [(3, .int (l3 ||| ((nI 1) <<< (v3 &&& 31)))), (2, .int (t0 ||| t1)), (0, .ref (am 0)), (1, .int l1), (4, .int l4)]) hx hb dX3_blocked_86 rfl hl (by decide) rfl (fun ls hl => ?_)
    refine lv_iinc (pc := 87) (v := l4 + (nI 1)) (lv' := [(4, .int (l4 + (nI 1))), (3, .int (l3 ||| ((nI 1) <<< (v3 &&& 31)))), (2, .int (t0 ||| t1)), (0, .ref (am 0)), (1, .int l1)]) hx hb dX3_blocked_87 hl (k := 4) rfl rfl (by decide) rfl (fun ls hl => ?_)
    refine lv_goto (pc := 90) (tgt := 22) hx hb dX3_blocked_90 (by decide) ?_
    exact h22 l1 (t0 ||| t1) (l3 ||| ((nI 1) <<< (v3 &&& 31))) (l4 + (nI 1)) S3 _ _ ls hP hD hS (lv_sub hl [3, 4, 2, 1, 0] rfl) hf
def fX3_blocked_b22 : Nat → Int32 → Int32 → Int32 → Int32 → mS → Option (Int32 × mS)
  | 0, _, _, _, _, _ => none
  | n + 1, l1, l2, l3, l4, S =>
    bd2 (fX3_of l1 (nI 35) S) fun v1 S1 =>
    if v1 ≤ l4 then
      some (l2 &&& (l3 ^^^ (-1)), S1)
    else
      bd2 (fX3_letterOf l1 l4 (nI 1) S1) fun v3 S3 =>
      if v3 = 0 then
        bd2 (fX3_keyOf l1 l4 S3) fun v5 S5 =>
        fX3_blocked_b59 (fX3_blocked_b22 n) l1 l3 l4 l2 ((nI 1) <<< (v5 &&& 31)) S5
      else
        fX3_blocked_b59 (fX3_blocked_b22 n) l1 l3 l4 l2 (nI 0) S3
theorem wX3_blocked_b22 (hc : mC p s m args meth c D cI cJ cX3_blocked 5 (some .int)) : ∀ (n : Nat) (l1 : Int32) (l2 : Int32) (l3 : Int32) (l4 : Int32) (S : mS) (H : Heap) (locs : List Loc) (ls : Array Slot), va_P D mCl (mws am cI cJ S) H → va_D (mA am) (mws am cI cJ S) → va_S (mA am) s.heap H locs → lv_has ls 5 [(0, .ref (am 0)), (1, .int l1), (2, .int l2), (3, .int l3), (4, .int l4)] → fX3_blocked_b22 n l1 l2 l3 l4 S = some (r, Sf) → W p l e (mR 4 90) s m args below meth c H locs 0 0 (mQ below D am cI cJ (some (.int r)) Sf args s) (F0 m 22 ls []) := by
  obtain ⟨hx, hb, hr, hlk, hml, hown, hts, hK⟩ := hc
  have hc : mC p s m args meth c D cI cJ cX3_blocked 5 (some .int) := ⟨hx, hb, hr, hlk, hml, hown, hts, hK⟩
  intro n
  induction n with
  | zero => intro l1 l2 l3 l4 S H locs ls _ _ _ _ hf; exact absurd hf (fun h => by cases h)
  | succ n ih =>
    intro l1 l2 l3 l4 S H locs ls hP hD hS hl hf
    rw [fX3_blocked_b22] at hf
    refine lv_iload (pc := 22) hx hb dX3_blocked_22 (lv_at hl 4 rfl) ?_
    refine lv_aload_n (pc := 24) hx hb dX3_blocked_24 rfl (lv_at hl 0 rfl) ?_
    refine lv_iload_n (pc := 25) hx hb dX3_blocked_25 rfl (lv_at hl 1 rfl) ?_
    refine lv_bipush (pc := 26) (v := nI 35) hx hb dX3_blocked_26 kcb35 ?_
    obtain ⟨v1, S1, e1, hf⟩ := bd2o hf
    refine m_callV (pc := 28) (As := [.int l1, .int (nI 35)]) (rest := [.int l4]) (st1 := [.int v1, .int l4]) hc (mX3_of e1) (cwV 2 hts (lw_V q2949 q2951 qs58 q105 q2952) rfl rfl rfl hdX3_of ⟨Nat.le_of_ble_eq_true rfl, Nat.le_of_ble_eq_true rfl⟩) rfl hl.1 rfl rfl (lv_room (Nat.le_of_ble_eq_true rfl)) dX3_blocked_28 hP hD hS (fun H locs hP hD hS => ?_)
    refine lv_icmp_ge (pc := 31) (tgt := 93) hx hb dX3_blocked_31 (by decide) (fun c2 => ?_) (fun c2 => ?_)
    · rw [if_pos c2] at hf
      refine lv_iload_n (pc := 93) hx hb dX3_blocked_93 rfl (lv_at hl 2 rfl) ?_
      refine lv_iload_n (pc := 94) hx hb dX3_blocked_94 rfl (lv_at hl 3 rfl) ?_
      refine lv_iconst (pc := 95) (v := -1) hx hb dX3_blocked_95 rfl ?_
      refine lv_ixor (pc := 96) hx hb dX3_blocked_96 ?_
      refine lv_iand (pc := 97) hx hb dX3_blocked_97 ?_
      exact m_iret (pc := 98) hx hb hr hlk hP hD hS hf dX3_blocked_98
    · rw [if_neg c2] at hf
      refine lv_iload_n (pc := 34) hx hb dX3_blocked_34 rfl (lv_at hl 2 rfl) ?_
      refine lv_aload_n (pc := 35) hx hb dX3_blocked_35 rfl (lv_at hl 0 rfl) ?_
      refine lv_iload_n (pc := 36) hx hb dX3_blocked_36 rfl (lv_at hl 1 rfl) ?_
      refine lv_iload (pc := 37) hx hb dX3_blocked_37 (lv_at hl 4 rfl) ?_
      refine lv_iconst (pc := 39) (v := nI 1) hx hb dX3_blocked_39 rfl ?_
      obtain ⟨v3, S3, e3, hf⟩ := bd2o hf
      refine m_callV (pc := 40) (As := [.int l1, .int l4, .int (nI 1)]) (rest := [.int l2]) (st1 := [.int v3, .int l2]) hc (mX3_letterOf e3) (cwV 3 hts (lw_V q2991 q2993 qs65 q105 q2994) rfl rfl rfl hdX3_letterOf ⟨Nat.le_of_ble_eq_true rfl, Nat.le_of_ble_eq_true rfl⟩) rfl hl.1 rfl rfl (lv_room (Nat.le_of_ble_eq_true rfl)) dX3_blocked_40 hP hD hS (fun H locs hP hD hS => ?_)
      refine lv_if_ne (pc := 43) (tgt := 58) hx hb dX3_blocked_43 (by decide) (fun c4 => ?_) (fun c4 => ?_)
      · rw [if_neg c4] at hf
        refine lv_iconst (pc := 58) (v := nI 0) hx hb dX3_blocked_58 rfl ?_
        exact wX3_blocked_b59 hc (fX3_blocked_b22 n) ih l1 l3 l4 l2 (nI 0) S3 _ _ ls hP hD hS (lv_sub hl [0, 1, 3, 4] rfl) hf
      · rw [if_pos c4] at hf
        refine lv_iconst (pc := 46) (v := nI 1) hx hb dX3_blocked_46 rfl ?_
        refine lv_aload_n (pc := 47) hx hb dX3_blocked_47 rfl (lv_at hl 0 rfl) ?_
        refine lv_iload_n (pc := 48) hx hb dX3_blocked_48 rfl (lv_at hl 1 rfl) ?_
        refine lv_iload (pc := 49) hx hb dX3_blocked_49 (lv_at hl 4 rfl) ?_
        obtain ⟨v5, S5, e5, hf⟩ := bd2o hf
        refine m_callV (pc := 51) (As := [.int l1, .int l4]) (rest := [.int (nI 1), .int l2]) (st1 := [.int v5, .int (nI 1), .int l2]) hc (mX3_keyOf e5) (cwV 2 hts (lw_V q3015 q3017 qs70 q105 q3018) rfl rfl rfl hdX3_keyOf ⟨Nat.le_of_ble_eq_true rfl, Nat.le_of_ble_eq_true rfl⟩) rfl hl.1 rfl rfl (lv_room (Nat.le_of_ble_eq_true rfl)) dX3_blocked_51 hP hD hS (fun H locs hP hD hS => ?_)
        refine lv_ishl (pc := 54) hx hb dX3_blocked_54 ?_
        refine lv_goto (pc := 55) (tgt := 59) hx hb dX3_blocked_55 (by decide) ?_
        exact wX3_blocked_b59 hc (fX3_blocked_b22 n) ih l1 l3 l4 l2 ((nI 1) <<< (v5 &&& 31)) S5 _ _ ls hP hD hS (lv_sub hl [0, 1, 3, 4] rfl) hf
def fX3_blocked (l1 : Int32) (S : mS) : Option (Int32 × mS) :=
  bd2 (fX3_isQueue l1 S) fun v1 S1 =>
  if v1 = 0 then
    bd2 (fX3_refused (-82) S1) fun v3 S3 =>
    some (v3, S3)
  else
    fX3_blocked_b22 FU l1 (nI 0) (nI 0) (nI 0) S1
theorem wX3_blocked_b0 (hc : mC p s m args meth c D cI cJ cX3_blocked 5 (some .int)) (l1 : Int32) (S : mS) (H : Heap) (locs : List Loc) (ls : Array Slot) (hP : va_P D mCl (mws am cI cJ S) H) (hD : va_D (mA am) (mws am cI cJ S)) (hS : va_S (mA am) s.heap H locs) (hl : lv_has ls 5 [(0, .ref (am 0)), (1, .int l1)]) (hf : fX3_blocked l1 S = some (r, Sf)) : W p l e (mR 4 90) s m args below meth c H locs 0 0 (mQ below D am cI cJ (some (.int r)) Sf args s) (F0 m 0 ls []) := by
  obtain ⟨hx, hb, hr, hlk, hml, hown, hts, hK⟩ := hc
  have hc : mC p s m args meth c D cI cJ cX3_blocked 5 (some .int) := ⟨hx, hb, hr, hlk, hml, hown, hts, hK⟩
  unfold fX3_blocked at hf
  refine lv_aload_n (pc := 0) hx hb dX3_blocked_0 rfl (lv_at hl 0 rfl) ?_
  refine lv_iload_n (pc := 1) hx hb dX3_blocked_1 rfl (lv_at hl 1 rfl) ?_
  obtain ⟨v1, S1, e1, hf⟩ := bd2o hf
  refine m_callV (pc := 2) (As := [.int l1]) (rest := []) (st1 := [.int v1]) hc (mX3_isQueue e1) (cwV 1 hts (lw_V q2961 q2963 qs60 q105 q2964) rfl rfl rfl hdX3_isQueue ⟨Nat.le_of_ble_eq_true rfl, Nat.le_of_ble_eq_true rfl⟩) rfl hl.1 rfl rfl (lv_room (Nat.le_of_ble_eq_true rfl)) dX3_blocked_2 hP hD hS (fun H locs hP hD hS => ?_)
  refine lv_if_ne (pc := 5) (tgt := 15) hx hb dX3_blocked_5 (by decide) (fun c2 => ?_) (fun c2 => ?_)
  · rw [if_neg c2] at hf
    refine lv_iconst (pc := 15) (v := nI 0) hx hb dX3_blocked_15 rfl ?_
    refine lv_istore_n (pc := 16) (lv' := [(2, .int (nI 0)), (0, .ref (am 0)), (1, .int l1)]) hx hb dX3_blocked_16 rfl hl (by decide) rfl (fun ls hl => ?_)
    refine lv_iconst (pc := 17) (v := nI 0) hx hb dX3_blocked_17 rfl ?_
    refine lv_istore_n (pc := 18) (lv' := [(3, .int (nI 0)), (2, .int (nI 0)), (0, .ref (am 0)), (1, .int l1)]) hx hb dX3_blocked_18 rfl hl (by decide) rfl (fun ls hl => ?_)
    refine lv_iconst (pc := 19) (v := nI 0) hx hb dX3_blocked_19 rfl ?_
    refine lv_istore (pc := 20) (lv' := [(4, .int (nI 0)), (3, .int (nI 0)), (2, .int (nI 0)), (0, .ref (am 0)), (1, .int l1)]) hx hb dX3_blocked_20 hl (by decide) rfl (fun ls hl => ?_)
    exact wX3_blocked_b22 hc FU l1 (nI 0) (nI 0) (nI 0) S1 _ _ ls hP hD hS (lv_sub hl [3, 4, 2, 1, 0] rfl) hf
  · rw [if_pos c2] at hf
    refine lv_aload_n (pc := 8) hx hb dX3_blocked_8 rfl (lv_at hl 0 rfl) ?_
    refine lv_bipush (pc := 9) (v := -82) hx hb dX3_blocked_9 kcbm82 ?_
    obtain ⟨v3, S3, e3, hf⟩ := bd2o hf
    refine m_callV (pc := 11) (As := [.int (-82)]) (rest := []) (st1 := [.int v3]) hc (mX3_refused e3) (cwV 1 hts (lw_V q2899 q2901 qs51 q105 q2902) rfl rfl rfl hdX3_refused ⟨Nat.le_of_ble_eq_true rfl, Nat.le_of_ble_eq_true rfl⟩) rfl hl.1 rfl rfl (lv_room (Nat.le_of_ble_eq_true rfl)) dX3_blocked_11 hP hD hS (fun H locs hP hD hS => ?_)
    exact m_iret (pc := 14) hx hb hr hlk hP hD hS hf dX3_blocked_14
theorem mX3_blocked {S S2 : mS} {r2 : Int32} {l1 : Int32} (hf : fX3_blocked l1 S = some (r2, S2)) : mMet l yX3_blocked cX3_blocked 5 (some .int) 4 90 D am cI cJ [.ref (am 0), .int l1] S (some (.int r2)) S2 := by
  exact m_start (by decide) rfl (Nat.le_of_ble_eq_true rfl) (fun p e s m args below meth c ls hc hl hP hD => wX3_blocked_b0 hc l1 S _ _ ls hP hD va_S.rf (lv_sub hl [0, 1] rfl) hf)
end
section
variable {r : Unit} {Sf : mS}
def fX3_copies_01_b2 : Nat → Int32 → mS → Option (Unit × mS)
  | 0, _, _ => none
  | n + 1, l2, S =>
    if (nI 7919) ≤ l2 then
      some ((), S)
    else
      bd (mrd S 0 7919 l2) fun v2 =>
      bd (mwr S 1 7919 l2 v2) fun S3 =>
      fX3_copies_01_b2 n (l2 + (nI 1)) S3
theorem wX3_copies_01_b2 (hc : mC p s m args meth c D cI cJ cX3_copies 3 (none)) : ∀ (n : Nat) (l2 : Int32) (S : mS) (H : Heap) (locs : List Loc) (ls : Array Slot), va_P D mCl (mws am cI cJ S) H → va_D (mA am) (mws am cI cJ S) → va_S (mA am) s.heap H locs → lv_has ls 3 [(0, .ref (am 1)), (1, .ref (am 2)), (2, .int l2)] → fX3_copies_01_b2 n l2 S = some (r, Sf) → W p l e (mR 0 0) s m args below meth c H locs 0 0 (mQ below D am cI cJ none Sf args s) (F0 m 2 ls []) := by
  obtain ⟨hx, hb, hr, hlk, hml, hown, hts, hK⟩ := hc
  have hc : mC p s m args meth c D cI cJ cX3_copies 3 (none) := ⟨hx, hb, hr, hlk, hml, hown, hts, hK⟩
  intro n
  induction n with
  | zero => intro l2 S H locs ls _ _ _ _ hf; exact absurd hf (fun h => by cases h)
  | succ n ih =>
    intro l2 S H locs ls hP hD hS hl hf
    rw [fX3_copies_01_b2] at hf
    refine lv_iload_n (pc := 2) hx hb dX3_copies_2 rfl (lv_at hl 2 rfl) ?_
    refine lv_sipush (pc := 3) (v := nI 7919) hx hb dX3_copies_3 kcs7919 ?_
    refine lv_icmp_ge (pc := 6) (tgt := 21) hx hb dX3_copies_6 (by decide) (fun c1 => ?_) (fun c1 => ?_)
    · rw [if_pos c1] at hf
      exact m_vret (pc := 21) hx hb hr hlk hP hD hS hf dX3_copies_21
    · rw [if_neg c1] at hf
      refine lv_aload_n (pc := 9) hx hb dX3_copies_9 rfl (lv_at hl 1 rfl) ?_
      refine lv_iload_n (pc := 10) hx hb dX3_copies_10 rfl (lv_at hl 2 rfl) ?_
      refine lv_aload_n (pc := 11) hx hb dX3_copies_11 rfl (lv_at hl 0 rfl) ?_
      refine lv_iload_n (pc := 12) hx hb dX3_copies_12 rfl (lv_at hl 2 rfl) ?_
      obtain ⟨v2, e2, hf⟩ := bdo hf
      refine m_iald (pc := 13) (k := 0) hx hb hK hP rfl e2 dX3_copies_13 ?_
      obtain ⟨S3, e3, hf⟩ := bdo hf
      refine m_iast (pc := 14) (k := 1) hx hb hK hP hD hS rfl (fun _ _ => rfl) e3 dX3_copies_14 (fun H locs hP hD hS => ?_)
      refine lv_iinc (pc := 15) (v := l2 + (nI 1)) (lv' := [(2, .int (l2 + (nI 1))), (0, .ref (am 1)), (1, .ref (am 2))]) hx hb dX3_copies_15 hl (k := 2) rfl rfl (by decide) rfl (fun ls hl => ?_)
      refine lv_goto (pc := 18) (tgt := 2) hx hb dX3_copies_18 (by decide) ?_
      exact ih (l2 + (nI 1)) S3 _ _ ls hP hD hS (lv_sub hl [1, 2, 0] rfl) hf
def fX3_copies_01 (S : mS) : Option (Unit × mS) :=
  fX3_copies_01_b2 FU (nI 0) S
theorem wX3_copies_01_b0 (hc : mC p s m args meth c D cI cJ cX3_copies 3 (none)) (S : mS) (H : Heap) (locs : List Loc) (ls : Array Slot) (hP : va_P D mCl (mws am cI cJ S) H) (hD : va_D (mA am) (mws am cI cJ S)) (hS : va_S (mA am) s.heap H locs) (hl : lv_has ls 3 [(0, .ref (am 1)), (1, .ref (am 2))]) (hf : fX3_copies_01  S = some (r, Sf)) : W p l e (mR 0 0) s m args below meth c H locs 0 0 (mQ below D am cI cJ none Sf args s) (F0 m 0 ls []) := by
  obtain ⟨hx, hb, hr, hlk, hml, hown, hts, hK⟩ := hc
  have hc : mC p s m args meth c D cI cJ cX3_copies 3 (none) := ⟨hx, hb, hr, hlk, hml, hown, hts, hK⟩
  unfold fX3_copies_01 at hf
  refine lv_iconst (pc := 0) (v := nI 0) hx hb dX3_copies_0 rfl ?_
  refine lv_istore_n (pc := 1) (lv' := [(2, .int (nI 0)), (0, .ref (am 1)), (1, .ref (am 2))]) hx hb dX3_copies_1 rfl hl (by decide) rfl (fun ls hl => ?_)
  exact wX3_copies_01_b2 hc FU (nI 0) S _ _ ls hP hD hS (lv_sub hl [1, 2, 0] rfl) hf
theorem mX3_copies_01 {S S2 : mS} {r2 : Unit} (hf : fX3_copies_01  S = some (r2, S2)) : mMet l yX3_copies cX3_copies 3 (none) 0 0 D am cI cJ [.ref (am 1), .ref (am 2)] S none S2 := by
  exact m_start (by decide) rfl (Nat.le_of_ble_eq_true rfl) (fun p e s m args below meth c ls hc hl hP hD => wX3_copies_01_b0 hc  S _ _ ls hP hD va_S.rf (lv_sub hl [0, 1] rfl) hf)
end
section
variable {r : Unit} {Sf : mS}
def fX3_copies_10_b2 : Nat → Int32 → mS → Option (Unit × mS)
  | 0, _, _ => none
  | n + 1, l2, S =>
    if (nI 7919) ≤ l2 then
      some ((), S)
    else
      bd (mrd S 1 7919 l2) fun v2 =>
      bd (mwr S 0 7919 l2 v2) fun S3 =>
      fX3_copies_10_b2 n (l2 + (nI 1)) S3
theorem wX3_copies_10_b2 (hc : mC p s m args meth c D cI cJ cX3_copies 3 (none)) : ∀ (n : Nat) (l2 : Int32) (S : mS) (H : Heap) (locs : List Loc) (ls : Array Slot), va_P D mCl (mws am cI cJ S) H → va_D (mA am) (mws am cI cJ S) → va_S (mA am) s.heap H locs → lv_has ls 3 [(0, .ref (am 2)), (1, .ref (am 1)), (2, .int l2)] → fX3_copies_10_b2 n l2 S = some (r, Sf) → W p l e (mR 0 0) s m args below meth c H locs 0 0 (mQ below D am cI cJ none Sf args s) (F0 m 2 ls []) := by
  obtain ⟨hx, hb, hr, hlk, hml, hown, hts, hK⟩ := hc
  have hc : mC p s m args meth c D cI cJ cX3_copies 3 (none) := ⟨hx, hb, hr, hlk, hml, hown, hts, hK⟩
  intro n
  induction n with
  | zero => intro l2 S H locs ls _ _ _ _ hf; exact absurd hf (fun h => by cases h)
  | succ n ih =>
    intro l2 S H locs ls hP hD hS hl hf
    rw [fX3_copies_10_b2] at hf
    refine lv_iload_n (pc := 2) hx hb dX3_copies_2 rfl (lv_at hl 2 rfl) ?_
    refine lv_sipush (pc := 3) (v := nI 7919) hx hb dX3_copies_3 kcs7919 ?_
    refine lv_icmp_ge (pc := 6) (tgt := 21) hx hb dX3_copies_6 (by decide) (fun c1 => ?_) (fun c1 => ?_)
    · rw [if_pos c1] at hf
      exact m_vret (pc := 21) hx hb hr hlk hP hD hS hf dX3_copies_21
    · rw [if_neg c1] at hf
      refine lv_aload_n (pc := 9) hx hb dX3_copies_9 rfl (lv_at hl 1 rfl) ?_
      refine lv_iload_n (pc := 10) hx hb dX3_copies_10 rfl (lv_at hl 2 rfl) ?_
      refine lv_aload_n (pc := 11) hx hb dX3_copies_11 rfl (lv_at hl 0 rfl) ?_
      refine lv_iload_n (pc := 12) hx hb dX3_copies_12 rfl (lv_at hl 2 rfl) ?_
      obtain ⟨v2, e2, hf⟩ := bdo hf
      refine m_iald (pc := 13) (k := 1) hx hb hK hP rfl e2 dX3_copies_13 ?_
      obtain ⟨S3, e3, hf⟩ := bdo hf
      refine m_iast (pc := 14) (k := 0) hx hb hK hP hD hS rfl (fun _ _ => rfl) e3 dX3_copies_14 (fun H locs hP hD hS => ?_)
      refine lv_iinc (pc := 15) (v := l2 + (nI 1)) (lv' := [(2, .int (l2 + (nI 1))), (0, .ref (am 2)), (1, .ref (am 1))]) hx hb dX3_copies_15 hl (k := 2) rfl rfl (by decide) rfl (fun ls hl => ?_)
      refine lv_goto (pc := 18) (tgt := 2) hx hb dX3_copies_18 (by decide) ?_
      exact ih (l2 + (nI 1)) S3 _ _ ls hP hD hS (lv_sub hl [1, 2, 0] rfl) hf
def fX3_copies_10 (S : mS) : Option (Unit × mS) :=
  fX3_copies_10_b2 FU (nI 0) S
theorem wX3_copies_10_b0 (hc : mC p s m args meth c D cI cJ cX3_copies 3 (none)) (S : mS) (H : Heap) (locs : List Loc) (ls : Array Slot) (hP : va_P D mCl (mws am cI cJ S) H) (hD : va_D (mA am) (mws am cI cJ S)) (hS : va_S (mA am) s.heap H locs) (hl : lv_has ls 3 [(0, .ref (am 2)), (1, .ref (am 1))]) (hf : fX3_copies_10  S = some (r, Sf)) : W p l e (mR 0 0) s m args below meth c H locs 0 0 (mQ below D am cI cJ none Sf args s) (F0 m 0 ls []) := by
  obtain ⟨hx, hb, hr, hlk, hml, hown, hts, hK⟩ := hc
  have hc : mC p s m args meth c D cI cJ cX3_copies 3 (none) := ⟨hx, hb, hr, hlk, hml, hown, hts, hK⟩
  unfold fX3_copies_10 at hf
  refine lv_iconst (pc := 0) (v := nI 0) hx hb dX3_copies_0 rfl ?_
  refine lv_istore_n (pc := 1) (lv' := [(2, .int (nI 0)), (0, .ref (am 2)), (1, .ref (am 1))]) hx hb dX3_copies_1 rfl hl (by decide) rfl (fun ls hl => ?_)
  exact wX3_copies_10_b2 hc FU (nI 0) S _ _ ls hP hD hS (lv_sub hl [1, 2, 0] rfl) hf
theorem mX3_copies_10 {S S2 : mS} {r2 : Unit} (hf : fX3_copies_10  S = some (r2, S2)) : mMet l yX3_copies cX3_copies 3 (none) 0 0 D am cI cJ [.ref (am 2), .ref (am 1)] S none S2 := by
  exact m_start (by decide) rfl (Nat.le_of_ble_eq_true rfl) (fun p e s m args below meth c ls hc hl hP hD => wX3_copies_10_b0 hc  S _ _ ls hP hD va_S.rf (lv_sub hl [0, 1] rfl) hf)
end
section
variable {r : Unit} {Sf : mS}
def fX3_drains_b22 : Nat → Int32 → Int32 → mS → Option (Unit × mS)
  | 0, _, _, _ => none
  | n + 1, l1, l2, S =>
    if l2 < 0 then
      bd2 (fX3_copies_10  S) fun _ S2 =>
      some ((), S2)
    else
      bd2 (fX3_letterOf l1 l2 (nI 0) S) fun v3 S3 =>
      bd (mwr S3 7 20 (mf S 4) v3) fun S4 =>
      bd (ms S4 4 ((mf S4 4) + (nI 1))) fun S5 =>
      bd2 (fX3_goes l1 l2 S5) fun _ S6 =>
      bd2 (fX3_nextOf l1 S6) fun v7 S7 =>
      fX3_drains_b22 n l1 v7 S7
theorem wX3_drains_b22 (hc : mC p s m args meth c D cI cJ cX3_drains 3 (none)) : ∀ (n : Nat) (l1 : Int32) (l2 : Int32) (S : mS) (H : Heap) (locs : List Loc) (ls : Array Slot), va_P D mCl (mws am cI cJ S) H → va_D (mA am) (mws am cI cJ S) → va_S (mA am) s.heap H locs → lv_has ls 3 [(0, .ref (am 0)), (1, .int l1), (2, .int l2)] → fX3_drains_b22 n l1 l2 S = some (r, Sf) → W p l e (mR 5 113) s m args below meth c H locs 0 0 (mQ below D am cI cJ none Sf args s) (F0 m 22 ls []) := by
  obtain ⟨hx, hb, hr, hlk, hml, hown, hts, hK⟩ := hc
  have hc : mC p s m args meth c D cI cJ cX3_drains 3 (none) := ⟨hx, hb, hr, hlk, hml, hown, hts, hK⟩
  intro n
  induction n with
  | zero => intro l1 l2 S H locs ls _ _ _ _ hf; exact absurd hf (fun h => by cases h)
  | succ n ih =>
    intro l1 l2 S H locs ls hP hD hS hl hf
    rw [fX3_drains_b22] at hf
    refine lv_iload_n (pc := 22) hx hb dX3_drains_22 rfl (lv_at hl 2 rfl) ?_
    refine lv_if_lt (pc := 23) (tgt := 67) hx hb dX3_drains_23 (by decide) (fun c1 => ?_) (fun c1 => ?_)
    · rw [if_pos c1] at hf
      refine lv_aload_n (pc := 67) hx hb dX3_drains_67 rfl (lv_at hl 0 rfl) ?_
      refine va_get (D := D) (ci := 0) (v := .ref (am 2)) (C := RX3) (T := TX3) (N := 17) (pc := 68) hx hb hts in_X3 hown hK hP 0 rfl rfl 1 (by decide) (hts _ q2840) (fun _ h9 => h9) rfl dX3_drains_68 ?_
      refine lv_aload_n (pc := 71) hx hb dX3_drains_71 rfl (lv_at hl 0 rfl) ?_
      refine va_get (D := D) (ci := 0) (v := .ref (am 1)) (C := RX3) (T := TX3) (N := 17) (pc := 72) hx hb hts in_X3 hown hK hP 0 rfl rfl 0 (by decide) (hts _ q2839) (fun _ h9 => h9) rfl dX3_drains_72 ?_
      obtain ⟨v2, S2, e2, hf⟩ := bd2o hf
      refine m_callS (pc := 75) (As := [.ref (am 2), .ref (am 1)]) (rest := []) (st1 := []) hc (mX3_copies_10 e2) (va_cwS 2 hts (lw_S q3191 q3192 q105 q3193) rfl rfl rfl hdX3_copies ⟨Nat.le_of_ble_eq_true rfl, Nat.le_of_ble_eq_true rfl⟩) rfl hl.1 rfl rfl (lv_room (Nat.le_of_ble_eq_true rfl)) dX3_drains_75 hP hD hS (fun H locs hP hD hS => ?_)
      exact m_vret (pc := 78) hx hb hr hlk hP hD hS hf dX3_drains_78
    · rw [if_neg c1] at hf
      refine lv_aload_n (pc := 26) hx hb dX3_drains_26 rfl (lv_at hl 0 rfl) ?_
      refine va_get (D := D) (ci := 0) (v := .ref (am 8)) (C := RX3) (T := TX3) (N := 17) (pc := 27) hx hb hts in_X3 hown hK hP 0 rfl rfl 11 (by decide) (hts _ q2850) (fun _ h9 => h9) rfl dX3_drains_27 ?_
      refine lv_aload_n (pc := 30) hx hb dX3_drains_30 rfl (lv_at hl 0 rfl) ?_
      refine va_get (D := D) (ci := 0) (v := .int (mf S 4)) (C := RX3) (T := TX3) (N := 17) (pc := 31) hx hb hts in_X3 hown hK hP 0 rfl rfl 12 (by decide) (hts _ q2851) (fun _ h9 => h9) rfl dX3_drains_31 ?_
      refine lv_aload_n (pc := 34) hx hb dX3_drains_34 rfl (lv_at hl 0 rfl) ?_
      refine lv_iload_n (pc := 35) hx hb dX3_drains_35 rfl (lv_at hl 1 rfl) ?_
      refine lv_iload_n (pc := 36) hx hb dX3_drains_36 rfl (lv_at hl 2 rfl) ?_
      refine lv_iconst (pc := 37) (v := nI 0) hx hb dX3_drains_37 rfl ?_
      obtain ⟨v3, S3, e3, hf⟩ := bd2o hf
      refine m_callV (pc := 38) (As := [.int l1, .int l2, .int (nI 0)]) (rest := [.int (mf S 4), .ref (am 8)]) (st1 := [.int v3, .int (mf S 4), .ref (am 8)]) hc (mX3_letterOf e3) (cwV 3 hts (lw_V q2991 q2993 qs65 q105 q2994) rfl rfl rfl hdX3_letterOf ⟨Nat.le_of_ble_eq_true rfl, Nat.le_of_ble_eq_true rfl⟩) rfl hl.1 rfl rfl (lv_room (Nat.le_of_ble_eq_true rfl)) dX3_drains_38 hP hD hS (fun H locs hP hD hS => ?_)
      obtain ⟨S4, e4, hf⟩ := bdo hf
      refine m_iast (pc := 41) (k := 7) hx hb hK hP hD hS rfl (fun _ _ => rfl) e4 dX3_drains_41 (fun H locs hP hD hS => ?_)
      refine lv_aload_n (pc := 42) hx hb dX3_drains_42 rfl (lv_at hl 0 rfl) ?_
      refine lv_dup (pc := 43) hx hb dX3_drains_43 rfl ?_
      refine va_get (D := D) (ci := 0) (v := .int (mf S4 4)) (C := RX3) (T := TX3) (N := 17) (pc := 44) hx hb hts in_X3 hown hK hP 0 rfl rfl 12 (by decide) (hts _ q2851) (fun _ h9 => h9) rfl dX3_drains_44 ?_
      refine lv_iconst (pc := 47) (v := nI 1) hx hb dX3_drains_47 rfl ?_
      refine lv_iadd (pc := 48) hx hb dX3_drains_48 ?_
      obtain ⟨S5, e5, hf⟩ := bdo hf
      refine m_put (pc := 49) (j := 12) (js := 4) hx hb hts hown hK hP hD hS (by decide) rfl rfl (hts _ q2851) rfl rfl e5 dX3_drains_49 (fun H locs hP hD hS => ?_)
      refine lv_aload_n (pc := 52) hx hb dX3_drains_52 rfl (lv_at hl 0 rfl) ?_
      refine lv_iload_n (pc := 53) hx hb dX3_drains_53 rfl (lv_at hl 1 rfl) ?_
      refine lv_iload_n (pc := 54) hx hb dX3_drains_54 rfl (lv_at hl 2 rfl) ?_
      obtain ⟨v6, S6, e6, hf⟩ := bd2o hf
      refine m_callV (pc := 55) (As := [.int l1, .int l2]) (rest := []) (st1 := []) hc (mX3_goes e6) (cwV 2 hts (lw_V q3055 q3057 qs78 q105 q3058) rfl rfl rfl hdX3_goes ⟨Nat.le_of_ble_eq_true rfl, Nat.le_of_ble_eq_true rfl⟩) rfl hl.1 rfl rfl (lv_room (Nat.le_of_ble_eq_true rfl)) dX3_drains_55 hP hD hS (fun H locs hP hD hS => ?_)
      refine lv_aload_n (pc := 58) hx hb dX3_drains_58 rfl (lv_at hl 0 rfl) ?_
      refine lv_iload_n (pc := 59) hx hb dX3_drains_59 rfl (lv_at hl 1 rfl) ?_
      obtain ⟨v7, S7, e7, hf⟩ := bd2o hf
      refine m_callV (pc := 60) (As := [.int l1]) (rest := []) (st1 := [.int v7]) hc (mX3_nextOf e7) (cwV 1 hts (lw_V q3007 q3009 qs68 q105 q3010) rfl rfl rfl hdX3_nextOf ⟨Nat.le_of_ble_eq_true rfl, Nat.le_of_ble_eq_true rfl⟩) rfl hl.1 rfl rfl (lv_room (Nat.le_of_ble_eq_true rfl)) dX3_drains_60 hP hD hS (fun H locs hP hD hS => ?_)
      refine lv_istore_n (pc := 63) (lv' := [(2, .int v7), (0, .ref (am 0)), (1, .int l1)]) hx hb dX3_drains_63 rfl hl (by decide) rfl (fun ls hl => ?_)
      refine lv_goto (pc := 64) (tgt := 22) hx hb dX3_drains_64 (by decide) ?_
      exact ih l1 v7 S7 _ _ ls hP hD hS (lv_sub hl [1, 2, 0] rfl) hf
def fX3_drains (l1 : Int32) (S : mS) : Option (Unit × mS) :=
  bd2 (fX3_copies_01  S) fun _ S1 =>
  bd (ms S1 4 (nI 0)) fun S2 =>
  bd2 (fX3_nextOf l1 S2) fun v3 S3 =>
  fX3_drains_b22 FU l1 v3 S3
theorem wX3_drains_b0 (hc : mC p s m args meth c D cI cJ cX3_drains 3 (none)) (l1 : Int32) (S : mS) (H : Heap) (locs : List Loc) (ls : Array Slot) (hP : va_P D mCl (mws am cI cJ S) H) (hD : va_D (mA am) (mws am cI cJ S)) (hS : va_S (mA am) s.heap H locs) (hl : lv_has ls 3 [(0, .ref (am 0)), (1, .int l1)]) (hf : fX3_drains l1 S = some (r, Sf)) : W p l e (mR 5 113) s m args below meth c H locs 0 0 (mQ below D am cI cJ none Sf args s) (F0 m 0 ls []) := by
  obtain ⟨hx, hb, hr, hlk, hml, hown, hts, hK⟩ := hc
  have hc : mC p s m args meth c D cI cJ cX3_drains 3 (none) := ⟨hx, hb, hr, hlk, hml, hown, hts, hK⟩
  unfold fX3_drains at hf
  refine lv_aload_n (pc := 0) hx hb dX3_drains_0 rfl (lv_at hl 0 rfl) ?_
  refine va_get (D := D) (ci := 0) (v := .ref (am 1)) (C := RX3) (T := TX3) (N := 17) (pc := 1) hx hb hts in_X3 hown hK hP 0 rfl rfl 0 (by decide) (hts _ q2839) (fun _ h9 => h9) rfl dX3_drains_1 ?_
  refine lv_aload_n (pc := 4) hx hb dX3_drains_4 rfl (lv_at hl 0 rfl) ?_
  refine va_get (D := D) (ci := 0) (v := .ref (am 2)) (C := RX3) (T := TX3) (N := 17) (pc := 5) hx hb hts in_X3 hown hK hP 0 rfl rfl 1 (by decide) (hts _ q2840) (fun _ h9 => h9) rfl dX3_drains_5 ?_
  obtain ⟨v1, S1, e1, hf⟩ := bd2o hf
  refine m_callS (pc := 8) (As := [.ref (am 1), .ref (am 2)]) (rest := []) (st1 := []) hc (mX3_copies_01 e1) (va_cwS 2 hts (lw_S q3191 q3192 q105 q3193) rfl rfl rfl hdX3_copies ⟨Nat.le_of_ble_eq_true rfl, Nat.le_of_ble_eq_true rfl⟩) rfl hl.1 rfl rfl (lv_room (Nat.le_of_ble_eq_true rfl)) dX3_drains_8 hP hD hS (fun H locs hP hD hS => ?_)
  refine lv_aload_n (pc := 11) hx hb dX3_drains_11 rfl (lv_at hl 0 rfl) ?_
  refine lv_iconst (pc := 12) (v := nI 0) hx hb dX3_drains_12 rfl ?_
  obtain ⟨S2, e2, hf⟩ := bdo hf
  refine m_put (pc := 13) (j := 12) (js := 4) hx hb hts hown hK hP hD hS (by decide) rfl rfl (hts _ q2851) rfl rfl e2 dX3_drains_13 (fun H locs hP hD hS => ?_)
  refine lv_aload_n (pc := 16) hx hb dX3_drains_16 rfl (lv_at hl 0 rfl) ?_
  refine lv_iload_n (pc := 17) hx hb dX3_drains_17 rfl (lv_at hl 1 rfl) ?_
  obtain ⟨v3, S3, e3, hf⟩ := bd2o hf
  refine m_callV (pc := 18) (As := [.int l1]) (rest := []) (st1 := [.int v3]) hc (mX3_nextOf e3) (cwV 1 hts (lw_V q3007 q3009 qs68 q105 q3010) rfl rfl rfl hdX3_nextOf ⟨Nat.le_of_ble_eq_true rfl, Nat.le_of_ble_eq_true rfl⟩) rfl hl.1 rfl rfl (lv_room (Nat.le_of_ble_eq_true rfl)) dX3_drains_18 hP hD hS (fun H locs hP hD hS => ?_)
  refine lv_istore_n (pc := 21) (lv' := [(2, .int v3), (0, .ref (am 0)), (1, .int l1)]) hx hb dX3_drains_21 rfl hl (by decide) rfl (fun ls hl => ?_)
  exact wX3_drains_b22 hc FU l1 v3 S3 _ _ ls hP hD hS (lv_sub hl [1, 2, 0] rfl) hf
theorem mX3_drains {S S2 : mS} {r2 : Unit} {l1 : Int32} (hf : fX3_drains l1 S = some (r2, S2)) : mMet l yX3_drains cX3_drains 3 (none) 5 113 D am cI cJ [.ref (am 0), .int l1] S none S2 := by
  exact m_start (by decide) rfl (Nat.le_of_ble_eq_true rfl) (fun p e s m args below meth c ls hc hl hP hD => wX3_drains_b0 hc l1 S _ _ ls hP hD va_S.rf (lv_sub hl [0, 1] rfl) hf)
end
section
variable {r : Int32} {Sf : mS}
def fX3_drained (l1 : Int32) (l2 : Int32) (S : mS) : Option (Int32 × mS) :=
  bd2 (fX3_isQueue l1 S) fun v1 S1 =>
  if v1 = 0 then
    bd2 (fX3_refused (-82) S1) fun v7 S7 =>
    some (v7, S7)
  else
    bd2 (fX3_drains l1 S1) fun _ S3 =>
    bd2 (fX3_in l2.toInt64 (lN 0) (((mf S3 4) - (nI 1)).toInt64) S3) fun v4 S4 =>
    if v4 = 0 then
      some (-1, S4)
    else
      bd (mrd S4 7 20 l2) fun v6 =>
      some (v6, S4)
theorem wX3_drained_b0 (hc : mC p s m args meth c D cI cJ cX3_drained 3 (some .int)) (l1 : Int32) (l2 : Int32) (S : mS) (H : Heap) (locs : List Loc) (ls : Array Slot) (hP : va_P D mCl (mws am cI cJ S) H) (hD : va_D (mA am) (mws am cI cJ S)) (hS : va_S (mA am) s.heap H locs) (hl : lv_has ls 3 [(0, .ref (am 0)), (1, .int l1), (2, .int l2)]) (hf : fX3_drained l1 l2 S = some (r, Sf)) : W p l e (mR 6 135) s m args below meth c H locs 0 0 (mQ below D am cI cJ (some (.int r)) Sf args s) (F0 m 0 ls []) := by
  obtain ⟨hx, hb, hr, hlk, hml, hown, hts, hK⟩ := hc
  have hc : mC p s m args meth c D cI cJ cX3_drained 3 (some .int) := ⟨hx, hb, hr, hlk, hml, hown, hts, hK⟩
  unfold fX3_drained at hf
  refine lv_aload_n (pc := 0) hx hb dX3_drained_0 rfl (lv_at hl 0 rfl) ?_
  refine lv_iload_n (pc := 1) hx hb dX3_drained_1 rfl (lv_at hl 1 rfl) ?_
  obtain ⟨v1, S1, e1, hf⟩ := bd2o hf
  refine m_callV (pc := 2) (As := [.int l1]) (rest := []) (st1 := [.int v1]) hc (mX3_isQueue e1) (cwV 1 hts (lw_V q2961 q2963 qs60 q105 q2964) rfl rfl rfl hdX3_isQueue ⟨Nat.le_of_ble_eq_true rfl, Nat.le_of_ble_eq_true rfl⟩) rfl hl.1 rfl rfl (lv_room (Nat.le_of_ble_eq_true rfl)) dX3_drained_2 hP hD hS (fun H locs hP hD hS => ?_)
  refine lv_if_ne (pc := 5) (tgt := 15) hx hb dX3_drained_5 (by decide) (fun c2 => ?_) (fun c2 => ?_)
  · rw [if_neg c2] at hf
    refine lv_aload_n (pc := 15) hx hb dX3_drained_15 rfl (lv_at hl 0 rfl) ?_
    refine lv_iload_n (pc := 16) hx hb dX3_drained_16 rfl (lv_at hl 1 rfl) ?_
    obtain ⟨v3, S3, e3, hf⟩ := bd2o hf
    refine m_callV (pc := 17) (As := [.int l1]) (rest := []) (st1 := []) hc (mX3_drains e3) (cwV 1 hts (lw_V q3187 q3189 qs91 q105 q3190) rfl rfl rfl hdX3_drains ⟨Nat.le_of_ble_eq_true rfl, Nat.le_of_ble_eq_true rfl⟩) rfl hl.1 rfl rfl (lv_room (Nat.le_of_ble_eq_true rfl)) dX3_drained_17 hP hD hS (fun H locs hP hD hS => ?_)
    refine lv_iload_n (pc := 20) hx hb dX3_drained_20 rfl (lv_at hl 2 rfl) ?_
    refine lv_i2l (pc := 21) hx hb dX3_drained_21 rfl ?_
    refine lv_lconst (pc := 22) (v := lN 0) hx hb dX3_drained_22 rfl ?_
    refine lv_aload_n (pc := 23) hx hb dX3_drained_23 rfl (lv_at hl 0 rfl) ?_
    refine va_get (D := D) (ci := 0) (v := .int (mf S3 4)) (C := RX3) (T := TX3) (N := 17) (pc := 24) hx hb hts in_X3 hown hK hP 0 rfl rfl 12 (by decide) (hts _ q2851) (fun _ h9 => h9) rfl dX3_drained_24 ?_
    refine lv_iconst (pc := 27) (v := nI 1) hx hb dX3_drained_27 rfl ?_
    refine lv_isub (pc := 28) hx hb dX3_drained_28 ?_
    refine lv_i2l (pc := 29) hx hb dX3_drained_29 rfl ?_
    obtain ⟨v4, S4, e4, hf⟩ := bd2o hf
    refine m_callS (pc := 30) (As := [.long l2.toInt64, .long (lN 0), .long (((mf S3 4) - (nI 1)).toInt64)]) (rest := []) (st1 := [.int v4]) hc (mX3_in e4) (va_cwS 3 hts (lw_S q2896 q2897 q105 q2898) rfl rfl rfl hdX3_in ⟨Nat.le_of_ble_eq_true rfl, Nat.le_of_ble_eq_true rfl⟩) rfl hl.1 rfl rfl (lv_room (Nat.le_of_ble_eq_true rfl)) dX3_drained_30 hP hD hS (fun H locs hP hD hS => ?_)
    refine lv_if_eq (pc := 33) (tgt := 45) hx hb dX3_drained_33 (by decide) (fun c5 => ?_) (fun c5 => ?_)
    · rw [if_pos c5] at hf
      refine lv_iconst (pc := 45) (v := -1) hx hb dX3_drained_45 rfl ?_
      exact m_iret (pc := 46) hx hb hr hlk hP hD hS hf dX3_drained_46
    · rw [if_neg c5] at hf
      refine lv_aload_n (pc := 36) hx hb dX3_drained_36 rfl (lv_at hl 0 rfl) ?_
      refine va_get (D := D) (ci := 0) (v := .ref (am 8)) (C := RX3) (T := TX3) (N := 17) (pc := 37) hx hb hts in_X3 hown hK hP 0 rfl rfl 11 (by decide) (hts _ q2850) (fun _ h9 => h9) rfl dX3_drained_37 ?_
      refine lv_iload_n (pc := 40) hx hb dX3_drained_40 rfl (lv_at hl 2 rfl) ?_
      obtain ⟨v6, e6, hf⟩ := bdo hf
      refine m_iald (pc := 41) (k := 7) hx hb hK hP rfl e6 dX3_drained_41 ?_
      refine lv_goto (pc := 42) (tgt := 46) hx hb dX3_drained_42 (by decide) ?_
      exact m_iret (pc := 46) hx hb hr hlk hP hD hS hf dX3_drained_46
  · rw [if_pos c2] at hf
    refine lv_aload_n (pc := 8) hx hb dX3_drained_8 rfl (lv_at hl 0 rfl) ?_
    refine lv_bipush (pc := 9) (v := -82) hx hb dX3_drained_9 kcbm82 ?_
    obtain ⟨v7, S7, e7, hf⟩ := bd2o hf
    refine m_callV (pc := 11) (As := [.int (-82)]) (rest := []) (st1 := [.int v7]) hc (mX3_refused e7) (cwV 1 hts (lw_V q2899 q2901 qs51 q105 q2902) rfl rfl rfl hdX3_refused ⟨Nat.le_of_ble_eq_true rfl, Nat.le_of_ble_eq_true rfl⟩) rfl hl.1 rfl rfl (lv_room (Nat.le_of_ble_eq_true rfl)) dX3_drained_11 hP hD hS (fun H locs hP hD hS => ?_)
    exact m_iret (pc := 14) hx hb hr hlk hP hD hS hf dX3_drained_14
theorem mX3_drained {S S2 : mS} {r2 : Int32} {l1 : Int32} {l2 : Int32} (hf : fX3_drained l1 l2 S = some (r2, S2)) : mMet l yX3_drained cX3_drained 3 (some .int) 6 135 D am cI cJ [.ref (am 0), .int l1, .int l2] S (some (.int r2)) S2 := by
  exact m_start (by decide) rfl (Nat.le_of_ble_eq_true rfl) (fun p e s m args below meth c ls hc hl hP hD => wX3_drained_b0 hc l1 l2 S _ _ ls hP hD va_S.rf (lv_sub hl [0, 1, 2] rfl) hf)
end
section
variable {r : Int32} {Sf : mS}
def fX3_until_b54 (l2 : Int32) (S : mS) : Option (Int32 × mS) :=
  bd2 (fX3_copies_10  S) fun _ S1 =>
  if l2 ≤ (nI 99) then
    some (l2, S1)
  else
    some (-1, S1)
theorem wX3_until_b54 (hc : mC p s m args meth c D cI cJ cX3_until 4 (some .int)) (l2 : Int32) (S : mS) (H : Heap) (locs : List Loc) (ls : Array Slot) (hP : va_P D mCl (mws am cI cJ S) H) (hD : va_D (mA am) (mws am cI cJ S)) (hS : va_S (mA am) s.heap H locs) (hl : lv_has ls 4 [(0, .ref (am 0)), (2, .int l2)]) (hf : fX3_until_b54 l2 S = some (r, Sf)) : W p l e (mR 6 150) s m args below meth c H locs 0 0 (mQ below D am cI cJ (some (.int r)) Sf args s) (F0 m 54 ls []) := by
  obtain ⟨hx, hb, hr, hlk, hml, hown, hts, hK⟩ := hc
  have hc : mC p s m args meth c D cI cJ cX3_until 4 (some .int) := ⟨hx, hb, hr, hlk, hml, hown, hts, hK⟩
  unfold fX3_until_b54 at hf
  refine lv_aload_n (pc := 54) hx hb dX3_until_54 rfl (lv_at hl 0 rfl) ?_
  refine va_get (D := D) (ci := 0) (v := .ref (am 2)) (C := RX3) (T := TX3) (N := 17) (pc := 55) hx hb hts in_X3 hown hK hP 0 rfl rfl 1 (by decide) (hts _ q2840) (fun _ h9 => h9) rfl dX3_until_55 ?_
  refine lv_aload_n (pc := 58) hx hb dX3_until_58 rfl (lv_at hl 0 rfl) ?_
  refine va_get (D := D) (ci := 0) (v := .ref (am 1)) (C := RX3) (T := TX3) (N := 17) (pc := 59) hx hb hts in_X3 hown hK hP 0 rfl rfl 0 (by decide) (hts _ q2839) (fun _ h9 => h9) rfl dX3_until_59 ?_
  obtain ⟨v1, S1, e1, hf⟩ := bd2o hf
  refine m_callS (pc := 62) (As := [.ref (am 2), .ref (am 1)]) (rest := []) (st1 := []) hc (mX3_copies_10 e1) (va_cwS 2 hts (lw_S q3191 q3192 q105 q3193) rfl rfl rfl hdX3_copies ⟨Nat.le_of_ble_eq_true rfl, Nat.le_of_ble_eq_true rfl⟩) rfl hl.1 rfl rfl (lv_room (Nat.le_of_ble_eq_true rfl)) dX3_until_62 hP hD hS (fun H locs hP hD hS => ?_)
  refine lv_iload_n (pc := 65) hx hb dX3_until_65 rfl (lv_at hl 1 rfl) ?_
  refine lv_bipush (pc := 66) (v := nI 99) hx hb dX3_until_66 kcb99 ?_
  refine lv_icmp_le (pc := 68) (tgt := 75) hx hb dX3_until_68 (by decide) (fun c2 => ?_) (fun c2 => ?_)
  · rw [if_pos c2] at hf
    refine lv_iload_n (pc := 75) hx hb dX3_until_75 rfl (lv_at hl 1 rfl) ?_
    exact m_iret (pc := 76) hx hb hr hlk hP hD hS hf dX3_until_76
  · rw [if_neg c2] at hf
    refine lv_iconst (pc := 71) (v := -1) hx hb dX3_until_71 rfl ?_
    refine lv_goto (pc := 72) (tgt := 76) hx hb dX3_until_72 (by decide) ?_
    exact m_iret (pc := 76) hx hb hr hlk hP hD hS hf dX3_until_76
def fX3_until_b28 : Nat → Int32 → Int32 → mS → Option (Int32 × mS)
  | 0, _, _, _ => none
  | n + 1, l1, l2, S =>
    if (nI 99) < l2 then
      fX3_until_b54 l2 S
    else
      bd2 (fX3_nextOf l1 S) fun v2 S2 =>
      if 0 ≤ v2 then
        fX3_until_b54 l2 S2
      else
        bd2 (fX3_passes (nI 1) S2) fun v4 S4 =>
        fX3_until_b28 n l1 (l2 + (nI 1)) S4
theorem wX3_until_b28 (hc : mC p s m args meth c D cI cJ cX3_until 4 (some .int)) : ∀ (n : Nat) (l1 : Int32) (l2 : Int32) (S : mS) (H : Heap) (locs : List Loc) (ls : Array Slot), va_P D mCl (mws am cI cJ S) H → va_D (mA am) (mws am cI cJ S) → va_S (mA am) s.heap H locs → lv_has ls 4 [(0, .ref (am 0)), (1, .int l1), (2, .int l2)] → fX3_until_b28 n l1 l2 S = some (r, Sf) → W p l e (mR 6 150) s m args below meth c H locs 0 0 (mQ below D am cI cJ (some (.int r)) Sf args s) (F0 m 28 ls []) := by
  obtain ⟨hx, hb, hr, hlk, hml, hown, hts, hK⟩ := hc
  have hc : mC p s m args meth c D cI cJ cX3_until 4 (some .int) := ⟨hx, hb, hr, hlk, hml, hown, hts, hK⟩
  intro n
  induction n with
  | zero => intro l1 l2 S H locs ls _ _ _ _ hf; exact absurd hf (fun h => by cases h)
  | succ n ih =>
    intro l1 l2 S H locs ls hP hD hS hl hf
    rw [fX3_until_b28] at hf
    refine lv_iload_n (pc := 28) hx hb dX3_until_28 rfl (lv_at hl 2 rfl) ?_
    refine lv_bipush (pc := 29) (v := nI 99) hx hb dX3_until_29 kcb99 ?_
    refine lv_icmp_gt (pc := 31) (tgt := 54) hx hb dX3_until_31 (by decide) (fun c1 => ?_) (fun c1 => ?_)
    · rw [if_pos c1] at hf
      exact wX3_until_b54 hc l2 S _ _ ls hP hD hS (lv_sub hl [0, 2] rfl) hf
    · rw [if_neg c1] at hf
      refine lv_aload_n (pc := 34) hx hb dX3_until_34 rfl (lv_at hl 0 rfl) ?_
      refine lv_iload_n (pc := 35) hx hb dX3_until_35 rfl (lv_at hl 1 rfl) ?_
      obtain ⟨v2, S2, e2, hf⟩ := bd2o hf
      refine m_callV (pc := 36) (As := [.int l1]) (rest := []) (st1 := [.int v2]) hc (mX3_nextOf e2) (cwV 1 hts (lw_V q3007 q3009 qs68 q105 q3010) rfl rfl rfl hdX3_nextOf ⟨Nat.le_of_ble_eq_true rfl, Nat.le_of_ble_eq_true rfl⟩) rfl hl.1 rfl rfl (lv_room (Nat.le_of_ble_eq_true rfl)) dX3_until_36 hP hD hS (fun H locs hP hD hS => ?_)
      refine lv_if_ge (pc := 39) (tgt := 54) hx hb dX3_until_39 (by decide) (fun c3 => ?_) (fun c3 => ?_)
      · rw [if_pos c3] at hf
        exact wX3_until_b54 hc l2 S2 _ _ ls hP hD hS (lv_sub hl [0, 2] rfl) hf
      · rw [if_neg c3] at hf
        refine lv_aload_n (pc := 42) hx hb dX3_until_42 rfl (lv_at hl 0 rfl) ?_
        refine lv_iconst (pc := 43) (v := nI 1) hx hb dX3_until_43 rfl ?_
        obtain ⟨v4, S4, e4, hf⟩ := bd2o hf
        refine m_callV (pc := 44) (As := [.int (nI 1)]) (rest := []) (st1 := [.int v4]) hc (mX3_passes e4) (cwV 1 hts (lw_V q3105 q3107 qs84 q105 q3108) rfl rfl rfl hdX3_passes ⟨Nat.le_of_ble_eq_true rfl, Nat.le_of_ble_eq_true rfl⟩) rfl hl.1 rfl rfl (lv_room (Nat.le_of_ble_eq_true rfl)) dX3_until_44 hP hD hS (fun H locs hP hD hS => ?_)
        refine lv_istore_n (pc := 47) (lv' := [(3, .int v4), (0, .ref (am 0)), (1, .int l1), (2, .int l2)]) hx hb dX3_until_47 rfl hl (by decide) rfl (fun ls hl => ?_)
        refine lv_iinc (pc := 48) (v := l2 + (nI 1)) (lv' := [(2, .int (l2 + (nI 1))), (3, .int v4), (0, .ref (am 0)), (1, .int l1)]) hx hb dX3_until_48 hl (k := 3) rfl rfl (by decide) rfl (fun ls hl => ?_)
        refine lv_goto (pc := 51) (tgt := 28) hx hb dX3_until_51 (by decide) ?_
        exact ih l1 (l2 + (nI 1)) S4 _ _ ls hP hD hS (lv_sub hl [2, 3, 0] rfl) hf
def fX3_until (l1 : Int32) (S : mS) : Option (Int32 × mS) :=
  bd2 (fX3_isQueue l1 S) fun v1 S1 =>
  if v1 = 0 then
    bd2 (fX3_refused (-82) S1) fun v4 S4 =>
    some (v4, S4)
  else
    bd2 (fX3_copies_01  S1) fun _ S3 =>
    fX3_until_b28 FU l1 (nI 0) S3
theorem wX3_until_b0 (hc : mC p s m args meth c D cI cJ cX3_until 4 (some .int)) (l1 : Int32) (S : mS) (H : Heap) (locs : List Loc) (ls : Array Slot) (hP : va_P D mCl (mws am cI cJ S) H) (hD : va_D (mA am) (mws am cI cJ S)) (hS : va_S (mA am) s.heap H locs) (hl : lv_has ls 4 [(0, .ref (am 0)), (1, .int l1)]) (hf : fX3_until l1 S = some (r, Sf)) : W p l e (mR 6 150) s m args below meth c H locs 0 0 (mQ below D am cI cJ (some (.int r)) Sf args s) (F0 m 0 ls []) := by
  obtain ⟨hx, hb, hr, hlk, hml, hown, hts, hK⟩ := hc
  have hc : mC p s m args meth c D cI cJ cX3_until 4 (some .int) := ⟨hx, hb, hr, hlk, hml, hown, hts, hK⟩
  unfold fX3_until at hf
  refine lv_aload_n (pc := 0) hx hb dX3_until_0 rfl (lv_at hl 0 rfl) ?_
  refine lv_iload_n (pc := 1) hx hb dX3_until_1 rfl (lv_at hl 1 rfl) ?_
  obtain ⟨v1, S1, e1, hf⟩ := bd2o hf
  refine m_callV (pc := 2) (As := [.int l1]) (rest := []) (st1 := [.int v1]) hc (mX3_isQueue e1) (cwV 1 hts (lw_V q2961 q2963 qs60 q105 q2964) rfl rfl rfl hdX3_isQueue ⟨Nat.le_of_ble_eq_true rfl, Nat.le_of_ble_eq_true rfl⟩) rfl hl.1 rfl rfl (lv_room (Nat.le_of_ble_eq_true rfl)) dX3_until_2 hP hD hS (fun H locs hP hD hS => ?_)
  refine lv_if_ne (pc := 5) (tgt := 15) hx hb dX3_until_5 (by decide) (fun c2 => ?_) (fun c2 => ?_)
  · rw [if_neg c2] at hf
    refine lv_aload_n (pc := 15) hx hb dX3_until_15 rfl (lv_at hl 0 rfl) ?_
    refine va_get (D := D) (ci := 0) (v := .ref (am 1)) (C := RX3) (T := TX3) (N := 17) (pc := 16) hx hb hts in_X3 hown hK hP 0 rfl rfl 0 (by decide) (hts _ q2839) (fun _ h9 => h9) rfl dX3_until_16 ?_
    refine lv_aload_n (pc := 19) hx hb dX3_until_19 rfl (lv_at hl 0 rfl) ?_
    refine va_get (D := D) (ci := 0) (v := .ref (am 2)) (C := RX3) (T := TX3) (N := 17) (pc := 20) hx hb hts in_X3 hown hK hP 0 rfl rfl 1 (by decide) (hts _ q2840) (fun _ h9 => h9) rfl dX3_until_20 ?_
    obtain ⟨v3, S3, e3, hf⟩ := bd2o hf
    refine m_callS (pc := 23) (As := [.ref (am 1), .ref (am 2)]) (rest := []) (st1 := []) hc (mX3_copies_01 e3) (va_cwS 2 hts (lw_S q3191 q3192 q105 q3193) rfl rfl rfl hdX3_copies ⟨Nat.le_of_ble_eq_true rfl, Nat.le_of_ble_eq_true rfl⟩) rfl hl.1 rfl rfl (lv_room (Nat.le_of_ble_eq_true rfl)) dX3_until_23 hP hD hS (fun H locs hP hD hS => ?_)
    refine lv_iconst (pc := 26) (v := nI 0) hx hb dX3_until_26 rfl ?_
    refine lv_istore_n (pc := 27) (lv' := [(2, .int (nI 0)), (0, .ref (am 0)), (1, .int l1)]) hx hb dX3_until_27 rfl hl (by decide) rfl (fun ls hl => ?_)
    exact wX3_until_b28 hc FU l1 (nI 0) S3 _ _ ls hP hD hS (lv_sub hl [1, 2, 0] rfl) hf
  · rw [if_pos c2] at hf
    refine lv_aload_n (pc := 8) hx hb dX3_until_8 rfl (lv_at hl 0 rfl) ?_
    refine lv_bipush (pc := 9) (v := -82) hx hb dX3_until_9 kcbm82 ?_
    obtain ⟨v4, S4, e4, hf⟩ := bd2o hf
    refine m_callV (pc := 11) (As := [.int (-82)]) (rest := []) (st1 := [.int v4]) hc (mX3_refused e4) (cwV 1 hts (lw_V q2899 q2901 qs51 q105 q2902) rfl rfl rfl hdX3_refused ⟨Nat.le_of_ble_eq_true rfl, Nat.le_of_ble_eq_true rfl⟩) rfl hl.1 rfl rfl (lv_room (Nat.le_of_ble_eq_true rfl)) dX3_until_11 hP hD hS (fun H locs hP hD hS => ?_)
    exact m_iret (pc := 14) hx hb hr hlk hP hD hS hf dX3_until_14
theorem mX3_until {S S2 : mS} {r2 : Int32} {l1 : Int32} (hf : fX3_until l1 S = some (r2, S2)) : mMet l yX3_until cX3_until 4 (some .int) 6 150 D am cI cJ [.ref (am 0), .int l1] S (some (.int r2)) S2 := by
  exact m_start (by decide) rfl (Nat.le_of_ble_eq_true rfl) (fun p e s m args below meth c ls hc hl hP hD => wX3_until_b0 hc l1 S _ _ ls hP hD va_S.rf (lv_sub hl [0, 1] rfl) hf)
end
section
variable {r : Int32} {Sf : mS}
def fX3_doomed (l1 : Int32) (S : mS) : Option (Int32 × mS) :=
  bd2 (fX3_in l1.toInt64 (lN 0) (lN 99) S) fun v1 S1 =>
  if v1 = 0 then
    bd2 (fX3_refused (-82) S1) fun v6 S6 =>
    some (v6, S6)
  else
    bd2 (fX3_copies_01  S1) fun _ S3 =>
    bd2 (fX3_passes l1 S3) fun v4 S4 =>
    bd2 (fX3_copies_10  S4) fun _ S5 =>
    some (v4, S5)
theorem wX3_doomed_b0 (hc : mC p s m args meth c D cI cJ cX3_doomed 3 (some .int)) (l1 : Int32) (S : mS) (H : Heap) (locs : List Loc) (ls : Array Slot) (hP : va_P D mCl (mws am cI cJ S) H) (hD : va_D (mA am) (mws am cI cJ S)) (hS : va_S (mA am) s.heap H locs) (hl : lv_has ls 3 [(0, .ref (am 0)), (1, .int l1)]) (hf : fX3_doomed l1 S = some (r, Sf)) : W p l e (mR 6 150) s m args below meth c H locs 0 0 (mQ below D am cI cJ (some (.int r)) Sf args s) (F0 m 0 ls []) := by
  obtain ⟨hx, hb, hr, hlk, hml, hown, hts, hK⟩ := hc
  have hc : mC p s m args meth c D cI cJ cX3_doomed 3 (some .int) := ⟨hx, hb, hr, hlk, hml, hown, hts, hK⟩
  unfold fX3_doomed at hf
  refine lv_iload_n (pc := 0) hx hb dX3_doomed_0 rfl (lv_at hl 1 rfl) ?_
  refine lv_i2l (pc := 1) hx hb dX3_doomed_1 rfl ?_
  refine lv_lconst (pc := 2) (v := lN 0) hx hb dX3_doomed_2 rfl ?_
  refine lv_ldc2 (pc := 3) (v := lN 99) hx hb hown (hts _ q2931) dX3_doomed_3 ?_
  obtain ⟨v1, S1, e1, hf⟩ := bd2o hf
  refine m_callS (pc := 6) (As := [.long l1.toInt64, .long (lN 0), .long (lN 99)]) (rest := []) (st1 := [.int v1]) hc (mX3_in e1) (va_cwS 3 hts (lw_S q2896 q2897 q105 q2898) rfl rfl rfl hdX3_in ⟨Nat.le_of_ble_eq_true rfl, Nat.le_of_ble_eq_true rfl⟩) rfl hl.1 rfl rfl (lv_room (Nat.le_of_ble_eq_true rfl)) dX3_doomed_6 hP hD hS (fun H locs hP hD hS => ?_)
  refine lv_if_ne (pc := 9) (tgt := 19) hx hb dX3_doomed_9 (by decide) (fun c2 => ?_) (fun c2 => ?_)
  · rw [if_neg c2] at hf
    refine lv_aload_n (pc := 19) hx hb dX3_doomed_19 rfl (lv_at hl 0 rfl) ?_
    refine va_get (D := D) (ci := 0) (v := .ref (am 1)) (C := RX3) (T := TX3) (N := 17) (pc := 20) hx hb hts in_X3 hown hK hP 0 rfl rfl 0 (by decide) (hts _ q2839) (fun _ h9 => h9) rfl dX3_doomed_20 ?_
    refine lv_aload_n (pc := 23) hx hb dX3_doomed_23 rfl (lv_at hl 0 rfl) ?_
    refine va_get (D := D) (ci := 0) (v := .ref (am 2)) (C := RX3) (T := TX3) (N := 17) (pc := 24) hx hb hts in_X3 hown hK hP 0 rfl rfl 1 (by decide) (hts _ q2840) (fun _ h9 => h9) rfl dX3_doomed_24 ?_
    obtain ⟨v3, S3, e3, hf⟩ := bd2o hf
    refine m_callS (pc := 27) (As := [.ref (am 1), .ref (am 2)]) (rest := []) (st1 := []) hc (mX3_copies_01 e3) (va_cwS 2 hts (lw_S q3191 q3192 q105 q3193) rfl rfl rfl hdX3_copies ⟨Nat.le_of_ble_eq_true rfl, Nat.le_of_ble_eq_true rfl⟩) rfl hl.1 rfl rfl (lv_room (Nat.le_of_ble_eq_true rfl)) dX3_doomed_27 hP hD hS (fun H locs hP hD hS => ?_)
    refine lv_aload_n (pc := 30) hx hb dX3_doomed_30 rfl (lv_at hl 0 rfl) ?_
    refine lv_iload_n (pc := 31) hx hb dX3_doomed_31 rfl (lv_at hl 1 rfl) ?_
    obtain ⟨v4, S4, e4, hf⟩ := bd2o hf
    refine m_callV (pc := 32) (As := [.int l1]) (rest := []) (st1 := [.int v4]) hc (mX3_passes e4) (cwV 1 hts (lw_V q3105 q3107 qs84 q105 q3108) rfl rfl rfl hdX3_passes ⟨Nat.le_of_ble_eq_true rfl, Nat.le_of_ble_eq_true rfl⟩) rfl hl.1 rfl rfl (lv_room (Nat.le_of_ble_eq_true rfl)) dX3_doomed_32 hP hD hS (fun H locs hP hD hS => ?_)
    refine lv_istore_n (pc := 35) (lv' := [(2, .int v4), (0, .ref (am 0)), (1, .int l1)]) hx hb dX3_doomed_35 rfl hl (by decide) rfl (fun ls hl => ?_)
    refine lv_aload_n (pc := 36) hx hb dX3_doomed_36 rfl (lv_at hl 1 rfl) ?_
    refine va_get (D := D) (ci := 0) (v := .ref (am 2)) (C := RX3) (T := TX3) (N := 17) (pc := 37) hx hb hts in_X3 hown hK hP 0 rfl rfl 1 (by decide) (hts _ q2840) (fun _ h9 => h9) rfl dX3_doomed_37 ?_
    refine lv_aload_n (pc := 40) hx hb dX3_doomed_40 rfl (lv_at hl 1 rfl) ?_
    refine va_get (D := D) (ci := 0) (v := .ref (am 1)) (C := RX3) (T := TX3) (N := 17) (pc := 41) hx hb hts in_X3 hown hK hP 0 rfl rfl 0 (by decide) (hts _ q2839) (fun _ h9 => h9) rfl dX3_doomed_41 ?_
    obtain ⟨v5, S5, e5, hf⟩ := bd2o hf
    refine m_callS (pc := 44) (As := [.ref (am 2), .ref (am 1)]) (rest := []) (st1 := []) hc (mX3_copies_10 e5) (va_cwS 2 hts (lw_S q3191 q3192 q105 q3193) rfl rfl rfl hdX3_copies ⟨Nat.le_of_ble_eq_true rfl, Nat.le_of_ble_eq_true rfl⟩) rfl hl.1 rfl rfl (lv_room (Nat.le_of_ble_eq_true rfl)) dX3_doomed_44 hP hD hS (fun H locs hP hD hS => ?_)
    refine lv_iload_n (pc := 47) hx hb dX3_doomed_47 rfl (lv_at hl 0 rfl) ?_
    exact m_iret (pc := 48) hx hb hr hlk hP hD hS hf dX3_doomed_48
  · rw [if_pos c2] at hf
    refine lv_aload_n (pc := 12) hx hb dX3_doomed_12 rfl (lv_at hl 0 rfl) ?_
    refine lv_bipush (pc := 13) (v := -82) hx hb dX3_doomed_13 kcbm82 ?_
    obtain ⟨v6, S6, e6, hf⟩ := bd2o hf
    refine m_callV (pc := 15) (As := [.int (-82)]) (rest := []) (st1 := [.int v6]) hc (mX3_refused e6) (cwV 1 hts (lw_V q2899 q2901 qs51 q105 q2902) rfl rfl rfl hdX3_refused ⟨Nat.le_of_ble_eq_true rfl, Nat.le_of_ble_eq_true rfl⟩) rfl hl.1 rfl rfl (lv_room (Nat.le_of_ble_eq_true rfl)) dX3_doomed_15 hP hD hS (fun H locs hP hD hS => ?_)
    exact m_iret (pc := 18) hx hb hr hlk hP hD hS hf dX3_doomed_18
theorem mX3_doomed {S S2 : mS} {r2 : Int32} {l1 : Int32} (hf : fX3_doomed l1 S = some (r2, S2)) : mMet l yX3_doomed cX3_doomed 3 (some .int) 6 150 D am cI cJ [.ref (am 0), .int l1] S (some (.int r2)) S2 := by
  exact m_start (by decide) rfl (Nat.le_of_ble_eq_true rfl) (fun p e s m args below meth c ls hc hl hP hD => wX3_doomed_b0 hc l1 S _ _ ls hP hD va_S.rf (lv_sub hl [0, 1] rfl) hf)
end
section
variable {r : Int32} {Sf : mS}
def fX3_judge_b27 (S : mS) : Option (Int32 × mS) :=
  bd2 (fX3_refused (-82) S) fun v1 S1 =>
  some (v1, S1)
theorem wX3_judge_b27 (hc : mC p s m args meth c D cI cJ cX3_judge 5 (some .int)) (S : mS) (H : Heap) (locs : List Loc) (ls : Array Slot) (hP : va_P D mCl (mws am cI cJ S) H) (hD : va_D (mA am) (mws am cI cJ S)) (hS : va_S (mA am) s.heap H locs) (hl : lv_has ls 5 [(0, .ref (am 0))]) (hf : fX3_judge_b27  S = some (r, Sf)) : W p l e (mR 6 135) s m args below meth c H locs 0 0 (mQ below D am cI cJ (some (.int r)) Sf args s) (F0 m 27 ls []) := by
  obtain ⟨hx, hb, hr, hlk, hml, hown, hts, hK⟩ := hc
  have hc : mC p s m args meth c D cI cJ cX3_judge 5 (some .int) := ⟨hx, hb, hr, hlk, hml, hown, hts, hK⟩
  unfold fX3_judge_b27 at hf
  refine lv_aload_n (pc := 27) hx hb dX3_judge_27 rfl (lv_at hl 0 rfl) ?_
  refine lv_bipush (pc := 28) (v := -82) hx hb dX3_judge_28 kcbm82 ?_
  obtain ⟨v1, S1, e1, hf⟩ := bd2o hf
  refine m_callV (pc := 30) (As := [.int (-82)]) (rest := []) (st1 := [.int v1]) hc (mX3_refused e1) (cwV 1 hts (lw_V q2899 q2901 qs51 q105 q2902) rfl rfl rfl hdX3_refused ⟨Nat.le_of_ble_eq_true rfl, Nat.le_of_ble_eq_true rfl⟩) rfl hl.1 rfl rfl (lv_room (Nat.le_of_ble_eq_true rfl)) dX3_judge_30 hP hD hS (fun H locs hP hD hS => ?_)
  exact m_iret (pc := 33) hx hb hr hlk hP hD hS hf dX3_judge_33
def fX3_judge_b92 : Nat → Int32 → Int32 → Int32 → mS → Option (Int32 × mS)
  | 0, _, _, _, _ => none
  | n + 1, l2, l3, l4, S =>
    if l3 ≤ l4 then
      if (mf S 4) ≤ l3 then
        some (-1, S)
      else
        some (l3, S)
    else
      if (mf S 4) ≤ l4 then
        some (l4, S)
      else
        bd (mrdL S (((nI 40) * l2) + l4)) fun v4 =>
        bd (mrd S 7 20 l4) fun v5 =>
        if (lg_cmp v4 v5.toInt64) = 0 then
          fX3_judge_b92 n l2 l3 (l4 + (nI 1)) S
        else
          some (l4, S)
theorem wX3_judge_b92 (hc : mC p s m args meth c D cI cJ cX3_judge 5 (some .int)) : ∀ (n : Nat) (l2 : Int32) (l3 : Int32) (l4 : Int32) (S : mS) (H : Heap) (locs : List Loc) (ls : Array Slot), va_P D mCl (mws am cI cJ S) H → va_D (mA am) (mws am cI cJ S) → va_S (mA am) s.heap H locs → lv_has ls 5 [(0, .ref (am 0)), (2, .int l2), (3, .int l3), (4, .int l4)] → fX3_judge_b92 n l2 l3 l4 S = some (r, Sf) → W p l e (mR 6 135) s m args below meth c H locs 0 0 (mQ below D am cI cJ (some (.int r)) Sf args s) (F0 m 92 ls []) := by
  obtain ⟨hx, hb, hr, hlk, hml, hown, hts, hK⟩ := hc
  have hc : mC p s m args meth c D cI cJ cX3_judge 5 (some .int) := ⟨hx, hb, hr, hlk, hml, hown, hts, hK⟩
  intro n
  induction n with
  | zero => intro l2 l3 l4 S H locs ls _ _ _ _ hf; exact absurd hf (fun h => by cases h)
  | succ n ih =>
    intro l2 l3 l4 S H locs ls hP hD hS hl hf
    rw [fX3_judge_b92] at hf
    refine lv_iload (pc := 92) hx hb dX3_judge_92 (lv_at hl 3 rfl) ?_
    refine lv_iload_n (pc := 94) hx hb dX3_judge_94 rfl (lv_at hl 2 rfl) ?_
    refine lv_icmp_ge (pc := 95) (tgt := 140) hx hb dX3_judge_95 (by decide) (fun c1 => ?_) (fun c1 => ?_)
    · rw [if_pos c1] at hf
      refine lv_aload_n (pc := 140) hx hb dX3_judge_140 rfl (lv_at hl 0 rfl) ?_
      refine va_get (D := D) (ci := 0) (v := .int (mf S 4)) (C := RX3) (T := TX3) (N := 17) (pc := 141) hx hb hts in_X3 hown hK hP 0 rfl rfl 12 (by decide) (hts _ q2851) (fun _ h9 => h9) rfl dX3_judge_141 ?_
      refine lv_iload_n (pc := 144) hx hb dX3_judge_144 rfl (lv_at hl 2 rfl) ?_
      refine lv_icmp_le (pc := 145) (tgt := 152) hx hb dX3_judge_145 (by decide) (fun c2 => ?_) (fun c2 => ?_)
      · rw [if_pos c2] at hf
        refine lv_iconst (pc := 152) (v := -1) hx hb dX3_judge_152 rfl ?_
        exact m_iret (pc := 153) hx hb hr hlk hP hD hS hf dX3_judge_153
      · rw [if_neg c2] at hf
        refine lv_iload_n (pc := 148) hx hb dX3_judge_148 rfl (lv_at hl 2 rfl) ?_
        refine lv_goto (pc := 149) (tgt := 153) hx hb dX3_judge_149 (by decide) ?_
        exact m_iret (pc := 153) hx hb hr hlk hP hD hS hf dX3_judge_153
    · rw [if_neg c1] at hf
      refine lv_iload (pc := 98) hx hb dX3_judge_98 (lv_at hl 3 rfl) ?_
      refine lv_aload_n (pc := 100) hx hb dX3_judge_100 rfl (lv_at hl 0 rfl) ?_
      refine va_get (D := D) (ci := 0) (v := .int (mf S 4)) (C := RX3) (T := TX3) (N := 17) (pc := 101) hx hb hts in_X3 hown hK hP 0 rfl rfl 12 (by decide) (hts _ q2851) (fun _ h9 => h9) rfl dX3_judge_101 ?_
      refine lv_icmp_ge (pc := 104) (tgt := 131) hx hb dX3_judge_104 (by decide) (fun c3 => ?_) (fun c3 => ?_)
      · rw [if_pos c3] at hf
        refine lv_iload (pc := 131) hx hb dX3_judge_131 (lv_at hl 3 rfl) ?_
        exact m_iret (pc := 133) hx hb hr hlk hP hD hS hf dX3_judge_133
      · rw [if_neg c3] at hf
        refine lv_aload_n (pc := 107) hx hb dX3_judge_107 rfl (lv_at hl 0 rfl) ?_
        refine va_get (D := D) (ci := 0) (v := .ref (am 12)) (C := RX3) (T := TX3) (N := 17) (pc := 108) hx hb hts in_X3 hown hK hP 0 rfl rfl 15 (by decide) (hts _ q2854) (fun _ h9 => h9) rfl dX3_judge_108 ?_
        refine lv_bipush (pc := 111) (v := nI 40) hx hb dX3_judge_111 kcb40 ?_
        refine lv_iload_n (pc := 113) hx hb dX3_judge_113 rfl (lv_at hl 1 rfl) ?_
        refine lv_imul (pc := 114) hx hb dX3_judge_114 ?_
        refine lv_iload (pc := 115) hx hb dX3_judge_115 (lv_at hl 3 rfl) ?_
        refine lv_iadd (pc := 117) hx hb dX3_judge_117 ?_
        obtain ⟨v4, e4, hf⟩ := bdo hf
        refine m_lald (pc := 118) hx hb hK hP e4 dX3_judge_118 ?_
        refine lv_aload_n (pc := 119) hx hb dX3_judge_119 rfl (lv_at hl 0 rfl) ?_
        refine va_get (D := D) (ci := 0) (v := .ref (am 8)) (C := RX3) (T := TX3) (N := 17) (pc := 120) hx hb hts in_X3 hown hK hP 0 rfl rfl 11 (by decide) (hts _ q2850) (fun _ h9 => h9) rfl dX3_judge_120 ?_
        refine lv_iload (pc := 123) hx hb dX3_judge_123 (lv_at hl 3 rfl) ?_
        obtain ⟨v5, e5, hf⟩ := bdo hf
        refine m_iald (pc := 125) (k := 7) hx hb hK hP rfl e5 dX3_judge_125 ?_
        refine lv_i2l (pc := 126) hx hb dX3_judge_126 rfl ?_
        refine W.lcmp (pc := 127) hx hb dX3_judge_127 ?_
        refine lv_if_eq (pc := 128) (tgt := 134) hx hb dX3_judge_128 (by decide) (fun c6 => ?_) (fun c6 => ?_)
        · rw [if_pos c6] at hf
          refine lv_iinc (pc := 134) (v := l4 + (nI 1)) (lv' := [(4, .int (l4 + (nI 1))), (0, .ref (am 0)), (2, .int l2), (3, .int l3)]) hx hb dX3_judge_134 hl (k := 3) rfl rfl (by decide) rfl (fun ls hl => ?_)
          refine lv_goto (pc := 137) (tgt := 92) hx hb dX3_judge_137 (by decide) ?_
          exact ih l2 l3 (l4 + (nI 1)) S _ _ ls hP hD hS (lv_sub hl [1, 2, 3, 0] rfl) hf
        · rw [if_neg c6] at hf
          refine lv_iload (pc := 131) hx hb dX3_judge_131 (lv_at hl 3 rfl) ?_
          exact m_iret (pc := 133) hx hb hr hlk hP hD hS hf dX3_judge_133
def fX3_judge (l1 : Int32) (l2 : Int32) (l3 : Int32) (S : mS) : Option (Int32 × mS) :=
  bd2 (fX3_isQueue l1 S) fun v1 S1 =>
  if v1 = 0 then
    fX3_judge_b27  S1
  else
    bd2 (fX3_isShelf l2 S1) fun v3 S3 =>
    if v3 = 0 then
      fX3_judge_b27  S3
    else
      bd2 (fX3_in l3.toInt64 (lN 0) (lN 40) S3) fun v5 S5 =>
      if v5 = 0 then
        fX3_judge_b27  S5
      else
        bd (mrd S5 8 8 l2) fun v7 =>
        if v7 ≤ (nI 4) then
          bd (mrd S5 8 8 l2) fun v9 =>
          if 0 ≤ v9 then
            bd (mrd S5 9 8 l2) fun v11 =>
            if l3 ≤ v11 then
              bd2 (fX3_drains l1 S5) fun _ S13 =>
              fX3_judge_b92 FU l2 l3 (nI 0) S13
            else
              bd2 (fX3_refused (-82) S5) fun v14 S14 =>
              some (v14, S14)
          else
            bd2 (fX3_refused (-84) S5) fun v15 S15 =>
            some (v15, S15)
        else
          bd2 (fX3_refused (-83) S5) fun v16 S16 =>
          some (v16, S16)
theorem wX3_judge_b0 (hc : mC p s m args meth c D cI cJ cX3_judge 5 (some .int)) (l1 : Int32) (l2 : Int32) (l3 : Int32) (S : mS) (H : Heap) (locs : List Loc) (ls : Array Slot) (hP : va_P D mCl (mws am cI cJ S) H) (hD : va_D (mA am) (mws am cI cJ S)) (hS : va_S (mA am) s.heap H locs) (hl : lv_has ls 5 [(0, .ref (am 0)), (1, .int l1), (2, .int l2), (3, .int l3)]) (hf : fX3_judge l1 l2 l3 S = some (r, Sf)) : W p l e (mR 6 135) s m args below meth c H locs 0 0 (mQ below D am cI cJ (some (.int r)) Sf args s) (F0 m 0 ls []) := by
  obtain ⟨hx, hb, hr, hlk, hml, hown, hts, hK⟩ := hc
  have hc : mC p s m args meth c D cI cJ cX3_judge 5 (some .int) := ⟨hx, hb, hr, hlk, hml, hown, hts, hK⟩
  unfold fX3_judge at hf
  refine lv_aload_n (pc := 0) hx hb dX3_judge_0 rfl (lv_at hl 0 rfl) ?_
  refine lv_iload_n (pc := 1) hx hb dX3_judge_1 rfl (lv_at hl 1 rfl) ?_
  obtain ⟨v1, S1, e1, hf⟩ := bd2o hf
  refine m_callV (pc := 2) (As := [.int l1]) (rest := []) (st1 := [.int v1]) hc (mX3_isQueue e1) (cwV 1 hts (lw_V q2961 q2963 qs60 q105 q2964) rfl rfl rfl hdX3_isQueue ⟨Nat.le_of_ble_eq_true rfl, Nat.le_of_ble_eq_true rfl⟩) rfl hl.1 rfl rfl (lv_room (Nat.le_of_ble_eq_true rfl)) dX3_judge_2 hP hD hS (fun H locs hP hD hS => ?_)
  refine lv_if_eq (pc := 5) (tgt := 27) hx hb dX3_judge_5 (by decide) (fun c2 => ?_) (fun c2 => ?_)
  · rw [if_pos c2] at hf
    exact wX3_judge_b27 hc  S1 _ _ ls hP hD hS (lv_sub hl [0] rfl) hf
  · rw [if_neg c2] at hf
    refine lv_iload_n (pc := 8) hx hb dX3_judge_8 rfl (lv_at hl 2 rfl) ?_
    obtain ⟨v3, S3, e3, hf⟩ := bd2o hf
    refine m_callS (pc := 9) (As := [.int l2]) (rest := []) (st1 := [.int v3]) hc (mX3_isShelf e3) (va_cwS 1 hts (lw_S q3206 q3207 q105 q3208) rfl rfl rfl hdX3_isShelf ⟨Nat.le_of_ble_eq_true rfl, Nat.le_of_ble_eq_true rfl⟩) rfl hl.1 rfl rfl (lv_room (Nat.le_of_ble_eq_true rfl)) dX3_judge_9 hP hD hS (fun H locs hP hD hS => ?_)
    refine lv_if_eq (pc := 12) (tgt := 27) hx hb dX3_judge_12 (by decide) (fun c4 => ?_) (fun c4 => ?_)
    · rw [if_pos c4] at hf
      exact wX3_judge_b27 hc  S3 _ _ ls hP hD hS (lv_sub hl [0] rfl) hf
    · rw [if_neg c4] at hf
      refine lv_iload_n (pc := 15) hx hb dX3_judge_15 rfl (lv_at hl 3 rfl) ?_
      refine lv_i2l (pc := 16) hx hb dX3_judge_16 rfl ?_
      refine lv_lconst (pc := 17) (v := lN 0) hx hb dX3_judge_17 rfl ?_
      refine lv_ldc2 (pc := 18) (v := lN 40) hx hb hown (hts _ q3209) dX3_judge_18 ?_
      obtain ⟨v5, S5, e5, hf⟩ := bd2o hf
      refine m_callS (pc := 21) (As := [.long l3.toInt64, .long (lN 0), .long (lN 40)]) (rest := []) (st1 := [.int v5]) hc (mX3_in e5) (va_cwS 3 hts (lw_S q2896 q2897 q105 q2898) rfl rfl rfl hdX3_in ⟨Nat.le_of_ble_eq_true rfl, Nat.le_of_ble_eq_true rfl⟩) rfl hl.1 rfl rfl (lv_room (Nat.le_of_ble_eq_true rfl)) dX3_judge_21 hP hD hS (fun H locs hP hD hS => ?_)
      refine lv_if_ne (pc := 24) (tgt := 34) hx hb dX3_judge_24 (by decide) (fun c6 => ?_) (fun c6 => ?_)
      · rw [if_neg c6] at hf
        refine lv_aload_n (pc := 34) hx hb dX3_judge_34 rfl (lv_at hl 0 rfl) ?_
        refine va_get (D := D) (ci := 0) (v := .ref (am 9)) (C := RX3) (T := TX3) (N := 17) (pc := 35) hx hb hts in_X3 hown hK hP 0 rfl rfl 13 (by decide) (hts _ q2852) (fun _ h9 => h9) rfl dX3_judge_35 ?_
        refine lv_iload_n (pc := 38) hx hb dX3_judge_38 rfl (lv_at hl 2 rfl) ?_
        obtain ⟨v7, e7, hf⟩ := bdo hf
        refine m_iald (pc := 39) (k := 8) hx hb hK hP rfl e7 dX3_judge_39 ?_
        refine lv_iconst (pc := 40) (v := nI 4) hx hb dX3_judge_40 rfl ?_
        refine lv_icmp_le (pc := 41) (tgt := 51) hx hb dX3_judge_41 (by decide) (fun c8 => ?_) (fun c8 => ?_)
        · rw [if_pos c8] at hf
          refine lv_aload_n (pc := 51) hx hb dX3_judge_51 rfl (lv_at hl 0 rfl) ?_
          refine va_get (D := D) (ci := 0) (v := .ref (am 9)) (C := RX3) (T := TX3) (N := 17) (pc := 52) hx hb hts in_X3 hown hK hP 0 rfl rfl 13 (by decide) (hts _ q2852) (fun _ h9 => h9) rfl dX3_judge_52 ?_
          refine lv_iload_n (pc := 55) hx hb dX3_judge_55 rfl (lv_at hl 2 rfl) ?_
          obtain ⟨v9, e9, hf⟩ := bdo hf
          refine m_iald (pc := 56) (k := 8) hx hb hK hP rfl e9 dX3_judge_56 ?_
          refine lv_if_ge (pc := 57) (tgt := 67) hx hb dX3_judge_57 (by decide) (fun c10 => ?_) (fun c10 => ?_)
          · rw [if_pos c10] at hf
            refine lv_iload_n (pc := 67) hx hb dX3_judge_67 rfl (lv_at hl 3 rfl) ?_
            refine lv_aload_n (pc := 68) hx hb dX3_judge_68 rfl (lv_at hl 0 rfl) ?_
            refine va_get (D := D) (ci := 0) (v := .ref (am 10)) (C := RX3) (T := TX3) (N := 17) (pc := 69) hx hb hts in_X3 hown hK hP 0 rfl rfl 14 (by decide) (hts _ q2853) (fun _ h9 => h9) rfl dX3_judge_69 ?_
            refine lv_iload_n (pc := 72) hx hb dX3_judge_72 rfl (lv_at hl 2 rfl) ?_
            obtain ⟨v11, e11, hf⟩ := bdo hf
            refine m_iald (pc := 73) (k := 9) hx hb hK hP rfl e11 dX3_judge_73 ?_
            refine lv_icmp_le (pc := 74) (tgt := 84) hx hb dX3_judge_74 (by decide) (fun c12 => ?_) (fun c12 => ?_)
            · rw [if_pos c12] at hf
              refine lv_aload_n (pc := 84) hx hb dX3_judge_84 rfl (lv_at hl 0 rfl) ?_
              refine lv_iload_n (pc := 85) hx hb dX3_judge_85 rfl (lv_at hl 1 rfl) ?_
              obtain ⟨v13, S13, e13, hf⟩ := bd2o hf
              refine m_callV (pc := 86) (As := [.int l1]) (rest := []) (st1 := []) hc (mX3_drains e13) (cwV 1 hts (lw_V q3187 q3189 qs91 q105 q3190) rfl rfl rfl hdX3_drains ⟨Nat.le_of_ble_eq_true rfl, Nat.le_of_ble_eq_true rfl⟩) rfl hl.1 rfl rfl (lv_room (Nat.le_of_ble_eq_true rfl)) dX3_judge_86 hP hD hS (fun H locs hP hD hS => ?_)
              refine lv_iconst (pc := 89) (v := nI 0) hx hb dX3_judge_89 rfl ?_
              refine lv_istore (pc := 90) (lv' := [(4, .int (nI 0)), (0, .ref (am 0)), (1, .int l1), (2, .int l2), (3, .int l3)]) hx hb dX3_judge_90 hl (by decide) rfl (fun ls hl => ?_)
              exact wX3_judge_b92 hc FU l2 l3 (nI 0) S13 _ _ ls hP hD hS (lv_sub hl [1, 3, 4, 0] rfl) hf
            · rw [if_neg c12] at hf
              refine lv_aload_n (pc := 77) hx hb dX3_judge_77 rfl (lv_at hl 0 rfl) ?_
              refine lv_bipush (pc := 78) (v := -82) hx hb dX3_judge_78 kcbm82 ?_
              obtain ⟨v14, S14, e14, hf⟩ := bd2o hf
              refine m_callV (pc := 80) (As := [.int (-82)]) (rest := []) (st1 := [.int v14]) hc (mX3_refused e14) (cwV 1 hts (lw_V q2899 q2901 qs51 q105 q2902) rfl rfl rfl hdX3_refused ⟨Nat.le_of_ble_eq_true rfl, Nat.le_of_ble_eq_true rfl⟩) rfl hl.1 rfl rfl (lv_room (Nat.le_of_ble_eq_true rfl)) dX3_judge_80 hP hD hS (fun H locs hP hD hS => ?_)
              exact m_iret (pc := 83) hx hb hr hlk hP hD hS hf dX3_judge_83
          · rw [if_neg c10] at hf
            refine lv_aload_n (pc := 60) hx hb dX3_judge_60 rfl (lv_at hl 0 rfl) ?_
            refine lv_bipush (pc := 61) (v := -84) hx hb dX3_judge_61 kcbm84 ?_
            obtain ⟨v15, S15, e15, hf⟩ := bd2o hf
            refine m_callV (pc := 63) (As := [.int (-84)]) (rest := []) (st1 := [.int v15]) hc (mX3_refused e15) (cwV 1 hts (lw_V q2899 q2901 qs51 q105 q2902) rfl rfl rfl hdX3_refused ⟨Nat.le_of_ble_eq_true rfl, Nat.le_of_ble_eq_true rfl⟩) rfl hl.1 rfl rfl (lv_room (Nat.le_of_ble_eq_true rfl)) dX3_judge_63 hP hD hS (fun H locs hP hD hS => ?_)
            exact m_iret (pc := 66) hx hb hr hlk hP hD hS hf dX3_judge_66
        · rw [if_neg c8] at hf
          refine lv_aload_n (pc := 44) hx hb dX3_judge_44 rfl (lv_at hl 0 rfl) ?_
          refine lv_bipush (pc := 45) (v := -83) hx hb dX3_judge_45 kcbm83 ?_
          obtain ⟨v16, S16, e16, hf⟩ := bd2o hf
          refine m_callV (pc := 47) (As := [.int (-83)]) (rest := []) (st1 := [.int v16]) hc (mX3_refused e16) (cwV 1 hts (lw_V q2899 q2901 qs51 q105 q2902) rfl rfl rfl hdX3_refused ⟨Nat.le_of_ble_eq_true rfl, Nat.le_of_ble_eq_true rfl⟩) rfl hl.1 rfl rfl (lv_room (Nat.le_of_ble_eq_true rfl)) dX3_judge_47 hP hD hS (fun H locs hP hD hS => ?_)
          exact m_iret (pc := 50) hx hb hr hlk hP hD hS hf dX3_judge_50
      · rw [if_pos c6] at hf
        exact wX3_judge_b27 hc  S5 _ _ ls hP hD hS (lv_sub hl [0] rfl) hf
theorem mX3_judge {S S2 : mS} {r2 : Int32} {l1 : Int32} {l2 : Int32} {l3 : Int32} (hf : fX3_judge l1 l2 l3 S = some (r2, S2)) : mMet l yX3_judge cX3_judge 5 (some .int) 6 135 D am cI cJ [.ref (am 0), .int l1, .int l2, .int l3] S (some (.int r2)) S2 := by
  exact m_start (by decide) rfl (Nat.le_of_ble_eq_true rfl) (fun p e s m args below meth c ls hc hl hP hD => wX3_judge_b0 hc l1 l2 l3 S _ _ ls hP hD va_S.rf (lv_sub hl [0, 1, 2, 3] rfl) hf)
end
section
variable {r : Int32} {Sf : mS}
def fX3_draw (l1 : Int32) (S : mS) : Option (Int32 × mS) :=
  bd (mrd S 0 7919 (nI 5)) fun v1 =>
  bd (mwr S 0 7919 (nI 5) ((v1 * (nI 1103515245)) + (nI 12345))) fun S2 =>
  bd (mrd S2 0 7919 (nI 5)) fun v3 =>
  bd (mrem ((v3.toUInt32 >>> ((nI 16).toUInt32 &&& Int32.toUInt32 31)).toInt32) l1) fun v4 =>
  some (v4, S2)
theorem wX3_draw_b0 (hc : mC p s m args meth c D cI cJ cX3_draw 2 (some .int)) (l1 : Int32) (S : mS) (H : Heap) (locs : List Loc) (ls : Array Slot) (hP : va_P D mCl (mws am cI cJ S) H) (hD : va_D (mA am) (mws am cI cJ S)) (hS : va_S (mA am) s.heap H locs) (hl : lv_has ls 2 [(0, .ref (am 0)), (1, .int l1)]) (hf : fX3_draw l1 S = some (r, Sf)) : W p l e (mR 0 0) s m args below meth c H locs 0 0 (mQ below D am cI cJ (some (.int r)) Sf args s) (F0 m 0 ls []) := by
  obtain ⟨hx, hb, hr, hlk, hml, hown, hts, hK⟩ := hc
  have hc : mC p s m args meth c D cI cJ cX3_draw 2 (some .int) := ⟨hx, hb, hr, hlk, hml, hown, hts, hK⟩
  unfold fX3_draw at hf
  refine lv_aload_n (pc := 0) hx hb dX3_draw_0 rfl (lv_at hl 0 rfl) ?_
  refine va_get (D := D) (ci := 0) (v := .ref (am 1)) (C := RX3) (T := TX3) (N := 17) (pc := 1) hx hb hts in_X3 hown hK hP 0 rfl rfl 0 (by decide) (hts _ q2839) (fun _ h9 => h9) rfl dX3_draw_1 ?_
  refine lv_iconst (pc := 4) (v := nI 5) hx hb dX3_draw_4 rfl ?_
  refine lv_aload_n (pc := 5) hx hb dX3_draw_5 rfl (lv_at hl 0 rfl) ?_
  refine va_get (D := D) (ci := 0) (v := .ref (am 1)) (C := RX3) (T := TX3) (N := 17) (pc := 6) hx hb hts in_X3 hown hK hP 0 rfl rfl 0 (by decide) (hts _ q2839) (fun _ h9 => h9) rfl dX3_draw_6 ?_
  refine lv_iconst (pc := 9) (v := nI 5) hx hb dX3_draw_9 rfl ?_
  obtain ⟨v1, e1, hf⟩ := bdo hf
  refine m_iald (pc := 10) (k := 0) hx hb hK hP rfl e1 dX3_draw_10 ?_
  refine lv_ldc (pc := 11) (v := nI 1103515245) hx hb hown (hts _ q3254) dX3_draw_11 ?_
  refine lv_imul (pc := 13) hx hb dX3_draw_13 ?_
  refine lv_sipush (pc := 14) (v := nI 12345) hx hb dX3_draw_14 kcs12345 ?_
  refine lv_iadd (pc := 17) hx hb dX3_draw_17 ?_
  obtain ⟨S2, e2, hf⟩ := bdo hf
  refine m_iast (pc := 18) (k := 0) hx hb hK hP hD hS rfl (fun _ _ => rfl) e2 dX3_draw_18 (fun H locs hP hD hS => ?_)
  refine lv_aload_n (pc := 19) hx hb dX3_draw_19 rfl (lv_at hl 0 rfl) ?_
  refine va_get (D := D) (ci := 0) (v := .ref (am 1)) (C := RX3) (T := TX3) (N := 17) (pc := 20) hx hb hts in_X3 hown hK hP 0 rfl rfl 0 (by decide) (hts _ q2839) (fun _ h9 => h9) rfl dX3_draw_20 ?_
  refine lv_iconst (pc := 23) (v := nI 5) hx hb dX3_draw_23 rfl ?_
  obtain ⟨v3, e3, hf⟩ := bdo hf
  refine m_iald (pc := 24) (k := 0) hx hb hK hP rfl e3 dX3_draw_24 ?_
  refine lv_bipush (pc := 25) (v := nI 16) hx hb dX3_draw_25 kcb16 ?_
  refine lv_iushr (pc := 27) hx hb dX3_draw_27 rfl ?_
  refine lv_iload_n (pc := 28) hx hb dX3_draw_28 rfl (lv_at hl 1 rfl) ?_
  obtain ⟨v4, e4, hf⟩ := bdo hf
  refine m_irem (pc := 29) hx hb dX3_draw_29 e4 ?_
  exact m_iret (pc := 30) hx hb hr hlk hP hD hS hf dX3_draw_30
theorem mX3_draw {S S2 : mS} {r2 : Int32} {l1 : Int32} (hf : fX3_draw l1 S = some (r2, S2)) : mMet l yX3_draw cX3_draw 2 (some .int) 0 0 D am cI cJ [.ref (am 0), .int l1] S (some (.int r2)) S2 := by
  exact m_start (by decide) rfl (Nat.le_of_ble_eq_true rfl) (fun p e s m args below meth c ls hc hl hP hD => wX3_draw_b0 hc l1 S _ _ ls hP hD va_S.rf (lv_sub hl [0, 1] rfl) hf)
end
section
variable {r : Int32} {Sf : mS}
def fX3_isDay (l1 : Int32) (S : mS) : Option (Int32 × mS) :=
  if (nI 2) ≤ l1 then
    if (nI 4) ≤ l1 then
      bd (mrd S 0 7919 (nI 1)) fun v3 =>
      if v3 = 0 then
        zr (nI 0) S
      else
        bd (mrd S 0 7919 (nI 1)) fun v5 =>
        bd2 (fX3_draw v5 S) fun v6 S6 =>
        bd2 (fX3_outAt v6 (-1) S6) fun v7 S7 =>
        if 0 ≤ v7 then
          if l1 = (nI 4) then
            bd2 (fX3_acks v6 v7 S7) fun _ S11 =>
            zr (nI 1) S11
          else
            bd2 (fX3_refuses v6 v7 S7) fun v10 S10 =>
            zr (nI 1) S10
        else
          zr (nI 0) S7
    else
      bd (mrd S 0 7919 (nI 0)) fun v12 =>
      if v12 ≤ 0 then
        zr (nI 0) S
      else
        bd (mrd S 0 7919 (nI 0)) fun v14 =>
        bd2 (fX3_draw v14 S) fun v15 S15 =>
        bd2 (fX3_gives v15 S15) fun v16 S16 =>
        if v16 < 0 then
          zr (nI 0) S16
        else
          zr (nI 1) S16
  else
    bd (mrd S 0 7919 (nI 6)) fun v18 =>
    if v18 = 0 then
      zr (nI 0) S
    else
      bd (mrd S 0 7919 (nI 2)) fun v20 =>
      if v20 = (nI 300) then
        zr (nI 0) S
      else
        bd2 (fX3_draw (nI 8) S) fun v22 S22 =>
        bd2 (fX3_draw (nI 4) S22) fun v23 S23 =>
        bd2 (fX3_draw (nI 100) S23) fun v24 S24 =>
        bd2 (fX3_publishes v22 v23 v24 S24) fun v25 S25 =>
        zr (nI 1) S25
theorem wX3_isDay_b0 (hc : mC p s m args meth c D cI cJ cX3_isDay 5 (some .boolean)) (l1 : Int32) (S : mS) (H : Heap) (locs : List Loc) (ls : Array Slot) (hP : va_P D mCl (mws am cI cJ S) H) (hD : va_D (mA am) (mws am cI cJ S)) (hS : va_S (mA am) s.heap H locs) (hl : lv_has ls 5 [(0, .ref (am 0)), (1, .int l1)]) (hf : fX3_isDay l1 S = some (r, Sf)) : W p l e (mR 6 136) s m args below meth c H locs 0 0 (mQ below D am cI cJ (some (.int r)) Sf args s) (F0 m 0 ls []) := by
  obtain ⟨hx, hb, hr, hlk, hml, hown, hts, hK⟩ := hc
  have hc : mC p s m args meth c D cI cJ cX3_isDay 5 (some .boolean) := ⟨hx, hb, hr, hlk, hml, hown, hts, hK⟩
  unfold fX3_isDay at hf
  refine lv_iload_n (pc := 0) hx hb dX3_isDay_0 rfl (lv_at hl 1 rfl) ?_
  refine lv_iconst (pc := 1) (v := nI 2) hx hb dX3_isDay_1 rfl ?_
  refine lv_icmp_ge (pc := 2) (tgt := 58) hx hb dX3_isDay_2 (by decide) (fun c1 => ?_) (fun c1 => ?_)
  · rw [if_pos c1] at hf
    refine lv_iload_n (pc := 58) hx hb dX3_isDay_58 rfl (lv_at hl 1 rfl) ?_
    refine lv_iconst (pc := 59) (v := nI 4) hx hb dX3_isDay_59 rfl ?_
    refine lv_icmp_ge (pc := 60) (tgt := 95) hx hb dX3_isDay_60 (by decide) (fun c2 => ?_) (fun c2 => ?_)
    · rw [if_pos c2] at hf
      refine lv_aload_n (pc := 95) hx hb dX3_isDay_95 rfl (lv_at hl 0 rfl) ?_
      refine va_get (D := D) (ci := 0) (v := .ref (am 1)) (C := RX3) (T := TX3) (N := 17) (pc := 96) hx hb hts in_X3 hown hK hP 0 rfl rfl 0 (by decide) (hts _ q2839) (fun _ h9 => h9) rfl dX3_isDay_96 ?_
      refine lv_iconst (pc := 99) (v := nI 1) hx hb dX3_isDay_99 rfl ?_
      obtain ⟨v3, e3, hf⟩ := bdo hf
      refine m_iald (pc := 100) (k := 0) hx hb hK hP rfl e3 dX3_isDay_100 ?_
      refine lv_if_ne (pc := 101) (tgt := 106) hx hb dX3_isDay_101 (by decide) (fun c4 => ?_) (fun c4 => ?_)
      · rw [if_neg c4] at hf
        refine lv_aload_n (pc := 106) hx hb dX3_isDay_106 rfl (lv_at hl 0 rfl) ?_
        refine lv_aload_n (pc := 107) hx hb dX3_isDay_107 rfl (lv_at hl 0 rfl) ?_
        refine va_get (D := D) (ci := 0) (v := .ref (am 1)) (C := RX3) (T := TX3) (N := 17) (pc := 108) hx hb hts in_X3 hown hK hP 0 rfl rfl 0 (by decide) (hts _ q2839) (fun _ h9 => h9) rfl dX3_isDay_108 ?_
        refine lv_iconst (pc := 111) (v := nI 1) hx hb dX3_isDay_111 rfl ?_
        obtain ⟨v5, e5, hf⟩ := bdo hf
        refine m_iald (pc := 112) (k := 0) hx hb hK hP rfl e5 dX3_isDay_112 ?_
        obtain ⟨v6, S6, e6, hf⟩ := bd2o hf
        refine m_callV (pc := 113) (As := [.int v5]) (rest := []) (st1 := [.int v6]) hc (mX3_draw e6) (cwV 1 hts (lw_V q3250 q3252 qs92 q105 q3253) rfl rfl rfl hdX3_draw ⟨Nat.le_of_ble_eq_true rfl, Nat.le_of_ble_eq_true rfl⟩) rfl hl.1 rfl rfl (lv_room (Nat.le_of_ble_eq_true rfl)) dX3_isDay_113 hP hD hS (fun H locs hP hD hS => ?_)
        refine lv_istore_n (pc := 116) (lv' := [(2, .int v6), (0, .ref (am 0)), (1, .int l1)]) hx hb dX3_isDay_116 rfl hl (by decide) rfl (fun ls hl => ?_)
        refine lv_aload_n (pc := 117) hx hb dX3_isDay_117 rfl (lv_at hl 1 rfl) ?_
        refine lv_iload_n (pc := 118) hx hb dX3_isDay_118 rfl (lv_at hl 0 rfl) ?_
        refine lv_iconst (pc := 119) (v := -1) hx hb dX3_isDay_119 rfl ?_
        obtain ⟨v7, S7, e7, hf⟩ := bd2o hf
        refine m_callV (pc := 120) (As := [.int v6, .int (-1)]) (rest := []) (st1 := [.int v7]) hc (mX3_outAt e7) (cwV 2 hts (lw_V q3047 q3049 qs76 q105 q3050) rfl rfl rfl hdX3_outAt ⟨Nat.le_of_ble_eq_true rfl, Nat.le_of_ble_eq_true rfl⟩) rfl hl.1 rfl rfl (lv_room (Nat.le_of_ble_eq_true rfl)) dX3_isDay_120 hP hD hS (fun H locs hP hD hS => ?_)
        refine lv_istore_n (pc := 123) (lv' := [(3, .int v7), (2, .int v6), (0, .ref (am 0)), (1, .int l1)]) hx hb dX3_isDay_123 rfl hl (by decide) rfl (fun ls hl => ?_)
        refine lv_iload_n (pc := 124) hx hb dX3_isDay_124 rfl (lv_at hl 0 rfl) ?_
        refine lv_if_ge (pc := 125) (tgt := 130) hx hb dX3_isDay_125 (by decide) (fun c8 => ?_) (fun c8 => ?_)
        · rw [if_pos c8] at hf
          refine lv_iload_n (pc := 130) hx hb dX3_isDay_130 rfl (lv_at hl 3 rfl) ?_
          refine lv_iconst (pc := 131) (v := nI 4) hx hb dX3_isDay_131 rfl ?_
          refine lv_icmp_ne (pc := 132) (tgt := 144) hx hb dX3_isDay_132 (by decide) (fun c9 => ?_) (fun c9 => ?_)
          · rw [if_neg c9] at hf
            refine lv_aload_n (pc := 144) hx hb dX3_isDay_144 rfl (lv_at hl 2 rfl) ?_
            refine lv_iload_n (pc := 145) hx hb dX3_isDay_145 rfl (lv_at hl 1 rfl) ?_
            refine lv_iload_n (pc := 146) hx hb dX3_isDay_146 rfl (lv_at hl 0 rfl) ?_
            obtain ⟨v10, S10, e10, hf⟩ := bd2o hf
            refine m_callV (pc := 147) (As := [.int v6, .int v7]) (rest := []) (st1 := [.int v10]) hc (mX3_refuses e10) (cwV 2 hts (lw_V q3072 q3074 qs81 q105 q3075) rfl rfl rfl hdX3_refuses ⟨Nat.le_of_ble_eq_true rfl, Nat.le_of_ble_eq_true rfl⟩) rfl hl.1 rfl rfl (lv_room (Nat.le_of_ble_eq_true rfl)) dX3_isDay_147 hP hD hS (fun H locs hP hD hS => ?_)
            refine lv_istore (pc := 150) (lv' := [(4, .int v10), (3, .int v7), (2, .int v6), (0, .ref (am 0)), (1, .int l1)]) hx hb dX3_isDay_150 hl (by decide) rfl (fun ls hl => ?_)
            refine lv_iconst (pc := 152) (v := nI 1) hx hb dX3_isDay_152 rfl ?_
            exact m_zret (pc := 153) hx hb hr hlk hP hD hS hf dX3_isDay_153
          · rw [if_pos c9] at hf
            refine lv_aload_n (pc := 135) hx hb dX3_isDay_135 rfl (lv_at hl 2 rfl) ?_
            refine lv_iload_n (pc := 136) hx hb dX3_isDay_136 rfl (lv_at hl 1 rfl) ?_
            refine lv_iload_n (pc := 137) hx hb dX3_isDay_137 rfl (lv_at hl 0 rfl) ?_
            obtain ⟨v11, S11, e11, hf⟩ := bd2o hf
            refine m_callV (pc := 138) (As := [.int v6, .int v7]) (rest := []) (st1 := []) hc (mX3_acks e11) (cwV 2 hts (lw_V q3051 q3053 qs77 q105 q3054) rfl rfl rfl hdX3_acks ⟨Nat.le_of_ble_eq_true rfl, Nat.le_of_ble_eq_true rfl⟩) rfl hl.1 rfl rfl (lv_room (Nat.le_of_ble_eq_true rfl)) dX3_isDay_138 hP hD hS (fun H locs hP hD hS => ?_)
            refine lv_goto (pc := 141) (tgt := 152) hx hb dX3_isDay_141 (by decide) ?_
            refine lv_iconst (pc := 152) (v := nI 1) hx hb dX3_isDay_152 rfl ?_
            exact m_zret (pc := 153) hx hb hr hlk hP hD hS hf dX3_isDay_153
        · rw [if_neg c8] at hf
          refine lv_iconst (pc := 128) (v := nI 0) hx hb dX3_isDay_128 rfl ?_
          exact m_zret (pc := 129) hx hb hr hlk hP hD hS hf dX3_isDay_129
      · rw [if_pos c4] at hf
        refine lv_iconst (pc := 104) (v := nI 0) hx hb dX3_isDay_104 rfl ?_
        exact m_zret (pc := 105) hx hb hr hlk hP hD hS hf dX3_isDay_105
    · rw [if_neg c2] at hf
      refine lv_aload_n (pc := 63) hx hb dX3_isDay_63 rfl (lv_at hl 0 rfl) ?_
      refine va_get (D := D) (ci := 0) (v := .ref (am 1)) (C := RX3) (T := TX3) (N := 17) (pc := 64) hx hb hts in_X3 hown hK hP 0 rfl rfl 0 (by decide) (hts _ q2839) (fun _ h9 => h9) rfl dX3_isDay_64 ?_
      refine lv_iconst (pc := 67) (v := nI 0) hx hb dX3_isDay_67 rfl ?_
      obtain ⟨v12, e12, hf⟩ := bdo hf
      refine m_iald (pc := 68) (k := 0) hx hb hK hP rfl e12 dX3_isDay_68 ?_
      refine lv_if_le (pc := 69) (tgt := 93) hx hb dX3_isDay_69 (by decide) (fun c13 => ?_) (fun c13 => ?_)
      · rw [if_pos c13] at hf
        refine lv_iconst (pc := 93) (v := nI 0) hx hb dX3_isDay_93 rfl ?_
        exact m_zret (pc := 94) hx hb hr hlk hP hD hS hf dX3_isDay_94
      · rw [if_neg c13] at hf
        refine lv_aload_n (pc := 72) hx hb dX3_isDay_72 rfl (lv_at hl 0 rfl) ?_
        refine lv_aload_n (pc := 73) hx hb dX3_isDay_73 rfl (lv_at hl 0 rfl) ?_
        refine lv_aload_n (pc := 74) hx hb dX3_isDay_74 rfl (lv_at hl 0 rfl) ?_
        refine va_get (D := D) (ci := 0) (v := .ref (am 1)) (C := RX3) (T := TX3) (N := 17) (pc := 75) hx hb hts in_X3 hown hK hP 0 rfl rfl 0 (by decide) (hts _ q2839) (fun _ h9 => h9) rfl dX3_isDay_75 ?_
        refine lv_iconst (pc := 78) (v := nI 0) hx hb dX3_isDay_78 rfl ?_
        obtain ⟨v14, e14, hf⟩ := bdo hf
        refine m_iald (pc := 79) (k := 0) hx hb hK hP rfl e14 dX3_isDay_79 ?_
        obtain ⟨v15, S15, e15, hf⟩ := bd2o hf
        refine m_callV (pc := 80) (As := [.int v14]) (rest := [.ref (am 0)]) (st1 := [.int v15, .ref (am 0)]) hc (mX3_draw e15) (cwV 1 hts (lw_V q3250 q3252 qs92 q105 q3253) rfl rfl rfl hdX3_draw ⟨Nat.le_of_ble_eq_true rfl, Nat.le_of_ble_eq_true rfl⟩) rfl hl.1 rfl rfl (lv_room (Nat.le_of_ble_eq_true rfl)) dX3_isDay_80 hP hD hS (fun H locs hP hD hS => ?_)
        obtain ⟨v16, S16, e16, hf⟩ := bd2o hf
        refine m_callV (pc := 83) (As := [.int v15]) (rest := []) (st1 := [.int v16]) hc (mX3_gives e16) (cwV 1 hts (lw_V q3003 q3005 qs67 q105 q3006) rfl rfl rfl hdX3_gives ⟨Nat.le_of_ble_eq_true rfl, Nat.le_of_ble_eq_true rfl⟩) rfl hl.1 rfl rfl (lv_room (Nat.le_of_ble_eq_true rfl)) dX3_isDay_83 hP hD hS (fun H locs hP hD hS => ?_)
        refine lv_if_lt (pc := 86) (tgt := 93) hx hb dX3_isDay_86 (by decide) (fun c17 => ?_) (fun c17 => ?_)
        · rw [if_pos c17] at hf
          refine lv_iconst (pc := 93) (v := nI 0) hx hb dX3_isDay_93 rfl ?_
          exact m_zret (pc := 94) hx hb hr hlk hP hD hS hf dX3_isDay_94
        · rw [if_neg c17] at hf
          refine lv_iconst (pc := 89) (v := nI 1) hx hb dX3_isDay_89 rfl ?_
          refine lv_goto (pc := 90) (tgt := 94) hx hb dX3_isDay_90 (by decide) ?_
          exact m_zret (pc := 94) hx hb hr hlk hP hD hS hf dX3_isDay_94
  · rw [if_neg c1] at hf
    refine lv_aload_n (pc := 5) hx hb dX3_isDay_5 rfl (lv_at hl 0 rfl) ?_
    refine va_get (D := D) (ci := 0) (v := .ref (am 1)) (C := RX3) (T := TX3) (N := 17) (pc := 6) hx hb hts in_X3 hown hK hP 0 rfl rfl 0 (by decide) (hts _ q2839) (fun _ h9 => h9) rfl dX3_isDay_6 ?_
    refine lv_bipush (pc := 9) (v := nI 6) hx hb dX3_isDay_9 kcb6 ?_
    obtain ⟨v18, e18, hf⟩ := bdo hf
    refine m_iald (pc := 11) (k := 0) hx hb hK hP rfl e18 dX3_isDay_11 ?_
    refine lv_if_eq (pc := 12) (tgt := 27) hx hb dX3_isDay_12 (by decide) (fun c19 => ?_) (fun c19 => ?_)
    · rw [if_pos c19] at hf
      refine lv_iconst (pc := 27) (v := nI 0) hx hb dX3_isDay_27 rfl ?_
      exact m_zret (pc := 28) hx hb hr hlk hP hD hS hf dX3_isDay_28
    · rw [if_neg c19] at hf
      refine lv_aload_n (pc := 15) hx hb dX3_isDay_15 rfl (lv_at hl 0 rfl) ?_
      refine va_get (D := D) (ci := 0) (v := .ref (am 1)) (C := RX3) (T := TX3) (N := 17) (pc := 16) hx hb hts in_X3 hown hK hP 0 rfl rfl 0 (by decide) (hts _ q2839) (fun _ h9 => h9) rfl dX3_isDay_16 ?_
      refine lv_iconst (pc := 19) (v := nI 2) hx hb dX3_isDay_19 rfl ?_
      obtain ⟨v20, e20, hf⟩ := bdo hf
      refine m_iald (pc := 20) (k := 0) hx hb hK hP rfl e20 dX3_isDay_20 ?_
      refine lv_sipush (pc := 21) (v := nI 300) hx hb dX3_isDay_21 kcs300 ?_
      refine lv_icmp_ne (pc := 24) (tgt := 29) hx hb dX3_isDay_24 (by decide) (fun c21 => ?_) (fun c21 => ?_)
      · rw [if_neg c21] at hf
        refine lv_aload_n (pc := 29) hx hb dX3_isDay_29 rfl (lv_at hl 0 rfl) ?_
        refine lv_bipush (pc := 30) (v := nI 8) hx hb dX3_isDay_30 kcb8 ?_
        obtain ⟨v22, S22, e22, hf⟩ := bd2o hf
        refine m_callV (pc := 32) (As := [.int (nI 8)]) (rest := []) (st1 := [.int v22]) hc (mX3_draw e22) (cwV 1 hts (lw_V q3250 q3252 qs92 q105 q3253) rfl rfl rfl hdX3_draw ⟨Nat.le_of_ble_eq_true rfl, Nat.le_of_ble_eq_true rfl⟩) rfl hl.1 rfl rfl (lv_room (Nat.le_of_ble_eq_true rfl)) dX3_isDay_32 hP hD hS (fun H locs hP hD hS => ?_)
        refine lv_istore_n (pc := 35) (lv' := [(2, .int v22), (0, .ref (am 0)), (1, .int l1)]) hx hb dX3_isDay_35 rfl hl (by decide) rfl (fun ls hl => ?_)
        refine lv_aload_n (pc := 36) hx hb dX3_isDay_36 rfl (lv_at hl 1 rfl) ?_
        refine lv_iconst (pc := 37) (v := nI 4) hx hb dX3_isDay_37 rfl ?_
        obtain ⟨v23, S23, e23, hf⟩ := bd2o hf
        refine m_callV (pc := 38) (As := [.int (nI 4)]) (rest := []) (st1 := [.int v23]) hc (mX3_draw e23) (cwV 1 hts (lw_V q3250 q3252 qs92 q105 q3253) rfl rfl rfl hdX3_draw ⟨Nat.le_of_ble_eq_true rfl, Nat.le_of_ble_eq_true rfl⟩) rfl hl.1 rfl rfl (lv_room (Nat.le_of_ble_eq_true rfl)) dX3_isDay_38 hP hD hS (fun H locs hP hD hS => ?_)
        refine lv_istore_n (pc := 41) (lv' := [(3, .int v23), (2, .int v22), (0, .ref (am 0)), (1, .int l1)]) hx hb dX3_isDay_41 rfl hl (by decide) rfl (fun ls hl => ?_)
        refine lv_aload_n (pc := 42) hx hb dX3_isDay_42 rfl (lv_at hl 2 rfl) ?_
        refine lv_iload_n (pc := 43) hx hb dX3_isDay_43 rfl (lv_at hl 1 rfl) ?_
        refine lv_iload_n (pc := 44) hx hb dX3_isDay_44 rfl (lv_at hl 0 rfl) ?_
        refine lv_aload_n (pc := 45) hx hb dX3_isDay_45 rfl (lv_at hl 2 rfl) ?_
        refine lv_bipush (pc := 46) (v := nI 100) hx hb dX3_isDay_46 kcb100 ?_
        obtain ⟨v24, S24, e24, hf⟩ := bd2o hf
        refine m_callV (pc := 48) (As := [.int (nI 100)]) (rest := [.int v23, .int v22, .ref (am 0)]) (st1 := [.int v24, .int v23, .int v22, .ref (am 0)]) hc (mX3_draw e24) (cwV 1 hts (lw_V q3250 q3252 qs92 q105 q3253) rfl rfl rfl hdX3_draw ⟨Nat.le_of_ble_eq_true rfl, Nat.le_of_ble_eq_true rfl⟩) rfl hl.1 rfl rfl (lv_room (Nat.le_of_ble_eq_true rfl)) dX3_isDay_48 hP hD hS (fun H locs hP hD hS => ?_)
        obtain ⟨v25, S25, e25, hf⟩ := bd2o hf
        refine m_callV (pc := 51) (As := [.int v22, .int v23, .int v24]) (rest := []) (st1 := [.int v25]) hc (mX3_publishes e25) (cwV 3 hts (lw_V q2975 q2977 qs61 q105 q2978) rfl rfl rfl hdX3_publishes ⟨Nat.le_of_ble_eq_true rfl, Nat.le_of_ble_eq_true rfl⟩) rfl hl.1 rfl rfl (lv_room (Nat.le_of_ble_eq_true rfl)) dX3_isDay_51 hP hD hS (fun H locs hP hD hS => ?_)
        refine lv_istore (pc := 54) (lv' := [(4, .int v25), (3, .int v23), (2, .int v22), (0, .ref (am 0)), (1, .int l1)]) hx hb dX3_isDay_54 hl (by decide) rfl (fun ls hl => ?_)
        refine lv_iconst (pc := 56) (v := nI 1) hx hb dX3_isDay_56 rfl ?_
        exact m_zret (pc := 57) hx hb hr hlk hP hD hS hf dX3_isDay_57
      · rw [if_pos c21] at hf
        refine lv_iconst (pc := 27) (v := nI 0) hx hb dX3_isDay_27 rfl ?_
        exact m_zret (pc := 28) hx hb hr hlk hP hD hS hf dX3_isDay_28
theorem mX3_isDay {S S2 : mS} {r2 : Int32} {l1 : Int32} (hf : fX3_isDay l1 S = some (r2, S2)) : mMet l yX3_isDay cX3_isDay 5 (some .boolean) 6 136 D am cI cJ [.ref (am 0), .int l1] S (some (.int r2)) S2 := by
  exact m_start (by decide) rfl (Nat.le_of_ble_eq_true rfl) (fun p e s m args below meth c ls hc hl hP hD => wX3_isDay_b0 hc l1 S _ _ ls hP hD va_S.rf (lv_sub hl [0, 1] rfl) hf)
end
end
