/-! printed by gen/mgen.py: the methods of CreditBrokerModel, lifted and walked (2) -/
set_option maxRecDepth 100000
set_option maxHeartbeats 4000000
section
variable {p : Program} {l : Launch} {e : Env} {s : State} {m : MethodId} {args : Array Value} {below : List Frame} {meth : Method} {c : Code} {D : va_G} {am : Nat → Nat} {cI cJ : ClassId}
section
variable {r : Int32} {Sf : mS}
def fX3_faulty (S : mS) : Option (Int32 × mS) :=
  bd (ms S 1 (nI 0)) fun S1 =>
  bd (mrd S1 3 5 (nI 0)) fun v2 =>
  bd (mwr S1 3 5 (nI 0) (v2 + (nI 1))) fun S3 =>
  some ((-300) - (mf S3 2), S3)
theorem wX3_faulty_b0 (hc : mC p s m args meth c D cI cJ cX3_faulty 1 (some .int)) (S : mS) (H : Heap) (locs : List Loc) (ls : Array Slot) (hP : va_P D mCl (mws am cI cJ S) H) (hD : va_D (mA am) (mws am cI cJ S)) (hS : va_S (mA am) s.heap H locs) (hl : lv_has ls 1 [(0, .ref (am 0))]) (hf : fX3_faulty  S = some (r, Sf)) : W p l e (mR 0 0) s m args below meth c H locs 0 0 (mQ below D am cI cJ (some (.int r)) Sf args s) (F0 m 0 ls []) := by
  obtain ⟨hx, hb, hr, hlk, hml, hown, hts, hK⟩ := hc
  have hc : mC p s m args meth c D cI cJ cX3_faulty 1 (some .int) := ⟨hx, hb, hr, hlk, hml, hown, hts, hK⟩
  unfold fX3_faulty at hf
  refine lv_aload_n (pc := 0) hx hb dX3_faulty_0 rfl (lv_at hl 0 rfl) ?_
  refine lv_iconst (pc := 1) (v := nI 0) hx hb dX3_faulty_1 rfl ?_
  obtain ⟨S1, e1, hf⟩ := bdo hf
  refine m_put (pc := 2) (j := 7) (js := 1) hx hb hts hown hK hP hD hS (by decide) rfl rfl (hts _ q2846) rfl rfl e1 dX3_faulty_2 (fun H locs hP hD hS => ?_)
  refine lv_aload_n (pc := 5) hx hb dX3_faulty_5 rfl (lv_at hl 0 rfl) ?_
  refine va_get (D := D) (ci := 0) (v := .ref (am 4)) (C := RX3) (T := TX3) (N := 17) (pc := 6) hx hb hts in_X3 hown hK hP 0 rfl rfl 4 (by decide) (hts _ q2843) (fun _ h9 => h9) rfl dX3_faulty_6 ?_
  refine lv_iconst (pc := 9) (v := nI 0) hx hb dX3_faulty_9 rfl ?_
  refine lv_dup2_11 (pc := 10) hx hb dX3_faulty_10 rfl rfl ?_
  obtain ⟨v2, e2, hf⟩ := bdo hf
  refine m_iald (pc := 11) (k := 3) hx hb hK hP rfl e2 dX3_faulty_11 ?_
  refine lv_iconst (pc := 12) (v := nI 1) hx hb dX3_faulty_12 rfl ?_
  refine lv_iadd (pc := 13) hx hb dX3_faulty_13 ?_
  obtain ⟨S3, e3, hf⟩ := bdo hf
  refine m_iast (pc := 14) (k := 3) hx hb hK hP hD hS rfl (fun _ _ => rfl) e3 dX3_faulty_14 (fun H locs hP hD hS => ?_)
  refine lv_sipush (pc := 15) (v := -300) hx hb dX3_faulty_15 kcsm300 ?_
  refine lv_aload_n (pc := 18) hx hb dX3_faulty_18 rfl (lv_at hl 0 rfl) ?_
  refine va_get (D := D) (ci := 0) (v := .int (mf S3 2)) (C := RX3) (T := TX3) (N := 17) (pc := 19) hx hb hts in_X3 hown hK hP 0 rfl rfl 8 (by decide) (hts _ q2847) (fun _ h9 => h9) rfl dX3_faulty_19 ?_
  refine lv_isub (pc := 22) hx hb dX3_faulty_22 ?_
  exact m_iret (pc := 23) hx hb hr hlk hP hD hS hf dX3_faulty_23
theorem mX3_faulty {S S2 : mS} {r2 : Int32} (hf : fX3_faulty  S = some (r2, S2)) : mMet l yX3_faulty cX3_faulty 1 (some .int) 0 0 D am cI cJ [.ref (am 0)] S (some (.int r2)) S2 := by
  exact m_start (by decide) rfl (Nat.le_of_ble_eq_true rfl) (fun p e s m args below meth c ls hc hl hP hD => wX3_faulty_b0 hc  S _ _ ls hP hD va_S.rf (lv_sub hl [0] rfl) hf)
end
section
variable {r : Int32} {Sf : mS}
def fX3_topic_b31 : Nat → Int32 → mS → Option (Int32 × mS)
  | 0, _, _ => none
  | n + 1, l1, S =>
    if (mf S 3) ≤ l1 then
      some (mf S 3, S)
    else
      bd (mrd S 6 4 l1) fun v2 =>
      bd (mwr S 0 7919 ((nI 7) + l1) v2) fun S3 =>
      fX3_topic_b31 n (l1 + (nI 1)) S3
theorem wX3_topic_b31 (hc : mC p s m args meth c D cI cJ cX3_topic 2 (some .int)) : ∀ (n : Nat) (l1 : Int32) (S : mS) (H : Heap) (locs : List Loc) (ls : Array Slot), va_P D mCl (mws am cI cJ S) H → va_D (mA am) (mws am cI cJ S) → va_S (mA am) s.heap H locs → lv_has ls 2 [(0, .ref (am 0)), (1, .int l1)] → fX3_topic_b31 n l1 S = some (r, Sf) → W p l e (mR 2 49) s m args below meth c H locs 0 0 (mQ below D am cI cJ (some (.int r)) Sf args s) (F0 m 31 ls []) := by
  obtain ⟨hx, hb, hr, hlk, hml, hown, hts, hK⟩ := hc
  have hc : mC p s m args meth c D cI cJ cX3_topic 2 (some .int) := ⟨hx, hb, hr, hlk, hml, hown, hts, hK⟩
  intro n
  induction n with
  | zero => intro l1 S H locs ls _ _ _ _ hf; exact absurd hf (fun h => by cases h)
  | succ n ih =>
    intro l1 S H locs ls hP hD hS hl hf
    rw [fX3_topic_b31] at hf
    refine lv_iload_n (pc := 31) hx hb dX3_topic_31 rfl (lv_at hl 1 rfl) ?_
    refine lv_aload_n (pc := 32) hx hb dX3_topic_32 rfl (lv_at hl 0 rfl) ?_
    refine va_get (D := D) (ci := 0) (v := .int (mf S 3)) (C := RX3) (T := TX3) (N := 17) (pc := 33) hx hb hts in_X3 hown hK hP 0 rfl rfl 10 (by decide) (hts _ q2849) (fun _ h9 => h9) rfl dX3_topic_33 ?_
    refine lv_icmp_ge (pc := 36) (tgt := 60) hx hb dX3_topic_36 (by decide) (fun c1 => ?_) (fun c1 => ?_)
    · rw [if_pos c1] at hf
      refine lv_aload_n (pc := 60) hx hb dX3_topic_60 rfl (lv_at hl 0 rfl) ?_
      refine va_get (D := D) (ci := 0) (v := .int (mf S 3)) (C := RX3) (T := TX3) (N := 17) (pc := 61) hx hb hts in_X3 hown hK hP 0 rfl rfl 10 (by decide) (hts _ q2849) (fun _ h9 => h9) rfl dX3_topic_61 ?_
      exact m_iret (pc := 64) hx hb hr hlk hP hD hS hf dX3_topic_64
    · rw [if_neg c1] at hf
      refine lv_aload_n (pc := 39) hx hb dX3_topic_39 rfl (lv_at hl 0 rfl) ?_
      refine va_get (D := D) (ci := 0) (v := .ref (am 1)) (C := RX3) (T := TX3) (N := 17) (pc := 40) hx hb hts in_X3 hown hK hP 0 rfl rfl 0 (by decide) (hts _ q2839) (fun _ h9 => h9) rfl dX3_topic_40 ?_
      refine lv_bipush (pc := 43) (v := nI 7) hx hb dX3_topic_43 kcb7 ?_
      refine lv_iload_n (pc := 45) hx hb dX3_topic_45 rfl (lv_at hl 1 rfl) ?_
      refine lv_iadd (pc := 46) hx hb dX3_topic_46 ?_
      refine lv_aload_n (pc := 47) hx hb dX3_topic_47 rfl (lv_at hl 0 rfl) ?_
      refine va_get (D := D) (ci := 0) (v := .ref (am 7)) (C := RX3) (T := TX3) (N := 17) (pc := 48) hx hb hts in_X3 hown hK hP 0 rfl rfl 9 (by decide) (hts _ q2848) (fun _ h9 => h9) rfl dX3_topic_48 ?_
      refine lv_iload_n (pc := 51) hx hb dX3_topic_51 rfl (lv_at hl 1 rfl) ?_
      obtain ⟨v2, e2, hf⟩ := bdo hf
      refine m_iald (pc := 52) (k := 6) hx hb hK hP rfl e2 dX3_topic_52 ?_
      obtain ⟨S3, e3, hf⟩ := bdo hf
      refine m_iast (pc := 53) (k := 0) hx hb hK hP hD hS rfl (fun _ _ => rfl) e3 dX3_topic_53 (fun H locs hP hD hS => ?_)
      refine lv_iinc (pc := 54) (v := l1 + (nI 1)) (lv' := [(1, .int (l1 + (nI 1))), (0, .ref (am 0))]) hx hb dX3_topic_54 hl (k := 1) rfl rfl (by decide) rfl (fun ls hl => ?_)
      refine lv_goto (pc := 57) (tgt := 31) hx hb dX3_topic_57 (by decide) ?_
      exact ih (l1 + (nI 1)) S3 _ _ ls hP hD hS (lv_sub hl [1, 0] rfl) hf
def fX3_topic (S : mS) : Option (Int32 × mS) :=
  bd2 (fX3_isRead (nI 0) S) fun v1 S1 =>
  if v1 = 0 then
    bd2 (fX3_faulty  S1) fun v5 S5 =>
    some (v5, S5)
  else
    bd (ms S1 1 (nI 0)) fun S3 =>
    bd (mwr S3 0 7919 (nI 6) (mf S3 3)) fun S4 =>
    fX3_topic_b31 FU (nI 0) S4
theorem wX3_topic_b0 (hc : mC p s m args meth c D cI cJ cX3_topic 2 (some .int)) (S : mS) (H : Heap) (locs : List Loc) (ls : Array Slot) (hP : va_P D mCl (mws am cI cJ S) H) (hD : va_D (mA am) (mws am cI cJ S)) (hS : va_S (mA am) s.heap H locs) (hl : lv_has ls 2 [(0, .ref (am 0))]) (hf : fX3_topic  S = some (r, Sf)) : W p l e (mR 2 49) s m args below meth c H locs 0 0 (mQ below D am cI cJ (some (.int r)) Sf args s) (F0 m 0 ls []) := by
  obtain ⟨hx, hb, hr, hlk, hml, hown, hts, hK⟩ := hc
  have hc : mC p s m args meth c D cI cJ cX3_topic 2 (some .int) := ⟨hx, hb, hr, hlk, hml, hown, hts, hK⟩
  unfold fX3_topic at hf
  refine lv_aload_n (pc := 0) hx hb dX3_topic_0 rfl (lv_at hl 0 rfl) ?_
  refine lv_iconst (pc := 1) (v := nI 0) hx hb dX3_topic_1 rfl ?_
  obtain ⟨v1, S1, e1, hf⟩ := bd2o hf
  refine m_callV (pc := 2) (As := [.int (nI 0)]) (rest := []) (st1 := [.int v1]) hc (mX3_isRead e1) (cwV 1 hts (lw_V q2911 q2913 qs52 q105 q2914) rfl rfl rfl hdX3_isRead ⟨Nat.le_of_ble_eq_true rfl, Nat.le_of_ble_eq_true rfl⟩) rfl hl.1 rfl rfl (lv_room (Nat.le_of_ble_eq_true rfl)) dX3_topic_2 hP hD hS (fun H locs hP hD hS => ?_)
  refine lv_if_ne (pc := 5) (tgt := 13) hx hb dX3_topic_5 (by decide) (fun c2 => ?_) (fun c2 => ?_)
  · rw [if_neg c2] at hf
    refine lv_aload_n (pc := 13) hx hb dX3_topic_13 rfl (lv_at hl 0 rfl) ?_
    refine lv_iconst (pc := 14) (v := nI 0) hx hb dX3_topic_14 rfl ?_
    obtain ⟨S3, e3, hf⟩ := bdo hf
    refine m_put (pc := 15) (j := 7) (js := 1) hx hb hts hown hK hP hD hS (by decide) rfl rfl (hts _ q2846) rfl rfl e3 dX3_topic_15 (fun H locs hP hD hS => ?_)
    refine lv_aload_n (pc := 18) hx hb dX3_topic_18 rfl (lv_at hl 0 rfl) ?_
    refine va_get (D := D) (ci := 0) (v := .ref (am 1)) (C := RX3) (T := TX3) (N := 17) (pc := 19) hx hb hts in_X3 hown hK hP 0 rfl rfl 0 (by decide) (hts _ q2839) (fun _ h9 => h9) rfl dX3_topic_19 ?_
    refine lv_bipush (pc := 22) (v := nI 6) hx hb dX3_topic_22 kcb6 ?_
    refine lv_aload_n (pc := 24) hx hb dX3_topic_24 rfl (lv_at hl 0 rfl) ?_
    refine va_get (D := D) (ci := 0) (v := .int (mf S3 3)) (C := RX3) (T := TX3) (N := 17) (pc := 25) hx hb hts in_X3 hown hK hP 0 rfl rfl 10 (by decide) (hts _ q2849) (fun _ h9 => h9) rfl dX3_topic_25 ?_
    obtain ⟨S4, e4, hf⟩ := bdo hf
    refine m_iast (pc := 28) (k := 0) hx hb hK hP hD hS rfl (fun _ _ => rfl) e4 dX3_topic_28 (fun H locs hP hD hS => ?_)
    refine lv_iconst (pc := 29) (v := nI 0) hx hb dX3_topic_29 rfl ?_
    refine lv_istore_n (pc := 30) (lv' := [(1, .int (nI 0)), (0, .ref (am 0))]) hx hb dX3_topic_30 rfl hl (by decide) rfl (fun ls hl => ?_)
    exact wX3_topic_b31 hc FU (nI 0) S4 _ _ ls hP hD hS (lv_sub hl [1, 0] rfl) hf
  · rw [if_pos c2] at hf
    refine lv_aload_n (pc := 8) hx hb dX3_topic_8 rfl (lv_at hl 0 rfl) ?_
    obtain ⟨v5, S5, e5, hf⟩ := bd2o hf
    refine m_callV (pc := 9) (As := []) (rest := []) (st1 := [.int v5]) hc (mX3_faulty e5) (cwV 0 hts (lw_V q2921 q2923 qs54 q105 q2924) rfl rfl rfl hdX3_faulty ⟨Nat.le_of_ble_eq_true rfl, Nat.le_of_ble_eq_true rfl⟩) rfl hl.1 rfl rfl (lv_room (Nat.le_of_ble_eq_true rfl)) dX3_topic_9 hP hD hS (fun H locs hP hD hS => ?_)
    exact m_iret (pc := 12) hx hb hr hlk hP hD hS hf dX3_topic_12
theorem mX3_topic {S S2 : mS} {r2 : Int32} (hf : fX3_topic  S = some (r2, S2)) : mMet l yX3_topic cX3_topic 2 (some .int) 2 49 D am cI cJ [.ref (am 0)] S (some (.int r2)) S2 := by
  exact m_start (by decide) rfl (Nat.le_of_ble_eq_true rfl) (fun p e s m args below meth c ls hc hl hP hD => wX3_topic_b0 hc  S _ _ ls hP hD va_S.rf (lv_sub hl [0] rfl) hf)
end
section
variable {r : Unit} {Sf : mS}
def fX3_is (l1 : Int32) (l2 : Int32) (l3 : Int32) (S : mS) : Option (Unit × mS) :=
  bd (mwr S 0 7919 (((nI 3471) + ((nI 556) * l1)) + l2) l3) fun S1 =>
  some ((), S1)
theorem wX3_is_b0 (hc : mC p s m args meth c D cI cJ cX3_is 4 (none)) (l1 : Int32) (l2 : Int32) (l3 : Int32) (S : mS) (H : Heap) (locs : List Loc) (ls : Array Slot) (hP : va_P D mCl (mws am cI cJ S) H) (hD : va_D (mA am) (mws am cI cJ S)) (hS : va_S (mA am) s.heap H locs) (hl : lv_has ls 4 [(0, .ref (am 0)), (1, .int l1), (2, .int l2), (3, .int l3)]) (hf : fX3_is l1 l2 l3 S = some (r, Sf)) : W p l e (mR 0 0) s m args below meth c H locs 0 0 (mQ below D am cI cJ none Sf args s) (F0 m 0 ls []) := by
  obtain ⟨hx, hb, hr, hlk, hml, hown, hts, hK⟩ := hc
  have hc : mC p s m args meth c D cI cJ cX3_is 4 (none) := ⟨hx, hb, hr, hlk, hml, hown, hts, hK⟩
  unfold fX3_is at hf
  refine lv_aload_n (pc := 0) hx hb dX3_is_0 rfl (lv_at hl 0 rfl) ?_
  refine va_get (D := D) (ci := 0) (v := .ref (am 1)) (C := RX3) (T := TX3) (N := 17) (pc := 1) hx hb hts in_X3 hown hK hP 0 rfl rfl 0 (by decide) (hts _ q2839) (fun _ h9 => h9) rfl dX3_is_1 ?_
  refine lv_sipush (pc := 4) (v := nI 3471) hx hb dX3_is_4 kcs3471 ?_
  refine lv_sipush (pc := 7) (v := nI 556) hx hb dX3_is_7 kcs556 ?_
  refine lv_iload_n (pc := 10) hx hb dX3_is_10 rfl (lv_at hl 1 rfl) ?_
  refine lv_imul (pc := 11) hx hb dX3_is_11 ?_
  refine lv_iadd (pc := 12) hx hb dX3_is_12 ?_
  refine lv_iload_n (pc := 13) hx hb dX3_is_13 rfl (lv_at hl 2 rfl) ?_
  refine lv_iadd (pc := 14) hx hb dX3_is_14 ?_
  refine lv_iload_n (pc := 15) hx hb dX3_is_15 rfl (lv_at hl 3 rfl) ?_
  obtain ⟨S1, e1, hf⟩ := bdo hf
  refine m_iast (pc := 16) (k := 0) hx hb hK hP hD hS rfl (fun _ _ => rfl) e1 dX3_is_16 (fun H locs hP hD hS => ?_)
  exact m_vret (pc := 17) hx hb hr hlk hP hD hS hf dX3_is_17
theorem mX3_is {S S2 : mS} {r2 : Unit} {l1 : Int32} {l2 : Int32} {l3 : Int32} (hf : fX3_is l1 l2 l3 S = some (r2, S2)) : mMet l yX3_is cX3_is 4 (none) 0 0 D am cI cJ [.ref (am 0), .int l1, .int l2, .int l3] S none S2 := by
  exact m_start (by decide) rfl (Nat.le_of_ble_eq_true rfl) (fun p e s m args below meth c ls hc hl hP hD => wX3_is_b0 hc l1 l2 l3 S _ _ ls hP hD va_S.rf (lv_sub hl [0, 1, 2, 3] rfl) hf)
end
section
variable {r : Int32} {Sf : mS}
def fX3_queue_b49 (S : mS) : Option (Int32 × mS) :=
  bd2 (fX3_refused (-82) S) fun v1 S1 =>
  some (v1, S1)
theorem wX3_queue_b49 (hc : mC p s m args meth c D cI cJ cX3_queue 8 (some .int)) (S : mS) (H : Heap) (locs : List Loc) (ls : Array Slot) (hP : va_P D mCl (mws am cI cJ S) H) (hD : va_D (mA am) (mws am cI cJ S)) (hS : va_S (mA am) s.heap H locs) (hl : lv_has ls 8 [(0, .ref (am 0))]) (hf : fX3_queue_b49  S = some (r, Sf)) : W p l e (mR 2 49) s m args below meth c H locs 0 0 (mQ below D am cI cJ (some (.int r)) Sf args s) (F0 m 49 ls []) := by
  obtain ⟨hx, hb, hr, hlk, hml, hown, hts, hK⟩ := hc
  have hc : mC p s m args meth c D cI cJ cX3_queue 8 (some .int) := ⟨hx, hb, hr, hlk, hml, hown, hts, hK⟩
  unfold fX3_queue_b49 at hf
  refine lv_aload_n (pc := 49) hx hb dX3_queue_49 rfl (lv_at hl 0 rfl) ?_
  refine lv_bipush (pc := 50) (v := -82) hx hb dX3_queue_50 kcbm82 ?_
  obtain ⟨v1, S1, e1, hf⟩ := bd2o hf
  refine m_callV (pc := 52) (As := [.int (-82)]) (rest := []) (st1 := [.int v1]) hc (mX3_refused e1) (cwV 1 hts (lw_V q2899 q2901 qs51 q105 q2902) rfl rfl rfl hdX3_refused ⟨Nat.le_of_ble_eq_true rfl, Nat.le_of_ble_eq_true rfl⟩) rfl hl.1 rfl rfl (lv_room (Nat.le_of_ble_eq_true rfl)) dX3_queue_52 hP hD hS (fun H locs hP hD hS => ?_)
  exact m_iret (pc := 55) hx hb hr hlk hP hD hS hf dX3_queue_55
def fX3_queue_b186 : Nat → Int32 → Int32 → Int32 → Int32 → Int32 → Int32 → Int32 → mS → Option (Int32 × mS)
  | 0, _, _, _, _, _, _, _, _ => none
  | n + 1, l1, l2, l3, l4, l5, l6, l7, S =>
    if l5 ≤ l7 then
      bd2 (fX3_is l6 (nI 26) l1 S) fun _ S2 =>
      bd2 (fX3_is l6 (nI 27) l2 S2) fun _ S3 =>
      bd2 (fX3_is l6 (nI 28) l3 S3) fun _ S4 =>
      bd2 (fX3_is l6 (nI 29) l4 S4) fun _ S5 =>
      bd2 (fX3_is l6 (nI 31) (-1) S5) fun _ S6 =>
      bd (mwr S6 0 7919 (nI 0) (l6 + (nI 1))) fun S7 =>
      some (l6, S7)
    else
      bd (mrd S 5 250 l7) fun v8 =>
      bd2 (fX3_is l6 ((nI 6) + l7) v8 S) fun _ S9 =>
      fX3_queue_b186 n l1 l2 l3 l4 l5 l6 (l7 + (nI 1)) S9
theorem wX3_queue_b186 (hc : mC p s m args meth c D cI cJ cX3_queue 8 (some .int)) : ∀ (n : Nat) (l1 : Int32) (l2 : Int32) (l3 : Int32) (l4 : Int32) (l5 : Int32) (l6 : Int32) (l7 : Int32) (S : mS) (H : Heap) (locs : List Loc) (ls : Array Slot), va_P D mCl (mws am cI cJ S) H → va_D (mA am) (mws am cI cJ S) → va_S (mA am) s.heap H locs → lv_has ls 8 [(0, .ref (am 0)), (1, .int l1), (2, .int l2), (3, .int l3), (4, .int l4), (5, .int l5), (6, .int l6), (7, .int l7)] → fX3_queue_b186 n l1 l2 l3 l4 l5 l6 l7 S = some (r, Sf) → W p l e (mR 2 49) s m args below meth c H locs 0 0 (mQ below D am cI cJ (some (.int r)) Sf args s) (F0 m 186 ls []) := by
  obtain ⟨hx, hb, hr, hlk, hml, hown, hts, hK⟩ := hc
  have hc : mC p s m args meth c D cI cJ cX3_queue 8 (some .int) := ⟨hx, hb, hr, hlk, hml, hown, hts, hK⟩
  intro n
  induction n with
  | zero => intro l1 l2 l3 l4 l5 l6 l7 S H locs ls _ _ _ _ hf; exact absurd hf (fun h => by cases h)
  | succ n ih =>
    intro l1 l2 l3 l4 l5 l6 l7 S H locs ls hP hD hS hl hf
    rw [fX3_queue_b186] at hf
    refine lv_iload (pc := 186) hx hb dX3_queue_186 (lv_at hl 7 rfl) ?_
    refine lv_iload (pc := 188) hx hb dX3_queue_188 (lv_at hl 5 rfl) ?_
    refine lv_icmp_ge (pc := 190) (tgt := 217) hx hb dX3_queue_190 (by decide) (fun c1 => ?_) (fun c1 => ?_)
    · rw [if_pos c1] at hf
      refine lv_aload_n (pc := 217) hx hb dX3_queue_217 rfl (lv_at hl 0 rfl) ?_
      refine lv_iload (pc := 218) hx hb dX3_queue_218 (lv_at hl 6 rfl) ?_
      refine lv_bipush (pc := 220) (v := nI 26) hx hb dX3_queue_220 kcb26 ?_
      refine lv_iload_n (pc := 222) hx hb dX3_queue_222 rfl (lv_at hl 1 rfl) ?_
      obtain ⟨v2, S2, e2, hf⟩ := bd2o hf
      refine m_callV (pc := 223) (As := [.int l6, .int (nI 26), .int l1]) (rest := []) (st1 := []) hc (mX3_is e2) (cwV 3 hts (lw_V q2933 q2935 qs55 q105 q2936) rfl rfl rfl hdX3_is ⟨Nat.le_of_ble_eq_true rfl, Nat.le_of_ble_eq_true rfl⟩) rfl hl.1 rfl rfl (lv_room (Nat.le_of_ble_eq_true rfl)) dX3_queue_223 hP hD hS (fun H locs hP hD hS => ?_)
      refine lv_aload_n (pc := 226) hx hb dX3_queue_226 rfl (lv_at hl 0 rfl) ?_
      refine lv_iload (pc := 227) hx hb dX3_queue_227 (lv_at hl 6 rfl) ?_
      refine lv_bipush (pc := 229) (v := nI 27) hx hb dX3_queue_229 kcb27 ?_
      refine lv_iload_n (pc := 231) hx hb dX3_queue_231 rfl (lv_at hl 2 rfl) ?_
      obtain ⟨v3, S3, e3, hf⟩ := bd2o hf
      refine m_callV (pc := 232) (As := [.int l6, .int (nI 27), .int l2]) (rest := []) (st1 := []) hc (mX3_is e3) (cwV 3 hts (lw_V q2933 q2935 qs55 q105 q2936) rfl rfl rfl hdX3_is ⟨Nat.le_of_ble_eq_true rfl, Nat.le_of_ble_eq_true rfl⟩) rfl hl.1 rfl rfl (lv_room (Nat.le_of_ble_eq_true rfl)) dX3_queue_232 hP hD hS (fun H locs hP hD hS => ?_)
      refine lv_aload_n (pc := 235) hx hb dX3_queue_235 rfl (lv_at hl 0 rfl) ?_
      refine lv_iload (pc := 236) hx hb dX3_queue_236 (lv_at hl 6 rfl) ?_
      refine lv_bipush (pc := 238) (v := nI 28) hx hb dX3_queue_238 kcb28 ?_
      refine lv_iload_n (pc := 240) hx hb dX3_queue_240 rfl (lv_at hl 3 rfl) ?_
      obtain ⟨v4, S4, e4, hf⟩ := bd2o hf
      refine m_callV (pc := 241) (As := [.int l6, .int (nI 28), .int l3]) (rest := []) (st1 := []) hc (mX3_is e4) (cwV 3 hts (lw_V q2933 q2935 qs55 q105 q2936) rfl rfl rfl hdX3_is ⟨Nat.le_of_ble_eq_true rfl, Nat.le_of_ble_eq_true rfl⟩) rfl hl.1 rfl rfl (lv_room (Nat.le_of_ble_eq_true rfl)) dX3_queue_241 hP hD hS (fun H locs hP hD hS => ?_)
      refine lv_aload_n (pc := 244) hx hb dX3_queue_244 rfl (lv_at hl 0 rfl) ?_
      refine lv_iload (pc := 245) hx hb dX3_queue_245 (lv_at hl 6 rfl) ?_
      refine lv_bipush (pc := 247) (v := nI 29) hx hb dX3_queue_247 kcb29 ?_
      refine lv_iload (pc := 249) hx hb dX3_queue_249 (lv_at hl 4 rfl) ?_
      obtain ⟨v5, S5, e5, hf⟩ := bd2o hf
      refine m_callV (pc := 251) (As := [.int l6, .int (nI 29), .int l4]) (rest := []) (st1 := []) hc (mX3_is e5) (cwV 3 hts (lw_V q2933 q2935 qs55 q105 q2936) rfl rfl rfl hdX3_is ⟨Nat.le_of_ble_eq_true rfl, Nat.le_of_ble_eq_true rfl⟩) rfl hl.1 rfl rfl (lv_room (Nat.le_of_ble_eq_true rfl)) dX3_queue_251 hP hD hS (fun H locs hP hD hS => ?_)
      refine lv_aload_n (pc := 254) hx hb dX3_queue_254 rfl (lv_at hl 0 rfl) ?_
      refine lv_iload (pc := 255) hx hb dX3_queue_255 (lv_at hl 6 rfl) ?_
      refine lv_bipush (pc := 257) (v := nI 31) hx hb dX3_queue_257 kcb31 ?_
      refine lv_iconst (pc := 259) (v := -1) hx hb dX3_queue_259 rfl ?_
      obtain ⟨v6, S6, e6, hf⟩ := bd2o hf
      refine m_callV (pc := 260) (As := [.int l6, .int (nI 31), .int (-1)]) (rest := []) (st1 := []) hc (mX3_is e6) (cwV 3 hts (lw_V q2933 q2935 qs55 q105 q2936) rfl rfl rfl hdX3_is ⟨Nat.le_of_ble_eq_true rfl, Nat.le_of_ble_eq_true rfl⟩) rfl hl.1 rfl rfl (lv_room (Nat.le_of_ble_eq_true rfl)) dX3_queue_260 hP hD hS (fun H locs hP hD hS => ?_)
      refine lv_aload_n (pc := 263) hx hb dX3_queue_263 rfl (lv_at hl 0 rfl) ?_
      refine va_get (D := D) (ci := 0) (v := .ref (am 1)) (C := RX3) (T := TX3) (N := 17) (pc := 264) hx hb hts in_X3 hown hK hP 0 rfl rfl 0 (by decide) (hts _ q2839) (fun _ h9 => h9) rfl dX3_queue_264 ?_
      refine lv_iconst (pc := 267) (v := nI 0) hx hb dX3_queue_267 rfl ?_
      refine lv_iload (pc := 268) hx hb dX3_queue_268 (lv_at hl 6 rfl) ?_
      refine lv_iconst (pc := 270) (v := nI 1) hx hb dX3_queue_270 rfl ?_
      refine lv_iadd (pc := 271) hx hb dX3_queue_271 ?_
      obtain ⟨S7, e7, hf⟩ := bdo hf
      refine m_iast (pc := 272) (k := 0) hx hb hK hP hD hS rfl (fun _ _ => rfl) e7 dX3_queue_272 (fun H locs hP hD hS => ?_)
      refine lv_iload (pc := 273) hx hb dX3_queue_273 (lv_at hl 6 rfl) ?_
      exact m_iret (pc := 275) hx hb hr hlk hP hD hS hf dX3_queue_275
    · rw [if_neg c1] at hf
      refine lv_aload_n (pc := 193) hx hb dX3_queue_193 rfl (lv_at hl 0 rfl) ?_
      refine lv_iload (pc := 194) hx hb dX3_queue_194 (lv_at hl 6 rfl) ?_
      refine lv_bipush (pc := 196) (v := nI 6) hx hb dX3_queue_196 kcb6 ?_
      refine lv_iload (pc := 198) hx hb dX3_queue_198 (lv_at hl 7 rfl) ?_
      refine lv_iadd (pc := 200) hx hb dX3_queue_200 ?_
      refine lv_aload_n (pc := 201) hx hb dX3_queue_201 rfl (lv_at hl 0 rfl) ?_
      refine va_get (D := D) (ci := 0) (v := .ref (am 6)) (C := RX3) (T := TX3) (N := 17) (pc := 202) hx hb hts in_X3 hown hK hP 0 rfl rfl 6 (by decide) (hts _ q2845) (fun _ h9 => h9) rfl dX3_queue_202 ?_
      refine lv_iload (pc := 205) hx hb dX3_queue_205 (lv_at hl 7 rfl) ?_
      obtain ⟨v8, e8, hf⟩ := bdo hf
      refine m_iald (pc := 207) (k := 5) hx hb hK hP rfl e8 dX3_queue_207 ?_
      obtain ⟨v9, S9, e9, hf⟩ := bd2o hf
      refine m_callV (pc := 208) (As := [.int l6, .int ((nI 6) + l7), .int v8]) (rest := []) (st1 := []) hc (mX3_is e9) (cwV 3 hts (lw_V q2933 q2935 qs55 q105 q2936) rfl rfl rfl hdX3_is ⟨Nat.le_of_ble_eq_true rfl, Nat.le_of_ble_eq_true rfl⟩) rfl hl.1 rfl rfl (lv_room (Nat.le_of_ble_eq_true rfl)) dX3_queue_208 hP hD hS (fun H locs hP hD hS => ?_)
      refine lv_iinc (pc := 211) (v := l7 + (nI 1)) (lv' := [(7, .int (l7 + (nI 1))), (0, .ref (am 0)), (1, .int l1), (2, .int l2), (3, .int l3), (4, .int l4), (5, .int l5), (6, .int l6)]) hx hb dX3_queue_211 hl (k := 7) rfl rfl (by decide) rfl (fun ls hl => ?_)
      refine lv_goto (pc := 214) (tgt := 186) hx hb dX3_queue_214 (by decide) ?_
      exact ih l1 l2 l3 l4 l5 l6 (l7 + (nI 1)) S9 _ _ ls hP hD hS (lv_sub hl [1, 2, 3, 4, 5, 6, 7, 0] rfl) hf
def fX3_queue_b142 : Nat → Int32 → Int32 → Int32 → Int32 → Int32 → Int32 → Int32 → mS → Option (Int32 × mS)
  | 0, _, _, _, _, _, _, _, _ => none
  | n + 1, l1, l2, l3, l4, l5, l6, l7, S =>
    if (mf S 3) ≤ l7 then
      bd2 (fX3_is l6 (nI 5) l5 S) fun _ S2 =>
      fX3_queue_b186 FU l1 l2 l3 l4 l5 l6 (nI 0) S2
    else
      bd (mrd S 6 4 l7) fun v3 =>
      bd2 (fX3_is l6 ((nI 1) + l7) v3 S) fun _ S4 =>
      fX3_queue_b142 n l1 l2 l3 l4 l5 l6 (l7 + (nI 1)) S4
theorem wX3_queue_b142 (hc : mC p s m args meth c D cI cJ cX3_queue 8 (some .int)) : ∀ (n : Nat) (l1 : Int32) (l2 : Int32) (l3 : Int32) (l4 : Int32) (l5 : Int32) (l6 : Int32) (l7 : Int32) (S : mS) (H : Heap) (locs : List Loc) (ls : Array Slot), va_P D mCl (mws am cI cJ S) H → va_D (mA am) (mws am cI cJ S) → va_S (mA am) s.heap H locs → lv_has ls 8 [(0, .ref (am 0)), (1, .int l1), (2, .int l2), (3, .int l3), (4, .int l4), (5, .int l5), (6, .int l6), (7, .int l7)] → fX3_queue_b142 n l1 l2 l3 l4 l5 l6 l7 S = some (r, Sf) → W p l e (mR 2 49) s m args below meth c H locs 0 0 (mQ below D am cI cJ (some (.int r)) Sf args s) (F0 m 142 ls []) := by
  obtain ⟨hx, hb, hr, hlk, hml, hown, hts, hK⟩ := hc
  have hc : mC p s m args meth c D cI cJ cX3_queue 8 (some .int) := ⟨hx, hb, hr, hlk, hml, hown, hts, hK⟩
  intro n
  induction n with
  | zero => intro l1 l2 l3 l4 l5 l6 l7 S H locs ls _ _ _ _ hf; exact absurd hf (fun h => by cases h)
  | succ n ih =>
    intro l1 l2 l3 l4 l5 l6 l7 S H locs ls hP hD hS hl hf
    rw [fX3_queue_b142] at hf
    refine lv_iload (pc := 142) hx hb dX3_queue_142 (lv_at hl 7 rfl) ?_
    refine lv_aload_n (pc := 144) hx hb dX3_queue_144 rfl (lv_at hl 0 rfl) ?_
    refine va_get (D := D) (ci := 0) (v := .int (mf S 3)) (C := RX3) (T := TX3) (N := 17) (pc := 145) hx hb hts in_X3 hown hK hP 0 rfl rfl 10 (by decide) (hts _ q2849) (fun _ h9 => h9) rfl dX3_queue_145 ?_
    refine lv_icmp_ge (pc := 148) (tgt := 174) hx hb dX3_queue_148 (by decide) (fun c1 => ?_) (fun c1 => ?_)
    · rw [if_pos c1] at hf
      refine lv_aload_n (pc := 174) hx hb dX3_queue_174 rfl (lv_at hl 0 rfl) ?_
      refine lv_iload (pc := 175) hx hb dX3_queue_175 (lv_at hl 6 rfl) ?_
      refine lv_iconst (pc := 177) (v := nI 5) hx hb dX3_queue_177 rfl ?_
      refine lv_iload (pc := 178) hx hb dX3_queue_178 (lv_at hl 5 rfl) ?_
      obtain ⟨v2, S2, e2, hf⟩ := bd2o hf
      refine m_callV (pc := 180) (As := [.int l6, .int (nI 5), .int l5]) (rest := []) (st1 := []) hc (mX3_is e2) (cwV 3 hts (lw_V q2933 q2935 qs55 q105 q2936) rfl rfl rfl hdX3_is ⟨Nat.le_of_ble_eq_true rfl, Nat.le_of_ble_eq_true rfl⟩) rfl hl.1 rfl rfl (lv_room (Nat.le_of_ble_eq_true rfl)) dX3_queue_180 hP hD hS (fun H locs hP hD hS => ?_)
      refine lv_iconst (pc := 183) (v := nI 0) hx hb dX3_queue_183 rfl ?_
      refine lv_istore (pc := 184) (lv' := [(7, .int (nI 0)), (0, .ref (am 0)), (1, .int l1), (2, .int l2), (3, .int l3), (4, .int l4), (5, .int l5), (6, .int l6)]) hx hb dX3_queue_184 hl (by decide) rfl (fun ls hl => ?_)
      exact wX3_queue_b186 hc FU l1 l2 l3 l4 l5 l6 (nI 0) S2 _ _ ls hP hD hS (lv_sub hl [1, 2, 3, 4, 5, 6, 7, 0] rfl) hf
    · rw [if_neg c1] at hf
      refine lv_aload_n (pc := 151) hx hb dX3_queue_151 rfl (lv_at hl 0 rfl) ?_
      refine lv_iload (pc := 152) hx hb dX3_queue_152 (lv_at hl 6 rfl) ?_
      refine lv_iconst (pc := 154) (v := nI 1) hx hb dX3_queue_154 rfl ?_
      refine lv_iload (pc := 155) hx hb dX3_queue_155 (lv_at hl 7 rfl) ?_
      refine lv_iadd (pc := 157) hx hb dX3_queue_157 ?_
      refine lv_aload_n (pc := 158) hx hb dX3_queue_158 rfl (lv_at hl 0 rfl) ?_
      refine va_get (D := D) (ci := 0) (v := .ref (am 7)) (C := RX3) (T := TX3) (N := 17) (pc := 159) hx hb hts in_X3 hown hK hP 0 rfl rfl 9 (by decide) (hts _ q2848) (fun _ h9 => h9) rfl dX3_queue_159 ?_
      refine lv_iload (pc := 162) hx hb dX3_queue_162 (lv_at hl 7 rfl) ?_
      obtain ⟨v3, e3, hf⟩ := bdo hf
      refine m_iald (pc := 164) (k := 6) hx hb hK hP rfl e3 dX3_queue_164 ?_
      obtain ⟨v4, S4, e4, hf⟩ := bd2o hf
      refine m_callV (pc := 165) (As := [.int l6, .int ((nI 1) + l7), .int v3]) (rest := []) (st1 := []) hc (mX3_is e4) (cwV 3 hts (lw_V q2933 q2935 qs55 q105 q2936) rfl rfl rfl hdX3_is ⟨Nat.le_of_ble_eq_true rfl, Nat.le_of_ble_eq_true rfl⟩) rfl hl.1 rfl rfl (lv_room (Nat.le_of_ble_eq_true rfl)) dX3_queue_165 hP hD hS (fun H locs hP hD hS => ?_)
      refine lv_iinc (pc := 168) (v := l7 + (nI 1)) (lv' := [(7, .int (l7 + (nI 1))), (0, .ref (am 0)), (1, .int l1), (2, .int l2), (3, .int l3), (4, .int l4), (5, .int l5), (6, .int l6)]) hx hb dX3_queue_168 hl (k := 7) rfl rfl (by decide) rfl (fun ls hl => ?_)
      refine lv_goto (pc := 171) (tgt := 142) hx hb dX3_queue_171 (by decide) ?_
      exact ih l1 l2 l3 l4 l5 l6 (l7 + (nI 1)) S4 _ _ ls hP hD hS (lv_sub hl [1, 2, 3, 4, 5, 6, 7, 0] rfl) hf
def fX3_queue_b105 : Nat → Int32 → Int32 → Int32 → Int32 → Int32 → Int32 → Int32 → mS → Option (Int32 × mS)
  | 0, _, _, _, _, _, _, _, _ => none
  | n + 1, l1, l2, l3, l4, l5, l6, l7, S =>
    if (nI 556) ≤ l7 then
      bd2 (fX3_is l6 (nI 0) (mf S 3) S) fun _ S2 =>
      fX3_queue_b142 FU l1 l2 l3 l4 l5 l6 (nI 0) S2
    else
      bd2 (fX3_is l6 l7 (nI 0) S) fun _ S3 =>
      fX3_queue_b105 n l1 l2 l3 l4 l5 l6 (l7 + (nI 1)) S3
theorem wX3_queue_b105 (hc : mC p s m args meth c D cI cJ cX3_queue 8 (some .int)) : ∀ (n : Nat) (l1 : Int32) (l2 : Int32) (l3 : Int32) (l4 : Int32) (l5 : Int32) (l6 : Int32) (l7 : Int32) (S : mS) (H : Heap) (locs : List Loc) (ls : Array Slot), va_P D mCl (mws am cI cJ S) H → va_D (mA am) (mws am cI cJ S) → va_S (mA am) s.heap H locs → lv_has ls 8 [(0, .ref (am 0)), (1, .int l1), (2, .int l2), (3, .int l3), (4, .int l4), (5, .int l5), (6, .int l6), (7, .int l7)] → fX3_queue_b105 n l1 l2 l3 l4 l5 l6 l7 S = some (r, Sf) → W p l e (mR 2 49) s m args below meth c H locs 0 0 (mQ below D am cI cJ (some (.int r)) Sf args s) (F0 m 105 ls []) := by
  obtain ⟨hx, hb, hr, hlk, hml, hown, hts, hK⟩ := hc
  have hc : mC p s m args meth c D cI cJ cX3_queue 8 (some .int) := ⟨hx, hb, hr, hlk, hml, hown, hts, hK⟩
  intro n
  induction n with
  | zero => intro l1 l2 l3 l4 l5 l6 l7 S H locs ls _ _ _ _ hf; exact absurd hf (fun h => by cases h)
  | succ n ih =>
    intro l1 l2 l3 l4 l5 l6 l7 S H locs ls hP hD hS hl hf
    rw [fX3_queue_b105] at hf
    refine lv_iload (pc := 105) hx hb dX3_queue_105 (lv_at hl 7 rfl) ?_
    refine lv_sipush (pc := 107) (v := nI 556) hx hb dX3_queue_107 kcs556 ?_
    refine lv_icmp_ge (pc := 110) (tgt := 128) hx hb dX3_queue_110 (by decide) (fun c1 => ?_) (fun c1 => ?_)
    · rw [if_pos c1] at hf
      refine lv_aload_n (pc := 128) hx hb dX3_queue_128 rfl (lv_at hl 0 rfl) ?_
      refine lv_iload (pc := 129) hx hb dX3_queue_129 (lv_at hl 6 rfl) ?_
      refine lv_iconst (pc := 131) (v := nI 0) hx hb dX3_queue_131 rfl ?_
      refine lv_aload_n (pc := 132) hx hb dX3_queue_132 rfl (lv_at hl 0 rfl) ?_
      refine va_get (D := D) (ci := 0) (v := .int (mf S 3)) (C := RX3) (T := TX3) (N := 17) (pc := 133) hx hb hts in_X3 hown hK hP 0 rfl rfl 10 (by decide) (hts _ q2849) (fun _ h9 => h9) rfl dX3_queue_133 ?_
      obtain ⟨v2, S2, e2, hf⟩ := bd2o hf
      refine m_callV (pc := 136) (As := [.int l6, .int (nI 0), .int (mf S 3)]) (rest := []) (st1 := []) hc (mX3_is e2) (cwV 3 hts (lw_V q2933 q2935 qs55 q105 q2936) rfl rfl rfl hdX3_is ⟨Nat.le_of_ble_eq_true rfl, Nat.le_of_ble_eq_true rfl⟩) rfl hl.1 rfl rfl (lv_room (Nat.le_of_ble_eq_true rfl)) dX3_queue_136 hP hD hS (fun H locs hP hD hS => ?_)
      refine lv_iconst (pc := 139) (v := nI 0) hx hb dX3_queue_139 rfl ?_
      refine lv_istore (pc := 140) (lv' := [(7, .int (nI 0)), (0, .ref (am 0)), (1, .int l1), (2, .int l2), (3, .int l3), (4, .int l4), (5, .int l5), (6, .int l6)]) hx hb dX3_queue_140 hl (by decide) rfl (fun ls hl => ?_)
      exact wX3_queue_b142 hc FU l1 l2 l3 l4 l5 l6 (nI 0) S2 _ _ ls hP hD hS (lv_sub hl [1, 2, 3, 4, 5, 6, 7, 0] rfl) hf
    · rw [if_neg c1] at hf
      refine lv_aload_n (pc := 113) hx hb dX3_queue_113 rfl (lv_at hl 0 rfl) ?_
      refine lv_iload (pc := 114) hx hb dX3_queue_114 (lv_at hl 6 rfl) ?_
      refine lv_iload (pc := 116) hx hb dX3_queue_116 (lv_at hl 7 rfl) ?_
      refine lv_iconst (pc := 118) (v := nI 0) hx hb dX3_queue_118 rfl ?_
      obtain ⟨v3, S3, e3, hf⟩ := bd2o hf
      refine m_callV (pc := 119) (As := [.int l6, .int l7, .int (nI 0)]) (rest := []) (st1 := []) hc (mX3_is e3) (cwV 3 hts (lw_V q2933 q2935 qs55 q105 q2936) rfl rfl rfl hdX3_is ⟨Nat.le_of_ble_eq_true rfl, Nat.le_of_ble_eq_true rfl⟩) rfl hl.1 rfl rfl (lv_room (Nat.le_of_ble_eq_true rfl)) dX3_queue_119 hP hD hS (fun H locs hP hD hS => ?_)
      refine lv_iinc (pc := 122) (v := l7 + (nI 1)) (lv' := [(7, .int (l7 + (nI 1))), (0, .ref (am 0)), (1, .int l1), (2, .int l2), (3, .int l3), (4, .int l4), (5, .int l5), (6, .int l6)]) hx hb dX3_queue_122 hl (k := 7) rfl rfl (by decide) rfl (fun ls hl => ?_)
      refine lv_goto (pc := 125) (tgt := 105) hx hb dX3_queue_125 (by decide) ?_
      exact ih l1 l2 l3 l4 l5 l6 (l7 + (nI 1)) S3 _ _ ls hP hD hS (lv_sub hl [1, 2, 3, 4, 5, 6, 7, 0] rfl) hf
def fX3_queue (l1 : Int32) (l2 : Int32) (l3 : Int32) (l4 : Int32) (S : mS) : Option (Int32 × mS) :=
  bd2 (fX3_in l1.toInt64 (lN 1) (lN 20) S) fun v1 S1 =>
  if v1 = 0 then
    fX3_queue_b49  S1
  else
    bd2 (fX3_in l2.toInt64 (lN 1) (lN 5) S1) fun v3 S3 =>
    if v3 = 0 then
      fX3_queue_b49  S3
    else
      bd2 (fX3_in l3.toInt64 (lN 1) (lN 99) S3) fun v5 S5 =>
      if v5 = 0 then
        fX3_queue_b49  S5
      else
        bd2 (fX3_in l4.toInt64 (lN 0) (lN 999) S5) fun v7 S7 =>
        if v7 = 0 then
          fX3_queue_b49  S7
        else
          bd2 (fX3_isRead (nI 1) S7) fun v9 S9 =>
          if v9 = 0 then
            bd2 (fX3_faulty  S9) fun v15 S15 =>
            some (v15, S15)
          else
            bd (ms S9 1 (nI 0)) fun S11 =>
            bd (mrd S11 0 7919 (nI 0)) fun v12 =>
            if v12 = (nI 8) then
              bd2 (fX3_refused (-86) S11) fun v14 S14 =>
              some (v14, S14)
            else
              fX3_queue_b105 FU l1 l2 l3 l4 (mf S9 1) v12 (nI 0) S11
theorem wX3_queue_b0 (hc : mC p s m args meth c D cI cJ cX3_queue 8 (some .int)) (l1 : Int32) (l2 : Int32) (l3 : Int32) (l4 : Int32) (S : mS) (H : Heap) (locs : List Loc) (ls : Array Slot) (hP : va_P D mCl (mws am cI cJ S) H) (hD : va_D (mA am) (mws am cI cJ S)) (hS : va_S (mA am) s.heap H locs) (hl : lv_has ls 8 [(0, .ref (am 0)), (1, .int l1), (2, .int l2), (3, .int l3), (4, .int l4)]) (hf : fX3_queue l1 l2 l3 l4 S = some (r, Sf)) : W p l e (mR 2 49) s m args below meth c H locs 0 0 (mQ below D am cI cJ (some (.int r)) Sf args s) (F0 m 0 ls []) := by
  obtain ⟨hx, hb, hr, hlk, hml, hown, hts, hK⟩ := hc
  have hc : mC p s m args meth c D cI cJ cX3_queue 8 (some .int) := ⟨hx, hb, hr, hlk, hml, hown, hts, hK⟩
  unfold fX3_queue at hf
  refine lv_iload_n (pc := 0) hx hb dX3_queue_0 rfl (lv_at hl 1 rfl) ?_
  refine lv_i2l (pc := 1) hx hb dX3_queue_1 rfl ?_
  refine lv_lconst (pc := 2) (v := lN 1) hx hb dX3_queue_2 rfl ?_
  refine lv_ldc2 (pc := 3) (v := lN 20) hx hb hown (hts _ q2929) dX3_queue_3 ?_
  obtain ⟨v1, S1, e1, hf⟩ := bd2o hf
  refine m_callS (pc := 6) (As := [.long l1.toInt64, .long (lN 1), .long (lN 20)]) (rest := []) (st1 := [.int v1]) hc (mX3_in e1) (va_cwS 3 hts (lw_S q2896 q2897 q105 q2898) rfl rfl rfl hdX3_in ⟨Nat.le_of_ble_eq_true rfl, Nat.le_of_ble_eq_true rfl⟩) rfl hl.1 rfl rfl (lv_room (Nat.le_of_ble_eq_true rfl)) dX3_queue_6 hP hD hS (fun H locs hP hD hS => ?_)
  refine lv_if_eq (pc := 9) (tgt := 49) hx hb dX3_queue_9 (by decide) (fun c2 => ?_) (fun c2 => ?_)
  · rw [if_pos c2] at hf
    exact wX3_queue_b49 hc  S1 _ _ ls hP hD hS (lv_sub hl [0] rfl) hf
  · rw [if_neg c2] at hf
    refine lv_iload_n (pc := 12) hx hb dX3_queue_12 rfl (lv_at hl 2 rfl) ?_
    refine lv_i2l (pc := 13) hx hb dX3_queue_13 rfl ?_
    refine lv_lconst (pc := 14) (v := lN 1) hx hb dX3_queue_14 rfl ?_
    refine lv_ldc2 (pc := 15) (v := lN 5) hx hb hown (hts _ q2930) dX3_queue_15 ?_
    obtain ⟨v3, S3, e3, hf⟩ := bd2o hf
    refine m_callS (pc := 18) (As := [.long l2.toInt64, .long (lN 1), .long (lN 5)]) (rest := []) (st1 := [.int v3]) hc (mX3_in e3) (va_cwS 3 hts (lw_S q2896 q2897 q105 q2898) rfl rfl rfl hdX3_in ⟨Nat.le_of_ble_eq_true rfl, Nat.le_of_ble_eq_true rfl⟩) rfl hl.1 rfl rfl (lv_room (Nat.le_of_ble_eq_true rfl)) dX3_queue_18 hP hD hS (fun H locs hP hD hS => ?_)
    refine lv_if_eq (pc := 21) (tgt := 49) hx hb dX3_queue_21 (by decide) (fun c4 => ?_) (fun c4 => ?_)
    · rw [if_pos c4] at hf
      exact wX3_queue_b49 hc  S3 _ _ ls hP hD hS (lv_sub hl [0] rfl) hf
    · rw [if_neg c4] at hf
      refine lv_iload_n (pc := 24) hx hb dX3_queue_24 rfl (lv_at hl 3 rfl) ?_
      refine lv_i2l (pc := 25) hx hb dX3_queue_25 rfl ?_
      refine lv_lconst (pc := 26) (v := lN 1) hx hb dX3_queue_26 rfl ?_
      refine lv_ldc2 (pc := 27) (v := lN 99) hx hb hown (hts _ q2931) dX3_queue_27 ?_
      obtain ⟨v5, S5, e5, hf⟩ := bd2o hf
      refine m_callS (pc := 30) (As := [.long l3.toInt64, .long (lN 1), .long (lN 99)]) (rest := []) (st1 := [.int v5]) hc (mX3_in e5) (va_cwS 3 hts (lw_S q2896 q2897 q105 q2898) rfl rfl rfl hdX3_in ⟨Nat.le_of_ble_eq_true rfl, Nat.le_of_ble_eq_true rfl⟩) rfl hl.1 rfl rfl (lv_room (Nat.le_of_ble_eq_true rfl)) dX3_queue_30 hP hD hS (fun H locs hP hD hS => ?_)
      refine lv_if_eq (pc := 33) (tgt := 49) hx hb dX3_queue_33 (by decide) (fun c6 => ?_) (fun c6 => ?_)
      · rw [if_pos c6] at hf
        exact wX3_queue_b49 hc  S5 _ _ ls hP hD hS (lv_sub hl [0] rfl) hf
      · rw [if_neg c6] at hf
        refine lv_iload (pc := 36) hx hb dX3_queue_36 (lv_at hl 4 rfl) ?_
        refine lv_i2l (pc := 38) hx hb dX3_queue_38 rfl ?_
        refine lv_lconst (pc := 39) (v := lN 0) hx hb dX3_queue_39 rfl ?_
        refine lv_ldc2 (pc := 40) (v := lN 999) hx hb hown (hts _ q2932) dX3_queue_40 ?_
        obtain ⟨v7, S7, e7, hf⟩ := bd2o hf
        refine m_callS (pc := 43) (As := [.long l4.toInt64, .long (lN 0), .long (lN 999)]) (rest := []) (st1 := [.int v7]) hc (mX3_in e7) (va_cwS 3 hts (lw_S q2896 q2897 q105 q2898) rfl rfl rfl hdX3_in ⟨Nat.le_of_ble_eq_true rfl, Nat.le_of_ble_eq_true rfl⟩) rfl hl.1 rfl rfl (lv_room (Nat.le_of_ble_eq_true rfl)) dX3_queue_43 hP hD hS (fun H locs hP hD hS => ?_)
        refine lv_if_ne (pc := 46) (tgt := 56) hx hb dX3_queue_46 (by decide) (fun c8 => ?_) (fun c8 => ?_)
        · rw [if_neg c8] at hf
          refine lv_aload_n (pc := 56) hx hb dX3_queue_56 rfl (lv_at hl 0 rfl) ?_
          refine lv_iconst (pc := 57) (v := nI 1) hx hb dX3_queue_57 rfl ?_
          obtain ⟨v9, S9, e9, hf⟩ := bd2o hf
          refine m_callV (pc := 58) (As := [.int (nI 1)]) (rest := []) (st1 := [.int v9]) hc (mX3_isRead e9) (cwV 1 hts (lw_V q2911 q2913 qs52 q105 q2914) rfl rfl rfl hdX3_isRead ⟨Nat.le_of_ble_eq_true rfl, Nat.le_of_ble_eq_true rfl⟩) rfl hl.1 rfl rfl (lv_room (Nat.le_of_ble_eq_true rfl)) dX3_queue_58 hP hD hS (fun H locs hP hD hS => ?_)
          refine lv_if_ne (pc := 61) (tgt := 69) hx hb dX3_queue_61 (by decide) (fun c10 => ?_) (fun c10 => ?_)
          · rw [if_neg c10] at hf
            refine lv_aload_n (pc := 69) hx hb dX3_queue_69 rfl (lv_at hl 0 rfl) ?_
            refine va_get (D := D) (ci := 0) (v := .int (mf S9 1)) (C := RX3) (T := TX3) (N := 17) (pc := 70) hx hb hts in_X3 hown hK hP 0 rfl rfl 7 (by decide) (hts _ q2846) (fun _ h9 => h9) rfl dX3_queue_70 ?_
            refine lv_istore (pc := 73) (lv' := [(5, .int (mf S9 1)), (0, .ref (am 0)), (1, .int l1), (2, .int l2), (3, .int l3), (4, .int l4)]) hx hb dX3_queue_73 hl (by decide) rfl (fun ls hl => ?_)
            refine lv_aload_n (pc := 75) hx hb dX3_queue_75 rfl (lv_at hl 1 rfl) ?_
            refine lv_iconst (pc := 76) (v := nI 0) hx hb dX3_queue_76 rfl ?_
            obtain ⟨S11, e11, hf⟩ := bdo hf
            refine m_put (pc := 77) (j := 7) (js := 1) hx hb hts hown hK hP hD hS (by decide) rfl rfl (hts _ q2846) rfl rfl e11 dX3_queue_77 (fun H locs hP hD hS => ?_)
            refine lv_aload_n (pc := 80) hx hb dX3_queue_80 rfl (lv_at hl 1 rfl) ?_
            refine va_get (D := D) (ci := 0) (v := .ref (am 1)) (C := RX3) (T := TX3) (N := 17) (pc := 81) hx hb hts in_X3 hown hK hP 0 rfl rfl 0 (by decide) (hts _ q2839) (fun _ h9 => h9) rfl dX3_queue_81 ?_
            refine lv_iconst (pc := 84) (v := nI 0) hx hb dX3_queue_84 rfl ?_
            obtain ⟨v12, e12, hf⟩ := bdo hf
            refine m_iald (pc := 85) (k := 0) hx hb hK hP rfl e12 dX3_queue_85 ?_
            refine lv_istore (pc := 86) (lv' := [(6, .int v12), (5, .int (mf S9 1)), (0, .ref (am 0)), (1, .int l1), (2, .int l2), (3, .int l3), (4, .int l4)]) hx hb dX3_queue_86 hl (by decide) rfl (fun ls hl => ?_)
            refine lv_iload (pc := 88) hx hb dX3_queue_88 (lv_at hl 0 rfl) ?_
            refine lv_bipush (pc := 90) (v := nI 8) hx hb dX3_queue_90 kcb8 ?_
            refine lv_icmp_ne (pc := 92) (tgt := 102) hx hb dX3_queue_92 (by decide) (fun c13 => ?_) (fun c13 => ?_)
            · rw [if_neg c13] at hf
              refine lv_iconst (pc := 102) (v := nI 0) hx hb dX3_queue_102 rfl ?_
              refine lv_istore (pc := 103) (lv' := [(7, .int (nI 0)), (6, .int v12), (5, .int (mf S9 1)), (0, .ref (am 0)), (1, .int l1), (2, .int l2), (3, .int l3), (4, .int l4)]) hx hb dX3_queue_103 hl (by decide) rfl (fun ls hl => ?_)
              exact wX3_queue_b105 hc FU l1 l2 l3 l4 (mf S9 1) v12 (nI 0) S11 _ _ ls hP hD hS (lv_sub hl [3, 4, 5, 6, 7, 2, 1, 0] rfl) hf
            · rw [if_pos c13] at hf
              refine lv_aload_n (pc := 95) hx hb dX3_queue_95 rfl (lv_at hl 2 rfl) ?_
              refine lv_bipush (pc := 96) (v := -86) hx hb dX3_queue_96 kcbm86 ?_
              obtain ⟨v14, S14, e14, hf⟩ := bd2o hf
              refine m_callV (pc := 98) (As := [.int (-86)]) (rest := []) (st1 := [.int v14]) hc (mX3_refused e14) (cwV 1 hts (lw_V q2899 q2901 qs51 q105 q2902) rfl rfl rfl hdX3_refused ⟨Nat.le_of_ble_eq_true rfl, Nat.le_of_ble_eq_true rfl⟩) rfl hl.1 rfl rfl (lv_room (Nat.le_of_ble_eq_true rfl)) dX3_queue_98 hP hD hS (fun H locs hP hD hS => ?_)
              exact m_iret (pc := 101) hx hb hr hlk hP hD hS hf dX3_queue_101
          · rw [if_pos c10] at hf
            refine lv_aload_n (pc := 64) hx hb dX3_queue_64 rfl (lv_at hl 0 rfl) ?_
            obtain ⟨v15, S15, e15, hf⟩ := bd2o hf
            refine m_callV (pc := 65) (As := []) (rest := []) (st1 := [.int v15]) hc (mX3_faulty e15) (cwV 0 hts (lw_V q2921 q2923 qs54 q105 q2924) rfl rfl rfl hdX3_faulty ⟨Nat.le_of_ble_eq_true rfl, Nat.le_of_ble_eq_true rfl⟩) rfl hl.1 rfl rfl (lv_room (Nat.le_of_ble_eq_true rfl)) dX3_queue_65 hP hD hS (fun H locs hP hD hS => ?_)
            exact m_iret (pc := 68) hx hb hr hlk hP hD hS hf dX3_queue_68
        · rw [if_pos c8] at hf
          exact wX3_queue_b49 hc  S7 _ _ ls hP hD hS (lv_sub hl [0] rfl) hf
theorem mX3_queue {S S2 : mS} {r2 : Int32} {l1 : Int32} {l2 : Int32} {l3 : Int32} {l4 : Int32} (hf : fX3_queue l1 l2 l3 l4 S = some (r2, S2)) : mMet l yX3_queue cX3_queue 8 (some .int) 2 49 D am cI cJ [.ref (am 0), .int l1, .int l2, .int l3, .int l4] S (some (.int r2)) S2 := by
  exact m_start (by decide) rfl (Nat.le_of_ble_eq_true rfl) (fun p e s m args below meth c ls hc hl hP hD => wX3_queue_b0 hc l1 l2 l3 l4 S _ _ ls hP hD va_S.rf (lv_sub hl [0, 1, 2, 3, 4] rfl) hf)
end
section
variable {r : Int32} {Sf : mS}
def fX3_isQueue (l1 : Int32) (S : mS) : Option (Int32 × mS) :=
  bd (mrd S 0 7919 (nI 0)) fun v1 =>
  bd2 (fX3_in l1.toInt64 (lN 0) ((v1 - (nI 1)).toInt64) S) fun v2 S2 =>
  zr v2 S2
theorem wX3_isQueue_b0 (hc : mC p s m args meth c D cI cJ cX3_isQueue 2 (some .boolean)) (l1 : Int32) (S : mS) (H : Heap) (locs : List Loc) (ls : Array Slot) (hP : va_P D mCl (mws am cI cJ S) H) (hD : va_D (mA am) (mws am cI cJ S)) (hS : va_S (mA am) s.heap H locs) (hl : lv_has ls 2 [(0, .ref (am 0)), (1, .int l1)]) (hf : fX3_isQueue l1 S = some (r, Sf)) : W p l e (mR 1 25) s m args below meth c H locs 0 0 (mQ below D am cI cJ (some (.int r)) Sf args s) (F0 m 0 ls []) := by
  obtain ⟨hx, hb, hr, hlk, hml, hown, hts, hK⟩ := hc
  have hc : mC p s m args meth c D cI cJ cX3_isQueue 2 (some .boolean) := ⟨hx, hb, hr, hlk, hml, hown, hts, hK⟩
  unfold fX3_isQueue at hf
  refine lv_iload_n (pc := 0) hx hb dX3_isQueue_0 rfl (lv_at hl 1 rfl) ?_
  refine lv_i2l (pc := 1) hx hb dX3_isQueue_1 rfl ?_
  refine lv_lconst (pc := 2) (v := lN 0) hx hb dX3_isQueue_2 rfl ?_
  refine lv_aload_n (pc := 3) hx hb dX3_isQueue_3 rfl (lv_at hl 0 rfl) ?_
  refine va_get (D := D) (ci := 0) (v := .ref (am 1)) (C := RX3) (T := TX3) (N := 17) (pc := 4) hx hb hts in_X3 hown hK hP 0 rfl rfl 0 (by decide) (hts _ q2839) (fun _ h9 => h9) rfl dX3_isQueue_4 ?_
  refine lv_iconst (pc := 7) (v := nI 0) hx hb dX3_isQueue_7 rfl ?_
  obtain ⟨v1, e1, hf⟩ := bdo hf
  refine m_iald (pc := 8) (k := 0) hx hb hK hP rfl e1 dX3_isQueue_8 ?_
  refine lv_iconst (pc := 9) (v := nI 1) hx hb dX3_isQueue_9 rfl ?_
  refine lv_isub (pc := 10) hx hb dX3_isQueue_10 ?_
  refine lv_i2l (pc := 11) hx hb dX3_isQueue_11 rfl ?_
  obtain ⟨v2, S2, e2, hf⟩ := bd2o hf
  refine m_callS (pc := 12) (As := [.long l1.toInt64, .long (lN 0), .long ((v1 - (nI 1)).toInt64)]) (rest := []) (st1 := [.int v2]) hc (mX3_in e2) (va_cwS 3 hts (lw_S q2896 q2897 q105 q2898) rfl rfl rfl hdX3_in ⟨Nat.le_of_ble_eq_true rfl, Nat.le_of_ble_eq_true rfl⟩) rfl hl.1 rfl rfl (lv_room (Nat.le_of_ble_eq_true rfl)) dX3_isQueue_12 hP hD hS (fun H locs hP hD hS => ?_)
  exact m_zret (pc := 15) hx hb hr hlk hP hD hS hf dX3_isQueue_15
theorem mX3_isQueue {S S2 : mS} {r2 : Int32} {l1 : Int32} (hf : fX3_isQueue l1 S = some (r2, S2)) : mMet l yX3_isQueue cX3_isQueue 2 (some .boolean) 1 25 D am cI cJ [.ref (am 0), .int l1] S (some (.int r2)) S2 := by
  exact m_start (by decide) rfl (Nat.le_of_ble_eq_true rfl) (fun p e s m args below meth c ls hc hl hP hD => wX3_isQueue_b0 hc l1 S _ _ ls hP hD va_S.rf (lv_sub hl [0, 1] rfl) hf)
end
section
variable {r : Int32} {Sf : mS}
def fX3_of (l1 : Int32) (l2 : Int32) (S : mS) : Option (Int32 × mS) :=
  bd (mrd S 0 7919 (((nI 3471) + ((nI 556) * l1)) + l2)) fun v1 =>
  some (v1, S)
theorem wX3_of_b0 (hc : mC p s m args meth c D cI cJ cX3_of 3 (some .int)) (l1 : Int32) (l2 : Int32) (S : mS) (H : Heap) (locs : List Loc) (ls : Array Slot) (hP : va_P D mCl (mws am cI cJ S) H) (hD : va_D (mA am) (mws am cI cJ S)) (hS : va_S (mA am) s.heap H locs) (hl : lv_has ls 3 [(0, .ref (am 0)), (1, .int l1), (2, .int l2)]) (hf : fX3_of l1 l2 S = some (r, Sf)) : W p l e (mR 0 0) s m args below meth c H locs 0 0 (mQ below D am cI cJ (some (.int r)) Sf args s) (F0 m 0 ls []) := by
  obtain ⟨hx, hb, hr, hlk, hml, hown, hts, hK⟩ := hc
  have hc : mC p s m args meth c D cI cJ cX3_of 3 (some .int) := ⟨hx, hb, hr, hlk, hml, hown, hts, hK⟩
  unfold fX3_of at hf
  refine lv_aload_n (pc := 0) hx hb dX3_of_0 rfl (lv_at hl 0 rfl) ?_
  refine va_get (D := D) (ci := 0) (v := .ref (am 1)) (C := RX3) (T := TX3) (N := 17) (pc := 1) hx hb hts in_X3 hown hK hP 0 rfl rfl 0 (by decide) (hts _ q2839) (fun _ h9 => h9) rfl dX3_of_1 ?_
  refine lv_sipush (pc := 4) (v := nI 3471) hx hb dX3_of_4 kcs3471 ?_
  refine lv_sipush (pc := 7) (v := nI 556) hx hb dX3_of_7 kcs556 ?_
  refine lv_iload_n (pc := 10) hx hb dX3_of_10 rfl (lv_at hl 1 rfl) ?_
  refine lv_imul (pc := 11) hx hb dX3_of_11 ?_
  refine lv_iadd (pc := 12) hx hb dX3_of_12 ?_
  refine lv_iload_n (pc := 13) hx hb dX3_of_13 rfl (lv_at hl 2 rfl) ?_
  refine lv_iadd (pc := 14) hx hb dX3_of_14 ?_
  obtain ⟨v1, e1, hf⟩ := bdo hf
  refine m_iald (pc := 15) (k := 0) hx hb hK hP rfl e1 dX3_of_15 ?_
  exact m_iret (pc := 16) hx hb hr hlk hP hD hS hf dX3_of_16
theorem mX3_of {S S2 : mS} {r2 : Int32} {l1 : Int32} {l2 : Int32} (hf : fX3_of l1 l2 S = some (r2, S2)) : mMet l yX3_of cX3_of 3 (some .int) 0 0 D am cI cJ [.ref (am 0), .int l1, .int l2] S (some (.int r2)) S2 := by
  exact m_start (by decide) rfl (Nat.le_of_ble_eq_true rfl) (fun p e s m args below meth c ls hc hl hP hD => wX3_of_b0 hc l1 l2 S _ _ ls hP hD va_S.rf (lv_sub hl [0, 1, 2] rfl) hf)
end
section
variable {r : Int32} {Sf : mS}
def fX3_exclusive_b18 (S : mS) : Option (Int32 × mS) :=
  bd2 (fX3_refused (-82) S) fun v1 S1 =>
  some (v1, S1)
theorem wX3_exclusive_b18 (hc : mC p s m args meth c D cI cJ cX3_exclusive 4 (some .int)) (S : mS) (H : Heap) (locs : List Loc) (ls : Array Slot) (hP : va_P D mCl (mws am cI cJ S) H) (hD : va_D (mA am) (mws am cI cJ S)) (hS : va_S (mA am) s.heap H locs) (hl : lv_has ls 4 [(0, .ref (am 0))]) (hf : fX3_exclusive_b18  S = some (r, Sf)) : W p l e (mR 2 46) s m args below meth c H locs 0 0 (mQ below D am cI cJ (some (.int r)) Sf args s) (F0 m 18 ls []) := by
  obtain ⟨hx, hb, hr, hlk, hml, hown, hts, hK⟩ := hc
  have hc : mC p s m args meth c D cI cJ cX3_exclusive 4 (some .int) := ⟨hx, hb, hr, hlk, hml, hown, hts, hK⟩
  unfold fX3_exclusive_b18 at hf
  refine lv_aload_n (pc := 18) hx hb dX3_exclusive_18 rfl (lv_at hl 0 rfl) ?_
  refine lv_bipush (pc := 19) (v := -82) hx hb dX3_exclusive_19 kcbm82 ?_
  obtain ⟨v1, S1, e1, hf⟩ := bd2o hf
  refine m_callV (pc := 21) (As := [.int (-82)]) (rest := []) (st1 := [.int v1]) hc (mX3_refused e1) (cwV 1 hts (lw_V q2899 q2901 qs51 q105 q2902) rfl rfl rfl hdX3_refused ⟨Nat.le_of_ble_eq_true rfl, Nat.le_of_ble_eq_true rfl⟩) rfl hl.1 rfl rfl (lv_room (Nat.le_of_ble_eq_true rfl)) dX3_exclusive_21 hP hD hS (fun H locs hP hD hS => ?_)
  exact m_iret (pc := 24) hx hb hr hlk hP hD hS hf dX3_exclusive_24
def fX3_exclusive (l1 : Int32) (l2 : Int32) (S : mS) : Option (Int32 × mS) :=
  bd2 (fX3_isQueue l1 S) fun v1 S1 =>
  if v1 = 0 then
    fX3_exclusive_b18  S1
  else
    bd2 (fX3_in l2.toInt64 (lN 0) (lN 1) S1) fun v3 S3 =>
    if v3 = 0 then
      fX3_exclusive_b18  S3
    else
      bd2 (fX3_of l1 (nI 30) S3) fun v5 S5 =>
      bd2 (fX3_is l1 (nI 30) l2 S5) fun _ S6 =>
      some (v5, S6)
theorem wX3_exclusive_b0 (hc : mC p s m args meth c D cI cJ cX3_exclusive 4 (some .int)) (l1 : Int32) (l2 : Int32) (S : mS) (H : Heap) (locs : List Loc) (ls : Array Slot) (hP : va_P D mCl (mws am cI cJ S) H) (hD : va_D (mA am) (mws am cI cJ S)) (hS : va_S (mA am) s.heap H locs) (hl : lv_has ls 4 [(0, .ref (am 0)), (1, .int l1), (2, .int l2)]) (hf : fX3_exclusive l1 l2 S = some (r, Sf)) : W p l e (mR 2 46) s m args below meth c H locs 0 0 (mQ below D am cI cJ (some (.int r)) Sf args s) (F0 m 0 ls []) := by
  obtain ⟨hx, hb, hr, hlk, hml, hown, hts, hK⟩ := hc
  have hc : mC p s m args meth c D cI cJ cX3_exclusive 4 (some .int) := ⟨hx, hb, hr, hlk, hml, hown, hts, hK⟩
  unfold fX3_exclusive at hf
  refine lv_aload_n (pc := 0) hx hb dX3_exclusive_0 rfl (lv_at hl 0 rfl) ?_
  refine lv_iload_n (pc := 1) hx hb dX3_exclusive_1 rfl (lv_at hl 1 rfl) ?_
  obtain ⟨v1, S1, e1, hf⟩ := bd2o hf
  refine m_callV (pc := 2) (As := [.int l1]) (rest := []) (st1 := [.int v1]) hc (mX3_isQueue e1) (cwV 1 hts (lw_V q2961 q2963 qs60 q105 q2964) rfl rfl rfl hdX3_isQueue ⟨Nat.le_of_ble_eq_true rfl, Nat.le_of_ble_eq_true rfl⟩) rfl hl.1 rfl rfl (lv_room (Nat.le_of_ble_eq_true rfl)) dX3_exclusive_2 hP hD hS (fun H locs hP hD hS => ?_)
  refine lv_if_eq (pc := 5) (tgt := 18) hx hb dX3_exclusive_5 (by decide) (fun c2 => ?_) (fun c2 => ?_)
  · rw [if_pos c2] at hf
    exact wX3_exclusive_b18 hc  S1 _ _ ls hP hD hS (lv_sub hl [0] rfl) hf
  · rw [if_neg c2] at hf
    refine lv_iload_n (pc := 8) hx hb dX3_exclusive_8 rfl (lv_at hl 2 rfl) ?_
    refine lv_i2l (pc := 9) hx hb dX3_exclusive_9 rfl ?_
    refine lv_lconst (pc := 10) (v := lN 0) hx hb dX3_exclusive_10 rfl ?_
    refine lv_lconst (pc := 11) (v := lN 1) hx hb dX3_exclusive_11 rfl ?_
    obtain ⟨v3, S3, e3, hf⟩ := bd2o hf
    refine m_callS (pc := 12) (As := [.long l2.toInt64, .long (lN 0), .long (lN 1)]) (rest := []) (st1 := [.int v3]) hc (mX3_in e3) (va_cwS 3 hts (lw_S q2896 q2897 q105 q2898) rfl rfl rfl hdX3_in ⟨Nat.le_of_ble_eq_true rfl, Nat.le_of_ble_eq_true rfl⟩) rfl hl.1 rfl rfl (lv_room (Nat.le_of_ble_eq_true rfl)) dX3_exclusive_12 hP hD hS (fun H locs hP hD hS => ?_)
    refine lv_if_ne (pc := 15) (tgt := 25) hx hb dX3_exclusive_15 (by decide) (fun c4 => ?_) (fun c4 => ?_)
    · rw [if_neg c4] at hf
      refine lv_aload_n (pc := 25) hx hb dX3_exclusive_25 rfl (lv_at hl 0 rfl) ?_
      refine lv_iload_n (pc := 26) hx hb dX3_exclusive_26 rfl (lv_at hl 1 rfl) ?_
      refine lv_bipush (pc := 27) (v := nI 30) hx hb dX3_exclusive_27 kcb30 ?_
      obtain ⟨v5, S5, e5, hf⟩ := bd2o hf
      refine m_callV (pc := 29) (As := [.int l1, .int (nI 30)]) (rest := []) (st1 := [.int v5]) hc (mX3_of e5) (cwV 2 hts (lw_V q2949 q2951 qs58 q105 q2952) rfl rfl rfl hdX3_of ⟨Nat.le_of_ble_eq_true rfl, Nat.le_of_ble_eq_true rfl⟩) rfl hl.1 rfl rfl (lv_room (Nat.le_of_ble_eq_true rfl)) dX3_exclusive_29 hP hD hS (fun H locs hP hD hS => ?_)
      refine lv_istore_n (pc := 32) (lv' := [(3, .int v5), (0, .ref (am 0)), (1, .int l1), (2, .int l2)]) hx hb dX3_exclusive_32 rfl hl (by decide) rfl (fun ls hl => ?_)
      refine lv_aload_n (pc := 33) hx hb dX3_exclusive_33 rfl (lv_at hl 1 rfl) ?_
      refine lv_iload_n (pc := 34) hx hb dX3_exclusive_34 rfl (lv_at hl 2 rfl) ?_
      refine lv_bipush (pc := 35) (v := nI 30) hx hb dX3_exclusive_35 kcb30 ?_
      refine lv_iload_n (pc := 37) hx hb dX3_exclusive_37 rfl (lv_at hl 3 rfl) ?_
      obtain ⟨v6, S6, e6, hf⟩ := bd2o hf
      refine m_callV (pc := 38) (As := [.int l1, .int (nI 30), .int l2]) (rest := []) (st1 := []) hc (mX3_is e6) (cwV 3 hts (lw_V q2933 q2935 qs55 q105 q2936) rfl rfl rfl hdX3_is ⟨Nat.le_of_ble_eq_true rfl, Nat.le_of_ble_eq_true rfl⟩) rfl hl.1 rfl rfl (lv_room (Nat.le_of_ble_eq_true rfl)) dX3_exclusive_38 hP hD hS (fun H locs hP hD hS => ?_)
      refine lv_iload_n (pc := 41) hx hb dX3_exclusive_41 rfl (lv_at hl 0 rfl) ?_
      exact m_iret (pc := 42) hx hb hr hlk hP hD hS hf dX3_exclusive_42
    · rw [if_pos c4] at hf
      exact wX3_exclusive_b18 hc  S3 _ _ ls hP hD hS (lv_sub hl [0] rfl) hf
theorem mX3_exclusive {S S2 : mS} {r2 : Int32} {l1 : Int32} {l2 : Int32} (hf : fX3_exclusive l1 l2 S = some (r2, S2)) : mMet l yX3_exclusive cX3_exclusive 4 (some .int) 2 46 D am cI cJ [.ref (am 0), .int l1, .int l2] S (some (.int r2)) S2 := by
  exact m_start (by decide) rfl (Nat.le_of_ble_eq_true rfl) (fun p e s m args below meth c ls hc hl hP hD => wX3_exclusive_b0 hc l1 l2 S _ _ ls hP hD va_S.rf (lv_sub hl [0, 1, 2] rfl) hf)
end
section
variable {r : Int32} {Sf : mS}
def fX3_consumer (l1 : Int32) (S : mS) : Option (Int32 × mS) :=
  bd2 (fX3_isQueue l1 S) fun v1 S1 =>
  if v1 = 0 then
    bd2 (fX3_refused (-82) S1) fun v11 S11 =>
    some (v11, S11)
  else
    bd (mrd S1 0 7919 (nI 1)) fun v3 =>
    if v3 = (nI 10) then
      bd2 (fX3_refused (-86) S1) fun v10 S10 =>
      some (v10, S10)
    else
      bd (mwr S1 0 7919 ((nI 11) + ((nI 4) * v3)) l1) fun S5 =>
      bd (mwr S5 0 7919 (((nI 11) + ((nI 4) * v3)) + (nI 1)) (nI 0)) fun S6 =>
      bd (mwr S6 0 7919 (((nI 11) + ((nI 4) * v3)) + (nI 2)) (nI 0)) fun S7 =>
      bd (mwr S7 0 7919 (((nI 11) + ((nI 4) * v3)) + (nI 3)) (nI 0)) fun S8 =>
      bd (mwr S8 0 7919 (nI 1) (v3 + (nI 1))) fun S9 =>
      some (v3, S9)
theorem wX3_consumer_b0 (hc : mC p s m args meth c D cI cJ cX3_consumer 3 (some .int)) (l1 : Int32) (S : mS) (H : Heap) (locs : List Loc) (ls : Array Slot) (hP : va_P D mCl (mws am cI cJ S) H) (hD : va_D (mA am) (mws am cI cJ S)) (hS : va_S (mA am) s.heap H locs) (hl : lv_has ls 3 [(0, .ref (am 0)), (1, .int l1)]) (hf : fX3_consumer l1 S = some (r, Sf)) : W p l e (mR 2 46) s m args below meth c H locs 0 0 (mQ below D am cI cJ (some (.int r)) Sf args s) (F0 m 0 ls []) := by
  obtain ⟨hx, hb, hr, hlk, hml, hown, hts, hK⟩ := hc
  have hc : mC p s m args meth c D cI cJ cX3_consumer 3 (some .int) := ⟨hx, hb, hr, hlk, hml, hown, hts, hK⟩
  unfold fX3_consumer at hf
  refine lv_aload_n (pc := 0) hx hb dX3_consumer_0 rfl (lv_at hl 0 rfl) ?_
  refine lv_iload_n (pc := 1) hx hb dX3_consumer_1 rfl (lv_at hl 1 rfl) ?_
  obtain ⟨v1, S1, e1, hf⟩ := bd2o hf
  refine m_callV (pc := 2) (As := [.int l1]) (rest := []) (st1 := [.int v1]) hc (mX3_isQueue e1) (cwV 1 hts (lw_V q2961 q2963 qs60 q105 q2964) rfl rfl rfl hdX3_isQueue ⟨Nat.le_of_ble_eq_true rfl, Nat.le_of_ble_eq_true rfl⟩) rfl hl.1 rfl rfl (lv_room (Nat.le_of_ble_eq_true rfl)) dX3_consumer_2 hP hD hS (fun H locs hP hD hS => ?_)
  refine lv_if_ne (pc := 5) (tgt := 15) hx hb dX3_consumer_5 (by decide) (fun c2 => ?_) (fun c2 => ?_)
  · rw [if_neg c2] at hf
    refine lv_aload_n (pc := 15) hx hb dX3_consumer_15 rfl (lv_at hl 0 rfl) ?_
    refine va_get (D := D) (ci := 0) (v := .ref (am 1)) (C := RX3) (T := TX3) (N := 17) (pc := 16) hx hb hts in_X3 hown hK hP 0 rfl rfl 0 (by decide) (hts _ q2839) (fun _ h9 => h9) rfl dX3_consumer_16 ?_
    refine lv_iconst (pc := 19) (v := nI 1) hx hb dX3_consumer_19 rfl ?_
    obtain ⟨v3, e3, hf⟩ := bdo hf
    refine m_iald (pc := 20) (k := 0) hx hb hK hP rfl e3 dX3_consumer_20 ?_
    refine lv_istore_n (pc := 21) (lv' := [(2, .int v3), (0, .ref (am 0)), (1, .int l1)]) hx hb dX3_consumer_21 rfl hl (by decide) rfl (fun ls hl => ?_)
    refine lv_iload_n (pc := 22) hx hb dX3_consumer_22 rfl (lv_at hl 0 rfl) ?_
    refine lv_bipush (pc := 23) (v := nI 10) hx hb dX3_consumer_23 kcb10 ?_
    refine lv_icmp_ne (pc := 25) (tgt := 35) hx hb dX3_consumer_25 (by decide) (fun c4 => ?_) (fun c4 => ?_)
    · rw [if_neg c4] at hf
      refine lv_aload_n (pc := 35) hx hb dX3_consumer_35 rfl (lv_at hl 1 rfl) ?_
      refine va_get (D := D) (ci := 0) (v := .ref (am 1)) (C := RX3) (T := TX3) (N := 17) (pc := 36) hx hb hts in_X3 hown hK hP 0 rfl rfl 0 (by decide) (hts _ q2839) (fun _ h9 => h9) rfl dX3_consumer_36 ?_
      refine lv_bipush (pc := 39) (v := nI 11) hx hb dX3_consumer_39 kcb11 ?_
      refine lv_iconst (pc := 41) (v := nI 4) hx hb dX3_consumer_41 rfl ?_
      refine lv_iload_n (pc := 42) hx hb dX3_consumer_42 rfl (lv_at hl 0 rfl) ?_
      refine lv_imul (pc := 43) hx hb dX3_consumer_43 ?_
      refine lv_iadd (pc := 44) hx hb dX3_consumer_44 ?_
      refine lv_iload_n (pc := 45) hx hb dX3_consumer_45 rfl (lv_at hl 2 rfl) ?_
      obtain ⟨S5, e5, hf⟩ := bdo hf
      refine m_iast (pc := 46) (k := 0) hx hb hK hP hD hS rfl (fun _ _ => rfl) e5 dX3_consumer_46 (fun H locs hP hD hS => ?_)
      refine lv_aload_n (pc := 47) hx hb dX3_consumer_47 rfl (lv_at hl 1 rfl) ?_
      refine va_get (D := D) (ci := 0) (v := .ref (am 1)) (C := RX3) (T := TX3) (N := 17) (pc := 48) hx hb hts in_X3 hown hK hP 0 rfl rfl 0 (by decide) (hts _ q2839) (fun _ h9 => h9) rfl dX3_consumer_48 ?_
      refine lv_bipush (pc := 51) (v := nI 11) hx hb dX3_consumer_51 kcb11 ?_
      refine lv_iconst (pc := 53) (v := nI 4) hx hb dX3_consumer_53 rfl ?_
      refine lv_iload_n (pc := 54) hx hb dX3_consumer_54 rfl (lv_at hl 0 rfl) ?_
      refine lv_imul (pc := 55) hx hb dX3_consumer_55 ?_
      refine lv_iadd (pc := 56) hx hb dX3_consumer_56 ?_
      refine lv_iconst (pc := 57) (v := nI 1) hx hb dX3_consumer_57 rfl ?_
      refine lv_iadd (pc := 58) hx hb dX3_consumer_58 ?_
      refine lv_iconst (pc := 59) (v := nI 0) hx hb dX3_consumer_59 rfl ?_
      obtain ⟨S6, e6, hf⟩ := bdo hf
      refine m_iast (pc := 60) (k := 0) hx hb hK hP hD hS rfl (fun _ _ => rfl) e6 dX3_consumer_60 (fun H locs hP hD hS => ?_)
      refine lv_aload_n (pc := 61) hx hb dX3_consumer_61 rfl (lv_at hl 1 rfl) ?_
      refine va_get (D := D) (ci := 0) (v := .ref (am 1)) (C := RX3) (T := TX3) (N := 17) (pc := 62) hx hb hts in_X3 hown hK hP 0 rfl rfl 0 (by decide) (hts _ q2839) (fun _ h9 => h9) rfl dX3_consumer_62 ?_
      refine lv_bipush (pc := 65) (v := nI 11) hx hb dX3_consumer_65 kcb11 ?_
      refine lv_iconst (pc := 67) (v := nI 4) hx hb dX3_consumer_67 rfl ?_
      refine lv_iload_n (pc := 68) hx hb dX3_consumer_68 rfl (lv_at hl 0 rfl) ?_
      refine lv_imul (pc := 69) hx hb dX3_consumer_69 ?_
      refine lv_iadd (pc := 70) hx hb dX3_consumer_70 ?_
      refine lv_iconst (pc := 71) (v := nI 2) hx hb dX3_consumer_71 rfl ?_
      refine lv_iadd (pc := 72) hx hb dX3_consumer_72 ?_
      refine lv_iconst (pc := 73) (v := nI 0) hx hb dX3_consumer_73 rfl ?_
      obtain ⟨S7, e7, hf⟩ := bdo hf
      refine m_iast (pc := 74) (k := 0) hx hb hK hP hD hS rfl (fun _ _ => rfl) e7 dX3_consumer_74 (fun H locs hP hD hS => ?_)
      refine lv_aload_n (pc := 75) hx hb dX3_consumer_75 rfl (lv_at hl 1 rfl) ?_
      refine va_get (D := D) (ci := 0) (v := .ref (am 1)) (C := RX3) (T := TX3) (N := 17) (pc := 76) hx hb hts in_X3 hown hK hP 0 rfl rfl 0 (by decide) (hts _ q2839) (fun _ h9 => h9) rfl dX3_consumer_76 ?_
      refine lv_bipush (pc := 79) (v := nI 11) hx hb dX3_consumer_79 kcb11 ?_
      refine lv_iconst (pc := 81) (v := nI 4) hx hb dX3_consumer_81 rfl ?_
      refine lv_iload_n (pc := 82) hx hb dX3_consumer_82 rfl (lv_at hl 0 rfl) ?_
      refine lv_imul (pc := 83) hx hb dX3_consumer_83 ?_
      refine lv_iadd (pc := 84) hx hb dX3_consumer_84 ?_
      refine lv_iconst (pc := 85) (v := nI 3) hx hb dX3_consumer_85 rfl ?_
      refine lv_iadd (pc := 86) hx hb dX3_consumer_86 ?_
      refine lv_iconst (pc := 87) (v := nI 0) hx hb dX3_consumer_87 rfl ?_
      obtain ⟨S8, e8, hf⟩ := bdo hf
      refine m_iast (pc := 88) (k := 0) hx hb hK hP hD hS rfl (fun _ _ => rfl) e8 dX3_consumer_88 (fun H locs hP hD hS => ?_)
      refine lv_aload_n (pc := 89) hx hb dX3_consumer_89 rfl (lv_at hl 1 rfl) ?_
      refine va_get (D := D) (ci := 0) (v := .ref (am 1)) (C := RX3) (T := TX3) (N := 17) (pc := 90) hx hb hts in_X3 hown hK hP 0 rfl rfl 0 (by decide) (hts _ q2839) (fun _ h9 => h9) rfl dX3_consumer_90 ?_
      refine lv_iconst (pc := 93) (v := nI 1) hx hb dX3_consumer_93 rfl ?_
      refine lv_iload_n (pc := 94) hx hb dX3_consumer_94 rfl (lv_at hl 0 rfl) ?_
      refine lv_iconst (pc := 95) (v := nI 1) hx hb dX3_consumer_95 rfl ?_
      refine lv_iadd (pc := 96) hx hb dX3_consumer_96 ?_
      obtain ⟨S9, e9, hf⟩ := bdo hf
      refine m_iast (pc := 97) (k := 0) hx hb hK hP hD hS rfl (fun _ _ => rfl) e9 dX3_consumer_97 (fun H locs hP hD hS => ?_)
      refine lv_iload_n (pc := 98) hx hb dX3_consumer_98 rfl (lv_at hl 0 rfl) ?_
      exact m_iret (pc := 99) hx hb hr hlk hP hD hS hf dX3_consumer_99
    · rw [if_pos c4] at hf
      refine lv_aload_n (pc := 28) hx hb dX3_consumer_28 rfl (lv_at hl 1 rfl) ?_
      refine lv_bipush (pc := 29) (v := -86) hx hb dX3_consumer_29 kcbm86 ?_
      obtain ⟨v10, S10, e10, hf⟩ := bd2o hf
      refine m_callV (pc := 31) (As := [.int (-86)]) (rest := []) (st1 := [.int v10]) hc (mX3_refused e10) (cwV 1 hts (lw_V q2899 q2901 qs51 q105 q2902) rfl rfl rfl hdX3_refused ⟨Nat.le_of_ble_eq_true rfl, Nat.le_of_ble_eq_true rfl⟩) rfl hl.1 rfl rfl (lv_room (Nat.le_of_ble_eq_true rfl)) dX3_consumer_31 hP hD hS (fun H locs hP hD hS => ?_)
      exact m_iret (pc := 34) hx hb hr hlk hP hD hS hf dX3_consumer_34
  · rw [if_pos c2] at hf
    refine lv_aload_n (pc := 8) hx hb dX3_consumer_8 rfl (lv_at hl 0 rfl) ?_
    refine lv_bipush (pc := 9) (v := -82) hx hb dX3_consumer_9 kcbm82 ?_
    obtain ⟨v11, S11, e11, hf⟩ := bd2o hf
    refine m_callV (pc := 11) (As := [.int (-82)]) (rest := []) (st1 := [.int v11]) hc (mX3_refused e11) (cwV 1 hts (lw_V q2899 q2901 qs51 q105 q2902) rfl rfl rfl hdX3_refused ⟨Nat.le_of_ble_eq_true rfl, Nat.le_of_ble_eq_true rfl⟩) rfl hl.1 rfl rfl (lv_room (Nat.le_of_ble_eq_true rfl)) dX3_consumer_11 hP hD hS (fun H locs hP hD hS => ?_)
    exact m_iret (pc := 14) hx hb hr hlk hP hD hS hf dX3_consumer_14
theorem mX3_consumer {S S2 : mS} {r2 : Int32} {l1 : Int32} (hf : fX3_consumer l1 S = some (r2, S2)) : mMet l yX3_consumer cX3_consumer 3 (some .int) 2 46 D am cI cJ [.ref (am 0), .int l1] S (some (.int r2)) S2 := by
  exact m_start (by decide) rfl (Nat.le_of_ble_eq_true rfl) (fun p e s m args below meth c ls hc hl hP hD => wX3_consumer_b0 hc l1 S _ _ ls hP hD va_S.rf (lv_sub hl [0, 1] rfl) hf)
end
section
variable {r : Int32} {Sf : mS}
def fX3_isConsumer (l1 : Int32) (S : mS) : Option (Int32 × mS) :=
  bd (mrd S 0 7919 (nI 1)) fun v1 =>
  bd2 (fX3_in l1.toInt64 (lN 0) ((v1 - (nI 1)).toInt64) S) fun v2 S2 =>
  zr v2 S2
theorem wX3_isConsumer_b0 (hc : mC p s m args meth c D cI cJ cX3_isConsumer 2 (some .boolean)) (l1 : Int32) (S : mS) (H : Heap) (locs : List Loc) (ls : Array Slot) (hP : va_P D mCl (mws am cI cJ S) H) (hD : va_D (mA am) (mws am cI cJ S)) (hS : va_S (mA am) s.heap H locs) (hl : lv_has ls 2 [(0, .ref (am 0)), (1, .int l1)]) (hf : fX3_isConsumer l1 S = some (r, Sf)) : W p l e (mR 1 25) s m args below meth c H locs 0 0 (mQ below D am cI cJ (some (.int r)) Sf args s) (F0 m 0 ls []) := by
  obtain ⟨hx, hb, hr, hlk, hml, hown, hts, hK⟩ := hc
  have hc : mC p s m args meth c D cI cJ cX3_isConsumer 2 (some .boolean) := ⟨hx, hb, hr, hlk, hml, hown, hts, hK⟩
  unfold fX3_isConsumer at hf
  refine lv_iload_n (pc := 0) hx hb dX3_isConsumer_0 rfl (lv_at hl 1 rfl) ?_
  refine lv_i2l (pc := 1) hx hb dX3_isConsumer_1 rfl ?_
  refine lv_lconst (pc := 2) (v := lN 0) hx hb dX3_isConsumer_2 rfl ?_
  refine lv_aload_n (pc := 3) hx hb dX3_isConsumer_3 rfl (lv_at hl 0 rfl) ?_
  refine va_get (D := D) (ci := 0) (v := .ref (am 1)) (C := RX3) (T := TX3) (N := 17) (pc := 4) hx hb hts in_X3 hown hK hP 0 rfl rfl 0 (by decide) (hts _ q2839) (fun _ h9 => h9) rfl dX3_isConsumer_4 ?_
  refine lv_iconst (pc := 7) (v := nI 1) hx hb dX3_isConsumer_7 rfl ?_
  obtain ⟨v1, e1, hf⟩ := bdo hf
  refine m_iald (pc := 8) (k := 0) hx hb hK hP rfl e1 dX3_isConsumer_8 ?_
  refine lv_iconst (pc := 9) (v := nI 1) hx hb dX3_isConsumer_9 rfl ?_
  refine lv_isub (pc := 10) hx hb dX3_isConsumer_10 ?_
  refine lv_i2l (pc := 11) hx hb dX3_isConsumer_11 rfl ?_
  obtain ⟨v2, S2, e2, hf⟩ := bd2o hf
  refine m_callS (pc := 12) (As := [.long l1.toInt64, .long (lN 0), .long ((v1 - (nI 1)).toInt64)]) (rest := []) (st1 := [.int v2]) hc (mX3_in e2) (va_cwS 3 hts (lw_S q2896 q2897 q105 q2898) rfl rfl rfl hdX3_in ⟨Nat.le_of_ble_eq_true rfl, Nat.le_of_ble_eq_true rfl⟩) rfl hl.1 rfl rfl (lv_room (Nat.le_of_ble_eq_true rfl)) dX3_isConsumer_12 hP hD hS (fun H locs hP hD hS => ?_)
  exact m_zret (pc := 15) hx hb hr hlk hP hD hS hf dX3_isConsumer_15
theorem mX3_isConsumer {S S2 : mS} {r2 : Int32} {l1 : Int32} (hf : fX3_isConsumer l1 S = some (r2, S2)) : mMet l yX3_isConsumer cX3_isConsumer 2 (some .boolean) 1 25 D am cI cJ [.ref (am 0), .int l1] S (some (.int r2)) S2 := by
  exact m_start (by decide) rfl (Nat.le_of_ble_eq_true rfl) (fun p e s m args below meth c ls hc hl hP hD => wX3_isConsumer_b0 hc l1 S _ _ ls hP hD va_S.rf (lv_sub hl [0, 1] rfl) hf)
end
section
variable {r : Int32} {Sf : mS}
def fX3_ofConsumer (l1 : Int32) (l2 : Int32) (S : mS) : Option (Int32 × mS) :=
  bd (mrd S 0 7919 (((nI 11) + ((nI 4) * l1)) + l2)) fun v1 =>
  some (v1, S)
theorem wX3_ofConsumer_b0 (hc : mC p s m args meth c D cI cJ cX3_ofConsumer 3 (some .int)) (l1 : Int32) (l2 : Int32) (S : mS) (H : Heap) (locs : List Loc) (ls : Array Slot) (hP : va_P D mCl (mws am cI cJ S) H) (hD : va_D (mA am) (mws am cI cJ S)) (hS : va_S (mA am) s.heap H locs) (hl : lv_has ls 3 [(0, .ref (am 0)), (1, .int l1), (2, .int l2)]) (hf : fX3_ofConsumer l1 l2 S = some (r, Sf)) : W p l e (mR 0 0) s m args below meth c H locs 0 0 (mQ below D am cI cJ (some (.int r)) Sf args s) (F0 m 0 ls []) := by
  obtain ⟨hx, hb, hr, hlk, hml, hown, hts, hK⟩ := hc
  have hc : mC p s m args meth c D cI cJ cX3_ofConsumer 3 (some .int) := ⟨hx, hb, hr, hlk, hml, hown, hts, hK⟩
  unfold fX3_ofConsumer at hf
  refine lv_aload_n (pc := 0) hx hb dX3_ofConsumer_0 rfl (lv_at hl 0 rfl) ?_
  refine va_get (D := D) (ci := 0) (v := .ref (am 1)) (C := RX3) (T := TX3) (N := 17) (pc := 1) hx hb hts in_X3 hown hK hP 0 rfl rfl 0 (by decide) (hts _ q2839) (fun _ h9 => h9) rfl dX3_ofConsumer_1 ?_
  refine lv_bipush (pc := 4) (v := nI 11) hx hb dX3_ofConsumer_4 kcb11 ?_
  refine lv_iconst (pc := 6) (v := nI 4) hx hb dX3_ofConsumer_6 rfl ?_
  refine lv_iload_n (pc := 7) hx hb dX3_ofConsumer_7 rfl (lv_at hl 1 rfl) ?_
  refine lv_imul (pc := 8) hx hb dX3_ofConsumer_8 ?_
  refine lv_iadd (pc := 9) hx hb dX3_ofConsumer_9 ?_
  refine lv_iload_n (pc := 10) hx hb dX3_ofConsumer_10 rfl (lv_at hl 2 rfl) ?_
  refine lv_iadd (pc := 11) hx hb dX3_ofConsumer_11 ?_
  obtain ⟨v1, e1, hf⟩ := bdo hf
  refine m_iald (pc := 12) (k := 0) hx hb hK hP rfl e1 dX3_ofConsumer_12 ?_
  exact m_iret (pc := 13) hx hb hr hlk hP hD hS hf dX3_ofConsumer_13
theorem mX3_ofConsumer {S S2 : mS} {r2 : Int32} {l1 : Int32} {l2 : Int32} (hf : fX3_ofConsumer l1 l2 S = some (r2, S2)) : mMet l yX3_ofConsumer cX3_ofConsumer 3 (some .int) 0 0 D am cI cJ [.ref (am 0), .int l1, .int l2] S (some (.int r2)) S2 := by
  exact m_start (by decide) rfl (Nat.le_of_ble_eq_true rfl) (fun p e s m args below meth c ls hc hl hP hD => wX3_ofConsumer_b0 hc l1 l2 S _ _ ls hP hD va_S.rf (lv_sub hl [0, 1, 2] rfl) hf)
end
section
variable {r : Int32} {Sf : mS}
def fX3_isHere (l1 : Int32) (S : mS) : Option (Int32 × mS) :=
  bd2 (fX3_isConsumer l1 S) fun v1 S1 =>
  if v1 = 0 then
    zr (nI 0) S1
  else
    bd2 (fX3_ofConsumer l1 (nI 2) S1) fun v3 S3 =>
    if v3 = 0 then
      zr (nI 1) S3
    else
      zr (nI 0) S3
theorem wX3_isHere_b0 (hc : mC p s m args meth c D cI cJ cX3_isHere 2 (some .boolean)) (l1 : Int32) (S : mS) (H : Heap) (locs : List Loc) (ls : Array Slot) (hP : va_P D mCl (mws am cI cJ S) H) (hD : va_D (mA am) (mws am cI cJ S)) (hS : va_S (mA am) s.heap H locs) (hl : lv_has ls 2 [(0, .ref (am 0)), (1, .int l1)]) (hf : fX3_isHere l1 S = some (r, Sf)) : W p l e (mR 2 46) s m args below meth c H locs 0 0 (mQ below D am cI cJ (some (.int r)) Sf args s) (F0 m 0 ls []) := by
  obtain ⟨hx, hb, hr, hlk, hml, hown, hts, hK⟩ := hc
  have hc : mC p s m args meth c D cI cJ cX3_isHere 2 (some .boolean) := ⟨hx, hb, hr, hlk, hml, hown, hts, hK⟩
  unfold fX3_isHere at hf
  refine lv_aload_n (pc := 0) hx hb dX3_isHere_0 rfl (lv_at hl 0 rfl) ?_
  refine lv_iload_n (pc := 1) hx hb dX3_isHere_1 rfl (lv_at hl 1 rfl) ?_
  obtain ⟨v1, S1, e1, hf⟩ := bd2o hf
  refine m_callV (pc := 2) (As := [.int l1]) (rest := []) (st1 := [.int v1]) hc (mX3_isConsumer e1) (cwV 1 hts (lw_V q3031 q3033 qs74 q105 q3034) rfl rfl rfl hdX3_isConsumer ⟨Nat.le_of_ble_eq_true rfl, Nat.le_of_ble_eq_true rfl⟩) rfl hl.1 rfl rfl (lv_room (Nat.le_of_ble_eq_true rfl)) dX3_isHere_2 hP hD hS (fun H locs hP hD hS => ?_)
  refine lv_if_eq (pc := 5) (tgt := 21) hx hb dX3_isHere_5 (by decide) (fun c2 => ?_) (fun c2 => ?_)
  · rw [if_pos c2] at hf
    refine lv_iconst (pc := 21) (v := nI 0) hx hb dX3_isHere_21 rfl ?_
    exact m_zret (pc := 22) hx hb hr hlk hP hD hS hf dX3_isHere_22
  · rw [if_neg c2] at hf
    refine lv_aload_n (pc := 8) hx hb dX3_isHere_8 rfl (lv_at hl 0 rfl) ?_
    refine lv_iload_n (pc := 9) hx hb dX3_isHere_9 rfl (lv_at hl 1 rfl) ?_
    refine lv_iconst (pc := 10) (v := nI 2) hx hb dX3_isHere_10 rfl ?_
    obtain ⟨v3, S3, e3, hf⟩ := bd2o hf
    refine m_callV (pc := 11) (As := [.int l1, .int (nI 2)]) (rest := []) (st1 := [.int v3]) hc (mX3_ofConsumer e3) (cwV 2 hts (lw_V q3035 q3037 qs75 q105 q3038) rfl rfl rfl hdX3_ofConsumer ⟨Nat.le_of_ble_eq_true rfl, Nat.le_of_ble_eq_true rfl⟩) rfl hl.1 rfl rfl (lv_room (Nat.le_of_ble_eq_true rfl)) dX3_isHere_11 hP hD hS (fun H locs hP hD hS => ?_)
    refine lv_if_ne (pc := 14) (tgt := 21) hx hb dX3_isHere_14 (by decide) (fun c4 => ?_) (fun c4 => ?_)
    · rw [if_neg c4] at hf
      refine lv_iconst (pc := 21) (v := nI 0) hx hb dX3_isHere_21 rfl ?_
      exact m_zret (pc := 22) hx hb hr hlk hP hD hS hf dX3_isHere_22
    · rw [if_pos c4] at hf
      refine lv_iconst (pc := 17) (v := nI 1) hx hb dX3_isHere_17 rfl ?_
      refine lv_goto (pc := 18) (tgt := 22) hx hb dX3_isHere_18 (by decide) ?_
      exact m_zret (pc := 22) hx hb hr hlk hP hD hS hf dX3_isHere_22
theorem mX3_isHere {S S2 : mS} {r2 : Int32} {l1 : Int32} (hf : fX3_isHere l1 S = some (r2, S2)) : mMet l yX3_isHere cX3_isHere 2 (some .boolean) 2 46 D am cI cJ [.ref (am 0), .int l1] S (some (.int r2)) S2 := by
  exact m_start (by decide) rfl (Nat.le_of_ble_eq_true rfl) (fun p e s m args below meth c ls hc hl hP hD => wX3_isHere_b0 hc l1 S _ _ ls hP hD va_S.rf (lv_sub hl [0, 1] rfl) hf)
end
section
variable {r : Int32} {Sf : mS}
def fX3_letterOf (l1 : Int32) (l2 : Int32) (l3 : Int32) (S : mS) : Option (Int32 × mS) :=
  bd2 (fX3_of l1 (((nI 36) + ((nI 26) * l2)) + l3) S) fun v1 S1 =>
  some (v1, S1)
theorem wX3_letterOf_b0 (hc : mC p s m args meth c D cI cJ cX3_letterOf 4 (some .int)) (l1 : Int32) (l2 : Int32) (l3 : Int32) (S : mS) (H : Heap) (locs : List Loc) (ls : Array Slot) (hP : va_P D mCl (mws am cI cJ S) H) (hD : va_D (mA am) (mws am cI cJ S)) (hS : va_S (mA am) s.heap H locs) (hl : lv_has ls 4 [(0, .ref (am 0)), (1, .int l1), (2, .int l2), (3, .int l3)]) (hf : fX3_letterOf l1 l2 l3 S = some (r, Sf)) : W p l e (mR 1 22) s m args below meth c H locs 0 0 (mQ below D am cI cJ (some (.int r)) Sf args s) (F0 m 0 ls []) := by
  obtain ⟨hx, hb, hr, hlk, hml, hown, hts, hK⟩ := hc
  have hc : mC p s m args meth c D cI cJ cX3_letterOf 4 (some .int) := ⟨hx, hb, hr, hlk, hml, hown, hts, hK⟩
  unfold fX3_letterOf at hf
  refine lv_aload_n (pc := 0) hx hb dX3_letterOf_0 rfl (lv_at hl 0 rfl) ?_
  refine lv_iload_n (pc := 1) hx hb dX3_letterOf_1 rfl (lv_at hl 1 rfl) ?_
  refine lv_bipush (pc := 2) (v := nI 36) hx hb dX3_letterOf_2 kcb36 ?_
  refine lv_bipush (pc := 4) (v := nI 26) hx hb dX3_letterOf_4 kcb26 ?_
  refine lv_iload_n (pc := 6) hx hb dX3_letterOf_6 rfl (lv_at hl 2 rfl) ?_
  refine lv_imul (pc := 7) hx hb dX3_letterOf_7 ?_
  refine lv_iadd (pc := 8) hx hb dX3_letterOf_8 ?_
  refine lv_iload_n (pc := 9) hx hb dX3_letterOf_9 rfl (lv_at hl 3 rfl) ?_
  refine lv_iadd (pc := 10) hx hb dX3_letterOf_10 ?_
  obtain ⟨v1, S1, e1, hf⟩ := bd2o hf
  refine m_callV (pc := 11) (As := [.int l1, .int (((nI 36) + ((nI 26) * l2)) + l3)]) (rest := []) (st1 := [.int v1]) hc (mX3_of e1) (cwV 2 hts (lw_V q2949 q2951 qs58 q105 q2952) rfl rfl rfl hdX3_of ⟨Nat.le_of_ble_eq_true rfl, Nat.le_of_ble_eq_true rfl⟩) rfl hl.1 rfl rfl (lv_room (Nat.le_of_ble_eq_true rfl)) dX3_letterOf_11 hP hD hS (fun H locs hP hD hS => ?_)
  exact m_iret (pc := 14) hx hb hr hlk hP hD hS hf dX3_letterOf_14
theorem mX3_letterOf {S S2 : mS} {r2 : Int32} {l1 : Int32} {l2 : Int32} {l3 : Int32} (hf : fX3_letterOf l1 l2 l3 S = some (r2, S2)) : mMet l yX3_letterOf cX3_letterOf 4 (some .int) 1 22 D am cI cJ [.ref (am 0), .int l1, .int l2, .int l3] S (some (.int r2)) S2 := by
  exact m_start (by decide) rfl (Nat.le_of_ble_eq_true rfl) (fun p e s m args below meth c ls hc hl hP hD => wX3_letterOf_b0 hc l1 l2 l3 S _ _ ls hP hD va_S.rf (lv_sub hl [0, 1, 2, 3] rfl) hf)
end
section
variable {r : Int32} {Sf : mS}
def fX3_outAt_b10 : Nat → Int32 → Int32 → Int32 → Int32 → mS → Option (Int32 × mS)
  | 0, _, _, _, _, _ => none
  | n + 1, l1, l2, l3, l4, S =>
    bd2 (fX3_of l3 (nI 35) S) fun v1 S1 =>
    if v1 ≤ l4 then
      some (-1, S1)
    else
      bd2 (fX3_letterOf l3 l4 (nI 3) S1) fun v3 S3 =>
      if v3 = l1 then
        if l2 < 0 then
          some (l4, S3)
        else
          bd2 (fX3_letterOf l3 l4 (nI 0) S3) fun v6 S6 =>
          if v6 = l2 then
            some (l4, S6)
          else
            fX3_outAt_b10 n l1 l2 l3 (l4 + (nI 1)) S6
      else
        fX3_outAt_b10 n l1 l2 l3 (l4 + (nI 1)) S3
theorem wX3_outAt_b10 (hc : mC p s m args meth c D cI cJ cX3_outAt 5 (some .int)) : ∀ (n : Nat) (l1 : Int32) (l2 : Int32) (l3 : Int32) (l4 : Int32) (S : mS) (H : Heap) (locs : List Loc) (ls : Array Slot), va_P D mCl (mws am cI cJ S) H → va_D (mA am) (mws am cI cJ S) → va_S (mA am) s.heap H locs → lv_has ls 5 [(0, .ref (am 0)), (1, .int l1), (2, .int l2), (3, .int l3), (4, .int l4)] → fX3_outAt_b10 n l1 l2 l3 l4 S = some (r, Sf) → W p l e (mR 2 45) s m args below meth c H locs 0 0 (mQ below D am cI cJ (some (.int r)) Sf args s) (F0 m 10 ls []) := by
  obtain ⟨hx, hb, hr, hlk, hml, hown, hts, hK⟩ := hc
  have hc : mC p s m args meth c D cI cJ cX3_outAt 5 (some .int) := ⟨hx, hb, hr, hlk, hml, hown, hts, hK⟩
  intro n
  induction n with
  | zero => intro l1 l2 l3 l4 S H locs ls _ _ _ _ hf; exact absurd hf (fun h => by cases h)
  | succ n ih =>
    intro l1 l2 l3 l4 S H locs ls hP hD hS hl hf
    rw [fX3_outAt_b10] at hf
    refine lv_iload (pc := 10) hx hb dX3_outAt_10 (lv_at hl 4 rfl) ?_
    refine lv_aload_n (pc := 12) hx hb dX3_outAt_12 rfl (lv_at hl 0 rfl) ?_
    refine lv_iload_n (pc := 13) hx hb dX3_outAt_13 rfl (lv_at hl 3 rfl) ?_
    refine lv_bipush (pc := 14) (v := nI 35) hx hb dX3_outAt_14 kcb35 ?_
    obtain ⟨v1, S1, e1, hf⟩ := bd2o hf
    refine m_callV (pc := 16) (As := [.int l3, .int (nI 35)]) (rest := [.int l4]) (st1 := [.int v1, .int l4]) hc (mX3_of e1) (cwV 2 hts (lw_V q2949 q2951 qs58 q105 q2952) rfl rfl rfl hdX3_of ⟨Nat.le_of_ble_eq_true rfl, Nat.le_of_ble_eq_true rfl⟩) rfl hl.1 rfl rfl (lv_room (Nat.le_of_ble_eq_true rfl)) dX3_outAt_16 hP hD hS (fun H locs hP hD hS => ?_)
    refine lv_icmp_ge (pc := 19) (tgt := 59) hx hb dX3_outAt_19 (by decide) (fun c2 => ?_) (fun c2 => ?_)
    · rw [if_pos c2] at hf
      refine lv_iconst (pc := 59) (v := -1) hx hb dX3_outAt_59 rfl ?_
      exact m_iret (pc := 60) hx hb hr hlk hP hD hS hf dX3_outAt_60
    · rw [if_neg c2] at hf
      refine lv_aload_n (pc := 22) hx hb dX3_outAt_22 rfl (lv_at hl 0 rfl) ?_
      refine lv_iload_n (pc := 23) hx hb dX3_outAt_23 rfl (lv_at hl 3 rfl) ?_
      refine lv_iload (pc := 24) hx hb dX3_outAt_24 (lv_at hl 4 rfl) ?_
      refine lv_iconst (pc := 26) (v := nI 3) hx hb dX3_outAt_26 rfl ?_
      obtain ⟨v3, S3, e3, hf⟩ := bd2o hf
      refine m_callV (pc := 27) (As := [.int l3, .int l4, .int (nI 3)]) (rest := []) (st1 := [.int v3]) hc (mX3_letterOf e3) (cwV 3 hts (lw_V q2991 q2993 qs65 q105 q2994) rfl rfl rfl hdX3_letterOf ⟨Nat.le_of_ble_eq_true rfl, Nat.le_of_ble_eq_true rfl⟩) rfl hl.1 rfl rfl (lv_room (Nat.le_of_ble_eq_true rfl)) dX3_outAt_27 hP hD hS (fun H locs hP hD hS => ?_)
      refine lv_iload_n (pc := 30) hx hb dX3_outAt_30 rfl (lv_at hl 1 rfl) ?_
      refine lv_icmp_ne (pc := 31) (tgt := 53) hx hb dX3_outAt_31 (by decide) (fun c4 => ?_) (fun c4 => ?_)
      · rw [if_neg c4] at hf
        refine lv_iinc (pc := 53) (v := l4 + (nI 1)) (lv' := [(4, .int (l4 + (nI 1))), (0, .ref (am 0)), (1, .int l1), (2, .int l2), (3, .int l3)]) hx hb dX3_outAt_53 hl (k := 4) rfl rfl (by decide) rfl (fun ls hl => ?_)
        refine lv_goto (pc := 56) (tgt := 10) hx hb dX3_outAt_56 (by decide) ?_
        exact ih l1 l2 l3 (l4 + (nI 1)) S3 _ _ ls hP hD hS (lv_sub hl [1, 2, 3, 4, 0] rfl) hf
      · rw [if_pos c4] at hf
        refine lv_iload_n (pc := 34) hx hb dX3_outAt_34 rfl (lv_at hl 2 rfl) ?_
        refine lv_if_lt (pc := 35) (tgt := 50) hx hb dX3_outAt_35 (by decide) (fun c5 => ?_) (fun c5 => ?_)
        · rw [if_pos c5] at hf
          refine lv_iload (pc := 50) hx hb dX3_outAt_50 (lv_at hl 4 rfl) ?_
          exact m_iret (pc := 52) hx hb hr hlk hP hD hS hf dX3_outAt_52
        · rw [if_neg c5] at hf
          refine lv_aload_n (pc := 38) hx hb dX3_outAt_38 rfl (lv_at hl 0 rfl) ?_
          refine lv_iload_n (pc := 39) hx hb dX3_outAt_39 rfl (lv_at hl 3 rfl) ?_
          refine lv_iload (pc := 40) hx hb dX3_outAt_40 (lv_at hl 4 rfl) ?_
          refine lv_iconst (pc := 42) (v := nI 0) hx hb dX3_outAt_42 rfl ?_
          obtain ⟨v6, S6, e6, hf⟩ := bd2o hf
          refine m_callV (pc := 43) (As := [.int l3, .int l4, .int (nI 0)]) (rest := []) (st1 := [.int v6]) hc (mX3_letterOf e6) (cwV 3 hts (lw_V q2991 q2993 qs65 q105 q2994) rfl rfl rfl hdX3_letterOf ⟨Nat.le_of_ble_eq_true rfl, Nat.le_of_ble_eq_true rfl⟩) rfl hl.1 rfl rfl (lv_room (Nat.le_of_ble_eq_true rfl)) dX3_outAt_43 hP hD hS (fun H locs hP hD hS => ?_)
          refine lv_iload_n (pc := 46) hx hb dX3_outAt_46 rfl (lv_at hl 2 rfl) ?_
          refine lv_icmp_ne (pc := 47) (tgt := 53) hx hb dX3_outAt_47 (by decide) (fun c7 => ?_) (fun c7 => ?_)
          · rw [if_neg c7] at hf
            refine lv_iinc (pc := 53) (v := l4 + (nI 1)) (lv' := [(4, .int (l4 + (nI 1))), (0, .ref (am 0)), (1, .int l1), (2, .int l2), (3, .int l3)]) hx hb dX3_outAt_53 hl (k := 4) rfl rfl (by decide) rfl (fun ls hl => ?_)
            refine lv_goto (pc := 56) (tgt := 10) hx hb dX3_outAt_56 (by decide) ?_
            exact ih l1 l2 l3 (l4 + (nI 1)) S6 _ _ ls hP hD hS (lv_sub hl [1, 2, 3, 4, 0] rfl) hf
          · rw [if_pos c7] at hf
            refine lv_iload (pc := 50) hx hb dX3_outAt_50 (lv_at hl 4 rfl) ?_
            exact m_iret (pc := 52) hx hb hr hlk hP hD hS hf dX3_outAt_52
def fX3_outAt (l1 : Int32) (l2 : Int32) (S : mS) : Option (Int32 × mS) :=
  bd2 (fX3_ofConsumer l1 (nI 0) S) fun v1 S1 =>
  fX3_outAt_b10 FU l1 l2 v1 (nI 0) S1
theorem wX3_outAt_b0 (hc : mC p s m args meth c D cI cJ cX3_outAt 5 (some .int)) (l1 : Int32) (l2 : Int32) (S : mS) (H : Heap) (locs : List Loc) (ls : Array Slot) (hP : va_P D mCl (mws am cI cJ S) H) (hD : va_D (mA am) (mws am cI cJ S)) (hS : va_S (mA am) s.heap H locs) (hl : lv_has ls 5 [(0, .ref (am 0)), (1, .int l1), (2, .int l2)]) (hf : fX3_outAt l1 l2 S = some (r, Sf)) : W p l e (mR 2 45) s m args below meth c H locs 0 0 (mQ below D am cI cJ (some (.int r)) Sf args s) (F0 m 0 ls []) := by
  obtain ⟨hx, hb, hr, hlk, hml, hown, hts, hK⟩ := hc
  have hc : mC p s m args meth c D cI cJ cX3_outAt 5 (some .int) := ⟨hx, hb, hr, hlk, hml, hown, hts, hK⟩
  unfold fX3_outAt at hf
  refine lv_aload_n (pc := 0) hx hb dX3_outAt_0 rfl (lv_at hl 0 rfl) ?_
  refine lv_iload_n (pc := 1) hx hb dX3_outAt_1 rfl (lv_at hl 1 rfl) ?_
  refine lv_iconst (pc := 2) (v := nI 0) hx hb dX3_outAt_2 rfl ?_
  obtain ⟨v1, S1, e1, hf⟩ := bd2o hf
  refine m_callV (pc := 3) (As := [.int l1, .int (nI 0)]) (rest := []) (st1 := [.int v1]) hc (mX3_ofConsumer e1) (cwV 2 hts (lw_V q3035 q3037 qs75 q105 q3038) rfl rfl rfl hdX3_ofConsumer ⟨Nat.le_of_ble_eq_true rfl, Nat.le_of_ble_eq_true rfl⟩) rfl hl.1 rfl rfl (lv_room (Nat.le_of_ble_eq_true rfl)) dX3_outAt_3 hP hD hS (fun H locs hP hD hS => ?_)
  refine lv_istore_n (pc := 6) (lv' := [(3, .int v1), (0, .ref (am 0)), (1, .int l1), (2, .int l2)]) hx hb dX3_outAt_6 rfl hl (by decide) rfl (fun ls hl => ?_)
  refine lv_iconst (pc := 7) (v := nI 0) hx hb dX3_outAt_7 rfl ?_
  refine lv_istore (pc := 8) (lv' := [(4, .int (nI 0)), (3, .int v1), (0, .ref (am 0)), (1, .int l1), (2, .int l2)]) hx hb dX3_outAt_8 hl (by decide) rfl (fun ls hl => ?_)
  exact wX3_outAt_b10 hc FU l1 l2 v1 (nI 0) S1 _ _ ls hP hD hS (lv_sub hl [2, 3, 4, 1, 0] rfl) hf
theorem mX3_outAt {S S2 : mS} {r2 : Int32} {l1 : Int32} {l2 : Int32} (hf : fX3_outAt l1 l2 S = some (r2, S2)) : mMet l yX3_outAt cX3_outAt 5 (some .int) 2 45 D am cI cJ [.ref (am 0), .int l1, .int l2] S (some (.int r2)) S2 := by
  exact m_start (by decide) rfl (Nat.le_of_ble_eq_true rfl) (fun p e s m args below meth c ls hc hl hP hD => wX3_outAt_b0 hc l1 l2 S _ _ ls hP hD va_S.rf (lv_sub hl [0, 1, 2] rfl) hf)
end
section
variable {r : Unit} {Sf : mS}
def fX3_letterIs (l1 : Int32) (l2 : Int32) (l3 : Int32) (l4 : Int32) (S : mS) : Option (Unit × mS) :=
  bd2 (fX3_is l1 (((nI 36) + ((nI 26) * l2)) + l3) l4 S) fun _ S1 =>
  some ((), S1)
theorem wX3_letterIs_b0 (hc : mC p s m args meth c D cI cJ cX3_letterIs 5 (none)) (l1 : Int32) (l2 : Int32) (l3 : Int32) (l4 : Int32) (S : mS) (H : Heap) (locs : List Loc) (ls : Array Slot) (hP : va_P D mCl (mws am cI cJ S) H) (hD : va_D (mA am) (mws am cI cJ S)) (hS : va_S (mA am) s.heap H locs) (hl : lv_has ls 5 [(0, .ref (am 0)), (1, .int l1), (2, .int l2), (3, .int l3), (4, .int l4)]) (hf : fX3_letterIs l1 l2 l3 l4 S = some (r, Sf)) : W p l e (mR 1 23) s m args below meth c H locs 0 0 (mQ below D am cI cJ none Sf args s) (F0 m 0 ls []) := by
  obtain ⟨hx, hb, hr, hlk, hml, hown, hts, hK⟩ := hc
  have hc : mC p s m args meth c D cI cJ cX3_letterIs 5 (none) := ⟨hx, hb, hr, hlk, hml, hown, hts, hK⟩
  unfold fX3_letterIs at hf
  refine lv_aload_n (pc := 0) hx hb dX3_letterIs_0 rfl (lv_at hl 0 rfl) ?_
  refine lv_iload_n (pc := 1) hx hb dX3_letterIs_1 rfl (lv_at hl 1 rfl) ?_
  refine lv_bipush (pc := 2) (v := nI 36) hx hb dX3_letterIs_2 kcb36 ?_
  refine lv_bipush (pc := 4) (v := nI 26) hx hb dX3_letterIs_4 kcb26 ?_
  refine lv_iload_n (pc := 6) hx hb dX3_letterIs_6 rfl (lv_at hl 2 rfl) ?_
  refine lv_imul (pc := 7) hx hb dX3_letterIs_7 ?_
  refine lv_iadd (pc := 8) hx hb dX3_letterIs_8 ?_
  refine lv_iload_n (pc := 9) hx hb dX3_letterIs_9 rfl (lv_at hl 3 rfl) ?_
  refine lv_iadd (pc := 10) hx hb dX3_letterIs_10 ?_
  refine lv_iload (pc := 11) hx hb dX3_letterIs_11 (lv_at hl 4 rfl) ?_
  obtain ⟨v1, S1, e1, hf⟩ := bd2o hf
  refine m_callV (pc := 13) (As := [.int l1, .int (((nI 36) + ((nI 26) * l2)) + l3), .int l4]) (rest := []) (st1 := []) hc (mX3_is e1) (cwV 3 hts (lw_V q2933 q2935 qs55 q105 q2936) rfl rfl rfl hdX3_is ⟨Nat.le_of_ble_eq_true rfl, Nat.le_of_ble_eq_true rfl⟩) rfl hl.1 rfl rfl (lv_room (Nat.le_of_ble_eq_true rfl)) dX3_letterIs_13 hP hD hS (fun H locs hP hD hS => ?_)
  exact m_vret (pc := 16) hx hb hr hlk hP hD hS hf dX3_letterIs_16
theorem mX3_letterIs {S S2 : mS} {r2 : Unit} {l1 : Int32} {l2 : Int32} {l3 : Int32} {l4 : Int32} (hf : fX3_letterIs l1 l2 l3 l4 S = some (r2, S2)) : mMet l yX3_letterIs cX3_letterIs 5 (none) 1 23 D am cI cJ [.ref (am 0), .int l1, .int l2, .int l3, .int l4] S none S2 := by
  exact m_start (by decide) rfl (Nat.le_of_ble_eq_true rfl) (fun p e s m args below meth c ls hc hl hP hD => wX3_letterIs_b0 hc l1 l2 l3 l4 S _ _ ls hP hD va_S.rf (lv_sub hl [0, 1, 2, 3, 4] rfl) hf)
end
section
variable {r : Int32} {Sf : mS}
def fX3_leave_b24 : Nat → Int32 → Int32 → Int32 → mS → Option (Int32 × mS)
  | 0, _, _, _, _ => none
  | n + 1, l1, l2, l3, S =>
    if l3 < 0 then
      bd (mwr S 0 7919 (((nI 11) + ((nI 4) * l1)) + (nI 2)) (nI 1)) fun S2 =>
      bd (mwr S2 0 7919 (((nI 11) + ((nI 4) * l1)) + (nI 1)) (nI 0)) fun S3 =>
      some (l2, S3)
    else
      bd2 (fX3_ofConsumer l1 (nI 0) S) fun v4 S4 =>
      bd2 (fX3_letterIs v4 l3 (nI 1) (nI 0) S4) fun _ S5 =>
      bd2 (fX3_ofConsumer l1 (nI 0) S5) fun v6 S6 =>
      bd2 (fX3_letterIs v6 l3 (nI 3) (-1) S6) fun _ S7 =>
      bd2 (fX3_ofConsumer l1 (nI 0) S7) fun v8 S8 =>
      bd2 (fX3_letterIs v8 l3 (nI 4) (-1) S8) fun _ S9 =>
      bd2 (fX3_outAt l1 (-1) S9) fun v10 S10 =>
      fX3_leave_b24 n l1 (l2 + (nI 1)) v10 S10
theorem wX3_leave_b24 (hc : mC p s m args meth c D cI cJ cX3_leave 4 (some .int)) : ∀ (n : Nat) (l1 : Int32) (l2 : Int32) (l3 : Int32) (S : mS) (H : Heap) (locs : List Loc) (ls : Array Slot), va_P D mCl (mws am cI cJ S) H → va_D (mA am) (mws am cI cJ S) → va_S (mA am) s.heap H locs → lv_has ls 4 [(0, .ref (am 0)), (1, .int l1), (2, .int l2), (3, .int l3)] → fX3_leave_b24 n l1 l2 l3 S = some (r, Sf) → W p l e (mR 3 69) s m args below meth c H locs 0 0 (mQ below D am cI cJ (some (.int r)) Sf args s) (F0 m 24 ls []) := by
  obtain ⟨hx, hb, hr, hlk, hml, hown, hts, hK⟩ := hc
  have hc : mC p s m args meth c D cI cJ cX3_leave 4 (some .int) := ⟨hx, hb, hr, hlk, hml, hown, hts, hK⟩
  intro n
  induction n with
  | zero => intro l1 l2 l3 S H locs ls _ _ _ _ hf; exact absurd hf (fun h => by cases h)
  | succ n ih =>
    intro l1 l2 l3 S H locs ls hP hD hS hl hf
    rw [fX3_leave_b24] at hf
    refine lv_iload_n (pc := 24) hx hb dX3_leave_24 rfl (lv_at hl 3 rfl) ?_
    refine lv_if_lt (pc := 25) (tgt := 80) hx hb dX3_leave_25 (by decide) (fun c1 => ?_) (fun c1 => ?_)
    · rw [if_pos c1] at hf
      refine lv_aload_n (pc := 80) hx hb dX3_leave_80 rfl (lv_at hl 0 rfl) ?_
      refine va_get (D := D) (ci := 0) (v := .ref (am 1)) (C := RX3) (T := TX3) (N := 17) (pc := 81) hx hb hts in_X3 hown hK hP 0 rfl rfl 0 (by decide) (hts _ q2839) (fun _ h9 => h9) rfl dX3_leave_81 ?_
      refine lv_bipush (pc := 84) (v := nI 11) hx hb dX3_leave_84 kcb11 ?_
      refine lv_iconst (pc := 86) (v := nI 4) hx hb dX3_leave_86 rfl ?_
      refine lv_iload_n (pc := 87) hx hb dX3_leave_87 rfl (lv_at hl 1 rfl) ?_
      refine lv_imul (pc := 88) hx hb dX3_leave_88 ?_
      refine lv_iadd (pc := 89) hx hb dX3_leave_89 ?_
      refine lv_iconst (pc := 90) (v := nI 2) hx hb dX3_leave_90 rfl ?_
      refine lv_iadd (pc := 91) hx hb dX3_leave_91 ?_
      refine lv_iconst (pc := 92) (v := nI 1) hx hb dX3_leave_92 rfl ?_
      obtain ⟨S2, e2, hf⟩ := bdo hf
      refine m_iast (pc := 93) (k := 0) hx hb hK hP hD hS rfl (fun _ _ => rfl) e2 dX3_leave_93 (fun H locs hP hD hS => ?_)
      refine lv_aload_n (pc := 94) hx hb dX3_leave_94 rfl (lv_at hl 0 rfl) ?_
      refine va_get (D := D) (ci := 0) (v := .ref (am 1)) (C := RX3) (T := TX3) (N := 17) (pc := 95) hx hb hts in_X3 hown hK hP 0 rfl rfl 0 (by decide) (hts _ q2839) (fun _ h9 => h9) rfl dX3_leave_95 ?_
      refine lv_bipush (pc := 98) (v := nI 11) hx hb dX3_leave_98 kcb11 ?_
      refine lv_iconst (pc := 100) (v := nI 4) hx hb dX3_leave_100 rfl ?_
      refine lv_iload_n (pc := 101) hx hb dX3_leave_101 rfl (lv_at hl 1 rfl) ?_
      refine lv_imul (pc := 102) hx hb dX3_leave_102 ?_
      refine lv_iadd (pc := 103) hx hb dX3_leave_103 ?_
      refine lv_iconst (pc := 104) (v := nI 1) hx hb dX3_leave_104 rfl ?_
      refine lv_iadd (pc := 105) hx hb dX3_leave_105 ?_
      refine lv_iconst (pc := 106) (v := nI 0) hx hb dX3_leave_106 rfl ?_
      obtain ⟨S3, e3, hf⟩ := bdo hf
      refine m_iast (pc := 107) (k := 0) hx hb hK hP hD hS rfl (fun _ _ => rfl) e3 dX3_leave_107 (fun H locs hP hD hS => ?_)
      refine lv_iload_n (pc := 108) hx hb dX3_leave_108 rfl (lv_at hl 2 rfl) ?_
      exact m_iret (pc := 109) hx hb hr hlk hP hD hS hf dX3_leave_109
    · rw [if_neg c1] at hf
      refine lv_aload_n (pc := 28) hx hb dX3_leave_28 rfl (lv_at hl 0 rfl) ?_
      refine lv_aload_n (pc := 29) hx hb dX3_leave_29 rfl (lv_at hl 0 rfl) ?_
      refine lv_iload_n (pc := 30) hx hb dX3_leave_30 rfl (lv_at hl 1 rfl) ?_
      refine lv_iconst (pc := 31) (v := nI 0) hx hb dX3_leave_31 rfl ?_
      obtain ⟨v4, S4, e4, hf⟩ := bd2o hf
      refine m_callV (pc := 32) (As := [.int l1, .int (nI 0)]) (rest := [.ref (am 0)]) (st1 := [.int v4, .ref (am 0)]) hc (mX3_ofConsumer e4) (cwV 2 hts (lw_V q3035 q3037 qs75 q105 q3038) rfl rfl rfl hdX3_ofConsumer ⟨Nat.le_of_ble_eq_true rfl, Nat.le_of_ble_eq_true rfl⟩) rfl hl.1 rfl rfl (lv_room (Nat.le_of_ble_eq_true rfl)) dX3_leave_32 hP hD hS (fun H locs hP hD hS => ?_)
      refine lv_iload_n (pc := 35) hx hb dX3_leave_35 rfl (lv_at hl 3 rfl) ?_
      refine lv_iconst (pc := 36) (v := nI 1) hx hb dX3_leave_36 rfl ?_
      refine lv_iconst (pc := 37) (v := nI 0) hx hb dX3_leave_37 rfl ?_
      obtain ⟨v5, S5, e5, hf⟩ := bd2o hf
      refine m_callV (pc := 38) (As := [.int v4, .int l3, .int (nI 1), .int (nI 0)]) (rest := []) (st1 := []) hc (mX3_letterIs e5) (cwV 4 hts (lw_V q2995 q2997 qs66 q105 q2998) rfl rfl rfl hdX3_letterIs ⟨Nat.le_of_ble_eq_true rfl, Nat.le_of_ble_eq_true rfl⟩) rfl hl.1 rfl rfl (lv_room (Nat.le_of_ble_eq_true rfl)) dX3_leave_38 hP hD hS (fun H locs hP hD hS => ?_)
      refine lv_aload_n (pc := 41) hx hb dX3_leave_41 rfl (lv_at hl 0 rfl) ?_
      refine lv_aload_n (pc := 42) hx hb dX3_leave_42 rfl (lv_at hl 0 rfl) ?_
      refine lv_iload_n (pc := 43) hx hb dX3_leave_43 rfl (lv_at hl 1 rfl) ?_
      refine lv_iconst (pc := 44) (v := nI 0) hx hb dX3_leave_44 rfl ?_
      obtain ⟨v6, S6, e6, hf⟩ := bd2o hf
      refine m_callV (pc := 45) (As := [.int l1, .int (nI 0)]) (rest := [.ref (am 0)]) (st1 := [.int v6, .ref (am 0)]) hc (mX3_ofConsumer e6) (cwV 2 hts (lw_V q3035 q3037 qs75 q105 q3038) rfl rfl rfl hdX3_ofConsumer ⟨Nat.le_of_ble_eq_true rfl, Nat.le_of_ble_eq_true rfl⟩) rfl hl.1 rfl rfl (lv_room (Nat.le_of_ble_eq_true rfl)) dX3_leave_45 hP hD hS (fun H locs hP hD hS => ?_)
      refine lv_iload_n (pc := 48) hx hb dX3_leave_48 rfl (lv_at hl 3 rfl) ?_
      refine lv_iconst (pc := 49) (v := nI 3) hx hb dX3_leave_49 rfl ?_
      refine lv_iconst (pc := 50) (v := -1) hx hb dX3_leave_50 rfl ?_
      obtain ⟨v7, S7, e7, hf⟩ := bd2o hf
      refine m_callV (pc := 51) (As := [.int v6, .int l3, .int (nI 3), .int (-1)]) (rest := []) (st1 := []) hc (mX3_letterIs e7) (cwV 4 hts (lw_V q2995 q2997 qs66 q105 q2998) rfl rfl rfl hdX3_letterIs ⟨Nat.le_of_ble_eq_true rfl, Nat.le_of_ble_eq_true rfl⟩) rfl hl.1 rfl rfl (lv_room (Nat.le_of_ble_eq_true rfl)) dX3_leave_51 hP hD hS (fun H locs hP hD hS => ?_)
      refine lv_aload_n (pc := 54) hx hb dX3_leave_54 rfl (lv_at hl 0 rfl) ?_
      refine lv_aload_n (pc := 55) hx hb dX3_leave_55 rfl (lv_at hl 0 rfl) ?_
      refine lv_iload_n (pc := 56) hx hb dX3_leave_56 rfl (lv_at hl 1 rfl) ?_
      refine lv_iconst (pc := 57) (v := nI 0) hx hb dX3_leave_57 rfl ?_
      obtain ⟨v8, S8, e8, hf⟩ := bd2o hf
      refine m_callV (pc := 58) (As := [.int l1, .int (nI 0)]) (rest := [.ref (am 0)]) (st1 := [.int v8, .ref (am 0)]) hc (mX3_ofConsumer e8) (cwV 2 hts (lw_V q3035 q3037 qs75 q105 q3038) rfl rfl rfl hdX3_ofConsumer ⟨Nat.le_of_ble_eq_true rfl, Nat.le_of_ble_eq_true rfl⟩) rfl hl.1 rfl rfl (lv_room (Nat.le_of_ble_eq_true rfl)) dX3_leave_58 hP hD hS (fun H locs hP hD hS => ?_)
      refine lv_iload_n (pc := 61) hx hb dX3_leave_61 rfl (lv_at hl 3 rfl) ?_
      refine lv_iconst (pc := 62) (v := nI 4) hx hb dX3_leave_62 rfl ?_
      refine lv_iconst (pc := 63) (v := -1) hx hb dX3_leave_63 rfl ?_
      obtain ⟨v9, S9, e9, hf⟩ := bd2o hf
      refine m_callV (pc := 64) (As := [.int v8, .int l3, .int (nI 4), .int (-1)]) (rest := []) (st1 := []) hc (mX3_letterIs e9) (cwV 4 hts (lw_V q2995 q2997 qs66 q105 q2998) rfl rfl rfl hdX3_letterIs ⟨Nat.le_of_ble_eq_true rfl, Nat.le_of_ble_eq_true rfl⟩) rfl hl.1 rfl rfl (lv_room (Nat.le_of_ble_eq_true rfl)) dX3_leave_64 hP hD hS (fun H locs hP hD hS => ?_)
      refine lv_iinc (pc := 67) (v := l2 + (nI 1)) (lv' := [(2, .int (l2 + (nI 1))), (0, .ref (am 0)), (1, .int l1), (3, .int l3)]) hx hb dX3_leave_67 hl (k := 2) rfl rfl (by decide) rfl (fun ls hl => ?_)
      refine lv_aload_n (pc := 70) hx hb dX3_leave_70 rfl (lv_at hl 1 rfl) ?_
      refine lv_iload_n (pc := 71) hx hb dX3_leave_71 rfl (lv_at hl 2 rfl) ?_
      refine lv_iconst (pc := 72) (v := -1) hx hb dX3_leave_72 rfl ?_
      obtain ⟨v10, S10, e10, hf⟩ := bd2o hf
      refine m_callV (pc := 73) (As := [.int l1, .int (-1)]) (rest := []) (st1 := [.int v10]) hc (mX3_outAt e10) (cwV 2 hts (lw_V q3047 q3049 qs76 q105 q3050) rfl rfl rfl hdX3_outAt ⟨Nat.le_of_ble_eq_true rfl, Nat.le_of_ble_eq_true rfl⟩) rfl hl.1 rfl rfl (lv_room (Nat.le_of_ble_eq_true rfl)) dX3_leave_73 hP hD hS (fun H locs hP hD hS => ?_)
      refine lv_istore_n (pc := 76) (lv' := [(3, .int v10), (2, .int (l2 + (nI 1))), (0, .ref (am 0)), (1, .int l1)]) hx hb dX3_leave_76 rfl hl (by decide) rfl (fun ls hl => ?_)
      refine lv_goto (pc := 77) (tgt := 24) hx hb dX3_leave_77 (by decide) ?_
      exact ih l1 (l2 + (nI 1)) v10 S10 _ _ ls hP hD hS (lv_sub hl [2, 3, 1, 0] rfl) hf
def fX3_leave (l1 : Int32) (S : mS) : Option (Int32 × mS) :=
  bd2 (fX3_isHere l1 S) fun v1 S1 =>
  if v1 = 0 then
    bd2 (fX3_refused (-82) S1) fun v4 S4 =>
    some (v4, S4)
  else
    bd2 (fX3_outAt l1 (-1) S1) fun v3 S3 =>
    fX3_leave_b24 FU l1 (nI 0) v3 S3
theorem wX3_leave_b0 (hc : mC p s m args meth c D cI cJ cX3_leave 4 (some .int)) (l1 : Int32) (S : mS) (H : Heap) (locs : List Loc) (ls : Array Slot) (hP : va_P D mCl (mws am cI cJ S) H) (hD : va_D (mA am) (mws am cI cJ S)) (hS : va_S (mA am) s.heap H locs) (hl : lv_has ls 4 [(0, .ref (am 0)), (1, .int l1)]) (hf : fX3_leave l1 S = some (r, Sf)) : W p l e (mR 3 69) s m args below meth c H locs 0 0 (mQ below D am cI cJ (some (.int r)) Sf args s) (F0 m 0 ls []) := by
  obtain ⟨hx, hb, hr, hlk, hml, hown, hts, hK⟩ := hc
  have hc : mC p s m args meth c D cI cJ cX3_leave 4 (some .int) := ⟨hx, hb, hr, hlk, hml, hown, hts, hK⟩
  unfold fX3_leave at hf
  refine lv_aload_n (pc := 0) hx hb dX3_leave_0 rfl (lv_at hl 0 rfl) ?_
  refine lv_iload_n (pc := 1) hx hb dX3_leave_1 rfl (lv_at hl 1 rfl) ?_
  obtain ⟨v1, S1, e1, hf⟩ := bd2o hf
  refine m_callV (pc := 2) (As := [.int l1]) (rest := []) (st1 := [.int v1]) hc (mX3_isHere e1) (cwV 1 hts (lw_V q3027 q3029 qs73 q105 q3030) rfl rfl rfl hdX3_isHere ⟨Nat.le_of_ble_eq_true rfl, Nat.le_of_ble_eq_true rfl⟩) rfl hl.1 rfl rfl (lv_room (Nat.le_of_ble_eq_true rfl)) dX3_leave_2 hP hD hS (fun H locs hP hD hS => ?_)
  refine lv_if_ne (pc := 5) (tgt := 15) hx hb dX3_leave_5 (by decide) (fun c2 => ?_) (fun c2 => ?_)
  · rw [if_neg c2] at hf
    refine lv_iconst (pc := 15) (v := nI 0) hx hb dX3_leave_15 rfl ?_
    refine lv_istore_n (pc := 16) (lv' := [(2, .int (nI 0)), (0, .ref (am 0)), (1, .int l1)]) hx hb dX3_leave_16 rfl hl (by decide) rfl (fun ls hl => ?_)
    refine lv_aload_n (pc := 17) hx hb dX3_leave_17 rfl (lv_at hl 1 rfl) ?_
    refine lv_iload_n (pc := 18) hx hb dX3_leave_18 rfl (lv_at hl 2 rfl) ?_
    refine lv_iconst (pc := 19) (v := -1) hx hb dX3_leave_19 rfl ?_
    obtain ⟨v3, S3, e3, hf⟩ := bd2o hf
    refine m_callV (pc := 20) (As := [.int l1, .int (-1)]) (rest := []) (st1 := [.int v3]) hc (mX3_outAt e3) (cwV 2 hts (lw_V q3047 q3049 qs76 q105 q3050) rfl rfl rfl hdX3_outAt ⟨Nat.le_of_ble_eq_true rfl, Nat.le_of_ble_eq_true rfl⟩) rfl hl.1 rfl rfl (lv_room (Nat.le_of_ble_eq_true rfl)) dX3_leave_20 hP hD hS (fun H locs hP hD hS => ?_)
    refine lv_istore_n (pc := 23) (lv' := [(3, .int v3), (2, .int (nI 0)), (0, .ref (am 0)), (1, .int l1)]) hx hb dX3_leave_23 rfl hl (by decide) rfl (fun ls hl => ?_)
    exact wX3_leave_b24 hc FU l1 (nI 0) v3 S3 _ _ ls hP hD hS (lv_sub hl [2, 3, 1, 0] rfl) hf
  · rw [if_pos c2] at hf
    refine lv_aload_n (pc := 8) hx hb dX3_leave_8 rfl (lv_at hl 0 rfl) ?_
    refine lv_bipush (pc := 9) (v := -82) hx hb dX3_leave_9 kcbm82 ?_
    obtain ⟨v4, S4, e4, hf⟩ := bd2o hf
    refine m_callV (pc := 11) (As := [.int (-82)]) (rest := []) (st1 := [.int v4]) hc (mX3_refused e4) (cwV 1 hts (lw_V q2899 q2901 qs51 q105 q2902) rfl rfl rfl hdX3_refused ⟨Nat.le_of_ble_eq_true rfl, Nat.le_of_ble_eq_true rfl⟩) rfl hl.1 rfl rfl (lv_room (Nat.le_of_ble_eq_true rfl)) dX3_leave_11 hP hD hS (fun H locs hP hD hS => ?_)
    exact m_iret (pc := 14) hx hb hr hlk hP hD hS hf dX3_leave_14
theorem mX3_leave {S S2 : mS} {r2 : Int32} {l1 : Int32} (hf : fX3_leave l1 S = some (r2, S2)) : mMet l yX3_leave cX3_leave 4 (some .int) 3 69 D am cI cJ [.ref (am 0), .int l1] S (some (.int r2)) S2 := by
  exact m_start (by decide) rfl (Nat.le_of_ble_eq_true rfl) (fun p e s m args below meth c ls hc hl hP hD => wX3_leave_b0 hc l1 S _ _ ls hP hD va_S.rf (lv_sub hl [0, 1] rfl) hf)
end
section
variable {r : Int32} {Sf : mS}
def fX3_credit_b20 (S : mS) : Option (Int32 × mS) :=
  bd2 (fX3_refused (-82) S) fun v1 S1 =>
  some (v1, S1)
theorem wX3_credit_b20 (hc : mC p s m args meth c D cI cJ cX3_credit 3 (some .int)) (S : mS) (H : Heap) (locs : List Loc) (ls : Array Slot) (hP : va_P D mCl (mws am cI cJ S) H) (hD : va_D (mA am) (mws am cI cJ S)) (hS : va_S (mA am) s.heap H locs) (hl : lv_has ls 3 [(0, .ref (am 0))]) (hf : fX3_credit_b20  S = some (r, Sf)) : W p l e (mR 3 67) s m args below meth c H locs 0 0 (mQ below D am cI cJ (some (.int r)) Sf args s) (F0 m 20 ls []) := by
  obtain ⟨hx, hb, hr, hlk, hml, hown, hts, hK⟩ := hc
  have hc : mC p s m args meth c D cI cJ cX3_credit 3 (some .int) := ⟨hx, hb, hr, hlk, hml, hown, hts, hK⟩
  unfold fX3_credit_b20 at hf
  refine lv_aload_n (pc := 20) hx hb dX3_credit_20 rfl (lv_at hl 0 rfl) ?_
  refine lv_bipush (pc := 21) (v := -82) hx hb dX3_credit_21 kcbm82 ?_
  obtain ⟨v1, S1, e1, hf⟩ := bd2o hf
  refine m_callV (pc := 23) (As := [.int (-82)]) (rest := []) (st1 := [.int v1]) hc (mX3_refused e1) (cwV 1 hts (lw_V q2899 q2901 qs51 q105 q2902) rfl rfl rfl hdX3_refused ⟨Nat.le_of_ble_eq_true rfl, Nat.le_of_ble_eq_true rfl⟩) rfl hl.1 rfl rfl (lv_room (Nat.le_of_ble_eq_true rfl)) dX3_credit_23 hP hD hS (fun H locs hP hD hS => ?_)
  exact m_iret (pc := 26) hx hb hr hlk hP hD hS hf dX3_credit_26
def fX3_credit (l1 : Int32) (l2 : Int32) (S : mS) : Option (Int32 × mS) :=
  bd2 (fX3_isHere l1 S) fun v1 S1 =>
  if v1 = 0 then
    fX3_credit_b20  S1
  else
    bd2 (fX3_in l2.toInt64 (lN 1) (lN 9) S1) fun v3 S3 =>
    if v3 = 0 then
      fX3_credit_b20  S3
    else
      bd2 (fX3_ofConsumer l1 (nI 1) S3) fun v5 S5 =>
      if (v5 + l2) ≤ (nI 9) then
        bd (mrd S5 0 7919 (((nI 11) + ((nI 4) * l1)) + (nI 1))) fun v7 =>
        bd (mwr S5 0 7919 (((nI 11) + ((nI 4) * l1)) + (nI 1)) (v7 + l2)) fun S8 =>
        bd2 (fX3_ofConsumer l1 (nI 1) S8) fun v9 S9 =>
        some (v9, S9)
      else
        bd2 (fX3_refused (-86) S5) fun v10 S10 =>
        some (v10, S10)
theorem wX3_credit_b0 (hc : mC p s m args meth c D cI cJ cX3_credit 3 (some .int)) (l1 : Int32) (l2 : Int32) (S : mS) (H : Heap) (locs : List Loc) (ls : Array Slot) (hP : va_P D mCl (mws am cI cJ S) H) (hD : va_D (mA am) (mws am cI cJ S)) (hS : va_S (mA am) s.heap H locs) (hl : lv_has ls 3 [(0, .ref (am 0)), (1, .int l1), (2, .int l2)]) (hf : fX3_credit l1 l2 S = some (r, Sf)) : W p l e (mR 3 67) s m args below meth c H locs 0 0 (mQ below D am cI cJ (some (.int r)) Sf args s) (F0 m 0 ls []) := by
  obtain ⟨hx, hb, hr, hlk, hml, hown, hts, hK⟩ := hc
  have hc : mC p s m args meth c D cI cJ cX3_credit 3 (some .int) := ⟨hx, hb, hr, hlk, hml, hown, hts, hK⟩
  unfold fX3_credit at hf
  refine lv_aload_n (pc := 0) hx hb dX3_credit_0 rfl (lv_at hl 0 rfl) ?_
  refine lv_iload_n (pc := 1) hx hb dX3_credit_1 rfl (lv_at hl 1 rfl) ?_
  obtain ⟨v1, S1, e1, hf⟩ := bd2o hf
  refine m_callV (pc := 2) (As := [.int l1]) (rest := []) (st1 := [.int v1]) hc (mX3_isHere e1) (cwV 1 hts (lw_V q3027 q3029 qs73 q105 q3030) rfl rfl rfl hdX3_isHere ⟨Nat.le_of_ble_eq_true rfl, Nat.le_of_ble_eq_true rfl⟩) rfl hl.1 rfl rfl (lv_room (Nat.le_of_ble_eq_true rfl)) dX3_credit_2 hP hD hS (fun H locs hP hD hS => ?_)
  refine lv_if_eq (pc := 5) (tgt := 20) hx hb dX3_credit_5 (by decide) (fun c2 => ?_) (fun c2 => ?_)
  · rw [if_pos c2] at hf
    exact wX3_credit_b20 hc  S1 _ _ ls hP hD hS (lv_sub hl [0] rfl) hf
  · rw [if_neg c2] at hf
    refine lv_iload_n (pc := 8) hx hb dX3_credit_8 rfl (lv_at hl 2 rfl) ?_
    refine lv_i2l (pc := 9) hx hb dX3_credit_9 rfl ?_
    refine lv_lconst (pc := 10) (v := lN 1) hx hb dX3_credit_10 rfl ?_
    refine lv_ldc2 (pc := 11) (v := lN 9) hx hb hown (hts _ q3100) dX3_credit_11 ?_
    obtain ⟨v3, S3, e3, hf⟩ := bd2o hf
    refine m_callS (pc := 14) (As := [.long l2.toInt64, .long (lN 1), .long (lN 9)]) (rest := []) (st1 := [.int v3]) hc (mX3_in e3) (va_cwS 3 hts (lw_S q2896 q2897 q105 q2898) rfl rfl rfl hdX3_in ⟨Nat.le_of_ble_eq_true rfl, Nat.le_of_ble_eq_true rfl⟩) rfl hl.1 rfl rfl (lv_room (Nat.le_of_ble_eq_true rfl)) dX3_credit_14 hP hD hS (fun H locs hP hD hS => ?_)
    refine lv_if_ne (pc := 17) (tgt := 27) hx hb dX3_credit_17 (by decide) (fun c4 => ?_) (fun c4 => ?_)
    · rw [if_neg c4] at hf
      refine lv_aload_n (pc := 27) hx hb dX3_credit_27 rfl (lv_at hl 0 rfl) ?_
      refine lv_iload_n (pc := 28) hx hb dX3_credit_28 rfl (lv_at hl 1 rfl) ?_
      refine lv_iconst (pc := 29) (v := nI 1) hx hb dX3_credit_29 rfl ?_
      obtain ⟨v5, S5, e5, hf⟩ := bd2o hf
      refine m_callV (pc := 30) (As := [.int l1, .int (nI 1)]) (rest := []) (st1 := [.int v5]) hc (mX3_ofConsumer e5) (cwV 2 hts (lw_V q3035 q3037 qs75 q105 q3038) rfl rfl rfl hdX3_ofConsumer ⟨Nat.le_of_ble_eq_true rfl, Nat.le_of_ble_eq_true rfl⟩) rfl hl.1 rfl rfl (lv_room (Nat.le_of_ble_eq_true rfl)) dX3_credit_30 hP hD hS (fun H locs hP hD hS => ?_)
      refine lv_iload_n (pc := 33) hx hb dX3_credit_33 rfl (lv_at hl 2 rfl) ?_
      refine lv_iadd (pc := 34) hx hb dX3_credit_34 ?_
      refine lv_bipush (pc := 35) (v := nI 9) hx hb dX3_credit_35 kcb9 ?_
      refine lv_icmp_le (pc := 37) (tgt := 47) hx hb dX3_credit_37 (by decide) (fun c6 => ?_) (fun c6 => ?_)
      · rw [if_pos c6] at hf
        refine lv_aload_n (pc := 47) hx hb dX3_credit_47 rfl (lv_at hl 0 rfl) ?_
        refine va_get (D := D) (ci := 0) (v := .ref (am 1)) (C := RX3) (T := TX3) (N := 17) (pc := 48) hx hb hts in_X3 hown hK hP 0 rfl rfl 0 (by decide) (hts _ q2839) (fun _ h9 => h9) rfl dX3_credit_48 ?_
        refine lv_bipush (pc := 51) (v := nI 11) hx hb dX3_credit_51 kcb11 ?_
        refine lv_iconst (pc := 53) (v := nI 4) hx hb dX3_credit_53 rfl ?_
        refine lv_iload_n (pc := 54) hx hb dX3_credit_54 rfl (lv_at hl 1 rfl) ?_
        refine lv_imul (pc := 55) hx hb dX3_credit_55 ?_
        refine lv_iadd (pc := 56) hx hb dX3_credit_56 ?_
        refine lv_iconst (pc := 57) (v := nI 1) hx hb dX3_credit_57 rfl ?_
        refine lv_iadd (pc := 58) hx hb dX3_credit_58 ?_
        refine lv_dup2_11 (pc := 59) hx hb dX3_credit_59 rfl rfl ?_
        obtain ⟨v7, e7, hf⟩ := bdo hf
        refine m_iald (pc := 60) (k := 0) hx hb hK hP rfl e7 dX3_credit_60 ?_
        refine lv_iload_n (pc := 61) hx hb dX3_credit_61 rfl (lv_at hl 2 rfl) ?_
        refine lv_iadd (pc := 62) hx hb dX3_credit_62 ?_
        obtain ⟨S8, e8, hf⟩ := bdo hf
        refine m_iast (pc := 63) (k := 0) hx hb hK hP hD hS rfl (fun _ _ => rfl) e8 dX3_credit_63 (fun H locs hP hD hS => ?_)
        refine lv_aload_n (pc := 64) hx hb dX3_credit_64 rfl (lv_at hl 0 rfl) ?_
        refine lv_iload_n (pc := 65) hx hb dX3_credit_65 rfl (lv_at hl 1 rfl) ?_
        refine lv_iconst (pc := 66) (v := nI 1) hx hb dX3_credit_66 rfl ?_
        obtain ⟨v9, S9, e9, hf⟩ := bd2o hf
        refine m_callV (pc := 67) (As := [.int l1, .int (nI 1)]) (rest := []) (st1 := [.int v9]) hc (mX3_ofConsumer e9) (cwV 2 hts (lw_V q3035 q3037 qs75 q105 q3038) rfl rfl rfl hdX3_ofConsumer ⟨Nat.le_of_ble_eq_true rfl, Nat.le_of_ble_eq_true rfl⟩) rfl hl.1 rfl rfl (lv_room (Nat.le_of_ble_eq_true rfl)) dX3_credit_67 hP hD hS (fun H locs hP hD hS => ?_)
        exact m_iret (pc := 70) hx hb hr hlk hP hD hS hf dX3_credit_70
      · rw [if_neg c6] at hf
        refine lv_aload_n (pc := 40) hx hb dX3_credit_40 rfl (lv_at hl 0 rfl) ?_
        refine lv_bipush (pc := 41) (v := -86) hx hb dX3_credit_41 kcbm86 ?_
        obtain ⟨v10, S10, e10, hf⟩ := bd2o hf
        refine m_callV (pc := 43) (As := [.int (-86)]) (rest := []) (st1 := [.int v10]) hc (mX3_refused e10) (cwV 1 hts (lw_V q2899 q2901 qs51 q105 q2902) rfl rfl rfl hdX3_refused ⟨Nat.le_of_ble_eq_true rfl, Nat.le_of_ble_eq_true rfl⟩) rfl hl.1 rfl rfl (lv_room (Nat.le_of_ble_eq_true rfl)) dX3_credit_43 hP hD hS (fun H locs hP hD hS => ?_)
        exact m_iret (pc := 46) hx hb hr hlk hP hD hS hf dX3_credit_46
    · rw [if_pos c4] at hf
      exact wX3_credit_b20 hc  S3 _ _ ls hP hD hS (lv_sub hl [0] rfl) hf
theorem mX3_credit {S S2 : mS} {r2 : Int32} {l1 : Int32} {l2 : Int32} (hf : fX3_credit l1 l2 S = some (r2, S2)) : mMet l yX3_credit cX3_credit 3 (some .int) 3 67 D am cI cJ [.ref (am 0), .int l1, .int l2] S (some (.int r2)) S2 := by
  exact m_start (by decide) rfl (Nat.le_of_ble_eq_true rfl) (fun p e s m args below meth c ls hc hl hP hD => wX3_credit_b0 hc l1 l2 S _ _ ls hP hD va_S.rf (lv_sub hl [0, 1, 2] rfl) hf)
end
section
variable {r : Int32} {Sf : mS}
def fX3_isLong_b21 (l1 : Int32) (l2 : Int32) (t0 : Int32) (S : mS) : Option (Int32 × mS) :=
  if t0 = 0 then
    bd2 (fX3_of l1 (nI 0) S) fun v2 S2 =>
    if l2 = v2 then
      zr (nI 1) S2
    else
      zr (nI 0) S2
  else
    bd2 (fX3_of l1 (nI 0) S) fun v4 S4 =>
    if l2 < (v4 - (nI 1)) then
      zr (nI 0) S4
    else
      zr (nI 1) S4
theorem wX3_isLong_b21 (hc : mC p s m args meth c D cI cJ cX3_isLong 4 (some .boolean)) (l1 : Int32) (l2 : Int32) (t0 : Int32) (S : mS) (H : Heap) (locs : List Loc) (ls : Array Slot) (hP : va_P D mCl (mws am cI cJ S) H) (hD : va_D (mA am) (mws am cI cJ S)) (hS : va_S (mA am) s.heap H locs) (hl : lv_has ls 4 [(0, .ref (am 0)), (1, .int l1), (2, .int l2)]) (hf : fX3_isLong_b21 l1 l2 t0 S = some (r, Sf)) : W p l e (mR 1 22) s m args below meth c H locs 0 0 (mQ below D am cI cJ (some (.int r)) Sf args s) (F0 m 21 ls [.int t0]) := by
  obtain ⟨hx, hb, hr, hlk, hml, hown, hts, hK⟩ := hc
  have hc : mC p s m args meth c D cI cJ cX3_isLong 4 (some .boolean) := ⟨hx, hb, hr, hlk, hml, hown, hts, hK⟩
  unfold fX3_isLong_b21 at hf
  refine lv_istore_n (pc := 21) (lv' := [(3, .int t0), (0, .ref (am 0)), (1, .int l1), (2, .int l2)]) hx hb dX3_isLong_21 rfl hl (by decide) rfl (fun ls hl => ?_)
  refine lv_iload_n (pc := 22) hx hb dX3_isLong_22 rfl (lv_at hl 0 rfl) ?_
  refine lv_if_eq (pc := 23) (tgt := 46) hx hb dX3_isLong_23 (by decide) (fun c1 => ?_) (fun c1 => ?_)
  · rw [if_pos c1] at hf
    refine lv_iload_n (pc := 46) hx hb dX3_isLong_46 rfl (lv_at hl 3 rfl) ?_
    refine lv_aload_n (pc := 47) hx hb dX3_isLong_47 rfl (lv_at hl 1 rfl) ?_
    refine lv_iload_n (pc := 48) hx hb dX3_isLong_48 rfl (lv_at hl 2 rfl) ?_
    refine lv_iconst (pc := 49) (v := nI 0) hx hb dX3_isLong_49 rfl ?_
    obtain ⟨v2, S2, e2, hf⟩ := bd2o hf
    refine m_callV (pc := 50) (As := [.int l1, .int (nI 0)]) (rest := [.int l2]) (st1 := [.int v2, .int l2]) hc (mX3_of e2) (cwV 2 hts (lw_V q2949 q2951 qs58 q105 q2952) rfl rfl rfl hdX3_of ⟨Nat.le_of_ble_eq_true rfl, Nat.le_of_ble_eq_true rfl⟩) rfl hl.1 rfl rfl (lv_room (Nat.le_of_ble_eq_true rfl)) dX3_isLong_50 hP hD hS (fun H locs hP hD hS => ?_)
    refine lv_icmp_ne (pc := 53) (tgt := 60) hx hb dX3_isLong_53 (by decide) (fun c3 => ?_) (fun c3 => ?_)
    · rw [if_neg c3] at hf
      refine lv_iconst (pc := 60) (v := nI 0) hx hb dX3_isLong_60 rfl ?_
      exact m_zret (pc := 61) hx hb hr hlk hP hD hS hf dX3_isLong_61
    · rw [if_pos c3] at hf
      refine lv_iconst (pc := 56) (v := nI 1) hx hb dX3_isLong_56 rfl ?_
      refine lv_goto (pc := 57) (tgt := 61) hx hb dX3_isLong_57 (by decide) ?_
      exact m_zret (pc := 61) hx hb hr hlk hP hD hS hf dX3_isLong_61
  · rw [if_neg c1] at hf
    refine lv_iload_n (pc := 26) hx hb dX3_isLong_26 rfl (lv_at hl 3 rfl) ?_
    refine lv_aload_n (pc := 27) hx hb dX3_isLong_27 rfl (lv_at hl 1 rfl) ?_
    refine lv_iload_n (pc := 28) hx hb dX3_isLong_28 rfl (lv_at hl 2 rfl) ?_
    refine lv_iconst (pc := 29) (v := nI 0) hx hb dX3_isLong_29 rfl ?_
    obtain ⟨v4, S4, e4, hf⟩ := bd2o hf
    refine m_callV (pc := 30) (As := [.int l1, .int (nI 0)]) (rest := [.int l2]) (st1 := [.int v4, .int l2]) hc (mX3_of e4) (cwV 2 hts (lw_V q2949 q2951 qs58 q105 q2952) rfl rfl rfl hdX3_of ⟨Nat.le_of_ble_eq_true rfl, Nat.le_of_ble_eq_true rfl⟩) rfl hl.1 rfl rfl (lv_room (Nat.le_of_ble_eq_true rfl)) dX3_isLong_30 hP hD hS (fun H locs hP hD hS => ?_)
    refine lv_iconst (pc := 33) (v := nI 1) hx hb dX3_isLong_33 rfl ?_
    refine lv_isub (pc := 34) hx hb dX3_isLong_34 ?_
    refine lv_icmp_lt (pc := 35) (tgt := 42) hx hb dX3_isLong_35 (by decide) (fun c5 => ?_) (fun c5 => ?_)
    · rw [if_pos c5] at hf
      refine lv_iconst (pc := 42) (v := nI 0) hx hb dX3_isLong_42 rfl ?_
      refine lv_goto (pc := 43) (tgt := 61) hx hb dX3_isLong_43 (by decide) ?_
      exact m_zret (pc := 61) hx hb hr hlk hP hD hS hf dX3_isLong_61
    · rw [if_neg c5] at hf
      refine lv_iconst (pc := 38) (v := nI 1) hx hb dX3_isLong_38 rfl ?_
      refine lv_goto (pc := 39) (tgt := 61) hx hb dX3_isLong_39 (by decide) ?_
      exact m_zret (pc := 61) hx hb hr hlk hP hD hS hf dX3_isLong_61
def fX3_isLong (l1 : Int32) (l2 : Int32) (S : mS) : Option (Int32 × mS) :=
  bd2 (fX3_of l1 (nI 0) S) fun v1 S1 =>
  bd2 (fX3_of l1 v1 S1) fun v2 S2 =>
  if v2 = (-3) then
    fX3_isLong_b21 l1 l2 (nI 1) S2
  else
    fX3_isLong_b21 l1 l2 (nI 0) S2
theorem wX3_isLong_b0 (hc : mC p s m args meth c D cI cJ cX3_isLong 4 (some .boolean)) (l1 : Int32) (l2 : Int32) (S : mS) (H : Heap) (locs : List Loc) (ls : Array Slot) (hP : va_P D mCl (mws am cI cJ S) H) (hD : va_D (mA am) (mws am cI cJ S)) (hS : va_S (mA am) s.heap H locs) (hl : lv_has ls 4 [(0, .ref (am 0)), (1, .int l1), (2, .int l2)]) (hf : fX3_isLong l1 l2 S = some (r, Sf)) : W p l e (mR 1 22) s m args below meth c H locs 0 0 (mQ below D am cI cJ (some (.int r)) Sf args s) (F0 m 0 ls []) := by
  obtain ⟨hx, hb, hr, hlk, hml, hown, hts, hK⟩ := hc
  have hc : mC p s m args meth c D cI cJ cX3_isLong 4 (some .boolean) := ⟨hx, hb, hr, hlk, hml, hown, hts, hK⟩
  unfold fX3_isLong at hf
  refine lv_aload_n (pc := 0) hx hb dX3_isLong_0 rfl (lv_at hl 0 rfl) ?_
  refine lv_iload_n (pc := 1) hx hb dX3_isLong_1 rfl (lv_at hl 1 rfl) ?_
  refine lv_aload_n (pc := 2) hx hb dX3_isLong_2 rfl (lv_at hl 0 rfl) ?_
  refine lv_iload_n (pc := 3) hx hb dX3_isLong_3 rfl (lv_at hl 1 rfl) ?_
  refine lv_iconst (pc := 4) (v := nI 0) hx hb dX3_isLong_4 rfl ?_
  obtain ⟨v1, S1, e1, hf⟩ := bd2o hf
  refine m_callV (pc := 5) (As := [.int l1, .int (nI 0)]) (rest := [.int l1, .ref (am 0)]) (st1 := [.int v1, .int l1, .ref (am 0)]) hc (mX3_of e1) (cwV 2 hts (lw_V q2949 q2951 qs58 q105 q2952) rfl rfl rfl hdX3_of ⟨Nat.le_of_ble_eq_true rfl, Nat.le_of_ble_eq_true rfl⟩) rfl hl.1 rfl rfl (lv_room (Nat.le_of_ble_eq_true rfl)) dX3_isLong_5 hP hD hS (fun H locs hP hD hS => ?_)
  obtain ⟨v2, S2, e2, hf⟩ := bd2o hf
  refine m_callV (pc := 8) (As := [.int l1, .int v1]) (rest := []) (st1 := [.int v2]) hc (mX3_of e2) (cwV 2 hts (lw_V q2949 q2951 qs58 q105 q2952) rfl rfl rfl hdX3_of ⟨Nat.le_of_ble_eq_true rfl, Nat.le_of_ble_eq_true rfl⟩) rfl hl.1 rfl rfl (lv_room (Nat.le_of_ble_eq_true rfl)) dX3_isLong_8 hP hD hS (fun H locs hP hD hS => ?_)
  refine lv_bipush (pc := 11) (v := -3) hx hb dX3_isLong_11 kcbm3 ?_
  refine lv_icmp_ne (pc := 13) (tgt := 20) hx hb dX3_isLong_13 (by decide) (fun c3 => ?_) (fun c3 => ?_)
  · rw [if_neg c3] at hf
    refine lv_iconst (pc := 20) (v := nI 0) hx hb dX3_isLong_20 rfl ?_
    exact wX3_isLong_b21 hc l1 l2 (nI 0) S2 _ _ ls hP hD hS (lv_sub hl [0, 1, 2] rfl) hf
  · rw [if_pos c3] at hf
    refine lv_iconst (pc := 16) (v := nI 1) hx hb dX3_isLong_16 rfl ?_
    refine lv_goto (pc := 17) (tgt := 21) hx hb dX3_isLong_17 (by decide) ?_
    exact wX3_isLong_b21 hc l1 l2 (nI 1) S2 _ _ ls hP hD hS (lv_sub hl [0, 1, 2] rfl) hf
theorem mX3_isLong {S S2 : mS} {r2 : Int32} {l1 : Int32} {l2 : Int32} (hf : fX3_isLong l1 l2 S = some (r2, S2)) : mMet l yX3_isLong cX3_isLong 4 (some .boolean) 1 22 D am cI cJ [.ref (am 0), .int l1, .int l2] S (some (.int r2)) S2 := by
  exact m_start (by decide) rfl (Nat.le_of_ble_eq_true rfl) (fun p e s m args below meth c ls hc hl hP hD => wX3_isLong_b0 hc l1 l2 S _ _ ls hP hD va_S.rf (lv_sub hl [0, 1, 2] rfl) hf)
end
section
variable {r : Int32} {Sf : mS}
def fX3_partOf (l1 : Int32) (l2 : Int32) (S : mS) : Option (Int32 × mS) :=
  bd2 (fX3_of l1 (nI 0) S) fun v1 S1 =>
  if v1 ≤ l2 then
    some (-2, S1)
  else
    bd2 (fX3_of l1 ((nI 1) + l2) S1) fun v3 S3 =>
    if v3 = (-3) then
      some (-2, S3)
    else
      bd2 (fX3_of l1 ((nI 1) + l2) S3) fun v5 S5 =>
      some (v5, S5)
theorem wX3_partOf_b0 (hc : mC p s m args meth c D cI cJ cX3_partOf 3 (some .int)) (l1 : Int32) (l2 : Int32) (S : mS) (H : Heap) (locs : List Loc) (ls : Array Slot) (hP : va_P D mCl (mws am cI cJ S) H) (hD : va_D (mA am) (mws am cI cJ S)) (hS : va_S (mA am) s.heap H locs) (hl : lv_has ls 3 [(0, .ref (am 0)), (1, .int l1), (2, .int l2)]) (hf : fX3_partOf l1 l2 S = some (r, Sf)) : W p l e (mR 1 22) s m args below meth c H locs 0 0 (mQ below D am cI cJ (some (.int r)) Sf args s) (F0 m 0 ls []) := by
  obtain ⟨hx, hb, hr, hlk, hml, hown, hts, hK⟩ := hc
  have hc : mC p s m args meth c D cI cJ cX3_partOf 3 (some .int) := ⟨hx, hb, hr, hlk, hml, hown, hts, hK⟩
  unfold fX3_partOf at hf
  refine lv_iload_n (pc := 0) hx hb dX3_partOf_0 rfl (lv_at hl 2 rfl) ?_
  refine lv_aload_n (pc := 1) hx hb dX3_partOf_1 rfl (lv_at hl 0 rfl) ?_
  refine lv_iload_n (pc := 2) hx hb dX3_partOf_2 rfl (lv_at hl 1 rfl) ?_
  refine lv_iconst (pc := 3) (v := nI 0) hx hb dX3_partOf_3 rfl ?_
  obtain ⟨v1, S1, e1, hf⟩ := bd2o hf
  refine m_callV (pc := 4) (As := [.int l1, .int (nI 0)]) (rest := [.int l2]) (st1 := [.int v1, .int l2]) hc (mX3_of e1) (cwV 2 hts (lw_V q2949 q2951 qs58 q105 q2952) rfl rfl rfl hdX3_of ⟨Nat.le_of_ble_eq_true rfl, Nat.le_of_ble_eq_true rfl⟩) rfl hl.1 rfl rfl (lv_room (Nat.le_of_ble_eq_true rfl)) dX3_partOf_4 hP hD hS (fun H locs hP hD hS => ?_)
  refine lv_icmp_ge (pc := 7) (tgt := 23) hx hb dX3_partOf_7 (by decide) (fun c2 => ?_) (fun c2 => ?_)
  · rw [if_pos c2] at hf
    refine lv_bipush (pc := 23) (v := -2) hx hb dX3_partOf_23 kcbm2 ?_
    refine lv_goto (pc := 25) (tgt := 36) hx hb dX3_partOf_25 (by decide) ?_
    exact m_iret (pc := 36) hx hb hr hlk hP hD hS hf dX3_partOf_36
  · rw [if_neg c2] at hf
    refine lv_aload_n (pc := 10) hx hb dX3_partOf_10 rfl (lv_at hl 0 rfl) ?_
    refine lv_iload_n (pc := 11) hx hb dX3_partOf_11 rfl (lv_at hl 1 rfl) ?_
    refine lv_iconst (pc := 12) (v := nI 1) hx hb dX3_partOf_12 rfl ?_
    refine lv_iload_n (pc := 13) hx hb dX3_partOf_13 rfl (lv_at hl 2 rfl) ?_
    refine lv_iadd (pc := 14) hx hb dX3_partOf_14 ?_
    obtain ⟨v3, S3, e3, hf⟩ := bd2o hf
    refine m_callV (pc := 15) (As := [.int l1, .int ((nI 1) + l2)]) (rest := []) (st1 := [.int v3]) hc (mX3_of e3) (cwV 2 hts (lw_V q2949 q2951 qs58 q105 q2952) rfl rfl rfl hdX3_of ⟨Nat.le_of_ble_eq_true rfl, Nat.le_of_ble_eq_true rfl⟩) rfl hl.1 rfl rfl (lv_room (Nat.le_of_ble_eq_true rfl)) dX3_partOf_15 hP hD hS (fun H locs hP hD hS => ?_)
    refine lv_bipush (pc := 18) (v := -3) hx hb dX3_partOf_18 kcbm3 ?_
    refine lv_icmp_ne (pc := 20) (tgt := 28) hx hb dX3_partOf_20 (by decide) (fun c4 => ?_) (fun c4 => ?_)
    · rw [if_neg c4] at hf
      refine lv_aload_n (pc := 28) hx hb dX3_partOf_28 rfl (lv_at hl 0 rfl) ?_
      refine lv_iload_n (pc := 29) hx hb dX3_partOf_29 rfl (lv_at hl 1 rfl) ?_
      refine lv_iconst (pc := 30) (v := nI 1) hx hb dX3_partOf_30 rfl ?_
      refine lv_iload_n (pc := 31) hx hb dX3_partOf_31 rfl (lv_at hl 2 rfl) ?_
      refine lv_iadd (pc := 32) hx hb dX3_partOf_32 ?_
      obtain ⟨v5, S5, e5, hf⟩ := bd2o hf
      refine m_callV (pc := 33) (As := [.int l1, .int ((nI 1) + l2)]) (rest := []) (st1 := [.int v5]) hc (mX3_of e5) (cwV 2 hts (lw_V q2949 q2951 qs58 q105 q2952) rfl rfl rfl hdX3_of ⟨Nat.le_of_ble_eq_true rfl, Nat.le_of_ble_eq_true rfl⟩) rfl hl.1 rfl rfl (lv_room (Nat.le_of_ble_eq_true rfl)) dX3_partOf_33 hP hD hS (fun H locs hP hD hS => ?_)
      exact m_iret (pc := 36) hx hb hr hlk hP hD hS hf dX3_partOf_36
    · rw [if_pos c4] at hf
      refine lv_bipush (pc := 23) (v := -2) hx hb dX3_partOf_23 kcbm2 ?_
      refine lv_goto (pc := 25) (tgt := 36) hx hb dX3_partOf_25 (by decide) ?_
      exact m_iret (pc := 36) hx hb hr hlk hP hD hS hf dX3_partOf_36
theorem mX3_partOf {S S2 : mS} {r2 : Int32} {l1 : Int32} {l2 : Int32} (hf : fX3_partOf l1 l2 S = some (r2, S2)) : mMet l yX3_partOf cX3_partOf 3 (some .int) 1 22 D am cI cJ [.ref (am 0), .int l1, .int l2] S (some (.int r2)) S2 := by
  exact m_start (by decide) rfl (Nat.le_of_ble_eq_true rfl) (fun p e s m args below meth c ls hc hl hP hD => wX3_partOf_b0 hc l1 l2 S _ _ ls hP hD va_S.rf (lv_sub hl [0, 1, 2] rfl) hf)
end
section
variable {r : Int32} {Sf : mS}
def fX3_isFit_b19 : Nat → Int32 → Int32 → mS → Option (Int32 × mS)
  | 0, _, _, _ => none
  | n + 1, l1, l2, S =>
    bd (mrd S 0 7919 (nI 6)) fun v1 =>
    if v1 ≤ l2 then
      zr (nI 1) S
    else
      bd2 (fX3_partOf l1 l2 S) fun v3 S3 =>
      if v3 = (-2) then
        fX3_isFit_b19 n l1 (l2 + (nI 1)) S3
      else
        bd2 (fX3_partOf l1 l2 S3) fun v5 S5 =>
        bd (mrd S5 0 7919 ((nI 7) + l2)) fun v6 =>
        if v5 = v6 then
          fX3_isFit_b19 n l1 (l2 + (nI 1)) S5
        else
          zr (nI 0) S5
theorem wX3_isFit_b19 (hc : mC p s m args meth c D cI cJ cX3_isFit 3 (some .boolean)) : ∀ (n : Nat) (l1 : Int32) (l2 : Int32) (S : mS) (H : Heap) (locs : List Loc) (ls : Array Slot), va_P D mCl (mws am cI cJ S) H → va_D (mA am) (mws am cI cJ S) → va_S (mA am) s.heap H locs → lv_has ls 3 [(0, .ref (am 0)), (1, .int l1), (2, .int l2)] → fX3_isFit_b19 n l1 l2 S = some (r, Sf) → W p l e (mR 2 45) s m args below meth c H locs 0 0 (mQ below D am cI cJ (some (.int r)) Sf args s) (F0 m 19 ls []) := by
  obtain ⟨hx, hb, hr, hlk, hml, hown, hts, hK⟩ := hc
  have hc : mC p s m args meth c D cI cJ cX3_isFit 3 (some .boolean) := ⟨hx, hb, hr, hlk, hml, hown, hts, hK⟩
  intro n
  induction n with
  | zero => intro l1 l2 S H locs ls _ _ _ _ hf; exact absurd hf (fun h => by cases h)
  | succ n ih =>
    intro l1 l2 S H locs ls hP hD hS hl hf
    rw [fX3_isFit_b19] at hf
    refine lv_iload_n (pc := 19) hx hb dX3_isFit_19 rfl (lv_at hl 2 rfl) ?_
    refine lv_aload_n (pc := 20) hx hb dX3_isFit_20 rfl (lv_at hl 0 rfl) ?_
    refine va_get (D := D) (ci := 0) (v := .ref (am 1)) (C := RX3) (T := TX3) (N := 17) (pc := 21) hx hb hts in_X3 hown hK hP 0 rfl rfl 0 (by decide) (hts _ q2839) (fun _ h9 => h9) rfl dX3_isFit_21 ?_
    refine lv_bipush (pc := 24) (v := nI 6) hx hb dX3_isFit_24 kcb6 ?_
    obtain ⟨v1, e1, hf⟩ := bdo hf
    refine m_iald (pc := 26) (k := 0) hx hb hK hP rfl e1 dX3_isFit_26 ?_
    refine lv_icmp_ge (pc := 27) (tgt := 67) hx hb dX3_isFit_27 (by decide) (fun c2 => ?_) (fun c2 => ?_)
    · rw [if_pos c2] at hf
      refine lv_iconst (pc := 67) (v := nI 1) hx hb dX3_isFit_67 rfl ?_
      exact m_zret (pc := 68) hx hb hr hlk hP hD hS hf dX3_isFit_68
    · rw [if_neg c2] at hf
      refine lv_aload_n (pc := 30) hx hb dX3_isFit_30 rfl (lv_at hl 0 rfl) ?_
      refine lv_iload_n (pc := 31) hx hb dX3_isFit_31 rfl (lv_at hl 1 rfl) ?_
      refine lv_iload_n (pc := 32) hx hb dX3_isFit_32 rfl (lv_at hl 2 rfl) ?_
      obtain ⟨v3, S3, e3, hf⟩ := bd2o hf
      refine m_callV (pc := 33) (As := [.int l1, .int l2]) (rest := []) (st1 := [.int v3]) hc (mX3_partOf e3) (cwV 2 hts (lw_V q2953 q2955 qs59 q105 q2956) rfl rfl rfl hdX3_partOf ⟨Nat.le_of_ble_eq_true rfl, Nat.le_of_ble_eq_true rfl⟩) rfl hl.1 rfl rfl (lv_room (Nat.le_of_ble_eq_true rfl)) dX3_isFit_33 hP hD hS (fun H locs hP hD hS => ?_)
      refine lv_bipush (pc := 36) (v := -2) hx hb dX3_isFit_36 kcbm2 ?_
      refine lv_icmp_eq (pc := 38) (tgt := 61) hx hb dX3_isFit_38 (by decide) (fun c4 => ?_) (fun c4 => ?_)
      · rw [if_pos c4] at hf
        refine lv_iinc (pc := 61) (v := l2 + (nI 1)) (lv' := [(2, .int (l2 + (nI 1))), (0, .ref (am 0)), (1, .int l1)]) hx hb dX3_isFit_61 hl (k := 2) rfl rfl (by decide) rfl (fun ls hl => ?_)
        refine lv_goto (pc := 64) (tgt := 19) hx hb dX3_isFit_64 (by decide) ?_
        exact ih l1 (l2 + (nI 1)) S3 _ _ ls hP hD hS (lv_sub hl [1, 2, 0] rfl) hf
      · rw [if_neg c4] at hf
        refine lv_aload_n (pc := 41) hx hb dX3_isFit_41 rfl (lv_at hl 0 rfl) ?_
        refine lv_iload_n (pc := 42) hx hb dX3_isFit_42 rfl (lv_at hl 1 rfl) ?_
        refine lv_iload_n (pc := 43) hx hb dX3_isFit_43 rfl (lv_at hl 2 rfl) ?_
        obtain ⟨v5, S5, e5, hf⟩ := bd2o hf
        refine m_callV (pc := 44) (As := [.int l1, .int l2]) (rest := []) (st1 := [.int v5]) hc (mX3_partOf e5) (cwV 2 hts (lw_V q2953 q2955 qs59 q105 q2956) rfl rfl rfl hdX3_partOf ⟨Nat.le_of_ble_eq_true rfl, Nat.le_of_ble_eq_true rfl⟩) rfl hl.1 rfl rfl (lv_room (Nat.le_of_ble_eq_true rfl)) dX3_isFit_44 hP hD hS (fun H locs hP hD hS => ?_)
        refine lv_aload_n (pc := 47) hx hb dX3_isFit_47 rfl (lv_at hl 0 rfl) ?_
        refine va_get (D := D) (ci := 0) (v := .ref (am 1)) (C := RX3) (T := TX3) (N := 17) (pc := 48) hx hb hts in_X3 hown hK hP 0 rfl rfl 0 (by decide) (hts _ q2839) (fun _ h9 => h9) rfl dX3_isFit_48 ?_
        refine lv_bipush (pc := 51) (v := nI 7) hx hb dX3_isFit_51 kcb7 ?_
        refine lv_iload_n (pc := 53) hx hb dX3_isFit_53 rfl (lv_at hl 2 rfl) ?_
        refine lv_iadd (pc := 54) hx hb dX3_isFit_54 ?_
        obtain ⟨v6, e6, hf⟩ := bdo hf
        refine m_iald (pc := 55) (k := 0) hx hb hK hP rfl e6 dX3_isFit_55 ?_
        refine lv_icmp_eq (pc := 56) (tgt := 61) hx hb dX3_isFit_56 (by decide) (fun c7 => ?_) (fun c7 => ?_)
        · rw [if_pos c7] at hf
          refine lv_iinc (pc := 61) (v := l2 + (nI 1)) (lv' := [(2, .int (l2 + (nI 1))), (0, .ref (am 0)), (1, .int l1)]) hx hb dX3_isFit_61 hl (k := 2) rfl rfl (by decide) rfl (fun ls hl => ?_)
          refine lv_goto (pc := 64) (tgt := 19) hx hb dX3_isFit_64 (by decide) ?_
          exact ih l1 (l2 + (nI 1)) S5 _ _ ls hP hD hS (lv_sub hl [1, 2, 0] rfl) hf
        · rw [if_neg c7] at hf
          refine lv_iconst (pc := 59) (v := nI 0) hx hb dX3_isFit_59 rfl ?_
          exact m_zret (pc := 60) hx hb hr hlk hP hD hS hf dX3_isFit_60
def fX3_isFit (l1 : Int32) (S : mS) : Option (Int32 × mS) :=
  bd (mrd S 0 7919 (nI 6)) fun v1 =>
  bd2 (fX3_isLong l1 v1 S) fun v2 S2 =>
  if v2 = 0 then
    zr (nI 0) S2
  else
    fX3_isFit_b19 FU l1 (nI 0) S2
theorem wX3_isFit_b0 (hc : mC p s m args meth c D cI cJ cX3_isFit 3 (some .boolean)) (l1 : Int32) (S : mS) (H : Heap) (locs : List Loc) (ls : Array Slot) (hP : va_P D mCl (mws am cI cJ S) H) (hD : va_D (mA am) (mws am cI cJ S)) (hS : va_S (mA am) s.heap H locs) (hl : lv_has ls 3 [(0, .ref (am 0)), (1, .int l1)]) (hf : fX3_isFit l1 S = some (r, Sf)) : W p l e (mR 2 45) s m args below meth c H locs 0 0 (mQ below D am cI cJ (some (.int r)) Sf args s) (F0 m 0 ls []) := by
  obtain ⟨hx, hb, hr, hlk, hml, hown, hts, hK⟩ := hc
  have hc : mC p s m args meth c D cI cJ cX3_isFit 3 (some .boolean) := ⟨hx, hb, hr, hlk, hml, hown, hts, hK⟩
  unfold fX3_isFit at hf
  refine lv_aload_n (pc := 0) hx hb dX3_isFit_0 rfl (lv_at hl 0 rfl) ?_
  refine lv_iload_n (pc := 1) hx hb dX3_isFit_1 rfl (lv_at hl 1 rfl) ?_
  refine lv_aload_n (pc := 2) hx hb dX3_isFit_2 rfl (lv_at hl 0 rfl) ?_
  refine va_get (D := D) (ci := 0) (v := .ref (am 1)) (C := RX3) (T := TX3) (N := 17) (pc := 3) hx hb hts in_X3 hown hK hP 0 rfl rfl 0 (by decide) (hts _ q2839) (fun _ h9 => h9) rfl dX3_isFit_3 ?_
  refine lv_bipush (pc := 6) (v := nI 6) hx hb dX3_isFit_6 kcb6 ?_
  obtain ⟨v1, e1, hf⟩ := bdo hf
  refine m_iald (pc := 8) (k := 0) hx hb hK hP rfl e1 dX3_isFit_8 ?_
  obtain ⟨v2, S2, e2, hf⟩ := bd2o hf
  refine m_callV (pc := 9) (As := [.int l1, .int v1]) (rest := []) (st1 := [.int v2]) hc (mX3_isLong e2) (cwV 2 hts (lw_V q2945 q2947 qs57 q105 q2948) rfl rfl rfl hdX3_isLong ⟨Nat.le_of_ble_eq_true rfl, Nat.le_of_ble_eq_true rfl⟩) rfl hl.1 rfl rfl (lv_room (Nat.le_of_ble_eq_true rfl)) dX3_isFit_9 hP hD hS (fun H locs hP hD hS => ?_)
  refine lv_if_ne (pc := 12) (tgt := 17) hx hb dX3_isFit_12 (by decide) (fun c3 => ?_) (fun c3 => ?_)
  · rw [if_neg c3] at hf
    refine lv_iconst (pc := 17) (v := nI 0) hx hb dX3_isFit_17 rfl ?_
    refine lv_istore_n (pc := 18) (lv' := [(2, .int (nI 0)), (0, .ref (am 0)), (1, .int l1)]) hx hb dX3_isFit_18 rfl hl (by decide) rfl (fun ls hl => ?_)
    exact wX3_isFit_b19 hc FU l1 (nI 0) S2 _ _ ls hP hD hS (lv_sub hl [1, 2, 0] rfl) hf
  · rw [if_pos c3] at hf
    refine lv_iconst (pc := 15) (v := nI 0) hx hb dX3_isFit_15 rfl ?_
    exact m_zret (pc := 16) hx hb hr hlk hP hD hS hf dX3_isFit_16
theorem mX3_isFit {S S2 : mS} {r2 : Int32} {l1 : Int32} (hf : fX3_isFit l1 S = some (r2, S2)) : mMet l yX3_isFit cX3_isFit 3 (some .boolean) 2 45 D am cI cJ [.ref (am 0), .int l1] S (some (.int r2)) S2 := by
  exact m_start (by decide) rfl (Nat.le_of_ble_eq_true rfl) (fun p e s m args below meth c ls hc hl hP hD => wX3_isFit_b0 hc l1 S _ _ ls hP hD va_S.rf (lv_sub hl [0, 1] rfl) hf)
end
section
variable {r : Int32} {Sf : mS}
def fX3_newDead_b51 (l1 : Int32) (l2 : Int32) (S : mS) : Option (Int32 × mS) :=
  bd (mrd S 0 7919 (nI 3)) fun v1 =>
  bd (mrd S 0 7919 (nI 3)) fun v2 =>
  bd (mwr S 0 7919 (nI 3) (v2 + (nI 1))) fun S3 =>
  bd (mwr S3 0 7919 ((nI 2751) + ((nI 24) * v1)) l2) fun S4 =>
  bd (mwr S4 0 7919 (((nI 2751) + ((nI 24) * v1)) + (nI 1)) l1) fun S5 =>
  bd (mrd S5 0 7919 (nI 4)) fun v6 =>
  bd (mwr S5 0 7919 (((nI 2751) + ((nI 24) * v1)) + (nI 2)) v6) fun S7 =>
  bd (mwr S7 0 7919 (((nI 2751) + ((nI 24) * v1)) + (nI 3)) (nI 0)) fun S8 =>
  bd2 (fX3_of l1 (nI 34) S8) fun v9 S9 =>
  bd2 (fX3_is l1 (nI 34) (v9 + (nI 1)) S9) fun _ S10 =>
  some ((nI 2751) + ((nI 24) * v1), S10)
theorem wX3_newDead_b51 (hc : mC p s m args meth c D cI cJ cX3_newDead 4 (some .int)) (l1 : Int32) (l2 : Int32) (S : mS) (H : Heap) (locs : List Loc) (ls : Array Slot) (hP : va_P D mCl (mws am cI cJ S) H) (hD : va_D (mA am) (mws am cI cJ S)) (hS : va_S (mA am) s.heap H locs) (hl : lv_has ls 4 [(0, .ref (am 0)), (1, .int l1), (2, .int l2)]) (hf : fX3_newDead_b51 l1 l2 S = some (r, Sf)) : W p l e (mR 1 23) s m args below meth c H locs 0 0 (mQ below D am cI cJ (some (.int r)) Sf args s) (F0 m 51 ls []) := by
  obtain ⟨hx, hb, hr, hlk, hml, hown, hts, hK⟩ := hc
  have hc : mC p s m args meth c D cI cJ cX3_newDead 4 (some .int) := ⟨hx, hb, hr, hlk, hml, hown, hts, hK⟩
  unfold fX3_newDead_b51 at hf
  refine lv_sipush (pc := 51) (v := nI 2751) hx hb dX3_newDead_51 kcs2751 ?_
  refine lv_bipush (pc := 54) (v := nI 24) hx hb dX3_newDead_54 kcb24 ?_
  refine lv_aload_n (pc := 56) hx hb dX3_newDead_56 rfl (lv_at hl 0 rfl) ?_
  refine va_get (D := D) (ci := 0) (v := .ref (am 1)) (C := RX3) (T := TX3) (N := 17) (pc := 57) hx hb hts in_X3 hown hK hP 0 rfl rfl 0 (by decide) (hts _ q2839) (fun _ h9 => h9) rfl dX3_newDead_57 ?_
  refine lv_iconst (pc := 60) (v := nI 3) hx hb dX3_newDead_60 rfl ?_
  obtain ⟨v1, e1, hf⟩ := bdo hf
  refine m_iald (pc := 61) (k := 0) hx hb hK hP rfl e1 dX3_newDead_61 ?_
  refine lv_imul (pc := 62) hx hb dX3_newDead_62 ?_
  refine lv_iadd (pc := 63) hx hb dX3_newDead_63 ?_
  refine lv_istore_n (pc := 64) (lv' := [(3, .int ((nI 2751) + ((nI 24) * v1))), (0, .ref (am 0)), (1, .int l1), (2, .int l2)]) hx hb dX3_newDead_64 rfl hl (by decide) rfl (fun ls hl => ?_)
  refine lv_aload_n (pc := 65) hx hb dX3_newDead_65 rfl (lv_at hl 1 rfl) ?_
  refine va_get (D := D) (ci := 0) (v := .ref (am 1)) (C := RX3) (T := TX3) (N := 17) (pc := 66) hx hb hts in_X3 hown hK hP 0 rfl rfl 0 (by decide) (hts _ q2839) (fun _ h9 => h9) rfl dX3_newDead_66 ?_
  refine lv_iconst (pc := 69) (v := nI 3) hx hb dX3_newDead_69 rfl ?_
  refine lv_dup2_11 (pc := 70) hx hb dX3_newDead_70 rfl rfl ?_
  obtain ⟨v2, e2, hf⟩ := bdo hf
  refine m_iald (pc := 71) (k := 0) hx hb hK hP rfl e2 dX3_newDead_71 ?_
  refine lv_iconst (pc := 72) (v := nI 1) hx hb dX3_newDead_72 rfl ?_
  refine lv_iadd (pc := 73) hx hb dX3_newDead_73 ?_
  obtain ⟨S3, e3, hf⟩ := bdo hf
  refine m_iast (pc := 74) (k := 0) hx hb hK hP hD hS rfl (fun _ _ => rfl) e3 dX3_newDead_74 (fun H locs hP hD hS => ?_)
  refine lv_aload_n (pc := 75) hx hb dX3_newDead_75 rfl (lv_at hl 1 rfl) ?_
  refine va_get (D := D) (ci := 0) (v := .ref (am 1)) (C := RX3) (T := TX3) (N := 17) (pc := 76) hx hb hts in_X3 hown hK hP 0 rfl rfl 0 (by decide) (hts _ q2839) (fun _ h9 => h9) rfl dX3_newDead_76 ?_
  refine lv_iload_n (pc := 79) hx hb dX3_newDead_79 rfl (lv_at hl 0 rfl) ?_
  refine lv_iload_n (pc := 80) hx hb dX3_newDead_80 rfl (lv_at hl 3 rfl) ?_
  obtain ⟨S4, e4, hf⟩ := bdo hf
  refine m_iast (pc := 81) (k := 0) hx hb hK hP hD hS rfl (fun _ _ => rfl) e4 dX3_newDead_81 (fun H locs hP hD hS => ?_)
  refine lv_aload_n (pc := 82) hx hb dX3_newDead_82 rfl (lv_at hl 1 rfl) ?_
  refine va_get (D := D) (ci := 0) (v := .ref (am 1)) (C := RX3) (T := TX3) (N := 17) (pc := 83) hx hb hts in_X3 hown hK hP 0 rfl rfl 0 (by decide) (hts _ q2839) (fun _ h9 => h9) rfl dX3_newDead_83 ?_
  refine lv_iload_n (pc := 86) hx hb dX3_newDead_86 rfl (lv_at hl 0 rfl) ?_
  refine lv_iconst (pc := 87) (v := nI 1) hx hb dX3_newDead_87 rfl ?_
  refine lv_iadd (pc := 88) hx hb dX3_newDead_88 ?_
  refine lv_iload_n (pc := 89) hx hb dX3_newDead_89 rfl (lv_at hl 2 rfl) ?_
  obtain ⟨S5, e5, hf⟩ := bdo hf
  refine m_iast (pc := 90) (k := 0) hx hb hK hP hD hS rfl (fun _ _ => rfl) e5 dX3_newDead_90 (fun H locs hP hD hS => ?_)
  refine lv_aload_n (pc := 91) hx hb dX3_newDead_91 rfl (lv_at hl 1 rfl) ?_
  refine va_get (D := D) (ci := 0) (v := .ref (am 1)) (C := RX3) (T := TX3) (N := 17) (pc := 92) hx hb hts in_X3 hown hK hP 0 rfl rfl 0 (by decide) (hts _ q2839) (fun _ h9 => h9) rfl dX3_newDead_92 ?_
  refine lv_iload_n (pc := 95) hx hb dX3_newDead_95 rfl (lv_at hl 0 rfl) ?_
  refine lv_iconst (pc := 96) (v := nI 2) hx hb dX3_newDead_96 rfl ?_
  refine lv_iadd (pc := 97) hx hb dX3_newDead_97 ?_
  refine lv_aload_n (pc := 98) hx hb dX3_newDead_98 rfl (lv_at hl 1 rfl) ?_
  refine va_get (D := D) (ci := 0) (v := .ref (am 1)) (C := RX3) (T := TX3) (N := 17) (pc := 99) hx hb hts in_X3 hown hK hP 0 rfl rfl 0 (by decide) (hts _ q2839) (fun _ h9 => h9) rfl dX3_newDead_99 ?_
  refine lv_iconst (pc := 102) (v := nI 4) hx hb dX3_newDead_102 rfl ?_
  obtain ⟨v6, e6, hf⟩ := bdo hf
  refine m_iald (pc := 103) (k := 0) hx hb hK hP rfl e6 dX3_newDead_103 ?_
  obtain ⟨S7, e7, hf⟩ := bdo hf
  refine m_iast (pc := 104) (k := 0) hx hb hK hP hD hS rfl (fun _ _ => rfl) e7 dX3_newDead_104 (fun H locs hP hD hS => ?_)
  refine lv_aload_n (pc := 105) hx hb dX3_newDead_105 rfl (lv_at hl 1 rfl) ?_
  refine va_get (D := D) (ci := 0) (v := .ref (am 1)) (C := RX3) (T := TX3) (N := 17) (pc := 106) hx hb hts in_X3 hown hK hP 0 rfl rfl 0 (by decide) (hts _ q2839) (fun _ h9 => h9) rfl dX3_newDead_106 ?_
  refine lv_iload_n (pc := 109) hx hb dX3_newDead_109 rfl (lv_at hl 0 rfl) ?_
  refine lv_iconst (pc := 110) (v := nI 3) hx hb dX3_newDead_110 rfl ?_
  refine lv_iadd (pc := 111) hx hb dX3_newDead_111 ?_
  refine lv_iconst (pc := 112) (v := nI 0) hx hb dX3_newDead_112 rfl ?_
  obtain ⟨S8, e8, hf⟩ := bdo hf
  refine m_iast (pc := 113) (k := 0) hx hb hK hP hD hS rfl (fun _ _ => rfl) e8 dX3_newDead_113 (fun H locs hP hD hS => ?_)
  refine lv_aload_n (pc := 114) hx hb dX3_newDead_114 rfl (lv_at hl 1 rfl) ?_
  refine lv_iload_n (pc := 115) hx hb dX3_newDead_115 rfl (lv_at hl 2 rfl) ?_
  refine lv_bipush (pc := 116) (v := nI 34) hx hb dX3_newDead_116 kcb34 ?_
  refine lv_aload_n (pc := 118) hx hb dX3_newDead_118 rfl (lv_at hl 1 rfl) ?_
  refine lv_iload_n (pc := 119) hx hb dX3_newDead_119 rfl (lv_at hl 2 rfl) ?_
  refine lv_bipush (pc := 120) (v := nI 34) hx hb dX3_newDead_120 kcb34 ?_
  obtain ⟨v9, S9, e9, hf⟩ := bd2o hf
  refine m_callV (pc := 122) (As := [.int l1, .int (nI 34)]) (rest := [.int (nI 34), .int l1, .ref (am 0)]) (st1 := [.int v9, .int (nI 34), .int l1, .ref (am 0)]) hc (mX3_of e9) (cwV 2 hts (lw_V q2949 q2951 qs58 q105 q2952) rfl rfl rfl hdX3_of ⟨Nat.le_of_ble_eq_true rfl, Nat.le_of_ble_eq_true rfl⟩) rfl hl.1 rfl rfl (lv_room (Nat.le_of_ble_eq_true rfl)) dX3_newDead_122 hP hD hS (fun H locs hP hD hS => ?_)
  refine lv_iconst (pc := 125) (v := nI 1) hx hb dX3_newDead_125 rfl ?_
  refine lv_iadd (pc := 126) hx hb dX3_newDead_126 ?_
  obtain ⟨v10, S10, e10, hf⟩ := bd2o hf
  refine m_callV (pc := 127) (As := [.int l1, .int (nI 34), .int (v9 + (nI 1))]) (rest := []) (st1 := []) hc (mX3_is e10) (cwV 3 hts (lw_V q2933 q2935 qs55 q105 q2936) rfl rfl rfl hdX3_is ⟨Nat.le_of_ble_eq_true rfl, Nat.le_of_ble_eq_true rfl⟩) rfl hl.1 rfl rfl (lv_room (Nat.le_of_ble_eq_true rfl)) dX3_newDead_127 hP hD hS (fun H locs hP hD hS => ?_)
  refine lv_iload_n (pc := 130) hx hb dX3_newDead_130 rfl (lv_at hl 0 rfl) ?_
  exact m_iret (pc := 131) hx hb hr hlk hP hD hS hf dX3_newDead_131
def fX3_newDead_b15 : Nat → Int32 → Int32 → Int32 → mS → Option (Int32 × mS)
  | 0, _, _, _, _ => none
  | n + 1, l1, l2, l3, S =>
    if (nI 3447) ≤ l3 then
      bd (mwr S 0 7919 (nI 3) (nI 29)) fun S2 =>
      fX3_newDead_b51 l1 l2 S2
    else
      bd (mrd S 0 7919 (l3 + (nI 24))) fun v3 =>
      bd (mwr S 0 7919 l3 v3) fun S4 =>
      fX3_newDead_b15 n l1 l2 (l3 + (nI 1)) S4
theorem wX3_newDead_b15 (hc : mC p s m args meth c D cI cJ cX3_newDead 4 (some .int)) : ∀ (n : Nat) (l1 : Int32) (l2 : Int32) (l3 : Int32) (S : mS) (H : Heap) (locs : List Loc) (ls : Array Slot), va_P D mCl (mws am cI cJ S) H → va_D (mA am) (mws am cI cJ S) → va_S (mA am) s.heap H locs → lv_has ls 4 [(0, .ref (am 0)), (1, .int l1), (2, .int l2), (3, .int l3)] → fX3_newDead_b15 n l1 l2 l3 S = some (r, Sf) → W p l e (mR 1 23) s m args below meth c H locs 0 0 (mQ below D am cI cJ (some (.int r)) Sf args s) (F0 m 15 ls []) := by
  obtain ⟨hx, hb, hr, hlk, hml, hown, hts, hK⟩ := hc
  have hc : mC p s m args meth c D cI cJ cX3_newDead 4 (some .int) := ⟨hx, hb, hr, hlk, hml, hown, hts, hK⟩
  intro n
  induction n with
  | zero => intro l1 l2 l3 S H locs ls _ _ _ _ hf; exact absurd hf (fun h => by cases h)
  | succ n ih =>
    intro l1 l2 l3 S H locs ls hP hD hS hl hf
    rw [fX3_newDead_b15] at hf
    refine lv_iload_n (pc := 15) hx hb dX3_newDead_15 rfl (lv_at hl 3 rfl) ?_
    refine lv_sipush (pc := 16) (v := nI 3447) hx hb dX3_newDead_16 kcs3447 ?_
    refine lv_icmp_ge (pc := 19) (tgt := 43) hx hb dX3_newDead_19 (by decide) (fun c1 => ?_) (fun c1 => ?_)
    · rw [if_pos c1] at hf
      refine lv_aload_n (pc := 43) hx hb dX3_newDead_43 rfl (lv_at hl 0 rfl) ?_
      refine va_get (D := D) (ci := 0) (v := .ref (am 1)) (C := RX3) (T := TX3) (N := 17) (pc := 44) hx hb hts in_X3 hown hK hP 0 rfl rfl 0 (by decide) (hts _ q2839) (fun _ h9 => h9) rfl dX3_newDead_44 ?_
      refine lv_iconst (pc := 47) (v := nI 3) hx hb dX3_newDead_47 rfl ?_
      refine lv_bipush (pc := 48) (v := nI 29) hx hb dX3_newDead_48 kcb29 ?_
      obtain ⟨S2, e2, hf⟩ := bdo hf
      refine m_iast (pc := 50) (k := 0) hx hb hK hP hD hS rfl (fun _ _ => rfl) e2 dX3_newDead_50 (fun H locs hP hD hS => ?_)
      exact wX3_newDead_b51 hc l1 l2 S2 _ _ ls hP hD hS (lv_sub hl [0, 1, 2] rfl) hf
    · rw [if_neg c1] at hf
      refine lv_aload_n (pc := 22) hx hb dX3_newDead_22 rfl (lv_at hl 0 rfl) ?_
      refine va_get (D := D) (ci := 0) (v := .ref (am 1)) (C := RX3) (T := TX3) (N := 17) (pc := 23) hx hb hts in_X3 hown hK hP 0 rfl rfl 0 (by decide) (hts _ q2839) (fun _ h9 => h9) rfl dX3_newDead_23 ?_
      refine lv_iload_n (pc := 26) hx hb dX3_newDead_26 rfl (lv_at hl 3 rfl) ?_
      refine lv_aload_n (pc := 27) hx hb dX3_newDead_27 rfl (lv_at hl 0 rfl) ?_
      refine va_get (D := D) (ci := 0) (v := .ref (am 1)) (C := RX3) (T := TX3) (N := 17) (pc := 28) hx hb hts in_X3 hown hK hP 0 rfl rfl 0 (by decide) (hts _ q2839) (fun _ h9 => h9) rfl dX3_newDead_28 ?_
      refine lv_iload_n (pc := 31) hx hb dX3_newDead_31 rfl (lv_at hl 3 rfl) ?_
      refine lv_bipush (pc := 32) (v := nI 24) hx hb dX3_newDead_32 kcb24 ?_
      refine lv_iadd (pc := 34) hx hb dX3_newDead_34 ?_
      obtain ⟨v3, e3, hf⟩ := bdo hf
      refine m_iald (pc := 35) (k := 0) hx hb hK hP rfl e3 dX3_newDead_35 ?_
      obtain ⟨S4, e4, hf⟩ := bdo hf
      refine m_iast (pc := 36) (k := 0) hx hb hK hP hD hS rfl (fun _ _ => rfl) e4 dX3_newDead_36 (fun H locs hP hD hS => ?_)
      refine lv_iinc (pc := 37) (v := l3 + (nI 1)) (lv' := [(3, .int (l3 + (nI 1))), (0, .ref (am 0)), (1, .int l1), (2, .int l2)]) hx hb dX3_newDead_37 hl (k := 3) rfl rfl (by decide) rfl (fun ls hl => ?_)
      refine lv_goto (pc := 40) (tgt := 15) hx hb dX3_newDead_40 (by decide) ?_
      exact ih l1 l2 (l3 + (nI 1)) S4 _ _ ls hP hD hS (lv_sub hl [1, 2, 3, 0] rfl) hf
def fX3_newDead (l1 : Int32) (l2 : Int32) (S : mS) : Option (Int32 × mS) :=
  bd (mrd S 0 7919 (nI 3)) fun v1 =>
  if v1 = (nI 30) then
    fX3_newDead_b15 FU l1 l2 (nI 2751) S
  else
    fX3_newDead_b51 l1 l2 S
theorem wX3_newDead_b0 (hc : mC p s m args meth c D cI cJ cX3_newDead 4 (some .int)) (l1 : Int32) (l2 : Int32) (S : mS) (H : Heap) (locs : List Loc) (ls : Array Slot) (hP : va_P D mCl (mws am cI cJ S) H) (hD : va_D (mA am) (mws am cI cJ S)) (hS : va_S (mA am) s.heap H locs) (hl : lv_has ls 4 [(0, .ref (am 0)), (1, .int l1), (2, .int l2)]) (hf : fX3_newDead l1 l2 S = some (r, Sf)) : W p l e (mR 1 23) s m args below meth c H locs 0 0 (mQ below D am cI cJ (some (.int r)) Sf args s) (F0 m 0 ls []) := by
  obtain ⟨hx, hb, hr, hlk, hml, hown, hts, hK⟩ := hc
  have hc : mC p s m args meth c D cI cJ cX3_newDead 4 (some .int) := ⟨hx, hb, hr, hlk, hml, hown, hts, hK⟩
  unfold fX3_newDead at hf
  refine lv_aload_n (pc := 0) hx hb dX3_newDead_0 rfl (lv_at hl 0 rfl) ?_
  refine va_get (D := D) (ci := 0) (v := .ref (am 1)) (C := RX3) (T := TX3) (N := 17) (pc := 1) hx hb hts in_X3 hown hK hP 0 rfl rfl 0 (by decide) (hts _ q2839) (fun _ h9 => h9) rfl dX3_newDead_1 ?_
  refine lv_iconst (pc := 4) (v := nI 3) hx hb dX3_newDead_4 rfl ?_
  obtain ⟨v1, e1, hf⟩ := bdo hf
  refine m_iald (pc := 5) (k := 0) hx hb hK hP rfl e1 dX3_newDead_5 ?_
  refine lv_bipush (pc := 6) (v := nI 30) hx hb dX3_newDead_6 kcb30 ?_
  refine lv_icmp_ne (pc := 8) (tgt := 51) hx hb dX3_newDead_8 (by decide) (fun c2 => ?_) (fun c2 => ?_)
  · rw [if_neg c2] at hf
    exact wX3_newDead_b51 hc l1 l2 S _ _ ls hP hD hS (lv_sub hl [0, 1, 2] rfl) hf
  · rw [if_pos c2] at hf
    refine lv_sipush (pc := 11) (v := nI 2751) hx hb dX3_newDead_11 kcs2751 ?_
    refine lv_istore_n (pc := 14) (lv' := [(3, .int (nI 2751)), (0, .ref (am 0)), (1, .int l1), (2, .int l2)]) hx hb dX3_newDead_14 rfl hl (by decide) rfl (fun ls hl => ?_)
    exact wX3_newDead_b15 hc FU l1 l2 (nI 2751) S _ _ ls hP hD hS (lv_sub hl [1, 2, 3, 0] rfl) hf
theorem mX3_newDead {S S2 : mS} {r2 : Int32} {l1 : Int32} {l2 : Int32} (hf : fX3_newDead l1 l2 S = some (r2, S2)) : mMet l yX3_newDead cX3_newDead 4 (some .int) 1 23 D am cI cJ [.ref (am 0), .int l1, .int l2] S (some (.int r2)) S2 := by
  exact m_start (by decide) rfl (Nat.le_of_ble_eq_true rfl) (fun p e s m args below meth c ls hc hl hP hD => wX3_newDead_b0 hc l1 l2 S _ _ ls hP hD va_S.rf (lv_sub hl [0, 1, 2] rfl) hf)
end
section
variable {r : Unit} {Sf : mS}
def fX3_ahead (l1 : Int32) (l2 : Int32) (l3 : Int32) (l4 : Int32) (S : mS) : Option (Unit × mS) :=
  bd (mwr S 0 7919 l1 l3) fun S1 =>
  bd (mrd S1 0 7919 (nI 4)) fun v2 =>
  bd (mwr S1 0 7919 (l1 + (nI 1)) v2) fun S3 =>
  bd (mwr S3 0 7919 (l1 + (nI 2)) l4) fun S4 =>
  bd (mwr S4 0 7919 (l1 + (nI 3)) l2) fun S5 =>
  some ((), S5)
theorem wX3_ahead_b0 (hc : mC p s m args meth c D cI cJ cX3_ahead 5 (none)) (l1 : Int32) (l2 : Int32) (l3 : Int32) (l4 : Int32) (S : mS) (H : Heap) (locs : List Loc) (ls : Array Slot) (hP : va_P D mCl (mws am cI cJ S) H) (hD : va_D (mA am) (mws am cI cJ S)) (hS : va_S (mA am) s.heap H locs) (hl : lv_has ls 5 [(0, .ref (am 0)), (1, .int l1), (2, .int l2), (3, .int l3), (4, .int l4)]) (hf : fX3_ahead l1 l2 l3 l4 S = some (r, Sf)) : W p l e (mR 0 0) s m args below meth c H locs 0 0 (mQ below D am cI cJ none Sf args s) (F0 m 0 ls []) := by
  obtain ⟨hx, hb, hr, hlk, hml, hown, hts, hK⟩ := hc
  have hc : mC p s m args meth c D cI cJ cX3_ahead 5 (none) := ⟨hx, hb, hr, hlk, hml, hown, hts, hK⟩
  unfold fX3_ahead at hf
  refine lv_aload_n (pc := 0) hx hb dX3_ahead_0 rfl (lv_at hl 0 rfl) ?_
  refine va_get (D := D) (ci := 0) (v := .ref (am 1)) (C := RX3) (T := TX3) (N := 17) (pc := 1) hx hb hts in_X3 hown hK hP 0 rfl rfl 0 (by decide) (hts _ q2839) (fun _ h9 => h9) rfl dX3_ahead_1 ?_
  refine lv_iload_n (pc := 4) hx hb dX3_ahead_4 rfl (lv_at hl 1 rfl) ?_
  refine lv_iload_n (pc := 5) hx hb dX3_ahead_5 rfl (lv_at hl 3 rfl) ?_
  obtain ⟨S1, e1, hf⟩ := bdo hf
  refine m_iast (pc := 6) (k := 0) hx hb hK hP hD hS rfl (fun _ _ => rfl) e1 dX3_ahead_6 (fun H locs hP hD hS => ?_)
  refine lv_aload_n (pc := 7) hx hb dX3_ahead_7 rfl (lv_at hl 0 rfl) ?_
  refine va_get (D := D) (ci := 0) (v := .ref (am 1)) (C := RX3) (T := TX3) (N := 17) (pc := 8) hx hb hts in_X3 hown hK hP 0 rfl rfl 0 (by decide) (hts _ q2839) (fun _ h9 => h9) rfl dX3_ahead_8 ?_
  refine lv_iload_n (pc := 11) hx hb dX3_ahead_11 rfl (lv_at hl 1 rfl) ?_
  refine lv_iconst (pc := 12) (v := nI 1) hx hb dX3_ahead_12 rfl ?_
  refine lv_iadd (pc := 13) hx hb dX3_ahead_13 ?_
  refine lv_aload_n (pc := 14) hx hb dX3_ahead_14 rfl (lv_at hl 0 rfl) ?_
  refine va_get (D := D) (ci := 0) (v := .ref (am 1)) (C := RX3) (T := TX3) (N := 17) (pc := 15) hx hb hts in_X3 hown hK hP 0 rfl rfl 0 (by decide) (hts _ q2839) (fun _ h9 => h9) rfl dX3_ahead_15 ?_
  refine lv_iconst (pc := 18) (v := nI 4) hx hb dX3_ahead_18 rfl ?_
  obtain ⟨v2, e2, hf⟩ := bdo hf
  refine m_iald (pc := 19) (k := 0) hx hb hK hP rfl e2 dX3_ahead_19 ?_
  obtain ⟨S3, e3, hf⟩ := bdo hf
  refine m_iast (pc := 20) (k := 0) hx hb hK hP hD hS rfl (fun _ _ => rfl) e3 dX3_ahead_20 (fun H locs hP hD hS => ?_)
  refine lv_aload_n (pc := 21) hx hb dX3_ahead_21 rfl (lv_at hl 0 rfl) ?_
  refine va_get (D := D) (ci := 0) (v := .ref (am 1)) (C := RX3) (T := TX3) (N := 17) (pc := 22) hx hb hts in_X3 hown hK hP 0 rfl rfl 0 (by decide) (hts _ q2839) (fun _ h9 => h9) rfl dX3_ahead_22 ?_
  refine lv_iload_n (pc := 25) hx hb dX3_ahead_25 rfl (lv_at hl 1 rfl) ?_
  refine lv_iconst (pc := 26) (v := nI 2) hx hb dX3_ahead_26 rfl ?_
  refine lv_iadd (pc := 27) hx hb dX3_ahead_27 ?_
  refine lv_iload (pc := 28) hx hb dX3_ahead_28 (lv_at hl 4 rfl) ?_
  obtain ⟨S4, e4, hf⟩ := bdo hf
  refine m_iast (pc := 30) (k := 0) hx hb hK hP hD hS rfl (fun _ _ => rfl) e4 dX3_ahead_30 (fun H locs hP hD hS => ?_)
  refine lv_aload_n (pc := 31) hx hb dX3_ahead_31 rfl (lv_at hl 0 rfl) ?_
  refine va_get (D := D) (ci := 0) (v := .ref (am 1)) (C := RX3) (T := TX3) (N := 17) (pc := 32) hx hb hts in_X3 hown hK hP 0 rfl rfl 0 (by decide) (hts _ q2839) (fun _ h9 => h9) rfl dX3_ahead_32 ?_
  refine lv_iload_n (pc := 35) hx hb dX3_ahead_35 rfl (lv_at hl 1 rfl) ?_
  refine lv_iconst (pc := 36) (v := nI 3) hx hb dX3_ahead_36 rfl ?_
  refine lv_iadd (pc := 37) hx hb dX3_ahead_37 ?_
  refine lv_iload_n (pc := 38) hx hb dX3_ahead_38 rfl (lv_at hl 2 rfl) ?_
  obtain ⟨S5, e5, hf⟩ := bdo hf
  refine m_iast (pc := 39) (k := 0) hx hb hK hP hD hS rfl (fun _ _ => rfl) e5 dX3_ahead_39 (fun H locs hP hD hS => ?_)
  exact m_vret (pc := 40) hx hb hr hlk hP hD hS hf dX3_ahead_40
theorem mX3_ahead {S S2 : mS} {r2 : Unit} {l1 : Int32} {l2 : Int32} {l3 : Int32} {l4 : Int32} (hf : fX3_ahead l1 l2 l3 l4 S = some (r2, S2)) : mMet l yX3_ahead cX3_ahead 5 (none) 0 0 D am cI cJ [.ref (am 0), .int l1, .int l2, .int l3, .int l4] S none S2 := by
  exact m_start (by decide) rfl (Nat.le_of_ble_eq_true rfl) (fun p e s m args below meth c ls hc hl hP hD => wX3_ahead_b0 hc l1 l2 l3 l4 S _ _ ls hP hD va_S.rf (lv_sub hl [0, 1, 2, 3, 4] rfl) hf)
end
section
variable {r : Unit} {Sf : mS}
def fX3_comes_b86 : Nat → Int32 → Int32 → Int32 → Int32 → Int32 → mS → Option (Unit × mS)
  | 0, _, _, _, _, _, _ => none
  | n + 1, l1, l2, l3, l4, l5, S =>
    if (nI 26) ≤ l5 then
      bd2 (fX3_letterIs l1 l4 (nI 0) l2 S) fun _ S2 =>
      bd2 (fX3_letterIs l1 l4 (nI 3) (-1) S2) fun _ S3 =>
      bd2 (fX3_letterIs l1 l4 (nI 4) (-1) S3) fun _ S4 =>
      bd2 (fX3_is l1 (nI 35) (l3 + (nI 1)) S4) fun _ S5 =>
      some ((), S5)
    else
      bd2 (fX3_letterIs l1 l4 l5 (nI 0) S) fun _ S6 =>
      fX3_comes_b86 n l1 l2 l3 l4 (l5 + (nI 1)) S6
theorem wX3_comes_b86 (hc : mC p s m args meth c D cI cJ cX3_comes 6 (none)) : ∀ (n : Nat) (l1 : Int32) (l2 : Int32) (l3 : Int32) (l4 : Int32) (l5 : Int32) (S : mS) (H : Heap) (locs : List Loc) (ls : Array Slot), va_P D mCl (mws am cI cJ S) H → va_D (mA am) (mws am cI cJ S) → va_S (mA am) s.heap H locs → lv_has ls 6 [(0, .ref (am 0)), (1, .int l1), (2, .int l2), (3, .int l3), (4, .int l4), (5, .int l5)] → fX3_comes_b86 n l1 l2 l3 l4 l5 S = some (r, Sf) → W p l e (mR 2 47) s m args below meth c H locs 0 0 (mQ below D am cI cJ none Sf args s) (F0 m 86 ls []) := by
  obtain ⟨hx, hb, hr, hlk, hml, hown, hts, hK⟩ := hc
  have hc : mC p s m args meth c D cI cJ cX3_comes 6 (none) := ⟨hx, hb, hr, hlk, hml, hown, hts, hK⟩
  intro n
  induction n with
  | zero => intro l1 l2 l3 l4 l5 S H locs ls _ _ _ _ hf; exact absurd hf (fun h => by cases h)
  | succ n ih =>
    intro l1 l2 l3 l4 l5 S H locs ls hP hD hS hl hf
    rw [fX3_comes_b86] at hf
    refine lv_iload (pc := 86) hx hb dX3_comes_86 (lv_at hl 5 rfl) ?_
    refine lv_bipush (pc := 88) (v := nI 26) hx hb dX3_comes_88 kcb26 ?_
    refine lv_icmp_ge (pc := 90) (tgt := 109) hx hb dX3_comes_90 (by decide) (fun c1 => ?_) (fun c1 => ?_)
    · rw [if_pos c1] at hf
      refine lv_aload_n (pc := 109) hx hb dX3_comes_109 rfl (lv_at hl 0 rfl) ?_
      refine lv_iload_n (pc := 110) hx hb dX3_comes_110 rfl (lv_at hl 1 rfl) ?_
      refine lv_iload (pc := 111) hx hb dX3_comes_111 (lv_at hl 4 rfl) ?_
      refine lv_iconst (pc := 113) (v := nI 0) hx hb dX3_comes_113 rfl ?_
      refine lv_iload_n (pc := 114) hx hb dX3_comes_114 rfl (lv_at hl 2 rfl) ?_
      obtain ⟨v2, S2, e2, hf⟩ := bd2o hf
      refine m_callV (pc := 115) (As := [.int l1, .int l4, .int (nI 0), .int l2]) (rest := []) (st1 := []) hc (mX3_letterIs e2) (cwV 4 hts (lw_V q2995 q2997 qs66 q105 q2998) rfl rfl rfl hdX3_letterIs ⟨Nat.le_of_ble_eq_true rfl, Nat.le_of_ble_eq_true rfl⟩) rfl hl.1 rfl rfl (lv_room (Nat.le_of_ble_eq_true rfl)) dX3_comes_115 hP hD hS (fun H locs hP hD hS => ?_)
      refine lv_aload_n (pc := 118) hx hb dX3_comes_118 rfl (lv_at hl 0 rfl) ?_
      refine lv_iload_n (pc := 119) hx hb dX3_comes_119 rfl (lv_at hl 1 rfl) ?_
      refine lv_iload (pc := 120) hx hb dX3_comes_120 (lv_at hl 4 rfl) ?_
      refine lv_iconst (pc := 122) (v := nI 3) hx hb dX3_comes_122 rfl ?_
      refine lv_iconst (pc := 123) (v := -1) hx hb dX3_comes_123 rfl ?_
      obtain ⟨v3, S3, e3, hf⟩ := bd2o hf
      refine m_callV (pc := 124) (As := [.int l1, .int l4, .int (nI 3), .int (-1)]) (rest := []) (st1 := []) hc (mX3_letterIs e3) (cwV 4 hts (lw_V q2995 q2997 qs66 q105 q2998) rfl rfl rfl hdX3_letterIs ⟨Nat.le_of_ble_eq_true rfl, Nat.le_of_ble_eq_true rfl⟩) rfl hl.1 rfl rfl (lv_room (Nat.le_of_ble_eq_true rfl)) dX3_comes_124 hP hD hS (fun H locs hP hD hS => ?_)
      refine lv_aload_n (pc := 127) hx hb dX3_comes_127 rfl (lv_at hl 0 rfl) ?_
      refine lv_iload_n (pc := 128) hx hb dX3_comes_128 rfl (lv_at hl 1 rfl) ?_
      refine lv_iload (pc := 129) hx hb dX3_comes_129 (lv_at hl 4 rfl) ?_
      refine lv_iconst (pc := 131) (v := nI 4) hx hb dX3_comes_131 rfl ?_
      refine lv_iconst (pc := 132) (v := -1) hx hb dX3_comes_132 rfl ?_
      obtain ⟨v4, S4, e4, hf⟩ := bd2o hf
      refine m_callV (pc := 133) (As := [.int l1, .int l4, .int (nI 4), .int (-1)]) (rest := []) (st1 := []) hc (mX3_letterIs e4) (cwV 4 hts (lw_V q2995 q2997 qs66 q105 q2998) rfl rfl rfl hdX3_letterIs ⟨Nat.le_of_ble_eq_true rfl, Nat.le_of_ble_eq_true rfl⟩) rfl hl.1 rfl rfl (lv_room (Nat.le_of_ble_eq_true rfl)) dX3_comes_133 hP hD hS (fun H locs hP hD hS => ?_)
      refine lv_aload_n (pc := 136) hx hb dX3_comes_136 rfl (lv_at hl 0 rfl) ?_
      refine lv_iload_n (pc := 137) hx hb dX3_comes_137 rfl (lv_at hl 1 rfl) ?_
      refine lv_bipush (pc := 138) (v := nI 35) hx hb dX3_comes_138 kcb35 ?_
      refine lv_iload_n (pc := 140) hx hb dX3_comes_140 rfl (lv_at hl 3 rfl) ?_
      refine lv_iconst (pc := 141) (v := nI 1) hx hb dX3_comes_141 rfl ?_
      refine lv_iadd (pc := 142) hx hb dX3_comes_142 ?_
      obtain ⟨v5, S5, e5, hf⟩ := bd2o hf
      refine m_callV (pc := 143) (As := [.int l1, .int (nI 35), .int (l3 + (nI 1))]) (rest := []) (st1 := []) hc (mX3_is e5) (cwV 3 hts (lw_V q2933 q2935 qs55 q105 q2936) rfl rfl rfl hdX3_is ⟨Nat.le_of_ble_eq_true rfl, Nat.le_of_ble_eq_true rfl⟩) rfl hl.1 rfl rfl (lv_room (Nat.le_of_ble_eq_true rfl)) dX3_comes_143 hP hD hS (fun H locs hP hD hS => ?_)
      exact m_vret (pc := 146) hx hb hr hlk hP hD hS hf dX3_comes_146
    · rw [if_neg c1] at hf
      refine lv_aload_n (pc := 93) hx hb dX3_comes_93 rfl (lv_at hl 0 rfl) ?_
      refine lv_iload_n (pc := 94) hx hb dX3_comes_94 rfl (lv_at hl 1 rfl) ?_
      refine lv_iload (pc := 95) hx hb dX3_comes_95 (lv_at hl 4 rfl) ?_
      refine lv_iload (pc := 97) hx hb dX3_comes_97 (lv_at hl 5 rfl) ?_
      refine lv_iconst (pc := 99) (v := nI 0) hx hb dX3_comes_99 rfl ?_
      obtain ⟨v6, S6, e6, hf⟩ := bd2o hf
      refine m_callV (pc := 100) (As := [.int l1, .int l4, .int l5, .int (nI 0)]) (rest := []) (st1 := []) hc (mX3_letterIs e6) (cwV 4 hts (lw_V q2995 q2997 qs66 q105 q2998) rfl rfl rfl hdX3_letterIs ⟨Nat.le_of_ble_eq_true rfl, Nat.le_of_ble_eq_true rfl⟩) rfl hl.1 rfl rfl (lv_room (Nat.le_of_ble_eq_true rfl)) dX3_comes_100 hP hD hS (fun H locs hP hD hS => ?_)
      refine lv_iinc (pc := 103) (v := l5 + (nI 1)) (lv' := [(5, .int (l5 + (nI 1))), (0, .ref (am 0)), (1, .int l1), (2, .int l2), (3, .int l3), (4, .int l4)]) hx hb dX3_comes_103 hl (k := 5) rfl rfl (by decide) rfl (fun ls hl => ?_)
      refine lv_goto (pc := 106) (tgt := 86) hx hb dX3_comes_106 (by decide) ?_
      exact ih l1 l2 l3 l4 (l5 + (nI 1)) S6 _ _ ls hP hD hS (lv_sub hl [1, 2, 3, 4, 5, 0] rfl) hf
def fX3_comes_b44 : Nat → Int32 → Int32 → Int32 → Int32 → Int32 → mS → Option (Unit × mS)
  | 0, _, _, _, _, _, _ => none
  | n + 1, l1, l2, l3, l4, l5, S =>
    if l5 < ((nI 26) * l4) then
      fX3_comes_b86 FU l1 l2 l3 l4 (nI 0) S
    else
      bd2 (fX3_of l1 ((nI 36) + l5) S) fun v2 S2 =>
      bd2 (fX3_is l1 (((nI 36) + l5) + (nI 26)) v2 S2) fun _ S3 =>
      fX3_comes_b44 n l1 l2 l3 l4 (l5 + (-1)) S3
theorem wX3_comes_b44 (hc : mC p s m args meth c D cI cJ cX3_comes 6 (none)) : ∀ (n : Nat) (l1 : Int32) (l2 : Int32) (l3 : Int32) (l4 : Int32) (l5 : Int32) (S : mS) (H : Heap) (locs : List Loc) (ls : Array Slot), va_P D mCl (mws am cI cJ S) H → va_D (mA am) (mws am cI cJ S) → va_S (mA am) s.heap H locs → lv_has ls 6 [(0, .ref (am 0)), (1, .int l1), (2, .int l2), (3, .int l3), (4, .int l4), (5, .int l5)] → fX3_comes_b44 n l1 l2 l3 l4 l5 S = some (r, Sf) → W p l e (mR 2 47) s m args below meth c H locs 0 0 (mQ below D am cI cJ none Sf args s) (F0 m 44 ls []) := by
  obtain ⟨hx, hb, hr, hlk, hml, hown, hts, hK⟩ := hc
  have hc : mC p s m args meth c D cI cJ cX3_comes 6 (none) := ⟨hx, hb, hr, hlk, hml, hown, hts, hK⟩
  intro n
  induction n with
  | zero => intro l1 l2 l3 l4 l5 S H locs ls _ _ _ _ hf; exact absurd hf (fun h => by cases h)
  | succ n ih =>
    intro l1 l2 l3 l4 l5 S H locs ls hP hD hS hl hf
    rw [fX3_comes_b44] at hf
    refine lv_iload (pc := 44) hx hb dX3_comes_44 (lv_at hl 5 rfl) ?_
    refine lv_bipush (pc := 46) (v := nI 26) hx hb dX3_comes_46 kcb26 ?_
    refine lv_iload (pc := 48) hx hb dX3_comes_48 (lv_at hl 4 rfl) ?_
    refine lv_imul (pc := 50) hx hb dX3_comes_50 ?_
    refine lv_icmp_lt (pc := 51) (tgt := 83) hx hb dX3_comes_51 (by decide) (fun c1 => ?_) (fun c1 => ?_)
    · rw [if_pos c1] at hf
      refine lv_iconst (pc := 83) (v := nI 0) hx hb dX3_comes_83 rfl ?_
      refine lv_istore (pc := 84) (lv' := [(5, .int (nI 0)), (0, .ref (am 0)), (1, .int l1), (2, .int l2), (3, .int l3), (4, .int l4)]) hx hb dX3_comes_84 hl (by decide) rfl (fun ls hl => ?_)
      exact wX3_comes_b86 hc FU l1 l2 l3 l4 (nI 0) S _ _ ls hP hD hS (lv_sub hl [1, 2, 3, 4, 5, 0] rfl) hf
    · rw [if_neg c1] at hf
      refine lv_aload_n (pc := 54) hx hb dX3_comes_54 rfl (lv_at hl 0 rfl) ?_
      refine lv_iload_n (pc := 55) hx hb dX3_comes_55 rfl (lv_at hl 1 rfl) ?_
      refine lv_bipush (pc := 56) (v := nI 36) hx hb dX3_comes_56 kcb36 ?_
      refine lv_iload (pc := 58) hx hb dX3_comes_58 (lv_at hl 5 rfl) ?_
      refine lv_iadd (pc := 60) hx hb dX3_comes_60 ?_
      refine lv_bipush (pc := 61) (v := nI 26) hx hb dX3_comes_61 kcb26 ?_
      refine lv_iadd (pc := 63) hx hb dX3_comes_63 ?_
      refine lv_aload_n (pc := 64) hx hb dX3_comes_64 rfl (lv_at hl 0 rfl) ?_
      refine lv_iload_n (pc := 65) hx hb dX3_comes_65 rfl (lv_at hl 1 rfl) ?_
      refine lv_bipush (pc := 66) (v := nI 36) hx hb dX3_comes_66 kcb36 ?_
      refine lv_iload (pc := 68) hx hb dX3_comes_68 (lv_at hl 5 rfl) ?_
      refine lv_iadd (pc := 70) hx hb dX3_comes_70 ?_
      obtain ⟨v2, S2, e2, hf⟩ := bd2o hf
      refine m_callV (pc := 71) (As := [.int l1, .int ((nI 36) + l5)]) (rest := [.int (((nI 36) + l5) + (nI 26)), .int l1, .ref (am 0)]) (st1 := [.int v2, .int (((nI 36) + l5) + (nI 26)), .int l1, .ref (am 0)]) hc (mX3_of e2) (cwV 2 hts (lw_V q2949 q2951 qs58 q105 q2952) rfl rfl rfl hdX3_of ⟨Nat.le_of_ble_eq_true rfl, Nat.le_of_ble_eq_true rfl⟩) rfl hl.1 rfl rfl (lv_room (Nat.le_of_ble_eq_true rfl)) dX3_comes_71 hP hD hS (fun H locs hP hD hS => ?_)
      obtain ⟨v3, S3, e3, hf⟩ := bd2o hf
      refine m_callV (pc := 74) (As := [.int l1, .int (((nI 36) + l5) + (nI 26)), .int v2]) (rest := []) (st1 := []) hc (mX3_is e3) (cwV 3 hts (lw_V q2933 q2935 qs55 q105 q2936) rfl rfl rfl hdX3_is ⟨Nat.le_of_ble_eq_true rfl, Nat.le_of_ble_eq_true rfl⟩) rfl hl.1 rfl rfl (lv_room (Nat.le_of_ble_eq_true rfl)) dX3_comes_74 hP hD hS (fun H locs hP hD hS => ?_)
      refine lv_iinc (pc := 77) (v := l5 + (-1)) (lv' := [(5, .int (l5 + (-1))), (0, .ref (am 0)), (1, .int l1), (2, .int l2), (3, .int l3), (4, .int l4)]) hx hb dX3_comes_77 hl (k := 5) rfl rfl (by decide) rfl (fun ls hl => ?_)
      refine lv_goto (pc := 80) (tgt := 44) hx hb dX3_comes_80 (by decide) ?_
      exact ih l1 l2 l3 l4 (l5 + (-1)) S3 _ _ ls hP hD hS (lv_sub hl [1, 2, 3, 4, 5, 0] rfl) hf
def fX3_comes_b36 (l1 : Int32) (l2 : Int32) (l3 : Int32) (l4 : Int32) (S : mS) : Option (Unit × mS) :=
  fX3_comes_b44 FU l1 l2 l3 l4 (((nI 26) * l3) - (nI 1)) S
theorem wX3_comes_b36 (hc : mC p s m args meth c D cI cJ cX3_comes 6 (none)) (l1 : Int32) (l2 : Int32) (l3 : Int32) (l4 : Int32) (S : mS) (H : Heap) (locs : List Loc) (ls : Array Slot) (hP : va_P D mCl (mws am cI cJ S) H) (hD : va_D (mA am) (mws am cI cJ S)) (hS : va_S (mA am) s.heap H locs) (hl : lv_has ls 6 [(0, .ref (am 0)), (1, .int l1), (2, .int l2), (3, .int l3), (4, .int l4)]) (hf : fX3_comes_b36 l1 l2 l3 l4 S = some (r, Sf)) : W p l e (mR 2 47) s m args below meth c H locs 0 0 (mQ below D am cI cJ none Sf args s) (F0 m 36 ls []) := by
  obtain ⟨hx, hb, hr, hlk, hml, hown, hts, hK⟩ := hc
  have hc : mC p s m args meth c D cI cJ cX3_comes 6 (none) := ⟨hx, hb, hr, hlk, hml, hown, hts, hK⟩
  unfold fX3_comes_b36 at hf
  refine lv_bipush (pc := 36) (v := nI 26) hx hb dX3_comes_36 kcb26 ?_
  refine lv_iload_n (pc := 38) hx hb dX3_comes_38 rfl (lv_at hl 3 rfl) ?_
  refine lv_imul (pc := 39) hx hb dX3_comes_39 ?_
  refine lv_iconst (pc := 40) (v := nI 1) hx hb dX3_comes_40 rfl ?_
  refine lv_isub (pc := 41) hx hb dX3_comes_41 ?_
  refine lv_istore (pc := 42) (lv' := [(5, .int (((nI 26) * l3) - (nI 1))), (0, .ref (am 0)), (1, .int l1), (2, .int l2), (3, .int l3), (4, .int l4)]) hx hb dX3_comes_42 hl (by decide) rfl (fun ls hl => ?_)
  exact wX3_comes_b44 hc FU l1 l2 l3 l4 (((nI 26) * l3) - (nI 1)) S _ _ ls hP hD hS (lv_sub hl [1, 2, 3, 4, 5, 0] rfl) hf
def fX3_comes_b11 : Nat → Int32 → Int32 → Int32 → Int32 → mS → Option (Unit × mS)
  | 0, _, _, _, _, _ => none
  | n + 1, l1, l2, l3, l4, S =>
    if l4 ≤ 0 then
      fX3_comes_b36 l1 l2 l3 l4 S
    else
      bd2 (fX3_letterOf l1 (l4 - (nI 1)) (nI 0) S) fun v2 S2 =>
      if v2 ≤ l2 then
        fX3_comes_b36 l1 l2 l3 l4 S2
      else
        fX3_comes_b11 n l1 l2 l3 (l4 + (-1)) S2
theorem wX3_comes_b11 (hc : mC p s m args meth c D cI cJ cX3_comes 6 (none)) : ∀ (n : Nat) (l1 : Int32) (l2 : Int32) (l3 : Int32) (l4 : Int32) (S : mS) (H : Heap) (locs : List Loc) (ls : Array Slot), va_P D mCl (mws am cI cJ S) H → va_D (mA am) (mws am cI cJ S) → va_S (mA am) s.heap H locs → lv_has ls 6 [(0, .ref (am 0)), (1, .int l1), (2, .int l2), (3, .int l3), (4, .int l4)] → fX3_comes_b11 n l1 l2 l3 l4 S = some (r, Sf) → W p l e (mR 2 47) s m args below meth c H locs 0 0 (mQ below D am cI cJ none Sf args s) (F0 m 11 ls []) := by
  obtain ⟨hx, hb, hr, hlk, hml, hown, hts, hK⟩ := hc
  have hc : mC p s m args meth c D cI cJ cX3_comes 6 (none) := ⟨hx, hb, hr, hlk, hml, hown, hts, hK⟩
  intro n
  induction n with
  | zero => intro l1 l2 l3 l4 S H locs ls _ _ _ _ hf; exact absurd hf (fun h => by cases h)
  | succ n ih =>
    intro l1 l2 l3 l4 S H locs ls hP hD hS hl hf
    rw [fX3_comes_b11] at hf
    refine lv_iload (pc := 11) hx hb dX3_comes_11 (lv_at hl 4 rfl) ?_
    refine lv_if_le (pc := 13) (tgt := 36) hx hb dX3_comes_13 (by decide) (fun c1 => ?_) (fun c1 => ?_)
    · rw [if_pos c1] at hf
      exact wX3_comes_b36 hc l1 l2 l3 l4 S _ _ ls hP hD hS (lv_sub hl [0, 1, 2, 3, 4] rfl) hf
    · rw [if_neg c1] at hf
      refine lv_aload_n (pc := 16) hx hb dX3_comes_16 rfl (lv_at hl 0 rfl) ?_
      refine lv_iload_n (pc := 17) hx hb dX3_comes_17 rfl (lv_at hl 1 rfl) ?_
      refine lv_iload (pc := 18) hx hb dX3_comes_18 (lv_at hl 4 rfl) ?_
      refine lv_iconst (pc := 20) (v := nI 1) hx hb dX3_comes_20 rfl ?_
      refine lv_isub (pc := 21) hx hb dX3_comes_21 ?_
      refine lv_iconst (pc := 22) (v := nI 0) hx hb dX3_comes_22 rfl ?_
      obtain ⟨v2, S2, e2, hf⟩ := bd2o hf
      refine m_callV (pc := 23) (As := [.int l1, .int (l4 - (nI 1)), .int (nI 0)]) (rest := []) (st1 := [.int v2]) hc (mX3_letterOf e2) (cwV 3 hts (lw_V q2991 q2993 qs65 q105 q2994) rfl rfl rfl hdX3_letterOf ⟨Nat.le_of_ble_eq_true rfl, Nat.le_of_ble_eq_true rfl⟩) rfl hl.1 rfl rfl (lv_room (Nat.le_of_ble_eq_true rfl)) dX3_comes_23 hP hD hS (fun H locs hP hD hS => ?_)
      refine lv_iload_n (pc := 26) hx hb dX3_comes_26 rfl (lv_at hl 2 rfl) ?_
      refine lv_icmp_le (pc := 27) (tgt := 36) hx hb dX3_comes_27 (by decide) (fun c3 => ?_) (fun c3 => ?_)
      · rw [if_pos c3] at hf
        exact wX3_comes_b36 hc l1 l2 l3 l4 S2 _ _ ls hP hD hS (lv_sub hl [0, 1, 2, 3, 4] rfl) hf
      · rw [if_neg c3] at hf
        refine lv_iinc (pc := 30) (v := l4 + (-1)) (lv' := [(4, .int (l4 + (-1))), (0, .ref (am 0)), (1, .int l1), (2, .int l2), (3, .int l3)]) hx hb dX3_comes_30 hl (k := 4) rfl rfl (by decide) rfl (fun ls hl => ?_)
        refine lv_goto (pc := 33) (tgt := 11) hx hb dX3_comes_33 (by decide) ?_
        exact ih l1 l2 l3 (l4 + (-1)) S2 _ _ ls hP hD hS (lv_sub hl [1, 2, 3, 4, 0] rfl) hf
def fX3_comes (l1 : Int32) (l2 : Int32) (S : mS) : Option (Unit × mS) :=
  bd2 (fX3_of l1 (nI 35) S) fun v1 S1 =>
  fX3_comes_b11 FU l1 l2 v1 v1 S1
theorem wX3_comes_b0 (hc : mC p s m args meth c D cI cJ cX3_comes 6 (none)) (l1 : Int32) (l2 : Int32) (S : mS) (H : Heap) (locs : List Loc) (ls : Array Slot) (hP : va_P D mCl (mws am cI cJ S) H) (hD : va_D (mA am) (mws am cI cJ S)) (hS : va_S (mA am) s.heap H locs) (hl : lv_has ls 6 [(0, .ref (am 0)), (1, .int l1), (2, .int l2)]) (hf : fX3_comes l1 l2 S = some (r, Sf)) : W p l e (mR 2 47) s m args below meth c H locs 0 0 (mQ below D am cI cJ none Sf args s) (F0 m 0 ls []) := by
  obtain ⟨hx, hb, hr, hlk, hml, hown, hts, hK⟩ := hc
  have hc : mC p s m args meth c D cI cJ cX3_comes 6 (none) := ⟨hx, hb, hr, hlk, hml, hown, hts, hK⟩
  unfold fX3_comes at hf
  refine lv_aload_n (pc := 0) hx hb dX3_comes_0 rfl (lv_at hl 0 rfl) ?_
  refine lv_iload_n (pc := 1) hx hb dX3_comes_1 rfl (lv_at hl 1 rfl) ?_
  refine lv_bipush (pc := 2) (v := nI 35) hx hb dX3_comes_2 kcb35 ?_
  obtain ⟨v1, S1, e1, hf⟩ := bd2o hf
  refine m_callV (pc := 4) (As := [.int l1, .int (nI 35)]) (rest := []) (st1 := [.int v1]) hc (mX3_of e1) (cwV 2 hts (lw_V q2949 q2951 qs58 q105 q2952) rfl rfl rfl hdX3_of ⟨Nat.le_of_ble_eq_true rfl, Nat.le_of_ble_eq_true rfl⟩) rfl hl.1 rfl rfl (lv_room (Nat.le_of_ble_eq_true rfl)) dX3_comes_4 hP hD hS (fun H locs hP hD hS => ?_)
  refine lv_istore_n (pc := 7) (lv' := [(3, .int v1), (0, .ref (am 0)), (1, .int l1), (2, .int l2)]) hx hb dX3_comes_7 rfl hl (by decide) rfl (fun ls hl => ?_)
  refine lv_iload_n (pc := 8) hx hb dX3_comes_8 rfl (lv_at hl 0 rfl) ?_
  refine lv_istore (pc := 9) (lv' := [(4, .int v1), (3, .int v1), (0, .ref (am 0)), (1, .int l1), (2, .int l2)]) hx hb dX3_comes_9 hl (by decide) rfl (fun ls hl => ?_)
  exact wX3_comes_b11 hc FU l1 l2 v1 v1 S1 _ _ ls hP hD hS (lv_sub hl [2, 3, 4, 1, 0] rfl) hf
theorem mX3_comes {S S2 : mS} {r2 : Unit} {l1 : Int32} {l2 : Int32} (hf : fX3_comes l1 l2 S = some (r2, S2)) : mMet l yX3_comes cX3_comes 6 (none) 2 47 D am cI cJ [.ref (am 0), .int l1, .int l2] S none S2 := by
  exact m_start (by decide) rfl (Nat.le_of_ble_eq_true rfl) (fun p e s m args below meth c ls hc hl hP hD => wX3_comes_b0 hc l1 l2 S _ _ ls hP hD va_S.rf (lv_sub hl [0, 1, 2] rfl) hf)
end
end
