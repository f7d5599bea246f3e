/-! printed by gen/mgen.py: the methods of CreditBrokerModel, lifted and walked (6) -/
set_option maxRecDepth 100000
set_option maxHeartbeats 4000000
section
variable {p : Program} {l : Launch} {e : Env} {s : State} {m : MethodId} {args : Array Value} {below : List Frame} {meth : Method} {c : Code} {D : va_G} {am : Nat → Nat} {cI cJ : ClassId}
section
variable {r : Int32} {Sf : mS}
def fX3_days_b47 (k23 : Int32 → Int32 → Int32 → mS → Option (Int32 × mS)) (l1 : Int32) (l3 : Int32) (t0 : Int32) (t1 : Int32) (S : mS) : Option (Int32 × mS) :=
  bd2 (fX3_passes (nI 1) S) fun v1 S1 =>
  k23 l1 (t0 + t1) (l3 + (nI 1)) S1
theorem wX3_days_b47 (hc : mC p s m args meth c D cI cJ cX3_days 5 (some .int)) (k23 : Int32 → Int32 → Int32 → mS → Option (Int32 × mS)) (h23 : ∀ (l1 : Int32) (l2 : Int32) (l3 : Int32) (S : mS) (H : Heap) (locs : List Loc) (ls : Array Slot), va_P D mCl (mws am cI cJ S) H → va_D (mA am) (mws am cI cJ S) → va_S (mA am) s.heap H locs → lv_has ls 5 [(0, .ref (am 0)), (1, .int l1), (2, .int l2), (3, .int l3)] → k23 l1 l2 l3 S = some (r, Sf) → W p l e (mR 7 160) s m args below meth c H locs 0 0 (mQ below D am cI cJ (some (.int r)) Sf args s) (F0 m 23 ls [])) (l1 : Int32) (l3 : Int32) (t0 : Int32) (t1 : Int32) (S : mS) (H : Heap) (locs : List Loc) (ls : Array Slot) (hP : va_P D mCl (mws am cI cJ S) H) (hD : va_D (mA am) (mws am cI cJ S)) (hS : va_S (mA am) s.heap H locs) (hl : lv_has ls 5 [(0, .ref (am 0)), (1, .int l1), (3, .int l3)]) (hf : fX3_days_b47 k23 l1 l3 t0 t1 S = some (r, Sf)) : W p l e (mR 7 160) s m args below meth c H locs 0 0 (mQ below D am cI cJ (some (.int r)) Sf args s) (F0 m 47 ls [.int t1, .int t0]) := by
  obtain ⟨hx, hb, hr, hlk, hml, hown, hts, hK⟩ := hc
  have hc : mC p s m args meth c D cI cJ cX3_days 5 (some .int) := ⟨hx, hb, hr, hlk, hml, hown, hts, hK⟩
  unfold fX3_days_b47 at hf
  refine lv_iadd (pc := 47) hx hb dX3_days_47 ?_
  refine lv_istore_n (pc := 48) (lv' := [(2, .int (t0 + t1)), (0, .ref (am 0)), (1, .int l1), (3, .int l3)]) hx hb dX3_days_48 rfl hl (by decide) rfl (fun ls hl => ?_)
  refine lv_aload_n (pc := 49) hx hb dX3_days_49 rfl (lv_at hl 1 rfl) ?_
  refine lv_iconst (pc := 50) (v := nI 1) hx hb dX3_days_50 rfl ?_
  obtain ⟨v1, S1, e1, hf⟩ := bd2o hf
  refine m_callV (pc := 51) (As := [.int (nI 1)]) (rest := []) (st1 := [.int v1]) hc (mX3_passes e1) (cwV 1 hts (lw_V q3105 q3107 qs84 q105 q3108) rfl rfl rfl hdX3_passes ⟨Nat.le_of_ble_eq_true rfl, Nat.le_of_ble_eq_true rfl⟩) rfl hl.1 rfl rfl (lv_room (Nat.le_of_ble_eq_true rfl)) dX3_days_51 hP hD hS (fun H locs hP hD hS => ?_)
  refine lv_istore (pc := 54) (lv' := [(4, .int v1), (2, .int (t0 + t1)), (0, .ref (am 0)), (1, .int l1), (3, .int l3)]) hx hb dX3_days_54 hl (by decide) rfl (fun ls hl => ?_)
  refine lv_iinc (pc := 56) (v := l3 + (nI 1)) (lv' := [(3, .int (l3 + (nI 1))), (4, .int v1), (2, .int (t0 + t1)), (0, .ref (am 0)), (1, .int l1)]) hx hb dX3_days_56 hl (k := 4) rfl rfl (by decide) rfl (fun ls hl => ?_)
  refine lv_goto (pc := 59) (tgt := 23) hx hb dX3_days_59 (by decide) ?_
  exact h23 l1 (t0 + t1) (l3 + (nI 1)) S1 _ _ ls hP hD hS (lv_sub hl [3, 4, 2, 0] rfl) hf
def fX3_days_b23 : Nat → Int32 → Int32 → Int32 → mS → Option (Int32 × mS)
  | 0, _, _, _, _ => none
  | n + 1, l1, l2, l3, S =>
    if l1 ≤ l3 then
      some (l2, S)
    else
      bd2 (fX3_draw (nI 6) S) fun v2 S2 =>
      bd2 (fX3_isDay v2 S2) fun v3 S3 =>
      if v3 = 0 then
        fX3_days_b47 (fX3_days_b23 n) l1 l3 l2 (nI 0) S3
      else
        fX3_days_b47 (fX3_days_b23 n) l1 l3 l2 (nI 1) S3
theorem wX3_days_b23 (hc : mC p s m args meth c D cI cJ cX3_days 5 (some .int)) : ∀ (n : Nat) (l1 : Int32) (l2 : Int32) (l3 : Int32) (S : mS) (H : Heap) (locs : List Loc) (ls : Array Slot), va_P D mCl (mws am cI cJ S) H → va_D (mA am) (mws am cI cJ S) → va_S (mA am) s.heap H locs → lv_has ls 5 [(0, .ref (am 0)), (1, .int l1), (2, .int l2), (3, .int l3)] → fX3_days_b23 n l1 l2 l3 S = some (r, Sf) → W p l e (mR 7 160) s m args below meth c H locs 0 0 (mQ below D am cI cJ (some (.int r)) Sf args s) (F0 m 23 ls []) := by
  obtain ⟨hx, hb, hr, hlk, hml, hown, hts, hK⟩ := hc
  have hc : mC p s m args meth c D cI cJ cX3_days 5 (some .int) := ⟨hx, hb, hr, hlk, hml, hown, hts, hK⟩
  intro n
  induction n with
  | zero => intro l1 l2 l3 S H locs ls _ _ _ _ hf; exact absurd hf (fun h => by cases h)
  | succ n ih =>
    intro l1 l2 l3 S H locs ls hP hD hS hl hf
    rw [fX3_days_b23] at hf
    refine lv_iload_n (pc := 23) hx hb dX3_days_23 rfl (lv_at hl 3 rfl) ?_
    refine lv_iload_n (pc := 24) hx hb dX3_days_24 rfl (lv_at hl 1 rfl) ?_
    refine lv_icmp_ge (pc := 25) (tgt := 62) hx hb dX3_days_25 (by decide) (fun c1 => ?_) (fun c1 => ?_)
    · rw [if_pos c1] at hf
      refine lv_iload_n (pc := 62) hx hb dX3_days_62 rfl (lv_at hl 2 rfl) ?_
      exact m_iret (pc := 63) hx hb hr hlk hP hD hS hf dX3_days_63
    · rw [if_neg c1] at hf
      refine lv_iload_n (pc := 28) hx hb dX3_days_28 rfl (lv_at hl 2 rfl) ?_
      refine lv_aload_n (pc := 29) hx hb dX3_days_29 rfl (lv_at hl 0 rfl) ?_
      refine lv_aload_n (pc := 30) hx hb dX3_days_30 rfl (lv_at hl 0 rfl) ?_
      refine lv_bipush (pc := 31) (v := nI 6) hx hb dX3_days_31 kcb6 ?_
      obtain ⟨v2, S2, e2, hf⟩ := bd2o hf
      refine m_callV (pc := 33) (As := [.int (nI 6)]) (rest := [.ref (am 0), .int l2]) (st1 := [.int v2, .ref (am 0), .int l2]) hc (mX3_draw e2) (cwV 1 hts (lw_V q3250 q3252 qs92 q105 q3253) rfl rfl rfl hdX3_draw ⟨Nat.le_of_ble_eq_true rfl, Nat.le_of_ble_eq_true rfl⟩) rfl hl.1 rfl rfl (lv_room (Nat.le_of_ble_eq_true rfl)) dX3_days_33 hP hD hS (fun H locs hP hD hS => ?_)
      obtain ⟨v3, S3, e3, hf⟩ := bd2o hf
      refine m_callV (pc := 36) (As := [.int v2]) (rest := [.int l2]) (st1 := [.int v3, .int l2]) hc (mX3_isDay e3) (cwV 1 hts (lw_V q3255 q3257 qs93 q105 q3258) rfl rfl rfl hdX3_isDay ⟨Nat.le_of_ble_eq_true rfl, Nat.le_of_ble_eq_true rfl⟩) rfl hl.1 rfl rfl (lv_room (Nat.le_of_ble_eq_true rfl)) dX3_days_36 hP hD hS (fun H locs hP hD hS => ?_)
      refine lv_if_eq (pc := 39) (tgt := 46) hx hb dX3_days_39 (by decide) (fun c4 => ?_) (fun c4 => ?_)
      · rw [if_pos c4] at hf
        refine lv_iconst (pc := 46) (v := nI 0) hx hb dX3_days_46 rfl ?_
        exact wX3_days_b47 hc (fX3_days_b23 n) ih l1 l3 l2 (nI 0) S3 _ _ ls hP hD hS (lv_sub hl [0, 1, 3] rfl) hf
      · rw [if_neg c4] at hf
        refine lv_iconst (pc := 42) (v := nI 1) hx hb dX3_days_42 rfl ?_
        refine lv_goto (pc := 43) (tgt := 47) hx hb dX3_days_43 (by decide) ?_
        exact wX3_days_b47 hc (fX3_days_b23 n) ih l1 l3 l2 (nI 1) S3 _ _ ls hP hD hS (lv_sub hl [0, 1, 3] rfl) hf
def fX3_days (l1 : Int32) (S : mS) : Option (Int32 × mS) :=
  bd2 (fX3_in l1.toInt64 (lN 1) (lN 60) S) fun v1 S1 =>
  if v1 = 0 then
    bd2 (fX3_refused (-82) S1) fun v3 S3 =>
    some (v3, S3)
  else
    fX3_days_b23 FU l1 (nI 0) (nI 0) S1
theorem wX3_days_b0 (hc : mC p s m args meth c D cI cJ cX3_days 5 (some .int)) (l1 : Int32) (S : mS) (H : Heap) (locs : List Loc) (ls : Array Slot) (hP : va_P D mCl (mws am cI cJ S) H) (hD : va_D (mA am) (mws am cI cJ S)) (hS : va_S (mA am) s.heap H locs) (hl : lv_has ls 5 [(0, .ref (am 0)), (1, .int l1)]) (hf : fX3_days l1 S = some (r, Sf)) : W p l e (mR 7 160) s m args below meth c H locs 0 0 (mQ below D am cI cJ (some (.int r)) Sf args s) (F0 m 0 ls []) := by
  obtain ⟨hx, hb, hr, hlk, hml, hown, hts, hK⟩ := hc
  have hc : mC p s m args meth c D cI cJ cX3_days 5 (some .int) := ⟨hx, hb, hr, hlk, hml, hown, hts, hK⟩
  unfold fX3_days at hf
  refine lv_iload_n (pc := 0) hx hb dX3_days_0 rfl (lv_at hl 1 rfl) ?_
  refine lv_i2l (pc := 1) hx hb dX3_days_1 rfl ?_
  refine lv_lconst (pc := 2) (v := lN 1) hx hb dX3_days_2 rfl ?_
  refine lv_ldc2 (pc := 3) (v := lN 60) hx hb hown (hts _ q3249) dX3_days_3 ?_
  obtain ⟨v1, S1, e1, hf⟩ := bd2o hf
  refine m_callS (pc := 6) (As := [.long l1.toInt64, .long (lN 1), .long (lN 60)]) (rest := []) (st1 := [.int v1]) hc (mX3_in e1) (va_cwS 3 hts (lw_S q2896 q2897 q105 q2898) rfl rfl rfl hdX3_in ⟨Nat.le_of_ble_eq_true rfl, Nat.le_of_ble_eq_true rfl⟩) rfl hl.1 rfl rfl (lv_room (Nat.le_of_ble_eq_true rfl)) dX3_days_6 hP hD hS (fun H locs hP hD hS => ?_)
  refine lv_if_ne (pc := 9) (tgt := 19) hx hb dX3_days_9 (by decide) (fun c2 => ?_) (fun c2 => ?_)
  · rw [if_neg c2] at hf
    refine lv_iconst (pc := 19) (v := nI 0) hx hb dX3_days_19 rfl ?_
    refine lv_istore_n (pc := 20) (lv' := [(2, .int (nI 0)), (0, .ref (am 0)), (1, .int l1)]) hx hb dX3_days_20 rfl hl (by decide) rfl (fun ls hl => ?_)
    refine lv_iconst (pc := 21) (v := nI 0) hx hb dX3_days_21 rfl ?_
    refine lv_istore_n (pc := 22) (lv' := [(3, .int (nI 0)), (2, .int (nI 0)), (0, .ref (am 0)), (1, .int l1)]) hx hb dX3_days_22 rfl hl (by decide) rfl (fun ls hl => ?_)
    exact wX3_days_b23 hc FU l1 (nI 0) (nI 0) S1 _ _ ls hP hD hS (lv_sub hl [2, 3, 1, 0] rfl) hf
  · rw [if_pos c2] at hf
    refine lv_aload_n (pc := 12) hx hb dX3_days_12 rfl (lv_at hl 0 rfl) ?_
    refine lv_bipush (pc := 13) (v := -82) hx hb dX3_days_13 kcbm82 ?_
    obtain ⟨v3, S3, e3, hf⟩ := bd2o hf
    refine m_callV (pc := 15) (As := [.int (-82)]) (rest := []) (st1 := [.int v3]) hc (mX3_refused e3) (cwV 1 hts (lw_V q2899 q2901 qs51 q105 q2902) rfl rfl rfl hdX3_refused ⟨Nat.le_of_ble_eq_true rfl, Nat.le_of_ble_eq_true rfl⟩) rfl hl.1 rfl rfl (lv_room (Nat.le_of_ble_eq_true rfl)) dX3_days_15 hP hD hS (fun H locs hP hD hS => ?_)
    exact m_iret (pc := 18) hx hb hr hlk hP hD hS hf dX3_days_18
theorem mX3_days {S S2 : mS} {r2 : Int32} {l1 : Int32} (hf : fX3_days l1 S = some (r2, S2)) : mMet l yX3_days cX3_days 5 (some .int) 7 160 D am cI cJ [.ref (am 0), .int l1] S (some (.int r2)) S2 := by
  exact m_start (by decide) rfl (Nat.le_of_ble_eq_true rfl) (fun p e s m args below meth c ls hc hl hP hD => wX3_days_b0 hc l1 S _ _ ls hP hD va_S.rf (lv_sub hl [0, 1] rfl) hf)
end
section
variable {r : Int32} {Sf : mS}
def fX3_seed (l1 : Int32) (S : mS) : Option (Int32 × mS) :=
  bd (mrd S 0 7919 (nI 5)) fun v1 =>
  bd (mwr S 0 7919 (nI 5) l1) fun S2 =>
  some (v1, S2)
theorem wX3_seed_b0 (hc : mC p s m args meth c D cI cJ cX3_seed 3 (some .int)) (l1 : Int32) (S : mS) (H : Heap) (locs : List Loc) (ls : Array Slot) (hP : va_P D mCl (mws am cI cJ S) H) (hD : va_D (mA am) (mws am cI cJ S)) (hS : va_S (mA am) s.heap H locs) (hl : lv_has ls 3 [(0, .ref (am 0)), (1, .int l1)]) (hf : fX3_seed l1 S = some (r, Sf)) : W p l e (mR 0 0) s m args below meth c H locs 0 0 (mQ below D am cI cJ (some (.int r)) Sf args s) (F0 m 0 ls []) := by
  obtain ⟨hx, hb, hr, hlk, hml, hown, hts, hK⟩ := hc
  have hc : mC p s m args meth c D cI cJ cX3_seed 3 (some .int) := ⟨hx, hb, hr, hlk, hml, hown, hts, hK⟩
  unfold fX3_seed at hf
  refine lv_aload_n (pc := 0) hx hb dX3_seed_0 rfl (lv_at hl 0 rfl) ?_
  refine va_get (D := D) (ci := 0) (v := .ref (am 1)) (C := RX3) (T := TX3) (N := 17) (pc := 1) hx hb hts in_X3 hown hK hP 0 rfl rfl 0 (by decide) (hts _ q2839) (fun _ h9 => h9) rfl dX3_seed_1 ?_
  refine lv_iconst (pc := 4) (v := nI 5) hx hb dX3_seed_4 rfl ?_
  obtain ⟨v1, e1, hf⟩ := bdo hf
  refine m_iald (pc := 5) (k := 0) hx hb hK hP rfl e1 dX3_seed_5 ?_
  refine lv_istore_n (pc := 6) (lv' := [(2, .int v1), (0, .ref (am 0)), (1, .int l1)]) hx hb dX3_seed_6 rfl hl (by decide) rfl (fun ls hl => ?_)
  refine lv_aload_n (pc := 7) hx hb dX3_seed_7 rfl (lv_at hl 1 rfl) ?_
  refine va_get (D := D) (ci := 0) (v := .ref (am 1)) (C := RX3) (T := TX3) (N := 17) (pc := 8) hx hb hts in_X3 hown hK hP 0 rfl rfl 0 (by decide) (hts _ q2839) (fun _ h9 => h9) rfl dX3_seed_8 ?_
  refine lv_iconst (pc := 11) (v := nI 5) hx hb dX3_seed_11 rfl ?_
  refine lv_iload_n (pc := 12) hx hb dX3_seed_12 rfl (lv_at hl 2 rfl) ?_
  obtain ⟨S2, e2, hf⟩ := bdo hf
  refine m_iast (pc := 13) (k := 0) hx hb hK hP hD hS rfl (fun _ _ => rfl) e2 dX3_seed_13 (fun H locs hP hD hS => ?_)
  refine lv_iload_n (pc := 14) hx hb dX3_seed_14 rfl (lv_at hl 0 rfl) ?_
  exact m_iret (pc := 15) hx hb hr hlk hP hD hS hf dX3_seed_15
theorem mX3_seed {S S2 : mS} {r2 : Int32} {l1 : Int32} (hf : fX3_seed l1 S = some (r2, S2)) : mMet l yX3_seed cX3_seed 3 (some .int) 0 0 D am cI cJ [.ref (am 0), .int l1] S (some (.int r2)) S2 := by
  exact m_start (by decide) rfl (Nat.le_of_ble_eq_true rfl) (fun p e s m args below meth c ls hc hl hP hD => wX3_seed_b0 hc l1 S _ _ ls hP hD va_S.rf (lv_sub hl [0, 1] rfl) hf)
end
section
variable {r : Unit} {Sf : mS}
def fX3_copies_02_b2 : Nat → Int32 → mS → Option (Unit × mS)
  | 0, _, _ => none
  | n + 1, l2, S =>
    if (nI 7919) ≤ l2 then
      some ((), S)
    else
      bd (mrd S 0 7919 l2) fun v2 =>
      bd (mwr S 2 7919 l2 v2) fun S3 =>
      fX3_copies_02_b2 n (l2 + (nI 1)) S3
theorem wX3_copies_02_b2 (hc : mC p s m args meth c D cI cJ cX3_copies 3 (none)) : ∀ (n : Nat) (l2 : Int32) (S : mS) (H : Heap) (locs : List Loc) (ls : Array Slot), va_P D mCl (mws am cI cJ S) H → va_D (mA am) (mws am cI cJ S) → va_S (mA am) s.heap H locs → lv_has ls 3 [(0, .ref (am 1)), (1, .ref (am 3)), (2, .int l2)] → fX3_copies_02_b2 n l2 S = some (r, Sf) → W p l e (mR 0 0) s m args below meth c H locs 0 0 (mQ below D am cI cJ none Sf args s) (F0 m 2 ls []) := by
  obtain ⟨hx, hb, hr, hlk, hml, hown, hts, hK⟩ := hc
  have hc : mC p s m args meth c D cI cJ cX3_copies 3 (none) := ⟨hx, hb, hr, hlk, hml, hown, hts, hK⟩
  intro n
  induction n with
  | zero => intro l2 S H locs ls _ _ _ _ hf; exact absurd hf (fun h => by cases h)
  | succ n ih =>
    intro l2 S H locs ls hP hD hS hl hf
    rw [fX3_copies_02_b2] at hf
    refine lv_iload_n (pc := 2) hx hb dX3_copies_2 rfl (lv_at hl 2 rfl) ?_
    refine lv_sipush (pc := 3) (v := nI 7919) hx hb dX3_copies_3 kcs7919 ?_
    refine lv_icmp_ge (pc := 6) (tgt := 21) hx hb dX3_copies_6 (by decide) (fun c1 => ?_) (fun c1 => ?_)
    · rw [if_pos c1] at hf
      exact m_vret (pc := 21) hx hb hr hlk hP hD hS hf dX3_copies_21
    · rw [if_neg c1] at hf
      refine lv_aload_n (pc := 9) hx hb dX3_copies_9 rfl (lv_at hl 1 rfl) ?_
      refine lv_iload_n (pc := 10) hx hb dX3_copies_10 rfl (lv_at hl 2 rfl) ?_
      refine lv_aload_n (pc := 11) hx hb dX3_copies_11 rfl (lv_at hl 0 rfl) ?_
      refine lv_iload_n (pc := 12) hx hb dX3_copies_12 rfl (lv_at hl 2 rfl) ?_
      obtain ⟨v2, e2, hf⟩ := bdo hf
      refine m_iald (pc := 13) (k := 0) hx hb hK hP rfl e2 dX3_copies_13 ?_
      obtain ⟨S3, e3, hf⟩ := bdo hf
      refine m_iast (pc := 14) (k := 2) hx hb hK hP hD hS rfl (fun _ _ => rfl) e3 dX3_copies_14 (fun H locs hP hD hS => ?_)
      refine lv_iinc (pc := 15) (v := l2 + (nI 1)) (lv' := [(2, .int (l2 + (nI 1))), (0, .ref (am 1)), (1, .ref (am 3))]) hx hb dX3_copies_15 hl (k := 2) rfl rfl (by decide) rfl (fun ls hl => ?_)
      refine lv_goto (pc := 18) (tgt := 2) hx hb dX3_copies_18 (by decide) ?_
      exact ih (l2 + (nI 1)) S3 _ _ ls hP hD hS (lv_sub hl [1, 2, 0] rfl) hf
def fX3_copies_02 (S : mS) : Option (Unit × mS) :=
  fX3_copies_02_b2 FU (nI 0) S
theorem wX3_copies_02_b0 (hc : mC p s m args meth c D cI cJ cX3_copies 3 (none)) (S : mS) (H : Heap) (locs : List Loc) (ls : Array Slot) (hP : va_P D mCl (mws am cI cJ S) H) (hD : va_D (mA am) (mws am cI cJ S)) (hS : va_S (mA am) s.heap H locs) (hl : lv_has ls 3 [(0, .ref (am 1)), (1, .ref (am 3))]) (hf : fX3_copies_02  S = some (r, Sf)) : W p l e (mR 0 0) s m args below meth c H locs 0 0 (mQ below D am cI cJ none Sf args s) (F0 m 0 ls []) := by
  obtain ⟨hx, hb, hr, hlk, hml, hown, hts, hK⟩ := hc
  have hc : mC p s m args meth c D cI cJ cX3_copies 3 (none) := ⟨hx, hb, hr, hlk, hml, hown, hts, hK⟩
  unfold fX3_copies_02 at hf
  refine lv_iconst (pc := 0) (v := nI 0) hx hb dX3_copies_0 rfl ?_
  refine lv_istore_n (pc := 1) (lv' := [(2, .int (nI 0)), (0, .ref (am 1)), (1, .ref (am 3))]) hx hb dX3_copies_1 rfl hl (by decide) rfl (fun ls hl => ?_)
  exact wX3_copies_02_b2 hc FU (nI 0) S _ _ ls hP hD hS (lv_sub hl [1, 2, 0] rfl) hf
theorem mX3_copies_02 {S S2 : mS} {r2 : Unit} (hf : fX3_copies_02  S = some (r2, S2)) : mMet l yX3_copies cX3_copies 3 (none) 0 0 D am cI cJ [.ref (am 1), .ref (am 3)] S none S2 := by
  exact m_start (by decide) rfl (Nat.le_of_ble_eq_true rfl) (fun p e s m args below meth c ls hc hl hP hD => wX3_copies_02_b0 hc  S _ _ ls hP hD va_S.rf (lv_sub hl [0, 1] rfl) hf)
end
section
variable {r : Int32} {Sf : mS}
def fX3_image (S : mS) : Option (Int32 × mS) :=
  bd2 (fX3_copies_02  S) fun _ S1 =>
  bd (msz S1 0 (nI 1)) fun S2 =>
  some (nI 1, S2)
theorem wX3_image_b0 (hc : mC p s m args meth c D cI cJ cX3_image 1 (some .int)) (S : mS) (H : Heap) (locs : List Loc) (ls : Array Slot) (hP : va_P D mCl (mws am cI cJ S) H) (hD : va_D (mA am) (mws am cI cJ S)) (hS : va_S (mA am) s.heap H locs) (hl : lv_has ls 1 [(0, .ref (am 0))]) (hf : fX3_image  S = some (r, Sf)) : W p l e (mR 1 22) s m args below meth c H locs 0 0 (mQ below D am cI cJ (some (.int r)) Sf args s) (F0 m 0 ls []) := by
  obtain ⟨hx, hb, hr, hlk, hml, hown, hts, hK⟩ := hc
  have hc : mC p s m args meth c D cI cJ cX3_image 1 (some .int) := ⟨hx, hb, hr, hlk, hml, hown, hts, hK⟩
  unfold fX3_image at hf
  refine lv_aload_n (pc := 0) hx hb dX3_image_0 rfl (lv_at hl 0 rfl) ?_
  refine va_get (D := D) (ci := 0) (v := .ref (am 1)) (C := RX3) (T := TX3) (N := 17) (pc := 1) hx hb hts in_X3 hown hK hP 0 rfl rfl 0 (by decide) (hts _ q2839) (fun _ h9 => h9) rfl dX3_image_1 ?_
  refine lv_aload_n (pc := 4) hx hb dX3_image_4 rfl (lv_at hl 0 rfl) ?_
  refine va_get (D := D) (ci := 0) (v := .ref (am 3)) (C := RX3) (T := TX3) (N := 17) (pc := 5) hx hb hts in_X3 hown hK hP 0 rfl rfl 2 (by decide) (hts _ q2841) (fun _ h9 => h9) rfl dX3_image_5 ?_
  obtain ⟨v1, S1, e1, hf⟩ := bd2o hf
  refine m_callS (pc := 8) (As := [.ref (am 1), .ref (am 3)]) (rest := []) (st1 := []) hc (mX3_copies_02 e1) (va_cwS 2 hts (lw_S q3191 q3192 q105 q3193) rfl rfl rfl hdX3_copies ⟨Nat.le_of_ble_eq_true rfl, Nat.le_of_ble_eq_true rfl⟩) rfl hl.1 rfl rfl (lv_room (Nat.le_of_ble_eq_true rfl)) dX3_image_8 hP hD hS (fun H locs hP hD hS => ?_)
  refine lv_aload_n (pc := 11) hx hb dX3_image_11 rfl (lv_at hl 0 rfl) ?_
  refine lv_iconst (pc := 12) (v := nI 1) hx hb dX3_image_12 rfl ?_
  obtain ⟨S2, e2, hf⟩ := bdo hf
  refine m_putz (pc := 13) (j := 3) (js := 0) hx hb hts hown hK hP hD hS (by decide) rfl rfl (hts _ q2842) rfl rfl e2 dX3_image_13 (fun H locs hP hD hS => ?_)
  refine lv_iconst (pc := 16) (v := nI 1) hx hb dX3_image_16 rfl ?_
  exact m_iret (pc := 17) hx hb hr hlk hP hD hS hf dX3_image_17
theorem mX3_image {S S2 : mS} {r2 : Int32} (hf : fX3_image  S = some (r2, S2)) : mMet l yX3_image cX3_image 1 (some .int) 1 22 D am cI cJ [.ref (am 0)] S (some (.int r2)) S2 := by
  exact m_start (by decide) rfl (Nat.le_of_ble_eq_true rfl) (fun p e s m args below meth c ls hc hl hP hD => wX3_image_b0 hc  S _ _ ls hP hD va_S.rf (lv_sub hl [0] rfl) hf)
end
section
variable {r : Unit} {Sf : mS}
def fX3_copies_20_b2 : Nat → Int32 → mS → Option (Unit × mS)
  | 0, _, _ => none
  | n + 1, l2, S =>
    if (nI 7919) ≤ l2 then
      some ((), S)
    else
      bd (mrd S 2 7919 l2) fun v2 =>
      bd (mwr S 0 7919 l2 v2) fun S3 =>
      fX3_copies_20_b2 n (l2 + (nI 1)) S3
theorem wX3_copies_20_b2 (hc : mC p s m args meth c D cI cJ cX3_copies 3 (none)) : ∀ (n : Nat) (l2 : Int32) (S : mS) (H : Heap) (locs : List Loc) (ls : Array Slot), va_P D mCl (mws am cI cJ S) H → va_D (mA am) (mws am cI cJ S) → va_S (mA am) s.heap H locs → lv_has ls 3 [(0, .ref (am 3)), (1, .ref (am 1)), (2, .int l2)] → fX3_copies_20_b2 n l2 S = some (r, Sf) → W p l e (mR 0 0) s m args below meth c H locs 0 0 (mQ below D am cI cJ none Sf args s) (F0 m 2 ls []) := by
  obtain ⟨hx, hb, hr, hlk, hml, hown, hts, hK⟩ := hc
  have hc : mC p s m args meth c D cI cJ cX3_copies 3 (none) := ⟨hx, hb, hr, hlk, hml, hown, hts, hK⟩
  intro n
  induction n with
  | zero => intro l2 S H locs ls _ _ _ _ hf; exact absurd hf (fun h => by cases h)
  | succ n ih =>
    intro l2 S H locs ls hP hD hS hl hf
    rw [fX3_copies_20_b2] at hf
    refine lv_iload_n (pc := 2) hx hb dX3_copies_2 rfl (lv_at hl 2 rfl) ?_
    refine lv_sipush (pc := 3) (v := nI 7919) hx hb dX3_copies_3 kcs7919 ?_
    refine lv_icmp_ge (pc := 6) (tgt := 21) hx hb dX3_copies_6 (by decide) (fun c1 => ?_) (fun c1 => ?_)
    · rw [if_pos c1] at hf
      exact m_vret (pc := 21) hx hb hr hlk hP hD hS hf dX3_copies_21
    · rw [if_neg c1] at hf
      refine lv_aload_n (pc := 9) hx hb dX3_copies_9 rfl (lv_at hl 1 rfl) ?_
      refine lv_iload_n (pc := 10) hx hb dX3_copies_10 rfl (lv_at hl 2 rfl) ?_
      refine lv_aload_n (pc := 11) hx hb dX3_copies_11 rfl (lv_at hl 0 rfl) ?_
      refine lv_iload_n (pc := 12) hx hb dX3_copies_12 rfl (lv_at hl 2 rfl) ?_
      obtain ⟨v2, e2, hf⟩ := bdo hf
      refine m_iald (pc := 13) (k := 2) hx hb hK hP rfl e2 dX3_copies_13 ?_
      obtain ⟨S3, e3, hf⟩ := bdo hf
      refine m_iast (pc := 14) (k := 0) hx hb hK hP hD hS rfl (fun _ _ => rfl) e3 dX3_copies_14 (fun H locs hP hD hS => ?_)
      refine lv_iinc (pc := 15) (v := l2 + (nI 1)) (lv' := [(2, .int (l2 + (nI 1))), (0, .ref (am 3)), (1, .ref (am 1))]) hx hb dX3_copies_15 hl (k := 2) rfl rfl (by decide) rfl (fun ls hl => ?_)
      refine lv_goto (pc := 18) (tgt := 2) hx hb dX3_copies_18 (by decide) ?_
      exact ih (l2 + (nI 1)) S3 _ _ ls hP hD hS (lv_sub hl [1, 2, 0] rfl) hf
def fX3_copies_20 (S : mS) : Option (Unit × mS) :=
  fX3_copies_20_b2 FU (nI 0) S
theorem wX3_copies_20_b0 (hc : mC p s m args meth c D cI cJ cX3_copies 3 (none)) (S : mS) (H : Heap) (locs : List Loc) (ls : Array Slot) (hP : va_P D mCl (mws am cI cJ S) H) (hD : va_D (mA am) (mws am cI cJ S)) (hS : va_S (mA am) s.heap H locs) (hl : lv_has ls 3 [(0, .ref (am 3)), (1, .ref (am 1))]) (hf : fX3_copies_20  S = some (r, Sf)) : W p l e (mR 0 0) s m args below meth c H locs 0 0 (mQ below D am cI cJ none Sf args s) (F0 m 0 ls []) := by
  obtain ⟨hx, hb, hr, hlk, hml, hown, hts, hK⟩ := hc
  have hc : mC p s m args meth c D cI cJ cX3_copies 3 (none) := ⟨hx, hb, hr, hlk, hml, hown, hts, hK⟩
  unfold fX3_copies_20 at hf
  refine lv_iconst (pc := 0) (v := nI 0) hx hb dX3_copies_0 rfl ?_
  refine lv_istore_n (pc := 1) (lv' := [(2, .int (nI 0)), (0, .ref (am 3)), (1, .ref (am 1))]) hx hb dX3_copies_1 rfl hl (by decide) rfl (fun ls hl => ?_)
  exact wX3_copies_20_b2 hc FU (nI 0) S _ _ ls hP hD hS (lv_sub hl [1, 2, 0] rfl) hf
theorem mX3_copies_20 {S S2 : mS} {r2 : Unit} (hf : fX3_copies_20  S = some (r2, S2)) : mMet l yX3_copies cX3_copies 3 (none) 0 0 D am cI cJ [.ref (am 3), .ref (am 1)] S none S2 := by
  exact m_start (by decide) rfl (Nat.le_of_ble_eq_true rfl) (fun p e s m args below meth c ls hc hl hP hD => wX3_copies_20_b0 hc  S _ _ ls hP hD va_S.rf (lv_sub hl [0, 1] rfl) hf)
end
section
variable {r : Int32} {Sf : mS}
def fX3_back (S : mS) : Option (Int32 × mS) :=
  if (mf S 0) = 0 then
    bd2 (fX3_refused (-85) S) fun v3 S3 =>
    some (v3, S3)
  else
    bd2 (fX3_copies_20  S) fun _ S2 =>
    some (nI 1, S2)
theorem wX3_back_b0 (hc : mC p s m args meth c D cI cJ cX3_back 1 (some .int)) (S : mS) (H : Heap) (locs : List Loc) (ls : Array Slot) (hP : va_P D mCl (mws am cI cJ S) H) (hD : va_D (mA am) (mws am cI cJ S)) (hS : va_S (mA am) s.heap H locs) (hl : lv_has ls 1 [(0, .ref (am 0))]) (hf : fX3_back  S = some (r, Sf)) : W p l e (mR 1 22) s m args below meth c H locs 0 0 (mQ below D am cI cJ (some (.int r)) Sf args s) (F0 m 0 ls []) := by
  obtain ⟨hx, hb, hr, hlk, hml, hown, hts, hK⟩ := hc
  have hc : mC p s m args meth c D cI cJ cX3_back 1 (some .int) := ⟨hx, hb, hr, hlk, hml, hown, hts, hK⟩
  unfold fX3_back at hf
  refine lv_aload_n (pc := 0) hx hb dX3_back_0 rfl (lv_at hl 0 rfl) ?_
  refine va_get (D := D) (ci := 0) (v := .int (mf S 0)) (C := RX3) (T := TX3) (N := 17) (pc := 1) hx hb hts in_X3 hown hK hP 0 rfl rfl 3 (by decide) (hts _ q2842) (fun _ h9 => h9) rfl dX3_back_1 ?_
  refine lv_if_ne (pc := 4) (tgt := 14) hx hb dX3_back_4 (by decide) (fun c1 => ?_) (fun c1 => ?_)
  · rw [if_neg c1] at hf
    refine lv_aload_n (pc := 14) hx hb dX3_back_14 rfl (lv_at hl 0 rfl) ?_
    refine va_get (D := D) (ci := 0) (v := .ref (am 3)) (C := RX3) (T := TX3) (N := 17) (pc := 15) hx hb hts in_X3 hown hK hP 0 rfl rfl 2 (by decide) (hts _ q2841) (fun _ h9 => h9) rfl dX3_back_15 ?_
    refine lv_aload_n (pc := 18) hx hb dX3_back_18 rfl (lv_at hl 0 rfl) ?_
    refine va_get (D := D) (ci := 0) (v := .ref (am 1)) (C := RX3) (T := TX3) (N := 17) (pc := 19) hx hb hts in_X3 hown hK hP 0 rfl rfl 0 (by decide) (hts _ q2839) (fun _ h9 => h9) rfl dX3_back_19 ?_
    obtain ⟨v2, S2, e2, hf⟩ := bd2o hf
    refine m_callS (pc := 22) (As := [.ref (am 3), .ref (am 1)]) (rest := []) (st1 := []) hc (mX3_copies_20 e2) (va_cwS 2 hts (lw_S q3191 q3192 q105 q3193) rfl rfl rfl hdX3_copies ⟨Nat.le_of_ble_eq_true rfl, Nat.le_of_ble_eq_true rfl⟩) rfl hl.1 rfl rfl (lv_room (Nat.le_of_ble_eq_true rfl)) dX3_back_22 hP hD hS (fun H locs hP hD hS => ?_)
    refine lv_iconst (pc := 25) (v := nI 1) hx hb dX3_back_25 rfl ?_
    exact m_iret (pc := 26) hx hb hr hlk hP hD hS hf dX3_back_26
  · rw [if_pos c1] at hf
    refine lv_aload_n (pc := 7) hx hb dX3_back_7 rfl (lv_at hl 0 rfl) ?_
    refine lv_bipush (pc := 8) (v := -85) hx hb dX3_back_8 kcbm85 ?_
    obtain ⟨v3, S3, e3, hf⟩ := bd2o hf
    refine m_callV (pc := 10) (As := [.int (-85)]) (rest := []) (st1 := [.int v3]) hc (mX3_refused e3) (cwV 1 hts (lw_V q2899 q2901 qs51 q105 q2902) rfl rfl rfl hdX3_refused ⟨Nat.le_of_ble_eq_true rfl, Nat.le_of_ble_eq_true rfl⟩) rfl hl.1 rfl rfl (lv_room (Nat.le_of_ble_eq_true rfl)) dX3_back_10 hP hD hS (fun H locs hP hD hS => ?_)
    exact m_iret (pc := 13) hx hb hr hlk hP hD hS hf dX3_back_13
theorem mX3_back {S S2 : mS} {r2 : Int32} (hf : fX3_back  S = some (r2, S2)) : mMet l yX3_back cX3_back 1 (some .int) 1 22 D am cI cJ [.ref (am 0)] S (some (.int r2)) S2 := by
  exact m_start (by decide) rfl (Nat.le_of_ble_eq_true rfl) (fun p e s m args below meth c ls hc hl hP hD => wX3_back_b0 hc  S _ _ ls hP hD va_S.rf (lv_sub hl [0] rfl) hf)
end
section
variable {r : Int32} {Sf : mS}
def fX3_sum_b4 : Nat → Int32 → Int32 → Int32 → mS → Option (Int32 × mS)
  | 0, _, _, _, _ => none
  | n + 1, l1, l2, l3, S =>
    bd (mrd S 0 7919 (nI 0)) fun v1 =>
    if v1 ≤ l3 then
      some (l2, S)
    else
      if l1 = 0 then
        bd2 (fX3_consumersOf l3 (nI 1) S) fun v4 S4 =>
        fX3_sum_b4 n l1 (l2 + v4) (l3 + (nI 1)) S4
      else
        bd2 (fX3_of l3 (nI 35) S) fun v5 S5 =>
        fX3_sum_b4 n l1 (l2 + v5) (l3 + (nI 1)) S5
theorem wX3_sum_b4 (hc : mC p s m args meth c D cI cJ cX3_sum 4 (some .int)) : ∀ (n : Nat) (l1 : Int32) (l2 : Int32) (l3 : Int32) (S : mS) (H : Heap) (locs : List Loc) (ls : Array Slot), va_P D mCl (mws am cI cJ S) H → va_D (mA am) (mws am cI cJ S) → va_S (mA am) s.heap H locs → lv_has ls 4 [(0, .ref (am 0)), (1, .int l1), (2, .int l2), (3, .int l3)] → fX3_sum_b4 n l1 l2 l3 S = some (r, Sf) → W p l e (mR 4 91) s m args below meth c H locs 0 0 (mQ below D am cI cJ (some (.int r)) Sf args s) (F0 m 4 ls []) := by
  obtain ⟨hx, hb, hr, hlk, hml, hown, hts, hK⟩ := hc
  have hc : mC p s m args meth c D cI cJ cX3_sum 4 (some .int) := ⟨hx, hb, hr, hlk, hml, hown, hts, hK⟩
  intro n
  induction n with
  | zero => intro l1 l2 l3 S H locs ls _ _ _ _ hf; exact absurd hf (fun h => by cases h)
  | succ n ih =>
    intro l1 l2 l3 S H locs ls hP hD hS hl hf
    rw [fX3_sum_b4] at hf
    refine lv_iload_n (pc := 4) hx hb dX3_sum_4 rfl (lv_at hl 3 rfl) ?_
    refine lv_aload_n (pc := 5) hx hb dX3_sum_5 rfl (lv_at hl 0 rfl) ?_
    refine va_get (D := D) (ci := 0) (v := .ref (am 1)) (C := RX3) (T := TX3) (N := 17) (pc := 6) hx hb hts in_X3 hown hK hP 0 rfl rfl 0 (by decide) (hts _ q2839) (fun _ h9 => h9) rfl dX3_sum_6 ?_
    refine lv_iconst (pc := 9) (v := nI 0) hx hb dX3_sum_9 rfl ?_
    obtain ⟨v1, e1, hf⟩ := bdo hf
    refine m_iald (pc := 10) (k := 0) hx hb hK hP rfl e1 dX3_sum_10 ?_
    refine lv_icmp_ge (pc := 11) (tgt := 43) hx hb dX3_sum_11 (by decide) (fun c2 => ?_) (fun c2 => ?_)
    · rw [if_pos c2] at hf
      refine lv_iload_n (pc := 43) hx hb dX3_sum_43 rfl (lv_at hl 2 rfl) ?_
      exact m_iret (pc := 44) hx hb hr hlk hP hD hS hf dX3_sum_44
    · rw [if_neg c2] at hf
      refine lv_iload_n (pc := 14) hx hb dX3_sum_14 rfl (lv_at hl 2 rfl) ?_
      refine lv_iload_n (pc := 15) hx hb dX3_sum_15 rfl (lv_at hl 1 rfl) ?_
      refine lv_if_eq (pc := 16) (tgt := 29) hx hb dX3_sum_16 (by decide) (fun c3 => ?_) (fun c3 => ?_)
      · rw [if_pos c3] at hf
        refine lv_aload_n (pc := 29) hx hb dX3_sum_29 rfl (lv_at hl 0 rfl) ?_
        refine lv_iload_n (pc := 30) hx hb dX3_sum_30 rfl (lv_at hl 3 rfl) ?_
        refine lv_iconst (pc := 31) (v := nI 1) hx hb dX3_sum_31 rfl ?_
        obtain ⟨v4, S4, e4, hf⟩ := bd2o hf
        refine m_callV (pc := 32) (As := [.int l3, .int (nI 1)]) (rest := [.int l2]) (st1 := [.int v4, .int l2]) hc (mX3_consumersOf e4) (cwV 2 hts (lw_V q3142 q3144 qs89 q105 q3145) rfl rfl rfl hdX3_consumersOf ⟨Nat.le_of_ble_eq_true rfl, Nat.le_of_ble_eq_true rfl⟩) rfl hl.1 rfl rfl (lv_room (Nat.le_of_ble_eq_true rfl)) dX3_sum_32 hP hD hS (fun H locs hP hD hS => ?_)
        refine lv_iadd (pc := 35) hx hb dX3_sum_35 ?_
        refine lv_istore_n (pc := 36) (lv' := [(2, .int (l2 + v4)), (0, .ref (am 0)), (1, .int l1), (3, .int l3)]) hx hb dX3_sum_36 rfl hl (by decide) rfl (fun ls hl => ?_)
        refine lv_iinc (pc := 37) (v := l3 + (nI 1)) (lv' := [(3, .int (l3 + (nI 1))), (2, .int (l2 + v4)), (0, .ref (am 0)), (1, .int l1)]) hx hb dX3_sum_37 hl (k := 3) rfl rfl (by decide) rfl (fun ls hl => ?_)
        refine lv_goto (pc := 40) (tgt := 4) hx hb dX3_sum_40 (by decide) ?_
        exact ih l1 (l2 + v4) (l3 + (nI 1)) S4 _ _ ls hP hD hS (lv_sub hl [2, 3, 1, 0] rfl) hf
      · rw [if_neg c3] at hf
        refine lv_aload_n (pc := 19) hx hb dX3_sum_19 rfl (lv_at hl 0 rfl) ?_
        refine lv_iload_n (pc := 20) hx hb dX3_sum_20 rfl (lv_at hl 3 rfl) ?_
        refine lv_bipush (pc := 21) (v := nI 35) hx hb dX3_sum_21 kcb35 ?_
        obtain ⟨v5, S5, e5, hf⟩ := bd2o hf
        refine m_callV (pc := 23) (As := [.int l3, .int (nI 35)]) (rest := [.int l2]) (st1 := [.int v5, .int l2]) hc (mX3_of e5) (cwV 2 hts (lw_V q2949 q2951 qs58 q105 q2952) rfl rfl rfl hdX3_of ⟨Nat.le_of_ble_eq_true rfl, Nat.le_of_ble_eq_true rfl⟩) rfl hl.1 rfl rfl (lv_room (Nat.le_of_ble_eq_true rfl)) dX3_sum_23 hP hD hS (fun H locs hP hD hS => ?_)
        refine lv_goto (pc := 26) (tgt := 35) hx hb dX3_sum_26 (by decide) ?_
        refine lv_iadd (pc := 35) hx hb dX3_sum_35 ?_
        refine lv_istore_n (pc := 36) (lv' := [(2, .int (l2 + v5)), (0, .ref (am 0)), (1, .int l1), (3, .int l3)]) hx hb dX3_sum_36 rfl hl (by decide) rfl (fun ls hl => ?_)
        refine lv_iinc (pc := 37) (v := l3 + (nI 1)) (lv' := [(3, .int (l3 + (nI 1))), (2, .int (l2 + v5)), (0, .ref (am 0)), (1, .int l1)]) hx hb dX3_sum_37 hl (k := 3) rfl rfl (by decide) rfl (fun ls hl => ?_)
        refine lv_goto (pc := 40) (tgt := 4) hx hb dX3_sum_40 (by decide) ?_
        exact ih l1 (l2 + v5) (l3 + (nI 1)) S5 _ _ ls hP hD hS (lv_sub hl [2, 3, 1, 0] rfl) hf
def fX3_sum (l1 : Int32) (S : mS) : Option (Int32 × mS) :=
  fX3_sum_b4 FU l1 (nI 0) (nI 0) S
theorem wX3_sum_b0 (hc : mC p s m args meth c D cI cJ cX3_sum 4 (some .int)) (l1 : Int32) (S : mS) (H : Heap) (locs : List Loc) (ls : Array Slot) (hP : va_P D mCl (mws am cI cJ S) H) (hD : va_D (mA am) (mws am cI cJ S)) (hS : va_S (mA am) s.heap H locs) (hl : lv_has ls 4 [(0, .ref (am 0)), (1, .int l1)]) (hf : fX3_sum l1 S = some (r, Sf)) : W p l e (mR 4 91) s m args below meth c H locs 0 0 (mQ below D am cI cJ (some (.int r)) Sf args s) (F0 m 0 ls []) := by
  obtain ⟨hx, hb, hr, hlk, hml, hown, hts, hK⟩ := hc
  have hc : mC p s m args meth c D cI cJ cX3_sum 4 (some .int) := ⟨hx, hb, hr, hlk, hml, hown, hts, hK⟩
  unfold fX3_sum at hf
  refine lv_iconst (pc := 0) (v := nI 0) hx hb dX3_sum_0 rfl ?_
  refine lv_istore_n (pc := 1) (lv' := [(2, .int (nI 0)), (0, .ref (am 0)), (1, .int l1)]) hx hb dX3_sum_1 rfl hl (by decide) rfl (fun ls hl => ?_)
  refine lv_iconst (pc := 2) (v := nI 0) hx hb dX3_sum_2 rfl ?_
  refine lv_istore_n (pc := 3) (lv' := [(3, .int (nI 0)), (2, .int (nI 0)), (0, .ref (am 0)), (1, .int l1)]) hx hb dX3_sum_3 rfl hl (by decide) rfl (fun ls hl => ?_)
  exact wX3_sum_b4 hc FU l1 (nI 0) (nI 0) S _ _ ls hP hD hS (lv_sub hl [2, 3, 1, 0] rfl) hf
theorem mX3_sum {S S2 : mS} {r2 : Int32} {l1 : Int32} (hf : fX3_sum l1 S = some (r2, S2)) : mMet l yX3_sum cX3_sum 4 (some .int) 4 91 D am cI cJ [.ref (am 0), .int l1] S (some (.int r2)) S2 := by
  exact m_start (by decide) rfl (Nat.le_of_ble_eq_true rfl) (fun p e s m args below meth c ls hc hl hP hD => wX3_sum_b0 hc l1 S _ _ ls hP hD va_S.rf (lv_sub hl [0, 1] rfl) hf)
end
section
variable {r : Int32} {Sf : mS}
def fX3_heldShelves_b4 : Nat → Int32 → Int32 → mS → Option (Int32 × mS)
  | 0, _, _, _ => none
  | n + 1, l1, l2, S =>
    if (nI 8) ≤ l2 then
      some (l1, S)
    else
      bd (mrd S 8 8 l2) fun v2 =>
      if v2 < 0 then
        fX3_heldShelves_b4 n (l1 + (nI 0)) (l2 + (nI 1)) S
      else
        fX3_heldShelves_b4 n (l1 + (nI 1)) (l2 + (nI 1)) S
theorem wX3_heldShelves_b4 (hc : mC p s m args meth c D cI cJ cX3_heldShelves 3 (some .int)) : ∀ (n : Nat) (l1 : Int32) (l2 : Int32) (S : mS) (H : Heap) (locs : List Loc) (ls : Array Slot), va_P D mCl (mws am cI cJ S) H → va_D (mA am) (mws am cI cJ S) → va_S (mA am) s.heap H locs → lv_has ls 3 [(0, .ref (am 0)), (1, .int l1), (2, .int l2)] → fX3_heldShelves_b4 n l1 l2 S = some (r, Sf) → W p l e (mR 0 0) s m args below meth c H locs 0 0 (mQ below D am cI cJ (some (.int r)) Sf args s) (F0 m 4 ls []) := by
  obtain ⟨hx, hb, hr, hlk, hml, hown, hts, hK⟩ := hc
  have hc : mC p s m args meth c D cI cJ cX3_heldShelves 3 (some .int) := ⟨hx, hb, hr, hlk, hml, hown, hts, hK⟩
  intro n
  induction n with
  | zero => intro l1 l2 S H locs ls _ _ _ _ hf; exact absurd hf (fun h => by cases h)
  | succ n ih =>
    intro l1 l2 S H locs ls hP hD hS hl hf
    rw [fX3_heldShelves_b4] at hf
    refine lv_iload_n (pc := 4) hx hb dX3_heldShelves_4 rfl (lv_at hl 2 rfl) ?_
    refine lv_bipush (pc := 5) (v := nI 8) hx hb dX3_heldShelves_5 kcb8 ?_
    refine lv_icmp_ge (pc := 7) (tgt := 33) hx hb dX3_heldShelves_7 (by decide) (fun c1 => ?_) (fun c1 => ?_)
    · rw [if_pos c1] at hf
      refine lv_iload_n (pc := 33) hx hb dX3_heldShelves_33 rfl (lv_at hl 1 rfl) ?_
      exact m_iret (pc := 34) hx hb hr hlk hP hD hS hf dX3_heldShelves_34
    · rw [if_neg c1] at hf
      refine lv_iload_n (pc := 10) hx hb dX3_heldShelves_10 rfl (lv_at hl 1 rfl) ?_
      refine lv_aload_n (pc := 11) hx hb dX3_heldShelves_11 rfl (lv_at hl 0 rfl) ?_
      refine va_get (D := D) (ci := 0) (v := .ref (am 9)) (C := RX3) (T := TX3) (N := 17) (pc := 12) hx hb hts in_X3 hown hK hP 0 rfl rfl 13 (by decide) (hts _ q2852) (fun _ h9 => h9) rfl dX3_heldShelves_12 ?_
      refine lv_iload_n (pc := 15) hx hb dX3_heldShelves_15 rfl (lv_at hl 2 rfl) ?_
      obtain ⟨v2, e2, hf⟩ := bdo hf
      refine m_iald (pc := 16) (k := 8) hx hb hK hP rfl e2 dX3_heldShelves_16 ?_
      refine lv_if_lt (pc := 17) (tgt := 24) hx hb dX3_heldShelves_17 (by decide) (fun c3 => ?_) (fun c3 => ?_)
      · rw [if_pos c3] at hf
        refine lv_iconst (pc := 24) (v := nI 0) hx hb dX3_heldShelves_24 rfl ?_
        refine lv_iadd (pc := 25) hx hb dX3_heldShelves_25 ?_
        refine lv_istore_n (pc := 26) (lv' := [(1, .int (l1 + (nI 0))), (0, .ref (am 0)), (2, .int l2)]) hx hb dX3_heldShelves_26 rfl hl (by decide) rfl (fun ls hl => ?_)
        refine lv_iinc (pc := 27) (v := l2 + (nI 1)) (lv' := [(2, .int (l2 + (nI 1))), (1, .int (l1 + (nI 0))), (0, .ref (am 0))]) hx hb dX3_heldShelves_27 hl (k := 2) rfl rfl (by decide) rfl (fun ls hl => ?_)
        refine lv_goto (pc := 30) (tgt := 4) hx hb dX3_heldShelves_30 (by decide) ?_
        exact ih (l1 + (nI 0)) (l2 + (nI 1)) S _ _ ls hP hD hS (lv_sub hl [2, 1, 0] rfl) hf
      · rw [if_neg c3] at hf
        refine lv_iconst (pc := 20) (v := nI 1) hx hb dX3_heldShelves_20 rfl ?_
        refine lv_goto (pc := 21) (tgt := 25) hx hb dX3_heldShelves_21 (by decide) ?_
        refine lv_iadd (pc := 25) hx hb dX3_heldShelves_25 ?_
        refine lv_istore_n (pc := 26) (lv' := [(1, .int (l1 + (nI 1))), (0, .ref (am 0)), (2, .int l2)]) hx hb dX3_heldShelves_26 rfl hl (by decide) rfl (fun ls hl => ?_)
        refine lv_iinc (pc := 27) (v := l2 + (nI 1)) (lv' := [(2, .int (l2 + (nI 1))), (1, .int (l1 + (nI 1))), (0, .ref (am 0))]) hx hb dX3_heldShelves_27 hl (k := 2) rfl rfl (by decide) rfl (fun ls hl => ?_)
        refine lv_goto (pc := 30) (tgt := 4) hx hb dX3_heldShelves_30 (by decide) ?_
        exact ih (l1 + (nI 1)) (l2 + (nI 1)) S _ _ ls hP hD hS (lv_sub hl [2, 1, 0] rfl) hf
def fX3_heldShelves (S : mS) : Option (Int32 × mS) :=
  fX3_heldShelves_b4 FU (nI 0) (nI 0) S
theorem wX3_heldShelves_b0 (hc : mC p s m args meth c D cI cJ cX3_heldShelves 3 (some .int)) (S : mS) (H : Heap) (locs : List Loc) (ls : Array Slot) (hP : va_P D mCl (mws am cI cJ S) H) (hD : va_D (mA am) (mws am cI cJ S)) (hS : va_S (mA am) s.heap H locs) (hl : lv_has ls 3 [(0, .ref (am 0))]) (hf : fX3_heldShelves  S = some (r, Sf)) : W p l e (mR 0 0) s m args below meth c H locs 0 0 (mQ below D am cI cJ (some (.int r)) Sf args s) (F0 m 0 ls []) := by
  obtain ⟨hx, hb, hr, hlk, hml, hown, hts, hK⟩ := hc
  have hc : mC p s m args meth c D cI cJ cX3_heldShelves 3 (some .int) := ⟨hx, hb, hr, hlk, hml, hown, hts, hK⟩
  unfold fX3_heldShelves at hf
  refine lv_iconst (pc := 0) (v := nI 0) hx hb dX3_heldShelves_0 rfl ?_
  refine lv_istore_n (pc := 1) (lv' := [(1, .int (nI 0)), (0, .ref (am 0))]) hx hb dX3_heldShelves_1 rfl hl (by decide) rfl (fun ls hl => ?_)
  refine lv_iconst (pc := 2) (v := nI 0) hx hb dX3_heldShelves_2 rfl ?_
  refine lv_istore_n (pc := 3) (lv' := [(2, .int (nI 0)), (1, .int (nI 0)), (0, .ref (am 0))]) hx hb dX3_heldShelves_3 rfl hl (by decide) rfl (fun ls hl => ?_)
  exact wX3_heldShelves_b4 hc FU (nI 0) (nI 0) S _ _ ls hP hD hS (lv_sub hl [2, 1, 0] rfl) hf
theorem mX3_heldShelves {S S2 : mS} {r2 : Int32} (hf : fX3_heldShelves  S = some (r2, S2)) : mMet l yX3_heldShelves cX3_heldShelves 3 (some .int) 0 0 D am cI cJ [.ref (am 0)] S (some (.int r2)) S2 := by
  exact m_start (by decide) rfl (Nat.le_of_ble_eq_true rfl) (fun p e s m args below meth c ls hc hl hP hD => wX3_heldShelves_b0 hc  S _ _ ls hP hD va_S.rf (lv_sub hl [0] rfl) hf)
end
section
variable {r : Int32} {Sf : mS}
def fX3_status (l1 : Int32) (S : mS) : Option (Int32 × mS) :=
  if l1 = 0 then
    bd (mrd S 0 7919 l1) fun v2 =>
    some (v2, S)
  else if l1 = 1 then
    bd (mrd S 0 7919 l1) fun v3 =>
    some (v3, S)
  else if l1 = 2 then
    bd (mrd S 0 7919 l1) fun v4 =>
    some (v4, S)
  else if l1 = 3 then
    bd (mrd S 0 7919 l1) fun v5 =>
    some (v5, S)
  else if l1 = 4 then
    bd (mrd S 0 7919 l1) fun v6 =>
    some (v6, S)
  else if l1 = 5 then
    bd2 (fX3_sum (nI 1) S) fun v7 S7 =>
    some (v7, S7)
  else if l1 = 6 then
    bd2 (fX3_sum (nI 0) S) fun v8 S8 =>
    some (v8, S8)
  else if l1 = 7 then
    bd (mrd S 0 7919 (nI 6)) fun v9 =>
    some (v9, S)
  else if l1 = 8 then
    some (mf S 1, S)
  else if l1 = 9 then
    bd (mrd S 0 7919 (nI 5)) fun v10 =>
    some (v10, S)
  else if l1 = 10 then
    bd2 (fX3_heldShelves  S) fun v11 S11 =>
    some (v11, S11)
  else
    bd2 (fX3_in l1.toInt64 (lN 12) (lN 16) S) fun v12 S12 =>
    if v12 = 0 then
      some (-1, S12)
    else
      bd (mrd S12 3 5 (l1 - (nI 12))) fun v14 =>
      some (v14, S12)
theorem wX3_status_b0 (hc : mC p s m args meth c D cI cJ cX3_status 2 (some .int)) (l1 : Int32) (S : mS) (H : Heap) (locs : List Loc) (ls : Array Slot) (hP : va_P D mCl (mws am cI cJ S) H) (hD : va_D (mA am) (mws am cI cJ S)) (hS : va_S (mA am) s.heap H locs) (hl : lv_has ls 2 [(0, .ref (am 0)), (1, .int l1)]) (hf : fX3_status l1 S = some (r, Sf)) : W p l e (mR 5 114) s m args below meth c H locs 0 0 (mQ below D am cI cJ (some (.int r)) Sf args s) (F0 m 0 ls []) := by
  obtain ⟨hx, hb, hr, hlk, hml, hown, hts, hK⟩ := hc
  have hc : mC p s m args meth c D cI cJ cX3_status 2 (some .int) := ⟨hx, hb, hr, hlk, hml, hown, hts, hK⟩
  unfold fX3_status at hf
  refine lv_iload_n (pc := 0) hx hb dX3_status_0 rfl (lv_at hl 1 rfl) ?_
  by_cases c1_0 : l1 = 0
  · rw [if_pos c1_0] at hf
    refine lv_tableIn (pc := 1) (off := 59) (tgt := 60) hx hb dX3_status_1 (by rw [c1_0]; decide) (by rw [c1_0]; decide) (by rw [c1_0]; rfl) (by decide) ?_
    refine lv_aload_n (pc := 60) hx hb dX3_status_60 rfl (lv_at hl 0 rfl) ?_
    refine va_get (D := D) (ci := 0) (v := .ref (am 1)) (C := RX3) (T := TX3) (N := 17) (pc := 61) hx hb hts in_X3 hown hK hP 0 rfl rfl 0 (by decide) (hts _ q2839) (fun _ h9 => h9) rfl dX3_status_61 ?_
    refine lv_iload_n (pc := 64) hx hb dX3_status_64 rfl (lv_at hl 1 rfl) ?_
    obtain ⟨v2, e2, hf⟩ := bdo hf
    refine m_iald (pc := 65) (k := 0) hx hb hK hP rfl e2 dX3_status_65 ?_
    exact m_iret (pc := 66) hx hb hr hlk hP hD hS hf dX3_status_66
  · rw [if_neg c1_0] at hf
    by_cases c1_1 : l1 = 1
    · rw [if_pos c1_1] at hf
      refine lv_tableIn (pc := 1) (off := 59) (tgt := 60) hx hb dX3_status_1 (by rw [c1_1]; decide) (by rw [c1_1]; decide) (by rw [c1_1]; rfl) (by decide) ?_
      refine lv_aload_n (pc := 60) hx hb dX3_status_60 rfl (lv_at hl 0 rfl) ?_
      refine va_get (D := D) (ci := 0) (v := .ref (am 1)) (C := RX3) (T := TX3) (N := 17) (pc := 61) hx hb hts in_X3 hown hK hP 0 rfl rfl 0 (by decide) (hts _ q2839) (fun _ h9 => h9) rfl dX3_status_61 ?_
      refine lv_iload_n (pc := 64) hx hb dX3_status_64 rfl (lv_at hl 1 rfl) ?_
      obtain ⟨v3, e3, hf⟩ := bdo hf
      refine m_iald (pc := 65) (k := 0) hx hb hK hP rfl e3 dX3_status_65 ?_
      exact m_iret (pc := 66) hx hb hr hlk hP hD hS hf dX3_status_66
    · rw [if_neg c1_1] at hf
      by_cases c1_2 : l1 = 2
      · rw [if_pos c1_2] at hf
        refine lv_tableIn (pc := 1) (off := 59) (tgt := 60) hx hb dX3_status_1 (by rw [c1_2]; decide) (by rw [c1_2]; decide) (by rw [c1_2]; rfl) (by decide) ?_
        refine lv_aload_n (pc := 60) hx hb dX3_status_60 rfl (lv_at hl 0 rfl) ?_
        refine va_get (D := D) (ci := 0) (v := .ref (am 1)) (C := RX3) (T := TX3) (N := 17) (pc := 61) hx hb hts in_X3 hown hK hP 0 rfl rfl 0 (by decide) (hts _ q2839) (fun _ h9 => h9) rfl dX3_status_61 ?_
        refine lv_iload_n (pc := 64) hx hb dX3_status_64 rfl (lv_at hl 1 rfl) ?_
        obtain ⟨v4, e4, hf⟩ := bdo hf
        refine m_iald (pc := 65) (k := 0) hx hb hK hP rfl e4 dX3_status_65 ?_
        exact m_iret (pc := 66) hx hb hr hlk hP hD hS hf dX3_status_66
      · rw [if_neg c1_2] at hf
        by_cases c1_3 : l1 = 3
        · rw [if_pos c1_3] at hf
          refine lv_tableIn (pc := 1) (off := 59) (tgt := 60) hx hb dX3_status_1 (by rw [c1_3]; decide) (by rw [c1_3]; decide) (by rw [c1_3]; rfl) (by decide) ?_
          refine lv_aload_n (pc := 60) hx hb dX3_status_60 rfl (lv_at hl 0 rfl) ?_
          refine va_get (D := D) (ci := 0) (v := .ref (am 1)) (C := RX3) (T := TX3) (N := 17) (pc := 61) hx hb hts in_X3 hown hK hP 0 rfl rfl 0 (by decide) (hts _ q2839) (fun _ h9 => h9) rfl dX3_status_61 ?_
          refine lv_iload_n (pc := 64) hx hb dX3_status_64 rfl (lv_at hl 1 rfl) ?_
          obtain ⟨v5, e5, hf⟩ := bdo hf
          refine m_iald (pc := 65) (k := 0) hx hb hK hP rfl e5 dX3_status_65 ?_
          exact m_iret (pc := 66) hx hb hr hlk hP hD hS hf dX3_status_66
        · rw [if_neg c1_3] at hf
          by_cases c1_4 : l1 = 4
          · rw [if_pos c1_4] at hf
            refine lv_tableIn (pc := 1) (off := 59) (tgt := 60) hx hb dX3_status_1 (by rw [c1_4]; decide) (by rw [c1_4]; decide) (by rw [c1_4]; rfl) (by decide) ?_
            refine lv_aload_n (pc := 60) hx hb dX3_status_60 rfl (lv_at hl 0 rfl) ?_
            refine va_get (D := D) (ci := 0) (v := .ref (am 1)) (C := RX3) (T := TX3) (N := 17) (pc := 61) hx hb hts in_X3 hown hK hP 0 rfl rfl 0 (by decide) (hts _ q2839) (fun _ h9 => h9) rfl dX3_status_61 ?_
            refine lv_iload_n (pc := 64) hx hb dX3_status_64 rfl (lv_at hl 1 rfl) ?_
            obtain ⟨v6, e6, hf⟩ := bdo hf
            refine m_iald (pc := 65) (k := 0) hx hb hK hP rfl e6 dX3_status_65 ?_
            exact m_iret (pc := 66) hx hb hr hlk hP hD hS hf dX3_status_66
          · rw [if_neg c1_4] at hf
            by_cases c1_5 : l1 = 5
            · rw [if_pos c1_5] at hf
              refine lv_tableIn (pc := 1) (off := 66) (tgt := 67) hx hb dX3_status_1 (by rw [c1_5]; decide) (by rw [c1_5]; decide) (by rw [c1_5]; rfl) (by decide) ?_
              refine lv_aload_n (pc := 67) hx hb dX3_status_67 rfl (lv_at hl 0 rfl) ?_
              refine lv_iconst (pc := 68) (v := nI 1) hx hb dX3_status_68 rfl ?_
              obtain ⟨v7, S7, e7, hf⟩ := bd2o hf
              refine m_callV (pc := 69) (As := [.int (nI 1)]) (rest := []) (st1 := [.int v7]) hc (mX3_sum e7) (cwV 1 hts (lw_V q3275 q3277 qs94 q105 q3278) rfl rfl rfl hdX3_sum ⟨Nat.le_of_ble_eq_true rfl, Nat.le_of_ble_eq_true rfl⟩) rfl hl.1 rfl rfl (lv_room (Nat.le_of_ble_eq_true rfl)) dX3_status_69 hP hD hS (fun H locs hP hD hS => ?_)
              exact m_iret (pc := 72) hx hb hr hlk hP hD hS hf dX3_status_72
            · rw [if_neg c1_5] at hf
              by_cases c1_6 : l1 = 6
              · rw [if_pos c1_6] at hf
                refine lv_tableIn (pc := 1) (off := 72) (tgt := 73) hx hb dX3_status_1 (by rw [c1_6]; decide) (by rw [c1_6]; decide) (by rw [c1_6]; rfl) (by decide) ?_
                refine lv_aload_n (pc := 73) hx hb dX3_status_73 rfl (lv_at hl 0 rfl) ?_
                refine lv_iconst (pc := 74) (v := nI 0) hx hb dX3_status_74 rfl ?_
                obtain ⟨v8, S8, e8, hf⟩ := bd2o hf
                refine m_callV (pc := 75) (As := [.int (nI 0)]) (rest := []) (st1 := [.int v8]) hc (mX3_sum e8) (cwV 1 hts (lw_V q3275 q3277 qs94 q105 q3278) rfl rfl rfl hdX3_sum ⟨Nat.le_of_ble_eq_true rfl, Nat.le_of_ble_eq_true rfl⟩) rfl hl.1 rfl rfl (lv_room (Nat.le_of_ble_eq_true rfl)) dX3_status_75 hP hD hS (fun H locs hP hD hS => ?_)
                exact m_iret (pc := 78) hx hb hr hlk hP hD hS hf dX3_status_78
              · rw [if_neg c1_6] at hf
                by_cases c1_7 : l1 = 7
                · rw [if_pos c1_7] at hf
                  refine lv_tableIn (pc := 1) (off := 78) (tgt := 79) hx hb dX3_status_1 (by rw [c1_7]; decide) (by rw [c1_7]; decide) (by rw [c1_7]; rfl) (by decide) ?_
                  refine lv_aload_n (pc := 79) hx hb dX3_status_79 rfl (lv_at hl 0 rfl) ?_
                  refine va_get (D := D) (ci := 0) (v := .ref (am 1)) (C := RX3) (T := TX3) (N := 17) (pc := 80) hx hb hts in_X3 hown hK hP 0 rfl rfl 0 (by decide) (hts _ q2839) (fun _ h9 => h9) rfl dX3_status_80 ?_
                  refine lv_bipush (pc := 83) (v := nI 6) hx hb dX3_status_83 kcb6 ?_
                  obtain ⟨v9, e9, hf⟩ := bdo hf
                  refine m_iald (pc := 85) (k := 0) hx hb hK hP rfl e9 dX3_status_85 ?_
                  exact m_iret (pc := 86) hx hb hr hlk hP hD hS hf dX3_status_86
                · rw [if_neg c1_7] at hf
                  by_cases c1_8 : l1 = 8
                  · rw [if_pos c1_8] at hf
                    refine lv_tableIn (pc := 1) (off := 86) (tgt := 87) hx hb dX3_status_1 (by rw [c1_8]; decide) (by rw [c1_8]; decide) (by rw [c1_8]; rfl) (by decide) ?_
                    refine lv_aload_n (pc := 87) hx hb dX3_status_87 rfl (lv_at hl 0 rfl) ?_
                    refine va_get (D := D) (ci := 0) (v := .int (mf S 1)) (C := RX3) (T := TX3) (N := 17) (pc := 88) hx hb hts in_X3 hown hK hP 0 rfl rfl 7 (by decide) (hts _ q2846) (fun _ h9 => h9) rfl dX3_status_88 ?_
                    exact m_iret (pc := 91) hx hb hr hlk hP hD hS hf dX3_status_91
                  · rw [if_neg c1_8] at hf
                    by_cases c1_9 : l1 = 9
                    · rw [if_pos c1_9] at hf
                      refine lv_tableIn (pc := 1) (off := 91) (tgt := 92) hx hb dX3_status_1 (by rw [c1_9]; decide) (by rw [c1_9]; decide) (by rw [c1_9]; rfl) (by decide) ?_
                      refine lv_aload_n (pc := 92) hx hb dX3_status_92 rfl (lv_at hl 0 rfl) ?_
                      refine va_get (D := D) (ci := 0) (v := .ref (am 1)) (C := RX3) (T := TX3) (N := 17) (pc := 93) hx hb hts in_X3 hown hK hP 0 rfl rfl 0 (by decide) (hts _ q2839) (fun _ h9 => h9) rfl dX3_status_93 ?_
                      refine lv_iconst (pc := 96) (v := nI 5) hx hb dX3_status_96 rfl ?_
                      obtain ⟨v10, e10, hf⟩ := bdo hf
                      refine m_iald (pc := 97) (k := 0) hx hb hK hP rfl e10 dX3_status_97 ?_
                      exact m_iret (pc := 98) hx hb hr hlk hP hD hS hf dX3_status_98
                    · rw [if_neg c1_9] at hf
                      by_cases c1_10 : l1 = 10
                      · rw [if_pos c1_10] at hf
                        refine lv_tableIn (pc := 1) (off := 98) (tgt := 99) hx hb dX3_status_1 (by rw [c1_10]; decide) (by rw [c1_10]; decide) (by rw [c1_10]; rfl) (by decide) ?_
                        refine lv_aload_n (pc := 99) hx hb dX3_status_99 rfl (lv_at hl 0 rfl) ?_
                        obtain ⟨v11, S11, e11, hf⟩ := bd2o hf
                        refine m_callV (pc := 100) (As := []) (rest := []) (st1 := [.int v11]) hc (mX3_heldShelves e11) (cwV 0 hts (lw_V q3279 q3281 qs95 q105 q3282) rfl rfl rfl hdX3_heldShelves ⟨Nat.le_of_ble_eq_true rfl, Nat.le_of_ble_eq_true rfl⟩) rfl hl.1 rfl rfl (lv_room (Nat.le_of_ble_eq_true rfl)) dX3_status_100 hP hD hS (fun H locs hP hD hS => ?_)
                        exact m_iret (pc := 103) hx hb hr hlk hP hD hS hf dX3_status_103
                      · rw [if_neg c1_10] at hf
                        refine lv_tableOut (pc := 1) (tgt := 104) hx hb dX3_status_1 (tsw10 c1_0 c1_1 c1_2 c1_3 c1_4 c1_5 c1_6 c1_7 c1_8 c1_9 c1_10) (by decide) ?_
                        refine lv_iload_n (pc := 104) hx hb dX3_status_104 rfl (lv_at hl 1 rfl) ?_
                        refine lv_i2l (pc := 105) hx hb dX3_status_105 rfl ?_
                        refine lv_ldc2 (pc := 106) (v := lN 12) hx hb hown (hts _ q3283) dX3_status_106 ?_
                        refine lv_ldc2 (pc := 109) (v := lN 16) hx hb hown (hts _ q3284) dX3_status_109 ?_
                        obtain ⟨v12, S12, e12, hf⟩ := bd2o hf
                        refine m_callS (pc := 112) (As := [.long l1.toInt64, .long (lN 12), .long (lN 16)]) (rest := []) (st1 := [.int v12]) hc (mX3_in e12) (va_cwS 3 hts (lw_S q2896 q2897 q105 q2898) rfl rfl rfl hdX3_in ⟨Nat.le_of_ble_eq_true rfl, Nat.le_of_ble_eq_true rfl⟩) rfl hl.1 rfl rfl (lv_room (Nat.le_of_ble_eq_true rfl)) dX3_status_112 hP hD hS (fun H locs hP hD hS => ?_)
                        refine lv_if_eq (pc := 115) (tgt := 130) hx hb dX3_status_115 (by decide) (fun c13 => ?_) (fun c13 => ?_)
                        · rw [if_pos c13] at hf
                          refine lv_iconst (pc := 130) (v := -1) hx hb dX3_status_130 rfl ?_
                          exact m_iret (pc := 131) hx hb hr hlk hP hD hS hf dX3_status_131
                        · rw [if_neg c13] at hf
                          refine lv_aload_n (pc := 118) hx hb dX3_status_118 rfl (lv_at hl 0 rfl) ?_
                          refine va_get (D := D) (ci := 0) (v := .ref (am 4)) (C := RX3) (T := TX3) (N := 17) (pc := 119) hx hb hts in_X3 hown hK hP 0 rfl rfl 4 (by decide) (hts _ q2843) (fun _ h9 => h9) rfl dX3_status_119 ?_
                          refine lv_iload_n (pc := 122) hx hb dX3_status_122 rfl (lv_at hl 1 rfl) ?_
                          refine lv_bipush (pc := 123) (v := nI 12) hx hb dX3_status_123 kcb12 ?_
                          refine lv_isub (pc := 125) hx hb dX3_status_125 ?_
                          obtain ⟨v14, e14, hf⟩ := bdo hf
                          refine m_iald (pc := 126) (k := 3) hx hb hK hP rfl e14 dX3_status_126 ?_
                          refine lv_goto (pc := 127) (tgt := 131) hx hb dX3_status_127 (by decide) ?_
                          exact m_iret (pc := 131) hx hb hr hlk hP hD hS hf dX3_status_131
theorem mX3_status {S S2 : mS} {r2 : Int32} {l1 : Int32} (hf : fX3_status l1 S = some (r2, S2)) : mMet l yX3_status cX3_status 2 (some .int) 5 114 D am cI cJ [.ref (am 0), .int l1] S (some (.int r2)) S2 := by
  exact m_start (by decide) rfl (Nat.le_of_ble_eq_true rfl) (fun p e s m args below meth c ls hc hl hP hD => wX3_status_b0 hc l1 S _ _ ls hP hD va_S.rf (lv_sub hl [0, 1] rfl) hf)
end
end
