/-! printed by gen/mgen.py: the methods of CreditBrokerModel, lifted and walked (3) -/
set_option maxRecDepth 100000
set_option maxHeartbeats 4000000
section
variable {p : Program} {l : Launch} {e : Env} {s : State} {m : MethodId} {args : Array Value} {below : List Frame} {meth : Method} {c : Code} {D : va_G} {am : Nat → Nat} {cI cJ : ClassId}
section
variable {r : Int32} {Sf : mS}
def fX3_publishes_b117 : Nat → Int32 → Int32 → Int32 → mS → Option (Int32 × mS)
  | 0, _, _, _, _ => none
  | n + 1, l4, l6, l7, S =>
    bd (mrd S 0 7919 (nI 0)) fun v1 =>
    if v1 ≤ l7 then
      some (l6, S)
    else
      bd2 (fX3_isFit l7 S) fun v3 S3 =>
      if v3 = 0 then
        fX3_publishes_b117 n l4 l6 (l7 + (nI 1)) S3
      else
        bd2 (fX3_of l7 (nI 35) S3) fun v5 S5 =>
        bd2 (fX3_of l7 (nI 26) S5) fun v6 S6 =>
        if v5 = v6 then
          bd2 (fX3_newDead l7 l4 S6) fun v9 S9 =>
          bd2 (fX3_of l7 (nI 26) S9) fun v10 S10 =>
          bd2 (fX3_ahead (v9 + (nI 4)) (nI 0) (nI 6) v10 S10) fun _ S11 =>
          bd (mwr S11 0 7919 (v9 + (nI 3)) (nI 1)) fun S12 =>
          fX3_publishes_b117 n l4 (l6 + (nI 1)) (l7 + (nI 1)) S12
        else
          bd2 (fX3_comes l7 l4 S6) fun _ S8 =>
          fX3_publishes_b117 n l4 (l6 + (nI 1)) (l7 + (nI 1)) S8
theorem wX3_publishes_b117 (hc : mC p s m args meth c D cI cJ cX3_publishes 9 (some .int)) : ∀ (n : Nat) (l4 : Int32) (l6 : Int32) (l7 : Int32) (S : mS) (H : Heap) (locs : List Loc) (ls : Array Slot), va_P D mCl (mws am cI cJ S) H → va_D (mA am) (mws am cI cJ S) → va_S (mA am) s.heap H locs → lv_has ls 9 [(0, .ref (am 0)), (4, .int l4), (6, .int l6), (7, .int l7)] → fX3_publishes_b117 n l4 l6 l7 S = some (r, Sf) → W p l e (mR 3 72) s m args below meth c H locs 0 0 (mQ below D am cI cJ (some (.int r)) Sf args s) (F0 m 117 ls []) := by
  obtain ⟨hx, hb, hr, hlk, hml, hown, hts, hK⟩ := hc
  have hc : mC p s m args meth c D cI cJ cX3_publishes 9 (some .int) := ⟨hx, hb, hr, hlk, hml, hown, hts, hK⟩
  intro n
  induction n with
  | zero => intro l4 l6 l7 S H locs ls _ _ _ _ hf; exact absurd hf (fun h => by cases h)
  | succ n ih =>
    intro l4 l6 l7 S H locs ls hP hD hS hl hf
    rw [fX3_publishes_b117] at hf
    refine lv_iload (pc := 117) hx hb dX3_publishes_117 (lv_at hl 3 rfl) ?_
    refine lv_aload_n (pc := 119) hx hb dX3_publishes_119 rfl (lv_at hl 0 rfl) ?_
    refine va_get (D := D) (ci := 0) (v := .ref (am 1)) (C := RX3) (T := TX3) (N := 17) (pc := 120) hx hb hts in_X3 hown hK hP 0 rfl rfl 0 (by decide) (hts _ q2839) (fun _ h9 => h9) rfl dX3_publishes_120 ?_
    refine lv_iconst (pc := 123) (v := nI 0) hx hb dX3_publishes_123 rfl ?_
    obtain ⟨v1, e1, hf⟩ := bdo hf
    refine m_iald (pc := 124) (k := 0) hx hb hK hP rfl e1 dX3_publishes_124 ?_
    refine lv_icmp_ge (pc := 125) (tgt := 215) hx hb dX3_publishes_125 (by decide) (fun c2 => ?_) (fun c2 => ?_)
    · rw [if_pos c2] at hf
      refine lv_iload (pc := 215) hx hb dX3_publishes_215 (lv_at hl 2 rfl) ?_
      exact m_iret (pc := 217) hx hb hr hlk hP hD hS hf dX3_publishes_217
    · rw [if_neg c2] at hf
      refine lv_aload_n (pc := 128) hx hb dX3_publishes_128 rfl (lv_at hl 0 rfl) ?_
      refine lv_iload (pc := 129) hx hb dX3_publishes_129 (lv_at hl 3 rfl) ?_
      obtain ⟨v3, S3, e3, hf⟩ := bd2o hf
      refine m_callV (pc := 131) (As := [.int l7]) (rest := []) (st1 := [.int v3]) hc (mX3_isFit e3) (cwV 1 hts (lw_V q2941 q2943 qs56 q105 q2944) rfl rfl rfl hdX3_isFit ⟨Nat.le_of_ble_eq_true rfl, Nat.le_of_ble_eq_true rfl⟩) rfl hl.1 rfl rfl (lv_room (Nat.le_of_ble_eq_true rfl)) dX3_publishes_131 hP hD hS (fun H locs hP hD hS => ?_)
      refine lv_if_eq (pc := 134) (tgt := 209) hx hb dX3_publishes_134 (by decide) (fun c4 => ?_) (fun c4 => ?_)
      · rw [if_pos c4] at hf
        refine lv_iinc (pc := 209) (v := l7 + (nI 1)) (lv' := [(7, .int (l7 + (nI 1))), (0, .ref (am 0)), (4, .int l4), (6, .int l6)]) hx hb dX3_publishes_209 hl (k := 3) rfl rfl (by decide) rfl (fun ls hl => ?_)
        refine lv_goto (pc := 212) (tgt := 117) hx hb dX3_publishes_212 (by decide) ?_
        exact ih l4 l6 (l7 + (nI 1)) S3 _ _ ls hP hD hS (lv_sub hl [1, 2, 3, 0] rfl) hf
      · rw [if_neg c4] at hf
        refine lv_iinc (pc := 137) (v := l6 + (nI 1)) (lv' := [(6, .int (l6 + (nI 1))), (0, .ref (am 0)), (4, .int l4), (7, .int l7)]) hx hb dX3_publishes_137 hl (k := 2) rfl rfl (by decide) rfl (fun ls hl => ?_)
        refine lv_aload_n (pc := 140) hx hb dX3_publishes_140 rfl (lv_at hl 1 rfl) ?_
        refine lv_iload (pc := 141) hx hb dX3_publishes_141 (lv_at hl 3 rfl) ?_
        refine lv_bipush (pc := 143) (v := nI 35) hx hb dX3_publishes_143 kcb35 ?_
        obtain ⟨v5, S5, e5, hf⟩ := bd2o hf
        refine m_callV (pc := 145) (As := [.int l7, .int (nI 35)]) (rest := []) (st1 := [.int v5]) hc (mX3_of e5) (cwV 2 hts (lw_V q2949 q2951 qs58 q105 q2952) rfl rfl rfl hdX3_of ⟨Nat.le_of_ble_eq_true rfl, Nat.le_of_ble_eq_true rfl⟩) rfl hl.1 rfl rfl (lv_room (Nat.le_of_ble_eq_true rfl)) dX3_publishes_145 hP hD hS (fun H locs hP hD hS => ?_)
        refine lv_aload_n (pc := 148) hx hb dX3_publishes_148 rfl (lv_at hl 1 rfl) ?_
        refine lv_iload (pc := 149) hx hb dX3_publishes_149 (lv_at hl 3 rfl) ?_
        refine lv_bipush (pc := 151) (v := nI 26) hx hb dX3_publishes_151 kcb26 ?_
        obtain ⟨v6, S6, e6, hf⟩ := bd2o hf
        refine m_callV (pc := 153) (As := [.int l7, .int (nI 26)]) (rest := [.int v5]) (st1 := [.int v6, .int v5]) hc (mX3_of e6) (cwV 2 hts (lw_V q2949 q2951 qs58 q105 q2952) rfl rfl rfl hdX3_of ⟨Nat.le_of_ble_eq_true rfl, Nat.le_of_ble_eq_true rfl⟩) rfl hl.1 rfl rfl (lv_room (Nat.le_of_ble_eq_true rfl)) dX3_publishes_153 hP hD hS (fun H locs hP hD hS => ?_)
        refine lv_icmp_ne (pc := 156) (tgt := 201) hx hb dX3_publishes_156 (by decide) (fun c7 => ?_) (fun c7 => ?_)
        · rw [if_neg c7] at hf
          refine lv_aload_n (pc := 201) hx hb dX3_publishes_201 rfl (lv_at hl 1 rfl) ?_
          refine lv_iload (pc := 202) hx hb dX3_publishes_202 (lv_at hl 3 rfl) ?_
          refine lv_iload (pc := 204) hx hb dX3_publishes_204 (lv_at hl 2 rfl) ?_
          obtain ⟨v8, S8, e8, hf⟩ := bd2o hf
          refine m_callV (pc := 206) (As := [.int l7, .int l4]) (rest := []) (st1 := []) hc (mX3_comes e8) (cwV 2 hts (lw_V q2987 q2989 qs64 q105 q2990) rfl rfl rfl hdX3_comes ⟨Nat.le_of_ble_eq_true rfl, Nat.le_of_ble_eq_true rfl⟩) rfl hl.1 rfl rfl (lv_room (Nat.le_of_ble_eq_true rfl)) dX3_publishes_206 hP hD hS (fun H locs hP hD hS => ?_)
          refine lv_iinc (pc := 209) (v := l7 + (nI 1)) (lv' := [(7, .int (l7 + (nI 1))), (6, .int (l6 + (nI 1))), (0, .ref (am 0)), (4, .int l4)]) hx hb dX3_publishes_209 hl (k := 3) rfl rfl (by decide) rfl (fun ls hl => ?_)
          refine lv_goto (pc := 212) (tgt := 117) hx hb dX3_publishes_212 (by decide) ?_
          exact ih l4 (l6 + (nI 1)) (l7 + (nI 1)) S8 _ _ ls hP hD hS (lv_sub hl [2, 3, 1, 0] rfl) hf
        · rw [if_pos c7] at hf
          refine lv_aload_n (pc := 159) hx hb dX3_publishes_159 rfl (lv_at hl 1 rfl) ?_
          refine lv_iload (pc := 160) hx hb dX3_publishes_160 (lv_at hl 3 rfl) ?_
          refine lv_iload (pc := 162) hx hb dX3_publishes_162 (lv_at hl 2 rfl) ?_
          obtain ⟨v9, S9, e9, hf⟩ := bd2o hf
          refine m_callV (pc := 164) (As := [.int l7, .int l4]) (rest := []) (st1 := [.int v9]) hc (mX3_newDead e9) (cwV 2 hts (lw_V q2979 q2981 qs62 q105 q2982) rfl rfl rfl hdX3_newDead ⟨Nat.le_of_ble_eq_true rfl, Nat.le_of_ble_eq_true rfl⟩) rfl hl.1 rfl rfl (lv_room (Nat.le_of_ble_eq_true rfl)) dX3_publishes_164 hP hD hS (fun H locs hP hD hS => ?_)
          refine lv_istore (pc := 167) (lv' := [(8, .int v9), (6, .int (l6 + (nI 1))), (0, .ref (am 0)), (4, .int l4), (7, .int l7)]) hx hb dX3_publishes_167 hl (by decide) rfl (fun ls hl => ?_)
          refine lv_aload_n (pc := 169) hx hb dX3_publishes_169 rfl (lv_at hl 2 rfl) ?_
          refine lv_iload (pc := 170) hx hb dX3_publishes_170 (lv_at hl 0 rfl) ?_
          refine lv_iconst (pc := 172) (v := nI 4) hx hb dX3_publishes_172 rfl ?_
          refine lv_iadd (pc := 173) hx hb dX3_publishes_173 ?_
          refine lv_iconst (pc := 174) (v := nI 0) hx hb dX3_publishes_174 rfl ?_
          refine lv_bipush (pc := 175) (v := nI 6) hx hb dX3_publishes_175 kcb6 ?_
          refine lv_aload_n (pc := 177) hx hb dX3_publishes_177 rfl (lv_at hl 2 rfl) ?_
          refine lv_iload (pc := 178) hx hb dX3_publishes_178 (lv_at hl 4 rfl) ?_
          refine lv_bipush (pc := 180) (v := nI 26) hx hb dX3_publishes_180 kcb26 ?_
          obtain ⟨v10, S10, e10, hf⟩ := bd2o hf
          refine m_callV (pc := 182) (As := [.int l7, .int (nI 26)]) (rest := [.int (nI 6), .int (nI 0), .int (v9 + (nI 4)), .ref (am 0)]) (st1 := [.int v10, .int (nI 6), .int (nI 0), .int (v9 + (nI 4)), .ref (am 0)]) hc (mX3_of e10) (cwV 2 hts (lw_V q2949 q2951 qs58 q105 q2952) rfl rfl rfl hdX3_of ⟨Nat.le_of_ble_eq_true rfl, Nat.le_of_ble_eq_true rfl⟩) rfl hl.1 rfl rfl (lv_room (Nat.le_of_ble_eq_true rfl)) dX3_publishes_182 hP hD hS (fun H locs hP hD hS => ?_)
          obtain ⟨v11, S11, e11, hf⟩ := bd2o hf
          refine m_callV (pc := 185) (As := [.int (v9 + (nI 4)), .int (nI 0), .int (nI 6), .int v10]) (rest := []) (st1 := []) hc (mX3_ahead e11) (cwV 4 hts (lw_V q2983 q2985 qs63 q105 q2986) rfl rfl rfl hdX3_ahead ⟨Nat.le_of_ble_eq_true rfl, Nat.le_of_ble_eq_true rfl⟩) rfl hl.1 rfl rfl (lv_room (Nat.le_of_ble_eq_true rfl)) dX3_publishes_185 hP hD hS (fun H locs hP hD hS => ?_)
          refine lv_aload_n (pc := 188) hx hb dX3_publishes_188 rfl (lv_at hl 2 rfl) ?_
          refine va_get (D := D) (ci := 0) (v := .ref (am 1)) (C := RX3) (T := TX3) (N := 17) (pc := 189) hx hb hts in_X3 hown hK hP 0 rfl rfl 0 (by decide) (hts _ q2839) (fun _ h9 => h9) rfl dX3_publishes_189 ?_
          refine lv_iload (pc := 192) hx hb dX3_publishes_192 (lv_at hl 0 rfl) ?_
          refine lv_iconst (pc := 194) (v := nI 3) hx hb dX3_publishes_194 rfl ?_
          refine lv_iadd (pc := 195) hx hb dX3_publishes_195 ?_
          refine lv_iconst (pc := 196) (v := nI 1) hx hb dX3_publishes_196 rfl ?_
          obtain ⟨S12, e12, hf⟩ := bdo hf
          refine m_iast (pc := 197) (k := 0) hx hb hK hP hD hS rfl (fun _ _ => rfl) e12 dX3_publishes_197 (fun H locs hP hD hS => ?_)
          refine lv_goto (pc := 198) (tgt := 209) hx hb dX3_publishes_198 (by decide) ?_
          refine lv_iinc (pc := 209) (v := l7 + (nI 1)) (lv' := [(7, .int (l7 + (nI 1))), (8, .int v9), (6, .int (l6 + (nI 1))), (0, .ref (am 0)), (4, .int l4)]) hx hb dX3_publishes_209 hl (k := 4) rfl rfl (by decide) rfl (fun ls hl => ?_)
          refine lv_goto (pc := 212) (tgt := 117) hx hb dX3_publishes_212 (by decide) ?_
          exact ih l4 (l6 + (nI 1)) (l7 + (nI 1)) S12 _ _ ls hP hD hS (lv_sub hl [3, 4, 2, 0] rfl) hf
def fX3_publishes_b21 : Nat → Int32 → Int32 → Int32 → Int32 → Int32 → Int32 → mS → Option (Int32 × mS)
  | 0, _, _, _, _, _, _, _ => none
  | n + 1, l1, l2, l3, l4, l5, l6, S =>
    if (nI 5) ≤ l6 then
      bd (mwr S 0 7919 (l5 + (nI 5)) l1) fun S2 =>
      bd (mwr S2 0 7919 (l5 + (nI 6)) l2) fun S3 =>
      bd (mwr S3 0 7919 (l5 + (nI 7)) l3) fun S4 =>
      bd (mrd S4 0 7919 (nI 4)) fun v5 =>
      bd (mwr S4 0 7919 (l5 + (nI 8)) v5) fun S6 =>
      bd (mwr S6 0 7919 (nI 2) (l4 + (nI 1))) fun S7 =>
      fX3_publishes_b117 FU l4 (nI 0) (nI 0) S7
    else
      bd (mrd S 0 7919 ((nI 6) + l6)) fun v8 =>
      bd (mwr S 0 7919 (l5 + l6) v8) fun S9 =>
      fX3_publishes_b21 n l1 l2 l3 l4 l5 (l6 + (nI 1)) S9
theorem wX3_publishes_b21 (hc : mC p s m args meth c D cI cJ cX3_publishes 9 (some .int)) : ∀ (n : Nat) (l1 : Int32) (l2 : Int32) (l3 : Int32) (l4 : Int32) (l5 : Int32) (l6 : Int32) (S : mS) (H : Heap) (locs : List Loc) (ls : Array Slot), va_P D mCl (mws am cI cJ S) H → va_D (mA am) (mws am cI cJ S) → va_S (mA am) s.heap H locs → lv_has ls 9 [(0, .ref (am 0)), (1, .int l1), (2, .int l2), (3, .int l3), (4, .int l4), (5, .int l5), (6, .int l6)] → fX3_publishes_b21 n l1 l2 l3 l4 l5 l6 S = some (r, Sf) → W p l e (mR 3 72) s m args below meth c H locs 0 0 (mQ below D am cI cJ (some (.int r)) Sf args s) (F0 m 21 ls []) := by
  obtain ⟨hx, hb, hr, hlk, hml, hown, hts, hK⟩ := hc
  have hc : mC p s m args meth c D cI cJ cX3_publishes 9 (some .int) := ⟨hx, hb, hr, hlk, hml, hown, hts, hK⟩
  intro n
  induction n with
  | zero => intro l1 l2 l3 l4 l5 l6 S H locs ls _ _ _ _ hf; exact absurd hf (fun h => by cases h)
  | succ n ih =>
    intro l1 l2 l3 l4 l5 l6 S H locs ls hP hD hS hl hf
    rw [fX3_publishes_b21] at hf
    refine lv_iload (pc := 21) hx hb dX3_publishes_21 (lv_at hl 6 rfl) ?_
    refine lv_iconst (pc := 23) (v := nI 5) hx hb dX3_publishes_23 rfl ?_
    refine lv_icmp_ge (pc := 24) (tgt := 53) hx hb dX3_publishes_24 (by decide) (fun c1 => ?_) (fun c1 => ?_)
    · rw [if_pos c1] at hf
      refine lv_aload_n (pc := 53) hx hb dX3_publishes_53 rfl (lv_at hl 0 rfl) ?_
      refine va_get (D := D) (ci := 0) (v := .ref (am 1)) (C := RX3) (T := TX3) (N := 17) (pc := 54) hx hb hts in_X3 hown hK hP 0 rfl rfl 0 (by decide) (hts _ q2839) (fun _ h9 => h9) rfl dX3_publishes_54 ?_
      refine lv_iload (pc := 57) hx hb dX3_publishes_57 (lv_at hl 5 rfl) ?_
      refine lv_iconst (pc := 59) (v := nI 5) hx hb dX3_publishes_59 rfl ?_
      refine lv_iadd (pc := 60) hx hb dX3_publishes_60 ?_
      refine lv_iload_n (pc := 61) hx hb dX3_publishes_61 rfl (lv_at hl 1 rfl) ?_
      obtain ⟨S2, e2, hf⟩ := bdo hf
      refine m_iast (pc := 62) (k := 0) hx hb hK hP hD hS rfl (fun _ _ => rfl) e2 dX3_publishes_62 (fun H locs hP hD hS => ?_)
      refine lv_aload_n (pc := 63) hx hb dX3_publishes_63 rfl (lv_at hl 0 rfl) ?_
      refine va_get (D := D) (ci := 0) (v := .ref (am 1)) (C := RX3) (T := TX3) (N := 17) (pc := 64) hx hb hts in_X3 hown hK hP 0 rfl rfl 0 (by decide) (hts _ q2839) (fun _ h9 => h9) rfl dX3_publishes_64 ?_
      refine lv_iload (pc := 67) hx hb dX3_publishes_67 (lv_at hl 5 rfl) ?_
      refine lv_bipush (pc := 69) (v := nI 6) hx hb dX3_publishes_69 kcb6 ?_
      refine lv_iadd (pc := 71) hx hb dX3_publishes_71 ?_
      refine lv_iload_n (pc := 72) hx hb dX3_publishes_72 rfl (lv_at hl 2 rfl) ?_
      obtain ⟨S3, e3, hf⟩ := bdo hf
      refine m_iast (pc := 73) (k := 0) hx hb hK hP hD hS rfl (fun _ _ => rfl) e3 dX3_publishes_73 (fun H locs hP hD hS => ?_)
      refine lv_aload_n (pc := 74) hx hb dX3_publishes_74 rfl (lv_at hl 0 rfl) ?_
      refine va_get (D := D) (ci := 0) (v := .ref (am 1)) (C := RX3) (T := TX3) (N := 17) (pc := 75) hx hb hts in_X3 hown hK hP 0 rfl rfl 0 (by decide) (hts _ q2839) (fun _ h9 => h9) rfl dX3_publishes_75 ?_
      refine lv_iload (pc := 78) hx hb dX3_publishes_78 (lv_at hl 5 rfl) ?_
      refine lv_bipush (pc := 80) (v := nI 7) hx hb dX3_publishes_80 kcb7 ?_
      refine lv_iadd (pc := 82) hx hb dX3_publishes_82 ?_
      refine lv_iload_n (pc := 83) hx hb dX3_publishes_83 rfl (lv_at hl 3 rfl) ?_
      obtain ⟨S4, e4, hf⟩ := bdo hf
      refine m_iast (pc := 84) (k := 0) hx hb hK hP hD hS rfl (fun _ _ => rfl) e4 dX3_publishes_84 (fun H locs hP hD hS => ?_)
      refine lv_aload_n (pc := 85) hx hb dX3_publishes_85 rfl (lv_at hl 0 rfl) ?_
      refine va_get (D := D) (ci := 0) (v := .ref (am 1)) (C := RX3) (T := TX3) (N := 17) (pc := 86) hx hb hts in_X3 hown hK hP 0 rfl rfl 0 (by decide) (hts _ q2839) (fun _ h9 => h9) rfl dX3_publishes_86 ?_
      refine lv_iload (pc := 89) hx hb dX3_publishes_89 (lv_at hl 5 rfl) ?_
      refine lv_bipush (pc := 91) (v := nI 8) hx hb dX3_publishes_91 kcb8 ?_
      refine lv_iadd (pc := 93) hx hb dX3_publishes_93 ?_
      refine lv_aload_n (pc := 94) hx hb dX3_publishes_94 rfl (lv_at hl 0 rfl) ?_
      refine va_get (D := D) (ci := 0) (v := .ref (am 1)) (C := RX3) (T := TX3) (N := 17) (pc := 95) hx hb hts in_X3 hown hK hP 0 rfl rfl 0 (by decide) (hts _ q2839) (fun _ h9 => h9) rfl dX3_publishes_95 ?_
      refine lv_iconst (pc := 98) (v := nI 4) hx hb dX3_publishes_98 rfl ?_
      obtain ⟨v5, e5, hf⟩ := bdo hf
      refine m_iald (pc := 99) (k := 0) hx hb hK hP rfl e5 dX3_publishes_99 ?_
      obtain ⟨S6, e6, hf⟩ := bdo hf
      refine m_iast (pc := 100) (k := 0) hx hb hK hP hD hS rfl (fun _ _ => rfl) e6 dX3_publishes_100 (fun H locs hP hD hS => ?_)
      refine lv_aload_n (pc := 101) hx hb dX3_publishes_101 rfl (lv_at hl 0 rfl) ?_
      refine va_get (D := D) (ci := 0) (v := .ref (am 1)) (C := RX3) (T := TX3) (N := 17) (pc := 102) hx hb hts in_X3 hown hK hP 0 rfl rfl 0 (by decide) (hts _ q2839) (fun _ h9 => h9) rfl dX3_publishes_102 ?_
      refine lv_iconst (pc := 105) (v := nI 2) hx hb dX3_publishes_105 rfl ?_
      refine lv_iload (pc := 106) hx hb dX3_publishes_106 (lv_at hl 4 rfl) ?_
      refine lv_iconst (pc := 108) (v := nI 1) hx hb dX3_publishes_108 rfl ?_
      refine lv_iadd (pc := 109) hx hb dX3_publishes_109 ?_
      obtain ⟨S7, e7, hf⟩ := bdo hf
      refine m_iast (pc := 110) (k := 0) hx hb hK hP hD hS rfl (fun _ _ => rfl) e7 dX3_publishes_110 (fun H locs hP hD hS => ?_)
      refine lv_iconst (pc := 111) (v := nI 0) hx hb dX3_publishes_111 rfl ?_
      refine lv_istore (pc := 112) (lv' := [(6, .int (nI 0)), (0, .ref (am 0)), (1, .int l1), (2, .int l2), (3, .int l3), (4, .int l4), (5, .int l5)]) hx hb dX3_publishes_112 hl (by decide) rfl (fun ls hl => ?_)
      refine lv_iconst (pc := 114) (v := nI 0) hx hb dX3_publishes_114 rfl ?_
      refine lv_istore (pc := 115) (lv' := [(7, .int (nI 0)), (6, .int (nI 0)), (0, .ref (am 0)), (1, .int l1), (2, .int l2), (3, .int l3), (4, .int l4), (5, .int l5)]) hx hb dX3_publishes_115 hl (by decide) rfl (fun ls hl => ?_)
      exact wX3_publishes_b117 hc FU l4 (nI 0) (nI 0) S7 _ _ ls hP hD hS (lv_sub hl [2, 6, 1, 0] rfl) hf
    · rw [if_neg c1] at hf
      refine lv_aload_n (pc := 27) hx hb dX3_publishes_27 rfl (lv_at hl 0 rfl) ?_
      refine va_get (D := D) (ci := 0) (v := .ref (am 1)) (C := RX3) (T := TX3) (N := 17) (pc := 28) hx hb hts in_X3 hown hK hP 0 rfl rfl 0 (by decide) (hts _ q2839) (fun _ h9 => h9) rfl dX3_publishes_28 ?_
      refine lv_iload (pc := 31) hx hb dX3_publishes_31 (lv_at hl 5 rfl) ?_
      refine lv_iload (pc := 33) hx hb dX3_publishes_33 (lv_at hl 6 rfl) ?_
      refine lv_iadd (pc := 35) hx hb dX3_publishes_35 ?_
      refine lv_aload_n (pc := 36) hx hb dX3_publishes_36 rfl (lv_at hl 0 rfl) ?_
      refine va_get (D := D) (ci := 0) (v := .ref (am 1)) (C := RX3) (T := TX3) (N := 17) (pc := 37) hx hb hts in_X3 hown hK hP 0 rfl rfl 0 (by decide) (hts _ q2839) (fun _ h9 => h9) rfl dX3_publishes_37 ?_
      refine lv_bipush (pc := 40) (v := nI 6) hx hb dX3_publishes_40 kcb6 ?_
      refine lv_iload (pc := 42) hx hb dX3_publishes_42 (lv_at hl 6 rfl) ?_
      refine lv_iadd (pc := 44) hx hb dX3_publishes_44 ?_
      obtain ⟨v8, e8, hf⟩ := bdo hf
      refine m_iald (pc := 45) (k := 0) hx hb hK hP rfl e8 dX3_publishes_45 ?_
      obtain ⟨S9, e9, hf⟩ := bdo hf
      refine m_iast (pc := 46) (k := 0) hx hb hK hP hD hS rfl (fun _ _ => rfl) e9 dX3_publishes_46 (fun H locs hP hD hS => ?_)
      refine lv_iinc (pc := 47) (v := l6 + (nI 1)) (lv' := [(6, .int (l6 + (nI 1))), (0, .ref (am 0)), (1, .int l1), (2, .int l2), (3, .int l3), (4, .int l4), (5, .int l5)]) hx hb dX3_publishes_47 hl (k := 6) rfl rfl (by decide) rfl (fun ls hl => ?_)
      refine lv_goto (pc := 50) (tgt := 21) hx hb dX3_publishes_50 (by decide) ?_
      exact ih l1 l2 l3 l4 l5 (l6 + (nI 1)) S9 _ _ ls hP hD hS (lv_sub hl [1, 2, 3, 4, 5, 6, 0] rfl) hf
def fX3_publishes (l1 : Int32) (l2 : Int32) (l3 : Int32) (S : mS) : Option (Int32 × mS) :=
  bd (mrd S 0 7919 (nI 2)) fun v1 =>
  fX3_publishes_b21 FU l1 l2 l3 v1 ((nI 51) + ((nI 9) * v1)) (nI 0) S
theorem wX3_publishes_b0 (hc : mC p s m args meth c D cI cJ cX3_publishes 9 (some .int)) (l1 : Int32) (l2 : Int32) (l3 : Int32) (S : mS) (H : Heap) (locs : List Loc) (ls : Array Slot) (hP : va_P D mCl (mws am cI cJ S) H) (hD : va_D (mA am) (mws am cI cJ S)) (hS : va_S (mA am) s.heap H locs) (hl : lv_has ls 9 [(0, .ref (am 0)), (1, .int l1), (2, .int l2), (3, .int l3)]) (hf : fX3_publishes l1 l2 l3 S = some (r, Sf)) : W p l e (mR 3 72) s m args below meth c H locs 0 0 (mQ below D am cI cJ (some (.int r)) Sf args s) (F0 m 0 ls []) := by
  obtain ⟨hx, hb, hr, hlk, hml, hown, hts, hK⟩ := hc
  have hc : mC p s m args meth c D cI cJ cX3_publishes 9 (some .int) := ⟨hx, hb, hr, hlk, hml, hown, hts, hK⟩
  unfold fX3_publishes at hf
  refine lv_aload_n (pc := 0) hx hb dX3_publishes_0 rfl (lv_at hl 0 rfl) ?_
  refine va_get (D := D) (ci := 0) (v := .ref (am 1)) (C := RX3) (T := TX3) (N := 17) (pc := 1) hx hb hts in_X3 hown hK hP 0 rfl rfl 0 (by decide) (hts _ q2839) (fun _ h9 => h9) rfl dX3_publishes_1 ?_
  refine lv_iconst (pc := 4) (v := nI 2) hx hb dX3_publishes_4 rfl ?_
  obtain ⟨v1, e1, hf⟩ := bdo hf
  refine m_iald (pc := 5) (k := 0) hx hb hK hP rfl e1 dX3_publishes_5 ?_
  refine lv_istore (pc := 6) (lv' := [(4, .int v1), (0, .ref (am 0)), (1, .int l1), (2, .int l2), (3, .int l3)]) hx hb dX3_publishes_6 hl (by decide) rfl (fun ls hl => ?_)
  refine lv_bipush (pc := 8) (v := nI 51) hx hb dX3_publishes_8 kcb51 ?_
  refine lv_bipush (pc := 10) (v := nI 9) hx hb dX3_publishes_10 kcb9 ?_
  refine lv_iload (pc := 12) hx hb dX3_publishes_12 (lv_at hl 0 rfl) ?_
  refine lv_imul (pc := 14) hx hb dX3_publishes_14 ?_
  refine lv_iadd (pc := 15) hx hb dX3_publishes_15 ?_
  refine lv_istore (pc := 16) (lv' := [(5, .int ((nI 51) + ((nI 9) * v1))), (4, .int v1), (0, .ref (am 0)), (1, .int l1), (2, .int l2), (3, .int l3)]) hx hb dX3_publishes_16 hl (by decide) rfl (fun ls hl => ?_)
  refine lv_iconst (pc := 18) (v := nI 0) hx hb dX3_publishes_18 rfl ?_
  refine lv_istore (pc := 19) (lv' := [(6, .int (nI 0)), (5, .int ((nI 51) + ((nI 9) * v1))), (4, .int v1), (0, .ref (am 0)), (1, .int l1), (2, .int l2), (3, .int l3)]) hx hb dX3_publishes_19 hl (by decide) rfl (fun ls hl => ?_)
  exact wX3_publishes_b21 hc FU l1 l2 l3 v1 ((nI 51) + ((nI 9) * v1)) (nI 0) S _ _ ls hP hD hS (lv_sub hl [3, 4, 5, 6, 2, 1, 0] rfl) hf
theorem mX3_publishes {S S2 : mS} {r2 : Int32} {l1 : Int32} {l2 : Int32} {l3 : Int32} (hf : fX3_publishes l1 l2 l3 S = some (r2, S2)) : mMet l yX3_publishes cX3_publishes 9 (some .int) 3 72 D am cI cJ [.ref (am 0), .int l1, .int l2, .int l3] S (some (.int r2)) S2 := by
  exact m_start (by decide) rfl (Nat.le_of_ble_eq_true rfl) (fun p e s m args below meth c ls hc hl hP hD => wX3_publishes_b0 hc l1 l2 l3 S _ _ ls hP hD va_S.rf (lv_sub hl [0, 1, 2, 3] rfl) hf)
end
section
variable {r : Int32} {Sf : mS}
def fX3_publish_b24 (S : mS) : Option (Int32 × mS) :=
  bd2 (fX3_refused (-82) S) fun v1 S1 =>
  some (v1, S1)
theorem wX3_publish_b24 (hc : mC p s m args meth c D cI cJ cX3_publish 4 (some .int)) (S : mS) (H : Heap) (locs : List Loc) (ls : Array Slot) (hP : va_P D mCl (mws am cI cJ S) H) (hD : va_D (mA am) (mws am cI cJ S)) (hS : va_S (mA am) s.heap H locs) (hl : lv_has ls 4 [(0, .ref (am 0))]) (hf : fX3_publish_b24  S = some (r, Sf)) : W p l e (mR 4 100) s m args below meth c H locs 0 0 (mQ below D am cI cJ (some (.int r)) Sf args s) (F0 m 24 ls []) := by
  obtain ⟨hx, hb, hr, hlk, hml, hown, hts, hK⟩ := hc
  have hc : mC p s m args meth c D cI cJ cX3_publish 4 (some .int) := ⟨hx, hb, hr, hlk, hml, hown, hts, hK⟩
  unfold fX3_publish_b24 at hf
  refine lv_aload_n (pc := 24) hx hb dX3_publish_24 rfl (lv_at hl 0 rfl) ?_
  refine lv_bipush (pc := 25) (v := -82) hx hb dX3_publish_25 kcbm82 ?_
  obtain ⟨v1, S1, e1, hf⟩ := bd2o hf
  refine m_callV (pc := 27) (As := [.int (-82)]) (rest := []) (st1 := [.int v1]) hc (mX3_refused e1) (cwV 1 hts (lw_V q2899 q2901 qs51 q105 q2902) rfl rfl rfl hdX3_refused ⟨Nat.le_of_ble_eq_true rfl, Nat.le_of_ble_eq_true rfl⟩) rfl hl.1 rfl rfl (lv_room (Nat.le_of_ble_eq_true rfl)) dX3_publish_27 hP hD hS (fun H locs hP hD hS => ?_)
  exact m_iret (pc := 30) hx hb hr hlk hP hD hS hf dX3_publish_30
def fX3_publish (l1 : Int32) (l2 : Int32) (l3 : Int32) (S : mS) : Option (Int32 × mS) :=
  bd2 (fX3_in l1.toInt64 (lN 0) (lN 7) S) fun v1 S1 =>
  if v1 = 0 then
    fX3_publish_b24  S1
  else
    bd2 (fX3_in l2.toInt64 (lN 0) (lN 3) S1) fun v3 S3 =>
    if v3 = 0 then
      fX3_publish_b24  S3
    else
      bd (mrd S3 0 7919 (nI 6)) fun v5 =>
      if v5 = 0 then
        bd2 (fX3_refused (-85) S3) fun v11 S11 =>
        some (v11, S11)
      else
        bd (mrd S3 0 7919 (nI 2)) fun v7 =>
        if v7 = (nI 300) then
          bd2 (fX3_refused (-86) S3) fun v10 S10 =>
          some (v10, S10)
        else
          bd2 (fX3_publishes l1 l2 l3 S3) fun v9 S9 =>
          some (v9, S9)
theorem wX3_publish_b0 (hc : mC p s m args meth c D cI cJ cX3_publish 4 (some .int)) (l1 : Int32) (l2 : Int32) (l3 : Int32) (S : mS) (H : Heap) (locs : List Loc) (ls : Array Slot) (hP : va_P D mCl (mws am cI cJ S) H) (hD : va_D (mA am) (mws am cI cJ S)) (hS : va_S (mA am) s.heap H locs) (hl : lv_has ls 4 [(0, .ref (am 0)), (1, .int l1), (2, .int l2), (3, .int l3)]) (hf : fX3_publish l1 l2 l3 S = some (r, Sf)) : W p l e (mR 4 100) s m args below meth c H locs 0 0 (mQ below D am cI cJ (some (.int r)) Sf args s) (F0 m 0 ls []) := by
  obtain ⟨hx, hb, hr, hlk, hml, hown, hts, hK⟩ := hc
  have hc : mC p s m args meth c D cI cJ cX3_publish 4 (some .int) := ⟨hx, hb, hr, hlk, hml, hown, hts, hK⟩
  unfold fX3_publish at hf
  refine lv_iload_n (pc := 0) hx hb dX3_publish_0 rfl (lv_at hl 1 rfl) ?_
  refine lv_i2l (pc := 1) hx hb dX3_publish_1 rfl ?_
  refine lv_lconst (pc := 2) (v := lN 0) hx hb dX3_publish_2 rfl ?_
  refine lv_ldc2 (pc := 3) (v := lN 7) hx hb hown (hts _ q2973) dX3_publish_3 ?_
  obtain ⟨v1, S1, e1, hf⟩ := bd2o hf
  refine m_callS (pc := 6) (As := [.long l1.toInt64, .long (lN 0), .long (lN 7)]) (rest := []) (st1 := [.int v1]) hc (mX3_in e1) (va_cwS 3 hts (lw_S q2896 q2897 q105 q2898) rfl rfl rfl hdX3_in ⟨Nat.le_of_ble_eq_true rfl, Nat.le_of_ble_eq_true rfl⟩) rfl hl.1 rfl rfl (lv_room (Nat.le_of_ble_eq_true rfl)) dX3_publish_6 hP hD hS (fun H locs hP hD hS => ?_)
  refine lv_if_eq (pc := 9) (tgt := 24) hx hb dX3_publish_9 (by decide) (fun c2 => ?_) (fun c2 => ?_)
  · rw [if_pos c2] at hf
    exact wX3_publish_b24 hc  S1 _ _ ls hP hD hS (lv_sub hl [0] rfl) hf
  · rw [if_neg c2] at hf
    refine lv_iload_n (pc := 12) hx hb dX3_publish_12 rfl (lv_at hl 2 rfl) ?_
    refine lv_i2l (pc := 13) hx hb dX3_publish_13 rfl ?_
    refine lv_lconst (pc := 14) (v := lN 0) hx hb dX3_publish_14 rfl ?_
    refine lv_ldc2 (pc := 15) (v := lN 3) hx hb hown (hts _ q2974) dX3_publish_15 ?_
    obtain ⟨v3, S3, e3, hf⟩ := bd2o hf
    refine m_callS (pc := 18) (As := [.long l2.toInt64, .long (lN 0), .long (lN 3)]) (rest := []) (st1 := [.int v3]) hc (mX3_in e3) (va_cwS 3 hts (lw_S q2896 q2897 q105 q2898) rfl rfl rfl hdX3_in ⟨Nat.le_of_ble_eq_true rfl, Nat.le_of_ble_eq_true rfl⟩) rfl hl.1 rfl rfl (lv_room (Nat.le_of_ble_eq_true rfl)) dX3_publish_18 hP hD hS (fun H locs hP hD hS => ?_)
    refine lv_if_ne (pc := 21) (tgt := 31) hx hb dX3_publish_21 (by decide) (fun c4 => ?_) (fun c4 => ?_)
    · rw [if_neg c4] at hf
      refine lv_aload_n (pc := 31) hx hb dX3_publish_31 rfl (lv_at hl 0 rfl) ?_
      refine va_get (D := D) (ci := 0) (v := .ref (am 1)) (C := RX3) (T := TX3) (N := 17) (pc := 32) hx hb hts in_X3 hown hK hP 0 rfl rfl 0 (by decide) (hts _ q2839) (fun _ h9 => h9) rfl dX3_publish_32 ?_
      refine lv_bipush (pc := 35) (v := nI 6) hx hb dX3_publish_35 kcb6 ?_
      obtain ⟨v5, e5, hf⟩ := bdo hf
      refine m_iald (pc := 37) (k := 0) hx hb hK hP rfl e5 dX3_publish_37 ?_
      refine lv_if_ne (pc := 38) (tgt := 48) hx hb dX3_publish_38 (by decide) (fun c6 => ?_) (fun c6 => ?_)
      · rw [if_neg c6] at hf
        refine lv_aload_n (pc := 48) hx hb dX3_publish_48 rfl (lv_at hl 0 rfl) ?_
        refine va_get (D := D) (ci := 0) (v := .ref (am 1)) (C := RX3) (T := TX3) (N := 17) (pc := 49) hx hb hts in_X3 hown hK hP 0 rfl rfl 0 (by decide) (hts _ q2839) (fun _ h9 => h9) rfl dX3_publish_49 ?_
        refine lv_iconst (pc := 52) (v := nI 2) hx hb dX3_publish_52 rfl ?_
        obtain ⟨v7, e7, hf⟩ := bdo hf
        refine m_iald (pc := 53) (k := 0) hx hb hK hP rfl e7 dX3_publish_53 ?_
        refine lv_sipush (pc := 54) (v := nI 300) hx hb dX3_publish_54 kcs300 ?_
        refine lv_icmp_ne (pc := 57) (tgt := 69) hx hb dX3_publish_57 (by decide) (fun c8 => ?_) (fun c8 => ?_)
        · rw [if_neg c8] at hf
          refine lv_aload_n (pc := 69) hx hb dX3_publish_69 rfl (lv_at hl 0 rfl) ?_
          refine lv_iload_n (pc := 70) hx hb dX3_publish_70 rfl (lv_at hl 1 rfl) ?_
          refine lv_iload_n (pc := 71) hx hb dX3_publish_71 rfl (lv_at hl 2 rfl) ?_
          refine lv_iload_n (pc := 72) hx hb dX3_publish_72 rfl (lv_at hl 3 rfl) ?_
          obtain ⟨v9, S9, e9, hf⟩ := bd2o hf
          refine m_callV (pc := 73) (As := [.int l1, .int l2, .int l3]) (rest := []) (st1 := [.int v9]) hc (mX3_publishes e9) (cwV 3 hts (lw_V q2975 q2977 qs61 q105 q2978) rfl rfl rfl hdX3_publishes ⟨Nat.le_of_ble_eq_true rfl, Nat.le_of_ble_eq_true rfl⟩) rfl hl.1 rfl rfl (lv_room (Nat.le_of_ble_eq_true rfl)) dX3_publish_73 hP hD hS (fun H locs hP hD hS => ?_)
          exact m_iret (pc := 76) hx hb hr hlk hP hD hS hf dX3_publish_76
        · rw [if_pos c8] at hf
          refine lv_aload_n (pc := 60) hx hb dX3_publish_60 rfl (lv_at hl 0 rfl) ?_
          refine lv_bipush (pc := 61) (v := -86) hx hb dX3_publish_61 kcbm86 ?_
          obtain ⟨v10, S10, e10, hf⟩ := bd2o hf
          refine m_callV (pc := 63) (As := [.int (-86)]) (rest := []) (st1 := [.int v10]) hc (mX3_refused e10) (cwV 1 hts (lw_V q2899 q2901 qs51 q105 q2902) rfl rfl rfl hdX3_refused ⟨Nat.le_of_ble_eq_true rfl, Nat.le_of_ble_eq_true rfl⟩) rfl hl.1 rfl rfl (lv_room (Nat.le_of_ble_eq_true rfl)) dX3_publish_63 hP hD hS (fun H locs hP hD hS => ?_)
          refine lv_goto (pc := 66) (tgt := 76) hx hb dX3_publish_66 (by decide) ?_
          exact m_iret (pc := 76) hx hb hr hlk hP hD hS hf dX3_publish_76
      · rw [if_pos c6] at hf
        refine lv_aload_n (pc := 41) hx hb dX3_publish_41 rfl (lv_at hl 0 rfl) ?_
        refine lv_bipush (pc := 42) (v := -85) hx hb dX3_publish_42 kcbm85 ?_
        obtain ⟨v11, S11, e11, hf⟩ := bd2o hf
        refine m_callV (pc := 44) (As := [.int (-85)]) (rest := []) (st1 := [.int v11]) hc (mX3_refused e11) (cwV 1 hts (lw_V q2899 q2901 qs51 q105 q2902) rfl rfl rfl hdX3_refused ⟨Nat.le_of_ble_eq_true rfl, Nat.le_of_ble_eq_true rfl⟩) rfl hl.1 rfl rfl (lv_room (Nat.le_of_ble_eq_true rfl)) dX3_publish_44 hP hD hS (fun H locs hP hD hS => ?_)
        exact m_iret (pc := 47) hx hb hr hlk hP hD hS hf dX3_publish_47
    · rw [if_pos c4] at hf
      exact wX3_publish_b24 hc  S3 _ _ ls hP hD hS (lv_sub hl [0] rfl) hf
theorem mX3_publish {S S2 : mS} {r2 : Int32} {l1 : Int32} {l2 : Int32} {l3 : Int32} (hf : fX3_publish l1 l2 l3 S = some (r2, S2)) : mMet l yX3_publish cX3_publish 4 (some .int) 4 100 D am cI cJ [.ref (am 0), .int l1, .int l2, .int l3] S (some (.int r2)) S2 := by
  exact m_start (by decide) rfl (Nat.le_of_ble_eq_true rfl) (fun p e s m args below meth c ls hc hl hP hD => wX3_publish_b0 hc l1 l2 l3 S _ _ ls hP hD va_S.rf (lv_sub hl [0, 1, 2, 3] rfl) hf)
end
section
variable {r : Int32} {Sf : mS}
def fX3_message (l1 : Int32) (l2 : Int32) (S : mS) : Option (Int32 × mS) :=
  bd (mrd S 0 7919 (((nI 51) + ((nI 9) * l1)) + l2)) fun v1 =>
  some (v1, S)
theorem wX3_message_b0 (hc : mC p s m args meth c D cI cJ cX3_message 3 (some .int)) (l1 : Int32) (l2 : Int32) (S : mS) (H : Heap) (locs : List Loc) (ls : Array Slot) (hP : va_P D mCl (mws am cI cJ S) H) (hD : va_D (mA am) (mws am cI cJ S)) (hS : va_S (mA am) s.heap H locs) (hl : lv_has ls 3 [(0, .ref (am 0)), (1, .int l1), (2, .int l2)]) (hf : fX3_message l1 l2 S = some (r, Sf)) : W p l e (mR 0 0) s m args below meth c H locs 0 0 (mQ below D am cI cJ (some (.int r)) Sf args s) (F0 m 0 ls []) := by
  obtain ⟨hx, hb, hr, hlk, hml, hown, hts, hK⟩ := hc
  have hc : mC p s m args meth c D cI cJ cX3_message 3 (some .int) := ⟨hx, hb, hr, hlk, hml, hown, hts, hK⟩
  unfold fX3_message at hf
  refine lv_aload_n (pc := 0) hx hb dX3_message_0 rfl (lv_at hl 0 rfl) ?_
  refine va_get (D := D) (ci := 0) (v := .ref (am 1)) (C := RX3) (T := TX3) (N := 17) (pc := 1) hx hb hts in_X3 hown hK hP 0 rfl rfl 0 (by decide) (hts _ q2839) (fun _ h9 => h9) rfl dX3_message_1 ?_
  refine lv_bipush (pc := 4) (v := nI 51) hx hb dX3_message_4 kcb51 ?_
  refine lv_bipush (pc := 6) (v := nI 9) hx hb dX3_message_6 kcb9 ?_
  refine lv_iload_n (pc := 8) hx hb dX3_message_8 rfl (lv_at hl 1 rfl) ?_
  refine lv_imul (pc := 9) hx hb dX3_message_9 ?_
  refine lv_iadd (pc := 10) hx hb dX3_message_10 ?_
  refine lv_iload_n (pc := 11) hx hb dX3_message_11 rfl (lv_at hl 2 rfl) ?_
  refine lv_iadd (pc := 12) hx hb dX3_message_12 ?_
  obtain ⟨v1, e1, hf⟩ := bdo hf
  refine m_iald (pc := 13) (k := 0) hx hb hK hP rfl e1 dX3_message_13 ?_
  exact m_iret (pc := 14) hx hb hr hlk hP hD hS hf dX3_message_14
theorem mX3_message {S S2 : mS} {r2 : Int32} {l1 : Int32} {l2 : Int32} (hf : fX3_message l1 l2 S = some (r2, S2)) : mMet l yX3_message cX3_message 3 (some .int) 0 0 D am cI cJ [.ref (am 0), .int l1, .int l2] S (some (.int r2)) S2 := by
  exact m_start (by decide) rfl (Nat.le_of_ble_eq_true rfl) (fun p e s m args below meth c ls hc hl hP hD => wX3_message_b0 hc l1 l2 S _ _ ls hP hD va_S.rf (lv_sub hl [0, 1, 2] rfl) hf)
end
section
variable {r : Int32} {Sf : mS}
def fX3_keyOf (l1 : Int32) (l2 : Int32) (S : mS) : Option (Int32 × mS) :=
  bd2 (fX3_letterOf l1 l2 (nI 0) S) fun v1 S1 =>
  bd2 (fX3_message v1 (nI 5) S1) fun v2 S2 =>
  some (v2, S2)
theorem wX3_keyOf_b0 (hc : mC p s m args meth c D cI cJ cX3_keyOf 3 (some .int)) (l1 : Int32) (l2 : Int32) (S : mS) (H : Heap) (locs : List Loc) (ls : Array Slot) (hP : va_P D mCl (mws am cI cJ S) H) (hD : va_D (mA am) (mws am cI cJ S)) (hS : va_S (mA am) s.heap H locs) (hl : lv_has ls 3 [(0, .ref (am 0)), (1, .int l1), (2, .int l2)]) (hf : fX3_keyOf l1 l2 S = some (r, Sf)) : W p l e (mR 2 45) s m args below meth c H locs 0 0 (mQ below D am cI cJ (some (.int r)) Sf args s) (F0 m 0 ls []) := by
  obtain ⟨hx, hb, hr, hlk, hml, hown, hts, hK⟩ := hc
  have hc : mC p s m args meth c D cI cJ cX3_keyOf 3 (some .int) := ⟨hx, hb, hr, hlk, hml, hown, hts, hK⟩
  unfold fX3_keyOf at hf
  refine lv_aload_n (pc := 0) hx hb dX3_keyOf_0 rfl (lv_at hl 0 rfl) ?_
  refine lv_aload_n (pc := 1) hx hb dX3_keyOf_1 rfl (lv_at hl 0 rfl) ?_
  refine lv_iload_n (pc := 2) hx hb dX3_keyOf_2 rfl (lv_at hl 1 rfl) ?_
  refine lv_iload_n (pc := 3) hx hb dX3_keyOf_3 rfl (lv_at hl 2 rfl) ?_
  refine lv_iconst (pc := 4) (v := nI 0) hx hb dX3_keyOf_4 rfl ?_
  obtain ⟨v1, S1, e1, hf⟩ := bd2o hf
  refine m_callV (pc := 5) (As := [.int l1, .int l2, .int (nI 0)]) (rest := [.ref (am 0)]) (st1 := [.int v1, .ref (am 0)]) hc (mX3_letterOf e1) (cwV 3 hts (lw_V q2991 q2993 qs65 q105 q2994) rfl rfl rfl hdX3_letterOf ⟨Nat.le_of_ble_eq_true rfl, Nat.le_of_ble_eq_true rfl⟩) rfl hl.1 rfl rfl (lv_room (Nat.le_of_ble_eq_true rfl)) dX3_keyOf_5 hP hD hS (fun H locs hP hD hS => ?_)
  refine lv_iconst (pc := 8) (v := nI 5) hx hb dX3_keyOf_8 rfl ?_
  obtain ⟨v2, S2, e2, hf⟩ := bd2o hf
  refine m_callV (pc := 9) (As := [.int v1, .int (nI 5)]) (rest := []) (st1 := [.int v2]) hc (mX3_message e2) (cwV 2 hts (lw_V q3019 q3021 qs71 q105 q3022) rfl rfl rfl hdX3_message ⟨Nat.le_of_ble_eq_true rfl, Nat.le_of_ble_eq_true rfl⟩) rfl hl.1 rfl rfl (lv_room (Nat.le_of_ble_eq_true rfl)) dX3_keyOf_9 hP hD hS (fun H locs hP hD hS => ?_)
  exact m_iret (pc := 12) hx hb hr hlk hP hD hS hf dX3_keyOf_12
theorem mX3_keyOf {S S2 : mS} {r2 : Int32} {l1 : Int32} {l2 : Int32} (hf : fX3_keyOf l1 l2 S = some (r2, S2)) : mMet l yX3_keyOf cX3_keyOf 3 (some .int) 2 45 D am cI cJ [.ref (am 0), .int l1, .int l2] S (some (.int r2)) S2 := by
  exact m_start (by decide) rfl (Nat.le_of_ble_eq_true rfl) (fun p e s m args below meth c ls hc hl hP hD => wX3_keyOf_b0 hc l1 l2 S _ _ ls hP hD va_S.rf (lv_sub hl [0, 1, 2] rfl) hf)
end
section
variable {r : Int32} {Sf : mS}
def fX3_may_b14 : Nat → Int32 → Int32 → Int32 → mS → Option (Int32 × mS)
  | 0, _, _, _, _ => none
  | n + 1, l1, l2, l3, S =>
    if l2 ≤ l3 then
      zr (nI 1) S
    else
      bd2 (fX3_keyOf l1 l3 S) fun v2 S2 =>
      bd2 (fX3_keyOf l1 l2 S2) fun v3 S3 =>
      if v2 = v3 then
        zr (nI 0) S3
      else
        fX3_may_b14 n l1 l2 (l3 + (nI 1)) S3
theorem wX3_may_b14 (hc : mC p s m args meth c D cI cJ cX3_may 4 (some .boolean)) : ∀ (n : Nat) (l1 : Int32) (l2 : Int32) (l3 : Int32) (S : mS) (H : Heap) (locs : List Loc) (ls : Array Slot), va_P D mCl (mws am cI cJ S) H → va_D (mA am) (mws am cI cJ S) → va_S (mA am) s.heap H locs → lv_has ls 4 [(0, .ref (am 0)), (1, .int l1), (2, .int l2), (3, .int l3)] → fX3_may_b14 n l1 l2 l3 S = some (r, Sf) → W p l e (mR 3 67) s m args below meth c H locs 0 0 (mQ below D am cI cJ (some (.int r)) Sf args s) (F0 m 14 ls []) := by
  obtain ⟨hx, hb, hr, hlk, hml, hown, hts, hK⟩ := hc
  have hc : mC p s m args meth c D cI cJ cX3_may 4 (some .boolean) := ⟨hx, hb, hr, hlk, hml, hown, hts, hK⟩
  intro n
  induction n with
  | zero => intro l1 l2 l3 S H locs ls _ _ _ _ hf; exact absurd hf (fun h => by cases h)
  | succ n ih =>
    intro l1 l2 l3 S H locs ls hP hD hS hl hf
    rw [fX3_may_b14] at hf
    refine lv_iload_n (pc := 14) hx hb dX3_may_14 rfl (lv_at hl 3 rfl) ?_
    refine lv_iload_n (pc := 15) hx hb dX3_may_15 rfl (lv_at hl 2 rfl) ?_
    refine lv_icmp_ge (pc := 16) (tgt := 42) hx hb dX3_may_16 (by decide) (fun c1 => ?_) (fun c1 => ?_)
    · rw [if_pos c1] at hf
      refine lv_iconst (pc := 42) (v := nI 1) hx hb dX3_may_42 rfl ?_
      exact m_zret (pc := 43) hx hb hr hlk hP hD hS hf dX3_may_43
    · rw [if_neg c1] at hf
      refine lv_aload_n (pc := 19) hx hb dX3_may_19 rfl (lv_at hl 0 rfl) ?_
      refine lv_iload_n (pc := 20) hx hb dX3_may_20 rfl (lv_at hl 1 rfl) ?_
      refine lv_iload_n (pc := 21) hx hb dX3_may_21 rfl (lv_at hl 3 rfl) ?_
      obtain ⟨v2, S2, e2, hf⟩ := bd2o hf
      refine m_callV (pc := 22) (As := [.int l1, .int l3]) (rest := []) (st1 := [.int v2]) hc (mX3_keyOf e2) (cwV 2 hts (lw_V q3015 q3017 qs70 q105 q3018) rfl rfl rfl hdX3_keyOf ⟨Nat.le_of_ble_eq_true rfl, Nat.le_of_ble_eq_true rfl⟩) rfl hl.1 rfl rfl (lv_room (Nat.le_of_ble_eq_true rfl)) dX3_may_22 hP hD hS (fun H locs hP hD hS => ?_)
      refine lv_aload_n (pc := 25) hx hb dX3_may_25 rfl (lv_at hl 0 rfl) ?_
      refine lv_iload_n (pc := 26) hx hb dX3_may_26 rfl (lv_at hl 1 rfl) ?_
      refine lv_iload_n (pc := 27) hx hb dX3_may_27 rfl (lv_at hl 2 rfl) ?_
      obtain ⟨v3, S3, e3, hf⟩ := bd2o hf
      refine m_callV (pc := 28) (As := [.int l1, .int l2]) (rest := [.int v2]) (st1 := [.int v3, .int v2]) hc (mX3_keyOf e3) (cwV 2 hts (lw_V q3015 q3017 qs70 q105 q3018) rfl rfl rfl hdX3_keyOf ⟨Nat.le_of_ble_eq_true rfl, Nat.le_of_ble_eq_true rfl⟩) rfl hl.1 rfl rfl (lv_room (Nat.le_of_ble_eq_true rfl)) dX3_may_28 hP hD hS (fun H locs hP hD hS => ?_)
      refine lv_icmp_ne (pc := 31) (tgt := 36) hx hb dX3_may_31 (by decide) (fun c4 => ?_) (fun c4 => ?_)
      · rw [if_neg c4] at hf
        refine lv_iinc (pc := 36) (v := l3 + (nI 1)) (lv' := [(3, .int (l3 + (nI 1))), (0, .ref (am 0)), (1, .int l1), (2, .int l2)]) hx hb dX3_may_36 hl (k := 3) rfl rfl (by decide) rfl (fun ls hl => ?_)
        refine lv_goto (pc := 39) (tgt := 14) hx hb dX3_may_39 (by decide) ?_
        exact ih l1 l2 (l3 + (nI 1)) S3 _ _ ls hP hD hS (lv_sub hl [1, 2, 3, 0] rfl) hf
      · rw [if_pos c4] at hf
        refine lv_iconst (pc := 34) (v := nI 0) hx hb dX3_may_34 rfl ?_
        exact m_zret (pc := 35) hx hb hr hlk hP hD hS hf dX3_may_35
def fX3_may (l1 : Int32) (l2 : Int32) (S : mS) : Option (Int32 × mS) :=
  bd2 (fX3_letterOf l1 l2 (nI 1) S) fun v1 S1 =>
  if v1 = 0 then
    fX3_may_b14 FU l1 l2 (nI 0) S1
  else
    zr (nI 0) S1
theorem wX3_may_b0 (hc : mC p s m args meth c D cI cJ cX3_may 4 (some .boolean)) (l1 : Int32) (l2 : Int32) (S : mS) (H : Heap) (locs : List Loc) (ls : Array Slot) (hP : va_P D mCl (mws am cI cJ S) H) (hD : va_D (mA am) (mws am cI cJ S)) (hS : va_S (mA am) s.heap H locs) (hl : lv_has ls 4 [(0, .ref (am 0)), (1, .int l1), (2, .int l2)]) (hf : fX3_may l1 l2 S = some (r, Sf)) : W p l e (mR 3 67) s m args below meth c H locs 0 0 (mQ below D am cI cJ (some (.int r)) Sf args s) (F0 m 0 ls []) := by
  obtain ⟨hx, hb, hr, hlk, hml, hown, hts, hK⟩ := hc
  have hc : mC p s m args meth c D cI cJ cX3_may 4 (some .boolean) := ⟨hx, hb, hr, hlk, hml, hown, hts, hK⟩
  unfold fX3_may at hf
  refine lv_aload_n (pc := 0) hx hb dX3_may_0 rfl (lv_at hl 0 rfl) ?_
  refine lv_iload_n (pc := 1) hx hb dX3_may_1 rfl (lv_at hl 1 rfl) ?_
  refine lv_iload_n (pc := 2) hx hb dX3_may_2 rfl (lv_at hl 2 rfl) ?_
  refine lv_iconst (pc := 3) (v := nI 1) hx hb dX3_may_3 rfl ?_
  obtain ⟨v1, S1, e1, hf⟩ := bd2o hf
  refine m_callV (pc := 4) (As := [.int l1, .int l2, .int (nI 1)]) (rest := []) (st1 := [.int v1]) hc (mX3_letterOf e1) (cwV 3 hts (lw_V q2991 q2993 qs65 q105 q2994) rfl rfl rfl hdX3_letterOf ⟨Nat.le_of_ble_eq_true rfl, Nat.le_of_ble_eq_true rfl⟩) rfl hl.1 rfl rfl (lv_room (Nat.le_of_ble_eq_true rfl)) dX3_may_4 hP hD hS (fun H locs hP hD hS => ?_)
  refine lv_if_eq (pc := 7) (tgt := 12) hx hb dX3_may_7 (by decide) (fun c2 => ?_) (fun c2 => ?_)
  · rw [if_pos c2] at hf
    refine lv_iconst (pc := 12) (v := nI 0) hx hb dX3_may_12 rfl ?_
    refine lv_istore_n (pc := 13) (lv' := [(3, .int (nI 0)), (0, .ref (am 0)), (1, .int l1), (2, .int l2)]) hx hb dX3_may_13 rfl hl (by decide) rfl (fun ls hl => ?_)
    exact wX3_may_b14 hc FU l1 l2 (nI 0) S1 _ _ ls hP hD hS (lv_sub hl [1, 2, 3, 0] rfl) hf
  · rw [if_neg c2] at hf
    refine lv_iconst (pc := 10) (v := nI 0) hx hb dX3_may_10 rfl ?_
    exact m_zret (pc := 11) hx hb hr hlk hP hD hS hf dX3_may_11
theorem mX3_may {S S2 : mS} {r2 : Int32} {l1 : Int32} {l2 : Int32} (hf : fX3_may l1 l2 S = some (r2, S2)) : mMet l yX3_may cX3_may 4 (some .boolean) 3 67 D am cI cJ [.ref (am 0), .int l1, .int l2] S (some (.int r2)) S2 := by
  exact m_start (by decide) rfl (Nat.le_of_ble_eq_true rfl) (fun p e s m args below meth c ls hc hl hP hD => wX3_may_b0 hc l1 l2 S _ _ ls hP hD va_S.rf (lv_sub hl [0, 1, 2] rfl) hf)
end
section
variable {r : Int32} {Sf : mS}
def fX3_nextOf_b4 : Nat → Int32 → Int32 → Int32 → mS → Option (Int32 × mS)
  | 0, _, _, _, _ => none
  | n + 1, l1, l2, l3, S =>
    bd2 (fX3_of l1 (nI 35) S) fun v1 S1 =>
    if v1 ≤ l3 then
      some (l2, S1)
    else
      bd2 (fX3_may l1 l3 S1) fun v3 S3 =>
      if v3 = 0 then
        fX3_nextOf_b4 n l1 l2 (l3 + (nI 1)) S3
      else
        if l2 < 0 then
          fX3_nextOf_b4 n l1 l3 (l3 + (nI 1)) S3
        else
          bd2 (fX3_letterOf l1 l3 (nI 0) S3) fun v6 S6 =>
          bd2 (fX3_message v6 (nI 6) S6) fun v7 S7 =>
          bd2 (fX3_letterOf l1 l2 (nI 0) S7) fun v8 S8 =>
          bd2 (fX3_message v8 (nI 6) S8) fun v9 S9 =>
          if v7 ≤ v9 then
            fX3_nextOf_b4 n l1 l2 (l3 + (nI 1)) S9
          else
            fX3_nextOf_b4 n l1 l3 (l3 + (nI 1)) S9
theorem wX3_nextOf_b4 (hc : mC p s m args meth c D cI cJ cX3_nextOf 4 (some .int)) : ∀ (n : Nat) (l1 : Int32) (l2 : Int32) (l3 : Int32) (S : mS) (H : Heap) (locs : List Loc) (ls : Array Slot), va_P D mCl (mws am cI cJ S) H → va_D (mA am) (mws am cI cJ S) → va_S (mA am) s.heap H locs → lv_has ls 4 [(0, .ref (am 0)), (1, .int l1), (2, .int l2), (3, .int l3)] → fX3_nextOf_b4 n l1 l2 l3 S = some (r, Sf) → W p l e (mR 4 90) s m args below meth c H locs 0 0 (mQ below D am cI cJ (some (.int r)) Sf args s) (F0 m 4 ls []) := by
  obtain ⟨hx, hb, hr, hlk, hml, hown, hts, hK⟩ := hc
  have hc : mC p s m args meth c D cI cJ cX3_nextOf 4 (some .int) := ⟨hx, hb, hr, hlk, hml, hown, hts, hK⟩
  intro n
  induction n with
  | zero => intro l1 l2 l3 S H locs ls _ _ _ _ hf; exact absurd hf (fun h => by cases h)
  | succ n ih =>
    intro l1 l2 l3 S H locs ls hP hD hS hl hf
    rw [fX3_nextOf_b4] at hf
    refine lv_iload_n (pc := 4) hx hb dX3_nextOf_4 rfl (lv_at hl 3 rfl) ?_
    refine lv_aload_n (pc := 5) hx hb dX3_nextOf_5 rfl (lv_at hl 0 rfl) ?_
    refine lv_iload_n (pc := 6) hx hb dX3_nextOf_6 rfl (lv_at hl 1 rfl) ?_
    refine lv_bipush (pc := 7) (v := nI 35) hx hb dX3_nextOf_7 kcb35 ?_
    obtain ⟨v1, S1, e1, hf⟩ := bd2o hf
    refine m_callV (pc := 9) (As := [.int l1, .int (nI 35)]) (rest := [.int l3]) (st1 := [.int v1, .int l3]) hc (mX3_of e1) (cwV 2 hts (lw_V q2949 q2951 qs58 q105 q2952) rfl rfl rfl hdX3_of ⟨Nat.le_of_ble_eq_true rfl, Nat.le_of_ble_eq_true rfl⟩) rfl hl.1 rfl rfl (lv_room (Nat.le_of_ble_eq_true rfl)) dX3_nextOf_9 hP hD hS (fun H locs hP hD hS => ?_)
    refine lv_icmp_ge (pc := 12) (tgt := 65) hx hb dX3_nextOf_12 (by decide) (fun c2 => ?_) (fun c2 => ?_)
    · rw [if_pos c2] at hf
      refine lv_iload_n (pc := 65) hx hb dX3_nextOf_65 rfl (lv_at hl 2 rfl) ?_
      exact m_iret (pc := 66) hx hb hr hlk hP hD hS hf dX3_nextOf_66
    · rw [if_neg c2] at hf
      refine lv_aload_n (pc := 15) hx hb dX3_nextOf_15 rfl (lv_at hl 0 rfl) ?_
      refine lv_iload_n (pc := 16) hx hb dX3_nextOf_16 rfl (lv_at hl 1 rfl) ?_
      refine lv_iload_n (pc := 17) hx hb dX3_nextOf_17 rfl (lv_at hl 3 rfl) ?_
      obtain ⟨v3, S3, e3, hf⟩ := bd2o hf
      refine m_callV (pc := 18) (As := [.int l1, .int l3]) (rest := []) (st1 := [.int v3]) hc (mX3_may e3) (cwV 2 hts (lw_V q3011 q3013 qs69 q105 q3014) rfl rfl rfl hdX3_may ⟨Nat.le_of_ble_eq_true rfl, Nat.le_of_ble_eq_true rfl⟩) rfl hl.1 rfl rfl (lv_room (Nat.le_of_ble_eq_true rfl)) dX3_nextOf_18 hP hD hS (fun H locs hP hD hS => ?_)
      refine lv_if_eq (pc := 21) (tgt := 59) hx hb dX3_nextOf_21 (by decide) (fun c4 => ?_) (fun c4 => ?_)
      · rw [if_pos c4] at hf
        refine lv_iinc (pc := 59) (v := l3 + (nI 1)) (lv' := [(3, .int (l3 + (nI 1))), (0, .ref (am 0)), (1, .int l1), (2, .int l2)]) hx hb dX3_nextOf_59 hl (k := 3) rfl rfl (by decide) rfl (fun ls hl => ?_)
        refine lv_goto (pc := 62) (tgt := 4) hx hb dX3_nextOf_62 (by decide) ?_
        exact ih l1 l2 (l3 + (nI 1)) S3 _ _ ls hP hD hS (lv_sub hl [1, 2, 3, 0] rfl) hf
      · rw [if_neg c4] at hf
        refine lv_iload_n (pc := 24) hx hb dX3_nextOf_24 rfl (lv_at hl 2 rfl) ?_
        refine lv_if_lt (pc := 25) (tgt := 57) hx hb dX3_nextOf_25 (by decide) (fun c5 => ?_) (fun c5 => ?_)
        · rw [if_pos c5] at hf
          refine lv_iload_n (pc := 57) hx hb dX3_nextOf_57 rfl (lv_at hl 3 rfl) ?_
          refine lv_istore_n (pc := 58) (lv' := [(2, .int l3), (0, .ref (am 0)), (1, .int l1), (3, .int l3)]) hx hb dX3_nextOf_58 rfl hl (by decide) rfl (fun ls hl => ?_)
          refine lv_iinc (pc := 59) (v := l3 + (nI 1)) (lv' := [(3, .int (l3 + (nI 1))), (2, .int l3), (0, .ref (am 0)), (1, .int l1)]) hx hb dX3_nextOf_59 hl (k := 3) rfl rfl (by decide) rfl (fun ls hl => ?_)
          refine lv_goto (pc := 62) (tgt := 4) hx hb dX3_nextOf_62 (by decide) ?_
          exact ih l1 l3 (l3 + (nI 1)) S3 _ _ ls hP hD hS (lv_sub hl [2, 3, 1, 0] rfl) hf
        · rw [if_neg c5] at hf
          refine lv_aload_n (pc := 28) hx hb dX3_nextOf_28 rfl (lv_at hl 0 rfl) ?_
          refine lv_aload_n (pc := 29) hx hb dX3_nextOf_29 rfl (lv_at hl 0 rfl) ?_
          refine lv_iload_n (pc := 30) hx hb dX3_nextOf_30 rfl (lv_at hl 1 rfl) ?_
          refine lv_iload_n (pc := 31) hx hb dX3_nextOf_31 rfl (lv_at hl 3 rfl) ?_
          refine lv_iconst (pc := 32) (v := nI 0) hx hb dX3_nextOf_32 rfl ?_
          obtain ⟨v6, S6, e6, hf⟩ := bd2o hf
          refine m_callV (pc := 33) (As := [.int l1, .int l3, .int (nI 0)]) (rest := [.ref (am 0)]) (st1 := [.int v6, .ref (am 0)]) hc (mX3_letterOf e6) (cwV 3 hts (lw_V q2991 q2993 qs65 q105 q2994) rfl rfl rfl hdX3_letterOf ⟨Nat.le_of_ble_eq_true rfl, Nat.le_of_ble_eq_true rfl⟩) rfl hl.1 rfl rfl (lv_room (Nat.le_of_ble_eq_true rfl)) dX3_nextOf_33 hP hD hS (fun H locs hP hD hS => ?_)
          refine lv_bipush (pc := 36) (v := nI 6) hx hb dX3_nextOf_36 kcb6 ?_
          obtain ⟨v7, S7, e7, hf⟩ := bd2o hf
          refine m_callV (pc := 38) (As := [.int v6, .int (nI 6)]) (rest := []) (st1 := [.int v7]) hc (mX3_message e7) (cwV 2 hts (lw_V q3019 q3021 qs71 q105 q3022) rfl rfl rfl hdX3_message ⟨Nat.le_of_ble_eq_true rfl, Nat.le_of_ble_eq_true rfl⟩) rfl hl.1 rfl rfl (lv_room (Nat.le_of_ble_eq_true rfl)) dX3_nextOf_38 hP hD hS (fun H locs hP hD hS => ?_)
          refine lv_aload_n (pc := 41) hx hb dX3_nextOf_41 rfl (lv_at hl 0 rfl) ?_
          refine lv_aload_n (pc := 42) hx hb dX3_nextOf_42 rfl (lv_at hl 0 rfl) ?_
          refine lv_iload_n (pc := 43) hx hb dX3_nextOf_43 rfl (lv_at hl 1 rfl) ?_
          refine lv_iload_n (pc := 44) hx hb dX3_nextOf_44 rfl (lv_at hl 2 rfl) ?_
          refine lv_iconst (pc := 45) (v := nI 0) hx hb dX3_nextOf_45 rfl ?_
          obtain ⟨v8, S8, e8, hf⟩ := bd2o hf
          refine m_callV (pc := 46) (As := [.int l1, .int l2, .int (nI 0)]) (rest := [.ref (am 0), .int v7]) (st1 := [.int v8, .ref (am 0), .int v7]) hc (mX3_letterOf e8) (cwV 3 hts (lw_V q2991 q2993 qs65 q105 q2994) rfl rfl rfl hdX3_letterOf ⟨Nat.le_of_ble_eq_true rfl, Nat.le_of_ble_eq_true rfl⟩) rfl hl.1 rfl rfl (lv_room (Nat.le_of_ble_eq_true rfl)) dX3_nextOf_46 hP hD hS (fun H locs hP hD hS => ?_)
          refine lv_bipush (pc := 49) (v := nI 6) hx hb dX3_nextOf_49 kcb6 ?_
          obtain ⟨v9, S9, e9, hf⟩ := bd2o hf
          refine m_callV (pc := 51) (As := [.int v8, .int (nI 6)]) (rest := [.int v7]) (st1 := [.int v9, .int v7]) hc (mX3_message e9) (cwV 2 hts (lw_V q3019 q3021 qs71 q105 q3022) rfl rfl rfl hdX3_message ⟨Nat.le_of_ble_eq_true rfl, Nat.le_of_ble_eq_true rfl⟩) rfl hl.1 rfl rfl (lv_room (Nat.le_of_ble_eq_true rfl)) dX3_nextOf_51 hP hD hS (fun H locs hP hD hS => ?_)
          refine lv_icmp_le (pc := 54) (tgt := 59) hx hb dX3_nextOf_54 (by decide) (fun c10 => ?_) (fun c10 => ?_)
          · rw [if_pos c10] at hf
            refine lv_iinc (pc := 59) (v := l3 + (nI 1)) (lv' := [(3, .int (l3 + (nI 1))), (0, .ref (am 0)), (1, .int l1), (2, .int l2)]) hx hb dX3_nextOf_59 hl (k := 3) rfl rfl (by decide) rfl (fun ls hl => ?_)
            refine lv_goto (pc := 62) (tgt := 4) hx hb dX3_nextOf_62 (by decide) ?_
            exact ih l1 l2 (l3 + (nI 1)) S9 _ _ ls hP hD hS (lv_sub hl [1, 2, 3, 0] rfl) hf
          · rw [if_neg c10] at hf
            refine lv_iload_n (pc := 57) hx hb dX3_nextOf_57 rfl (lv_at hl 3 rfl) ?_
            refine lv_istore_n (pc := 58) (lv' := [(2, .int l3), (0, .ref (am 0)), (1, .int l1), (3, .int l3)]) hx hb dX3_nextOf_58 rfl hl (by decide) rfl (fun ls hl => ?_)
            refine lv_iinc (pc := 59) (v := l3 + (nI 1)) (lv' := [(3, .int (l3 + (nI 1))), (2, .int l3), (0, .ref (am 0)), (1, .int l1)]) hx hb dX3_nextOf_59 hl (k := 3) rfl rfl (by decide) rfl (fun ls hl => ?_)
            refine lv_goto (pc := 62) (tgt := 4) hx hb dX3_nextOf_62 (by decide) ?_
            exact ih l1 l3 (l3 + (nI 1)) S9 _ _ ls hP hD hS (lv_sub hl [2, 3, 1, 0] rfl) hf
def fX3_nextOf (l1 : Int32) (S : mS) : Option (Int32 × mS) :=
  fX3_nextOf_b4 FU l1 (-1) (nI 0) S
theorem wX3_nextOf_b0 (hc : mC p s m args meth c D cI cJ cX3_nextOf 4 (some .int)) (l1 : Int32) (S : mS) (H : Heap) (locs : List Loc) (ls : Array Slot) (hP : va_P D mCl (mws am cI cJ S) H) (hD : va_D (mA am) (mws am cI cJ S)) (hS : va_S (mA am) s.heap H locs) (hl : lv_has ls 4 [(0, .ref (am 0)), (1, .int l1)]) (hf : fX3_nextOf l1 S = some (r, Sf)) : W p l e (mR 4 90) s m args below meth c H locs 0 0 (mQ below D am cI cJ (some (.int r)) Sf args s) (F0 m 0 ls []) := by
  obtain ⟨hx, hb, hr, hlk, hml, hown, hts, hK⟩ := hc
  have hc : mC p s m args meth c D cI cJ cX3_nextOf 4 (some .int) := ⟨hx, hb, hr, hlk, hml, hown, hts, hK⟩
  unfold fX3_nextOf at hf
  refine lv_iconst (pc := 0) (v := -1) hx hb dX3_nextOf_0 rfl ?_
  refine lv_istore_n (pc := 1) (lv' := [(2, .int (-1)), (0, .ref (am 0)), (1, .int l1)]) hx hb dX3_nextOf_1 rfl hl (by decide) rfl (fun ls hl => ?_)
  refine lv_iconst (pc := 2) (v := nI 0) hx hb dX3_nextOf_2 rfl ?_
  refine lv_istore_n (pc := 3) (lv' := [(3, .int (nI 0)), (2, .int (-1)), (0, .ref (am 0)), (1, .int l1)]) hx hb dX3_nextOf_3 rfl hl (by decide) rfl (fun ls hl => ?_)
  exact wX3_nextOf_b4 hc FU l1 (-1) (nI 0) S _ _ ls hP hD hS (lv_sub hl [2, 3, 1, 0] rfl) hf
theorem mX3_nextOf {S S2 : mS} {r2 : Int32} {l1 : Int32} (hf : fX3_nextOf l1 S = some (r2, S2)) : mMet l yX3_nextOf cX3_nextOf 4 (some .int) 4 90 D am cI cJ [.ref (am 0), .int l1] S (some (.int r2)) S2 := by
  exact m_start (by decide) rfl (Nat.le_of_ble_eq_true rfl) (fun p e s m args below meth c ls hc hl hP hD => wX3_nextOf_b0 hc l1 S _ _ ls hP hD va_S.rf (lv_sub hl [0, 1] rfl) hf)
end
section
variable {r : Int32} {Sf : mS}
def fX3_who_b66 : Nat → Int32 → Int32 → mS → Option (Int32 × mS)
  | 0, _, _, _ => none
  | n + 1, l1, l2, S =>
    bd (mrd S 0 7919 (nI 1)) fun v1 =>
    if v1 < l2 then
      some (-1, S)
    else
      bd2 (fX3_of l1 (nI 31) S) fun v3 S3 =>
      bd (mrd S3 0 7919 (nI 1)) fun v4 =>
      bd (mrem (v3 + l2) v4) fun v5 =>
      bd2 (fX3_isHere v5 S3) fun v6 S6 =>
      if v6 = 0 then
        fX3_who_b66 n l1 (l2 + (nI 1)) S6
      else
        bd2 (fX3_ofConsumer v5 (nI 0) S6) fun v8 S8 =>
        if v8 = l1 then
          bd2 (fX3_ofConsumer v5 (nI 1) S8) fun v10 S10 =>
          if v10 ≤ 0 then
            fX3_who_b66 n l1 (l2 + (nI 1)) S10
          else
            some (v5, S10)
        else
          fX3_who_b66 n l1 (l2 + (nI 1)) S8
theorem wX3_who_b66 (hc : mC p s m args meth c D cI cJ cX3_who 4 (some .int)) : ∀ (n : Nat) (l1 : Int32) (l2 : Int32) (S : mS) (H : Heap) (locs : List Loc) (ls : Array Slot), va_P D mCl (mws am cI cJ S) H → va_D (mA am) (mws am cI cJ S) → va_S (mA am) s.heap H locs → lv_has ls 4 [(0, .ref (am 0)), (1, .int l1), (2, .int l2)] → fX3_who_b66 n l1 l2 S = some (r, Sf) → W p l e (mR 3 67) s m args below meth c H locs 0 0 (mQ below D am cI cJ (some (.int r)) Sf args s) (F0 m 66 ls []) := by
  obtain ⟨hx, hb, hr, hlk, hml, hown, hts, hK⟩ := hc
  have hc : mC p s m args meth c D cI cJ cX3_who 4 (some .int) := ⟨hx, hb, hr, hlk, hml, hown, hts, hK⟩
  intro n
  induction n with
  | zero => intro l1 l2 S H locs ls _ _ _ _ hf; exact absurd hf (fun h => by cases h)
  | succ n ih =>
    intro l1 l2 S H locs ls hP hD hS hl hf
    rw [fX3_who_b66] at hf
    refine lv_iload_n (pc := 66) hx hb dX3_who_66 rfl (lv_at hl 2 rfl) ?_
    refine lv_aload_n (pc := 67) hx hb dX3_who_67 rfl (lv_at hl 0 rfl) ?_
    refine va_get (D := D) (ci := 0) (v := .ref (am 1)) (C := RX3) (T := TX3) (N := 17) (pc := 68) hx hb hts in_X3 hown hK hP 0 rfl rfl 0 (by decide) (hts _ q2839) (fun _ h9 => h9) rfl dX3_who_68 ?_
    refine lv_iconst (pc := 71) (v := nI 1) hx hb dX3_who_71 rfl ?_
    obtain ⟨v1, e1, hf⟩ := bdo hf
    refine m_iald (pc := 72) (k := 0) hx hb hK hP rfl e1 dX3_who_72 ?_
    refine lv_icmp_gt (pc := 73) (tgt := 128) hx hb dX3_who_73 (by decide) (fun c2 => ?_) (fun c2 => ?_)
    · rw [if_pos c2] at hf
      refine lv_iconst (pc := 128) (v := -1) hx hb dX3_who_128 rfl ?_
      exact m_iret (pc := 129) hx hb hr hlk hP hD hS hf dX3_who_129
    · rw [if_neg c2] at hf
      refine lv_aload_n (pc := 76) hx hb dX3_who_76 rfl (lv_at hl 0 rfl) ?_
      refine lv_iload_n (pc := 77) hx hb dX3_who_77 rfl (lv_at hl 1 rfl) ?_
      refine lv_bipush (pc := 78) (v := nI 31) hx hb dX3_who_78 kcb31 ?_
      obtain ⟨v3, S3, e3, hf⟩ := bd2o hf
      refine m_callV (pc := 80) (As := [.int l1, .int (nI 31)]) (rest := []) (st1 := [.int v3]) hc (mX3_of e3) (cwV 2 hts (lw_V q2949 q2951 qs58 q105 q2952) rfl rfl rfl hdX3_of ⟨Nat.le_of_ble_eq_true rfl, Nat.le_of_ble_eq_true rfl⟩) rfl hl.1 rfl rfl (lv_room (Nat.le_of_ble_eq_true rfl)) dX3_who_80 hP hD hS (fun H locs hP hD hS => ?_)
      refine lv_iload_n (pc := 83) hx hb dX3_who_83 rfl (lv_at hl 2 rfl) ?_
      refine lv_iadd (pc := 84) hx hb dX3_who_84 ?_
      refine lv_aload_n (pc := 85) hx hb dX3_who_85 rfl (lv_at hl 0 rfl) ?_
      refine va_get (D := D) (ci := 0) (v := .ref (am 1)) (C := RX3) (T := TX3) (N := 17) (pc := 86) hx hb hts in_X3 hown hK hP 0 rfl rfl 0 (by decide) (hts _ q2839) (fun _ h9 => h9) rfl dX3_who_86 ?_
      refine lv_iconst (pc := 89) (v := nI 1) hx hb dX3_who_89 rfl ?_
      obtain ⟨v4, e4, hf⟩ := bdo hf
      refine m_iald (pc := 90) (k := 0) hx hb hK hP rfl e4 dX3_who_90 ?_
      obtain ⟨v5, e5, hf⟩ := bdo hf
      refine m_irem (pc := 91) hx hb dX3_who_91 e5 ?_
      refine lv_istore_n (pc := 92) (lv' := [(3, .int v5), (0, .ref (am 0)), (1, .int l1), (2, .int l2)]) hx hb dX3_who_92 rfl hl (by decide) rfl (fun ls hl => ?_)
      refine lv_aload_n (pc := 93) hx hb dX3_who_93 rfl (lv_at hl 1 rfl) ?_
      refine lv_iload_n (pc := 94) hx hb dX3_who_94 rfl (lv_at hl 0 rfl) ?_
      obtain ⟨v6, S6, e6, hf⟩ := bd2o hf
      refine m_callV (pc := 95) (As := [.int v5]) (rest := []) (st1 := [.int v6]) hc (mX3_isHere e6) (cwV 1 hts (lw_V q3027 q3029 qs73 q105 q3030) rfl rfl rfl hdX3_isHere ⟨Nat.le_of_ble_eq_true rfl, Nat.le_of_ble_eq_true rfl⟩) rfl hl.1 rfl rfl (lv_room (Nat.le_of_ble_eq_true rfl)) dX3_who_95 hP hD hS (fun H locs hP hD hS => ?_)
      refine lv_if_eq (pc := 98) (tgt := 122) hx hb dX3_who_98 (by decide) (fun c7 => ?_) (fun c7 => ?_)
      · rw [if_pos c7] at hf
        refine lv_iinc (pc := 122) (v := l2 + (nI 1)) (lv' := [(2, .int (l2 + (nI 1))), (3, .int v5), (0, .ref (am 0)), (1, .int l1)]) hx hb dX3_who_122 hl (k := 3) rfl rfl (by decide) rfl (fun ls hl => ?_)
        refine lv_goto (pc := 125) (tgt := 66) hx hb dX3_who_125 (by decide) ?_
        exact ih l1 (l2 + (nI 1)) S6 _ _ ls hP hD hS (lv_sub hl [2, 3, 0] rfl) hf
      · rw [if_neg c7] at hf
        refine lv_aload_n (pc := 101) hx hb dX3_who_101 rfl (lv_at hl 1 rfl) ?_
        refine lv_iload_n (pc := 102) hx hb dX3_who_102 rfl (lv_at hl 0 rfl) ?_
        refine lv_iconst (pc := 103) (v := nI 0) hx hb dX3_who_103 rfl ?_
        obtain ⟨v8, S8, e8, hf⟩ := bd2o hf
        refine m_callV (pc := 104) (As := [.int v5, .int (nI 0)]) (rest := []) (st1 := [.int v8]) hc (mX3_ofConsumer e8) (cwV 2 hts (lw_V q3035 q3037 qs75 q105 q3038) rfl rfl rfl hdX3_ofConsumer ⟨Nat.le_of_ble_eq_true rfl, Nat.le_of_ble_eq_true rfl⟩) rfl hl.1 rfl rfl (lv_room (Nat.le_of_ble_eq_true rfl)) dX3_who_104 hP hD hS (fun H locs hP hD hS => ?_)
        refine lv_iload_n (pc := 107) hx hb dX3_who_107 rfl (lv_at hl 2 rfl) ?_
        refine lv_icmp_ne (pc := 108) (tgt := 122) hx hb dX3_who_108 (by decide) (fun c9 => ?_) (fun c9 => ?_)
        · rw [if_neg c9] at hf
          refine lv_iinc (pc := 122) (v := l2 + (nI 1)) (lv' := [(2, .int (l2 + (nI 1))), (3, .int v5), (0, .ref (am 0)), (1, .int l1)]) hx hb dX3_who_122 hl (k := 3) rfl rfl (by decide) rfl (fun ls hl => ?_)
          refine lv_goto (pc := 125) (tgt := 66) hx hb dX3_who_125 (by decide) ?_
          exact ih l1 (l2 + (nI 1)) S8 _ _ ls hP hD hS (lv_sub hl [2, 3, 0] rfl) hf
        · rw [if_pos c9] at hf
          refine lv_aload_n (pc := 111) hx hb dX3_who_111 rfl (lv_at hl 1 rfl) ?_
          refine lv_iload_n (pc := 112) hx hb dX3_who_112 rfl (lv_at hl 0 rfl) ?_
          refine lv_iconst (pc := 113) (v := nI 1) hx hb dX3_who_113 rfl ?_
          obtain ⟨v10, S10, e10, hf⟩ := bd2o hf
          refine m_callV (pc := 114) (As := [.int v5, .int (nI 1)]) (rest := []) (st1 := [.int v10]) hc (mX3_ofConsumer e10) (cwV 2 hts (lw_V q3035 q3037 qs75 q105 q3038) rfl rfl rfl hdX3_ofConsumer ⟨Nat.le_of_ble_eq_true rfl, Nat.le_of_ble_eq_true rfl⟩) rfl hl.1 rfl rfl (lv_room (Nat.le_of_ble_eq_true rfl)) dX3_who_114 hP hD hS (fun H locs hP hD hS => ?_)
          refine lv_if_le (pc := 117) (tgt := 122) hx hb dX3_who_117 (by decide) (fun c11 => ?_) (fun c11 => ?_)
          · rw [if_pos c11] at hf
            refine lv_iinc (pc := 122) (v := l2 + (nI 1)) (lv' := [(2, .int (l2 + (nI 1))), (3, .int v5), (0, .ref (am 0)), (1, .int l1)]) hx hb dX3_who_122 hl (k := 3) rfl rfl (by decide) rfl (fun ls hl => ?_)
            refine lv_goto (pc := 125) (tgt := 66) hx hb dX3_who_125 (by decide) ?_
            exact ih l1 (l2 + (nI 1)) S10 _ _ ls hP hD hS (lv_sub hl [2, 3, 0] rfl) hf
          · rw [if_neg c11] at hf
            refine lv_iload_n (pc := 120) hx hb dX3_who_120 rfl (lv_at hl 0 rfl) ?_
            exact m_iret (pc := 121) hx hb hr hlk hP hD hS hf dX3_who_121
def fX3_who_b13 : Nat → Int32 → Int32 → mS → Option (Int32 × mS)
  | 0, _, _, _ => none
  | n + 1, l1, l2, S =>
    bd (mrd S 0 7919 (nI 1)) fun v1 =>
    if v1 ≤ l2 then
      some (-1, S)
    else
      bd2 (fX3_isHere l2 S) fun v3 S3 =>
      if v3 = 0 then
        fX3_who_b13 n l1 (l2 + (nI 1)) S3
      else
        bd2 (fX3_ofConsumer l2 (nI 0) S3) fun v5 S5 =>
        if v5 = l1 then
          bd2 (fX3_ofConsumer l2 (nI 1) S5) fun v7 S7 =>
          if v7 ≤ 0 then
            some (-1, S7)
          else
            some (l2, S7)
        else
          fX3_who_b13 n l1 (l2 + (nI 1)) S5
theorem wX3_who_b13 (hc : mC p s m args meth c D cI cJ cX3_who 4 (some .int)) : ∀ (n : Nat) (l1 : Int32) (l2 : Int32) (S : mS) (H : Heap) (locs : List Loc) (ls : Array Slot), va_P D mCl (mws am cI cJ S) H → va_D (mA am) (mws am cI cJ S) → va_S (mA am) s.heap H locs → lv_has ls 4 [(0, .ref (am 0)), (1, .int l1), (2, .int l2)] → fX3_who_b13 n l1 l2 S = some (r, Sf) → W p l e (mR 3 67) s m args below meth c H locs 0 0 (mQ below D am cI cJ (some (.int r)) Sf args s) (F0 m 13 ls []) := by
  obtain ⟨hx, hb, hr, hlk, hml, hown, hts, hK⟩ := hc
  have hc : mC p s m args meth c D cI cJ cX3_who 4 (some .int) := ⟨hx, hb, hr, hlk, hml, hown, hts, hK⟩
  intro n
  induction n with
  | zero => intro l1 l2 S H locs ls _ _ _ _ hf; exact absurd hf (fun h => by cases h)
  | succ n ih =>
    intro l1 l2 S H locs ls hP hD hS hl hf
    rw [fX3_who_b13] at hf
    refine lv_iload_n (pc := 13) hx hb dX3_who_13 rfl (lv_at hl 2 rfl) ?_
    refine lv_aload_n (pc := 14) hx hb dX3_who_14 rfl (lv_at hl 0 rfl) ?_
    refine va_get (D := D) (ci := 0) (v := .ref (am 1)) (C := RX3) (T := TX3) (N := 17) (pc := 15) hx hb hts in_X3 hown hK hP 0 rfl rfl 0 (by decide) (hts _ q2839) (fun _ h9 => h9) rfl dX3_who_15 ?_
    refine lv_iconst (pc := 18) (v := nI 1) hx hb dX3_who_18 rfl ?_
    obtain ⟨v1, e1, hf⟩ := bdo hf
    refine m_iald (pc := 19) (k := 0) hx hb hK hP rfl e1 dX3_who_19 ?_
    refine lv_icmp_ge (pc := 20) (tgt := 62) hx hb dX3_who_20 (by decide) (fun c2 => ?_) (fun c2 => ?_)
    · rw [if_pos c2] at hf
      refine lv_iconst (pc := 62) (v := -1) hx hb dX3_who_62 rfl ?_
      exact m_iret (pc := 63) hx hb hr hlk hP hD hS hf dX3_who_63
    · rw [if_neg c2] at hf
      refine lv_aload_n (pc := 23) hx hb dX3_who_23 rfl (lv_at hl 0 rfl) ?_
      refine lv_iload_n (pc := 24) hx hb dX3_who_24 rfl (lv_at hl 2 rfl) ?_
      obtain ⟨v3, S3, e3, hf⟩ := bd2o hf
      refine m_callV (pc := 25) (As := [.int l2]) (rest := []) (st1 := [.int v3]) hc (mX3_isHere e3) (cwV 1 hts (lw_V q3027 q3029 qs73 q105 q3030) rfl rfl rfl hdX3_isHere ⟨Nat.le_of_ble_eq_true rfl, Nat.le_of_ble_eq_true rfl⟩) rfl hl.1 rfl rfl (lv_room (Nat.le_of_ble_eq_true rfl)) dX3_who_25 hP hD hS (fun H locs hP hD hS => ?_)
      refine lv_if_eq (pc := 28) (tgt := 56) hx hb dX3_who_28 (by decide) (fun c4 => ?_) (fun c4 => ?_)
      · rw [if_pos c4] at hf
        refine lv_iinc (pc := 56) (v := l2 + (nI 1)) (lv' := [(2, .int (l2 + (nI 1))), (0, .ref (am 0)), (1, .int l1)]) hx hb dX3_who_56 hl (k := 2) rfl rfl (by decide) rfl (fun ls hl => ?_)
        refine lv_goto (pc := 59) (tgt := 13) hx hb dX3_who_59 (by decide) ?_
        exact ih l1 (l2 + (nI 1)) S3 _ _ ls hP hD hS (lv_sub hl [1, 2, 0] rfl) hf
      · rw [if_neg c4] at hf
        refine lv_aload_n (pc := 31) hx hb dX3_who_31 rfl (lv_at hl 0 rfl) ?_
        refine lv_iload_n (pc := 32) hx hb dX3_who_32 rfl (lv_at hl 2 rfl) ?_
        refine lv_iconst (pc := 33) (v := nI 0) hx hb dX3_who_33 rfl ?_
        obtain ⟨v5, S5, e5, hf⟩ := bd2o hf
        refine m_callV (pc := 34) (As := [.int l2, .int (nI 0)]) (rest := []) (st1 := [.int v5]) hc (mX3_ofConsumer e5) (cwV 2 hts (lw_V q3035 q3037 qs75 q105 q3038) rfl rfl rfl hdX3_ofConsumer ⟨Nat.le_of_ble_eq_true rfl, Nat.le_of_ble_eq_true rfl⟩) rfl hl.1 rfl rfl (lv_room (Nat.le_of_ble_eq_true rfl)) dX3_who_34 hP hD hS (fun H locs hP hD hS => ?_)
        refine lv_iload_n (pc := 37) hx hb dX3_who_37 rfl (lv_at hl 1 rfl) ?_
        refine lv_icmp_ne (pc := 38) (tgt := 56) hx hb dX3_who_38 (by decide) (fun c6 => ?_) (fun c6 => ?_)
        · rw [if_neg c6] at hf
          refine lv_iinc (pc := 56) (v := l2 + (nI 1)) (lv' := [(2, .int (l2 + (nI 1))), (0, .ref (am 0)), (1, .int l1)]) hx hb dX3_who_56 hl (k := 2) rfl rfl (by decide) rfl (fun ls hl => ?_)
          refine lv_goto (pc := 59) (tgt := 13) hx hb dX3_who_59 (by decide) ?_
          exact ih l1 (l2 + (nI 1)) S5 _ _ ls hP hD hS (lv_sub hl [1, 2, 0] rfl) hf
        · rw [if_pos c6] at hf
          refine lv_aload_n (pc := 41) hx hb dX3_who_41 rfl (lv_at hl 0 rfl) ?_
          refine lv_iload_n (pc := 42) hx hb dX3_who_42 rfl (lv_at hl 2 rfl) ?_
          refine lv_iconst (pc := 43) (v := nI 1) hx hb dX3_who_43 rfl ?_
          obtain ⟨v7, S7, e7, hf⟩ := bd2o hf
          refine m_callV (pc := 44) (As := [.int l2, .int (nI 1)]) (rest := []) (st1 := [.int v7]) hc (mX3_ofConsumer e7) (cwV 2 hts (lw_V q3035 q3037 qs75 q105 q3038) rfl rfl rfl hdX3_ofConsumer ⟨Nat.le_of_ble_eq_true rfl, Nat.le_of_ble_eq_true rfl⟩) rfl hl.1 rfl rfl (lv_room (Nat.le_of_ble_eq_true rfl)) dX3_who_44 hP hD hS (fun H locs hP hD hS => ?_)
          refine lv_if_le (pc := 47) (tgt := 54) hx hb dX3_who_47 (by decide) (fun c8 => ?_) (fun c8 => ?_)
          · rw [if_pos c8] at hf
            refine lv_iconst (pc := 54) (v := -1) hx hb dX3_who_54 rfl ?_
            exact m_iret (pc := 55) hx hb hr hlk hP hD hS hf dX3_who_55
          · rw [if_neg c8] at hf
            refine lv_iload_n (pc := 50) hx hb dX3_who_50 rfl (lv_at hl 2 rfl) ?_
            refine lv_goto (pc := 51) (tgt := 55) hx hb dX3_who_51 (by decide) ?_
            exact m_iret (pc := 55) hx hb hr hlk hP hD hS hf dX3_who_55
def fX3_who (l1 : Int32) (S : mS) : Option (Int32 × mS) :=
  bd2 (fX3_of l1 (nI 30) S) fun v1 S1 =>
  if v1 = (nI 1) then
    fX3_who_b13 FU l1 (nI 0) S1
  else
    fX3_who_b66 FU l1 (nI 1) S1
theorem wX3_who_b0 (hc : mC p s m args meth c D cI cJ cX3_who 4 (some .int)) (l1 : Int32) (S : mS) (H : Heap) (locs : List Loc) (ls : Array Slot) (hP : va_P D mCl (mws am cI cJ S) H) (hD : va_D (mA am) (mws am cI cJ S)) (hS : va_S (mA am) s.heap H locs) (hl : lv_has ls 4 [(0, .ref (am 0)), (1, .int l1)]) (hf : fX3_who l1 S = some (r, Sf)) : W p l e (mR 3 67) s m args below meth c H locs 0 0 (mQ below D am cI cJ (some (.int r)) Sf args s) (F0 m 0 ls []) := by
  obtain ⟨hx, hb, hr, hlk, hml, hown, hts, hK⟩ := hc
  have hc : mC p s m args meth c D cI cJ cX3_who 4 (some .int) := ⟨hx, hb, hr, hlk, hml, hown, hts, hK⟩
  unfold fX3_who at hf
  refine lv_aload_n (pc := 0) hx hb dX3_who_0 rfl (lv_at hl 0 rfl) ?_
  refine lv_iload_n (pc := 1) hx hb dX3_who_1 rfl (lv_at hl 1 rfl) ?_
  refine lv_bipush (pc := 2) (v := nI 30) hx hb dX3_who_2 kcb30 ?_
  obtain ⟨v1, S1, e1, hf⟩ := bd2o hf
  refine m_callV (pc := 4) (As := [.int l1, .int (nI 30)]) (rest := []) (st1 := [.int v1]) hc (mX3_of e1) (cwV 2 hts (lw_V q2949 q2951 qs58 q105 q2952) rfl rfl rfl hdX3_of ⟨Nat.le_of_ble_eq_true rfl, Nat.le_of_ble_eq_true rfl⟩) rfl hl.1 rfl rfl (lv_room (Nat.le_of_ble_eq_true rfl)) dX3_who_4 hP hD hS (fun H locs hP hD hS => ?_)
  refine lv_iconst (pc := 7) (v := nI 1) hx hb dX3_who_7 rfl ?_
  refine lv_icmp_ne (pc := 8) (tgt := 64) hx hb dX3_who_8 (by decide) (fun c2 => ?_) (fun c2 => ?_)
  · rw [if_neg c2] at hf
    refine lv_iconst (pc := 64) (v := nI 1) hx hb dX3_who_64 rfl ?_
    refine lv_istore_n (pc := 65) (lv' := [(2, .int (nI 1)), (0, .ref (am 0)), (1, .int l1)]) hx hb dX3_who_65 rfl hl (by decide) rfl (fun ls hl => ?_)
    exact wX3_who_b66 hc FU l1 (nI 1) S1 _ _ ls hP hD hS (lv_sub hl [1, 2, 0] rfl) hf
  · rw [if_pos c2] at hf
    refine lv_iconst (pc := 11) (v := nI 0) hx hb dX3_who_11 rfl ?_
    refine lv_istore_n (pc := 12) (lv' := [(2, .int (nI 0)), (0, .ref (am 0)), (1, .int l1)]) hx hb dX3_who_12 rfl hl (by decide) rfl (fun ls hl => ?_)
    exact wX3_who_b13 hc FU l1 (nI 0) S1 _ _ ls hP hD hS (lv_sub hl [1, 2, 0] rfl) hf
theorem mX3_who {S S2 : mS} {r2 : Int32} {l1 : Int32} (hf : fX3_who l1 S = some (r2, S2)) : mMet l yX3_who cX3_who 4 (some .int) 3 67 D am cI cJ [.ref (am 0), .int l1] S (some (.int r2)) S2 := by
  exact m_start (by decide) rfl (Nat.le_of_ble_eq_true rfl) (fun p e s m args below meth c ls hc hl hP hD => wX3_who_b0 hc l1 S _ _ ls hP hD va_S.rf (lv_sub hl [0, 1] rfl) hf)
end
section
variable {r : Int32} {Sf : mS}
def fX3_gives_b19 (l1 : Int32) (l2 : Int32) (t0 : Int32) (S : mS) : Option (Int32 × mS) :=
  if 0 ≤ t0 then
    bd2 (fX3_letterIs l1 l2 (nI 1) (nI 2) S) fun _ S2 =>
    bd2 (fX3_letterIs l1 l2 (nI 3) t0 S2) fun _ S3 =>
    bd (mrd S3 0 7919 (nI 4)) fun v4 =>
    bd2 (fX3_of l1 (nI 28) S3) fun v5 S5 =>
    bd2 (fX3_letterIs l1 l2 (nI 4) (v4 + v5) S5) fun _ S6 =>
    bd (mrd S6 0 7919 (((nI 11) + ((nI 4) * t0)) + (nI 1))) fun v7 =>
    bd (mwr S6 0 7919 (((nI 11) + ((nI 4) * t0)) + (nI 1)) (v7 - (nI 1))) fun S8 =>
    bd (mrd S8 0 7919 (((nI 11) + ((nI 4) * t0)) + (nI 3))) fun v9 =>
    bd (mwr S8 0 7919 (((nI 11) + ((nI 4) * t0)) + (nI 3)) (v9 + (nI 1))) fun S10 =>
    bd2 (fX3_is l1 (nI 31) t0 S10) fun _ S11 =>
    bd2 (fX3_of l1 (nI 32) S11) fun v12 S12 =>
    bd2 (fX3_is l1 (nI 32) (v12 + (nI 1)) S12) fun _ S13 =>
    bd2 (fX3_letterOf l1 l2 (nI 0) S13) fun v14 S14 =>
    some (v14, S14)
  else
    some (-1, S)
theorem wX3_gives_b19 (hc : mC p s m args meth c D cI cJ cX3_gives 4 (some .int)) (l1 : Int32) (l2 : Int32) (t0 : Int32) (S : mS) (H : Heap) (locs : List Loc) (ls : Array Slot) (hP : va_P D mCl (mws am cI cJ S) H) (hD : va_D (mA am) (mws am cI cJ S)) (hS : va_S (mA am) s.heap H locs) (hl : lv_has ls 4 [(0, .ref (am 0)), (1, .int l1), (2, .int l2)]) (hf : fX3_gives_b19 l1 l2 t0 S = some (r, Sf)) : W p l e (mR 5 113) s m args below meth c H locs 0 0 (mQ below D am cI cJ (some (.int r)) Sf args s) (F0 m 19 ls [.int t0]) := by
  obtain ⟨hx, hb, hr, hlk, hml, hown, hts, hK⟩ := hc
  have hc : mC p s m args meth c D cI cJ cX3_gives 4 (some .int) := ⟨hx, hb, hr, hlk, hml, hown, hts, hK⟩
  unfold fX3_gives_b19 at hf
  refine lv_istore_n (pc := 19) (lv' := [(3, .int t0), (0, .ref (am 0)), (1, .int l1), (2, .int l2)]) hx hb dX3_gives_19 rfl hl (by decide) rfl (fun ls hl => ?_)
  refine lv_iload_n (pc := 20) hx hb dX3_gives_20 rfl (lv_at hl 0 rfl) ?_
  refine lv_if_ge (pc := 21) (tgt := 26) hx hb dX3_gives_21 (by decide) (fun c1 => ?_) (fun c1 => ?_)
  · rw [if_pos c1] at hf
    refine lv_aload_n (pc := 26) hx hb dX3_gives_26 rfl (lv_at hl 1 rfl) ?_
    refine lv_iload_n (pc := 27) hx hb dX3_gives_27 rfl (lv_at hl 2 rfl) ?_
    refine lv_iload_n (pc := 28) hx hb dX3_gives_28 rfl (lv_at hl 3 rfl) ?_
    refine lv_iconst (pc := 29) (v := nI 1) hx hb dX3_gives_29 rfl ?_
    refine lv_iconst (pc := 30) (v := nI 2) hx hb dX3_gives_30 rfl ?_
    obtain ⟨v2, S2, e2, hf⟩ := bd2o hf
    refine m_callV (pc := 31) (As := [.int l1, .int l2, .int (nI 1), .int (nI 2)]) (rest := []) (st1 := []) hc (mX3_letterIs e2) (cwV 4 hts (lw_V q2995 q2997 qs66 q105 q2998) rfl rfl rfl hdX3_letterIs ⟨Nat.le_of_ble_eq_true rfl, Nat.le_of_ble_eq_true rfl⟩) rfl hl.1 rfl rfl (lv_room (Nat.le_of_ble_eq_true rfl)) dX3_gives_31 hP hD hS (fun H locs hP hD hS => ?_)
    refine lv_aload_n (pc := 34) hx hb dX3_gives_34 rfl (lv_at hl 1 rfl) ?_
    refine lv_iload_n (pc := 35) hx hb dX3_gives_35 rfl (lv_at hl 2 rfl) ?_
    refine lv_iload_n (pc := 36) hx hb dX3_gives_36 rfl (lv_at hl 3 rfl) ?_
    refine lv_iconst (pc := 37) (v := nI 3) hx hb dX3_gives_37 rfl ?_
    refine lv_iload_n (pc := 38) hx hb dX3_gives_38 rfl (lv_at hl 0 rfl) ?_
    obtain ⟨v3, S3, e3, hf⟩ := bd2o hf
    refine m_callV (pc := 39) (As := [.int l1, .int l2, .int (nI 3), .int t0]) (rest := []) (st1 := []) hc (mX3_letterIs e3) (cwV 4 hts (lw_V q2995 q2997 qs66 q105 q2998) rfl rfl rfl hdX3_letterIs ⟨Nat.le_of_ble_eq_true rfl, Nat.le_of_ble_eq_true rfl⟩) rfl hl.1 rfl rfl (lv_room (Nat.le_of_ble_eq_true rfl)) dX3_gives_39 hP hD hS (fun H locs hP hD hS => ?_)
    refine lv_aload_n (pc := 42) hx hb dX3_gives_42 rfl (lv_at hl 1 rfl) ?_
    refine lv_iload_n (pc := 43) hx hb dX3_gives_43 rfl (lv_at hl 2 rfl) ?_
    refine lv_iload_n (pc := 44) hx hb dX3_gives_44 rfl (lv_at hl 3 rfl) ?_
    refine lv_iconst (pc := 45) (v := nI 4) hx hb dX3_gives_45 rfl ?_
    refine lv_aload_n (pc := 46) hx hb dX3_gives_46 rfl (lv_at hl 1 rfl) ?_
    refine va_get (D := D) (ci := 0) (v := .ref (am 1)) (C := RX3) (T := TX3) (N := 17) (pc := 47) hx hb hts in_X3 hown hK hP 0 rfl rfl 0 (by decide) (hts _ q2839) (fun _ h9 => h9) rfl dX3_gives_47 ?_
    refine lv_iconst (pc := 50) (v := nI 4) hx hb dX3_gives_50 rfl ?_
    obtain ⟨v4, e4, hf⟩ := bdo hf
    refine m_iald (pc := 51) (k := 0) hx hb hK hP rfl e4 dX3_gives_51 ?_
    refine lv_aload_n (pc := 52) hx hb dX3_gives_52 rfl (lv_at hl 1 rfl) ?_
    refine lv_iload_n (pc := 53) hx hb dX3_gives_53 rfl (lv_at hl 2 rfl) ?_
    refine lv_bipush (pc := 54) (v := nI 28) hx hb dX3_gives_54 kcb28 ?_
    obtain ⟨v5, S5, e5, hf⟩ := bd2o hf
    refine m_callV (pc := 56) (As := [.int l1, .int (nI 28)]) (rest := [.int v4, .int (nI 4), .int l2, .int l1, .ref (am 0)]) (st1 := [.int v5, .int v4, .int (nI 4), .int l2, .int l1, .ref (am 0)]) hc (mX3_of e5) (cwV 2 hts (lw_V q2949 q2951 qs58 q105 q2952) rfl rfl rfl hdX3_of ⟨Nat.le_of_ble_eq_true rfl, Nat.le_of_ble_eq_true rfl⟩) rfl hl.1 rfl rfl (lv_room (Nat.le_of_ble_eq_true rfl)) dX3_gives_56 hP hD hS (fun H locs hP hD hS => ?_)
    refine lv_iadd (pc := 59) hx hb dX3_gives_59 ?_
    obtain ⟨v6, S6, e6, hf⟩ := bd2o hf
    refine m_callV (pc := 60) (As := [.int l1, .int l2, .int (nI 4), .int (v4 + v5)]) (rest := []) (st1 := []) hc (mX3_letterIs e6) (cwV 4 hts (lw_V q2995 q2997 qs66 q105 q2998) rfl rfl rfl hdX3_letterIs ⟨Nat.le_of_ble_eq_true rfl, Nat.le_of_ble_eq_true rfl⟩) rfl hl.1 rfl rfl (lv_room (Nat.le_of_ble_eq_true rfl)) dX3_gives_60 hP hD hS (fun H locs hP hD hS => ?_)
    refine lv_aload_n (pc := 63) hx hb dX3_gives_63 rfl (lv_at hl 1 rfl) ?_
    refine va_get (D := D) (ci := 0) (v := .ref (am 1)) (C := RX3) (T := TX3) (N := 17) (pc := 64) hx hb hts in_X3 hown hK hP 0 rfl rfl 0 (by decide) (hts _ q2839) (fun _ h9 => h9) rfl dX3_gives_64 ?_
    refine lv_bipush (pc := 67) (v := nI 11) hx hb dX3_gives_67 kcb11 ?_
    refine lv_iconst (pc := 69) (v := nI 4) hx hb dX3_gives_69 rfl ?_
    refine lv_iload_n (pc := 70) hx hb dX3_gives_70 rfl (lv_at hl 0 rfl) ?_
    refine lv_imul (pc := 71) hx hb dX3_gives_71 ?_
    refine lv_iadd (pc := 72) hx hb dX3_gives_72 ?_
    refine lv_iconst (pc := 73) (v := nI 1) hx hb dX3_gives_73 rfl ?_
    refine lv_iadd (pc := 74) hx hb dX3_gives_74 ?_
    refine lv_dup2_11 (pc := 75) hx hb dX3_gives_75 rfl rfl ?_
    obtain ⟨v7, e7, hf⟩ := bdo hf
    refine m_iald (pc := 76) (k := 0) hx hb hK hP rfl e7 dX3_gives_76 ?_
    refine lv_iconst (pc := 77) (v := nI 1) hx hb dX3_gives_77 rfl ?_
    refine lv_isub (pc := 78) hx hb dX3_gives_78 ?_
    obtain ⟨S8, e8, hf⟩ := bdo hf
    refine m_iast (pc := 79) (k := 0) hx hb hK hP hD hS rfl (fun _ _ => rfl) e8 dX3_gives_79 (fun H locs hP hD hS => ?_)
    refine lv_aload_n (pc := 80) hx hb dX3_gives_80 rfl (lv_at hl 1 rfl) ?_
    refine va_get (D := D) (ci := 0) (v := .ref (am 1)) (C := RX3) (T := TX3) (N := 17) (pc := 81) hx hb hts in_X3 hown hK hP 0 rfl rfl 0 (by decide) (hts _ q2839) (fun _ h9 => h9) rfl dX3_gives_81 ?_
    refine lv_bipush (pc := 84) (v := nI 11) hx hb dX3_gives_84 kcb11 ?_
    refine lv_iconst (pc := 86) (v := nI 4) hx hb dX3_gives_86 rfl ?_
    refine lv_iload_n (pc := 87) hx hb dX3_gives_87 rfl (lv_at hl 0 rfl) ?_
    refine lv_imul (pc := 88) hx hb dX3_gives_88 ?_
    refine lv_iadd (pc := 89) hx hb dX3_gives_89 ?_
    refine lv_iconst (pc := 90) (v := nI 3) hx hb dX3_gives_90 rfl ?_
    refine lv_iadd (pc := 91) hx hb dX3_gives_91 ?_
    refine lv_dup2_11 (pc := 92) hx hb dX3_gives_92 rfl rfl ?_
    obtain ⟨v9, e9, hf⟩ := bdo hf
    refine m_iald (pc := 93) (k := 0) hx hb hK hP rfl e9 dX3_gives_93 ?_
    refine lv_iconst (pc := 94) (v := nI 1) hx hb dX3_gives_94 rfl ?_
    refine lv_iadd (pc := 95) hx hb dX3_gives_95 ?_
    obtain ⟨S10, e10, hf⟩ := bdo hf
    refine m_iast (pc := 96) (k := 0) hx hb hK hP hD hS rfl (fun _ _ => rfl) e10 dX3_gives_96 (fun H locs hP hD hS => ?_)
    refine lv_aload_n (pc := 97) hx hb dX3_gives_97 rfl (lv_at hl 1 rfl) ?_
    refine lv_iload_n (pc := 98) hx hb dX3_gives_98 rfl (lv_at hl 2 rfl) ?_
    refine lv_bipush (pc := 99) (v := nI 31) hx hb dX3_gives_99 kcb31 ?_
    refine lv_iload_n (pc := 101) hx hb dX3_gives_101 rfl (lv_at hl 0 rfl) ?_
    obtain ⟨v11, S11, e11, hf⟩ := bd2o hf
    refine m_callV (pc := 102) (As := [.int l1, .int (nI 31), .int t0]) (rest := []) (st1 := []) hc (mX3_is e11) (cwV 3 hts (lw_V q2933 q2935 qs55 q105 q2936) rfl rfl rfl hdX3_is ⟨Nat.le_of_ble_eq_true rfl, Nat.le_of_ble_eq_true rfl⟩) rfl hl.1 rfl rfl (lv_room (Nat.le_of_ble_eq_true rfl)) dX3_gives_102 hP hD hS (fun H locs hP hD hS => ?_)
    refine lv_aload_n (pc := 105) hx hb dX3_gives_105 rfl (lv_at hl 1 rfl) ?_
    refine lv_iload_n (pc := 106) hx hb dX3_gives_106 rfl (lv_at hl 2 rfl) ?_
    refine lv_bipush (pc := 107) (v := nI 32) hx hb dX3_gives_107 kcb32 ?_
    refine lv_aload_n (pc := 109) hx hb dX3_gives_109 rfl (lv_at hl 1 rfl) ?_
    refine lv_iload_n (pc := 110) hx hb dX3_gives_110 rfl (lv_at hl 2 rfl) ?_
    refine lv_bipush (pc := 111) (v := nI 32) hx hb dX3_gives_111 kcb32 ?_
    obtain ⟨v12, S12, e12, hf⟩ := bd2o hf
    refine m_callV (pc := 113) (As := [.int l1, .int (nI 32)]) (rest := [.int (nI 32), .int l1, .ref (am 0)]) (st1 := [.int v12, .int (nI 32), .int l1, .ref (am 0)]) hc (mX3_of e12) (cwV 2 hts (lw_V q2949 q2951 qs58 q105 q2952) rfl rfl rfl hdX3_of ⟨Nat.le_of_ble_eq_true rfl, Nat.le_of_ble_eq_true rfl⟩) rfl hl.1 rfl rfl (lv_room (Nat.le_of_ble_eq_true rfl)) dX3_gives_113 hP hD hS (fun H locs hP hD hS => ?_)
    refine lv_iconst (pc := 116) (v := nI 1) hx hb dX3_gives_116 rfl ?_
    refine lv_iadd (pc := 117) hx hb dX3_gives_117 ?_
    obtain ⟨v13, S13, e13, hf⟩ := bd2o hf
    refine m_callV (pc := 118) (As := [.int l1, .int (nI 32), .int (v12 + (nI 1))]) (rest := []) (st1 := []) hc (mX3_is e13) (cwV 3 hts (lw_V q2933 q2935 qs55 q105 q2936) rfl rfl rfl hdX3_is ⟨Nat.le_of_ble_eq_true rfl, Nat.le_of_ble_eq_true rfl⟩) rfl hl.1 rfl rfl (lv_room (Nat.le_of_ble_eq_true rfl)) dX3_gives_118 hP hD hS (fun H locs hP hD hS => ?_)
    refine lv_aload_n (pc := 121) hx hb dX3_gives_121 rfl (lv_at hl 1 rfl) ?_
    refine lv_iload_n (pc := 122) hx hb dX3_gives_122 rfl (lv_at hl 2 rfl) ?_
    refine lv_iload_n (pc := 123) hx hb dX3_gives_123 rfl (lv_at hl 3 rfl) ?_
    refine lv_iconst (pc := 124) (v := nI 0) hx hb dX3_gives_124 rfl ?_
    obtain ⟨v14, S14, e14, hf⟩ := bd2o hf
    refine m_callV (pc := 125) (As := [.int l1, .int l2, .int (nI 0)]) (rest := []) (st1 := [.int v14]) hc (mX3_letterOf e14) (cwV 3 hts (lw_V q2991 q2993 qs65 q105 q2994) rfl rfl rfl hdX3_letterOf ⟨Nat.le_of_ble_eq_true rfl, Nat.le_of_ble_eq_true rfl⟩) rfl hl.1 rfl rfl (lv_room (Nat.le_of_ble_eq_true rfl)) dX3_gives_125 hP hD hS (fun H locs hP hD hS => ?_)
    exact m_iret (pc := 128) hx hb hr hlk hP hD hS hf dX3_gives_128
  · rw [if_neg c1] at hf
    refine lv_iconst (pc := 24) (v := -1) hx hb dX3_gives_24 rfl ?_
    exact m_iret (pc := 25) hx hb hr hlk hP hD hS hf dX3_gives_25
def fX3_gives (l1 : Int32) (S : mS) : Option (Int32 × mS) :=
  bd2 (fX3_nextOf l1 S) fun v1 S1 =>
  if 0 ≤ v1 then
    bd2 (fX3_who l1 S1) fun v3 S3 =>
    fX3_gives_b19 l1 v1 v3 S3
  else
    fX3_gives_b19 l1 v1 (-1) S1
theorem wX3_gives_b0 (hc : mC p s m args meth c D cI cJ cX3_gives 4 (some .int)) (l1 : Int32) (S : mS) (H : Heap) (locs : List Loc) (ls : Array Slot) (hP : va_P D mCl (mws am cI cJ S) H) (hD : va_D (mA am) (mws am cI cJ S)) (hS : va_S (mA am) s.heap H locs) (hl : lv_has ls 4 [(0, .ref (am 0)), (1, .int l1)]) (hf : fX3_gives l1 S = some (r, Sf)) : W p l e (mR 5 113) s m args below meth c H locs 0 0 (mQ below D am cI cJ (some (.int r)) Sf args s) (F0 m 0 ls []) := by
  obtain ⟨hx, hb, hr, hlk, hml, hown, hts, hK⟩ := hc
  have hc : mC p s m args meth c D cI cJ cX3_gives 4 (some .int) := ⟨hx, hb, hr, hlk, hml, hown, hts, hK⟩
  unfold fX3_gives at hf
  refine lv_aload_n (pc := 0) hx hb dX3_gives_0 rfl (lv_at hl 0 rfl) ?_
  refine lv_iload_n (pc := 1) hx hb dX3_gives_1 rfl (lv_at hl 1 rfl) ?_
  obtain ⟨v1, S1, e1, hf⟩ := bd2o hf
  refine m_callV (pc := 2) (As := [.int l1]) (rest := []) (st1 := [.int v1]) hc (mX3_nextOf e1) (cwV 1 hts (lw_V q3007 q3009 qs68 q105 q3010) rfl rfl rfl hdX3_nextOf ⟨Nat.le_of_ble_eq_true rfl, Nat.le_of_ble_eq_true rfl⟩) rfl hl.1 rfl rfl (lv_room (Nat.le_of_ble_eq_true rfl)) dX3_gives_2 hP hD hS (fun H locs hP hD hS => ?_)
  refine lv_istore_n (pc := 5) (lv' := [(2, .int v1), (0, .ref (am 0)), (1, .int l1)]) hx hb dX3_gives_5 rfl hl (by decide) rfl (fun ls hl => ?_)
  refine lv_iload_n (pc := 6) hx hb dX3_gives_6 rfl (lv_at hl 0 rfl) ?_
  refine lv_if_ge (pc := 7) (tgt := 14) hx hb dX3_gives_7 (by decide) (fun c2 => ?_) (fun c2 => ?_)
  · rw [if_pos c2] at hf
    refine lv_aload_n (pc := 14) hx hb dX3_gives_14 rfl (lv_at hl 1 rfl) ?_
    refine lv_iload_n (pc := 15) hx hb dX3_gives_15 rfl (lv_at hl 2 rfl) ?_
    obtain ⟨v3, S3, e3, hf⟩ := bd2o hf
    refine m_callV (pc := 16) (As := [.int l1]) (rest := []) (st1 := [.int v3]) hc (mX3_who e3) (cwV 1 hts (lw_V q3023 q3025 qs72 q105 q3026) rfl rfl rfl hdX3_who ⟨Nat.le_of_ble_eq_true rfl, Nat.le_of_ble_eq_true rfl⟩) rfl hl.1 rfl rfl (lv_room (Nat.le_of_ble_eq_true rfl)) dX3_gives_16 hP hD hS (fun H locs hP hD hS => ?_)
    exact wX3_gives_b19 hc l1 v1 v3 S3 _ _ ls hP hD hS (lv_sub hl [1, 2, 0] rfl) hf
  · rw [if_neg c2] at hf
    refine lv_iconst (pc := 10) (v := -1) hx hb dX3_gives_10 rfl ?_
    refine lv_goto (pc := 11) (tgt := 19) hx hb dX3_gives_11 (by decide) ?_
    exact wX3_gives_b19 hc l1 v1 (-1) S1 _ _ ls hP hD hS (lv_sub hl [1, 2, 0] rfl) hf
theorem mX3_gives {S S2 : mS} {r2 : Int32} {l1 : Int32} (hf : fX3_gives l1 S = some (r2, S2)) : mMet l yX3_gives cX3_gives 4 (some .int) 5 113 D am cI cJ [.ref (am 0), .int l1] S (some (.int r2)) S2 := by
  exact m_start (by decide) rfl (Nat.le_of_ble_eq_true rfl) (fun p e s m args below meth c ls hc hl hP hD => wX3_gives_b0 hc l1 S _ _ ls hP hD va_S.rf (lv_sub hl [0, 1] rfl) hf)
end
section
variable {r : Int32} {Sf : mS}
def fX3_give (l1 : Int32) (S : mS) : Option (Int32 × mS) :=
  bd2 (fX3_isQueue l1 S) fun v1 S1 =>
  if v1 = 0 then
    bd2 (fX3_refused (-82) S1) fun v3 S3 =>
    some (v3, S3)
  else
    bd2 (fX3_gives l1 S1) fun v4 S4 =>
    some (v4, S4)
theorem wX3_give_b0 (hc : mC p s m args meth c D cI cJ cX3_give 2 (some .int)) (l1 : Int32) (S : mS) (H : Heap) (locs : List Loc) (ls : Array Slot) (hP : va_P D mCl (mws am cI cJ S) H) (hD : va_D (mA am) (mws am cI cJ S)) (hS : va_S (mA am) s.heap H locs) (hl : lv_has ls 2 [(0, .ref (am 0)), (1, .int l1)]) (hf : fX3_give l1 S = some (r, Sf)) : W p l e (mR 6 136) s m args below meth c H locs 0 0 (mQ below D am cI cJ (some (.int r)) Sf args s) (F0 m 0 ls []) := by
  obtain ⟨hx, hb, hr, hlk, hml, hown, hts, hK⟩ := hc
  have hc : mC p s m args meth c D cI cJ cX3_give 2 (some .int) := ⟨hx, hb, hr, hlk, hml, hown, hts, hK⟩
  unfold fX3_give at hf
  refine lv_aload_n (pc := 0) hx hb dX3_give_0 rfl (lv_at hl 0 rfl) ?_
  refine lv_iload_n (pc := 1) hx hb dX3_give_1 rfl (lv_at hl 1 rfl) ?_
  obtain ⟨v1, S1, e1, hf⟩ := bd2o hf
  refine m_callV (pc := 2) (As := [.int l1]) (rest := []) (st1 := [.int v1]) hc (mX3_isQueue e1) (cwV 1 hts (lw_V q2961 q2963 qs60 q105 q2964) rfl rfl rfl hdX3_isQueue ⟨Nat.le_of_ble_eq_true rfl, Nat.le_of_ble_eq_true rfl⟩) rfl hl.1 rfl rfl (lv_room (Nat.le_of_ble_eq_true rfl)) dX3_give_2 hP hD hS (fun H locs hP hD hS => ?_)
  refine lv_if_eq (pc := 5) (tgt := 16) hx hb dX3_give_5 (by decide) (fun c2 => ?_) (fun c2 => ?_)
  · rw [if_pos c2] at hf
    refine lv_aload_n (pc := 16) hx hb dX3_give_16 rfl (lv_at hl 0 rfl) ?_
    refine lv_bipush (pc := 17) (v := -82) hx hb dX3_give_17 kcbm82 ?_
    obtain ⟨v3, S3, e3, hf⟩ := bd2o hf
    refine m_callV (pc := 19) (As := [.int (-82)]) (rest := []) (st1 := [.int v3]) hc (mX3_refused e3) (cwV 1 hts (lw_V q2899 q2901 qs51 q105 q2902) rfl rfl rfl hdX3_refused ⟨Nat.le_of_ble_eq_true rfl, Nat.le_of_ble_eq_true rfl⟩) rfl hl.1 rfl rfl (lv_room (Nat.le_of_ble_eq_true rfl)) dX3_give_19 hP hD hS (fun H locs hP hD hS => ?_)
    exact m_iret (pc := 22) hx hb hr hlk hP hD hS hf dX3_give_22
  · rw [if_neg c2] at hf
    refine lv_aload_n (pc := 8) hx hb dX3_give_8 rfl (lv_at hl 0 rfl) ?_
    refine lv_iload_n (pc := 9) hx hb dX3_give_9 rfl (lv_at hl 1 rfl) ?_
    obtain ⟨v4, S4, e4, hf⟩ := bd2o hf
    refine m_callV (pc := 10) (As := [.int l1]) (rest := []) (st1 := [.int v4]) hc (mX3_gives e4) (cwV 1 hts (lw_V q3003 q3005 qs67 q105 q3006) rfl rfl rfl hdX3_gives ⟨Nat.le_of_ble_eq_true rfl, Nat.le_of_ble_eq_true rfl⟩) rfl hl.1 rfl rfl (lv_room (Nat.le_of_ble_eq_true rfl)) dX3_give_10 hP hD hS (fun H locs hP hD hS => ?_)
    refine lv_goto (pc := 13) (tgt := 22) hx hb dX3_give_13 (by decide) ?_
    exact m_iret (pc := 22) hx hb hr hlk hP hD hS hf dX3_give_22
theorem mX3_give {S S2 : mS} {r2 : Int32} {l1 : Int32} (hf : fX3_give l1 S = some (r2, S2)) : mMet l yX3_give cX3_give 2 (some .int) 6 136 D am cI cJ [.ref (am 0), .int l1] S (some (.int r2)) S2 := by
  exact m_start (by decide) rfl (Nat.le_of_ble_eq_true rfl) (fun p e s m args below meth c ls hc hl hP hD => wX3_give_b0 hc l1 S _ _ ls hP hD va_S.rf (lv_sub hl [0, 1] rfl) hf)
end
section
variable {r : Int32} {Sf : mS}
def fX3_giveAll_b17 : Nat → Int32 → Int32 → mS → Option (Int32 × mS)
  | 0, _, _, _ => none
  | n + 1, l1, l2, S =>
    bd2 (fX3_gives l1 S) fun v1 S1 =>
    if v1 < 0 then
      some (l2, S1)
    else
      fX3_giveAll_b17 n l1 (l2 + (nI 1)) S1
theorem wX3_giveAll_b17 (hc : mC p s m args meth c D cI cJ cX3_giveAll 3 (some .int)) : ∀ (n : Nat) (l1 : Int32) (l2 : Int32) (S : mS) (H : Heap) (locs : List Loc) (ls : Array Slot), va_P D mCl (mws am cI cJ S) H → va_D (mA am) (mws am cI cJ S) → va_S (mA am) s.heap H locs → lv_has ls 3 [(0, .ref (am 0)), (1, .int l1), (2, .int l2)] → fX3_giveAll_b17 n l1 l2 S = some (r, Sf) → W p l e (mR 6 136) s m args below meth c H locs 0 0 (mQ below D am cI cJ (some (.int r)) Sf args s) (F0 m 17 ls []) := by
  obtain ⟨hx, hb, hr, hlk, hml, hown, hts, hK⟩ := hc
  have hc : mC p s m args meth c D cI cJ cX3_giveAll 3 (some .int) := ⟨hx, hb, hr, hlk, hml, hown, hts, hK⟩
  intro n
  induction n with
  | zero => intro l1 l2 S H locs ls _ _ _ _ hf; exact absurd hf (fun h => by cases h)
  | succ n ih =>
    intro l1 l2 S H locs ls hP hD hS hl hf
    rw [fX3_giveAll_b17] at hf
    refine lv_aload_n (pc := 17) hx hb dX3_giveAll_17 rfl (lv_at hl 0 rfl) ?_
    refine lv_iload_n (pc := 18) hx hb dX3_giveAll_18 rfl (lv_at hl 1 rfl) ?_
    obtain ⟨v1, S1, e1, hf⟩ := bd2o hf
    refine m_callV (pc := 19) (As := [.int l1]) (rest := []) (st1 := [.int v1]) hc (mX3_gives e1) (cwV 1 hts (lw_V q3003 q3005 qs67 q105 q3006) rfl rfl rfl hdX3_gives ⟨Nat.le_of_ble_eq_true rfl, Nat.le_of_ble_eq_true rfl⟩) rfl hl.1 rfl rfl (lv_room (Nat.le_of_ble_eq_true rfl)) dX3_giveAll_19 hP hD hS (fun H locs hP hD hS => ?_)
    refine lv_if_lt (pc := 22) (tgt := 31) hx hb dX3_giveAll_22 (by decide) (fun c2 => ?_) (fun c2 => ?_)
    · rw [if_pos c2] at hf
      refine lv_iload_n (pc := 31) hx hb dX3_giveAll_31 rfl (lv_at hl 2 rfl) ?_
      exact m_iret (pc := 32) hx hb hr hlk hP hD hS hf dX3_giveAll_32
    · rw [if_neg c2] at hf
      refine lv_iinc (pc := 25) (v := l2 + (nI 1)) (lv' := [(2, .int (l2 + (nI 1))), (0, .ref (am 0)), (1, .int l1)]) hx hb dX3_giveAll_25 hl (k := 2) rfl rfl (by decide) rfl (fun ls hl => ?_)
      refine lv_goto (pc := 28) (tgt := 17) hx hb dX3_giveAll_28 (by decide) ?_
      exact ih l1 (l2 + (nI 1)) S1 _ _ ls hP hD hS (lv_sub hl [1, 2, 0] rfl) hf
def fX3_giveAll (l1 : Int32) (S : mS) : Option (Int32 × mS) :=
  bd2 (fX3_isQueue l1 S) fun v1 S1 =>
  if v1 = 0 then
    bd2 (fX3_refused (-82) S1) fun v3 S3 =>
    some (v3, S3)
  else
    fX3_giveAll_b17 FU l1 (nI 0) S1
theorem wX3_giveAll_b0 (hc : mC p s m args meth c D cI cJ cX3_giveAll 3 (some .int)) (l1 : Int32) (S : mS) (H : Heap) (locs : List Loc) (ls : Array Slot) (hP : va_P D mCl (mws am cI cJ S) H) (hD : va_D (mA am) (mws am cI cJ S)) (hS : va_S (mA am) s.heap H locs) (hl : lv_has ls 3 [(0, .ref (am 0)), (1, .int l1)]) (hf : fX3_giveAll l1 S = some (r, Sf)) : W p l e (mR 6 136) s m args below meth c H locs 0 0 (mQ below D am cI cJ (some (.int r)) Sf args s) (F0 m 0 ls []) := by
  obtain ⟨hx, hb, hr, hlk, hml, hown, hts, hK⟩ := hc
  have hc : mC p s m args meth c D cI cJ cX3_giveAll 3 (some .int) := ⟨hx, hb, hr, hlk, hml, hown, hts, hK⟩
  unfold fX3_giveAll at hf
  refine lv_aload_n (pc := 0) hx hb dX3_giveAll_0 rfl (lv_at hl 0 rfl) ?_
  refine lv_iload_n (pc := 1) hx hb dX3_giveAll_1 rfl (lv_at hl 1 rfl) ?_
  obtain ⟨v1, S1, e1, hf⟩ := bd2o hf
  refine m_callV (pc := 2) (As := [.int l1]) (rest := []) (st1 := [.int v1]) hc (mX3_isQueue e1) (cwV 1 hts (lw_V q2961 q2963 qs60 q105 q2964) rfl rfl rfl hdX3_isQueue ⟨Nat.le_of_ble_eq_true rfl, Nat.le_of_ble_eq_true rfl⟩) rfl hl.1 rfl rfl (lv_room (Nat.le_of_ble_eq_true rfl)) dX3_giveAll_2 hP hD hS (fun H locs hP hD hS => ?_)
  refine lv_if_ne (pc := 5) (tgt := 15) hx hb dX3_giveAll_5 (by decide) (fun c2 => ?_) (fun c2 => ?_)
  · rw [if_neg c2] at hf
    refine lv_iconst (pc := 15) (v := nI 0) hx hb dX3_giveAll_15 rfl ?_
    refine lv_istore_n (pc := 16) (lv' := [(2, .int (nI 0)), (0, .ref (am 0)), (1, .int l1)]) hx hb dX3_giveAll_16 rfl hl (by decide) rfl (fun ls hl => ?_)
    exact wX3_giveAll_b17 hc FU l1 (nI 0) S1 _ _ ls hP hD hS (lv_sub hl [1, 2, 0] rfl) hf
  · rw [if_pos c2] at hf
    refine lv_aload_n (pc := 8) hx hb dX3_giveAll_8 rfl (lv_at hl 0 rfl) ?_
    refine lv_bipush (pc := 9) (v := -82) hx hb dX3_giveAll_9 kcbm82 ?_
    obtain ⟨v3, S3, e3, hf⟩ := bd2o hf
    refine m_callV (pc := 11) (As := [.int (-82)]) (rest := []) (st1 := [.int v3]) hc (mX3_refused e3) (cwV 1 hts (lw_V q2899 q2901 qs51 q105 q2902) rfl rfl rfl hdX3_refused ⟨Nat.le_of_ble_eq_true rfl, Nat.le_of_ble_eq_true rfl⟩) rfl hl.1 rfl rfl (lv_room (Nat.le_of_ble_eq_true rfl)) dX3_giveAll_11 hP hD hS (fun H locs hP hD hS => ?_)
    exact m_iret (pc := 14) hx hb hr hlk hP hD hS hf dX3_giveAll_14
theorem mX3_giveAll {S S2 : mS} {r2 : Int32} {l1 : Int32} (hf : fX3_giveAll l1 S = some (r2, S2)) : mMet l yX3_giveAll cX3_giveAll 3 (some .int) 6 136 D am cI cJ [.ref (am 0), .int l1] S (some (.int r2)) S2 := by
  exact m_start (by decide) rfl (Nat.le_of_ble_eq_true rfl) (fun p e s m args below meth c ls hc hl hP hD => wX3_giveAll_b0 hc l1 S _ _ ls hP hD va_S.rf (lv_sub hl [0, 1] rfl) hf)
end
section
variable {r : Unit} {Sf : mS}
def fX3_goes_b16 : Nat → Int32 → Int32 → Int32 → mS → Option (Unit × mS)
  | 0, _, _, _, _ => none
  | n + 1, l1, l3, l4, S =>
    if ((nI 26) * l3) ≤ l4 then
      bd2 (fX3_is l1 (nI 35) l3 S) fun _ S2 =>
      some ((), S2)
    else
      bd2 (fX3_of l1 (((nI 36) + l4) + (nI 26)) S) fun v3 S3 =>
      bd2 (fX3_is l1 ((nI 36) + l4) v3 S3) fun _ S4 =>
      fX3_goes_b16 n l1 l3 (l4 + (nI 1)) S4
theorem wX3_goes_b16 (hc : mC p s m args meth c D cI cJ cX3_goes 5 (none)) : ∀ (n : Nat) (l1 : Int32) (l3 : Int32) (l4 : Int32) (S : mS) (H : Heap) (locs : List Loc) (ls : Array Slot), va_P D mCl (mws am cI cJ S) H → va_D (mA am) (mws am cI cJ S) → va_S (mA am) s.heap H locs → lv_has ls 5 [(0, .ref (am 0)), (1, .int l1), (3, .int l3), (4, .int l4)] → fX3_goes_b16 n l1 l3 l4 S = some (r, Sf) → W p l e (mR 1 23) s m args below meth c H locs 0 0 (mQ below D am cI cJ none Sf args s) (F0 m 16 ls []) := by
  obtain ⟨hx, hb, hr, hlk, hml, hown, hts, hK⟩ := hc
  have hc : mC p s m args meth c D cI cJ cX3_goes 5 (none) := ⟨hx, hb, hr, hlk, hml, hown, hts, hK⟩
  intro n
  induction n with
  | zero => intro l1 l3 l4 S H locs ls _ _ _ _ hf; exact absurd hf (fun h => by cases h)
  | succ n ih =>
    intro l1 l3 l4 S H locs ls hP hD hS hl hf
    rw [fX3_goes_b16] at hf
    refine lv_iload (pc := 16) hx hb dX3_goes_16 (lv_at hl 3 rfl) ?_
    refine lv_bipush (pc := 18) (v := nI 26) hx hb dX3_goes_18 kcb26 ?_
    refine lv_iload_n (pc := 20) hx hb dX3_goes_20 rfl (lv_at hl 2 rfl) ?_
    refine lv_imul (pc := 21) hx hb dX3_goes_21 ?_
    refine lv_icmp_ge (pc := 22) (tgt := 54) hx hb dX3_goes_22 (by decide) (fun c1 => ?_) (fun c1 => ?_)
    · rw [if_pos c1] at hf
      refine lv_aload_n (pc := 54) hx hb dX3_goes_54 rfl (lv_at hl 0 rfl) ?_
      refine lv_iload_n (pc := 55) hx hb dX3_goes_55 rfl (lv_at hl 1 rfl) ?_
      refine lv_bipush (pc := 56) (v := nI 35) hx hb dX3_goes_56 kcb35 ?_
      refine lv_iload_n (pc := 58) hx hb dX3_goes_58 rfl (lv_at hl 2 rfl) ?_
      obtain ⟨v2, S2, e2, hf⟩ := bd2o hf
      refine m_callV (pc := 59) (As := [.int l1, .int (nI 35), .int l3]) (rest := []) (st1 := []) hc (mX3_is e2) (cwV 3 hts (lw_V q2933 q2935 qs55 q105 q2936) rfl rfl rfl hdX3_is ⟨Nat.le_of_ble_eq_true rfl, Nat.le_of_ble_eq_true rfl⟩) rfl hl.1 rfl rfl (lv_room (Nat.le_of_ble_eq_true rfl)) dX3_goes_59 hP hD hS (fun H locs hP hD hS => ?_)
      exact m_vret (pc := 62) hx hb hr hlk hP hD hS hf dX3_goes_62
    · rw [if_neg c1] at hf
      refine lv_aload_n (pc := 25) hx hb dX3_goes_25 rfl (lv_at hl 0 rfl) ?_
      refine lv_iload_n (pc := 26) hx hb dX3_goes_26 rfl (lv_at hl 1 rfl) ?_
      refine lv_bipush (pc := 27) (v := nI 36) hx hb dX3_goes_27 kcb36 ?_
      refine lv_iload (pc := 29) hx hb dX3_goes_29 (lv_at hl 3 rfl) ?_
      refine lv_iadd (pc := 31) hx hb dX3_goes_31 ?_
      refine lv_aload_n (pc := 32) hx hb dX3_goes_32 rfl (lv_at hl 0 rfl) ?_
      refine lv_iload_n (pc := 33) hx hb dX3_goes_33 rfl (lv_at hl 1 rfl) ?_
      refine lv_bipush (pc := 34) (v := nI 36) hx hb dX3_goes_34 kcb36 ?_
      refine lv_iload (pc := 36) hx hb dX3_goes_36 (lv_at hl 3 rfl) ?_
      refine lv_iadd (pc := 38) hx hb dX3_goes_38 ?_
      refine lv_bipush (pc := 39) (v := nI 26) hx hb dX3_goes_39 kcb26 ?_
      refine lv_iadd (pc := 41) hx hb dX3_goes_41 ?_
      obtain ⟨v3, S3, e3, hf⟩ := bd2o hf
      refine m_callV (pc := 42) (As := [.int l1, .int (((nI 36) + l4) + (nI 26))]) (rest := [.int ((nI 36) + l4), .int l1, .ref (am 0)]) (st1 := [.int v3, .int ((nI 36) + l4), .int l1, .ref (am 0)]) hc (mX3_of e3) (cwV 2 hts (lw_V q2949 q2951 qs58 q105 q2952) rfl rfl rfl hdX3_of ⟨Nat.le_of_ble_eq_true rfl, Nat.le_of_ble_eq_true rfl⟩) rfl hl.1 rfl rfl (lv_room (Nat.le_of_ble_eq_true rfl)) dX3_goes_42 hP hD hS (fun H locs hP hD hS => ?_)
      obtain ⟨v4, S4, e4, hf⟩ := bd2o hf
      refine m_callV (pc := 45) (As := [.int l1, .int ((nI 36) + l4), .int v3]) (rest := []) (st1 := []) hc (mX3_is e4) (cwV 3 hts (lw_V q2933 q2935 qs55 q105 q2936) rfl rfl rfl hdX3_is ⟨Nat.le_of_ble_eq_true rfl, Nat.le_of_ble_eq_true rfl⟩) rfl hl.1 rfl rfl (lv_room (Nat.le_of_ble_eq_true rfl)) dX3_goes_45 hP hD hS (fun H locs hP hD hS => ?_)
      refine lv_iinc (pc := 48) (v := l4 + (nI 1)) (lv' := [(4, .int (l4 + (nI 1))), (0, .ref (am 0)), (1, .int l1), (3, .int l3)]) hx hb dX3_goes_48 hl (k := 3) rfl rfl (by decide) rfl (fun ls hl => ?_)
      refine lv_goto (pc := 51) (tgt := 16) hx hb dX3_goes_51 (by decide) ?_
      exact ih l1 l3 (l4 + (nI 1)) S4 _ _ ls hP hD hS (lv_sub hl [1, 2, 3, 0] rfl) hf
def fX3_goes (l1 : Int32) (l2 : Int32) (S : mS) : Option (Unit × mS) :=
  bd2 (fX3_of l1 (nI 35) S) fun v1 S1 =>
  fX3_goes_b16 FU l1 (v1 - (nI 1)) ((nI 26) * l2) S1
theorem wX3_goes_b0 (hc : mC p s m args meth c D cI cJ cX3_goes 5 (none)) (l1 : Int32) (l2 : Int32) (S : mS) (H : Heap) (locs : List Loc) (ls : Array Slot) (hP : va_P D mCl (mws am cI cJ S) H) (hD : va_D (mA am) (mws am cI cJ S)) (hS : va_S (mA am) s.heap H locs) (hl : lv_has ls 5 [(0, .ref (am 0)), (1, .int l1), (2, .int l2)]) (hf : fX3_goes l1 l2 S = some (r, Sf)) : W p l e (mR 1 23) s m args below meth c H locs 0 0 (mQ below D am cI cJ none Sf args s) (F0 m 0 ls []) := by
  obtain ⟨hx, hb, hr, hlk, hml, hown, hts, hK⟩ := hc
  have hc : mC p s m args meth c D cI cJ cX3_goes 5 (none) := ⟨hx, hb, hr, hlk, hml, hown, hts, hK⟩
  unfold fX3_goes at hf
  refine lv_aload_n (pc := 0) hx hb dX3_goes_0 rfl (lv_at hl 0 rfl) ?_
  refine lv_iload_n (pc := 1) hx hb dX3_goes_1 rfl (lv_at hl 1 rfl) ?_
  refine lv_bipush (pc := 2) (v := nI 35) hx hb dX3_goes_2 kcb35 ?_
  obtain ⟨v1, S1, e1, hf⟩ := bd2o hf
  refine m_callV (pc := 4) (As := [.int l1, .int (nI 35)]) (rest := []) (st1 := [.int v1]) hc (mX3_of e1) (cwV 2 hts (lw_V q2949 q2951 qs58 q105 q2952) rfl rfl rfl hdX3_of ⟨Nat.le_of_ble_eq_true rfl, Nat.le_of_ble_eq_true rfl⟩) rfl hl.1 rfl rfl (lv_room (Nat.le_of_ble_eq_true rfl)) dX3_goes_4 hP hD hS (fun H locs hP hD hS => ?_)
  refine lv_iconst (pc := 7) (v := nI 1) hx hb dX3_goes_7 rfl ?_
  refine lv_isub (pc := 8) hx hb dX3_goes_8 ?_
  refine lv_istore_n (pc := 9) (lv' := [(3, .int (v1 - (nI 1))), (0, .ref (am 0)), (1, .int l1), (2, .int l2)]) hx hb dX3_goes_9 rfl hl (by decide) rfl (fun ls hl => ?_)
  refine lv_bipush (pc := 10) (v := nI 26) hx hb dX3_goes_10 kcb26 ?_
  refine lv_iload_n (pc := 12) hx hb dX3_goes_12 rfl (lv_at hl 3 rfl) ?_
  refine lv_imul (pc := 13) hx hb dX3_goes_13 ?_
  refine lv_istore (pc := 14) (lv' := [(4, .int ((nI 26) * l2)), (3, .int (v1 - (nI 1))), (0, .ref (am 0)), (1, .int l1), (2, .int l2)]) hx hb dX3_goes_14 hl (by decide) rfl (fun ls hl => ?_)
  exact wX3_goes_b16 hc FU l1 (v1 - (nI 1)) ((nI 26) * l2) S1 _ _ ls hP hD hS (lv_sub hl [2, 3, 1, 0] rfl) hf
theorem mX3_goes {S S2 : mS} {r2 : Unit} {l1 : Int32} {l2 : Int32} (hf : fX3_goes l1 l2 S = some (r2, S2)) : mMet l yX3_goes cX3_goes 5 (none) 1 23 D am cI cJ [.ref (am 0), .int l1, .int l2] S none S2 := by
  exact m_start (by decide) rfl (Nat.le_of_ble_eq_true rfl) (fun p e s m args below meth c ls hc hl hP hD => wX3_goes_b0 hc l1 l2 S _ _ ls hP hD va_S.rf (lv_sub hl [0, 1, 2] rfl) hf)
end
section
variable {r : Unit} {Sf : mS}
def fX3_credits (l1 : Int32) (S : mS) : Option (Unit × mS) :=
  bd2 (fX3_ofConsumer l1 (nI 1) S) fun v1 S1 =>
  bd (mwr S1 0 7919 (((nI 11) + ((nI 4) * l1)) + (nI 1)) (if (v1 + (nI 1)) < (nI 9) then (v1 + (nI 1)) else (nI 9))) fun S3 =>
  some ((), S3)
theorem wX3_credits_b0 (hc : mC p s m args meth c D cI cJ cX3_credits 2 (none)) (l1 : Int32) (S : mS) (H : Heap) (locs : List Loc) (ls : Array Slot) (hP : va_P D mCl (mws am cI cJ S) H) (hD : va_D (mA am) (mws am cI cJ S)) (hS : va_S (mA am) s.heap H locs) (hl : lv_has ls 2 [(0, .ref (am 0)), (1, .int l1)]) (hf : fX3_credits l1 S = some (r, Sf)) : W p l e (mR 1 22) s m args below meth c H locs 0 0 (mQ below D am cI cJ none Sf args s) (F0 m 0 ls []) := by
  obtain ⟨hx, hb, hr, hlk, hml, hown, hts, hK⟩ := hc
  have hc : mC p s m args meth c D cI cJ cX3_credits 2 (none) := ⟨hx, hb, hr, hlk, hml, hown, hts, hK⟩
  unfold fX3_credits at hf
  refine lv_aload_n (pc := 0) hx hb dX3_credits_0 rfl (lv_at hl 0 rfl) ?_
  refine va_get (D := D) (ci := 0) (v := .ref (am 1)) (C := RX3) (T := TX3) (N := 17) (pc := 1) hx hb hts in_X3 hown hK hP 0 rfl rfl 0 (by decide) (hts _ q2839) (fun _ h9 => h9) rfl dX3_credits_1 ?_
  refine lv_bipush (pc := 4) (v := nI 11) hx hb dX3_credits_4 kcb11 ?_
  refine lv_iconst (pc := 6) (v := nI 4) hx hb dX3_credits_6 rfl ?_
  refine lv_iload_n (pc := 7) hx hb dX3_credits_7 rfl (lv_at hl 1 rfl) ?_
  refine lv_imul (pc := 8) hx hb dX3_credits_8 ?_
  refine lv_iadd (pc := 9) hx hb dX3_credits_9 ?_
  refine lv_iconst (pc := 10) (v := nI 1) hx hb dX3_credits_10 rfl ?_
  refine lv_iadd (pc := 11) hx hb dX3_credits_11 ?_
  refine lv_bipush (pc := 12) (v := nI 9) hx hb dX3_credits_12 kcb9 ?_
  refine lv_aload_n (pc := 14) hx hb dX3_credits_14 rfl (lv_at hl 0 rfl) ?_
  refine lv_iload_n (pc := 15) hx hb dX3_credits_15 rfl (lv_at hl 1 rfl) ?_
  refine lv_iconst (pc := 16) (v := nI 1) hx hb dX3_credits_16 rfl ?_
  obtain ⟨v1, S1, e1, hf⟩ := bd2o hf
  refine m_callV (pc := 17) (As := [.int l1, .int (nI 1)]) (rest := [.int (nI 9), .int (((nI 11) + ((nI 4) * l1)) + (nI 1)), .ref (am 1)]) (st1 := [.int v1, .int (nI 9), .int (((nI 11) + ((nI 4) * l1)) + (nI 1)), .ref (am 1)]) hc (mX3_ofConsumer e1) (cwV 2 hts (lw_V q3035 q3037 qs75 q105 q3038) rfl rfl rfl hdX3_ofConsumer ⟨Nat.le_of_ble_eq_true rfl, Nat.le_of_ble_eq_true rfl⟩) rfl hl.1 rfl rfl (lv_room (Nat.le_of_ble_eq_true rfl)) dX3_credits_17 hP hD hS (fun H locs hP hD hS => ?_)
  refine lv_iconst (pc := 20) (v := nI 1) hx hb dX3_credits_20 rfl ?_
  refine lv_iadd (pc := 21) hx hb dX3_credits_21 ?_
  refine va_mmin (pc := 22) hx hb (hml.trans hl.1.symm) hown (hts _ q3063) (hts _ q683) (hts _ q121) (hts _ q684) (Nat.le_of_ble_eq_true rfl) (Nat.le_of_ble_eq_true rfl) (Nat.zero_le _) (Nat.zero_le _) dX3_credits_22 ?_
  obtain ⟨S3, e3, hf⟩ := bdo hf
  refine m_iast (pc := 25) (k := 0) hx hb hK hP hD hS rfl (fun _ _ => rfl) e3 dX3_credits_25 (fun H locs hP hD hS => ?_)
  exact m_vret (pc := 26) hx hb hr hlk hP hD hS hf dX3_credits_26
theorem mX3_credits {S S2 : mS} {r2 : Unit} {l1 : Int32} (hf : fX3_credits l1 S = some (r2, S2)) : mMet l yX3_credits cX3_credits 2 (none) 1 22 D am cI cJ [.ref (am 0), .int l1] S none S2 := by
  exact m_start (by decide) rfl (Nat.le_of_ble_eq_true rfl) (fun p e s m args below meth c ls hc hl hP hD => wX3_credits_b0 hc l1 S _ _ ls hP hD va_S.rf (lv_sub hl [0, 1] rfl) hf)
end
section
variable {r : Unit} {Sf : mS}
def fX3_acks (l1 : Int32) (l2 : Int32) (S : mS) : Option (Unit × mS) :=
  bd2 (fX3_ofConsumer l1 (nI 0) S) fun v1 S1 =>
  bd2 (fX3_goes v1 l2 S1) fun _ S2 =>
  bd2 (fX3_credits l1 S2) fun _ S3 =>
  bd2 (fX3_of v1 (nI 33) S3) fun v4 S4 =>
  bd2 (fX3_is v1 (nI 33) (v4 + (nI 1)) S4) fun _ S5 =>
  some ((), S5)
theorem wX3_acks_b0 (hc : mC p s m args meth c D cI cJ cX3_acks 4 (none)) (l1 : Int32) (l2 : Int32) (S : mS) (H : Heap) (locs : List Loc) (ls : Array Slot) (hP : va_P D mCl (mws am cI cJ S) H) (hD : va_D (mA am) (mws am cI cJ S)) (hS : va_S (mA am) s.heap H locs) (hl : lv_has ls 4 [(0, .ref (am 0)), (1, .int l1), (2, .int l2)]) (hf : fX3_acks l1 l2 S = some (r, Sf)) : W p l e (mR 2 47) s m args below meth c H locs 0 0 (mQ below D am cI cJ none Sf args s) (F0 m 0 ls []) := by
  obtain ⟨hx, hb, hr, hlk, hml, hown, hts, hK⟩ := hc
  have hc : mC p s m args meth c D cI cJ cX3_acks 4 (none) := ⟨hx, hb, hr, hlk, hml, hown, hts, hK⟩
  unfold fX3_acks at hf
  refine lv_aload_n (pc := 0) hx hb dX3_acks_0 rfl (lv_at hl 0 rfl) ?_
  refine lv_iload_n (pc := 1) hx hb dX3_acks_1 rfl (lv_at hl 1 rfl) ?_
  refine lv_iconst (pc := 2) (v := nI 0) hx hb dX3_acks_2 rfl ?_
  obtain ⟨v1, S1, e1, hf⟩ := bd2o hf
  refine m_callV (pc := 3) (As := [.int l1, .int (nI 0)]) (rest := []) (st1 := [.int v1]) hc (mX3_ofConsumer e1) (cwV 2 hts (lw_V q3035 q3037 qs75 q105 q3038) rfl rfl rfl hdX3_ofConsumer ⟨Nat.le_of_ble_eq_true rfl, Nat.le_of_ble_eq_true rfl⟩) rfl hl.1 rfl rfl (lv_room (Nat.le_of_ble_eq_true rfl)) dX3_acks_3 hP hD hS (fun H locs hP hD hS => ?_)
  refine lv_istore_n (pc := 6) (lv' := [(3, .int v1), (0, .ref (am 0)), (1, .int l1), (2, .int l2)]) hx hb dX3_acks_6 rfl hl (by decide) rfl (fun ls hl => ?_)
  refine lv_aload_n (pc := 7) hx hb dX3_acks_7 rfl (lv_at hl 1 rfl) ?_
  refine lv_iload_n (pc := 8) hx hb dX3_acks_8 rfl (lv_at hl 0 rfl) ?_
  refine lv_iload_n (pc := 9) hx hb dX3_acks_9 rfl (lv_at hl 3 rfl) ?_
  obtain ⟨v2, S2, e2, hf⟩ := bd2o hf
  refine m_callV (pc := 10) (As := [.int v1, .int l2]) (rest := []) (st1 := []) hc (mX3_goes e2) (cwV 2 hts (lw_V q3055 q3057 qs78 q105 q3058) rfl rfl rfl hdX3_goes ⟨Nat.le_of_ble_eq_true rfl, Nat.le_of_ble_eq_true rfl⟩) rfl hl.1 rfl rfl (lv_room (Nat.le_of_ble_eq_true rfl)) dX3_acks_10 hP hD hS (fun H locs hP hD hS => ?_)
  refine lv_aload_n (pc := 13) hx hb dX3_acks_13 rfl (lv_at hl 1 rfl) ?_
  refine lv_iload_n (pc := 14) hx hb dX3_acks_14 rfl (lv_at hl 2 rfl) ?_
  obtain ⟨v3, S3, e3, hf⟩ := bd2o hf
  refine m_callV (pc := 15) (As := [.int l1]) (rest := []) (st1 := []) hc (mX3_credits e3) (cwV 1 hts (lw_V q3059 q3061 qs79 q105 q3062) rfl rfl rfl hdX3_credits ⟨Nat.le_of_ble_eq_true rfl, Nat.le_of_ble_eq_true rfl⟩) rfl hl.1 rfl rfl (lv_room (Nat.le_of_ble_eq_true rfl)) dX3_acks_15 hP hD hS (fun H locs hP hD hS => ?_)
  refine lv_aload_n (pc := 18) hx hb dX3_acks_18 rfl (lv_at hl 1 rfl) ?_
  refine lv_iload_n (pc := 19) hx hb dX3_acks_19 rfl (lv_at hl 0 rfl) ?_
  refine lv_bipush (pc := 20) (v := nI 33) hx hb dX3_acks_20 kcb33 ?_
  refine lv_aload_n (pc := 22) hx hb dX3_acks_22 rfl (lv_at hl 1 rfl) ?_
  refine lv_iload_n (pc := 23) hx hb dX3_acks_23 rfl (lv_at hl 0 rfl) ?_
  refine lv_bipush (pc := 24) (v := nI 33) hx hb dX3_acks_24 kcb33 ?_
  obtain ⟨v4, S4, e4, hf⟩ := bd2o hf
  refine m_callV (pc := 26) (As := [.int v1, .int (nI 33)]) (rest := [.int (nI 33), .int v1, .ref (am 0)]) (st1 := [.int v4, .int (nI 33), .int v1, .ref (am 0)]) hc (mX3_of e4) (cwV 2 hts (lw_V q2949 q2951 qs58 q105 q2952) rfl rfl rfl hdX3_of ⟨Nat.le_of_ble_eq_true rfl, Nat.le_of_ble_eq_true rfl⟩) rfl hl.1 rfl rfl (lv_room (Nat.le_of_ble_eq_true rfl)) dX3_acks_26 hP hD hS (fun H locs hP hD hS => ?_)
  refine lv_iconst (pc := 29) (v := nI 1) hx hb dX3_acks_29 rfl ?_
  refine lv_iadd (pc := 30) hx hb dX3_acks_30 ?_
  obtain ⟨v5, S5, e5, hf⟩ := bd2o hf
  refine m_callV (pc := 31) (As := [.int v1, .int (nI 33), .int (v4 + (nI 1))]) (rest := []) (st1 := []) hc (mX3_is e5) (cwV 3 hts (lw_V q2933 q2935 qs55 q105 q2936) rfl rfl rfl hdX3_is ⟨Nat.le_of_ble_eq_true rfl, Nat.le_of_ble_eq_true rfl⟩) rfl hl.1 rfl rfl (lv_room (Nat.le_of_ble_eq_true rfl)) dX3_acks_31 hP hD hS (fun H locs hP hD hS => ?_)
  exact m_vret (pc := 34) hx hb hr hlk hP hD hS hf dX3_acks_34
theorem mX3_acks {S S2 : mS} {r2 : Unit} {l1 : Int32} {l2 : Int32} (hf : fX3_acks l1 l2 S = some (r2, S2)) : mMet l yX3_acks cX3_acks 4 (none) 2 47 D am cI cJ [.ref (am 0), .int l1, .int l2] S none S2 := by
  exact m_start (by decide) rfl (Nat.le_of_ble_eq_true rfl) (fun p e s m args below meth c ls hc hl hP hD => wX3_acks_b0 hc l1 l2 S _ _ ls hP hD va_S.rf (lv_sub hl [0, 1, 2] rfl) hf)
end
section
variable {r : Int32} {Sf : mS}
def fX3_outOf_b12 : Nat → Int32 → Int32 → Int32 → Int32 → mS → Option (Int32 × mS)
  | 0, _, _, _, _, _ => none
  | n + 1, l1, l2, l3, l4, S =>
    bd2 (fX3_of l2 (nI 35) S) fun v1 S1 =>
    if v1 ≤ l4 then
      some (l3, S1)
    else
      bd2 (fX3_letterOf l2 l4 (nI 3) S1) fun v3 S3 =>
      if v3 = l1 then
        fX3_outOf_b12 n l1 l2 (l3 + (nI 1)) (l4 + (nI 1)) S3
      else
        fX3_outOf_b12 n l1 l2 (l3 + (nI 0)) (l4 + (nI 1)) S3
theorem wX3_outOf_b12 (hc : mC p s m args meth c D cI cJ cX3_outOf 5 (some .int)) : ∀ (n : Nat) (l1 : Int32) (l2 : Int32) (l3 : Int32) (l4 : Int32) (S : mS) (H : Heap) (locs : List Loc) (ls : Array Slot), va_P D mCl (mws am cI cJ S) H → va_D (mA am) (mws am cI cJ S) → va_S (mA am) s.heap H locs → lv_has ls 5 [(0, .ref (am 0)), (1, .int l1), (2, .int l2), (3, .int l3), (4, .int l4)] → fX3_outOf_b12 n l1 l2 l3 l4 S = some (r, Sf) → W p l e (mR 2 45) s m args below meth c H locs 0 0 (mQ below D am cI cJ (some (.int r)) Sf args s) (F0 m 12 ls []) := by
  obtain ⟨hx, hb, hr, hlk, hml, hown, hts, hK⟩ := hc
  have hc : mC p s m args meth c D cI cJ cX3_outOf 5 (some .int) := ⟨hx, hb, hr, hlk, hml, hown, hts, hK⟩
  intro n
  induction n with
  | zero => intro l1 l2 l3 l4 S H locs ls _ _ _ _ hf; exact absurd hf (fun h => by cases h)
  | succ n ih =>
    intro l1 l2 l3 l4 S H locs ls hP hD hS hl hf
    rw [fX3_outOf_b12] at hf
    refine lv_iload (pc := 12) hx hb dX3_outOf_12 (lv_at hl 4 rfl) ?_
    refine lv_aload_n (pc := 14) hx hb dX3_outOf_14 rfl (lv_at hl 0 rfl) ?_
    refine lv_iload_n (pc := 15) hx hb dX3_outOf_15 rfl (lv_at hl 2 rfl) ?_
    refine lv_bipush (pc := 16) (v := nI 35) hx hb dX3_outOf_16 kcb35 ?_
    obtain ⟨v1, S1, e1, hf⟩ := bd2o hf
    refine m_callV (pc := 18) (As := [.int l2, .int (nI 35)]) (rest := [.int l4]) (st1 := [.int v1, .int l4]) hc (mX3_of e1) (cwV 2 hts (lw_V q2949 q2951 qs58 q105 q2952) rfl rfl rfl hdX3_of ⟨Nat.le_of_ble_eq_true rfl, Nat.le_of_ble_eq_true rfl⟩) rfl hl.1 rfl rfl (lv_room (Nat.le_of_ble_eq_true rfl)) dX3_outOf_18 hP hD hS (fun H locs hP hD hS => ?_)
    refine lv_icmp_ge (pc := 21) (tgt := 50) hx hb dX3_outOf_21 (by decide) (fun c2 => ?_) (fun c2 => ?_)
    · rw [if_pos c2] at hf
      refine lv_iload_n (pc := 50) hx hb dX3_outOf_50 rfl (lv_at hl 3 rfl) ?_
      exact m_iret (pc := 51) hx hb hr hlk hP hD hS hf dX3_outOf_51
    · rw [if_neg c2] at hf
      refine lv_iload_n (pc := 24) hx hb dX3_outOf_24 rfl (lv_at hl 3 rfl) ?_
      refine lv_aload_n (pc := 25) hx hb dX3_outOf_25 rfl (lv_at hl 0 rfl) ?_
      refine lv_iload_n (pc := 26) hx hb dX3_outOf_26 rfl (lv_at hl 2 rfl) ?_
      refine lv_iload (pc := 27) hx hb dX3_outOf_27 (lv_at hl 4 rfl) ?_
      refine lv_iconst (pc := 29) (v := nI 3) hx hb dX3_outOf_29 rfl ?_
      obtain ⟨v3, S3, e3, hf⟩ := bd2o hf
      refine m_callV (pc := 30) (As := [.int l2, .int l4, .int (nI 3)]) (rest := [.int l3]) (st1 := [.int v3, .int l3]) hc (mX3_letterOf e3) (cwV 3 hts (lw_V q2991 q2993 qs65 q105 q2994) rfl rfl rfl hdX3_letterOf ⟨Nat.le_of_ble_eq_true rfl, Nat.le_of_ble_eq_true rfl⟩) rfl hl.1 rfl rfl (lv_room (Nat.le_of_ble_eq_true rfl)) dX3_outOf_30 hP hD hS (fun H locs hP hD hS => ?_)
      refine lv_iload_n (pc := 33) hx hb dX3_outOf_33 rfl (lv_at hl 1 rfl) ?_
      refine lv_icmp_ne (pc := 34) (tgt := 41) hx hb dX3_outOf_34 (by decide) (fun c4 => ?_) (fun c4 => ?_)
      · rw [if_neg c4] at hf
        refine lv_iconst (pc := 41) (v := nI 0) hx hb dX3_outOf_41 rfl ?_
        refine lv_iadd (pc := 42) hx hb dX3_outOf_42 ?_
        refine lv_istore_n (pc := 43) (lv' := [(3, .int (l3 + (nI 0))), (0, .ref (am 0)), (1, .int l1), (2, .int l2), (4, .int l4)]) hx hb dX3_outOf_43 rfl hl (by decide) rfl (fun ls hl => ?_)
        refine lv_iinc (pc := 44) (v := l4 + (nI 1)) (lv' := [(4, .int (l4 + (nI 1))), (3, .int (l3 + (nI 0))), (0, .ref (am 0)), (1, .int l1), (2, .int l2)]) hx hb dX3_outOf_44 hl (k := 4) rfl rfl (by decide) rfl (fun ls hl => ?_)
        refine lv_goto (pc := 47) (tgt := 12) hx hb dX3_outOf_47 (by decide) ?_
        exact ih l1 l2 (l3 + (nI 0)) (l4 + (nI 1)) S3 _ _ ls hP hD hS (lv_sub hl [2, 3, 4, 1, 0] rfl) hf
      · rw [if_pos c4] at hf
        refine lv_iconst (pc := 37) (v := nI 1) hx hb dX3_outOf_37 rfl ?_
        refine lv_goto (pc := 38) (tgt := 42) hx hb dX3_outOf_38 (by decide) ?_
        refine lv_iadd (pc := 42) hx hb dX3_outOf_42 ?_
        refine lv_istore_n (pc := 43) (lv' := [(3, .int (l3 + (nI 1))), (0, .ref (am 0)), (1, .int l1), (2, .int l2), (4, .int l4)]) hx hb dX3_outOf_43 rfl hl (by decide) rfl (fun ls hl => ?_)
        refine lv_iinc (pc := 44) (v := l4 + (nI 1)) (lv' := [(4, .int (l4 + (nI 1))), (3, .int (l3 + (nI 1))), (0, .ref (am 0)), (1, .int l1), (2, .int l2)]) hx hb dX3_outOf_44 hl (k := 4) rfl rfl (by decide) rfl (fun ls hl => ?_)
        refine lv_goto (pc := 47) (tgt := 12) hx hb dX3_outOf_47 (by decide) ?_
        exact ih l1 l2 (l3 + (nI 1)) (l4 + (nI 1)) S3 _ _ ls hP hD hS (lv_sub hl [2, 3, 4, 1, 0] rfl) hf
def fX3_outOf (l1 : Int32) (S : mS) : Option (Int32 × mS) :=
  bd2 (fX3_ofConsumer l1 (nI 0) S) fun v1 S1 =>
  fX3_outOf_b12 FU l1 v1 (nI 0) (nI 0) S1
theorem wX3_outOf_b0 (hc : mC p s m args meth c D cI cJ cX3_outOf 5 (some .int)) (l1 : Int32) (S : mS) (H : Heap) (locs : List Loc) (ls : Array Slot) (hP : va_P D mCl (mws am cI cJ S) H) (hD : va_D (mA am) (mws am cI cJ S)) (hS : va_S (mA am) s.heap H locs) (hl : lv_has ls 5 [(0, .ref (am 0)), (1, .int l1)]) (hf : fX3_outOf l1 S = some (r, Sf)) : W p l e (mR 2 45) s m args below meth c H locs 0 0 (mQ below D am cI cJ (some (.int r)) Sf args s) (F0 m 0 ls []) := by
  obtain ⟨hx, hb, hr, hlk, hml, hown, hts, hK⟩ := hc
  have hc : mC p s m args meth c D cI cJ cX3_outOf 5 (some .int) := ⟨hx, hb, hr, hlk, hml, hown, hts, hK⟩
  unfold fX3_outOf at hf
  refine lv_aload_n (pc := 0) hx hb dX3_outOf_0 rfl (lv_at hl 0 rfl) ?_
  refine lv_iload_n (pc := 1) hx hb dX3_outOf_1 rfl (lv_at hl 1 rfl) ?_
  refine lv_iconst (pc := 2) (v := nI 0) hx hb dX3_outOf_2 rfl ?_
  obtain ⟨v1, S1, e1, hf⟩ := bd2o hf
  refine m_callV (pc := 3) (As := [.int l1, .int (nI 0)]) (rest := []) (st1 := [.int v1]) hc (mX3_ofConsumer e1) (cwV 2 hts (lw_V q3035 q3037 qs75 q105 q3038) rfl rfl rfl hdX3_ofConsumer ⟨Nat.le_of_ble_eq_true rfl, Nat.le_of_ble_eq_true rfl⟩) rfl hl.1 rfl rfl (lv_room (Nat.le_of_ble_eq_true rfl)) dX3_outOf_3 hP hD hS (fun H locs hP hD hS => ?_)
  refine lv_istore_n (pc := 6) (lv' := [(2, .int v1), (0, .ref (am 0)), (1, .int l1)]) hx hb dX3_outOf_6 rfl hl (by decide) rfl (fun ls hl => ?_)
  refine lv_iconst (pc := 7) (v := nI 0) hx hb dX3_outOf_7 rfl ?_
  refine lv_istore_n (pc := 8) (lv' := [(3, .int (nI 0)), (2, .int v1), (0, .ref (am 0)), (1, .int l1)]) hx hb dX3_outOf_8 rfl hl (by decide) rfl (fun ls hl => ?_)
  refine lv_iconst (pc := 9) (v := nI 0) hx hb dX3_outOf_9 rfl ?_
  refine lv_istore (pc := 10) (lv' := [(4, .int (nI 0)), (3, .int (nI 0)), (2, .int v1), (0, .ref (am 0)), (1, .int l1)]) hx hb dX3_outOf_10 hl (by decide) rfl (fun ls hl => ?_)
  exact wX3_outOf_b12 hc FU l1 v1 (nI 0) (nI 0) S1 _ _ ls hP hD hS (lv_sub hl [3, 4, 2, 1, 0] rfl) hf
theorem mX3_outOf {S S2 : mS} {r2 : Int32} {l1 : Int32} (hf : fX3_outOf l1 S = some (r2, S2)) : mMet l yX3_outOf cX3_outOf 5 (some .int) 2 45 D am cI cJ [.ref (am 0), .int l1] S (some (.int r2)) S2 := by
  exact m_start (by decide) rfl (Nat.le_of_ble_eq_true rfl) (fun p e s m args below meth c ls hc hl hP hD => wX3_outOf_b0 hc l1 S _ _ ls hP hD va_S.rf (lv_sub hl [0, 1] rfl) hf)
end
section
variable {r : Int32} {Sf : mS}
def fX3_ack_b21 (S : mS) : Option (Int32 × mS) :=
  bd2 (fX3_refused (-82) S) fun v1 S1 =>
  some (v1, S1)
theorem wX3_ack_b21 (hc : mC p s m args meth c D cI cJ cX3_ack 3 (some .int)) (S : mS) (H : Heap) (locs : List Loc) (ls : Array Slot) (hP : va_P D mCl (mws am cI cJ S) H) (hD : va_D (mA am) (mws am cI cJ S)) (hS : va_S (mA am) s.heap H locs) (hl : lv_has ls 3 [(0, .ref (am 0))]) (hf : fX3_ack_b21  S = some (r, Sf)) : W p l e (mR 3 70) s m args below meth c H locs 0 0 (mQ below D am cI cJ (some (.int r)) Sf args s) (F0 m 21 ls []) := by
  obtain ⟨hx, hb, hr, hlk, hml, hown, hts, hK⟩ := hc
  have hc : mC p s m args meth c D cI cJ cX3_ack 3 (some .int) := ⟨hx, hb, hr, hlk, hml, hown, hts, hK⟩
  unfold fX3_ack_b21 at hf
  refine lv_aload_n (pc := 21) hx hb dX3_ack_21 rfl (lv_at hl 0 rfl) ?_
  refine lv_bipush (pc := 22) (v := -82) hx hb dX3_ack_22 kcbm82 ?_
  obtain ⟨v1, S1, e1, hf⟩ := bd2o hf
  refine m_callV (pc := 24) (As := [.int (-82)]) (rest := []) (st1 := [.int v1]) hc (mX3_refused e1) (cwV 1 hts (lw_V q2899 q2901 qs51 q105 q2902) rfl rfl rfl hdX3_refused ⟨Nat.le_of_ble_eq_true rfl, Nat.le_of_ble_eq_true rfl⟩) rfl hl.1 rfl rfl (lv_room (Nat.le_of_ble_eq_true rfl)) dX3_ack_24 hP hD hS (fun H locs hP hD hS => ?_)
  exact m_iret (pc := 27) hx hb hr hlk hP hD hS hf dX3_ack_27
def fX3_ack (l1 : Int32) (l2 : Int32) (S : mS) : Option (Int32 × mS) :=
  bd2 (fX3_isHere l1 S) fun v1 S1 =>
  if v1 = 0 then
    fX3_ack_b21  S1
  else
    if l2 < 0 then
      fX3_ack_b21  S1
    else
      bd2 (fX3_outAt l1 l2 S1) fun v4 S4 =>
      if 0 ≤ v4 then
        bd2 (fX3_outAt l1 l2 S4) fun v6 S6 =>
        bd2 (fX3_acks l1 v6 S6) fun _ S7 =>
        bd2 (fX3_outOf l1 S7) fun v8 S8 =>
        some (v8, S8)
      else
        fX3_ack_b21  S4
theorem wX3_ack_b0 (hc : mC p s m args meth c D cI cJ cX3_ack 3 (some .int)) (l1 : Int32) (l2 : Int32) (S : mS) (H : Heap) (locs : List Loc) (ls : Array Slot) (hP : va_P D mCl (mws am cI cJ S) H) (hD : va_D (mA am) (mws am cI cJ S)) (hS : va_S (mA am) s.heap H locs) (hl : lv_has ls 3 [(0, .ref (am 0)), (1, .int l1), (2, .int l2)]) (hf : fX3_ack l1 l2 S = some (r, Sf)) : W p l e (mR 3 70) s m args below meth c H locs 0 0 (mQ below D am cI cJ (some (.int r)) Sf args s) (F0 m 0 ls []) := by
  obtain ⟨hx, hb, hr, hlk, hml, hown, hts, hK⟩ := hc
  have hc : mC p s m args meth c D cI cJ cX3_ack 3 (some .int) := ⟨hx, hb, hr, hlk, hml, hown, hts, hK⟩
  unfold fX3_ack at hf
  refine lv_aload_n (pc := 0) hx hb dX3_ack_0 rfl (lv_at hl 0 rfl) ?_
  refine lv_iload_n (pc := 1) hx hb dX3_ack_1 rfl (lv_at hl 1 rfl) ?_
  obtain ⟨v1, S1, e1, hf⟩ := bd2o hf
  refine m_callV (pc := 2) (As := [.int l1]) (rest := []) (st1 := [.int v1]) hc (mX3_isHere e1) (cwV 1 hts (lw_V q3027 q3029 qs73 q105 q3030) rfl rfl rfl hdX3_isHere ⟨Nat.le_of_ble_eq_true rfl, Nat.le_of_ble_eq_true rfl⟩) rfl hl.1 rfl rfl (lv_room (Nat.le_of_ble_eq_true rfl)) dX3_ack_2 hP hD hS (fun H locs hP hD hS => ?_)
  refine lv_if_eq (pc := 5) (tgt := 21) hx hb dX3_ack_5 (by decide) (fun c2 => ?_) (fun c2 => ?_)
  · rw [if_pos c2] at hf
    exact wX3_ack_b21 hc  S1 _ _ ls hP hD hS (lv_sub hl [0] rfl) hf
  · rw [if_neg c2] at hf
    refine lv_iload_n (pc := 8) hx hb dX3_ack_8 rfl (lv_at hl 2 rfl) ?_
    refine lv_if_lt (pc := 9) (tgt := 21) hx hb dX3_ack_9 (by decide) (fun c3 => ?_) (fun c3 => ?_)
    · rw [if_pos c3] at hf
      exact wX3_ack_b21 hc  S1 _ _ ls hP hD hS (lv_sub hl [0] rfl) hf
    · rw [if_neg c3] at hf
      refine lv_aload_n (pc := 12) hx hb dX3_ack_12 rfl (lv_at hl 0 rfl) ?_
      refine lv_iload_n (pc := 13) hx hb dX3_ack_13 rfl (lv_at hl 1 rfl) ?_
      refine lv_iload_n (pc := 14) hx hb dX3_ack_14 rfl (lv_at hl 2 rfl) ?_
      obtain ⟨v4, S4, e4, hf⟩ := bd2o hf
      refine m_callV (pc := 15) (As := [.int l1, .int l2]) (rest := []) (st1 := [.int v4]) hc (mX3_outAt e4) (cwV 2 hts (lw_V q3047 q3049 qs76 q105 q3050) rfl rfl rfl hdX3_outAt ⟨Nat.le_of_ble_eq_true rfl, Nat.le_of_ble_eq_true rfl⟩) rfl hl.1 rfl rfl (lv_room (Nat.le_of_ble_eq_true rfl)) dX3_ack_15 hP hD hS (fun H locs hP hD hS => ?_)
      refine lv_if_ge (pc := 18) (tgt := 28) hx hb dX3_ack_18 (by decide) (fun c5 => ?_) (fun c5 => ?_)
      · rw [if_pos c5] at hf
        refine lv_aload_n (pc := 28) hx hb dX3_ack_28 rfl (lv_at hl 0 rfl) ?_
        refine lv_iload_n (pc := 29) hx hb dX3_ack_29 rfl (lv_at hl 1 rfl) ?_
        refine lv_aload_n (pc := 30) hx hb dX3_ack_30 rfl (lv_at hl 0 rfl) ?_
        refine lv_iload_n (pc := 31) hx hb dX3_ack_31 rfl (lv_at hl 1 rfl) ?_
        refine lv_iload_n (pc := 32) hx hb dX3_ack_32 rfl (lv_at hl 2 rfl) ?_
        obtain ⟨v6, S6, e6, hf⟩ := bd2o hf
        refine m_callV (pc := 33) (As := [.int l1, .int l2]) (rest := [.int l1, .ref (am 0)]) (st1 := [.int v6, .int l1, .ref (am 0)]) hc (mX3_outAt e6) (cwV 2 hts (lw_V q3047 q3049 qs76 q105 q3050) rfl rfl rfl hdX3_outAt ⟨Nat.le_of_ble_eq_true rfl, Nat.le_of_ble_eq_true rfl⟩) rfl hl.1 rfl rfl (lv_room (Nat.le_of_ble_eq_true rfl)) dX3_ack_33 hP hD hS (fun H locs hP hD hS => ?_)
        obtain ⟨v7, S7, e7, hf⟩ := bd2o hf
        refine m_callV (pc := 36) (As := [.int l1, .int v6]) (rest := []) (st1 := []) hc (mX3_acks e7) (cwV 2 hts (lw_V q3051 q3053 qs77 q105 q3054) rfl rfl rfl hdX3_acks ⟨Nat.le_of_ble_eq_true rfl, Nat.le_of_ble_eq_true rfl⟩) rfl hl.1 rfl rfl (lv_room (Nat.le_of_ble_eq_true rfl)) dX3_ack_36 hP hD hS (fun H locs hP hD hS => ?_)
        refine lv_aload_n (pc := 39) hx hb dX3_ack_39 rfl (lv_at hl 0 rfl) ?_
        refine lv_iload_n (pc := 40) hx hb dX3_ack_40 rfl (lv_at hl 1 rfl) ?_
        obtain ⟨v8, S8, e8, hf⟩ := bd2o hf
        refine m_callV (pc := 41) (As := [.int l1]) (rest := []) (st1 := [.int v8]) hc (mX3_outOf e8) (cwV 1 hts (lw_V q3064 q3066 qs80 q105 q3067) rfl rfl rfl hdX3_outOf ⟨Nat.le_of_ble_eq_true rfl, Nat.le_of_ble_eq_true rfl⟩) rfl hl.1 rfl rfl (lv_room (Nat.le_of_ble_eq_true rfl)) dX3_ack_41 hP hD hS (fun H locs hP hD hS => ?_)
        exact m_iret (pc := 44) hx hb hr hlk hP hD hS hf dX3_ack_44
      · rw [if_neg c5] at hf
        exact wX3_ack_b21 hc  S4 _ _ ls hP hD hS (lv_sub hl [0] rfl) hf
theorem mX3_ack {S S2 : mS} {r2 : Int32} {l1 : Int32} {l2 : Int32} (hf : fX3_ack l1 l2 S = some (r2, S2)) : mMet l yX3_ack cX3_ack 3 (some .int) 3 70 D am cI cJ [.ref (am 0), .int l1, .int l2] S (some (.int r2)) S2 := by
  exact m_start (by decide) rfl (Nat.le_of_ble_eq_true rfl) (fun p e s m args below meth c ls hc hl hP hD => wX3_ack_b0 hc l1 l2 S _ _ ls hP hD va_S.rf (lv_sub hl [0, 1, 2] rfl) hf)
end
section
variable {r : Unit} {Sf : mS}
def fX3_dies_b56 : Nat → Int32 → Int32 → Int32 → Int32 → Int32 → Int32 → mS → Option (Unit × mS)
  | 0, _, _, _, _, _, _, _ => none
  | n + 1, l1, l2, l5, l6, l7, l8, S =>
    if ((nI 4) * l6) ≤ l8 then
      bd (mwr S 0 7919 (l5 + (nI 3)) (l6 + l7)) fun S2 =>
      bd2 (fX3_goes l1 l2 S2) fun _ S3 =>
      some ((), S3)
    else
      bd2 (fX3_letterOf l1 l2 ((nI 6) + l8) S) fun v4 S4 =>
      bd (mwr S4 0 7919 (((l5 + (nI 4)) + ((nI 4) * l7)) + l8) v4) fun S5 =>
      fX3_dies_b56 n l1 l2 l5 l6 l7 (l8 + (nI 1)) S5
theorem wX3_dies_b56 (hc : mC p s m args meth c D cI cJ cX3_dies 9 (none)) : ∀ (n : Nat) (l1 : Int32) (l2 : Int32) (l5 : Int32) (l6 : Int32) (l7 : Int32) (l8 : Int32) (S : mS) (H : Heap) (locs : List Loc) (ls : Array Slot), va_P D mCl (mws am cI cJ S) H → va_D (mA am) (mws am cI cJ S) → va_S (mA am) s.heap H locs → lv_has ls 9 [(0, .ref (am 0)), (1, .int l1), (2, .int l2), (5, .int l5), (6, .int l6), (7, .int l7), (8, .int l8)] → fX3_dies_b56 n l1 l2 l5 l6 l7 l8 S = some (r, Sf) → W p l e (mR 2 47) s m args below meth c H locs 0 0 (mQ below D am cI cJ none Sf args s) (F0 m 56 ls []) := by
  obtain ⟨hx, hb, hr, hlk, hml, hown, hts, hK⟩ := hc
  have hc : mC p s m args meth c D cI cJ cX3_dies 9 (none) := ⟨hx, hb, hr, hlk, hml, hown, hts, hK⟩
  intro n
  induction n with
  | zero => intro l1 l2 l5 l6 l7 l8 S H locs ls _ _ _ _ hf; exact absurd hf (fun h => by cases h)
  | succ n ih =>
    intro l1 l2 l5 l6 l7 l8 S H locs ls hP hD hS hl hf
    rw [fX3_dies_b56] at hf
    refine lv_iload (pc := 56) hx hb dX3_dies_56 (lv_at hl 6 rfl) ?_
    refine lv_iconst (pc := 58) (v := nI 4) hx hb dX3_dies_58 rfl ?_
    refine lv_iload (pc := 59) hx hb dX3_dies_59 (lv_at hl 4 rfl) ?_
    refine lv_imul (pc := 61) hx hb dX3_dies_61 ?_
    refine lv_icmp_ge (pc := 62) (tgt := 99) hx hb dX3_dies_62 (by decide) (fun c1 => ?_) (fun c1 => ?_)
    · rw [if_pos c1] at hf
      refine lv_aload_n (pc := 99) hx hb dX3_dies_99 rfl (lv_at hl 0 rfl) ?_
      refine va_get (D := D) (ci := 0) (v := .ref (am 1)) (C := RX3) (T := TX3) (N := 17) (pc := 100) hx hb hts in_X3 hown hK hP 0 rfl rfl 0 (by decide) (hts _ q2839) (fun _ h9 => h9) rfl dX3_dies_100 ?_
      refine lv_iload (pc := 103) hx hb dX3_dies_103 (lv_at hl 3 rfl) ?_
      refine lv_iconst (pc := 105) (v := nI 3) hx hb dX3_dies_105 rfl ?_
      refine lv_iadd (pc := 106) hx hb dX3_dies_106 ?_
      refine lv_iload (pc := 107) hx hb dX3_dies_107 (lv_at hl 4 rfl) ?_
      refine lv_iload (pc := 109) hx hb dX3_dies_109 (lv_at hl 5 rfl) ?_
      refine lv_iadd (pc := 111) hx hb dX3_dies_111 ?_
      obtain ⟨S2, e2, hf⟩ := bdo hf
      refine m_iast (pc := 112) (k := 0) hx hb hK hP hD hS rfl (fun _ _ => rfl) e2 dX3_dies_112 (fun H locs hP hD hS => ?_)
      refine lv_aload_n (pc := 113) hx hb dX3_dies_113 rfl (lv_at hl 0 rfl) ?_
      refine lv_iload_n (pc := 114) hx hb dX3_dies_114 rfl (lv_at hl 1 rfl) ?_
      refine lv_iload_n (pc := 115) hx hb dX3_dies_115 rfl (lv_at hl 2 rfl) ?_
      obtain ⟨v3, S3, e3, hf⟩ := bd2o hf
      refine m_callV (pc := 116) (As := [.int l1, .int l2]) (rest := []) (st1 := []) hc (mX3_goes e3) (cwV 2 hts (lw_V q3055 q3057 qs78 q105 q3058) rfl rfl rfl hdX3_goes ⟨Nat.le_of_ble_eq_true rfl, Nat.le_of_ble_eq_true rfl⟩) rfl hl.1 rfl rfl (lv_room (Nat.le_of_ble_eq_true rfl)) dX3_dies_116 hP hD hS (fun H locs hP hD hS => ?_)
      exact m_vret (pc := 119) hx hb hr hlk hP hD hS hf dX3_dies_119
    · rw [if_neg c1] at hf
      refine lv_aload_n (pc := 65) hx hb dX3_dies_65 rfl (lv_at hl 0 rfl) ?_
      refine va_get (D := D) (ci := 0) (v := .ref (am 1)) (C := RX3) (T := TX3) (N := 17) (pc := 66) hx hb hts in_X3 hown hK hP 0 rfl rfl 0 (by decide) (hts _ q2839) (fun _ h9 => h9) rfl dX3_dies_66 ?_
      refine lv_iload (pc := 69) hx hb dX3_dies_69 (lv_at hl 3 rfl) ?_
      refine lv_iconst (pc := 71) (v := nI 4) hx hb dX3_dies_71 rfl ?_
      refine lv_iadd (pc := 72) hx hb dX3_dies_72 ?_
      refine lv_iconst (pc := 73) (v := nI 4) hx hb dX3_dies_73 rfl ?_
      refine lv_iload (pc := 74) hx hb dX3_dies_74 (lv_at hl 5 rfl) ?_
      refine lv_imul (pc := 76) hx hb dX3_dies_76 ?_
      refine lv_iadd (pc := 77) hx hb dX3_dies_77 ?_
      refine lv_iload (pc := 78) hx hb dX3_dies_78 (lv_at hl 6 rfl) ?_
      refine lv_iadd (pc := 80) hx hb dX3_dies_80 ?_
      refine lv_aload_n (pc := 81) hx hb dX3_dies_81 rfl (lv_at hl 0 rfl) ?_
      refine lv_iload_n (pc := 82) hx hb dX3_dies_82 rfl (lv_at hl 1 rfl) ?_
      refine lv_iload_n (pc := 83) hx hb dX3_dies_83 rfl (lv_at hl 2 rfl) ?_
      refine lv_bipush (pc := 84) (v := nI 6) hx hb dX3_dies_84 kcb6 ?_
      refine lv_iload (pc := 86) hx hb dX3_dies_86 (lv_at hl 6 rfl) ?_
      refine lv_iadd (pc := 88) hx hb dX3_dies_88 ?_
      obtain ⟨v4, S4, e4, hf⟩ := bd2o hf
      refine m_callV (pc := 89) (As := [.int l1, .int l2, .int ((nI 6) + l8)]) (rest := [.int (((l5 + (nI 4)) + ((nI 4) * l7)) + l8), .ref (am 1)]) (st1 := [.int v4, .int (((l5 + (nI 4)) + ((nI 4) * l7)) + l8), .ref (am 1)]) hc (mX3_letterOf e4) (cwV 3 hts (lw_V q2991 q2993 qs65 q105 q2994) rfl rfl rfl hdX3_letterOf ⟨Nat.le_of_ble_eq_true rfl, Nat.le_of_ble_eq_true rfl⟩) rfl hl.1 rfl rfl (lv_room (Nat.le_of_ble_eq_true rfl)) dX3_dies_89 hP hD hS (fun H locs hP hD hS => ?_)
      obtain ⟨S5, e5, hf⟩ := bdo hf
      refine m_iast (pc := 92) (k := 0) hx hb hK hP hD hS rfl (fun _ _ => rfl) e5 dX3_dies_92 (fun H locs hP hD hS => ?_)
      refine lv_iinc (pc := 93) (v := l8 + (nI 1)) (lv' := [(8, .int (l8 + (nI 1))), (0, .ref (am 0)), (1, .int l1), (2, .int l2), (5, .int l5), (6, .int l6), (7, .int l7)]) hx hb dX3_dies_93 hl (k := 6) rfl rfl (by decide) rfl (fun ls hl => ?_)
      refine lv_goto (pc := 96) (tgt := 56) hx hb dX3_dies_96 (by decide) ?_
      exact ih l1 l2 l5 l6 l7 (l8 + (nI 1)) S5 _ _ ls hP hD hS (lv_sub hl [1, 2, 3, 4, 5, 6, 0] rfl) hf
def fX3_dies_b53 (l1 : Int32) (l2 : Int32) (l5 : Int32) (l6 : Int32) (l7 : Int32) (S : mS) : Option (Unit × mS) :=
  fX3_dies_b56 FU l1 l2 l5 l6 l7 (nI 0) S
theorem wX3_dies_b53 (hc : mC p s m args meth c D cI cJ cX3_dies 9 (none)) (l1 : Int32) (l2 : Int32) (l5 : Int32) (l6 : Int32) (l7 : Int32) (S : mS) (H : Heap) (locs : List Loc) (ls : Array Slot) (hP : va_P D mCl (mws am cI cJ S) H) (hD : va_D (mA am) (mws am cI cJ S)) (hS : va_S (mA am) s.heap H locs) (hl : lv_has ls 9 [(0, .ref (am 0)), (1, .int l1), (2, .int l2), (5, .int l5), (6, .int l6), (7, .int l7)]) (hf : fX3_dies_b53 l1 l2 l5 l6 l7 S = some (r, Sf)) : W p l e (mR 2 47) s m args below meth c H locs 0 0 (mQ below D am cI cJ none Sf args s) (F0 m 53 ls []) := by
  obtain ⟨hx, hb, hr, hlk, hml, hown, hts, hK⟩ := hc
  have hc : mC p s m args meth c D cI cJ cX3_dies 9 (none) := ⟨hx, hb, hr, hlk, hml, hown, hts, hK⟩
  unfold fX3_dies_b53 at hf
  refine lv_iconst (pc := 53) (v := nI 0) hx hb dX3_dies_53 rfl ?_
  refine lv_istore (pc := 54) (lv' := [(8, .int (nI 0)), (0, .ref (am 0)), (1, .int l1), (2, .int l2), (5, .int l5), (6, .int l6), (7, .int l7)]) hx hb dX3_dies_54 hl (by decide) rfl (fun ls hl => ?_)
  exact wX3_dies_b56 hc FU l1 l2 l5 l6 l7 (nI 0) S _ _ ls hP hD hS (lv_sub hl [1, 2, 3, 4, 5, 6, 0] rfl) hf
def fX3_dies_b32 (l1 : Int32) (l2 : Int32) (l3 : Int32) (l4 : Int32) (l5 : Int32) (l6 : Int32) (t0 : Int32) (S : mS) : Option (Unit × mS) :=
  if t0 = (nI 1) then
    bd2 (fX3_ahead (l5 + (nI 4)) l6 l3 l4 S) fun _ S2 =>
    fX3_dies_b53 l1 l2 l5 l6 t0 S2
  else
    fX3_dies_b53 l1 l2 l5 l6 t0 S
theorem wX3_dies_b32 (hc : mC p s m args meth c D cI cJ cX3_dies 9 (none)) (l1 : Int32) (l2 : Int32) (l3 : Int32) (l4 : Int32) (l5 : Int32) (l6 : Int32) (t0 : Int32) (S : mS) (H : Heap) (locs : List Loc) (ls : Array Slot) (hP : va_P D mCl (mws am cI cJ S) H) (hD : va_D (mA am) (mws am cI cJ S)) (hS : va_S (mA am) s.heap H locs) (hl : lv_has ls 9 [(0, .ref (am 0)), (1, .int l1), (2, .int l2), (3, .int l3), (4, .int l4), (5, .int l5), (6, .int l6)]) (hf : fX3_dies_b32 l1 l2 l3 l4 l5 l6 t0 S = some (r, Sf)) : W p l e (mR 2 47) s m args below meth c H locs 0 0 (mQ below D am cI cJ none Sf args s) (F0 m 32 ls [.int t0]) := by
  obtain ⟨hx, hb, hr, hlk, hml, hown, hts, hK⟩ := hc
  have hc : mC p s m args meth c D cI cJ cX3_dies 9 (none) := ⟨hx, hb, hr, hlk, hml, hown, hts, hK⟩
  unfold fX3_dies_b32 at hf
  refine lv_istore (pc := 32) (lv' := [(7, .int t0), (0, .ref (am 0)), (1, .int l1), (2, .int l2), (3, .int l3), (4, .int l4), (5, .int l5), (6, .int l6)]) hx hb dX3_dies_32 hl (by decide) rfl (fun ls hl => ?_)
  refine lv_iload (pc := 34) hx hb dX3_dies_34 (lv_at hl 0 rfl) ?_
  refine lv_iconst (pc := 36) (v := nI 1) hx hb dX3_dies_36 rfl ?_
  refine lv_icmp_ne (pc := 37) (tgt := 53) hx hb dX3_dies_37 (by decide) (fun c1 => ?_) (fun c1 => ?_)
  · rw [if_neg c1] at hf
    exact wX3_dies_b53 hc l1 l2 l5 l6 t0 S _ _ ls hP hD hS (lv_sub hl [1, 2, 3, 6, 7, 0] rfl) hf
  · rw [if_pos c1] at hf
    refine lv_aload_n (pc := 40) hx hb dX3_dies_40 rfl (lv_at hl 1 rfl) ?_
    refine lv_iload (pc := 41) hx hb dX3_dies_41 (lv_at hl 6 rfl) ?_
    refine lv_iconst (pc := 43) (v := nI 4) hx hb dX3_dies_43 rfl ?_
    refine lv_iadd (pc := 44) hx hb dX3_dies_44 ?_
    refine lv_iload (pc := 45) hx hb dX3_dies_45 (lv_at hl 7 rfl) ?_
    refine lv_iload_n (pc := 47) hx hb dX3_dies_47 rfl (lv_at hl 4 rfl) ?_
    refine lv_iload (pc := 48) hx hb dX3_dies_48 (lv_at hl 5 rfl) ?_
    obtain ⟨v2, S2, e2, hf⟩ := bd2o hf
    refine m_callV (pc := 50) (As := [.int (l5 + (nI 4)), .int l6, .int l3, .int l4]) (rest := []) (st1 := []) hc (mX3_ahead e2) (cwV 4 hts (lw_V q2983 q2985 qs63 q105 q2986) rfl rfl rfl hdX3_ahead ⟨Nat.le_of_ble_eq_true rfl, Nat.le_of_ble_eq_true rfl⟩) rfl hl.1 rfl rfl (lv_room (Nat.le_of_ble_eq_true rfl)) dX3_dies_50 hP hD hS (fun H locs hP hD hS => ?_)
    exact wX3_dies_b53 hc l1 l2 l5 l6 t0 S2 _ _ ls hP hD hS (lv_sub hl [1, 2, 3, 6, 7, 0] rfl) hf
def fX3_dies (l1 : Int32) (l2 : Int32) (l3 : Int32) (l4 : Int32) (S : mS) : Option (Unit × mS) :=
  bd2 (fX3_letterOf l1 l2 (nI 0) S) fun v1 S1 =>
  bd2 (fX3_newDead l1 v1 S1) fun v2 S2 =>
  bd2 (fX3_letterOf l1 l2 (nI 5) S2) fun v3 S3 =>
  if l3 ≤ 0 then
    fX3_dies_b32 l1 l2 l3 l4 v2 v3 (nI 0) S3
  else
    fX3_dies_b32 l1 l2 l3 l4 v2 v3 (nI 1) S3
theorem wX3_dies_b0 (hc : mC p s m args meth c D cI cJ cX3_dies 9 (none)) (l1 : Int32) (l2 : Int32) (l3 : Int32) (l4 : Int32) (S : mS) (H : Heap) (locs : List Loc) (ls : Array Slot) (hP : va_P D mCl (mws am cI cJ S) H) (hD : va_D (mA am) (mws am cI cJ S)) (hS : va_S (mA am) s.heap H locs) (hl : lv_has ls 9 [(0, .ref (am 0)), (1, .int l1), (2, .int l2), (3, .int l3), (4, .int l4)]) (hf : fX3_dies l1 l2 l3 l4 S = some (r, Sf)) : W p l e (mR 2 47) s m args below meth c H locs 0 0 (mQ below D am cI cJ none Sf args s) (F0 m 0 ls []) := by
  obtain ⟨hx, hb, hr, hlk, hml, hown, hts, hK⟩ := hc
  have hc : mC p s m args meth c D cI cJ cX3_dies 9 (none) := ⟨hx, hb, hr, hlk, hml, hown, hts, hK⟩
  unfold fX3_dies at hf
  refine lv_aload_n (pc := 0) hx hb dX3_dies_0 rfl (lv_at hl 0 rfl) ?_
  refine lv_iload_n (pc := 1) hx hb dX3_dies_1 rfl (lv_at hl 1 rfl) ?_
  refine lv_aload_n (pc := 2) hx hb dX3_dies_2 rfl (lv_at hl 0 rfl) ?_
  refine lv_iload_n (pc := 3) hx hb dX3_dies_3 rfl (lv_at hl 1 rfl) ?_
  refine lv_iload_n (pc := 4) hx hb dX3_dies_4 rfl (lv_at hl 2 rfl) ?_
  refine lv_iconst (pc := 5) (v := nI 0) hx hb dX3_dies_5 rfl ?_
  obtain ⟨v1, S1, e1, hf⟩ := bd2o hf
  refine m_callV (pc := 6) (As := [.int l1, .int l2, .int (nI 0)]) (rest := [.int l1, .ref (am 0)]) (st1 := [.int v1, .int l1, .ref (am 0)]) hc (mX3_letterOf e1) (cwV 3 hts (lw_V q2991 q2993 qs65 q105 q2994) rfl rfl rfl hdX3_letterOf ⟨Nat.le_of_ble_eq_true rfl, Nat.le_of_ble_eq_true rfl⟩) rfl hl.1 rfl rfl (lv_room (Nat.le_of_ble_eq_true rfl)) dX3_dies_6 hP hD hS (fun H locs hP hD hS => ?_)
  obtain ⟨v2, S2, e2, hf⟩ := bd2o hf
  refine m_callV (pc := 9) (As := [.int l1, .int v1]) (rest := []) (st1 := [.int v2]) hc (mX3_newDead e2) (cwV 2 hts (lw_V q2979 q2981 qs62 q105 q2982) rfl rfl rfl hdX3_newDead ⟨Nat.le_of_ble_eq_true rfl, Nat.le_of_ble_eq_true rfl⟩) rfl hl.1 rfl rfl (lv_room (Nat.le_of_ble_eq_true rfl)) dX3_dies_9 hP hD hS (fun H locs hP hD hS => ?_)
  refine lv_istore (pc := 12) (lv' := [(5, .int v2), (0, .ref (am 0)), (1, .int l1), (2, .int l2), (3, .int l3), (4, .int l4)]) hx hb dX3_dies_12 hl (by decide) rfl (fun ls hl => ?_)
  refine lv_aload_n (pc := 14) hx hb dX3_dies_14 rfl (lv_at hl 1 rfl) ?_
  refine lv_iload_n (pc := 15) hx hb dX3_dies_15 rfl (lv_at hl 2 rfl) ?_
  refine lv_iload_n (pc := 16) hx hb dX3_dies_16 rfl (lv_at hl 3 rfl) ?_
  refine lv_iconst (pc := 17) (v := nI 5) hx hb dX3_dies_17 rfl ?_
  obtain ⟨v3, S3, e3, hf⟩ := bd2o hf
  refine m_callV (pc := 18) (As := [.int l1, .int l2, .int (nI 5)]) (rest := []) (st1 := [.int v3]) hc (mX3_letterOf e3) (cwV 3 hts (lw_V q2991 q2993 qs65 q105 q2994) rfl rfl rfl hdX3_letterOf ⟨Nat.le_of_ble_eq_true rfl, Nat.le_of_ble_eq_true rfl⟩) rfl hl.1 rfl rfl (lv_room (Nat.le_of_ble_eq_true rfl)) dX3_dies_18 hP hD hS (fun H locs hP hD hS => ?_)
  refine lv_istore (pc := 21) (lv' := [(6, .int v3), (5, .int v2), (0, .ref (am 0)), (1, .int l1), (2, .int l2), (3, .int l3), (4, .int l4)]) hx hb dX3_dies_21 hl (by decide) rfl (fun ls hl => ?_)
  refine lv_iload_n (pc := 23) hx hb dX3_dies_23 rfl (lv_at hl 5 rfl) ?_
  refine lv_if_le (pc := 24) (tgt := 31) hx hb dX3_dies_24 (by decide) (fun c4 => ?_) (fun c4 => ?_)
  · rw [if_pos c4] at hf
    refine lv_iconst (pc := 31) (v := nI 0) hx hb dX3_dies_31 rfl ?_
    exact wX3_dies_b32 hc l1 l2 l3 l4 v2 v3 (nI 0) S3 _ _ ls hP hD hS (lv_sub hl [2, 3, 4, 5, 6, 1, 0] rfl) hf
  · rw [if_neg c4] at hf
    refine lv_iconst (pc := 27) (v := nI 1) hx hb dX3_dies_27 rfl ?_
    refine lv_goto (pc := 28) (tgt := 32) hx hb dX3_dies_28 (by decide) ?_
    exact wX3_dies_b32 hc l1 l2 l3 l4 v2 v3 (nI 1) S3 _ _ ls hP hD hS (lv_sub hl [2, 3, 4, 5, 6, 1, 0] rfl) hf
theorem mX3_dies {S S2 : mS} {r2 : Unit} {l1 : Int32} {l2 : Int32} {l3 : Int32} {l4 : Int32} (hf : fX3_dies l1 l2 l3 l4 S = some (r2, S2)) : mMet l yX3_dies cX3_dies 9 (none) 2 47 D am cI cJ [.ref (am 0), .int l1, .int l2, .int l3, .int l4] S none S2 := by
  exact m_start (by decide) rfl (Nat.le_of_ble_eq_true rfl) (fun p e s m args below meth c ls hc hl hP hD => wX3_dies_b0 hc l1 l2 l3 l4 S _ _ ls hP hD va_S.rf (lv_sub hl [0, 1, 2, 3, 4] rfl) hf)
end
section
variable {r : Int32} {Sf : mS}
def fX3_fails_b28 : Nat → Int32 → Int32 → Int32 → Int32 → Int32 → Int32 → Int32 → mS → Option (Int32 × mS)
  | 0, _, _, _, _, _, _, _, _ => none
  | n + 1, l1, l2, l3, l4, l5, l6, l7, S =>
    if l7 < 0 then
      bd2 (fX3_ahead (((((nI 3471) + ((nI 556) * l1)) + (nI 36)) + ((nI 26) * l2)) + (nI 6)) l5 l3 l4 S) fun _ S2 =>
      bd2 (fX3_letterIs l1 l2 (nI 5) (l6 + (nI 1)) S2) fun _ S3 =>
      bd2 (fX3_letterIs l1 l2 (nI 2) l5 S3) fun _ S4 =>
      bd2 (fX3_letterIs l1 l2 (nI 3) (-1) S4) fun _ S5 =>
      bd (mrd S5 0 7919 (nI 4)) fun v6 =>
      bd (mrd S5 4 6 l5) fun v7 =>
      bd2 (fX3_letterIs l1 l2 (nI 4) (v6 + v7) S5) fun _ S8 =>
      bd2 (fX3_letterIs l1 l2 (nI 1) (nI 1) S8) fun _ S9 =>
      bd2 (fX3_of l1 (nI 27) S9) fun v10 S10 =>
      if l5 = v10 then
        bd2 (fX3_dies l1 l2 (nI 0) (nI 0) S10) fun _ S12 =>
        zr (nI 1) S12
      else
        zr (nI 0) S10
    else
      bd2 (fX3_letterOf l1 l2 ((nI 6) + l7) S) fun v13 S13 =>
      bd2 (fX3_letterIs l1 l2 ((nI 10) + l7) v13 S13) fun _ S14 =>
      fX3_fails_b28 n l1 l2 l3 l4 l5 l6 (l7 + (-1)) S14
theorem wX3_fails_b28 (hc : mC p s m args meth c D cI cJ cX3_fails 8 (some .boolean)) : ∀ (n : Nat) (l1 : Int32) (l2 : Int32) (l3 : Int32) (l4 : Int32) (l5 : Int32) (l6 : Int32) (l7 : Int32) (S : mS) (H : Heap) (locs : List Loc) (ls : Array Slot), va_P D mCl (mws am cI cJ S) H → va_D (mA am) (mws am cI cJ S) → va_S (mA am) s.heap H locs → lv_has ls 8 [(0, .ref (am 0)), (1, .int l1), (2, .int l2), (3, .int l3), (4, .int l4), (5, .int l5), (6, .int l6), (7, .int l7)] → fX3_fails_b28 n l1 l2 l3 l4 l5 l6 l7 S = some (r, Sf) → W p l e (mR 3 75) s m args below meth c H locs 0 0 (mQ below D am cI cJ (some (.int r)) Sf args s) (F0 m 28 ls []) := by
  obtain ⟨hx, hb, hr, hlk, hml, hown, hts, hK⟩ := hc
  have hc : mC p s m args meth c D cI cJ cX3_fails 8 (some .boolean) := ⟨hx, hb, hr, hlk, hml, hown, hts, hK⟩
  intro n
  induction n with
  | zero => intro l1 l2 l3 l4 l5 l6 l7 S H locs ls _ _ _ _ hf; exact absurd hf (fun h => by cases h)
  | succ n ih =>
    intro l1 l2 l3 l4 l5 l6 l7 S H locs ls hP hD hS hl hf
    rw [fX3_fails_b28] at hf
    refine lv_iload (pc := 28) hx hb dX3_fails_28 (lv_at hl 7 rfl) ?_
    refine lv_if_lt (pc := 30) (tgt := 61) hx hb dX3_fails_30 (by decide) (fun c1 => ?_) (fun c1 => ?_)
    · rw [if_pos c1] at hf
      refine lv_aload_n (pc := 61) hx hb dX3_fails_61 rfl (lv_at hl 0 rfl) ?_
      refine lv_sipush (pc := 62) (v := nI 3471) hx hb dX3_fails_62 kcs3471 ?_
      refine lv_sipush (pc := 65) (v := nI 556) hx hb dX3_fails_65 kcs556 ?_
      refine lv_iload_n (pc := 68) hx hb dX3_fails_68 rfl (lv_at hl 1 rfl) ?_
      refine lv_imul (pc := 69) hx hb dX3_fails_69 ?_
      refine lv_iadd (pc := 70) hx hb dX3_fails_70 ?_
      refine lv_bipush (pc := 71) (v := nI 36) hx hb dX3_fails_71 kcb36 ?_
      refine lv_iadd (pc := 73) hx hb dX3_fails_73 ?_
      refine lv_bipush (pc := 74) (v := nI 26) hx hb dX3_fails_74 kcb26 ?_
      refine lv_iload_n (pc := 76) hx hb dX3_fails_76 rfl (lv_at hl 2 rfl) ?_
      refine lv_imul (pc := 77) hx hb dX3_fails_77 ?_
      refine lv_iadd (pc := 78) hx hb dX3_fails_78 ?_
      refine lv_bipush (pc := 79) (v := nI 6) hx hb dX3_fails_79 kcb6 ?_
      refine lv_iadd (pc := 81) hx hb dX3_fails_81 ?_
      refine lv_iload (pc := 82) hx hb dX3_fails_82 (lv_at hl 5 rfl) ?_
      refine lv_iload_n (pc := 84) hx hb dX3_fails_84 rfl (lv_at hl 3 rfl) ?_
      refine lv_iload (pc := 85) hx hb dX3_fails_85 (lv_at hl 4 rfl) ?_
      obtain ⟨v2, S2, e2, hf⟩ := bd2o hf
      refine m_callV (pc := 87) (As := [.int (((((nI 3471) + ((nI 556) * l1)) + (nI 36)) + ((nI 26) * l2)) + (nI 6)), .int l5, .int l3, .int l4]) (rest := []) (st1 := []) hc (mX3_ahead e2) (cwV 4 hts (lw_V q2983 q2985 qs63 q105 q2986) rfl rfl rfl hdX3_ahead ⟨Nat.le_of_ble_eq_true rfl, Nat.le_of_ble_eq_true rfl⟩) rfl hl.1 rfl rfl (lv_room (Nat.le_of_ble_eq_true rfl)) dX3_fails_87 hP hD hS (fun H locs hP hD hS => ?_)
      refine lv_aload_n (pc := 90) hx hb dX3_fails_90 rfl (lv_at hl 0 rfl) ?_
      refine lv_iload_n (pc := 91) hx hb dX3_fails_91 rfl (lv_at hl 1 rfl) ?_
      refine lv_iload_n (pc := 92) hx hb dX3_fails_92 rfl (lv_at hl 2 rfl) ?_
      refine lv_iconst (pc := 93) (v := nI 5) hx hb dX3_fails_93 rfl ?_
      refine lv_iload (pc := 94) hx hb dX3_fails_94 (lv_at hl 6 rfl) ?_
      refine lv_iconst (pc := 96) (v := nI 1) hx hb dX3_fails_96 rfl ?_
      refine lv_iadd (pc := 97) hx hb dX3_fails_97 ?_
      obtain ⟨v3, S3, e3, hf⟩ := bd2o hf
      refine m_callV (pc := 98) (As := [.int l1, .int l2, .int (nI 5), .int (l6 + (nI 1))]) (rest := []) (st1 := []) hc (mX3_letterIs e3) (cwV 4 hts (lw_V q2995 q2997 qs66 q105 q2998) rfl rfl rfl hdX3_letterIs ⟨Nat.le_of_ble_eq_true rfl, Nat.le_of_ble_eq_true rfl⟩) rfl hl.1 rfl rfl (lv_room (Nat.le_of_ble_eq_true rfl)) dX3_fails_98 hP hD hS (fun H locs hP hD hS => ?_)
      refine lv_aload_n (pc := 101) hx hb dX3_fails_101 rfl (lv_at hl 0 rfl) ?_
      refine lv_iload_n (pc := 102) hx hb dX3_fails_102 rfl (lv_at hl 1 rfl) ?_
      refine lv_iload_n (pc := 103) hx hb dX3_fails_103 rfl (lv_at hl 2 rfl) ?_
      refine lv_iconst (pc := 104) (v := nI 2) hx hb dX3_fails_104 rfl ?_
      refine lv_iload (pc := 105) hx hb dX3_fails_105 (lv_at hl 5 rfl) ?_
      obtain ⟨v4, S4, e4, hf⟩ := bd2o hf
      refine m_callV (pc := 107) (As := [.int l1, .int l2, .int (nI 2), .int l5]) (rest := []) (st1 := []) hc (mX3_letterIs e4) (cwV 4 hts (lw_V q2995 q2997 qs66 q105 q2998) rfl rfl rfl hdX3_letterIs ⟨Nat.le_of_ble_eq_true rfl, Nat.le_of_ble_eq_true rfl⟩) rfl hl.1 rfl rfl (lv_room (Nat.le_of_ble_eq_true rfl)) dX3_fails_107 hP hD hS (fun H locs hP hD hS => ?_)
      refine lv_aload_n (pc := 110) hx hb dX3_fails_110 rfl (lv_at hl 0 rfl) ?_
      refine lv_iload_n (pc := 111) hx hb dX3_fails_111 rfl (lv_at hl 1 rfl) ?_
      refine lv_iload_n (pc := 112) hx hb dX3_fails_112 rfl (lv_at hl 2 rfl) ?_
      refine lv_iconst (pc := 113) (v := nI 3) hx hb dX3_fails_113 rfl ?_
      refine lv_iconst (pc := 114) (v := -1) hx hb dX3_fails_114 rfl ?_
      obtain ⟨v5, S5, e5, hf⟩ := bd2o hf
      refine m_callV (pc := 115) (As := [.int l1, .int l2, .int (nI 3), .int (-1)]) (rest := []) (st1 := []) hc (mX3_letterIs e5) (cwV 4 hts (lw_V q2995 q2997 qs66 q105 q2998) rfl rfl rfl hdX3_letterIs ⟨Nat.le_of_ble_eq_true rfl, Nat.le_of_ble_eq_true rfl⟩) rfl hl.1 rfl rfl (lv_room (Nat.le_of_ble_eq_true rfl)) dX3_fails_115 hP hD hS (fun H locs hP hD hS => ?_)
      refine lv_aload_n (pc := 118) hx hb dX3_fails_118 rfl (lv_at hl 0 rfl) ?_
      refine lv_iload_n (pc := 119) hx hb dX3_fails_119 rfl (lv_at hl 1 rfl) ?_
      refine lv_iload_n (pc := 120) hx hb dX3_fails_120 rfl (lv_at hl 2 rfl) ?_
      refine lv_iconst (pc := 121) (v := nI 4) hx hb dX3_fails_121 rfl ?_
      refine lv_aload_n (pc := 122) hx hb dX3_fails_122 rfl (lv_at hl 0 rfl) ?_
      refine va_get (D := D) (ci := 0) (v := .ref (am 1)) (C := RX3) (T := TX3) (N := 17) (pc := 123) hx hb hts in_X3 hown hK hP 0 rfl rfl 0 (by decide) (hts _ q2839) (fun _ h9 => h9) rfl dX3_fails_123 ?_
      refine lv_iconst (pc := 126) (v := nI 4) hx hb dX3_fails_126 rfl ?_
      obtain ⟨v6, e6, hf⟩ := bdo hf
      refine m_iald (pc := 127) (k := 0) hx hb hK hP rfl e6 dX3_fails_127 ?_
      refine lv_aload_n (pc := 128) hx hb dX3_fails_128 rfl (lv_at hl 0 rfl) ?_
      refine va_get (D := D) (ci := 0) (v := .ref (am 5)) (C := RX3) (T := TX3) (N := 17) (pc := 129) hx hb hts in_X3 hown hK hP 0 rfl rfl 5 (by decide) (hts _ q2844) (fun _ h9 => h9) rfl dX3_fails_129 ?_
      refine lv_iload (pc := 132) hx hb dX3_fails_132 (lv_at hl 5 rfl) ?_
      obtain ⟨v7, e7, hf⟩ := bdo hf
      refine m_iald (pc := 134) (k := 4) hx hb hK hP rfl e7 dX3_fails_134 ?_
      refine lv_iadd (pc := 135) hx hb dX3_fails_135 ?_
      obtain ⟨v8, S8, e8, hf⟩ := bd2o hf
      refine m_callV (pc := 136) (As := [.int l1, .int l2, .int (nI 4), .int (v6 + v7)]) (rest := []) (st1 := []) hc (mX3_letterIs e8) (cwV 4 hts (lw_V q2995 q2997 qs66 q105 q2998) rfl rfl rfl hdX3_letterIs ⟨Nat.le_of_ble_eq_true rfl, Nat.le_of_ble_eq_true rfl⟩) rfl hl.1 rfl rfl (lv_room (Nat.le_of_ble_eq_true rfl)) dX3_fails_136 hP hD hS (fun H locs hP hD hS => ?_)
      refine lv_aload_n (pc := 139) hx hb dX3_fails_139 rfl (lv_at hl 0 rfl) ?_
      refine lv_iload_n (pc := 140) hx hb dX3_fails_140 rfl (lv_at hl 1 rfl) ?_
      refine lv_iload_n (pc := 141) hx hb dX3_fails_141 rfl (lv_at hl 2 rfl) ?_
      refine lv_iconst (pc := 142) (v := nI 1) hx hb dX3_fails_142 rfl ?_
      refine lv_iconst (pc := 143) (v := nI 1) hx hb dX3_fails_143 rfl ?_
      obtain ⟨v9, S9, e9, hf⟩ := bd2o hf
      refine m_callV (pc := 144) (As := [.int l1, .int l2, .int (nI 1), .int (nI 1)]) (rest := []) (st1 := []) hc (mX3_letterIs e9) (cwV 4 hts (lw_V q2995 q2997 qs66 q105 q2998) rfl rfl rfl hdX3_letterIs ⟨Nat.le_of_ble_eq_true rfl, Nat.le_of_ble_eq_true rfl⟩) rfl hl.1 rfl rfl (lv_room (Nat.le_of_ble_eq_true rfl)) dX3_fails_144 hP hD hS (fun H locs hP hD hS => ?_)
      refine lv_iload (pc := 147) hx hb dX3_fails_147 (lv_at hl 5 rfl) ?_
      refine lv_aload_n (pc := 149) hx hb dX3_fails_149 rfl (lv_at hl 0 rfl) ?_
      refine lv_iload_n (pc := 150) hx hb dX3_fails_150 rfl (lv_at hl 1 rfl) ?_
      refine lv_bipush (pc := 151) (v := nI 27) hx hb dX3_fails_151 kcb27 ?_
      obtain ⟨v10, S10, e10, hf⟩ := bd2o hf
      refine m_callV (pc := 153) (As := [.int l1, .int (nI 27)]) (rest := [.int l5]) (st1 := [.int v10, .int l5]) hc (mX3_of e10) (cwV 2 hts (lw_V q2949 q2951 qs58 q105 q2952) rfl rfl rfl hdX3_of ⟨Nat.le_of_ble_eq_true rfl, Nat.le_of_ble_eq_true rfl⟩) rfl hl.1 rfl rfl (lv_room (Nat.le_of_ble_eq_true rfl)) dX3_fails_153 hP hD hS (fun H locs hP hD hS => ?_)
      refine lv_icmp_ne (pc := 156) (tgt := 169) hx hb dX3_fails_156 (by decide) (fun c11 => ?_) (fun c11 => ?_)
      · rw [if_neg c11] at hf
        refine lv_iconst (pc := 169) (v := nI 0) hx hb dX3_fails_169 rfl ?_
        exact m_zret (pc := 170) hx hb hr hlk hP hD hS hf dX3_fails_170
      · rw [if_pos c11] at hf
        refine lv_aload_n (pc := 159) hx hb dX3_fails_159 rfl (lv_at hl 0 rfl) ?_
        refine lv_iload_n (pc := 160) hx hb dX3_fails_160 rfl (lv_at hl 1 rfl) ?_
        refine lv_iload_n (pc := 161) hx hb dX3_fails_161 rfl (lv_at hl 2 rfl) ?_
        refine lv_iconst (pc := 162) (v := nI 0) hx hb dX3_fails_162 rfl ?_
        refine lv_iconst (pc := 163) (v := nI 0) hx hb dX3_fails_163 rfl ?_
        obtain ⟨v12, S12, e12, hf⟩ := bd2o hf
        refine m_callV (pc := 164) (As := [.int l1, .int l2, .int (nI 0), .int (nI 0)]) (rest := []) (st1 := []) hc (mX3_dies e12) (cwV 4 hts (lw_V q3080 q3082 qs83 q105 q3083) rfl rfl rfl hdX3_dies ⟨Nat.le_of_ble_eq_true rfl, Nat.le_of_ble_eq_true rfl⟩) rfl hl.1 rfl rfl (lv_room (Nat.le_of_ble_eq_true rfl)) dX3_fails_164 hP hD hS (fun H locs hP hD hS => ?_)
        refine lv_iconst (pc := 167) (v := nI 1) hx hb dX3_fails_167 rfl ?_
        exact m_zret (pc := 168) hx hb hr hlk hP hD hS hf dX3_fails_168
    · rw [if_neg c1] at hf
      refine lv_aload_n (pc := 33) hx hb dX3_fails_33 rfl (lv_at hl 0 rfl) ?_
      refine lv_iload_n (pc := 34) hx hb dX3_fails_34 rfl (lv_at hl 1 rfl) ?_
      refine lv_iload_n (pc := 35) hx hb dX3_fails_35 rfl (lv_at hl 2 rfl) ?_
      refine lv_bipush (pc := 36) (v := nI 10) hx hb dX3_fails_36 kcb10 ?_
      refine lv_iload (pc := 38) hx hb dX3_fails_38 (lv_at hl 7 rfl) ?_
      refine lv_iadd (pc := 40) hx hb dX3_fails_40 ?_
      refine lv_aload_n (pc := 41) hx hb dX3_fails_41 rfl (lv_at hl 0 rfl) ?_
      refine lv_iload_n (pc := 42) hx hb dX3_fails_42 rfl (lv_at hl 1 rfl) ?_
      refine lv_iload_n (pc := 43) hx hb dX3_fails_43 rfl (lv_at hl 2 rfl) ?_
      refine lv_bipush (pc := 44) (v := nI 6) hx hb dX3_fails_44 kcb6 ?_
      refine lv_iload (pc := 46) hx hb dX3_fails_46 (lv_at hl 7 rfl) ?_
      refine lv_iadd (pc := 48) hx hb dX3_fails_48 ?_
      obtain ⟨v13, S13, e13, hf⟩ := bd2o hf
      refine m_callV (pc := 49) (As := [.int l1, .int l2, .int ((nI 6) + l7)]) (rest := [.int ((nI 10) + l7), .int l2, .int l1, .ref (am 0)]) (st1 := [.int v13, .int ((nI 10) + l7), .int l2, .int l1, .ref (am 0)]) hc (mX3_letterOf e13) (cwV 3 hts (lw_V q2991 q2993 qs65 q105 q2994) rfl rfl rfl hdX3_letterOf ⟨Nat.le_of_ble_eq_true rfl, Nat.le_of_ble_eq_true rfl⟩) rfl hl.1 rfl rfl (lv_room (Nat.le_of_ble_eq_true rfl)) dX3_fails_49 hP hD hS (fun H locs hP hD hS => ?_)
      obtain ⟨v14, S14, e14, hf⟩ := bd2o hf
      refine m_callV (pc := 52) (As := [.int l1, .int l2, .int ((nI 10) + l7), .int v13]) (rest := []) (st1 := []) hc (mX3_letterIs e14) (cwV 4 hts (lw_V q2995 q2997 qs66 q105 q2998) rfl rfl rfl hdX3_letterIs ⟨Nat.le_of_ble_eq_true rfl, Nat.le_of_ble_eq_true rfl⟩) rfl hl.1 rfl rfl (lv_room (Nat.le_of_ble_eq_true rfl)) dX3_fails_52 hP hD hS (fun H locs hP hD hS => ?_)
      refine lv_iinc (pc := 55) (v := l7 + (-1)) (lv' := [(7, .int (l7 + (-1))), (0, .ref (am 0)), (1, .int l1), (2, .int l2), (3, .int l3), (4, .int l4), (5, .int l5), (6, .int l6)]) hx hb dX3_fails_55 hl (k := 7) rfl rfl (by decide) rfl (fun ls hl => ?_)
      refine lv_goto (pc := 58) (tgt := 28) hx hb dX3_fails_58 (by decide) ?_
      exact ih l1 l2 l3 l4 l5 l6 (l7 + (-1)) S14 _ _ ls hP hD hS (lv_sub hl [1, 2, 3, 4, 5, 6, 7, 0] rfl) hf
def fX3_fails (l1 : Int32) (l2 : Int32) (l3 : Int32) (l4 : Int32) (S : mS) : Option (Int32 × mS) :=
  bd2 (fX3_letterOf l1 l2 (nI 2) S) fun v1 S1 =>
  bd2 (fX3_letterOf l1 l2 (nI 5) S1) fun v2 S2 =>
  fX3_fails_b28 FU l1 l2 l3 l4 (v1 + (nI 1)) v2 (((nI 4) * v2) - (nI 1)) S2
theorem wX3_fails_b0 (hc : mC p s m args meth c D cI cJ cX3_fails 8 (some .boolean)) (l1 : Int32) (l2 : Int32) (l3 : Int32) (l4 : Int32) (S : mS) (H : Heap) (locs : List Loc) (ls : Array Slot) (hP : va_P D mCl (mws am cI cJ S) H) (hD : va_D (mA am) (mws am cI cJ S)) (hS : va_S (mA am) s.heap H locs) (hl : lv_has ls 8 [(0, .ref (am 0)), (1, .int l1), (2, .int l2), (3, .int l3), (4, .int l4)]) (hf : fX3_fails l1 l2 l3 l4 S = some (r, Sf)) : W p l e (mR 3 75) s m args below meth c H locs 0 0 (mQ below D am cI cJ (some (.int r)) Sf args s) (F0 m 0 ls []) := by
  obtain ⟨hx, hb, hr, hlk, hml, hown, hts, hK⟩ := hc
  have hc : mC p s m args meth c D cI cJ cX3_fails 8 (some .boolean) := ⟨hx, hb, hr, hlk, hml, hown, hts, hK⟩
  unfold fX3_fails at hf
  refine lv_aload_n (pc := 0) hx hb dX3_fails_0 rfl (lv_at hl 0 rfl) ?_
  refine lv_iload_n (pc := 1) hx hb dX3_fails_1 rfl (lv_at hl 1 rfl) ?_
  refine lv_iload_n (pc := 2) hx hb dX3_fails_2 rfl (lv_at hl 2 rfl) ?_
  refine lv_iconst (pc := 3) (v := nI 2) hx hb dX3_fails_3 rfl ?_
  obtain ⟨v1, S1, e1, hf⟩ := bd2o hf
  refine m_callV (pc := 4) (As := [.int l1, .int l2, .int (nI 2)]) (rest := []) (st1 := [.int v1]) hc (mX3_letterOf e1) (cwV 3 hts (lw_V q2991 q2993 qs65 q105 q2994) rfl rfl rfl hdX3_letterOf ⟨Nat.le_of_ble_eq_true rfl, Nat.le_of_ble_eq_true rfl⟩) rfl hl.1 rfl rfl (lv_room (Nat.le_of_ble_eq_true rfl)) dX3_fails_4 hP hD hS (fun H locs hP hD hS => ?_)
  refine lv_iconst (pc := 7) (v := nI 1) hx hb dX3_fails_7 rfl ?_
  refine lv_iadd (pc := 8) hx hb dX3_fails_8 ?_
  refine lv_istore (pc := 9) (lv' := [(5, .int (v1 + (nI 1))), (0, .ref (am 0)), (1, .int l1), (2, .int l2), (3, .int l3), (4, .int l4)]) hx hb dX3_fails_9 hl (by decide) rfl (fun ls hl => ?_)
  refine lv_aload_n (pc := 11) hx hb dX3_fails_11 rfl (lv_at hl 1 rfl) ?_
  refine lv_iload_n (pc := 12) hx hb dX3_fails_12 rfl (lv_at hl 2 rfl) ?_
  refine lv_iload_n (pc := 13) hx hb dX3_fails_13 rfl (lv_at hl 3 rfl) ?_
  refine lv_iconst (pc := 14) (v := nI 5) hx hb dX3_fails_14 rfl ?_
  obtain ⟨v2, S2, e2, hf⟩ := bd2o hf
  refine m_callV (pc := 15) (As := [.int l1, .int l2, .int (nI 5)]) (rest := []) (st1 := [.int v2]) hc (mX3_letterOf e2) (cwV 3 hts (lw_V q2991 q2993 qs65 q105 q2994) rfl rfl rfl hdX3_letterOf ⟨Nat.le_of_ble_eq_true rfl, Nat.le_of_ble_eq_true rfl⟩) rfl hl.1 rfl rfl (lv_room (Nat.le_of_ble_eq_true rfl)) dX3_fails_15 hP hD hS (fun H locs hP hD hS => ?_)
  refine lv_istore (pc := 18) (lv' := [(6, .int v2), (5, .int (v1 + (nI 1))), (0, .ref (am 0)), (1, .int l1), (2, .int l2), (3, .int l3), (4, .int l4)]) hx hb dX3_fails_18 hl (by decide) rfl (fun ls hl => ?_)
  refine lv_iconst (pc := 20) (v := nI 4) hx hb dX3_fails_20 rfl ?_
  refine lv_iload (pc := 21) hx hb dX3_fails_21 (lv_at hl 0 rfl) ?_
  refine lv_imul (pc := 23) hx hb dX3_fails_23 ?_
  refine lv_iconst (pc := 24) (v := nI 1) hx hb dX3_fails_24 rfl ?_
  refine lv_isub (pc := 25) hx hb dX3_fails_25 ?_
  refine lv_istore (pc := 26) (lv' := [(7, .int (((nI 4) * v2) - (nI 1))), (6, .int v2), (5, .int (v1 + (nI 1))), (0, .ref (am 0)), (1, .int l1), (2, .int l2), (3, .int l3), (4, .int l4)]) hx hb dX3_fails_26 hl (by decide) rfl (fun ls hl => ?_)
  exact wX3_fails_b28 hc FU l1 l2 l3 l4 (v1 + (nI 1)) v2 (((nI 4) * v2) - (nI 1)) S2 _ _ ls hP hD hS (lv_sub hl [3, 4, 5, 6, 7, 2, 1, 0] rfl) hf
theorem mX3_fails {S S2 : mS} {r2 : Int32} {l1 : Int32} {l2 : Int32} {l3 : Int32} {l4 : Int32} (hf : fX3_fails l1 l2 l3 l4 S = some (r2, S2)) : mMet l yX3_fails cX3_fails 8 (some .boolean) 3 75 D am cI cJ [.ref (am 0), .int l1, .int l2, .int l3, .int l4] S (some (.int r2)) S2 := by
  exact m_start (by decide) rfl (Nat.le_of_ble_eq_true rfl) (fun p e s m args below meth c ls hc hl hP hD => wX3_fails_b0 hc l1 l2 l3 l4 S _ _ ls hP hD va_S.rf (lv_sub hl [0, 1, 2, 3, 4] rfl) hf)
end
end
