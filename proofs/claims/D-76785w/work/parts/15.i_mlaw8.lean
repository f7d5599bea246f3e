/-! THE WORLD's bounds stay; THE MODEL'S SIDE: giving -/
set_option maxRecDepth 100000
set_option maxHeartbeats 4000000
set_option linter.unusedVariables false
theorem wbL_of {w w' : wW} {l : wLet} (h1 : (wms w).length ≤ (wms w').length) (h2 : (wcs w).length ≤ (wcs w').length) (h : wbL w l) : wbL w' l := by
  obtain ⟨⟨m, hm, e⟩, h3, h4⟩ := h
  refine ⟨⟨m, Nat.lt_of_lt_of_le hm h1, e⟩, ?_, h4⟩
  rcases h3 with h3 | ⟨h3, c, hc, e2⟩
  · exact Or.inl h3
  · exact Or.inr ⟨h3, c, Nat.lt_of_lt_of_le hc h2, e2⟩
theorem wbQ_of {w w' : wW} {x : wQue} (h1 : (wms w).length ≤ (wms w').length) (h2 : (wcs w).length ≤ (wcs w').length) (h : wbQ w x) : wbQ w' x := by
  obtain ⟨a0, a1, a2, a3, a4, a5, a6⟩ := h
  refine ⟨a0, a1, a2, a3, ?_, a5, fun i hi => wbL_of h1 h2 (a6 i hi)⟩
  rcases a4 with h | ⟨c, hc, e⟩
  · exact Or.inl h
  · exact Or.inr ⟨c, Nat.lt_of_lt_of_le hc h2, e⟩
theorem WB_uQ {w : wW} (hB : WB w) {q : Nat} (hq : q < (wqs w).length) {F : wQue → wQue} (hx : wbQ w (F (wq w q))) : WB (uQ w q F) := by
  obtain ⟨b0, b1, b2, b3, b4, b5, b6, b7⟩ := hB
  refine ⟨by rw [len_uQ]; exact b0, b1, b2, b3, b4, fun q' hq' => ?_, fun c hc => ?_, fun i hi => ?_⟩
  · rw [len_uQ] at hq'
    rw [wq_uQ hq]
    by_cases e : q' = q
    · rw [if_pos e]; exact hx
    · rw [if_neg e]; exact b5 q' hq'
  · obtain ⟨q', h1, h2⟩ := b6 c hc
    exact ⟨q', by rw [len_uQ]; exact h1, h2⟩
  · obtain ⟨h1, ⟨q', h2, h3⟩, h4⟩ := b7 i hi
    exact ⟨h1, ⟨q', by rw [len_uQ]; exact h2, h3⟩, h4⟩
theorem WB_uC {w : wW} (hB : WB w) (c : Nat) {k : Nat} (hk : k ≠ 0) (v : Int32) : WB (uC w c k v) := by
  obtain ⟨b0, b1, b2, b3, b4, b5, b6, b7⟩ := hB
  have hl := len_uC w c k v
  refine ⟨b0, by rw [hl]; exact b1, b2, b3, b4, fun q hq => wbQ_of (w := w) (Nat.le_refl _) (Nat.le_of_eq hl.symm) (b5 q hq), fun c' hc' => ?_, b7⟩
  rw [hl] at hc'
  obtain ⟨q, h1, h2⟩ := b6 c' hc'
  refine ⟨q, h1, ?_⟩
  unfold wc
  rw [show wcs (uC w c k v) = (wcs w).modify c (fun f => upd f k v) from rfl, getD_modify]
  by_cases e : c' = c ∧ c < (wcs w).length
  · rw [if_pos e]
    unfold upd
    rw [if_neg (fun hh => hk hh.symm), ← e.1]
    exact h2
  · rw [if_neg e]
    exact h2
theorem WB_uH {w : wW} (hB : WB w) (k : Nat) (v : Int32) : WB (uH w k v) := hB
theorem WB_uD {w : wW} (hB : WB w) {ds : List wDed} (h : ds.length ≤ 30) (hd : ∀ i, i < ds.length → wbD w (ds.getD i (wz, []))) : WB (uD w ds) := ⟨hB.1, hB.2.1, hB.2.2.1, h, hB.2.2.2.2.1, hB.2.2.2.2.2.1, hB.2.2.2.2.2.2.1, hd⟩
theorem wbT_of {x y : wQue} (h : wbT x) (h26 : y.1 26 = x.1 26) (h27 : y.1 27 = x.1 27) (hl : (wL y).length ≤ (wL x).length) (hL : ∀ i, i < (wL y).length → ∃ j, j < (wL x).length ∧ (wl y i).2.length ≤ (wl x j).2.length) : wbT y := by
  obtain ⟨⟨t, ht, e, h1⟩, m, hm, e2, h2⟩ := h
  refine ⟨⟨t, ht, h27.trans e, fun i hi => ?_⟩, m, hm, h26.trans e2, Nat.le_trans hl h2⟩
  obtain ⟨j, hj, hle⟩ := hL i hi
  exact Nat.lt_of_le_of_lt hle (h1 j hj)
theorem wbQ_sc {w : wW} {x : wQue} (h : wbQ w x) {k : Nat} (hk : k ≠ 31) (h26 : k ≠ 26) (h27 : k ≠ 27) (v : Int32) : wbQ w (upd x.1 k v, x.2) := by
  obtain ⟨a0, a1, a2, a3, a4, ⟨a5, a7⟩, a6⟩ := h
  have e : ∀ j, j ≠ k → upd x.1 k v j = x.1 j := fun j hj => by unfold upd; rw [if_neg hj]
  refine ⟨a0, a1, a2, a3, ?_, ⟨a5, wbT_of a7 (e 26 (fun hh => h26 hh.symm)) (e 27 (fun hh => h27 hh.symm)) (Nat.le_refl _) fun i hi => ⟨i, hi, Nat.le_refl _⟩⟩, a6⟩
  dsimp only
  rw [e 31 (fun hh => hk hh.symm)]
  exact a4
theorem wbQ_la {w : wW} {x : wQue} (h : wbQ w x) {c : Nat} (hc : c < (wcs w).length) : wbQ w (upd x.1 31 (nI c), x.2) := by
  obtain ⟨a0, a1, a2, a3, a4, ⟨a5, a7⟩, a6⟩ := h
  have e : ∀ j, j ≠ 31 → upd x.1 31 (nI c) j = x.1 j := fun j hj => by unfold upd; rw [if_neg hj]
  refine ⟨a0, a1, a2, a3, Or.inr ⟨c, hc, ?_⟩, ⟨a5, wbT_of a7 (e 26 (by decide)) (e 27 (by decide)) (Nat.le_refl _) fun i hi => ⟨i, hi, Nat.le_refl _⟩⟩, a6⟩
  dsimp only [upd]
  rw [if_pos rfl]
theorem wbQ_L {w : wW} {x : wQue} (h : wbQ w x) {L : List wLet} (hl : L.length ≤ 20) (ht : wbT (qL x L)) (hL : ∀ i, i < L.length → wbL w (L.getD i (wz, []))) : wbQ w (qL x L) := ⟨h.1, h.2.1, h.2.2.1, hl, h.2.2.2.2.1, ⟨h.2.2.2.2.2.1.1, ht⟩, hL⟩
/-- one letter is another -/
theorem wbQ_set {w : wW} {x : wQue} (h : wbQ w x) {i : Nat} {l : wLet} (hl : wbL w l) (ht : ∀ t, x.1 27 = nI t → t ≤ 5 → (∀ j, j < (wL x).length → (wl x j).2.length < t) → l.2.length < t) : wbQ w (qL x ((wL x).set i l)) := by
  refine wbQ_L h (by rw [List.length_set]; exact h.2.2.2.1) ?_ fun j hj => ?_
  · obtain ⟨⟨t, h5, e, h1⟩, m, hm, e2, h2⟩ := h.2.2.2.2.2.1.2
    refine ⟨⟨t, h5, e, fun j hj => ?_⟩, m, hm, e2, ?_⟩
    · have hj' : j < ((wL x).set i l).length := hj
      rw [List.length_set] at hj'
      show (((wL x).set i l).getD j (wz, [])).2.length < t
      rw [getD_set]
      split
      · exact ht t e h5 h1
      · exact h1 j hj'
    · show ((wL x).set i l).length ≤ m
      rw [List.length_set]; exact h2
  · rw [List.length_set] at hj
    rw [getD_set]
    split
    · exact hl
    · exact h.2.2.2.2.2.2 j hj
theorem wbQ_erase {w : wW} {x : wQue} (h : wbQ w x) (i : Nat) : wbQ w (qL x ((wL x).eraseIdx i)) := by
  have hle : ((wL x).eraseIdx i).length ≤ (wL x).length := List.length_eraseIdx_le (wL x) i
  have key : ∀ j, j < ((wL x).eraseIdx i).length → ∃ j2, j2 < (wL x).length ∧ ((wL x).eraseIdx i).getD j (wz, []) = wl x j2 := by
    intro j hj
    rw [getD_eraseIdx]
    split
    · exact ⟨j, by omega, rfl⟩
    · next c =>
      refine ⟨j + 1, ?_, rfl⟩
      by_cases hi : i < (wL x).length
      · have := List.length_eraseIdx_of_lt hi
        omega
      · have : j < (wL x).length := by omega
        omega
  refine wbQ_L h (Nat.le_trans hle h.2.2.2.1) (wbT_of h.2.2.2.2.2.1.2 rfl rfl hle fun j hj => ?_) fun j hj => ?_
  · obtain ⟨j2, h1, h2⟩ := key j hj
    refine ⟨j2, h1, ?_⟩
    show (((wL x).eraseIdx i).getD j (wz, [])).2.length ≤ _
    rw [h2]
    exact Nat.le_refl _
  · obtain ⟨j2, h1, h2⟩ := key j hj
    rw [h2]
    exact h.2.2.2.2.2.2 j2 h1
theorem WB_eQ {w : wW} (hB : WB w) {q : Nat} (hq : q < (wqs w).length) (i : Nat) : WB (eQ w q i) := WB_uQ hB hq (wbQ_erase (wBq hB hq) i)
-- who gets what
theorem foldl_next {w : wW} {x : wQue} : ∀ (l : List Nat) (b : Option Nat) (P : Nat → Prop), (∀ i, i ∈ l → mayI w x i = true → P i) → (∀ j, b = some j → P j) → ∀ j, l.foldl (nextS w x) b = some j → P j := by
  intro l
  induction l with
  | nil => intro b P h1 h2 j hj; exact h2 j hj
  | cons a l ih =>
    intro b P h1 h2 j hj
    rw [List.foldl_cons] at hj
    refine ih (nextS w x b a) P (fun i hi => h1 i (List.mem_cons_of_mem _ hi)) (fun j' hj' => ?_) j hj
    unfold nextS at hj'
    split at hj'
    next hh => cases hj'; exact h1 _ List.mem_cons_self hh.1
    next => exact h2 j' hj'
theorem nextI_ok {w : wW} {x : wQue} {i : Nat} (h : nextI w x = some i) : i < (wL x).length ∧ mayI w x i = true :=
  foldl_next (w := w) (x := x) (List.range (wL x).length) none (fun i => i < (wL x).length ∧ mayI w x i = true) (fun i hi hm => ⟨List.mem_range.mp hi, hm⟩) (fun j hj => by cases hj) i h
theorem whoI_ok {w : wW} {q c : Nat} (h : whoI w q = some c) : c < (wcs w).length ∧ hereC w q c = true ∧ creditC w c = true := by
  unfold whoI at h
  split at h
  · unfold whoE at h
    split at h
    next c' hc' =>
      split at h
      next hk =>
        cases h
        exact ⟨List.mem_range.mp (List.mem_of_find?_eq_some hc'), by simpa using List.find?_some hc', hk⟩
      next => cases h
    next => cases h
  · unfold whoR at h
    have h1 := List.mem_of_find?_eq_some h
    have h2 := List.find?_some h
    obtain ⟨k, hk, e⟩ := List.mem_map.mp h1
    have hpos : 0 < (wcs w).length := by have := List.mem_range.mp hk; omega
    have h3 : hereC w q c = true ∧ creditC w c = true := by simpa using h2
    exact ⟨by rw [← e]; exact Nat.mod_lt _ hpos, h3⟩
/-- the letter that is given -/
def giL (w : wW) (x : wQue) (l : wLet) (c : Nat) : wLet := (upd (upd (upd l.1 1 2) 3 (nI c)) 4 (wh w 4 + x.1 28), l.2)
def giV (w : wW) (q i c : Nat) : wW := uS (uS (uC (uC (uLet w q i (giL w (wq w q) (wl (wq w q) i) c)) c 1 (wc w c 1 - 1)) c 3 (wc w c 3 + 1)) q 31 (nI c)) q 32 ((wq w q).1 32 + 1)
def giW (w : wW) (q : Nat) : Int32 × wW := match nextI w (wq w q), whoI w q with
  | some i, some c => ((wl (wq w q) i).1 0, giV w q i c)
  | _, _ => (-1, w)
theorem WB_giV {w : wW} (hB : WB w) {q i c : Nat} (hq : q < (wqs w).length) (hi : i < (wL (wq w q)).length) (hc : c < (wcs w).length) : WB (giV w q i c) := by
  have h1 : WB (uLet w q i (giL w (wq w q) (wl (wq w q) i) c)) := by
    refine WB_uQ hB hq (wbQ_set (wBq hB hq) ?_ (fun t _ _ h => h i hi))
    obtain ⟨a, -, b⟩ := bL hB hq hi
    refine ⟨?_, Or.inr ⟨?_, c, hc, ?_⟩, b⟩
    · exact a
    · rfl
    · rfl
  have h2 := WB_uC (WB_uC h1 c (k := 1) (by decide) (wc w c 1 - 1)) c (k := 3) (by decide) (wc w c 3 + 1)
  unfold giV
  generalize hw5 : uC (uC (uLet w q i (giL w (wq w q) (wl (wq w q) i) c)) c 1 (wc w c 1 - 1)) c 3 (wc w c 3 + 1) = w5 at h2
  have hq5 : q < (wqs w5).length := by
    rw [← hw5]
    show q < (wqs (uLet w q i _)).length
    unfold uLet
    rw [len_uQ]; exact hq
  have hc5 : c < (wcs w5).length := by
    rw [← hw5, len_uC, len_uC]; exact hc
  have h3 : WB (uS w5 q 31 (nI c)) := WB_uQ h2 hq5 (wbQ_la (wBq h2 hq5) hc5)
  have hq6 : q < (wqs (uS w5 q 31 (nI c))).length := by unfold uS; rw [len_uQ]; exact hq5
  exact WB_uQ h3 hq6 (wbQ_sc (wBq h3 hq6) (by decide) (by decide) (by decide) _)
theorem WB_giW {w : wW} (hB : WB w) {q : Nat} (hq : q < (wqs w).length) : WB (giW w q).2 := by
  unfold giW
  split
  next i c h1 h2 => exact WB_giV hB hq (nextI_ok h1).1 (whoI_ok h2).1
  next => exact hB
section
variable {S : mS} {w : wW}
theorem M_gives_b (hR : RM (S.1 0) w) (hB : WB w) {q i c : Nat} (hq : q < (wqs w).length) (hi : i < (wL (wq w q)).length) (hc : c < (wcs w).length) : ∃ S', fX3_gives_b19 (nI q) (nI i) (nI c) S = some ((wl (wq w q) i).1 0, S') ∧ RM (S'.1 0) (giV w q i c) ∧ mK S S' := by
  have h8 := qB hB.ws hq
  have h10 := cB hB.ws hc
  have h20 := lB hB.ws hq hi
  unfold fX3_gives_b19
  rw [if_pos (nI_pos' (by omega)), P_lis (by omega), bd2_s, P_lis (by omega), bd2_s, e_mrd (by decide) (by decide), bd_s, M_of (by omega), bd2_s, P_lis (by omega), bd2_s]
  generalize hS6 : mup (mup (mup S 0 (3471 + 556 * q + (36 + 26 * i + 1)) (nI 2)) 0 (3471 + 556 * q + (36 + 26 * i + 3)) (nI c)) 0 (3471 + 556 * q + (36 + 26 * i + 4)) _ = S6
  have k6 : mK S S6 := by
    rw [← hS6]
    exact (mK_up _ _ _).tr ((mK_up _ _ _).tr (mK_up _ _ _))
  have hg : ∀ j, S6.1 0 j = if j = 3471 + 556 * q + (36 + 26 * i + 4) then wh w 4 + (wq w q).1 28 else if j = 3471 + 556 * q + (36 + 26 * i + 3) then nI c else if j = 3471 + 556 * q + (36 + 26 * i + 1) then nI 2 else S.1 0 j := by
    intro j
    rw [← hS6, mup_0, mup_0, mup_0]
    unfold upd
    have e4 : S.1 0 4 = wh w 4 := hR.1.2.2.2.2.1
    have e28 : S.1 0 (3471 + 556 * q + 28) = (wq w q).1 28 := (rQ hR hq).2.2.2.2.1 28 (by decide) (by decide)
    rw [if_neg (show ¬ 4 = 3471 + 556 * q + (36 + 26 * i + 3) by omega), if_neg (show ¬ 4 = 3471 + 556 * q + (36 + 26 * i + 1) by omega), if_neg (show ¬ 3471 + 556 * q + 28 = 3471 + 556 * q + (36 + 26 * i + 3) by omega), if_neg (show ¬ 3471 + 556 * q + 28 = 3471 + 556 * q + (36 + 26 * i + 1) by omega), e4, e28]
  obtain ⟨t0, t1, t2, t3, t4, t5, t6⟩ := rL hR hq hi
  have h5 := (wsq hB.ws hq).2.2.2.2 i hi
  have hR6 : RM (S6.1 0) (uLet w q i (giL w (wq w q) (wl (wq w q) i) c)) := by
    refine RM_uLet hR hB.ws hq hi (fun k hk => ?_) ?_
    · rw [hg, if_neg (by omega), if_neg (by omega), if_neg (by omega)]
    · refine ⟨?_, ?_, ?_, ?_, ?_, ?_, fun j hj k hk => ?_⟩
      · dsimp only
        rw [hg, if_neg (by omega), if_neg (by omega), if_neg (by omega)]
        exact t0
      · dsimp only
        rw [hg, if_neg (by omega), if_neg (by omega), if_pos rfl]
        rfl
      · dsimp only
        rw [hg, if_neg (by omega), if_neg (by omega), if_neg (by omega)]
        exact t2
      · dsimp only
        rw [hg, if_neg (by omega), if_pos rfl]
        rfl
      · dsimp only
        rw [hg, if_pos rfl]
        rfl
      · dsimp only
        rw [hg, if_neg (by omega), if_neg (by omega), if_neg (by omega)]
        exact t5
      · have hj' : j < (wl (wq w q) i).2.length := hj
        dsimp only
        rw [hg, if_neg (by omega), if_neg (by omega), if_neg (by omega)]
        exact t6 j hj k hk
  have hs6 : WS (uLet w q i (giL w (wq w q) (wl (wq w q) i) c)) := WS_uLet hB.ws hq h5
  have hc6 : c < (wcs (uLet w q i (giL w (wq w q) (wl (wq w q) i) c))).length := hc
  have r1 : mrd S6 0 7919 (nI 11 + nI 4 * nI c + nI 1) = some (wc w c 1) := by
    rw [nI_mul, nI_add, nI_add, e_mrd (by omega) (by decide)]
    exact congrArg some (hR6.2.1 c hc6 1 (by decide))
  rw [r1, bd_s, nI_mul, nI_add, nI_add, nI_add]
  obtain ⟨S8, a1, a2, a3⟩ := P_C hR6 hs6 hc6 (k := 1) (by decide) (wc w c 1 - 1)
  have a1' : mwr S6 0 7919 (nI (11 + 4 * c + 1)) (wc w c 1 - nI 1) = some S8 := a1
  rw [a1', bd_s]
  have hs8 := WS_uC hs6 c 1 (wc w c 1 - 1)
  have hc8 : c < (wcs (uC (uLet w q i (giL w (wq w q) (wl (wq w q) i) c)) c 1 (wc w c 1 - 1))).length := by rw [len_uC]; exact hc
  have r3 : mrd S8 0 7919 (nI (11 + 4 * c + 3)) = some (wc w c 3) := by
    rw [e_mrd (by omega) (by decide)]
    refine congrArg some ((a2.2.1 c hc8 3 (by decide)).trans ?_)
    rw [wc_uC hc6, if_pos rfl]
    rfl
  rw [r3, bd_s]
  obtain ⟨S10, b1, b2, b3⟩ := P_C a2 hs8 hc8 (k := 3) (by decide) (wc w c 3 + 1)
  have b1' : mwr S8 0 7919 (nI (11 + 4 * c + 3)) (wc w c 3 + nI 1) = some S10 := b1
  rw [b1', bd_s]
  have hs10 := WS_uC hs8 c 3 (wc w c 3 + 1)
  unfold giV
  generalize hw5 : uC (uC (uLet w q i (giL w (wq w q) (wl (wq w q) i) c)) c 1 (wc w c 1 - 1)) c 3 (wc w c 3 + 1) = w5 at b2 hs10
  have eq5 : wq w5 q = qL (wq w q) ((wL (wq w q)).set i (giL w (wq w q) (wl (wq w q) i) c)) := by
    rw [← hw5]
    show wq (uLet w q i _) q = _
    unfold uLet
    rw [wq_uQ hq, if_pos rfl]
  have hq5 : q < (wqs w5).length := by
    rw [← hw5]
    show q < (wqs (uLet w q i _)).length
    unfold uLet
    rw [len_uQ]; exact hq
  obtain ⟨S11, d1, d2, d3⟩ := P_sc b2 hs10 hq5 (k := 31) (by decide) (by decide) (nI c)
  rw [d1, bd2_s]
  have hs11 := WS_uS hs10 hq5 31 (nI c)
  have hq11 : q < (wqs (uS w5 q 31 (nI c))).length := by unfold uS; rw [len_uQ]; exact hq5
  have eq11 : wq (uS w5 q 31 (nI c)) q = (upd (wq w q).1 31 (nI c), (qL (wq w q) ((wL (wq w q)).set i (giL w (wq w q) (wl (wq w q) i) c))).2) := by
    unfold uS
    rw [wq_uQ hq5, if_pos rfl, eq5]
    rfl
  rw [M_sc d2 hs11 hq11 (by decide) (by decide), bd2_s]
  have e32 : (wq (uS w5 q 31 (nI c)) q).1 32 = (wq w q).1 32 := by rw [eq11]; rfl
  rw [e32]
  obtain ⟨S13, f1, f2, f3⟩ := P_sc d2 hs11 hq11 (k := 32) (by decide) (by decide) ((wq w q).1 32 + 1)
  have f1' : fX3_is (nI q) (nI 32) ((wq w q).1 32 + nI 1) S11 = some ((), S13) := f1
  rw [f1', bd2_s]
  have hs13 := WS_uS hs11 hq11 32 ((wq w q).1 32 + 1)
  have hq13 : q < (wqs (uS (uS w5 q 31 (nI c)) q 32 ((wq w q).1 32 + 1))).length := by unfold uS; rw [len_uQ]; exact hq11
  have eq13 : wL (wq (uS (uS w5 q 31 (nI c)) q 32 ((wq w q).1 32 + 1)) q) = (wL (wq w q)).set i (giL w (wq w q) (wl (wq w q) i) c) := by
    have : wq (uS (uS w5 q 31 (nI c)) q 32 ((wq w q).1 32 + 1)) q = (upd (wq (uS w5 q 31 (nI c)) q).1 32 ((wq w q).1 32 + 1), (wq (uS w5 q 31 (nI c)) q).2) := by
      rw [show uS (uS w5 q 31 (nI c)) q 32 ((wq w q).1 32 + 1) = uQ (uS w5 q 31 (nI c)) q (fun x => (upd x.1 32 ((wq w q).1 32 + 1), x.2)) from rfl, wq_uQ hq11, if_pos rfl]
    rw [this, eq11]
    rfl
  have hi13 : i < (wL (wq (uS (uS w5 q 31 (nI c)) q 32 ((wq w q).1 32 + 1)) q)).length := by rw [eq13, List.length_set]; exact hi
  rw [M_l0 f2 hs13 hq13 hi13, bd2_s]
  have el : (wl (wq (uS (uS w5 q 31 (nI c)) q 32 ((wq w q).1 32 + 1)) q) i).1 0 = (wl (wq w q) i).1 0 := by
    unfold wl
    rw [eq13, getD_set, if_pos ⟨rfl, hi⟩]
    rfl
  rw [el]
  exact ⟨S13, rfl, f2, k6.tr (a3.tr (b3.tr (d3.tr f3)))⟩
theorem M_gives (hR : RM (S.1 0) w) (hB : WB w) {q : Nat} (hq : q < (wqs w).length) : ∃ S', fX3_gives (nI q) S = some ((giW w q).1, S') ∧ RM (S'.1 0) (giW w q).2 ∧ mK S S' := by
  have h20 := (wBq hB hq).2.2.2.1
  have h10 := hB.2.1
  unfold fX3_gives giW
  rw [M_next hR hB hq, bd2_s]
  cases hn : nextI w (wq w q) with
  | none =>
    rw [show oI none = (-1 : Int32) from rfl, if_neg (by decide)]
    unfold fX3_gives_b19
    rw [if_neg (by decide)]
    exact ⟨S, rfl, hR, mK.rf⟩
  | some i =>
    have hi := (nextI_ok hn).1
    rw [show oI (some i) = nI i from rfl, if_pos (nI_pos' (by omega)), M_who hR hB hq, bd2_s]
    cases hw : whoI w q with
    | none =>
      rw [show oI none = (-1 : Int32) from rfl]
      unfold fX3_gives_b19
      rw [if_neg (by decide)]
      exact ⟨S, rfl, hR, mK.rf⟩
    | some c => exact M_gives_b hR hB hq hi (whoI_ok hw).1
end
