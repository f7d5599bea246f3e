/-! THE MODEL'S SIDE, what writes: a letter goes, a letter comes -/
set_option maxRecDepth 100000
set_option maxHeartbeats 4000000
set_option linter.unusedVariables false
theorem getD_eraseIdx {α : Type} (l : List α) (i j : Nat) (d : α) : (l.eraseIdx i).getD j d = if j < i then l.getD j d else l.getD (j + 1) d := by
  rw [List.getD_eq_getElem?_getD, List.getElem?_eraseIdx]
  split <;> rw [List.getD_eq_getElem?_getD]
theorem getD_insertIdx {α : Type} (l : List α) (i j : Nat) (a d : α) (hi : i ≤ l.length) : (l.insertIdx i a).getD j d = if j < i then l.getD j d else if j = i then a else l.getD (j - 1) d := by
  rw [List.getD_eq_getElem?_getD, List.getElem?_insertIdx]
  by_cases h : j < i
  · rw [if_pos h, if_pos h, List.getD_eq_getElem?_getD]
  · rw [if_neg h, if_neg h]
    by_cases h2 : j = i
    · rw [if_pos h2, if_pos h2, if_pos (by omega)]
      rfl
    · rw [if_neg h2, if_neg h2, List.getD_eq_getElem?_getD]
def eQ (w : wW) (q i : Nat) : wW := uQ w q fun x => qL x ((wL x).eraseIdx i)
/-- a new letter of a message -/
def newL (m : Int32) : wLet := (upd (upd (upd wz 0 m) 3 (-1)) 4 (-1), [])
/-- where it comes: behind the last that isn't greater -/
def posD (x : wQue) (m : Int32) : Nat → Nat
  | 0 => 0
  | k + 1 => if (wl x k).1 0 ≤ m then k + 1 else posD x m k
theorem posD_le (x : wQue) (m : Int32) : ∀ n, posD x m n ≤ n
  | 0 => Nat.le_refl 0
  | k + 1 => by
    unfold posD
    split
    · omega
    · have := posD_le x m k; omega
def iQ (w : wW) (q p : Nat) (l : wLet) : wW := uQ w q fun x => qL x ((wL x).insertIdx p l)
def coQ (w : wW) (q : Nat) (m : Int32) : wW := iQ w q (posD (wq w q) m (wL (wq w q)).length) (newL m)
section
variable {S : mS} {w : wW}
theorem wsq {w : wW} (hs : WS w) {q : Nat} (hq : q < (wqs w).length) : wsQ (wq w q) := hs.2.2.2.2.2.1 q hq
/-- rmQ of a queue of which only the letters are other -/
theorem rmQ_L {f f' : wF} {x : wQue} {L : List wLet} (h : rmQ f x) (hs : wsQ x) (hf : ∀ k, k < 35 → f' k = f k) (h35 : f' 35 = nI L.length) (hL : ∀ i, i < L.length → rmL (fun k => f' (36 + 26 * i + k)) (L.getD i (wz, []))) : rmQ f' (qL x L) := by
  obtain ⟨r0, r1, r2, r3, r4, r5, r6⟩ := h
  obtain ⟨s0, s1, s2, s3, s4⟩ := hs
  refine ⟨?_, fun j hj => ?_, ?_, fun j hj => ?_, fun j hj1 hj2 => ?_, h35, hL⟩
  · rw [hf _ (by omega)]; exact r0
  · have hj' : j < x.2.1.length := hj
    rw [hf _ (by omega)]; exact r1 j hj
  · rw [hf _ (by omega)]; exact r2
  · have hj' : j < x.2.2.1.length := hj
    rw [hf _ (by omega)]; exact r3 j hj
  · rw [hf _ (by omega)]; exact r4 j hj1 hj2
theorem M_goes_b {q n : Nat} (hq : q < 8) (hn : n < 20) : ∀ (m k fuel : Nat) (S : mS), k + m = 26 * n → m < fuel → ∃ S', fX3_goes_b16 fuel (nI q) (nI n) (nI k) S = some ((), S') ∧ mK S S' ∧ ∀ j, S'.1 0 j = if 3471 + 556 * q + 36 + k ≤ j ∧ j < 3471 + 556 * q + 36 + 26 * n then S.1 0 (j + 26) else if j = 3471 + 556 * q + 35 then nI n else S.1 0 j := by
  intro m
  induction m with
  | zero =>
    intro k fuel S hk hf
    obtain ⟨f, rfl⟩ : ∃ f, fuel = f + 1 := ⟨fuel - 1, by omega⟩
    unfold fX3_goes_b16
    rw [nI_mul, if_pos (nI_le (by omega) (by omega)), P_is (by omega), bd2_s]
    refine ⟨_, rfl, mK_up _ _ _, fun j => ?_⟩
    rw [mup_0, if_neg (by omega)]
    unfold upd
    rfl
  | succ m ih =>
    intro k fuel S hk hf
    obtain ⟨f, rfl⟩ : ∃ f, fuel = f + 1 := ⟨fuel - 1, by omega⟩
    unfold fX3_goes_b16
    rw [nI_mul, if_neg (nI_ge (by omega) (by omega)), nI_add, nI_add, M_of (by omega), bd2_s, P_is (by omega), bd2_s, nI_add]
    obtain ⟨S', h1, h2, h3⟩ := ih (k + 1) f (mup S 0 (3471 + 556 * q + (36 + k)) (S.1 0 (3471 + 556 * q + (36 + k + 26)))) (by omega) (by omega)
    refine ⟨S', h1, (mK_up _ _ _).tr h2, fun j => ?_⟩
    rw [h3 j, mup_0]
    unfold upd
    by_cases c1 : 3471 + 556 * q + 36 + (k + 1) ≤ j ∧ j < 3471 + 556 * q + 36 + 26 * n
    · rw [if_pos c1, if_neg (by omega), if_pos (by omega)]
    · rw [if_neg c1]
      by_cases c2 : j = 3471 + 556 * q + 35
      · rw [if_pos c2, if_neg (by omega), if_pos c2]
      · rw [if_neg c2]
        by_cases c3 : j = 3471 + 556 * q + (36 + k)
        · rw [if_pos c3, if_pos (by omega), c3]
          exact congrArg (S.1 0) (by omega)
        · rw [if_neg c3, if_neg (by omega), if_neg c2]
theorem M_goes (hR : RM (S.1 0) w) (hs : WS w) {q i : Nat} (hq : q < (wqs w).length) (hi : i < (wL (wq w q)).length) : ∃ S', fX3_goes (nI q) (nI i) S = some ((), S') ∧ RM (S'.1 0) (eQ w q i) ∧ mK S S' := by
  have h8 := qB hs hq
  obtain ⟨s0, s1, s2, s3, s4⟩ := wsq hs hq
  obtain ⟨n, hn⟩ : ∃ n, (wL (wq w q)).length = n + 1 := ⟨(wL (wq w q)).length - 1, by omega⟩
  unfold fX3_goes
  rw [M_many hR hs hq, bd2_s, hn, show nI (n + 1) - nI 1 = nI n from nI_pred n, nI_mul]
  obtain ⟨S', h1, h2, h3⟩ := M_goes_b (q := q) (n := n) h8 (by omega) (26 * n - 26 * i) (26 * i) FU S (by omega) (by unfold FU; omega)
  refine ⟨S', h1, RM_uQ hR hs hq (fun k hk => ?_) ?_, h2⟩
  · rw [h3, if_neg (by omega), if_neg (by omega)]
  · obtain ⟨r0, r1, r2, r3, r4, r5, r6⟩ := rQ hR hq
    have hlen : ((wL (wq w q)).eraseIdx i).length = n := by rw [List.length_eraseIdx_of_lt hi, hn]; rfl
    refine rmQ_L (rQ hR hq) (wsq hs hq) (fun k hk => ?_) ?_ (fun i' hi' => ?_)
    · rw [h3, if_neg (by omega), if_neg (by omega)]
    · rw [h3, if_neg (by omega), if_pos rfl, hlen]
    · rw [hlen] at hi'
      rw [getD_eraseIdx]
      by_cases c : i' < i
      · rw [if_pos c]
        refine rmL_congr (r6 i' (by omega)) (s4 i' (by omega)) fun k hk => ?_
        dsimp only
        rw [h3, if_neg (by omega), if_neg (by omega)]
      · rw [if_neg c]
        refine rmL_congr (r6 (i' + 1) (by omega)) (s4 (i' + 1) (by omega)) fun k hk => ?_
        dsimp only
        rw [h3, if_pos (by omega)]
        exact congrArg (S.1 0) (by omega)
theorem WS_eQ {w : wW} {q i : Nat} (hs : WS w) (hq : q < (wqs w).length) (hi : i < (wL (wq w q)).length) : WS (eQ w q i) := by
  obtain ⟨s0, s1, s2, s3, s4⟩ := wsq hs hq
  have hlen : ((wL (wq w q)).eraseIdx i).length = (wL (wq w q)).length - 1 := List.length_eraseIdx_of_lt hi
  refine WS_uQ hs hq ⟨s0, s1, s2, ?_, fun j hj => ?_⟩
  · show ((wL (wq w q)).eraseIdx i).length ≤ 20
    omega
  · have hj' : j < ((wL (wq w q)).eraseIdx i).length := hj
    show (((wL (wq w q)).eraseIdx i).getD j (wz, [])).2.length ≤ 5
    rw [getD_eraseIdx]
    split
    · exact s4 j (by omega)
    · exact s4 (j + 1) (by omega)
theorem M_comes_c {q n p : Nat} (hq : q < 8) (hn : n < 20) (hp : p ≤ n) (m : Int32) : ∀ (t k fuel : Nat) (S : mS), k + t = 26 → t < fuel → ∃ S', fX3_comes_b86 fuel (nI q) m (nI n) (nI p) (nI k) S = some ((), S') ∧ mK S S' ∧ ∀ j, S'.1 0 j = if j = 3471 + 556 * q + 35 then nI (n + 1) else if j = 3471 + 556 * q + 36 + 26 * p + 0 then m else if j = 3471 + 556 * q + 36 + 26 * p + 3 ∨ j = 3471 + 556 * q + 36 + 26 * p + 4 then -1 else if 3471 + 556 * q + 36 + 26 * p + k ≤ j ∧ j < 3471 + 556 * q + 36 + 26 * p + 26 then 0 else S.1 0 j := by
  intro t
  induction t with
  | zero =>
    intro k fuel S hk hf
    obtain ⟨f, rfl⟩ : ∃ f, fuel = f + 1 := ⟨fuel - 1, by omega⟩
    unfold fX3_comes_b86
    rw [if_pos (nI_le (by omega) (by omega)), P_lis (by omega), bd2_s, P_lis (by omega), bd2_s, P_lis (by omega), bd2_s, nI_add, P_is (by omega), bd2_s]
    refine ⟨_, rfl, (mK_up _ _ _).tr ((mK_up _ _ _).tr ((mK_up _ _ _).tr (mK_up _ _ _))), fun j => ?_⟩
    rw [mup_0, mup_0, mup_0, mup_0]
    unfold upd
    by_cases c0 : j = 3471 + 556 * q + 35
    · rw [if_pos c0, if_pos c0]
    · rw [if_neg c0, if_neg c0]
      by_cases c1 : j = 3471 + 556 * q + 36 + 26 * p + 0
      · rw [if_pos c1, if_neg (by omega), if_neg (by omega), if_pos (by omega)]
      · rw [if_neg c1]
        by_cases c2 : j = 3471 + 556 * q + 36 + 26 * p + 3 ∨ j = 3471 + 556 * q + 36 + 26 * p + 4
        · rw [if_pos c2]
          by_cases c3 : j = 3471 + 556 * q + (36 + 26 * p + 4)
          · rw [if_pos c3]
          · rw [if_neg c3, if_pos (by omega)]
        · rw [if_neg c2, if_neg (by omega), if_neg (by omega), if_neg (by omega), if_neg (by omega)]
  | succ t ih =>
    intro k fuel S hk hf
    obtain ⟨f, rfl⟩ : ∃ f, fuel = f + 1 := ⟨fuel - 1, by omega⟩
    unfold fX3_comes_b86
    rw [if_neg (nI_ge (by omega) (by omega)), P_lis (by omega), bd2_s, nI_add]
    obtain ⟨S', h1, h2, h3⟩ := ih (k + 1) f (mup S 0 (3471 + 556 * q + (36 + 26 * p + k)) (nI 0)) (by omega) (by omega)
    refine ⟨S', h1, (mK_up _ _ _).tr h2, fun j => ?_⟩
    rw [h3 j, mup_0]
    by_cases c0 : j = 3471 + 556 * q + 35
    · rw [if_pos c0, if_pos c0]
    · rw [if_neg c0, if_neg c0]
      by_cases c1 : j = 3471 + 556 * q + 36 + 26 * p + 0
      · rw [if_pos c1, if_pos c1]
      · rw [if_neg c1, if_neg c1]
        by_cases c2 : j = 3471 + 556 * q + 36 + 26 * p + 3 ∨ j = 3471 + 556 * q + 36 + 26 * p + 4
        · rw [if_pos c2, if_pos c2]
        · rw [if_neg c2, if_neg c2]
          unfold upd
          by_cases c3 : j = 3471 + 556 * q + (36 + 26 * p + k)
          · rw [if_neg (by omega), if_pos c3, if_pos (by omega), nI_0]
          · rw [if_neg c3]
            by_cases c4 : 3471 + 556 * q + 36 + 26 * p + (k + 1) ≤ j ∧ j < 3471 + 556 * q + 36 + 26 * p + 26
            · rw [if_pos c4, if_pos (by omega)]
            · rw [if_neg c4, if_neg (by omega)]
theorem M_comes_b {q n p : Nat} (hq : q < 8) (hn : n < 20) (hp : p ≤ n) (m : Int32) : ∀ (t k fuel : Nat) (S : mS), 26 * p + t = k → k ≤ 26 * n → t < fuel → ∃ S', fX3_comes_b44 fuel (nI q) m (nI n) (nI p) (nI k - nI 1) S = some ((), S') ∧ mK S S' ∧ ∀ j, S'.1 0 j = if j = 3471 + 556 * q + 35 then nI (n + 1) else if j = 3471 + 556 * q + 36 + 26 * p + 0 then m else if j = 3471 + 556 * q + 36 + 26 * p + 3 ∨ j = 3471 + 556 * q + 36 + 26 * p + 4 then -1 else if 3471 + 556 * q + 36 + 26 * p ≤ j ∧ j < 3471 + 556 * q + 36 + 26 * p + 26 then 0 else if 3471 + 556 * q + 36 + 26 * p + 26 ≤ j ∧ j < 3471 + 556 * q + 36 + k + 26 then S.1 0 (j - 26) else S.1 0 j := by
  intro t
  induction t with
  | zero =>
    intro k fuel S hk hkn hf
    obtain ⟨f, rfl⟩ : ∃ f, fuel = f + 1 := ⟨fuel - 1, by omega⟩
    have hlt : nI k - nI 1 < nI (26 * p) := by
      rcases Nat.eq_zero_or_pos p with h0 | h0
      · subst h0
        have hk0 : k = 0 := by omega
        subst hk0
        decide
      · obtain ⟨z, hz⟩ : ∃ z, k = z + 1 := ⟨k - 1, by omega⟩
        rw [hz, show nI (z + 1) - nI 1 = nI z from nI_pred z]
        exact nI_lt (by omega) (by omega)
    unfold fX3_comes_b44
    rw [nI_mul, if_pos hlt]
    obtain ⟨S', h1, h2, h3⟩ := M_comes_c (q := q) (n := n) (p := p) hq hn hp m 26 0 FU S (by omega) (by unfold FU; omega)
    refine ⟨S', h1, h2, fun j => ?_⟩
    rw [h3 j, Nat.add_zero (3471 + 556 * q + 36 + 26 * p)]
    by_cases c0 : 3471 + 556 * q + 36 + 26 * p ≤ j ∧ j < 3471 + 556 * q + 36 + 26 * p + 26
    · rw [if_pos c0, if_pos c0]
    · rw [if_neg c0, if_neg c0, if_neg (show ¬ (3471 + 556 * q + 36 + 26 * p + 26 ≤ j ∧ j < 3471 + 556 * q + 36 + k + 26) by omega)]
  | succ t ih =>
    intro k fuel S hk hkn hf
    obtain ⟨f, rfl⟩ : ∃ f, fuel = f + 1 := ⟨fuel - 1, by omega⟩
    obtain ⟨z, hz⟩ : ∃ z, k = z + 1 := ⟨k - 1, by omega⟩
    have hlt : ¬ nI z < nI (26 * p) := nI_nlt (by omega) (by omega)
    unfold fX3_comes_b44
    rw [hz, show nI (z + 1) - nI 1 = nI z from nI_pred z, nI_mul, if_neg hlt, nI_add, M_of (by omega), bd2_s, nI_add, P_is (by omega), bd2_s, show nI z + (-1) = nI z - nI 1 from (Int32.sub_eq_add_neg (nI z) (nI 1)).symm]
    obtain ⟨S', h1, h2, h3⟩ := ih z f (mup S 0 (3471 + 556 * q + (36 + z + 26)) (S.1 0 (3471 + 556 * q + (36 + z)))) (by omega) (by omega) (by omega)
    refine ⟨S', h1, (mK_up _ _ _).tr h2, fun j => ?_⟩
    rw [h3 j, mup_0]
    by_cases c0 : j = 3471 + 556 * q + 35
    · rw [if_pos c0, if_pos c0]
    · rw [if_neg c0, if_neg c0]
      by_cases c1 : j = 3471 + 556 * q + 36 + 26 * p + 0
      · rw [if_pos c1, if_pos c1]
      · rw [if_neg c1, if_neg c1]
        by_cases c2 : j = 3471 + 556 * q + 36 + 26 * p + 3 ∨ j = 3471 + 556 * q + 36 + 26 * p + 4
        · rw [if_pos c2, if_pos c2]
        · rw [if_neg c2, if_neg c2]
          by_cases c3 : 3471 + 556 * q + 36 + 26 * p ≤ j ∧ j < 3471 + 556 * q + 36 + 26 * p + 26
          · rw [if_pos c3, if_pos c3]
          · rw [if_neg c3, if_neg c3]
            unfold upd
            by_cases c4 : j = 3471 + 556 * q + (36 + z + 26)
            · rw [if_neg (by omega), if_pos c4, if_pos (by omega), c4]
              exact congrArg (S.1 0) (by omega)
            · rw [if_neg c4]
              by_cases c5 : 3471 + 556 * q + 36 + 26 * p + 26 ≤ j ∧ j < 3471 + 556 * q + 36 + z + 26
              · rw [if_pos c5, if_neg (by omega), if_pos (by omega)]
              · rw [if_neg c5, if_neg (by omega)]
theorem M_comes_a (hR : RM (S.1 0) w) (hs : WS w) {q : Nat} (hq : q < (wqs w).length) (m : Int32) (n : Nat) : ∀ (p fuel : Nat), p ≤ (wL (wq w q)).length → p < fuel → fX3_comes_b11 fuel (nI q) m (nI n) (nI p) S = fX3_comes_b36 (nI q) m (nI n) (nI (posD (wq w q) m p)) S := by
  have h20 := (wsq hs hq).2.2.2.1
  intro p
  induction p with
  | zero =>
    intro fuel hp hf
    obtain ⟨f, rfl⟩ : ∃ f, fuel = f + 1 := ⟨fuel - 1, by omega⟩
    unfold fX3_comes_b11
    rw [if_pos (by decide)]
    rfl
  | succ p ih =>
    intro fuel hp hf
    obtain ⟨f, rfl⟩ : ∃ f, fuel = f + 1 := ⟨fuel - 1, by omega⟩
    unfold fX3_comes_b11
    rw [if_neg (nI_nle (by omega) (by omega)), show nI (p + 1) - nI 1 = nI p from nI_pred p, M_l0 hR hs hq (by omega), bd2_s, posD]
    by_cases h : (wl (wq w q) p).1 0 ≤ m
    · rw [if_pos h, if_pos h]
    · rw [if_neg h, if_neg h, show nI (p + 1) + (-1) = nI p from (Int32.sub_eq_add_neg (nI (p + 1)) (nI 1)).symm.trans (nI_pred p), ih f (by omega) (by omega)]
theorem M_comes (hR : RM (S.1 0) w) (hs : WS w) {q : Nat} (hq : q < (wqs w).length) (hl : (wL (wq w q)).length < 20) (m : Int32) : ∃ S', fX3_comes (nI q) m S = some ((), S') ∧ RM (S'.1 0) (coQ w q m) ∧ mK S S' := by
  have h8 := qB hs hq
  obtain ⟨s0, s1, s2, s3, s4⟩ := wsq hs hq
  unfold fX3_comes coQ iQ
  generalize hn : (wL (wq w q)).length = n at hl
  have hp := posD_le (wq w q) m n
  rw [M_many hR hs hq, bd2_s, hn, M_comes_a hR hs hq m n n FU (by omega) (by unfold FU; omega)]
  generalize posD (wq w q) m n = p at hp
  unfold fX3_comes_b36
  rw [nI_mul]
  obtain ⟨S', h1, h2, h3⟩ := M_comes_b (q := q) (n := n) (p := p) h8 hl hp m (26 * n - 26 * p) (26 * n) FU S (by omega) (by omega) (by unfold FU; omega)
  refine ⟨S', h1, RM_uQ hR hs hq (fun k hk => ?_) ?_, h2⟩
  · rw [h3, if_neg (by omega), if_neg (by omega), if_neg (by omega), if_neg (by omega), if_neg (by omega)]
  · obtain ⟨r0, r1, r2, r3, r4, r5, r6⟩ := rQ hR hq
    have hlen : ((wL (wq w q)).insertIdx p (newL m)).length = n + 1 := by rw [List.length_insertIdx_of_le_length (by omega), hn]
    refine rmQ_L (rQ hR hq) (wsq hs hq) (fun k hk => ?_) ?_ (fun i' hi' => ?_)
    · rw [h3, if_neg (by omega), if_neg (by omega), if_neg (by omega), if_neg (by omega), if_neg (by omega)]
    · rw [h3, if_pos rfl, hlen]
    · rw [hlen] at hi'
      rw [getD_insertIdx _ _ _ _ _ (by omega)]
      by_cases c : i' < p
      · rw [if_pos c]
        refine rmL_congr (r6 i' (by omega)) (s4 i' (by omega)) fun k hk => ?_
        dsimp only
        rw [h3, if_neg (by omega), if_neg (by omega), if_neg (by omega), if_neg (by omega), if_neg (by omega)]
      · rw [if_neg c]
        by_cases c2 : i' = p
        · subst c2
          rw [if_pos rfl]
          have hz : ∀ k, k < 26 → k ≠ 0 → k ≠ 3 → k ≠ 4 → S'.1 0 (3471 + 556 * q + (36 + 26 * i' + k)) = 0 := fun k h0 h1 h2 h4 => by
            rw [h3, if_neg (by omega), if_neg (by omega), if_neg (by omega), if_pos (by omega)]
          refine ⟨?_, hz 1 (by omega) (by omega) (by omega) (by omega), hz 2 (by omega) (by omega) (by omega) (by omega), ?_, ?_, hz 5 (by omega) (by omega) (by omega) (by omega), fun i hi => absurd hi (Nat.not_lt_zero i)⟩
          · dsimp only
            rw [h3, if_neg (by omega), if_pos (by omega)]
            rfl
          · dsimp only
            rw [h3, if_neg (by omega), if_neg (by omega), if_pos (by omega)]
            rfl
          · dsimp only
            rw [h3, if_neg (by omega), if_neg (by omega), if_pos (by omega)]
            rfl
        · rw [if_neg c2]
          refine rmL_congr (r6 (i' - 1) (by omega)) (s4 (i' - 1) (by omega)) fun k hk => ?_
          dsimp only
          rw [h3, if_neg (by omega), if_neg (by omega), if_neg (by omega), if_neg (by omega), if_pos (by omega)]
          exact congrArg (S.1 0) (by omega)
end
