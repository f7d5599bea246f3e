/-! THE MODEL'S SIDE, what only reads: counts and patterns -/
set_option maxRecDepth 100000
set_option maxHeartbeats 4000000
set_option linter.unusedVariables false
theorem wBq {w : wW} (hB : WB w) {q : Nat} (hq : q < (wqs w).length) : wbQ w (wq w q) := hB.2.2.2.2.2.1 q hq
theorem countP_c {α : Type} {p : α → Bool} {a : α} {l : List α} (x : Int32) : x + nI ((a :: l).countP p) = x + nB (p a) + nI (l.countP p) := by
  rw [List.countP_cons]
  cases h : p a
  · rw [if_neg (by decide), Nat.add_zero, show nB false = 0 from rfl, Int32.add_zero]
  · rw [if_pos rfl, show nB true = nI 1 from rfl, Int32.add_assoc, nI_add, Nat.add_comm]
section
variable {S : mS} {w : wW}
theorem M_letters_b (hR : RM (S.1 0) w) (hB : WB w) {q : Nat} (hq : q < (wqs w).length) (st : Int32) : ∀ (n i fuel : Nat) (a : Int32), i + n = (wL (wq w q)).length → n < fuel → fX3_lettersOf_b5 fuel (nI q) st a (nI i) S = some (a + nI ((List.range' i n).countP fun i => decide ((wl (wq w q) i).1 1 = st)), S) := by
  intro n
  have h9 : (wL (wq w q)).length ≤ 20 := (wBq hB hq).2.2.2.1
  induction n with
  | zero =>
    intro i fuel a hi hf
    obtain ⟨f, rfl⟩ : ∃ f, fuel = f + 1 := ⟨fuel - 1, by omega⟩
    unfold fX3_lettersOf_b5
    rw [M_many hR hB.ws hq, bd2_s, if_pos (nI_le (by omega) (by omega))]
    simp [nI_0]
  | succ n ih =>
    intro i fuel a hi hf
    obtain ⟨f, rfl⟩ : ∃ f, fuel = f + 1 := ⟨fuel - 1, by omega⟩
    have hil : i < (wL (wq w q)).length := by omega
    unfold fX3_lettersOf_b5
    rw [M_many hR hB.ws hq, bd2_s, if_neg (nI_ge (by omega) (by omega)), M_l1 hR hB.ws hq hil, bd2_s, List.range'_succ, countP_c, nI_add]
    by_cases h : (wl (wq w q) i).1 1 = st
    · rw [if_pos h, ih (i + 1) f _ (by omega) (by omega), decide_eq_true h]
      rfl
    · rw [if_neg h, ih (i + 1) f _ (by omega) (by omega), decide_eq_false h]
      rfl
theorem M_letters (hR : RM (S.1 0) w) (hB : WB w) {q : Nat} (hq : q < (wqs w).length) (st : Int32) : fX3_lettersOf (nI q) st S = some (nI ((List.range (wL (wq w q)).length).countP fun i => decide ((wl (wq w q) i).1 1 = st)), S) := by
  have h9 : (wL (wq w q)).length ≤ 20 := (wBq hB hq).2.2.2.1
  unfold fX3_lettersOf
  rw [M_letters_b hR hB hq st (wL (wq w q)).length 0 FU _ (by omega) (by unfold FU; omega), List.range_eq_range', nI_0, Int32.zero_add]
theorem M_mayMany_b (hR : RM (S.1 0) w) (hB : WB w) {q : Nat} (hq : q < (wqs w).length) : ∀ (n i fuel : Nat) (a : Int32), i + n = (wL (wq w q)).length → n < fuel → fX3_mayMany_b4 fuel (nI q) a (nI i) S = some (a + nI ((List.range' i n).countP fun i => mayI w (wq w q) i), S) := by
  intro n
  have h9 : (wL (wq w q)).length ≤ 20 := (wBq hB hq).2.2.2.1
  induction n with
  | zero =>
    intro i fuel a hi hf
    obtain ⟨f, rfl⟩ : ∃ f, fuel = f + 1 := ⟨fuel - 1, by omega⟩
    unfold fX3_mayMany_b4
    rw [M_many hR hB.ws hq, bd2_s, if_pos (nI_le (by omega) (by omega))]
    simp [nI_0]
  | succ n ih =>
    intro i fuel a hi hf
    obtain ⟨f, rfl⟩ : ∃ f, fuel = f + 1 := ⟨fuel - 1, by omega⟩
    have hil : i < (wL (wq w q)).length := by omega
    unfold fX3_mayMany_b4
    rw [M_many hR hB.ws hq, bd2_s, if_neg (nI_ge (by omega) (by omega)), M_may hR hB hq hil, bd2_s, List.range'_succ, countP_c, nI_add]
    cases h : mayI w (wq w q) i
    · rw [if_pos (by rfl), ih (i + 1) f _ (by omega) (by omega)]
      rfl
    · rw [if_neg (by decide), ih (i + 1) f _ (by omega) (by omega)]
      rfl
theorem M_mayMany (hR : RM (S.1 0) w) (hB : WB w) {q : Nat} (hq : q < (wqs w).length) : fX3_mayMany (nI q) S = some (nI ((List.range (wL (wq w q)).length).countP fun i => mayI w (wq w q) i), S) := by
  have h9 : (wL (wq w q)).length ≤ 20 := (wBq hB hq).2.2.2.1
  unfold fX3_mayMany
  rw [M_mayMany_b hR hB hq (wL (wq w q)).length 0 FU _ (by omega) (by unfold FU; omega), List.range_eq_range', nI_0, Int32.zero_add]
theorem M_outOf_b (hR : RM (S.1 0) w) (hB : WB w) {q : Nat} (hq : q < (wqs w).length) (c : Int32) : ∀ (n i fuel : Nat) (a : Int32), i + n = (wL (wq w q)).length → n < fuel → fX3_outOf_b12 fuel c (nI q) a (nI i) S = some (a + nI ((List.range' i n).countP fun i => decide ((wl (wq w q) i).1 3 = c)), S) := by
  intro n
  have h9 : (wL (wq w q)).length ≤ 20 := (wBq hB hq).2.2.2.1
  induction n with
  | zero =>
    intro i fuel a hi hf
    obtain ⟨f, rfl⟩ : ∃ f, fuel = f + 1 := ⟨fuel - 1, by omega⟩
    unfold fX3_outOf_b12
    rw [M_many hR hB.ws hq, bd2_s, if_pos (nI_le (by omega) (by omega))]
    simp [nI_0]
  | succ n ih =>
    intro i fuel a hi hf
    obtain ⟨f, rfl⟩ : ∃ f, fuel = f + 1 := ⟨fuel - 1, by omega⟩
    have hil : i < (wL (wq w q)).length := by omega
    unfold fX3_outOf_b12
    rw [M_many hR hB.ws hq, bd2_s, if_neg (nI_ge (by omega) (by omega)), M_l3 hR hB.ws hq hil, bd2_s, List.range'_succ, countP_c, nI_add]
    by_cases h : (wl (wq w q) i).1 3 = c
    · rw [if_pos h, ih (i + 1) f _ (by omega) (by omega), decide_eq_true h]
      rfl
    · rw [if_neg h, ih (i + 1) f _ (by omega) (by omega), decide_eq_false h]
      rfl
/-- a consumer's queue -/
def cq (w : wW) (c : Nat) : Nat := (wc w c 0).toNatClampNeg
theorem cq_lt (hB : WB w) {c : Nat} (hc : c < (wcs w).length) : cq w c < (wqs w).length ∧ wc w c 0 = nI (cq w c) := by
  obtain ⟨q, hq, he⟩ := hB.2.2.2.2.2.2.1 c hc
  have h8 := qB hB.ws hq
  unfold cq
  rw [he, nI_clamp (by omega)]
  exact ⟨hq, rfl⟩
theorem M_outOf (hR : RM (S.1 0) w) (hB : WB w) {c : Nat} (hc : c < (wcs w).length) : fX3_outOf (nI c) S = some (nI (outN (wq w (cq w c)) c), S) := by
  obtain ⟨hq, he⟩ := cq_lt hB hc
  have h9 : (wL (wq w (cq w c))).length ≤ 20 := (wBq hB hq).2.2.2.1
  unfold fX3_outOf outN
  rw [M_C hR hB.ws hc (by omega), bd2_s, he, M_outOf_b hR hB hq _ (wL (wq w (cq w c))).length 0 FU _ (by omega) (by unfold FU; omega), List.range_eq_range', nI_0, Int32.zero_add]
theorem M_outAt_b (hR : RM (S.1 0) w) (hB : WB w) {q : Nat} (hq : q < (wqs w).length) (c m : Int32) : ∀ (n i fuel : Nat), i + n = (wL (wq w q)).length → n < fuel → fX3_outAt_b10 fuel c m (nI q) (nI i) S = some (oI ((List.range' i n).find? fun i => decide ((wl (wq w q) i).1 3 = c) && (decide (m < 0) || decide ((wl (wq w q) i).1 0 = m))), S) := by
  intro n
  have h9 : (wL (wq w q)).length ≤ 20 := (wBq hB hq).2.2.2.1
  induction n with
  | zero =>
    intro i fuel hi hf
    obtain ⟨f, rfl⟩ : ∃ f, fuel = f + 1 := ⟨fuel - 1, by omega⟩
    unfold fX3_outAt_b10
    rw [M_many hR hB.ws hq, bd2_s, if_pos (nI_le (by omega) (by omega))]
    rfl
  | succ n ih =>
    intro i fuel hi hf
    obtain ⟨f, rfl⟩ : ∃ f, fuel = f + 1 := ⟨fuel - 1, by omega⟩
    have hil : i < (wL (wq w q)).length := by omega
    unfold fX3_outAt_b10
    rw [M_many hR hB.ws hq, bd2_s, if_neg (nI_ge (by omega) (by omega)), M_l3 hR hB.ws hq hil, bd2_s, List.range'_succ, List.find?_cons]
    by_cases h : (wl (wq w q) i).1 3 = c
    · rw [if_pos h, decide_eq_true h, Bool.true_and]
      by_cases h2 : m < 0
      · rw [if_pos h2, decide_eq_true h2]
        rfl
      · rw [if_neg h2, M_l0 hR hB.ws hq hil, bd2_s, decide_eq_false h2, Bool.false_or]
        by_cases h3 : (wl (wq w q) i).1 0 = m
        · rw [if_pos h3, decide_eq_true h3]
          rfl
        · rw [if_neg h3, decide_eq_false h3, nI_add, ih (i + 1) f (by omega) (by omega)]
          simp only [decide_eq_false h2, Bool.false_or]
    · rw [if_neg h, decide_eq_false h, Bool.false_and, nI_add, ih (i + 1) f (by omega) (by omega)]
theorem M_outAt (hR : RM (S.1 0) w) (hB : WB w) {c : Nat} (hc : c < (wcs w).length) (m : Int32) : fX3_outAt (nI c) m S = some (oI (outI (wq w (cq w c)) c m), S) := by
  obtain ⟨hq, he⟩ := cq_lt hB hc
  have h9 : (wL (wq w (cq w c))).length ≤ 20 := (wBq hB hq).2.2.2.1
  unfold fX3_outAt outI
  rw [M_C hR hB.ws hc (by omega), bd2_s, he, M_outAt_b hR hB hq _ m (wL (wq w (cq w c))).length 0 FU (by omega) (by unfold FU; omega), List.range_eq_range']
theorem M_consN_b (hR : RM (S.1 0) w) (hB : WB w) {q : Nat} (hq : q < (wqs w).length) (b : Bool) : ∀ (n c fuel : Nat) (a : Int32), c + n = (wcs w).length → n < fuel → fX3_consumersOf_b5 fuel (nI q) (nB b) a (nI c) S = some ((List.range' c n).foldl (fun n c => if hereC w q c then n + (if b = true then wc w c 1 else nI 1) else n) a, S) := by
  intro n
  have h9 := hB.2.1
  induction n with
  | zero =>
    intro c fuel a hc hf
    obtain ⟨f, rfl⟩ : ∃ f, fuel = f + 1 := ⟨fuel - 1, by omega⟩
    unfold fX3_consumersOf_b5
    rw [M_nc hR, bd_s, if_pos (nI_le (by omega) (by omega))]
    rfl
  | succ n ih =>
    intro c fuel a hc hf
    obtain ⟨f, rfl⟩ : ∃ f, fuel = f + 1 := ⟨fuel - 1, by omega⟩
    have hcl : c < (wcs w).length := by omega
    unfold fX3_consumersOf_b5
    rw [M_nc hR, bd_s, if_neg (nI_ge (by omega) (by omega)), M_isHn hR hB hcl, bd2_s, if_nB, List.range'_succ, List.foldl_cons, nI_add]
    by_cases h2 : wc w c 2 = 0
    · rw [if_pos (decide_eq_true h2), M_C hR hB.ws hcl (by omega), bd2_s]
      by_cases h0 : wc w c 0 = nI q
      · have hh : hereC w q c = true := by unfold hereC; rw [decide_eq_true h2, decide_eq_true h0]; rfl
        rw [if_pos h0, if_nB, hh, if_pos rfl]
        cases b
        · rw [if_neg (by decide), if_neg (by decide), ih (c + 1) f _ (by omega) (by omega)]
        · rw [if_pos rfl, if_pos rfl, M_C hR hB.ws hcl (by omega), bd2_s, ih (c + 1) f _ (by omega) (by omega)]
      · have hh : hereC w q c = false := by unfold hereC; rw [decide_eq_false h0, Bool.and_false]
        rw [if_neg h0, hh, if_neg (by decide), ih (c + 1) f _ (by omega) (by omega)]
    · have hh : hereC w q c = false := by unfold hereC; rw [decide_eq_false h2, Bool.false_and]
      rw [if_neg (by simpa using h2), hh, if_neg (by decide), ih (c + 1) f _ (by omega) (by omega)]
/-- what a queue's consumers are, or their credits together -/
def consI (w : wW) (q : Nat) (b : Bool) : Int32 := (List.range (wcs w).length).foldl (fun n c => if hereC w q c then n + (if b = true then wc w c 1 else nI 1) else n) (nI 0)
theorem M_consN (hR : RM (S.1 0) w) (hB : WB w) {q : Nat} (hq : q < (wqs w).length) (b : Bool) : fX3_consumersOf (nI q) (nB b) S = some (consI w q b, S) := by
  have h9 := hB.2.1
  unfold fX3_consumersOf consI
  rw [M_consN_b hR hB hq b (wcs w).length 0 FU _ (by omega) (by unfold FU; omega), List.range_eq_range']
-- patterns
theorem getLast_at {P : List Int32} (h : 1 ≤ P.length) : P.getLast? = some (P.getD (P.length - 1) 0) := by
  rw [List.getLast?_eq_getElem?, List.getD_eq_getElem?_getD, List.getElem?_eq_getElem (show P.length - 1 < P.length by omega)]
  rfl
theorem M_long (hR : RM (S.1 0) w) (hB : WB w) {q n : Nat} (hq : q < (wqs w).length) (hn : n < 2 ^ 31) : fX3_isLong (nI q) (nI n) S = some (nB (pLong (wq w q).2.1 n), S) := by
  obtain ⟨r0, r1, -⟩ := rQ hR hq
  obtain ⟨b0, b1, -⟩ := wBq hB hq
  have h8 := qB hB.ws hq
  have e0 : fX3_of (nI q) (nI 0) S = some (nI (wq w q).2.1.length, S) := by
    rw [M_of (by omega)]
    exact congrArg (fun z => some (z, S)) r0
  have e1 : fX3_of (nI q) (nI (wq w q).2.1.length) S = some ((wq w q).2.1.getD ((wq w q).2.1.length - 1) 0, S) := by
    rw [M_of (by omega)]
    have := r1 ((wq w q).2.1.length - 1) (by omega)
    rw [show 1 + ((wq w q).2.1.length - 1) = (wq w q).2.1.length by omega] at this
    exact congrArg (fun z => some (z, S)) this
  unfold fX3_isLong
  rw [e0, bd2_s, e1, bd2_s]
  unfold pLong pOpen
  rw [getLast_at b0]
  by_cases h : (wq w q).2.1.getD ((wq w q).2.1.length - 1) 0 = -3
  · rw [if_pos h, if_pos (decide_eq_true (congrArg some h))]
    unfold fX3_isLong_b21
    rw [if_neg (by decide), e0, bd2_s]
    obtain ⟨k, hk⟩ : ∃ k, (wq w q).2.1.length = k + 1 := ⟨(wq w q).2.1.length - 1, by omega⟩
    have hp : nI (k + 1) - nI 1 = nI k := nI_pred k
    rw [hk, hp]
    by_cases h2 : n < k
    · rw [if_pos (nI_lt h2 (by omega)), zr_0, decide_eq_false (by omega)]
      rfl
    · rw [if_neg (nI_nlt (by omega) hn), zr_1, decide_eq_true (by omega)]
      rfl
  · rw [if_neg h, if_neg (by rw [decide_eq_true_iff]; exact fun hh => h (Option.some.inj hh))]
    unfold fX3_isLong_b21
    rw [if_pos (by decide), e0, bd2_s]
    by_cases h2 : n = (wq w q).2.1.length
    · rw [if_pos (congrArg nI h2), zr_1, decide_eq_true h2]
      rfl
    · rw [if_neg (fun hh => h2 ((nI_eq hn (by omega)).mp hh)), zr_0, decide_eq_false h2]
      rfl
theorem M_part (hR : RM (S.1 0) w) (hB : WB w) {q k : Nat} (hq : q < (wqs w).length) (hk : k < 2 ^ 30) : fX3_partOf (nI q) (nI k) S = some (pAt (wq w q).2.1 k, S) := by
  obtain ⟨r0, r1, -⟩ := rQ hR hq
  obtain ⟨b0, b1, -⟩ := wBq hB hq
  have h8 := qB hB.ws hq
  have e0 : fX3_of (nI q) (nI 0) S = some (nI (wq w q).2.1.length, S) := by
    rw [M_of (by omega)]
    exact congrArg (fun z => some (z, S)) r0
  unfold fX3_partOf pAt
  rw [e0, bd2_s]
  by_cases h : (wq w q).2.1.length ≤ k
  · rw [if_pos (nI_le h (by omega)), if_pos h]
  · rw [if_neg (nI_ge (by omega) (by omega)), if_neg h]
    have e1 : fX3_of (nI q) (nI 1 + nI k) S = some ((wq w q).2.1.getD k 0, S) := by
      rw [nI_add, M_of (by omega)]
      exact congrArg (fun z => some (z, S)) (r1 k (by omega))
    rw [e1, bd2_s]
    by_cases h2 : (wq w q).2.1.getD k 0 = -3
    · rw [if_pos h2, if_pos h2]
    · rw [if_neg h2, if_neg h2, e1, bd2_s]
theorem M_fit_b (hR : RM (S.1 0) w) (hB : WB w) {q : Nat} (hq : q < (wqs w).length) : ∀ (n k fuel : Nat), k + n = (wtp w).length → n < fuel → fX3_isFit_b19 fuel (nI q) (nI k) S = some (nB ((List.range' k n).all fun k => decide (pAt (wq w q).2.1 k = -2) || decide (pAt (wq w q).2.1 k = (wtp w).getD k 0)), S) := by
  intro n
  have h9 : (wtp w).length ≤ 4 := hB.2.2.2.2.1
  induction n with
  | zero =>
    intro k fuel hc hf
    obtain ⟨f, rfl⟩ : ∃ f, fuel = f + 1 := ⟨fuel - 1, by omega⟩
    unfold fX3_isFit_b19
    rw [M_nt hR, bd_s, if_pos (nI_le (by omega) (by omega)), zr_1]
    rfl
  | succ n ih =>
    intro k fuel hc hf
    obtain ⟨f, rfl⟩ : ∃ f, fuel = f + 1 := ⟨fuel - 1, by omega⟩
    unfold fX3_isFit_b19
    rw [M_nt hR, bd_s, if_neg (nI_ge (by omega) (by omega)), M_part hR hB hq (by omega), bd2_s, List.range'_succ, List.all_cons]
    by_cases h : pAt (wq w q).2.1 k = -2
    · rw [if_pos h, nI_add, ih (k + 1) f (by omega) (by omega), decide_eq_true h, Bool.true_or, Bool.true_and]
    · rw [if_neg h, M_part hR hB hq (by omega), bd2_s, nI_add, M_tp hR hB.ws (by omega), bd_s, decide_eq_false h, Bool.false_or]
      by_cases h2 : pAt (wq w q).2.1 k = (wtp w).getD k 0
      · rw [if_pos h2, nI_add, ih (k + 1) f (by omega) (by omega), decide_eq_true h2, Bool.true_and]
      · rw [if_neg h2, zr_0, decide_eq_false h2, Bool.false_and]
        rfl
theorem M_fit (hR : RM (S.1 0) w) (hB : WB w) {q : Nat} (hq : q < (wqs w).length) : fX3_isFit (nI q) S = some (nB (pFit (wq w q).2.1 (wtp w)), S) := by
  have h9 : (wtp w).length ≤ 4 := hB.2.2.2.2.1
  unfold fX3_isFit pFit
  rw [M_nt hR, bd_s, M_long hR hB hq (by omega), bd2_s, if_nB]
  cases h : pLong (wq w q).2.1 (wtp w).length
  · rw [if_neg (by decide), zr_0, Bool.false_and]
    rfl
  · rw [if_pos rfl, M_fit_b hR hB hq (wtp w).length 0 FU (by omega) (by unfold FU; omega), List.range_eq_range', Bool.true_and]
end
