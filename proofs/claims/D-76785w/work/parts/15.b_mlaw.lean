/-! THE MODEL'S SIDE, what only reads -/
set_option maxRecDepth 100000
set_option maxHeartbeats 4000000
set_option linter.unusedVariables false
theorem bd_s {α β : Type} (a : α) (k : α → Option β) : bd (some a) k = k a := rfl
theorem bd2_s {α σ β : Type} (a : α) (s : σ) (k : α → σ → Option β) : bd2 (some (a, s)) k = k a s := rfl
theorem nI_mul (a b : Nat) : nI a * nI b = nI (a * b) := (Int32.ofNat_mul a b).symm
theorem zr_1 (S : mS) : zr (nI 1) S = some (nI 1, S) := if_pos (Or.inr rfl)
theorem zr_0 (S : mS) : zr (nI 0) S = some (nI 0, S) := if_pos (Or.inl rfl)
theorem e_mrd {S : mS} {k n i : Nat} (h : i < n) (hn : n < 2 ^ 31) : mrd S k n (nI i) = some (S.1 k i) := by
  unfold mrd
  rw [if_neg (nI_in h hn), nI_clamp (by omega)]
theorem M_of {S : mS} {q k : Nat} (h : 3471 + 556 * q + k < 7919) : fX3_of (nI q) (nI k) S = some (S.1 0 (3471 + 556 * q + k), S) := by
  unfold fX3_of
  rw [nI_mul, nI_add, nI_add, e_mrd h (by decide)]
  rfl
theorem M_ofC {S : mS} {c k : Nat} (h : 11 + 4 * c + k < 7919) : fX3_ofConsumer (nI c) (nI k) S = some (S.1 0 (11 + 4 * c + k), S) := by
  unfold fX3_ofConsumer
  rw [nI_mul, nI_add, nI_add, e_mrd h (by decide)]
  rfl
theorem M_msg {S : mS} {c k : Nat} (h : 51 + 9 * c + k < 7919) : fX3_message (nI c) (nI k) S = some (S.1 0 (51 + 9 * c + k), S) := by
  unfold fX3_message
  rw [nI_mul, nI_add, nI_add, e_mrd h (by decide)]
  rfl
theorem M_lof {S : mS} {q i k : Nat} (h : 3471 + 556 * q + (36 + 26 * i + k) < 7919) : fX3_letterOf (nI q) (nI i) (nI k) S = some (S.1 0 (3471 + 556 * q + (36 + 26 * i + k)), S) := by
  unfold fX3_letterOf
  rw [nI_mul, nI_add, nI_add, M_of h]
  rfl
/-- an index out of the script's ints -/
def idx (n : Nat) (l : Int32) : Option Nat := if l < 0 then none else if l.toNatClampNeg < n then some l.toNatClampNeg else none
theorem idx_some {n i : Nat} {l : Int32} (h : idx n l = some i) : i < n ∧ l = nI i := by
  unfold idx at h
  split at h
  next => cases h
  next h0 =>
    split at h
    next h1 =>
      cases h
      obtain ⟨j, hj, rfl⟩ := nI_of h0
      rw [nI_clamp hj] at h1 ⊢
      exact ⟨h1, rfl⟩
    next => cases h
theorem idx_nI {n i : Nat} (h : i < n) (hn : n < 2 ^ 31) : idx n (nI i) = some i := by
  unfold idx
  rw [if_neg (nI_pos (by omega)), nI_clamp (by omega), if_pos h]
theorem idx_none {n : Nat} {l : Int32} (h : idx n l = none) : l < 0 ∨ ∃ j, n ≤ j ∧ j < 2 ^ 31 ∧ l = nI j := by
  unfold idx at h
  split at h
  next h0 => exact Or.inl h0
  next h0 =>
    split at h
    next => cases h
    next h1 =>
      obtain ⟨j, hj, rfl⟩ := nI_of h0
      rw [nI_clamp hj] at h1
      exact Or.inr ⟨j, by omega, hj, rfl⟩
section
variable {S : mS} {w : wW}
theorem qB (hs : WS w) {q : Nat} (hq : q < (wqs w).length) : q < 8 := Nat.lt_of_lt_of_le hq hs.1
theorem cB (hs : WS w) {c : Nat} (hc : c < (wcs w).length) : c < 10 := Nat.lt_of_lt_of_le hc hs.2.1
theorem mB (hs : WS w) {c : Nat} (hc : c < (wms w).length) : c < 300 := Nat.lt_of_lt_of_le hc hs.2.2.1
theorem lB (hs : WS w) {q i : Nat} (hq : q < (wqs w).length) (hi : i < (wL (wq w q)).length) : i < 20 := Nat.lt_of_lt_of_le hi (hs.2.2.2.2.2.1 q hq).2.2.2.1
theorem rQ (hR : RM (S.1 0) w) {q : Nat} (hq : q < (wqs w).length) : rmQ (fun k => S.1 0 (3471 + 556 * q + k)) (wq w q) := hR.2.2.2.2 q hq
theorem rL (hR : RM (S.1 0) w) {q i : Nat} (hq : q < (wqs w).length) (hi : i < (wL (wq w q)).length) : rmL (fun k => S.1 0 (3471 + 556 * q + (36 + 26 * i + k))) (wl (wq w q) i) := (rQ hR hq).2.2.2.2.2.2 i hi
theorem bL (hB : WB w) {q i : Nat} (hq : q < (wqs w).length) (hi : i < (wL (wq w q)).length) : wbL w (wl (wq w q) i) := (hB.2.2.2.2.2.1 q hq).2.2.2.2.2.2 i hi
theorem M_many (hR : RM (S.1 0) w) (hs : WS w) {q : Nat} (hq : q < (wqs w).length) : fX3_of (nI q) (nI 35) S = some (nI (wL (wq w q)).length, S) := by
  have h8 := qB hs hq
  rw [M_of (by omega)]
  exact congrArg (fun z => some (z, S)) (rQ hR hq).2.2.2.2.2.1
theorem M_sc (hR : RM (S.1 0) w) (hs : WS w) {q k : Nat} (hq : q < (wqs w).length) (h1 : 26 ≤ k) (h2 : k < 35) : fX3_of (nI q) (nI k) S = some ((wq w q).1 k, S) := by
  have h8 := qB hs hq
  rw [M_of (by omega)]
  exact congrArg (fun z => some (z, S)) ((rQ hR hq).2.2.2.2.1 k h1 h2)
theorem M_l0 (hR : RM (S.1 0) w) (hs : WS w) {q i : Nat} (hq : q < (wqs w).length) (hi : i < (wL (wq w q)).length) : fX3_letterOf (nI q) (nI i) (nI 0) S = some ((wl (wq w q) i).1 0, S) := by
  have h8 := qB hs hq
  have h9 := lB hs hq hi
  rw [M_lof (by omega)]
  exact congrArg (fun z => some (z, S)) (rL hR hq hi).1
theorem M_l1 (hR : RM (S.1 0) w) (hs : WS w) {q i : Nat} (hq : q < (wqs w).length) (hi : i < (wL (wq w q)).length) : fX3_letterOf (nI q) (nI i) (nI 1) S = some ((wl (wq w q) i).1 1, S) := by
  have h8 := qB hs hq
  have h9 := lB hs hq hi
  rw [M_lof (by omega)]
  exact congrArg (fun z => some (z, S)) (rL hR hq hi).2.1
theorem M_l2 (hR : RM (S.1 0) w) (hs : WS w) {q i : Nat} (hq : q < (wqs w).length) (hi : i < (wL (wq w q)).length) : fX3_letterOf (nI q) (nI i) (nI 2) S = some (nI (wl (wq w q) i).2.length, S) := by
  have h8 := qB hs hq
  have h9 := lB hs hq hi
  rw [M_lof (by omega)]
  exact congrArg (fun z => some (z, S)) (rL hR hq hi).2.2.1
theorem M_l3 (hR : RM (S.1 0) w) (hs : WS w) {q i : Nat} (hq : q < (wqs w).length) (hi : i < (wL (wq w q)).length) : fX3_letterOf (nI q) (nI i) (nI 3) S = some ((wl (wq w q) i).1 3, S) := by
  have h8 := qB hs hq
  have h9 := lB hs hq hi
  rw [M_lof (by omega)]
  exact congrArg (fun z => some (z, S)) (rL hR hq hi).2.2.2.1
theorem M_l4 (hR : RM (S.1 0) w) (hs : WS w) {q i : Nat} (hq : q < (wqs w).length) (hi : i < (wL (wq w q)).length) : fX3_letterOf (nI q) (nI i) (nI 4) S = some ((wl (wq w q) i).1 4, S) := by
  have h8 := qB hs hq
  have h9 := lB hs hq hi
  rw [M_lof (by omega)]
  exact congrArg (fun z => some (z, S)) (rL hR hq hi).2.2.2.2.1
theorem M_l5 (hR : RM (S.1 0) w) (hs : WS w) {q i : Nat} (hq : q < (wqs w).length) (hi : i < (wL (wq w q)).length) : fX3_letterOf (nI q) (nI i) (nI 5) S = some (nI (wl (wq w q) i).2.length, S) := by
  have h8 := qB hs hq
  have h9 := lB hs hq hi
  rw [M_lof (by omega)]
  exact congrArg (fun z => some (z, S)) (rL hR hq hi).2.2.2.2.2.1
/-- a column of a letter's message -/
theorem M_lm (hR : RM (S.1 0) w) (hB : WB w) {q i k : Nat} (hq : q < (wqs w).length) (hi : i < (wL (wq w q)).length) (hk : k = 5 ∨ k = 6 ∨ k = 7 ∨ k = 8) : fX3_message ((wl (wq w q) i).1 0) (nI k) S = some (wmo w (wl (wq w q) i) k, S) := by
  obtain ⟨⟨m, hm, he⟩, -⟩ := bL hB hq hi
  have h9 := mB hB.ws hm
  unfold wmo
  rw [he, nI_clamp (by omega), M_msg (by omega)]
  obtain ⟨-, r5, r6, r7, r8⟩ := hR.2.2.1 m hm
  rcases hk with rfl | rfl | rfl | rfl
  · exact congrArg (fun z => some (z, S)) r5
  · exact congrArg (fun z => some (z, S)) r6
  · exact congrArg (fun z => some (z, S)) r7
  · exact congrArg (fun z => some (z, S)) r8
theorem M_key (hR : RM (S.1 0) w) (hB : WB w) {q i : Nat} (hq : q < (wqs w).length) (hi : i < (wL (wq w q)).length) : fX3_keyOf (nI q) (nI i) S = some (wmo w (wl (wq w q) i) 5, S) := by
  unfold fX3_keyOf
  rw [M_l0 hR hB.ws hq hi, bd2_s, M_lm hR hB hq hi (Or.inl rfl), bd2_s]
theorem M_C (hR : RM (S.1 0) w) (hs : WS w) {c k : Nat} (hc : c < (wcs w).length) (hk : k < 4) : fX3_ofConsumer (nI c) (nI k) S = some (wc w c k, S) := by
  have h9 := cB hs hc
  rw [M_ofC (by omega)]
  exact congrArg (fun z => some (z, S)) (hR.2.1 c hc k hk)
theorem M_h (hR : RM (S.1 0) w) {k : Nat} (hk : k < 7919) : mrd S 0 7919 (nI k) = some (S.1 0 k, S).1 := e_mrd hk (by decide)
theorem M_nq (hR : RM (S.1 0) w) : mrd S 0 7919 (nI 0) = some (nI (wqs w).length) := (e_mrd (by decide) (by decide)).trans (congrArg some hR.1.1)
theorem M_nc (hR : RM (S.1 0) w) : mrd S 0 7919 (nI 1) = some (nI (wcs w).length) := (e_mrd (by decide) (by decide)).trans (congrArg some hR.1.2.1)
theorem M_nm (hR : RM (S.1 0) w) : mrd S 0 7919 (nI 2) = some (nI (wms w).length) := (e_mrd (by decide) (by decide)).trans (congrArg some hR.1.2.2.1)
theorem M_nd (hR : RM (S.1 0) w) : mrd S 0 7919 (nI 3) = some (nI (wds w).length) := (e_mrd (by decide) (by decide)).trans (congrArg some hR.1.2.2.2.1)
theorem M_now (hR : RM (S.1 0) w) : mrd S 0 7919 (nI 4) = some (wh w 4) := (e_mrd (by decide) (by decide)).trans (congrArg some hR.1.2.2.2.2.1)
theorem M_seed (hR : RM (S.1 0) w) : mrd S 0 7919 (nI 5) = some (wh w 5) := (e_mrd (by decide) (by decide)).trans (congrArg some hR.1.2.2.2.2.2.1)
theorem M_nt (hR : RM (S.1 0) w) : mrd S 0 7919 (nI 6) = some (nI (wtp w).length) := (e_mrd (by decide) (by decide)).trans (congrArg some hR.1.2.2.2.2.2.2.1)
theorem M_tp (hR : RM (S.1 0) w) (hs : WS w) {k : Nat} (hk : k < (wtp w).length) : mrd S 0 7919 (nI (7 + k)) = some ((wtp w).getD k 0) := (e_mrd (by have := hs.2.2.2.2.1; omega) (by decide)).trans (congrArg some (hR.1.2.2.2.2.2.2.2 k hk))
/-- whether a letter may go -/
theorem M_may_b (hR : RM (S.1 0) w) (hB : WB w) {q i : Nat} (hq : q < (wqs w).length) (hi : i < (wL (wq w q)).length) : ∀ (n k fuel : Nat), k + n = i → n < fuel → fX3_may_b14 fuel (nI q) (nI i) (nI k) S = some (if (List.range' k n).all (fun k => decide (wmo w (wl (wq w q) k) 5 ≠ wmo w (wl (wq w q) i) 5)) = true then nI 1 else nI 0, S) := by
  intro n
  have h9 := lB hB.ws hq hi
  induction n with
  | zero =>
    intro k fuel hk hf
    obtain ⟨f, rfl⟩ : ∃ f, fuel = f + 1 := ⟨fuel - 1, by omega⟩
    have hki : k = i := by omega
    subst hki
    unfold fX3_may_b14
    rw [if_pos (nI_le (Nat.le_refl _) (by omega)), zr_1]
    rfl
  | succ n ih =>
    intro k fuel hk hf
    obtain ⟨f, rfl⟩ : ∃ f, fuel = f + 1 := ⟨fuel - 1, by omega⟩
    unfold fX3_may_b14
    rw [if_neg (nI_ge (by omega) (by omega)), M_key hR hB hq (by omega), bd2_s, M_key hR hB hq hi, bd2_s, List.range'_succ, List.all_cons]
    by_cases hc : wmo w (wl (wq w q) k) 5 = wmo w (wl (wq w q) i) 5
    · rw [if_pos hc, zr_0, if_neg (by simp [hc])]
    · rw [if_neg hc, nI_add, ih (k + 1) f (by omega) (by omega), decide_eq_true (p := wmo w (wl (wq w q) k) 5 ≠ wmo w (wl (wq w q) i) 5) hc, Bool.true_and]
theorem M_may (hR : RM (S.1 0) w) (hB : WB w) {q i : Nat} (hq : q < (wqs w).length) (hi : i < (wL (wq w q)).length) : fX3_may (nI q) (nI i) S = some (if mayI w (wq w q) i = true then nI 1 else nI 0, S) := by
  unfold fX3_may mayI
  rw [M_l1 hR hB.ws hq hi, bd2_s]
  have h9 := lB hB.ws hq hi
  by_cases hc : (wl (wq w q) i).1 1 = 0
  · rw [if_pos hc, M_may_b hR hB hq hi i 0 FU (by omega) (by unfold FU; omega), decide_eq_true hc, Bool.true_and, List.range_eq_range']
  · rw [if_neg hc, zr_0, decide_eq_false hc, Bool.false_and]
    rfl
theorem nextS_lt {x : wQue} {b : Option Nat} {i : Nat} (hb : ∀ j, b = some j → j < i) : ∀ j, nextS w x b i = some j → j < i + 1 := by
  intro j hj
  unfold nextS at hj
  split at hj
  · cases hj; omega
  · have := hb j hj; omega
theorem M_next_b (hR : RM (S.1 0) w) (hB : WB w) {q : Nat} (hq : q < (wqs w).length) : ∀ (n i fuel : Nat) (b : Option Nat), i + n = (wL (wq w q)).length → n < fuel → (∀ j, b = some j → j < i) → fX3_nextOf_b4 fuel (nI q) (oI b) (nI i) S = some (oI ((List.range' i n).foldl (nextS w (wq w q)) b), S) := by
  intro n
  have h9 : (wL (wq w q)).length ≤ 20 := (hB.2.2.2.2.2.1 q hq).2.2.2.1
  induction n with
  | zero =>
    intro i fuel b hi hf hb
    obtain ⟨f, rfl⟩ : ∃ f, fuel = f + 1 := ⟨fuel - 1, by omega⟩
    unfold fX3_nextOf_b4
    rw [M_many hR hB.ws hq, bd2_s, if_pos (nI_le (by omega) (by omega))]
    rfl
  | succ n ih =>
    intro i fuel b hi hf hb
    obtain ⟨f, rfl⟩ : ∃ f, fuel = f + 1 := ⟨fuel - 1, by omega⟩
    have hil : i < (wL (wq w q)).length := by omega
    have hb' : ∀ j, b = some j → j < i + 1 := fun j hj => by have := hb j hj; omega
    have hs' : ∀ j, some i = some j → j < i + 1 := fun j hj => by cases hj; omega
    unfold fX3_nextOf_b4
    rw [M_many hR hB.ws hq, bd2_s, if_neg (nI_ge (by omega) (by omega)), M_may hR hB hq hil, bd2_s, List.range'_succ, List.foldl_cons]
    by_cases hm : mayI w (wq w q) i = true
    · rw [if_pos hm, if_neg (by decide)]
      cases b with
      | none =>
        rw [show oI none = (-1 : Int32) from rfl, if_pos (by decide), nI_add, show nI i = oI (some i) from rfl, ih (i + 1) f (some i) (by omega) (by omega) hs']
        unfold nextS
        rw [if_pos ⟨hm, fun j hj => by cases hj⟩]
      | some j =>
        have hj := hb j rfl
        rw [show oI (some j) = nI j from rfl, if_neg (nI_pos (by omega)), M_l0 hR hB.ws hq hil, bd2_s, M_lm hR hB hq hil (Or.inr (Or.inl rfl)), bd2_s, M_l0 hR hB.ws hq (by omega), bd2_s, M_lm hR hB hq (by omega) (Or.inr (Or.inl rfl)), bd2_s]
        by_cases hp : wmo w (wl (wq w q) i) 6 ≤ wmo w (wl (wq w q) j) 6
        · rw [if_pos hp, nI_add, show nI j = oI (some j) from rfl, ih (i + 1) f (some j) (by omega) (by omega) hb']
          unfold nextS
          rw [if_neg (fun h => by have := h.2 j rfl; exact absurd hp (Int32.not_le.mpr this))]
        · rw [if_neg hp, nI_add, show nI i = oI (some i) from rfl, ih (i + 1) f (some i) (by omega) (by omega) hs']
          unfold nextS
          rw [if_pos ⟨hm, fun j' hj' => by cases hj'; exact Int32.not_le.mp hp⟩]
    · rw [if_neg hm, if_pos (by decide), nI_add, ih (i + 1) f b (by omega) (by omega) hb']
      unfold nextS
      rw [if_neg (fun h => hm h.1)]
theorem M_next (hR : RM (S.1 0) w) (hB : WB w) {q : Nat} (hq : q < (wqs w).length) : fX3_nextOf (nI q) S = some (oI (nextI w (wq w q)), S) := by
  have h9 : (wL (wq w q)).length ≤ 20 := (hB.2.2.2.2.2.1 q hq).2.2.2.1
  unfold fX3_nextOf nextI
  rw [show (-1 : Int32) = oI none from rfl, M_next_b hR hB hq (wL (wq w q)).length 0 FU none (by omega) (by unfold FU; omega) (fun j hj => by cases hj), List.range_eq_range']
end
