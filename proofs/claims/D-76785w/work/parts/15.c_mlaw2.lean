/-! THE MODEL'S SIDE, what only reads: ranges, consumers, patterns -/
set_option maxRecDepth 100000
set_option maxHeartbeats 4000000
set_option linter.unusedVariables false
abbrev nB (b : Bool) : Int32 := if b = true then nI 1 else nI 0
theorem nB_ne {b : Bool} : nB b = 0 ↔ b = false := by cases b <;> decide
theorem if_nB {α : Sort _} {b : Bool} {x y : α} : (if nB b = 0 then x else y) = if b = true then y else x := by
  cases b
  · rw [if_pos (by decide), if_neg (by decide)]
  · rw [if_neg (by decide), if_pos rfl]
theorem zr_B (b : Bool) (S : mS) : zr (nB b) S = some (nB b, S) := by
  cases b
  · exact zr_0 S
  · exact zr_1 S
def inR (a b : Nat) (l : Int32) : Bool := decide (nI a ≤ l) && decide (l ≤ nI b)
theorem le64 {x y : Int32} : x.toInt64 ≤ y.toInt64 ↔ x ≤ y := by
  rw [Int64.le_iff_toInt_le, Int32.le_iff_toInt_le, Int32.toInt_toInt64, Int32.toInt_toInt64]
theorem M_in9 {S : mS} (a b l : Int32) : fX3_in l.toInt64 a.toInt64 b.toInt64 S = some (nB (decide (a ≤ l) && decide (l ≤ b)), S) := by
  unfold fX3_in
  by_cases h1 : a ≤ l
  · have h1' : ¬ lg_cmp l.toInt64 a.toInt64 < 0 := by rw [lg_cmp_lt]; exact Int64.not_lt.mpr (le64.mpr h1)
    rw [if_neg h1', decide_eq_true h1, Bool.true_and]
    by_cases h2 : l ≤ b
    · rw [if_neg (by rw [lg_cmp_gt]; exact Int64.not_lt.mpr (le64.mpr h2)), decide_eq_true h2, zr_1]
      rfl
    · rw [if_pos (by rw [lg_cmp_gt]; exact Int64.not_le.mp (fun h => h2 (le64.mp h))), decide_eq_false h2, zr_0]
      rfl
  · rw [if_pos (by rw [lg_cmp_lt]; exact Int64.not_le.mp (fun h => h1 (le64.mp h))), decide_eq_false h1, zr_0]
    rfl
theorem M_in {S : mS} {a b : Nat} (ha : a < 2 ^ 31) (hb : b < 2 ^ 31) (l : Int32) : fX3_in l.toInt64 (lN a) (lN b) S = some (nB (inR a b l), S) := by
  rw [← nI_l ha, ← nI_l hb, M_in9]
  rfl
theorem idx_le {n : Nat} (hn : n < 2 ^ 31) (l : Int32) : (decide (nI 0 ≤ l) && decide (l ≤ nI n - nI 1)) = (idx n l).isSome := by
  cases h : idx n l with
  | some i =>
    obtain ⟨h1, rfl⟩ := idx_some h
    obtain ⟨k, rfl⟩ : ∃ k, n = k + 1 := ⟨n - 1, by omega⟩
    have h2 : nI (k + 1) - nI 1 = nI k := nI_pred k
    rw [h2, decide_eq_true (nI_le (Nat.zero_le _) (by omega)), decide_eq_true (nI_le (by omega) (by omega))]
    rfl
  | none =>
    rcases idx_none h with h1 | ⟨j, h1, h2, rfl⟩
    · rw [decide_eq_false (fun hh => by rw [nI_0] at hh; exact absurd h1 (Int32.not_lt.mpr hh)), Bool.false_and]
      rfl
    · cases n with
      | zero =>
        have h3 : ¬ nI j ≤ nI 0 - nI 1 := fun hh => by
          have := Int32.le_iff_toInt_le.mp hh
          rw [nI_toInt h2] at this
          have h4 : (nI 0 - nI 1).toInt = -1 := by decide
          omega
        rw [decide_eq_false h3, Bool.and_false]
        rfl
      | succ k =>
        have h3 : nI (k + 1) - nI 1 = nI k := nI_pred k
        rw [h3, decide_eq_false (nI_ge (by omega) h2), Bool.and_false]
        rfl
theorem M_inN {S : mS} {n : Nat} (hn : n < 2 ^ 31) (l : Int32) : fX3_in l.toInt64 (lN 0) ((nI n - nI 1).toInt64) S = some (nB (idx n l).isSome, S) := by
  rw [← nI_l (n := 0) (by decide), M_in9, idx_le hn]
theorem nI_rem {a b : Nat} (ha : a < 2 ^ 31) (hb : b < 2 ^ 31) (h0 : 0 < b) : mrem (nI a) (nI b) = some (nI (a % b)) := by
  unfold mrem
  rw [if_neg (nI_ne0 h0 hb)]
  have h1 : nI a / nI b = nI (a / b) := by
    apply Int32.toInt_inj.mp
    have h5 : a / b ≤ a := Nat.div_le_self a b
    rw [Int32.toInt_div, nI_toInt ha, nI_toInt hb, nI_toInt (by omega)]
    have h6 : (a : Int).tdiv (b : Int) = ((a / b : Nat) : Int) := by
      rw [Int.tdiv_eq_ediv_of_nonneg (Int.natCast_nonneg a)]
      rfl
    rw [h6]
    clear h6
    generalize a / b = z at h5 ⊢
    exact Int.bmod_eq_of_le (by omega) (by omega)
  rw [h1, nI_mul]
  refine congrArg some ?_
  have h2 : a = a % b + a / b * b := by rw [Nat.mul_comm]; exact (Nat.mod_add_div a b).symm
  have h3 : nI a = nI (a % b) + nI (a / b * b) := by rw [nI_add, ← h2]
  rw [h3, Int32.add_sub_cancel]
section
variable {S : mS} {w : wW}
theorem M_isQ (hR : RM (S.1 0) w) (hB : WB w) (l : Int32) : fX3_isQueue l S = some (nB (idx (wqs w).length l).isSome, S) := by
  have h := hB.1
  unfold fX3_isQueue
  rw [M_nq hR, bd_s, M_inN (by omega), bd2_s, zr_B]
theorem M_isC (hR : RM (S.1 0) w) (hB : WB w) (l : Int32) : fX3_isConsumer l S = some (nB (idx (wcs w).length l).isSome, S) := by
  have h := hB.2.1
  unfold fX3_isConsumer
  rw [M_nc hR, bd_s, M_inN (by omega), bd2_s, zr_B]
def isHereI (w : wW) (l : Int32) : Option Nat := match idx (wcs w).length l with
  | some c => if wc w c 2 = 0 then some c else none
  | none => none
theorem M_isH (hR : RM (S.1 0) w) (hB : WB w) (l : Int32) : fX3_isHere l S = some (nB (isHereI w l).isSome, S) := by
  unfold fX3_isHere isHereI
  rw [M_isC hR hB, bd2_s, if_nB]
  cases h : idx (wcs w).length l with
  | none =>
    rw [if_neg (by simp), zr_0]
    rfl
  | some c =>
    obtain ⟨hc, rfl⟩ := idx_some h
    rw [if_pos (show (some c).isSome = true from rfl), M_C hR hB.ws hc (by omega), bd2_s]
    by_cases h2 : wc w c 2 = 0
    · rw [if_pos h2, zr_1]
      simp [h2]
    · rw [if_neg h2, zr_0]
      simp [h2]
theorem M_isHn (hR : RM (S.1 0) w) (hB : WB w) {c : Nat} (hc : c < (wcs w).length) : fX3_isHere (nI c) S = some (nB (decide (wc w c 2 = 0)), S) := by
  have h := hB.2.1
  rw [M_isH hR hB]
  unfold isHereI
  rw [idx_nI hc (by omega)]
  by_cases h2 : wc w c 2 = 0 <;> simp [h2]
theorem M_whoE (hR : RM (S.1 0) w) (hB : WB w) {q : Nat} (hq : q < (wqs w).length) : ∀ (n c fuel : Nat), c + n = (wcs w).length → n < fuel → fX3_who_b13 fuel (nI q) (nI c) S = some (oI (match (List.range' c n).find? (hereC w q) with | some c => if creditC w c then some c else none | none => none), S) := by
  intro n
  have h9 := hB.2.1
  have h8 := qB hB.ws hq
  induction n with
  | zero =>
    intro c fuel hc hf
    obtain ⟨f, rfl⟩ : ∃ f, fuel = f + 1 := ⟨fuel - 1, by omega⟩
    unfold fX3_who_b13
    rw [M_nc hR, bd_s, if_pos (nI_le (by omega) (by omega))]
    rfl
  | succ n ih =>
    intro c fuel hc hf
    obtain ⟨f, rfl⟩ : ∃ f, fuel = f + 1 := ⟨fuel - 1, by omega⟩
    have hcl : c < (wcs w).length := by omega
    unfold fX3_who_b13
    rw [M_nc hR, bd_s, if_neg (nI_ge (by omega) (by omega)), M_isHn hR hB hcl, bd2_s, if_nB, List.range'_succ, List.find?_cons]
    by_cases h2 : wc w c 2 = 0
    · rw [if_pos (decide_eq_true h2), M_C hR hB.ws hcl (by omega), bd2_s]
      by_cases h0 : wc w c 0 = nI q
      · have hh : hereC w q c = true := by unfold hereC; rw [decide_eq_true h2, decide_eq_true h0]; rfl
        rw [if_pos h0, M_C hR hB.ws hcl (by omega), bd2_s, hh]
        by_cases h1 : wc w c 1 ≤ 0
        · rw [if_pos h1]
          have hk : creditC w c = false := by unfold creditC; exact decide_eq_false (Int32.not_lt.mpr h1)
          simp [hk, oI]
        · rw [if_neg h1]
          have hk : creditC w c = true := by unfold creditC; exact decide_eq_true (Int32.not_le.mp h1)
          simp [hk, oI]
      · have hh : hereC w q c = false := by unfold hereC; rw [decide_eq_false h0, Bool.and_false]
        rw [if_neg h0, nI_add, ih (c + 1) f (by omega) (by omega), hh]
    · have hh : hereC w q c = false := by unfold hereC; rw [decide_eq_false h2, Bool.false_and]
      rw [if_neg (by simpa using h2), nI_add, ih (c + 1) f (by omega) (by omega), hh]
theorem lat_add (hB : WB w) {q : Nat} (hq : q < (wqs w).length) (k : Nat) : (wq w q).1 31 + nI (k + 1) = nI (latest1 (wq w q) + k) ∧ latest1 (wq w q) ≤ 10 := by
  have h9 := hB.2.1
  unfold latest1
  rcases (hB.2.2.2.2.2.1 q hq).2.2.2.2.1 with h | ⟨c, hc, h⟩
  · rw [h]
    have e : ((-1 : Int32) + 1).toNatClampNeg = 0 := by decide
    rw [e]
    refine ⟨?_, Nat.zero_le _⟩
    rw [Nat.zero_add, nI_succ, ← Int32.add_assoc, Int32.add_comm (-1) (nI k), Int32.add_assoc, show (-1 : Int32) + 1 = 0 from by decide, Int32.add_zero]
  · rw [h, nI_1, nI_clamp (by omega), nI_add]
    exact ⟨congrArg nI (by omega), by omega⟩
theorem M_whoR (hR : RM (S.1 0) w) (hB : WB w) {q : Nat} (hq : q < (wqs w).length) : ∀ (n k fuel : Nat), k + n = (wcs w).length → n < fuel → fX3_who_b66 fuel (nI q) (nI (k + 1)) S = some (oI (((List.range' k n).map fun k => (latest1 (wq w q) + k) % (wcs w).length).find? fun c => hereC w q c && creditC w c), S) := by
  intro n
  have h9 := hB.2.1
  have h8 := qB hB.ws hq
  induction n with
  | zero =>
    intro k fuel hc hf
    obtain ⟨f, rfl⟩ : ∃ f, fuel = f + 1 := ⟨fuel - 1, by omega⟩
    unfold fX3_who_b66
    rw [M_nc hR, bd_s, if_pos (nI_lt (by omega) (by omega))]
    rfl
  | succ n ih =>
    intro k fuel hc hf
    obtain ⟨f, rfl⟩ : ∃ f, fuel = f + 1 := ⟨fuel - 1, by omega⟩
    obtain ⟨hl1, hl2⟩ := lat_add hB hq k
    have hpos : 0 < (wcs w).length := by omega
    have hcl : (latest1 (wq w q) + k) % (wcs w).length < (wcs w).length := Nat.mod_lt _ hpos
    unfold fX3_who_b66
    rw [M_nc hR, bd_s, if_neg (nI_nlt (by omega) (by omega)), M_sc hR hB.ws hq (by omega) (by omega), bd2_s, M_nc hR, bd_s, hl1, nI_rem (by omega) (by omega) hpos, bd_s, M_isHn hR hB hcl, bd2_s, if_nB, List.range'_succ, List.map_cons, List.find?_cons]
    generalize hcv : (latest1 (wq w q) + k) % (wcs w).length = c at hcl ⊢
    by_cases h2 : wc w c 2 = 0
    · rw [if_pos (decide_eq_true h2), M_C hR hB.ws hcl (by omega), bd2_s]
      by_cases h0 : wc w c 0 = nI q
      · have hh : hereC w q c = true := by unfold hereC; rw [decide_eq_true h2, decide_eq_true h0]; rfl
        rw [if_pos h0, M_C hR hB.ws hcl (by omega), bd2_s, hh]
        by_cases h1 : wc w c 1 ≤ 0
        · rw [if_pos h1, nI_add, ih (k + 1) f (by omega) (by omega)]
          have hk : creditC w c = false := by unfold creditC; exact decide_eq_false (Int32.not_lt.mpr h1)
          rw [hk]
          rfl
        · rw [if_neg h1]
          have hk : creditC w c = true := by unfold creditC; exact decide_eq_true (Int32.not_le.mp h1)
          rw [hk]
          rfl
      · have hh : hereC w q c = false := by unfold hereC; rw [decide_eq_false h0, Bool.and_false]
        rw [if_neg h0, nI_add, ih (k + 1) f (by omega) (by omega), hh]
        rfl
    · have hh : hereC w q c = false := by unfold hereC; rw [decide_eq_false h2, Bool.false_and]
      rw [if_neg (by simpa using h2), nI_add, ih (k + 1) f (by omega) (by omega), hh]
      rfl
theorem M_who (hR : RM (S.1 0) w) (hB : WB w) {q : Nat} (hq : q < (wqs w).length) : fX3_who (nI q) S = some (oI (whoI w q), S) := by
  have h9 := hB.2.1
  unfold fX3_who whoI
  rw [M_sc hR hB.ws hq (by omega) (by omega), bd2_s]
  by_cases h : (wq w q).1 30 = 1
  · have h' : (wq w q).1 30 = nI 1 := h
    rw [if_pos h', if_pos h, M_whoE hR hB hq (wcs w).length 0 FU (by omega) (by unfold FU; omega)]
    unfold whoE
    rw [List.range_eq_range']
    rfl
  · have h' : ¬ (wq w q).1 30 = nI 1 := h
    rw [if_neg h', if_neg h, show nI 1 = nI (0 + 1) from rfl, M_whoR hR hB hq (wcs w).length 0 FU (by omega) (by unfold FU; omega)]
    unfold whoR
    rw [List.range_eq_range']
end
