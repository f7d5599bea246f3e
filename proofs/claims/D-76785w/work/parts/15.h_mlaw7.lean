/-! THE MODEL'S SIDE, what writes: dying, failing, credits, giving -/
set_option maxRecDepth 100000
set_option maxHeartbeats 4000000
set_option linter.unusedVariables false
theorem wq_nd {w : wW} {q : Nat} (hq : q < (wqs w).length) (m : Int32) (cs : List wF) : wq (ndW w q m cs) q = (upd (wq w q).1 34 ((wq w q).1 34 + 1), (wq w q).2) := by
  unfold ndW uS
  rw [wq_uQ (w := uD w (dF w ++ [(dN m q (wh w 4), cs)])) hq, if_pos rfl]
  rfl
theorem len_nd (w : wW) (q : Nat) (m : Int32) (cs : List wF) : (wqs (ndW w q m cs)).length = (wqs w).length := len_uQ (uD w (dF w ++ [(dN m q (wh w 4), cs)])) q _
theorem WS_dF {w : wW} (hs : WS w) : ∀ i, i < (dF w).length → ((dF w).getD i (wz, [])).2.length ≤ 5 := by
  intro i hi
  unfold dF at hi ⊢
  split at hi
  next h =>
    rw [if_pos h, getD_tail]
    rw [List.length_tail] at hi
    exact hs.2.2.2.2.2.2 (i + 1) (by omega)
  next h =>
    rw [if_neg h]
    exact hs.2.2.2.2.2.2 i hi
theorem WS_nd {w : wW} (hs : WS w) {q : Nat} (hq : q < (wqs w).length) (m : Int32) {cs : List wF} (hc : cs.length ≤ 5) : WS (ndW w q m cs) := by
  have h29 := dF_len hs
  refine WS_uS (w := uD w (dF w ++ [(dN m q (wh w 4), cs)])) (WS_uD hs (by rw [List.length_append]; show (dF w).length + 1 ≤ 30; omega) fun i hi => ?_) hq _ _
  rw [List.length_append] at hi
  have hi' : i < (dF w).length + 1 := hi
  rw [getD_snoc _ _ _ _ hi']
  split
  · exact WS_dF hs i (by omega)
  · exact hc
section
variable {S : mS} {w : wW}
theorem M_dies_b {q i a many t0 : Nat} (hq : q < 8) (hi : i < 20) (hm : many + t0 ≤ 5) (ha : 2751 ≤ a) (ha2 : a ≤ 3447) : ∀ (t k fuel : Nat) (S : mS), k + t = 4 * many → t < fuel → ∃ S1, fX3_dies_b56 fuel (nI q) (nI i) (nI a) (nI many) (nI t0) (nI k) S = bd2 (fX3_goes (nI q) (nI i) S1) (fun _ S3 => some ((), S3)) ∧ mK S S1 ∧ ∀ j, S1.1 0 j = if j = a + 3 then nI (many + t0) else if a + 4 + 4 * t0 + k ≤ j ∧ j < a + 4 + 4 * t0 + 4 * many then S.1 0 (3471 + 556 * q + (36 + 26 * i + (6 + (j - (a + 4 + 4 * t0))))) else S.1 0 j := by
  intro t
  induction t with
  | zero =>
    intro k fuel S hk hf
    obtain ⟨f, rfl⟩ : ∃ f, fuel = f + 1 := ⟨fuel - 1, by omega⟩
    unfold fX3_dies_b56
    rw [nI_mul, if_pos (nI_le (by omega) (by omega)), nI_add, nI_add, e_mwr (by omega) (by decide), bd_s]
    refine ⟨_, rfl, mK_up _ _ _, fun j => ?_⟩
    rw [mup_0]
    unfold upd
    by_cases c : j = a + 3
    · rw [if_pos c, if_pos c]
    · rw [if_neg c, if_neg c, if_neg (by omega)]
  | succ t ih =>
    intro k fuel S hk hf
    obtain ⟨f, rfl⟩ : ∃ f, fuel = f + 1 := ⟨fuel - 1, by omega⟩
    unfold fX3_dies_b56
    rw [nI_mul, if_neg (nI_ge (by omega) (by omega)), nI_add, M_lof (by omega), bd2_s, nI_add, nI_mul, nI_add, nI_add, e_mwr (by omega) (by decide), bd_s, nI_add]
    obtain ⟨S1, h1, h2, h3⟩ := ih (k + 1) f (mup S 0 (a + 4 + 4 * t0 + k) (S.1 0 (3471 + 556 * q + (36 + 26 * i + (6 + k))))) (by omega) (by omega)
    refine ⟨S1, h1, (mK_up _ _ _).tr h2, fun j => ?_⟩
    rw [h3 j, mup_0]
    unfold upd
    by_cases c : j = a + 3
    · rw [if_pos c, if_pos c]
    · rw [if_neg c, if_neg c]
      by_cases c1 : a + 4 + 4 * t0 + (k + 1) ≤ j ∧ j < a + 4 + 4 * t0 + 4 * many
      · rw [if_pos c1, if_neg (by omega), if_pos (by omega)]
      · rw [if_neg c1]
        by_cases c2 : j = a + 4 + 4 * t0 + k
        · rw [if_pos c2, if_pos (by omega), c2]
          exact congrArg (S.1 0) (by omega)
        · rw [if_neg c2, if_neg (by omega)]
/-- behind the making of the dead one: its causes are laid, the letter goes -/
theorem M_dies_c {S2 S1 : mS} {w : wW} (hs : WS w) {q i : Nat} (hq : q < (wqs w).length) (hi : i < (wL (wq w q)).length) {m : Int32} {cs : List wF} (hc : cs.length ≤ 5) (hR2 : RM (S2.1 0) (ndW w q m [])) (hf : ∀ j, j < 2751 + 24 * (dF w).length + 3 ∨ 2751 + 24 * (dF w).length + 24 ≤ j → S1.1 0 j = S2.1 0 j) (h3 : S1.1 0 (2751 + 24 * (dF w).length + 3) = nI cs.length) (hcs : rmC (fun k => S1.1 0 (2751 + 24 * (dF w).length + (4 + k))) cs) (hm : m = (wl (wq w q) i).1 0) :
    ∃ S', bd2 (fX3_goes (nI q) (nI i) S1) (fun _ S3 => some ((), S3)) = some ((), S') ∧ RM (S'.1 0) (diW w q i cs) ∧ mK S1 S' := by
  subst hm
  have h29 := dF_len hs
  have hs2 := WS_nd hs hq ((wl (wq w q) i).1 0) (cs := []) (Nat.zero_le 5)
  have hs3 := WS_nd hs hq ((wl (wq w q) i).1 0) hc
  have hR3 : RM (S1.1 0) (ndW w q ((wl (wq w q) i).1 0) cs) := by
    have hR9 : RM (S1.1 0) (uD (ndW w q ((wl (wq w q) i).1 0) []) (dF w ++ [(dN ((wl (wq w q) i).1 0) q (wh w 4), cs)])) := by
      refine RM_uD hR2 hs2 (fun k hk3 hk => hf k (by omega)) ?_ (fun i' hi' => ?_)
      · rw [hf 3 (by omega)]
        have := hR2.1.2.2.2.1
        rw [this]
        exact congrArg nI (by rw [List.length_append]; exact List.length_append)
      · rw [List.length_append] at hi'
        have hi2 : i' < (dF w).length + 1 := hi'
        have old := hR2.2.2.2.1 i' (by show i' < (dF w ++ [_]).length; rw [List.length_append]; exact hi')
        have old' : rmD (fun k => S2.1 0 (2751 + 24 * i' + k)) ((dF w ++ [(dN ((wl (wq w q) i).1 0) q (wh w 4), [])]).getD i' (wz, [])) := old
        rw [getD_snoc _ _ _ _ hi2] at old' ⊢
        by_cases c : i' < (dF w).length
        · rw [if_pos c] at old' ⊢
          exact rmD_congr old' (WS_dF hs i' c) fun k hk => hf _ (by omega)
        · have e : i' = (dF w).length := by omega
          subst e
          rw [if_neg c] at old' ⊢
          obtain ⟨o0, o1, o2, -, -⟩ := old'
          exact ⟨(hf _ (by omega)).trans o0, (hf _ (by omega)).trans o1, (hf _ (by omega)).trans o2, h3, hcs⟩
    exact hR9
  have hq3 : q < (wqs (ndW w q ((wl (wq w q) i).1 0) cs)).length := by rw [len_nd]; exact hq
  have hi3 : i < (wL (wq (ndW w q ((wl (wq w q) i).1 0) cs) q)).length := by rw [wq_nd hq]; exact hi
  obtain ⟨S', k1, k2, k3⟩ := M_goes hR3 hs3 hq3 hi3
  rw [k1, bd2_s]
  exact ⟨S', rfl, k2, k3⟩
theorem M_dies0 (hR : RM (S.1 0) w) (hs : WS w) {q i : Nat} (hq : q < (wqs w).length) (hi : i < (wL (wq w q)).length) : ∃ S', fX3_dies (nI q) (nI i) (nI 0) (nI 0) S = some ((), S') ∧ RM (S'.1 0) (diW w q i (wl (wq w q) i).2) ∧ mK S S' := by
  have h8 := qB hs hq
  have h20 := lB hs hq hi
  have h29 := dF_len hs
  have hc5 := (wsq hs hq).2.2.2.2 i hi
  unfold fX3_dies
  rw [M_l0 hR hs hq hi, bd2_s]
  obtain ⟨S2, k1, k2, k3⟩ := M_newDead hR hs hq ((wl (wq w q) i).1 0)
  have hs2 := WS_nd hs hq ((wl (wq w q) i).1 0) (cs := []) (Nat.zero_le 5)
  have hq2 : q < (wqs (ndW w q ((wl (wq w q) i).1 0) [])).length := by rw [len_nd]; exact hq
  have hi2 : i < (wL (wq (ndW w q ((wl (wq w q) i).1 0) []) q)).length := by rw [wq_nd hq]; exact hi
  have el : wl (wq (ndW w q ((wl (wq w q) i).1 0) []) q) i = wl (wq w q) i := by rw [wq_nd hq]; rfl
  rw [k1, bd2_s, M_l5 k2 hs2 hq2 hi2, bd2_s, el, if_pos (by decide)]
  unfold fX3_dies_b32 fX3_dies_b53
  rw [if_neg (by decide)]
  obtain ⟨S1, h1, h2, h3⟩ := M_dies_b (q := q) (i := i) (a := 2751 + 24 * (dF w).length) (many := (wl (wq w q) i).2.length) (t0 := 0) h8 h20 (by omega) (by omega) (by omega) (4 * (wl (wq w q) i).2.length) 0 FU S2 (by omega) (by unfold FU; omega)
  rw [h1]
  have rl := rL k2 hq2 hi2
  rw [el] at rl
  obtain ⟨S', g1, g2, g3⟩ := M_dies_c (S1 := S1) hs hq hi hc5 k2 (fun j hj => by rw [h3, if_neg (by omega), if_neg (by omega)]) (by rw [h3, if_pos rfl]; rfl) (fun j hj k hk => by
    dsimp only
    rw [h3, if_neg (by omega), if_pos (by omega)]
    have := rl.2.2.2.2.2.2 j hj k hk
    refine Eq.trans ?_ this
    exact congrArg (S2.1 0) (by omega)) rfl
  exact ⟨S', g1, g2, k3.tr (h2.tr g3)⟩
theorem M_dies1 (hR : RM (S.1 0) w) (hs : WS w) {q i : Nat} (hq : q < (wqs w).length) (hi : i < (wL (wq w q)).length) (h4 : (wl (wq w q) i).2.length ≤ 4) (number : Int32) : ∃ S', fX3_dies (nI q) (nI i) (nI 5) number S = some ((), S') ∧ RM (S'.1 0) (diW w q i (mkC 5 (wh w 4) number (nI (wl (wq w q) i).2.length) :: (wl (wq w q) i).2)) ∧ mK S S' := by
  have h8 := qB hs hq
  have h20 := lB hs hq hi
  have h29 := dF_len hs
  unfold fX3_dies
  rw [M_l0 hR hs hq hi, bd2_s]
  obtain ⟨S2, k1, k2, k3⟩ := M_newDead hR hs hq ((wl (wq w q) i).1 0)
  have hs2 := WS_nd hs hq ((wl (wq w q) i).1 0) (cs := []) (Nat.zero_le 5)
  have hq2 : q < (wqs (ndW w q ((wl (wq w q) i).1 0) [])).length := by rw [len_nd]; exact hq
  have hi2 : i < (wL (wq (ndW w q ((wl (wq w q) i).1 0) []) q)).length := by rw [wq_nd hq]; exact hi
  have el : wl (wq (ndW w q ((wl (wq w q) i).1 0) []) q) i = wl (wq w q) i := by rw [wq_nd hq]; rfl
  rw [k1, bd2_s, M_l5 k2 hs2 hq2 hi2, bd2_s, el, if_neg (by decide)]
  unfold fX3_dies_b32 fX3_dies_b53
  rw [if_pos rfl, nI_add]
  obtain ⟨S3, a1, a2, a3⟩ := M_ahead (a := 2751 + 24 * (dF w).length + 4) (by omega) (by omega) (nI (wl (wq w q) i).2.length) (nI 5) number S2
  rw [a1, bd2_s]
  obtain ⟨S1, h1, h2, h3⟩ := M_dies_b (q := q) (i := i) (a := 2751 + 24 * (dF w).length) (many := (wl (wq w q) i).2.length) (t0 := 1) h8 h20 (by omega) (by omega) (by omega) (4 * (wl (wq w q) i).2.length) 0 FU S3 (by omega) (by unfold FU; omega)
  rw [h1]
  have rl := rL k2 hq2 hi2
  rw [el] at rl
  have hnow : S2.1 0 4 = wh w 4 := k2.1.2.2.2.2.1
  obtain ⟨S', g1, g2, g3⟩ := M_dies_c (S1 := S1) (cs := mkC 5 (wh w 4) number (nI (wl (wq w q) i).2.length) :: (wl (wq w q) i).2) hs hq hi (by rw [List.length_cons]; omega) k2 (fun j hj => by rw [h3, if_neg (by omega), if_neg (by omega), a3, if_neg (by omega), if_neg (by omega), if_neg (by omega), if_neg (by omega)]) (by rw [h3, if_pos rfl]; rfl) (fun j hj k hk => by
    dsimp only
    rw [List.length_cons] at hj
    cases j with
    | zero =>
      rw [h3, if_neg (by omega), if_neg (by omega), a3]
      show _ = mkC 5 (wh w 4) number (nI (wl (wq w q) i).2.length) k
      rcases (show k = 0 ∨ k = 1 ∨ k = 2 ∨ k = 3 by omega) with rfl | rfl | rfl | rfl
      · rw [if_pos (by omega)]; rfl
      · rw [if_neg (by omega), if_pos (by omega), hnow]; rfl
      · rw [if_neg (by omega), if_neg (by omega), if_pos (by omega)]; rfl
      · rw [if_neg (by omega), if_neg (by omega), if_neg (by omega), if_pos (by omega)]; rfl
    | succ j =>
      rw [h3, if_neg (by omega), if_pos (by omega), a3, if_neg (by omega), if_neg (by omega), if_neg (by omega), if_neg (by omega)]
      have := rl.2.2.2.2.2.2 j (by omega) k hk
      refine Eq.trans ?_ this
      exact congrArg (S2.1 0) (by omega)) rfl
  exact ⟨S', g1, g2, k3.tr (a2.tr (h2.tr g3))⟩
theorem M_fails_b {q i : Nat} (hq : q < 8) (hi : i < 20) (what who l5 l6 : Int32) : ∀ (t fuel : Nat) (S : mS), t ≤ 16 → t < fuel → ∃ (f : Nat) (S1 : mS), fX3_fails_b28 fuel (nI q) (nI i) what who l5 l6 (nI t - nI 1) S = fX3_fails_b28 (f + 1) (nI q) (nI i) what who l5 l6 (nI 0 - nI 1) S1 ∧ mK S S1 ∧ ∀ j, S1.1 0 j = if 3471 + 556 * q + (36 + 26 * i + 10) ≤ j ∧ j < 3471 + 556 * q + (36 + 26 * i + 10) + t then S.1 0 (j - 4) else S.1 0 j := by
  intro t
  induction t with
  | zero =>
    intro fuel S ht hf
    obtain ⟨f, rfl⟩ : ∃ f, fuel = f + 1 := ⟨fuel - 1, by omega⟩
    refine ⟨f, S, rfl, mK.rf, fun j => ?_⟩
    rw [if_neg (by omega)]
  | succ t ih =>
    intro fuel S ht hf
    obtain ⟨f, rfl⟩ : ∃ f, fuel = f + 1 := ⟨fuel - 1, by omega⟩
    obtain ⟨f', S1, h1, h2, h3⟩ := ih f (mup S 0 (3471 + 556 * q + (36 + 26 * i + (10 + t))) (S.1 0 (3471 + 556 * q + (36 + 26 * i + (6 + t))))) (by omega) (by omega)
    refine ⟨f', S1, ?_, (mK_up _ _ _).tr h2, fun j => ?_⟩
    · rw [show nI (t + 1) - nI 1 = nI t from nI_pred t]
      rw [fX3_fails_b28]
      rw [if_neg (nI_pos (by omega)), nI_add, M_lof (by omega), bd2_s, nI_add, P_lis (by omega), bd2_s, show nI t + (-1) = nI t - nI 1 from (Int32.sub_eq_add_neg (nI t) (nI 1)).symm]
      exact h1
    · rw [h3 j, mup_0]
      unfold upd
      by_cases c : j = 3471 + 556 * q + (36 + 26 * i + (10 + t))
      · rw [if_neg (by omega), if_pos c, if_pos (by omega), c]
        exact congrArg (S.1 0) (by omega)
      · rw [if_neg c]
        by_cases c1 : 3471 + 556 * q + (36 + 26 * i + 10) ≤ j ∧ j < 3471 + 556 * q + (36 + 26 * i + 10) + t
        · rw [if_pos c1, if_neg (by omega), if_pos (by omega)]
        · rw [if_neg c1, if_neg (by omega)]
theorem M_fails (hR : RM (S.1 0) w) (hs : WS w) (hW : ∀ j, j < 6 → S.1 4 j = waitI j) {q i : Nat} (hq : q < (wqs w).length) (hi : i < (wL (wq w q)).length) (h4 : (wl (wq w q) i).2.length ≤ 4) (what who : Int32) : ∃ S', fX3_fails (nI q) (nI i) what who S = some (nB (faW w q i what who).1, S') ∧ RM (S'.1 0) (faW w q i what who).2 ∧ mK S S' := by
  have h8 := qB hs hq
  have h20 := lB hs hq hi
  unfold fX3_fails
  rw [M_l2 hR hs hq hi, bd2_s, M_l5 hR hs hq hi, bd2_s, nI_mul, nI_add]
  generalize hl : wl (wq w q) i = lt at h4
  obtain ⟨f, S1, h1, h2, h3⟩ := M_fails_b (q := q) (i := i) h8 h20 what who (nI (lt.2.length + 1)) (nI lt.2.length) (4 * lt.2.length) FU S (by omega) (by unfold FU; omega)
  rw [h1, fX3_fails_b28, if_pos (by decide), nI_mul, nI_mul, nI_add, nI_add, nI_add, nI_add]
  obtain ⟨S2, a1, a2, a3⟩ := M_ahead (a := 3471 + 556 * q + 36 + 26 * i + 6) (by omega) (by omega) (nI (lt.2.length + 1)) what who S1
  rw [a1, bd2_s, nI_add, P_lis (by omega), bd2_s, P_lis (by omega), bd2_s, P_lis (by omega), bd2_s]
  generalize hS5 : mup (mup (mup S2 0 (3471 + 556 * q + (36 + 26 * i + 5)) (nI (lt.2.length + 1))) 0 (3471 + 556 * q + (36 + 26 * i + 2)) (nI (lt.2.length + 1))) 0 (3471 + 556 * q + (36 + 26 * i + 3)) (-1) = S5
  have k5 : mK S S5 := by
    rw [← hS5]
    exact h2.tr (a2.tr ((mK_up _ _ _).tr ((mK_up _ _ _).tr (mK_up _ _ _))))
  have h5n : S5.1 0 4 = wh w 4 := by
    rw [← hS5, mup_0, mup_0, mup_0]
    unfold upd
    rw [if_neg (by omega), if_neg (by omega), if_neg (by omega), a3, if_neg (by omega), if_neg (by omega), if_neg (by omega), if_neg (by omega), h3, if_neg (by omega)]
    exact hR.1.2.2.2.2.1
  have h5w : mrd S5 4 6 (nI (lt.2.length + 1)) = some (waitI (lt.2.length + 1)) := by
    rw [e_mrd (by omega) (by decide), k5.1 4 (by decide), hW _ (by omega)]
  rw [e_mrd (by decide) (by decide), bd_s, h5n, h5w, bd_s, P_lis (by omega), bd2_s, P_lis (by omega), bd2_s]
  generalize hS9 : mup (mup S5 0 (3471 + 556 * q + (36 + 26 * i + 4)) (wh w 4 + waitI (lt.2.length + 1))) 0 (3471 + 556 * q + (36 + 26 * i + 1)) (nI 1) = S9
  have k9 : mK S S9 := by
    rw [← hS9]
    exact k5.tr ((mK_up _ _ _).tr (mK_up _ _ _))
  have hg : ∀ j, S9.1 0 j = if j = 3471 + 556 * q + (36 + 26 * i + 1) then nI 1 else if j = 3471 + 556 * q + (36 + 26 * i + 4) then wh w 4 + waitI (lt.2.length + 1) else if j = 3471 + 556 * q + (36 + 26 * i + 3) then -1 else if j = 3471 + 556 * q + (36 + 26 * i + 2) ∨ j = 3471 + 556 * q + (36 + 26 * i + 5) then nI (lt.2.length + 1) else S2.1 0 j := by
    intro j
    rw [← hS9, mup_0, mup_0, ← hS5, mup_0, mup_0, mup_0]
    unfold upd
    by_cases c1 : j = 3471 + 556 * q + (36 + 26 * i + 1)
    · rw [if_pos c1, if_pos c1]
    · rw [if_neg c1, if_neg c1]
      by_cases c4 : j = 3471 + 556 * q + (36 + 26 * i + 4)
      · rw [if_pos c4, if_pos c4]
      · rw [if_neg c4, if_neg c4]
        by_cases c3 : j = 3471 + 556 * q + (36 + 26 * i + 3)
        · rw [if_pos c3, if_pos c3]
        · rw [if_neg c3, if_neg c3]
          by_cases c2 : j = 3471 + 556 * q + (36 + 26 * i + 2)
          · rw [if_pos c2, if_pos (Or.inl c2)]
          · rw [if_neg c2]
            by_cases c5 : j = 3471 + 556 * q + (36 + 26 * i + 5)
            · rw [if_pos c5, if_pos (Or.inr c5)]
            · rw [if_neg c5, if_neg (by omega)]
  obtain ⟨t0, t1, t2, t3, t4, t5, t6⟩ := rL hR hq hi
  rw [hl] at t0 t1 t2 t3 t4 t5 t6
  have hR9 : RM (S9.1 0) (uLet w q i (faL w lt what who)) := by
    refine RM_uLet hR hs hq hi (fun k hk => ?_) ?_
    · rw [hg, if_neg (by omega), if_neg (by omega), if_neg (by omega), if_neg (by omega), a3, if_neg (by omega), if_neg (by omega), if_neg (by omega), if_neg (by omega), h3, if_neg (by omega)]
    · refine ⟨?_, ?_, ?_, ?_, ?_, ?_, fun j hj k hk => ?_⟩
      · dsimp only
        rw [hg, if_neg (by omega), if_neg (by omega), if_neg (by omega), if_neg (by omega), a3, if_neg (by omega), if_neg (by omega), if_neg (by omega), if_neg (by omega), h3, if_neg (by omega)]
        exact t0
      · dsimp only
        rw [hg, if_pos rfl]
        rfl
      · dsimp only
        rw [hg, if_neg (by omega), if_neg (by omega), if_neg (by omega), if_pos (by omega)]
        rfl
      · dsimp only
        rw [hg, if_neg (by omega), if_neg (by omega), if_pos rfl]
        rfl
      · dsimp only
        rw [hg, if_neg (by omega), if_pos rfl]
        rfl
      · dsimp only
        rw [hg, if_neg (by omega), if_neg (by omega), if_neg (by omega), if_pos (by omega)]
        rfl
      · have hj' : j < lt.2.length + 1 := hj
        dsimp only
        rw [hg, if_neg (by omega), if_neg (by omega), if_neg (by omega), if_neg (by omega), a3]
        cases j with
        | zero =>
          show _ = mkC what (wh w 4) who (nI (lt.2.length + 1)) k
          have hn1 : S1.1 0 4 = wh w 4 := by
            rw [h3, if_neg (by omega)]
            exact hR.1.2.2.2.2.1
          rcases (show k = 0 ∨ k = 1 ∨ k = 2 ∨ k = 3 by omega) with rfl | rfl | rfl | rfl
          · rw [if_pos (by omega)]; rfl
          · rw [if_neg (by omega), if_pos (by omega), hn1]; rfl
          · rw [if_neg (by omega), if_neg (by omega), if_pos (by omega)]; rfl
          · rw [if_neg (by omega), if_neg (by omega), if_neg (by omega), if_pos (by omega)]; rfl
        | succ j =>
          rw [if_neg (by omega), if_neg (by omega), if_neg (by omega), if_neg (by omega), h3, if_pos (by omega)]
          refine Eq.trans ?_ (t6 j (by omega) k hk)
          exact congrArg (S.1 0) (by omega)
  have hs9 : WS (uLet w q i (faL w lt what who)) := WS_uLet hs hq (by show lt.2.length + 1 ≤ 5; omega)
  have hq9 : q < (wqs (uLet w q i (faL w lt what who))).length := by unfold uLet; rw [len_uQ]; exact hq
  have ew : wq (uLet w q i (faL w lt what who)) q = qL (wq w q) ((wL (wq w q)).set i (faL w lt what who)) := by unfold uLet; rw [wq_uQ hq, if_pos rfl]
  rw [M_sc hR9 hs9 hq9 (by decide) (by decide), bd2_s]
  have e27 : (wq (uLet w q i (faL w lt what who)) q).1 27 = (wq w q).1 27 := by rw [ew]; rfl
  rw [e27]
  unfold faW
  rw [hl]
  have elen : (faL w lt what who).2.length = lt.2.length + 1 := rfl
  by_cases ht : nI (lt.2.length + 1) = (wq w q).1 27
  · rw [if_pos ht]
    dsimp only
    rw [elen, if_pos ht]
    have hi9 : i < (wL (wq (uLet w q i (faL w lt what who)) q)).length := by
      rw [ew]
      show i < ((wL (wq w q)).set i _).length
      rw [List.length_set]; exact hi
    have el9 : wl (wq (uLet w q i (faL w lt what who)) q) i = faL w lt what who := by
      rw [ew]
      show ((wL (wq w q)).set i _).getD i _ = _
      rw [getD_set, if_pos ⟨rfl, hi⟩]
    obtain ⟨S', d1, d2, d3⟩ := M_dies0 hR9 hs9 hq9 hi9
    rw [el9] at d2
    rw [d1, bd2_s, zr_1]
    exact ⟨S', rfl, d2, k9.tr d3⟩
  · rw [if_neg ht]
    dsimp only
    rw [elen, if_neg ht, zr_0]
    exact ⟨S9, rfl, hR9, k9⟩
theorem M_credits (hR : RM (S.1 0) w) (hs : WS w) {c : Nat} (hc : c < (wcs w).length) : ∃ S', fX3_credits (nI c) S = some ((), S') ∧ RM (S'.1 0) (crW w c) ∧ mK S S' := by
  have h9 := cB hs hc
  unfold fX3_credits crW
  rw [M_C hR hs hc (by decide), bd2_s, nI_mul, nI_add, nI_add]
  obtain ⟨S', k1, k2, k3⟩ := P_C hR hs hc (k := 1) (by decide) (if wc w c 1 + 1 < 9 then wc w c 1 + 1 else 9)
  have k1' : mwr S 0 7919 (nI (11 + 4 * c + 1)) (if wc w c 1 + nI 1 < nI 9 then wc w c 1 + nI 1 else nI 9) = some S' := k1
  rw [k1', bd_s]
  exact ⟨S', rfl, k2, k3⟩
end
