/-! THE MODEL'S SIDE: time passes -/
set_option maxRecDepth 100000
set_option maxHeartbeats 4000000
set_option linter.unusedVariables false
theorem wq_uLet {w : wW} {q : Nat} (hq : q < (wqs w).length) (i : Nat) (l : wLet) : wq (uLet w q i l) q = qL (wq w q) ((wL (wq w q)).set i l) := by
  unfold uLet
  rw [wq_uQ hq, if_pos rfl]
theorem len_uLet (w : wW) (q i : Nat) (l : wLet) : (wqs (uLet w q i l)).length = (wqs w).length := len_uQ w q _
theorem wl_uLet {w : wW} {q i : Nat} (hq : q < (wqs w).length) (hi : i < (wL (wq w q)).length) (l : wLet) : wl (wq (uLet w q i l) q) i = l := by
  rw [wq_uLet hq]
  show ((wL (wq w q)).set i l).getD i _ = l
  rw [getD_set, if_pos ⟨rfl, hi⟩]
theorem wLlen_uLet {w : wW} {q : Nat} (hq : q < (wqs w).length) (i : Nat) (l : wLet) : (wL (wq (uLet w q i l) q)).length = (wL (wq w q)).length := by
  rw [wq_uLet hq]
  exact List.length_set
/-- what is left of a letter that dies doesn't matter -/
theorem diW_set {w : wW} {q i : Nat} (hq : q < (wqs w).length) (hi : i < (wL (wq w q)).length) {l : wLet} (hm : l.1 0 = (wl (wq w q) i).1 0) (cs : List wF) : diW (uLet w q i l) q i cs = diW w q i cs := by
  unfold diW
  rw [wl_uLet hq hi, hm]
  unfold ndW eQ uS
  have e34 : (wq (uLet w q i l) q).1 34 = (wq w q).1 34 := by rw [wq_uLet hq]; rfl
  rw [e34]
  unfold uLet uQ
  refine congrArg (fun z => (z, _)) ?_
  show (((wqs w).modify q _).modify q _).modify q _ = ((wqs w).modify q _).modify q _
  rw [List.modify_modify_eq, List.modify_modify_eq, List.modify_modify_eq]
  refine congrArg (fun z => (wqs w).modify q z) ?_
  funext x
  show qL _ (((wL x).set i l).eraseIdx i) = qL _ ((wL x).eraseIdx i)
  have : ((wL x).set i l).eraseIdx i = (wL x).eraseIdx i := List.eraseIdx_set_eq
  rw [this]
  rfl
theorem WB_diW {w : wW} (hB : WB w) {q i : Nat} (hq : q < (wqs w).length) (hi : i < (wL (wq w q)).length) {cs : List wF} (h1 : 1 ≤ cs.length) (h5 : cs.length ≤ 5) : WB (diW w q i cs) := by
  have h29 := dF_len hB.ws
  have hD : ∀ j, j < (dF w).length → wbD w ((dF w).getD j (wz, [])) := by
    intro j hj
    unfold dF at hj ⊢
    split at hj
    next h =>
      rw [if_pos h, getD_tail]
      rw [List.length_tail] at hj
      exact hB.2.2.2.2.2.2.2 (j + 1) (by omega)
    next h =>
      rw [if_neg h]
      exact hB.2.2.2.2.2.2.2 j hj
  have hw1 : WB (uD w (dF w ++ [(dN ((wl (wq w q) i).1 0) q (wh w 4), cs)])) := by
    refine WB_uD hB (by rw [List.length_append]; show (dF w).length + 1 ≤ 30; omega) fun j hj => ?_
    rw [List.length_append] at hj
    have hj' : j < (dF w).length + 1 := hj
    rw [getD_snoc _ _ _ _ hj']
    split
    · exact hD j (by omega)
    · exact ⟨(bL hB hq hi).1, ⟨q, hq, rfl⟩, h1, h5⟩
  have hw2 : WB (ndW w q ((wl (wq w q) i).1 0) cs) := WB_uQ hw1 hq (wbQ_sc (wBq hw1 hq) (by decide) (by decide) (by decide) _)
  exact WB_eQ hw2 (by rw [len_nd]; exact hq) i
theorem cR_len (w : wW) (c : Nat) : (wcs (crW w c)).length = (wcs w).length := len_uC w c 1 _
theorem WB_crW {w : wW} (hB : WB w) (c : Nat) : WB (crW w c) := WB_uC hB c (by decide) _
/-- the tries of a queue -/
theorem tr_ok {w : wW} (hB : WB w) {q : Nat} (hq : q < (wqs w).length) : ∃ t, t ≤ 5 ∧ (wq w q).1 27 = nI t ∧ ∀ i, i < (wL (wq w q)).length → (wl (wq w q) i).2.length < t := (wBq hB hq).2.2.2.2.2.1.2.1
theorem WB_faW {w : wW} (hB : WB w) {q i : Nat} (hq : q < (wqs w).length) (hi : i < (wL (wq w q)).length) (what who : Int32) : WB (faW w q i what who).2 := by
  obtain ⟨t, ht, e, h⟩ := tr_ok hB hq
  have hlt := h i hi
  unfold faW
  dsimp only
  have elen : (faL w (wl (wq w q) i) what who).2.length = (wl (wq w q) i).2.length + 1 := rfl
  by_cases hd : nI (faL w (wl (wq w q) i) what who).2.length = (wq w q).1 27
  · rw [if_pos hd]
    dsimp only
    rw [diW_set hq hi (by rfl)]
    exact WB_diW hB hq hi (by omega) (by omega)
  · rw [if_neg hd]
    dsimp only
    have hne : (wl (wq w q) i).2.length + 1 ≠ t := fun hh => hd (by rw [elen, hh, e])
    obtain ⟨a, -, b⟩ := bL hB hq hi
    refine WB_uQ hB hq (wbQ_set (wBq hB hq) ⟨a, Or.inl ⟨rfl, by show (1 : Int32) ≠ 2; decide⟩, ?_⟩ fun t' e' ht' h' => ?_)
    · rw [elen]; omega
    · have : t' = t := (nI_eq (by omega) (by omega)).mp (e'.symm.trans e)
      subst this
      rw [elen]; omega
/-- one letter, as time has passed: whether it died -/
def agC (w : wW) (q i : Nat) : Bool × wW :=
  let l := wl (wq w q) i
  let old := wh w 4 - wmo w l 8
  if l.1 1 = 0 ∧ ¬ (wq w q).1 29 ≤ 0 ∧ ¬ old < (wq w q).1 29 then (true, diW w q i (mkC 5 (wh w 4) old (nI l.2.length) :: l.2)) else (false, w)
def rdL (l : wLet) : wLet := (upd (upd l.1 1 0) 4 (-1), l.2)
def agB (w : wW) (q i : Nat) : Bool × wW :=
  let l := wl (wq w q) i
  if l.1 1 = 1 ∧ ¬ wh w 4 < l.1 4 then agC (uLet w q i (rdL l)) q i else agC w q i
def agW (w : wW) (q i : Nat) : Bool × wW :=
  let l := wl (wq w q) i
  if l.1 1 = 2 ∧ ¬ wh w 4 < l.1 4 then
    let r := faW (crW w (l.1 3).toNatClampNeg) q i 4 (l.1 3)
    if r.1 then (true, r.2) else agB r.2 q i
  else agB w q i
theorem WB_rd {w : wW} (hB : WB w) {q i : Nat} (hq : q < (wqs w).length) (hi : i < (wL (wq w q)).length) (h2 : (wl (wq w q) i).1 1 ≠ 2) : WB (uLet w q i (rdL (wl (wq w q) i))) := by
  obtain ⟨a, c, b⟩ := bL hB hq hi
  refine WB_uQ hB hq (wbQ_set (wBq hB hq) ⟨a, ?_, b⟩ fun t _ _ h => h i hi)
  rcases c with ⟨c, -⟩ | ⟨c, -⟩
  · exact Or.inl ⟨c, by show (0 : Int32) ≠ 2; decide⟩
  · exact absurd c h2
/-- how a queue's letters stand behind it -/
def agN (w w' : wW) (q : Nat) (b : Bool) : Prop := (wqs w').length = (wqs w).length ∧ (wL (wq w' q)).length + (if b = true then 1 else 0) = (wL (wq w q)).length
theorem diW_N {w : wW} (hs : WS w) {q i : Nat} (hq : q < (wqs w).length) (hi : i < (wL (wq w q)).length) (cs : List wF) : agN w (diW w q i cs) q true := by
  unfold agN diW eQ
  rw [len_uQ, len_nd, wq_uQ (by rw [len_nd]; exact hq), if_pos rfl, wq_nd hq]
  refine ⟨rfl, ?_⟩
  show ((wL (wq w q)).eraseIdx i).length + 1 = _
  rw [List.length_eraseIdx_of_lt hi]
  omega
theorem faW_N {w : wW} (hs : WS w) {q i : Nat} (hq : q < (wqs w).length) (hi : i < (wL (wq w q)).length) (what who : Int32) : agN w (faW w q i what who).2 q (faW w q i what who).1 := by
  unfold faW
  dsimp only
  split
  · rw [diW_set hq hi (by rfl)]
    exact diW_N hs hq hi _
  · exact ⟨len_uLet _ _ _ _, wLlen_uLet hq _ _⟩
section
variable {S : mS} {w : wW}
theorem M_agC (hR : RM (S.1 0) w) (hB : WB w) {q i : Nat} (hq : q < (wqs w).length) (hi : i < (wL (wq w q)).length) : ∃ S', fX3_ages_b96 (nI q) (nI i) S = some (nB (agC w q i).1, S') ∧ RM (S'.1 0) (agC w q i).2 ∧ mK S S' ∧ WB (agC w q i).2 ∧ agN w (agC w q i).2 q (agC w q i).1 := by
  have hs := hB.ws
  have h4 := (bL hB hq hi).2.2
  have none9 : ∃ S', zr (nI 0) S = some (nB false, S') ∧ RM (S'.1 0) w ∧ mK S S' ∧ WB w ∧ agN w w q false := ⟨S, zr_0 S, hR, mK.rf, hB, rfl, rfl⟩
  unfold fX3_ages_b96 agC
  rw [M_now hR, bd_s, M_l0 hR hs hq hi, bd2_s, M_lm hR hB hq hi (Or.inr (Or.inr (Or.inr rfl))), bd2_s, M_l1 hR hs hq hi, bd2_s]
  dsimp only
  by_cases c1 : (wl (wq w q) i).1 1 = 0
  · rw [if_pos c1, M_sc hR hs hq (by decide) (by decide), bd2_s]
    by_cases c2 : (wq w q).1 29 ≤ 0
    · rw [if_pos c2, if_neg (fun hh => hh.2.1 c2)]
      exact none9
    · rw [if_neg c2, M_sc hR hs hq (by decide) (by decide), bd2_s]
      by_cases c3 : wh w 4 - wmo w (wl (wq w q) i) 8 < (wq w q).1 29
      · rw [if_pos c3, if_neg (fun hh => hh.2.2 c3)]
        exact none9
      · rw [if_neg c3, if_pos ⟨c1, c2, c3⟩]
        obtain ⟨S', d1, d2, d3⟩ := M_dies1 hR hs hq hi h4 (wh w 4 - wmo w (wl (wq w q) i) 8)
        rw [d1, bd2_s]
        exact ⟨S', zr_1 S', d2, d3, WB_diW hB hq hi (by rw [List.length_cons]; omega) (by rw [List.length_cons]; omega), diW_N hs hq hi _⟩
  · rw [if_neg c1, if_neg (fun hh => c1 hh.1)]
    exact none9
theorem M_agB (hR : RM (S.1 0) w) (hB : WB w) {q i : Nat} (hq : q < (wqs w).length) (hi : i < (wL (wq w q)).length) : ∃ S', fX3_ages_b53 (nI q) (nI i) S = some (nB (agB w q i).1, S') ∧ RM (S'.1 0) (agB w q i).2 ∧ mK S S' ∧ WB (agB w q i).2 ∧ agN w (agB w q i).2 q (agB w q i).1 := by
  have hs := hB.ws
  have h8 := qB hs hq
  have h20 := lB hs hq hi
  unfold fX3_ages_b53 agB
  rw [M_l1 hR hs hq hi, bd2_s]
  dsimp only
  by_cases c1 : (wl (wq w q) i).1 1 = 1
  · have c1' : (wl (wq w q) i).1 1 = nI 1 := c1
    rw [if_pos c1', M_l4 hR hs hq hi, bd2_s, M_now hR, bd_s]
    by_cases c2 : wh w 4 < (wl (wq w q) i).1 4
    · rw [if_pos c2, if_neg (fun hh => hh.2 c2)]
      exact M_agC hR hB hq hi
    · rw [if_neg c2, if_pos ⟨c1, c2⟩, P_lis (by omega), bd2_s, P_lis (by omega), bd2_s]
      generalize hS7 : mup (mup S 0 (3471 + 556 * q + (36 + 26 * i + 1)) (nI 0)) 0 (3471 + 556 * q + (36 + 26 * i + 4)) (-1) = S7
      have k7 : mK S S7 := by
        rw [← hS7]
        exact (mK_up _ _ _).tr (mK_up _ _ _)
      have hg : ∀ j, S7.1 0 j = if j = 3471 + 556 * q + (36 + 26 * i + 4) then -1 else if j = 3471 + 556 * q + (36 + 26 * i + 1) then nI 0 else S.1 0 j := by
        intro j
        rw [← hS7, mup_0, mup_0]
        unfold upd
        rfl
      obtain ⟨t0, t1, t2, t3, t4, t5, t6⟩ := rL hR hq hi
      have h5 := (wsq hs hq).2.2.2.2 i hi
      have hR7 : RM (S7.1 0) (uLet w q i (rdL (wl (wq w q) i))) := by
        refine RM_uLet hR hs hq hi (fun k hk => ?_) ?_
        · rw [hg, if_neg (by omega), if_neg (by omega)]
        · refine ⟨?_, ?_, ?_, ?_, ?_, ?_, fun j hj k hk => ?_⟩
          · dsimp only
            rw [hg, if_neg (by omega), if_neg (by omega)]
            exact t0
          · dsimp only
            rw [hg, if_neg (by omega), if_pos rfl]
            rfl
          · dsimp only
            rw [hg, if_neg (by omega), if_neg (by omega)]
            exact t2
          · dsimp only
            rw [hg, if_neg (by omega), if_neg (by omega)]
            exact t3
          · dsimp only
            rw [hg, if_pos rfl]
            rfl
          · dsimp only
            rw [hg, if_neg (by omega), if_neg (by omega)]
            exact t5
          · have hj' : j < (wl (wq w q) i).2.length := hj
            dsimp only
            rw [hg, if_neg (by omega), if_neg (by omega)]
            exact t6 j hj k hk
      have hB7 := WB_rd hB hq hi (by rw [c1]; decide)
      have hq7 : q < (wqs (uLet w q i (rdL (wl (wq w q) i)))).length := by rw [len_uLet]; exact hq
      have hi7 : i < (wL (wq (uLet w q i (rdL (wl (wq w q) i))) q)).length := by rw [wLlen_uLet hq]; exact hi
      obtain ⟨S', d1, d2, d3, d4, d5⟩ := M_agC hR7 hB7 hq7 hi7
      refine ⟨S', d1, d2, k7.tr d3, d4, d5.1.trans (len_uLet _ _ _ _), d5.2.trans (wLlen_uLet hq _ _)⟩
  · have c1' : ¬ (wl (wq w q) i).1 1 = nI 1 := c1
    rw [if_neg c1', if_neg (fun hh => c1 hh.1)]
    exact M_agC hR hB hq hi
theorem M_ages (hR : RM (S.1 0) w) (hB : WB w) (hW : ∀ j, j < 6 → S.1 4 j = waitI j) {q i : Nat} (hq : q < (wqs w).length) (hi : i < (wL (wq w q)).length) : ∃ S', fX3_ages (nI q) (nI i) S = some (nB (agW w q i).1, S') ∧ RM (S'.1 0) (agW w q i).2 ∧ mK S S' ∧ WB (agW w q i).2 ∧ agN w (agW w q i).2 q (agW w q i).1 := by
  have hs := hB.ws
  have h4 := (bL hB hq hi).2.2
  unfold fX3_ages agW
  rw [M_l1 hR hs hq hi, bd2_s]
  dsimp only
  by_cases c1 : (wl (wq w q) i).1 1 = 2
  · have c1' : (wl (wq w q) i).1 1 = nI 2 := c1
    rw [if_pos c1', M_l4 hR hs hq hi, bd2_s, M_now hR, bd_s]
    by_cases c2 : wh w 4 < (wl (wq w q) i).1 4
    · rw [if_pos c2, if_neg (fun hh => hh.2 c2)]
      exact M_agB hR hB hq hi
    · rw [if_neg c2, if_pos ⟨c1, c2⟩, M_l3 hR hs hq hi, bd2_s]
      obtain ⟨c, hc, ec⟩ : ∃ c, c < (wcs w).length ∧ (wl (wq w q) i).1 3 = nI c := by
        rcases (bL hB hq hi).2.1 with ⟨-, h⟩ | ⟨-, h⟩
        · exact absurd c1 h
        · exact h
      have hc10 := cB hs hc
      rw [ec, nI_clamp (by omega)]
      obtain ⟨S7, a1, a2, a3⟩ := M_credits hR hs hc
      rw [a1, bd2_s]
      have hB7 := WB_crW hB c
      obtain ⟨S8, b1, b2, b3⟩ := M_fails a2 hB7.ws (fun j hj => by rw [a3.1 4 (by decide)]; exact hW j hj) (q := q) (i := i) hq hi h4 (nI 4) (nI c)
      rw [b1, bd2_s, if_nB]
      have hB8 : WB (faW (crW w c) q i 4 (nI c)).2 := WB_faW hB7 (q := q) hq hi 4 (nI c)
      have hN8 : agN (crW w c) (faW (crW w c) q i 4 (nI c)).2 q (faW (crW w c) q i 4 (nI c)).1 := faW_N hB7.ws hq hi 4 (nI c)
      have b2' : RM (S8.1 0) (faW (crW w c) q i 4 (nI c)).2 := b2
      show ∃ S', (if (faW (crW w c) q i 4 (nI c)).1 = true then zr (nI 1) S8 else fX3_ages_b53 (nI q) (nI i) S8) = _ ∧ _
      cases hd : (faW (crW w c) q i 4 (nI c)).1
      · rw [hd] at hN8
        rw [if_neg (by decide), if_neg (by decide)]
        have hq8 : q < (wqs (faW (crW w c) q i 4 (nI c)).2).length := by rw [hN8.1]; exact hq
        have hi8 : i < (wL (wq (faW (crW w c) q i 4 (nI c)).2 q)).length := by
          have h9 := hN8.2
          have h9' : (wL (wq (faW (crW w c) q i 4 (nI c)).2 q)).length + 0 = (wL (wq w q)).length := h9
          omega
        obtain ⟨S', d1, d2, d3, d4, d5⟩ := M_agB b2' hB8 hq8 hi8
        exact ⟨S', d1, d2, a3.tr (b3.tr d3), d4, d5.1.trans hN8.1, d5.2.trans hN8.2⟩
      · rw [hd] at hN8
        rw [if_pos rfl, if_pos rfl]
        exact ⟨S8, zr_1 S8, b2', a3.tr b3, hB8, hN8⟩
  · have c1' : ¬ (wl (wq w q) i).1 1 = nI 2 := c1
    rw [if_neg c1', if_neg (fun hh => c1 hh.1)]
    exact M_agB hR hB hq hi
/-- the letters of a queue from the i-th on -/
def pasQ : Nat → wW → Nat → Nat → Int32 → Int32 × wW
  | 0, w, _, _, d => (d, w)
  | f + 1, w, q, i, d => if i < (wL (wq w q)).length then (if (agW w q i).1 = true then pasQ f (agW w q i).2 q i (d + 1) else pasQ f (agW w q i).2 q (i + 1) d) else (d, w)
/-- the queues from the q-th on -/
def pasA : Nat → wW → Nat → Int32 → Int32 × wW
  | 0, w, _, d => (d, w)
  | n + 1, w, q, d => pasA n (pasQ 20 w q 0 d).2 (q + 1) (pasQ 20 w q 0 d).1
def pas1 (w : wW) (d : Int32) : Int32 × wW := pasA (wqs w).length (uH w 4 (wh w 4 + 1)) 0 d
/-- days pass -/
def pasN : Nat → wW → Int32 → Int32 × wW
  | 0, w, d => (d, w)
  | n + 1, w, d => pasN n (pas1 w d).2 (pas1 w d).1
theorem M_pasQ {k4 : Int32 → Int32 → Int32 → mS → Option (Int32 × mS)} {k22 : Int32 → Int32 → Int32 → Int32 → mS → Option (Int32 × mS)} {l1 l3 : Int32} : ∀ (n f fuel i : Nat) (d : Int32) (S : mS) (w : wW) (q : Nat), RM (S.1 0) w → WB w → (∀ j, j < 6 → S.1 4 j = waitI j) → q < (wqs w).length → i + n = (wL (wq w q)).length → n ≤ f → n < fuel → ∃ S', fX3_passes_b36 k4 k22 fuel l1 d l3 (nI q) (nI i) S = k22 l1 (pasQ f w q i d).1 l3 (nI q + nI 1) S' ∧ RM (S'.1 0) (pasQ f w q i d).2 ∧ mK S S' ∧ WB (pasQ f w q i d).2 ∧ (wqs (pasQ f w q i d).2).length = (wqs w).length := by
  intro n
  induction n with
  | zero =>
    intro f fuel i d S w q hR hB hW hq hn hf hfu
    obtain ⟨fu, rfl⟩ : ∃ fu, fuel = fu + 1 := ⟨fuel - 1, by omega⟩
    have h20 := (wBq hB hq).2.2.2.1
    have e : pasQ f w q i d = (d, w) := by
      cases f with
      | zero => rfl
      | succ f =>
        unfold pasQ
        rw [if_neg (by omega)]
    unfold fX3_passes_b36
    rw [e, M_many hR hB.ws hq, bd2_s, if_pos (nI_le (by omega) (by omega))]
    exact ⟨S, rfl, hR, mK.rf, hB, rfl⟩
  | succ n ih =>
    intro f fuel i d S w q hR hB hW hq hn hf hfu
    obtain ⟨fu, rfl⟩ : ∃ fu, fuel = fu + 1 := ⟨fuel - 1, by omega⟩
    obtain ⟨f, rfl⟩ : ∃ f', f = f' + 1 := ⟨f - 1, by omega⟩
    have h20 := (wBq hB hq).2.2.2.1
    have hi : i < (wL (wq w q)).length := by omega
    unfold fX3_passes_b36 pasQ
    rw [M_many hR hB.ws hq, bd2_s, if_neg (nI_ge (by omega) (by omega)), if_pos hi]
    obtain ⟨S3, a1, a2, a3, a4, a5, a6⟩ := M_ages hR hB hW hq hi
    rw [a1, bd2_s, if_nB]
    have hW3 : ∀ j, j < 6 → S3.1 4 j = waitI j := fun j hj => by rw [a3.1 4 (by decide)]; exact hW j hj
    have hq3 : q < (wqs (agW w q i).2).length := by rw [a5]; exact hq
    cases hd : (agW w q i).1
    · rw [hd] at a6
      have a6' : (wL (wq (agW w q i).2 q)).length + 0 = (wL (wq w q)).length := a6
      rw [if_neg (by decide), if_neg (by decide), nI_add]
      obtain ⟨S', b1, b2, b3, b4, b5⟩ := ih f fu (i + 1) d S3 (agW w q i).2 q a2 a4 hW3 hq3 (by omega) (by omega) (by omega)
      exact ⟨S', b1, b2, a3.tr b3, b4, b5.trans a5⟩
    · rw [hd] at a6
      have a6' : (wL (wq (agW w q i).2 q)).length + 1 = (wL (wq w q)).length := a6
      rw [if_pos rfl, if_pos rfl]
      obtain ⟨S', b1, b2, b3, b4, b5⟩ := ih f fu i (d + 1) S3 (agW w q i).2 q a2 a4 hW3 hq3 (by omega) (by omega) (by omega)
      exact ⟨S', b1, b2, a3.tr b3, b4, b5.trans a5⟩
theorem M_pasA {k4 : Int32 → Int32 → Int32 → mS → Option (Int32 × mS)} {l1 l3 : Int32} : ∀ (n fuel q : Nat) (d : Int32) (S : mS) (w : wW), RM (S.1 0) w → WB w → (∀ j, j < 6 → S.1 4 j = waitI j) → q + n = (wqs w).length → n < fuel → ∃ S', fX3_passes_b22 k4 fuel l1 d l3 (nI q) S = k4 l1 (pasA n w q d).1 (l3 + nI 1) S' ∧ RM (S'.1 0) (pasA n w q d).2 ∧ mK S S' ∧ WB (pasA n w q d).2 ∧ (wqs (pasA n w q d).2).length = (wqs w).length := by
  intro n
  induction n with
  | zero =>
    intro fuel q d S w hR hB hW hn hfu
    obtain ⟨fu, rfl⟩ : ∃ fu, fuel = fu + 1 := ⟨fuel - 1, by omega⟩
    have h8 := hB.1
    unfold fX3_passes_b22
    rw [M_nq hR, bd_s, if_pos (nI_le (by omega) (by omega))]
    exact ⟨S, rfl, hR, mK.rf, hB, rfl⟩
  | succ n ih =>
    intro fuel q d S w hR hB hW hn hfu
    obtain ⟨fu, rfl⟩ : ∃ fu, fuel = fu + 1 := ⟨fuel - 1, by omega⟩
    have h8 := hB.1
    have hq : q < (wqs w).length := by omega
    have h20 := (wBq hB hq).2.2.2.1
    unfold fX3_passes_b22 pasA
    rw [M_nq hR, bd_s, if_neg (nI_ge (by omega) (by omega))]
    obtain ⟨S3, a1, a2, a3, a4, a5⟩ := M_pasQ (k4 := k4) (k22 := fX3_passes_b22 k4 fu) (l1 := l1) (l3 := l3) (wL (wq w q)).length 20 FU 0 d S w q hR hB hW hq (by omega) (by omega) (by unfold FU; omega)
    rw [show (nI 0) = nI 0 from rfl, a1, nI_add]
    obtain ⟨S', b1, b2, b3, b4, b5⟩ := ih fu (q + 1) (pasQ 20 w q 0 d).1 S3 (pasQ 20 w q 0 d).2 a2 a4 (fun j hj => by rw [a3.1 4 (by decide)]; exact hW j hj) (by omega) (by omega)
    exact ⟨S', b1, b2, a3.tr b3, b4, b5.trans a5⟩
theorem M_pas_b : ∀ (n k fuel : Nat) (d : Int32) (S : mS) (w : wW) (t : Nat), RM (S.1 0) w → WB w → (∀ j, j < 6 → S.1 4 j = waitI j) → k + n = t → t < 2 ^ 31 → n < fuel → ∃ S', fX3_passes_b4 fuel (nI t) d (nI k) S = some ((pasN n w d).1, S') ∧ RM (S'.1 0) (pasN n w d).2 ∧ mK S S' ∧ WB (pasN n w d).2 := by
  intro n
  induction n with
  | zero =>
    intro k fuel d S w t hR hB hW hn ht hfu
    obtain ⟨fu, rfl⟩ : ∃ fu, fuel = fu + 1 := ⟨fuel - 1, by omega⟩
    unfold fX3_passes_b4
    rw [if_pos (nI_le (by omega) (by omega))]
    exact ⟨S, rfl, hR, mK.rf, hB⟩
  | succ n ih =>
    intro k fuel d S w t hR hB hW hn ht hfu
    obtain ⟨fu, rfl⟩ : ∃ fu, fuel = fu + 1 := ⟨fuel - 1, by omega⟩
    have h8 := hB.1
    unfold fX3_passes_b4 pasN pas1
    rw [if_neg (nI_ge (by omega) (by omega)), M_now hR, bd_s]
    obtain ⟨S3, a1, a2, a3⟩ := P_H hR hB.ws (k := 4) (Or.inl rfl) (wh w 4 + 1)
    have a1' : mwr S 0 7919 (nI 4) (wh w 4 + nI 1) = some S3 := a1
    rw [a1', bd_s]
    have hW3 : ∀ j, j < 6 → S3.1 4 j = waitI j := fun j hj => by rw [a3.1 4 (by decide)]; exact hW j hj
    obtain ⟨S4, b1, b2, b3, b4, b5⟩ := M_pasA (k4 := fX3_passes_b4 fu) (l1 := nI t) (l3 := nI k) (wqs w).length FU 0 d S3 (uH w 4 (wh w 4 + 1)) a2 (WB_uH hB 4 _) hW3 (Nat.zero_add _) (by unfold FU; omega)
    rw [b1, nI_add]
    obtain ⟨S', c1, c2, c3, c4⟩ := ih (k + 1) fu (pasA (wqs w).length (uH w 4 (wh w 4 + 1)) 0 d).1 S4 (pasA (wqs w).length (uH w 4 (wh w 4 + 1)) 0 d).2 t b2 b4 (fun j hj => by rw [b3.1 4 (by decide)]; exact hW3 j hj) (by omega) ht (by omega)
    exact ⟨S', c1, c2, a3.tr (b3.tr c3), c4⟩
theorem M_passes (hR : RM (S.1 0) w) (hB : WB w) (hW : ∀ j, j < 6 → S.1 4 j = waitI j) {n : Nat} (hn : n < 9000) : ∃ S', fX3_passes (nI n) S = some ((pasN n w 0).1, S') ∧ RM (S'.1 0) (pasN n w 0).2 ∧ mK S S' ∧ WB (pasN n w 0).2 := by
  unfold fX3_passes
  exact M_pas_b n 0 FU (nI 0) S w n hR hB hW (Nat.zero_add _) (by omega) (by unfold FU; omega)
end
