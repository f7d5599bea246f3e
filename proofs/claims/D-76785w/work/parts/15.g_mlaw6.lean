/-! THE MODEL'S SIDE, what writes: the dead, failing, credits, giving -/
set_option maxRecDepth 100000
set_option maxHeartbeats 4000000
set_option linter.unusedVariables false
def mkC (kind time number many : Int32) : wF := upd (upd (upd (upd wz 0 kind) 1 time) 2 number) 3 many
def dN (m : Int32) (q : Nat) (t : Int32) : wF := upd (upd (upd wz 0 m) 1 (nI q)) 2 t
/-- the dead, one place free -/
def dF (w : wW) : List wDed := if (wds w).length = 30 then (wds w).tail else wds w
/-- a new dead one -/
def ndW (w : wW) (q : Nat) (m : Int32) (cs : List wF) : wW := uS (uD w (dF w ++ [(dN m q (wh w 4), cs)])) q 34 ((wq w q).1 34 + 1)
def uLet (w : wW) (q i : Nat) (l : wLet) : wW := uQ w q fun x => qL x ((wL x).set i l)
/-- a letter dies with causes -/
def diW (w : wW) (q i : Nat) (cs : List wF) : wW := eQ (ndW w q ((wl (wq w q) i).1 0) cs) q i
def waitI (k : Nat) : Int32 := [0, 1, 2, 3, 5, 8].getD k 0
def faL (w : wW) (l : wLet) (what who : Int32) : wLet := (upd (upd (upd l.1 3 (-1)) 4 (wh w 4 + waitI (l.2.length + 1))) 1 1, mkC what (wh w 4) who (nI (l.2.length + 1)) :: l.2)
/-- a letter fails: whether it is dead -/
def faW (w : wW) (q i : Nat) (what who : Int32) : Bool × wW :=
  let l := faL w (wl (wq w q) i) what who
  let w2 := uLet w q i l
  if nI l.2.length = (wq w q).1 27 then (true, diW w2 q i l.2) else (false, w2)
def crW (w : wW) (c : Nat) : wW := uC w c 1 (if wc w c 1 + 1 < 9 then wc w c 1 + 1 else 9)
theorem len_uQ (w : wW) (q : Nat) (F : wQue → wQue) : (wqs (uQ w q F)).length = (wqs w).length := by rw [wqs_uQ, List.length_modify]
theorem len_uC (w : wW) (c k : Nat) (v : Int32) : (wcs (uC w c k v)).length = (wcs w).length := by
  rw [show wcs (uC w c k v) = (wcs w).modify c (fun f => upd f k v) from rfl, List.length_modify]
theorem dF_len {w : wW} (hs : WS w) : (dF w).length ≤ 29 := by
  have := hs.2.2.2.1
  unfold dF
  split
  · rw [List.length_tail]; omega
  · omega
theorem getD_set {α : Type} (l : List α) (i j : Nat) (a d : α) : (l.set i a).getD j d = if j = i ∧ i < l.length then a else l.getD j d := by
  rw [List.getD_eq_getElem?_getD, List.getElem?_set, List.getD_eq_getElem?_getD]
  by_cases h : j = i
  · subst h
    by_cases h2 : j < l.length
    · rw [if_pos rfl, if_pos h2, if_pos ⟨rfl, h2⟩]
      rfl
    · rw [if_pos rfl, if_neg h2, if_neg (fun hh => h2 hh.2), List.getElem?_eq_none (by omega)]
  · rw [if_neg (fun hh => h hh.symm), if_neg (fun hh => h hh.1)]
theorem getD_tail {α : Type} (l : List α) (j : Nat) (d : α) : l.tail.getD j d = l.getD (j + 1) d := by
  rw [List.getD_eq_getElem?_getD, List.getElem?_tail, List.getD_eq_getElem?_getD]
theorem getD_snoc {α : Type} (l : List α) (a d : α) (j : Nat) (h : j < l.length + 1) : (l ++ [a]).getD j d = if j < l.length then l.getD j d else a := by
  rw [List.getD_eq_getElem?_getD, List.getElem?_append]
  by_cases h2 : j < l.length
  · rw [if_pos h2, if_pos h2, List.getD_eq_getElem?_getD]
  · rw [if_neg h2, if_neg h2, show j - l.length = 0 by omega]
    rfl
theorem RM_uD {g g' : wF} {w : wW} {ds : List wDed} (h : RM g w) (hs : WS w) (hf : ∀ k, k ≠ 3 → k < 2751 ∨ 3471 ≤ k → g' k = g k) (h3 : g' 3 = nI ds.length) (hd : ∀ i, i < ds.length → rmD (fun k => g' (2751 + 24 * i + k)) (ds.getD i (wz, []))) : RM g' (uD w ds) := by
  obtain ⟨⟨a0, a1, a2, a3, a4, a5, a6, a7⟩, h1, h2, h30, h4⟩ := h
  obtain ⟨s0, s1, s2, s3, s4, s5, s6⟩ := hs
  refine ⟨⟨?_, ?_, ?_, h3, ?_, ?_, ?_, fun j hj => ?_⟩, fun c hc j hj => ?_, fun m hm => ?_, hd, fun q hq => ?_⟩
  · rw [hf _ (by omega) (by omega)]; exact a0
  · rw [hf _ (by omega) (by omega)]; exact a1
  · rw [hf _ (by omega) (by omega)]; exact a2
  · rw [hf _ (by omega) (by omega)]; exact a4
  · rw [hf _ (by omega) (by omega)]; exact a5
  · rw [hf _ (by omega) (by omega)]; exact a6
  · have hj' : j < (wtp w).length := hj
    rw [hf _ (by omega) (by omega)]; exact a7 j hj
  · have hc' : c < (wcs w).length := hc
    rw [hf _ (by omega) (by omega)]; exact h1 c hc j hj
  · have hm' : m < (wms w).length := hm
    exact rmM_congr (h2 m hm) fun k hk => hf _ (by omega) (by omega)
  · have hq' : q < (wqs w).length := hq
    exact rmQ_congr (h4 q hq) (s5 q hq) fun k hk => hf _ (by omega) (by omega)
theorem WS_uD {w : wW} {ds : List wDed} (hs : WS w) (h : ds.length ≤ 30) (hd : ∀ i, i < ds.length → (ds.getD i (wz, [])).2.length ≤ 5) : WS (uD w ds) := ⟨hs.1, hs.2.1, hs.2.2.1, h, hs.2.2.2.2.1, hs.2.2.2.2.2.1, hd⟩
theorem RM_uLet {g g' : wF} {w : wW} {q i : Nat} {l : wLet} (h : RM g w) (hs : WS w) (hq : q < (wqs w).length) (hi : i < (wL (wq w q)).length) (hf : ∀ k, k < 3471 + 556 * q + (36 + 26 * i) ∨ 3471 + 556 * q + (36 + 26 * i) + 26 ≤ k → g' k = g k) (hl : rmL (fun k => g' (3471 + 556 * q + (36 + 26 * i + k))) l) : RM g' (uLet w q i l) := by
  obtain ⟨s0, s1, s2, s3, s4⟩ := wsq hs hq
  refine RM_uQ h hs hq (fun k hk => hf k (by omega)) ?_
  have hr := h.2.2.2.2 q hq
  obtain ⟨r0, r1, r2, r3, r4, r5, r6⟩ := h.2.2.2.2 q hq
  refine rmQ_L hr (wsq hs hq) (fun k hk => hf _ (by omega)) ?_ (fun i' hi' => ?_)
  · rw [List.length_set, hf _ (by omega)]; exact r5
  · rw [List.length_set] at hi'
    rw [getD_set]
    by_cases e : i' = i
    · subst e
      rw [if_pos ⟨rfl, hi⟩]; exact hl
    · rw [if_neg (fun hh => e hh.1)]
      exact rmL_congr (r6 i' hi') (s4 i' hi') fun k hk => hf _ (by omega)
theorem WS_uLet {w : wW} {q i : Nat} {l : wLet} (hs : WS w) (hq : q < (wqs w).length) (hl : l.2.length ≤ 5) : WS (uLet w q i l) := by
  obtain ⟨s0, s1, s2, s3, s4⟩ := wsq hs hq
  refine WS_uQ hs hq ⟨s0, s1, s2, ?_, fun j hj => ?_⟩
  · show ((wL (wq w q)).set i l).length ≤ 20
    rw [List.length_set]; exact s3
  · have hj' : j < ((wL (wq w q)).set i l).length := hj
    rw [List.length_set] at hj'
    show (((wL (wq w q)).set i l).getD j (wz, [])).2.length ≤ 5
    rw [getD_set]
    split
    · exact hl
    · exact s4 j hj'
section
variable {S : mS} {w : wW}
theorem M_ahead {a : Nat} (h4 : 4 < a) (ha : a + 3 < 7919) (many what number : Int32) (S : mS) : ∃ S', fX3_ahead (nI a) many what number S = some ((), S') ∧ mK S S' ∧ ∀ j, S'.1 0 j = if j = a then what else if j = a + 1 then S.1 0 4 else if j = a + 2 then number else if j = a + 3 then many else S.1 0 j := by
  unfold fX3_ahead
  rw [e_mwr (by omega) (by decide), bd_s, show mrd (mup S 0 a what) 0 7919 (nI 4) = _ from e_mrd (by decide) (by decide), bd_s, nI_add, nI_add, nI_add, e_mwr (by omega) (by decide), bd_s, e_mwr (by omega) (by decide), bd_s, e_mwr (by omega) (by decide), bd_s]
  refine ⟨_, rfl, (mK_up _ _ _).tr ((mK_up _ _ _).tr ((mK_up _ _ _).tr (mK_up _ _ _))), fun j => ?_⟩
  rw [mup_0, mup_0, mup_0, mup_0]
  unfold upd
  rw [if_neg (show ¬ (4 : Nat) = a by omega)]
  by_cases c0 : j = a
  · rw [if_neg (by omega), if_neg (by omega), if_neg (by omega), if_pos c0, if_pos c0]
  · rw [if_neg c0, if_neg c0]
    by_cases c1 : j = a + 1
    · rw [if_neg (by omega), if_neg (by omega), if_pos c1, if_pos c1]
    · rw [if_neg c1, if_neg c1]
      by_cases c2 : j = a + 2
      · rw [if_neg (by omega), if_pos c2, if_pos c2]
      · rw [if_neg c2, if_neg c2]
theorem M_nd51 (hR : RM (S.1 0) w) (hs : WS w) {q : Nat} (hq : q < (wqs w).length) (hn : (wds w).length < 30) (m : Int32) : ∃ S', fX3_newDead_b51 (nI q) m S = some (nI (2751 + 24 * (wds w).length), S') ∧ RM (S'.1 0) (uS (uD w (wds w ++ [(dN m q (wh w 4), [])])) q 34 ((wq w q).1 34 + 1)) ∧ mK S S' := by
  have h8 := qB hs hq
  unfold fX3_newDead_b51
  generalize hd : (wds w).length = n at hn
  rw [M_nd hR, bd_s, bd_s, hd, nI_add, e_mwr (by omega) (by decide), bd_s, nI_mul, nI_add, e_mwr (by omega) (by decide), bd_s, nI_add, e_mwr (by omega) (by decide), bd_s, e_mrd (by omega) (by decide), bd_s, nI_add, e_mwr (by omega) (by decide), bd_s, nI_add, e_mwr (by omega) (by decide), bd_s]
  generalize hS8 : (mup (mup (mup (mup (mup S 0 3 (nI (n + 1))) 0 (2751 + 24 * n) m) 0 (2751 + 24 * n + 1) (nI q)) 0 (2751 + 24 * n + 2) _) 0 (2751 + 24 * n + 3) (nI 0)) = S8
  have hg : ∀ j, S8.1 0 j = if j = 2751 + 24 * n + 3 then nI 0 else if j = 2751 + 24 * n + 2 then wh w 4 else if j = 2751 + 24 * n + 1 then nI q else if j = 2751 + 24 * n then m else if j = 3 then nI (n + 1) else S.1 0 j := by
    intro j
    rw [← hS8, mup_0, mup_0, mup_0, mup_0, mup_0]
    unfold upd
    rw [if_neg (show ¬ (4 : Nat) = 2751 + 24 * n + 1 by omega), if_neg (show ¬ (4 : Nat) = 2751 + 24 * n by omega), if_neg (show ¬ (4 : Nat) = 3 by omega), hR.1.2.2.2.2.1]
  have hk8 : mK S S8 := by
    rw [← hS8]
    exact (mK_up _ _ _).tr ((mK_up _ _ _).tr ((mK_up _ _ _).tr ((mK_up _ _ _).tr (mK_up _ _ _))))
  have hR8 : RM (S8.1 0) (uD w (wds w ++ [(dN m q (wh w 4), [])])) := by
    refine RM_uD hR hs (fun k hk3 hk => ?_) ?_ (fun i hi => ?_)
    · rw [hg, if_neg (by omega), if_neg (by omega), if_neg (by omega), if_neg (by omega), if_neg (by omega)]
    · rw [hg, if_neg (by omega), if_neg (by omega), if_neg (by omega), if_neg (by omega), if_pos rfl, List.length_append, hd]
      rfl
    · rw [List.length_append, hd] at hi
      have hi' : i < n + 1 := hi
      rw [getD_snoc _ _ _ _ (by omega), hd]
      by_cases c : i < n
      · rw [if_pos c]
        refine rmD_congr (hR.2.2.2.1 i (by omega)) (hs.2.2.2.2.2.2 i (by omega)) fun k hk => ?_
        rw [hg, if_neg (by omega), if_neg (by omega), if_neg (by omega), if_neg (by omega), if_neg (by omega)]
      · have e : i = n := by omega
        subst e
        rw [if_neg c]
        refine ⟨?_, ?_, ?_, ?_, fun i hi => absurd hi (Nat.not_lt_zero i)⟩
        · dsimp only
          rw [hg, if_neg (by omega), if_neg (by omega), if_neg (by omega), if_pos (by omega)]
          rfl
        · dsimp only
          rw [hg, if_neg (by omega), if_neg (by omega), if_pos (by omega)]
          rfl
        · dsimp only
          rw [hg, if_neg (by omega), if_pos (by omega)]
          rfl
        · dsimp only
          rw [hg, if_pos (by omega)]
          rfl
  have hs8 : WS (uD w (wds w ++ [(dN m q (wh w 4), [])])) := by
    refine WS_uD hs (by rw [List.length_append, hd]; show n + 1 ≤ 30; omega) fun i hi => ?_
    rw [List.length_append, hd] at hi
    have hi' : i < n + 1 := hi
    rw [getD_snoc _ _ _ _ (by omega), hd]
    split
    · exact hs.2.2.2.2.2.2 i (by omega)
    · exact Nat.zero_le 5
  rw [M_sc hR8 hs8 hq (by decide) (by decide), bd2_s]
  obtain ⟨S9, k1, k2, k3⟩ := P_sc hR8 hs8 hq (k := 34) (by decide) (by decide) ((wq w q).1 34 + 1)
  have k1' : fX3_is (nI q) (nI 34) ((wq (uD w (wds w ++ [(dN m q (wh w 4), [])])) q).1 34 + nI 1) S8 = some ((), S9) := k1
  rw [k1', bd2_s]
  exact ⟨S9, rfl, k2, hk8.tr k3⟩
theorem M_nd15 {q : Int32} (m : Int32) : ∀ (t k fuel : Nat) (S : mS), k + t = 3447 → 2751 ≤ k → t < fuel → ∃ S', fX3_newDead_b15 fuel q m (nI k) S = fX3_newDead_b51 q m S' ∧ mK S S' ∧ ∀ j, S'.1 0 j = if j = 3 then nI 29 else if k ≤ j ∧ j < 3447 then S.1 0 (j + 24) else S.1 0 j := by
  intro t
  induction t with
  | zero =>
    intro k fuel S hk h2 hf
    obtain ⟨f, rfl⟩ : ∃ f, fuel = f + 1 := ⟨fuel - 1, by omega⟩
    unfold fX3_newDead_b15
    rw [if_pos (nI_le (by omega) (by omega)), e_mwr (by decide) (by decide), bd_s]
    refine ⟨_, rfl, mK_up _ _ _, fun j => ?_⟩
    rw [mup_0]
    unfold upd
    by_cases c : j = 3
    · rw [if_pos c, if_pos c]
    · rw [if_neg c, if_neg c, if_neg (by omega)]
  | succ t ih =>
    intro k fuel S hk h2 hf
    obtain ⟨f, rfl⟩ : ∃ f, fuel = f + 1 := ⟨fuel - 1, by omega⟩
    unfold fX3_newDead_b15
    rw [if_neg (nI_ge (by omega) (by omega)), nI_add, e_mrd (by omega) (by decide), bd_s, e_mwr (by omega) (by decide), bd_s, nI_add]
    obtain ⟨S', h1, h2, h3⟩ := ih (k + 1) f (mup S 0 k (S.1 0 (k + 24))) (by omega) (by omega) (by omega)
    refine ⟨S', h1, (mK_up _ _ _).tr h2, fun j => ?_⟩
    rw [h3 j, mup_0]
    unfold upd
    by_cases c : j = 3
    · rw [if_pos c, if_pos c]
    · rw [if_neg c, if_neg c]
      by_cases c1 : k + 1 ≤ j ∧ j < 3447
      · rw [if_pos c1, if_neg (by omega), if_pos (by omega)]
      · rw [if_neg c1]
        by_cases c2 : j = k
        · rw [if_pos c2, if_pos (by omega), c2]
        · rw [if_neg c2, if_neg (by omega)]
theorem M_newDead (hR : RM (S.1 0) w) (hs : WS w) {q : Nat} (hq : q < (wqs w).length) (m : Int32) : ∃ S', fX3_newDead (nI q) m S = some (nI (2751 + 24 * (dF w).length), S') ∧ RM (S'.1 0) (ndW w q m []) ∧ mK S S' := by
  have h30 := hs.2.2.2.1
  unfold fX3_newDead ndW dF
  rw [M_nd hR, bd_s]
  by_cases h : (wds w).length = 30
  · rw [if_pos (congrArg nI h), if_pos h]
    obtain ⟨S', h1, h2, h3⟩ := M_nd15 (q := nI q) m 696 2751 FU S (by omega) (by omega) (by unfold FU; omega)
    have hlen : (wds w).tail.length = 29 := by rw [List.length_tail, h]
    have hR' : RM (S'.1 0) (uD w (wds w).tail) := by
      refine RM_uD hR hs (fun k hk3 hk => ?_) ?_ (fun i hi => ?_)
      · rw [h3, if_neg hk3, if_neg (by omega)]
      · rw [h3, if_pos rfl, hlen]
      · rw [hlen] at hi
        rw [getD_tail]
        refine rmD_congr (hR.2.2.2.1 (i + 1) (by omega)) (hs.2.2.2.2.2.2 (i + 1) (by omega)) fun k hk => ?_
        rw [h3, if_neg (by omega), if_pos (by omega)]
        exact congrArg (S.1 0) (by omega)
    have hs' : WS (uD w (wds w).tail) := WS_uD hs (by omega) fun i hi => by
      rw [getD_tail]
      exact hs.2.2.2.2.2.2 (i + 1) (by omega)
    obtain ⟨S2, k1, k2, k3⟩ := M_nd51 hR' hs' hq (by show (wds w).tail.length < 30; omega) m
    exact ⟨S2, h1.trans k1, k2, h2.tr k3⟩
  · rw [if_neg (fun hh => h ((nI_eq (by omega) (by decide)).mp hh)), if_neg h]
    exact M_nd51 hR hs hq (by omega) m
end
