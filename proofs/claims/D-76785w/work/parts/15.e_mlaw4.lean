/-! THE MODEL'S SIDE, what writes: the primitives -/
set_option maxRecDepth 100000
set_option maxHeartbeats 4000000
set_option linter.unusedVariables false
-- updates of the world
def uQ (w : wW) (q : Nat) (F : wQue → wQue) : wW := ((wqs w).modify q F, w.2)
def uC (w : wW) (c k : Nat) (v : Int32) : wW := (w.1, (wcs w).modify c (fun f => upd f k v), w.2.2)
def uH (w : wW) (k : Nat) (v : Int32) : wW := (w.1, w.2.1, w.2.2.1, w.2.2.2.1, w.2.2.2.2.1, upd (wh w) k v)
def uD (w : wW) (ds : List wDed) : wW := (w.1, w.2.1, w.2.2.1, ds, w.2.2.2.2)
def uS (w : wW) (q k : Nat) (v : Int32) : wW := uQ w q fun x => (upd x.1 k v, x.2)
def qL (x : wQue) (L : List wLet) : wQue := (x.1, x.2.1, x.2.2.1, L)
def uL (w : wW) (q i k : Nat) (v : Int32) : wW := uQ w q fun x => qL x ((wL x).modify i fun l => (upd l.1 k v, l.2))
theorem getD_modify {α : Type} (l : List α) (i j : Nat) (F : α → α) (d : α) : (l.modify i F).getD j d = if j = i ∧ i < l.length then F (l.getD i d) else l.getD j d := by
  rw [List.getD_eq_getElem?_getD, List.getElem?_modify, List.getD_eq_getElem?_getD]
  by_cases h : j = i
  · subst h
    by_cases h2 : j < l.length
    · rw [List.getElem?_eq_getElem h2, if_pos ⟨rfl, h2⟩]
      simp [h2]
    · rw [List.getElem?_eq_none (by omega), if_neg (fun hh => h2 hh.2)]
      simp [List.getElem?_eq_none (show l.length ≤ j by omega)]
  · rw [if_neg (fun hh => h hh.1)]
    simp [show ¬ i = j from fun hh => h hh.symm]
theorem wqs_uQ (w : wW) (q : Nat) (F : wQue → wQue) : wqs (uQ w q F) = (wqs w).modify q F := rfl
theorem wq_uQ {w : wW} {q : Nat} (hq : q < (wqs w).length) (F : wQue → wQue) (q' : Nat) : wq (uQ w q F) q' = if q' = q then F (wq w q) else wq w q' := by
  unfold wq
  rw [wqs_uQ, getD_modify]
  by_cases h : q' = q
  · rw [if_pos ⟨h, hq⟩, if_pos h]
  · rw [if_neg (fun hh => h hh.1), if_neg h]
theorem wc_uC {w : wW} {c : Nat} (hc : c < (wcs w).length) (k : Nat) (v : Int32) (c' : Nat) : wc (uC w c k v) c' = if c' = c then upd (wc w c) k v else wc w c' := by
  unfold wc
  rw [show wcs (uC w c k v) = (wcs w).modify c (fun f => upd f k v) from rfl, getD_modify]
  by_cases h : c' = c
  · rw [if_pos ⟨h, hc⟩, if_pos h]
  · rw [if_neg (fun hh => h hh.1), if_neg h]
-- congruence: a part of the picture reads its own region alone
theorem rmC_congr {f f' : wF} {cs : List wF} (h : rmC f cs) (hf : ∀ k, k < 4 * cs.length → f' k = f k) : rmC f' cs := fun i hi k hk => by
  rw [hf _ (by omega)]
  exact h i hi k hk
theorem rmL_congr {f f' : wF} {l : wLet} (h : rmL f l) (hl : l.2.length ≤ 5) (hf : ∀ k, k < 26 → f' k = f k) : rmL f' l := by
  obtain ⟨h0, h1, h2, h3, h4, h5, h6⟩ := h
  refine ⟨?_, ?_, ?_, ?_, ?_, ?_, rmC_congr h6 fun k hk => hf _ (by omega)⟩ <;> rw [hf _ (by omega)] <;> assumption
theorem rmQ_congr {f f' : wF} {x : wQue} (h : rmQ f x) (hs : wsQ x) (hf : ∀ k, k < 556 → f' k = f k) : rmQ f' x := by
  obtain ⟨h0, h1, h2, h3, h4, h5, h6⟩ := h
  obtain ⟨s0, s1, s2, s3, s4⟩ := hs
  refine ⟨?_, fun k hk => ?_, ?_, fun k hk => ?_, fun k hk1 hk2 => ?_, ?_, fun i hi => rmL_congr (h6 i hi) (s4 i hi) fun k hk => hf _ (by omega)⟩
  · rw [hf _ (by omega)]; exact h0
  · rw [hf _ (by omega)]; exact h1 k hk
  · rw [hf _ (by omega)]; exact h2
  · rw [hf _ (by omega)]; exact h3 k hk
  · rw [hf _ (by omega)]; exact h4 k hk1 hk2
  · rw [hf _ (by omega)]; exact h5
theorem rmD_congr {f f' : wF} {d : wDed} (h : rmD f d) (hl : d.2.length ≤ 5) (hf : ∀ k, k < 24 → f' k = f k) : rmD f' d := by
  obtain ⟨h0, h1, h2, h3, h4⟩ := h
  refine ⟨?_, ?_, ?_, ?_, rmC_congr h4 fun k hk => hf _ (by omega)⟩ <;> rw [hf _ (by omega)] <;> assumption
theorem rmM_congr {f f' x : wF} (h : rmM f x) (hf : ∀ k, k < 9 → f' k = f k) : rmM f' x := by
  obtain ⟨h0, h1, h2, h3, h4⟩ := h
  refine ⟨?_, ?_, ?_, ?_, ?_⟩ <;> rw [hf _ (by omega)] <;> assumption
theorem RMh_congr {g g' : wF} {w : wW} (h : RMh g w) (hs : WS w) (hf : ∀ k, k < 11 → g' k = g k) : RMh g' w := by
  obtain ⟨h0, h1, h2, h3, h4, h5, h6, h7⟩ := h
  have := hs.2.2.2.2.1
  refine ⟨?_, ?_, ?_, ?_, ?_, ?_, ?_, fun k hk => by rw [hf _ (by omega)]; exact h7 k hk⟩ <;> rw [hf _ (by omega)] <;> assumption
/-- one queue is changed -/
theorem RM_uQ {g g' : wF} {w : wW} {q : Nat} {F : wQue → wQue} (h : RM g w) (hs : WS w) (hq : q < (wqs w).length) (hf : ∀ k, k < 3471 + 556 * q ∨ 3471 + 556 * q + 556 ≤ k → g' k = g k) (hx : rmQ (fun k => g' (3471 + 556 * q + k)) (F (wq w q))) : RM g' (uQ w q F) := by
  obtain ⟨h0, h1, h2, h3, h4⟩ := h
  obtain ⟨s0, s1, s2, s3, s4, s5, s6⟩ := hs
  have hh := RMh_congr (g' := g') h0 ⟨s0, s1, s2, s3, s4, s5, s6⟩ (fun k hk => hf k (by omega))
  refine ⟨⟨?_, hh.2⟩, fun c hc k hk => ?_, fun m hm => ?_, fun i hi => ?_, fun q' hq' => ?_⟩
  · rw [wqs_uQ, List.length_modify]; exact hh.1
  · have hc' : c < (wcs w).length := hc
    rw [hf _ (by omega)]; exact h1 c hc k hk
  · have hm' : m < (wms w).length := hm
    exact rmM_congr (h2 m hm) fun k hk => hf _ (by omega)
  · have hi' : i < (wds w).length := hi
    exact rmD_congr (h3 i hi) (s6 i hi) fun k hk => hf _ (by omega)
  · rw [wqs_uQ, List.length_modify] at hq'
    rw [wq_uQ hq]
    by_cases e : q' = q
    · subst e
      rw [if_pos rfl]
      exact hx
    · rw [if_neg e]
      exact rmQ_congr (h4 q' hq') (s5 q' hq') fun k hk => hf _ (by omega)
theorem RM_uC {g : wF} {w : wW} {c k : Nat} {v : Int32} (h : RM g w) (hs : WS w) (hc : c < (wcs w).length) (hk : k < 4) : RM (upd g (11 + 4 * c + k) v) (uC w c k v) := by
  obtain ⟨h0, h1, h2, h3, h4⟩ := h
  obtain ⟨s0, s1, s2, s3, s4, s5, s6⟩ := hs
  have hf : ∀ j, j ≠ 11 + 4 * c + k → upd g (11 + 4 * c + k) v j = g j := fun j hj => by unfold upd; rw [if_neg hj]
  have hh := RMh_congr (g' := upd g (11 + 4 * c + k) v) h0 ⟨s0, s1, s2, s3, s4, s5, s6⟩ (fun k hk => hf k (by omega))
  refine ⟨⟨hh.1, ?_, hh.2.2⟩, fun c' hc' k' hk' => ?_, fun m hm => ?_, fun i hi => ?_, fun q hq => ?_⟩
  · rw [show wcs (uC w c k v) = (wcs w).modify c (fun f => upd f k v) from rfl, List.length_modify]; exact hh.2.1
  · rw [show wcs (uC w c k v) = (wcs w).modify c (fun f => upd f k v) from rfl, List.length_modify] at hc'
    rw [wc_uC hc]
    by_cases e : c' = c
    · subst e
      rw [if_pos rfl]
      unfold upd
      by_cases e2 : k' = k
      · subst e2
        rw [if_pos rfl, if_pos rfl]
      · rw [if_neg (by omega), if_neg e2]
        exact h1 c' hc' k' hk'
    · rw [if_neg e, hf _ (by omega)]
      exact h1 c' hc' k' hk'
  · have hm' : m < (wms w).length := hm
    exact rmM_congr (h2 m hm) fun k hk => hf _ (by omega)
  · have hi' : i < (wds w).length := hi
    exact rmD_congr (h3 i hi) (s6 i hi) fun k hk => hf _ (by omega)
  · exact rmQ_congr (h4 q hq) (s5 q hq) fun k hk => hf _ (by omega)
theorem RM_uH {g : wF} {w : wW} {k : Nat} {v : Int32} (h : RM g w) (hs : WS w) (hk : k = 4 ∨ k = 5) : RM (upd g k v) (uH w k v) := by
  obtain ⟨h0, h1, h2, h3, h4⟩ := h
  obtain ⟨s0, s1, s2, s3, s4, s5, s6⟩ := hs
  have hf : ∀ j, j ≠ k → upd g k v j = g j := fun j hj => by unfold upd; rw [if_neg hj]
  obtain ⟨a0, a1, a2, a3, a4, a5, a6, a7⟩ := h0
  refine ⟨⟨?_, ?_, ?_, ?_, ?_, ?_, ?_, fun j hj => ?_⟩, fun c hc j hj => ?_, fun m hm => ?_, fun i hi => ?_, fun q hq => ?_⟩
  · rw [hf _ (by omega)]; exact a0
  · rw [hf _ (by omega)]; exact a1
  · rw [hf _ (by omega)]; exact a2
  · rw [hf _ (by omega)]; exact a3
  · show upd g k v 4 = upd (wh w) k v 4
    unfold upd
    rw [a4]
  · show upd g k v 5 = upd (wh w) k v 5
    unfold upd
    rw [a5]
  · rw [hf _ (by omega)]; exact a6
  · rw [hf _ (by omega)]; exact a7 j hj
  · rw [hf _ (by omega)]; exact h1 c hc j hj
  · exact rmM_congr (h2 m hm) fun k hk => hf _ (by omega)
  · exact rmD_congr (h3 i hi) (s6 i hi) fun k hk => hf _ (by omega)
  · exact rmQ_congr (h4 q hq) (s5 q hq) fun k hk => hf _ (by omega)
-- sizes stay
theorem WS_uQ {w : wW} {q : Nat} {F : wQue → wQue} (hs : WS w) (hq : q < (wqs w).length) (hx : wsQ (F (wq w q))) : WS (uQ w q F) := by
  obtain ⟨s0, s1, s2, s3, s4, s5, s6⟩ := hs
  refine ⟨?_, s1, s2, s3, s4, fun q' hq' => ?_, s6⟩
  · rw [wqs_uQ, List.length_modify]; exact s0
  · rw [wqs_uQ, List.length_modify] at hq'
    rw [wq_uQ hq]
    by_cases e : q' = q
    · rw [if_pos e]; exact hx
    · rw [if_neg e]; exact s5 q' hq'
theorem WS_uC {w : wW} (hs : WS w) (c k : Nat) (v : Int32) : WS (uC w c k v) := by
  obtain ⟨s0, s1, s2, s3, s4, s5, s6⟩ := hs
  refine ⟨s0, ?_, s2, s3, s4, s5, s6⟩
  rw [show wcs (uC w c k v) = (wcs w).modify c (fun f => upd f k v) from rfl, List.length_modify]; exact s1
theorem WS_uS {w : wW} {q : Nat} (hs : WS w) (hq : q < (wqs w).length) (k : Nat) (v : Int32) : WS (uS w q k v) := WS_uQ hs hq (hs.2.2.2.2.2.1 q hq)
theorem WS_uL {w : wW} {q : Nat} (hs : WS w) (hq : q < (wqs w).length) (i k : Nat) (v : Int32) : WS (uL w q i k v) := by
  refine WS_uQ hs hq ?_
  obtain ⟨s0, s1, s2, s3, s4⟩ := hs.2.2.2.2.2.1 q hq
  refine ⟨s0, s1, s2, ?_, fun j hj => ?_⟩
  · show ((wL (wq w q)).modify i _).length ≤ 20
    rw [List.length_modify]; exact s3
  · have hj' : j < ((wL (wq w q)).modify i fun l => (upd l.1 k v, l.2)).length := hj
    rw [List.length_modify] at hj'
    show (((wL (wq w q)).modify i fun l => (upd l.1 k v, l.2)).getD j (wz, [])).2.length ≤ 5
    rw [getD_modify]
    split
    next hh => exact s4 i hh.2
    next => exact s4 j hj'
/-- the other arrays stay -/
def mK (S S' : mS) : Prop := (∀ a, a ≠ 0 → S'.1 a = S.1 a) ∧ S'.2 = S.2
theorem mK.rf {S : mS} : mK S S := ⟨fun _ _ => rfl, rfl⟩
theorem mK.tr {S S' S2 : mS} (h : mK S S') (h2 : mK S' S2) : mK S S2 := ⟨fun a ha => (h2.1 a ha).trans (h.1 a ha), h2.2.trans h.2⟩
theorem mK_up (S : mS) (j : Nat) (x : Int32) : mK S (mup S 0 j x) := ⟨fun a ha => if_neg ha, rfl⟩
theorem mup_0 (S : mS) (j : Nat) (x : Int32) : (mup S 0 j x).1 0 = upd (S.1 0) j x := by
  show (if (0 : Nat) = 0 then upd (S.1 0) j x else S.1 0) = _
  rw [if_pos rfl]
theorem e_mwr {S : mS} {k n i : Nat} (h : i < n) (hn : n < 2 ^ 31) (x : Int32) : mwr S k n (nI i) x = some (mup S k i x) := by
  unfold mwr
  rw [if_neg (nI_in h hn), nI_clamp (by omega)]
section
variable {S : mS} {w : wW}
theorem P_is {q k : Nat} (h : 3471 + 556 * q + k < 7919) (v : Int32) : fX3_is (nI q) (nI k) v S = some ((), mup S 0 (3471 + 556 * q + k) v) := by
  unfold fX3_is
  rw [nI_mul, nI_add, nI_add, e_mwr h (by decide)]
  rfl
theorem P_lis {q i k : Nat} (h : 3471 + 556 * q + (36 + 26 * i + k) < 7919) (v : Int32) : fX3_letterIs (nI q) (nI i) (nI k) v S = some ((), mup S 0 (3471 + 556 * q + (36 + 26 * i + k)) v) := by
  unfold fX3_letterIs
  rw [nI_mul, nI_add, nI_add, P_is h]
  rfl
/-- a scalar of a queue -/
theorem P_sc (hR : RM (S.1 0) w) (hs : WS w) {q k : Nat} (hq : q < (wqs w).length) (h1 : 26 ≤ k) (h2 : k < 35) (v : Int32) : ∃ S', fX3_is (nI q) (nI k) v S = some ((), S') ∧ RM (S'.1 0) (uS w q k v) ∧ mK S S' := by
  have h8 : q < 8 := Nat.lt_of_lt_of_le hq hs.1
  refine ⟨_, P_is (by omega) v, ?_, mK_up _ _ _⟩
  rw [mup_0]
  refine RM_uQ hR hs hq (fun j hj => ?_) ?_
  · unfold upd
    rw [if_neg (by omega)]
  · obtain ⟨r0, r1, r2, r3, r4, r5, r6⟩ := rQ hR hq
    obtain ⟨s0, s1, s2, s3, s4⟩ := hs.2.2.2.2.2.1 q hq
    have hf : ∀ j, j ≠ k → upd (S.1 0) (3471 + 556 * q + k) v (3471 + 556 * q + j) = S.1 0 (3471 + 556 * q + j) := fun j hj => by unfold upd; rw [if_neg (by omega)]
    refine ⟨?_, fun j hj => ?_, ?_, fun j hj => ?_, fun j hj1 hj2 => ?_, ?_, fun i hi => rmL_congr (r6 i hi) (s4 i hi) fun j hj => hf _ (by omega)⟩
    · dsimp only
      rw [hf _ (by omega)]; exact r0
    · have hj' : j < (wq w q).2.1.length := hj
      dsimp only
      rw [hf _ (by omega)]; exact r1 j hj
    · dsimp only
      rw [hf _ (by omega)]; exact r2
    · have hj' : j < (wq w q).2.2.1.length := hj
      dsimp only
      rw [hf _ (by omega)]; exact r3 j hj
    · dsimp only
      by_cases e : j = k
      · subst e
        unfold upd
        rw [if_pos rfl, if_pos rfl]
      · rw [hf _ e]
        refine (r4 j hj1 hj2).trans ?_
        unfold upd
        rw [if_neg e]
    · dsimp only
      rw [hf _ (by omega)]; exact r5
/-- a column of a letter: 1, 3 or 4 -/
theorem P_lc (hR : RM (S.1 0) w) (hs : WS w) {q i k : Nat} (hq : q < (wqs w).length) (hi : i < (wL (wq w q)).length) (hk : k = 1 ∨ k = 3 ∨ k = 4) (v : Int32) : ∃ S', fX3_letterIs (nI q) (nI i) (nI k) v S = some ((), S') ∧ RM (S'.1 0) (uL w q i k v) ∧ mK S S' := by
  have h8 : q < 8 := Nat.lt_of_lt_of_le hq hs.1
  obtain ⟨s0, s1, s2, s3, s4⟩ := hs.2.2.2.2.2.1 q hq
  refine ⟨_, P_lis (by omega) v, ?_, mK_up _ _ _⟩
  rw [mup_0]
  refine RM_uQ hR hs hq (fun j hj => ?_) ?_
  · unfold upd
    rw [if_neg (by omega)]
  · obtain ⟨r0, r1, r2, r3, r4, r5, r6⟩ := rQ hR hq
    have hf : ∀ j, j ≠ 36 + 26 * i + k → upd (S.1 0) (3471 + 556 * q + (36 + 26 * i + k)) v (3471 + 556 * q + j) = S.1 0 (3471 + 556 * q + j) := fun j hj => by unfold upd; rw [if_neg (by omega)]
    refine ⟨?_, fun j hj => ?_, ?_, fun j hj => ?_, fun j hj1 hj2 => ?_, ?_, fun i' hi' => ?_⟩
    · dsimp only
      rw [hf _ (by omega)]; exact r0
    · have hj' : j < (wq w q).2.1.length := hj
      dsimp only
      rw [hf _ (by omega)]; exact r1 j hj
    · dsimp only
      rw [hf _ (by omega)]; exact r2
    · have hj' : j < (wq w q).2.2.1.length := hj
      dsimp only
      rw [hf _ (by omega)]; exact r3 j hj
    · dsimp only
      rw [hf _ (by omega)]; exact r4 j hj1 hj2
    · show upd (S.1 0) (3471 + 556 * q + (36 + 26 * i + k)) v (3471 + 556 * q + 35) = nI ((wL (wq w q)).modify i _).length
      rw [List.length_modify, hf _ (by omega)]; exact r5
    · have hi2 : i' < ((wL (wq w q)).modify i fun l => (upd l.1 k v, l.2)).length := hi'
      rw [List.length_modify] at hi2
      show rmL _ (((wL (wq w q)).modify i fun l => (upd l.1 k v, l.2)).getD i' (wz, []))
      rw [getD_modify]
      by_cases e : i' = i
      · subst e
        rw [if_pos ⟨rfl, hi⟩]
        obtain ⟨t0, t1, t2, t3, t4, t5, t6⟩ := r6 i' hi
        have h5 := s4 i' hi
        refine ⟨?_, ?_, ?_, ?_, ?_, ?_, rmC_congr t6 fun j hj => hf _ (by
          have hj' : j < 4 * (wl (wq w q) i').2.length := hj
          omega)⟩
        · show upd (S.1 0) _ v (3471 + 556 * q + (36 + 26 * i' + 0)) = upd (wl (wq w q) i').1 k v 0
          rw [hf _ (by omega)]
          unfold upd
          rw [if_neg (by omega)]; exact t0
        · show upd (S.1 0) _ v (3471 + 556 * q + (36 + 26 * i' + 1)) = upd (wl (wq w q) i').1 k v 1
          rcases hk with rfl | rfl | rfl
          · unfold upd
            rw [if_pos rfl, if_pos rfl]
          · rw [hf _ (by omega)]; exact t1
          · rw [hf _ (by omega)]; exact t1
        · show upd (S.1 0) _ v (3471 + 556 * q + (36 + 26 * i' + 2)) = _
          rw [hf _ (by omega)]; exact t2
        · show upd (S.1 0) _ v (3471 + 556 * q + (36 + 26 * i' + 3)) = upd (wl (wq w q) i').1 k v 3
          rcases hk with rfl | rfl | rfl
          · rw [hf _ (by omega)]; exact t3
          · unfold upd
            rw [if_pos rfl, if_pos rfl]
          · rw [hf _ (by omega)]; exact t3
        · show upd (S.1 0) _ v (3471 + 556 * q + (36 + 26 * i' + 4)) = upd (wl (wq w q) i').1 k v 4
          rcases hk with rfl | rfl | rfl
          · rw [hf _ (by omega)]; exact t4
          · rw [hf _ (by omega)]; exact t4
          · unfold upd
            rw [if_pos rfl, if_pos rfl]
        · show upd (S.1 0) _ v (3471 + 556 * q + (36 + 26 * i' + 5)) = _
          rw [hf _ (by omega)]; exact t5
      · rw [if_neg (fun hh => e hh.1)]
        exact rmL_congr (r6 i' hi2) (s4 i' hi2) fun j hj => hf _ (by omega)
theorem P_C (hR : RM (S.1 0) w) (hs : WS w) {c k : Nat} (hc : c < (wcs w).length) (hk : k < 4) (v : Int32) : ∃ S', mwr S 0 7919 (nI (11 + 4 * c + k)) v = some S' ∧ RM (S'.1 0) (uC w c k v) ∧ mK S S' := by
  have h9 := hs.2.1
  refine ⟨_, e_mwr (by omega) (by decide) v, ?_, mK_up _ _ _⟩
  rw [mup_0]
  exact RM_uC hR hs hc hk
theorem P_H (hR : RM (S.1 0) w) (hs : WS w) {k : Nat} (hk : k = 4 ∨ k = 5) (v : Int32) : ∃ S', mwr S 0 7919 (nI k) v = some S' ∧ RM (S'.1 0) (uH w k v) ∧ mK S S' := by
  refine ⟨_, e_mwr (by omega) (by decide) v, ?_, mK_up _ _ _⟩
  rw [mup_0]
  exact RM_uH hR hs hk
end
