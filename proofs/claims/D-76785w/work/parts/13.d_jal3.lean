/-! ArrayList at the level rN, third: removal, clearing, insertion, addAll; its iterator -/
set_option maxRecDepth 100000
set_option maxHeartbeats 1000000
theorem al_fin {G : gG} {N M : gM} {own : Nat → Option Nat} {nx a : Nat} {mc mc2 : Int32} {cap cap2 o2 nx2 : Nat} {xs xs2 : List Nat} {M2 : gM} {g : Nat → Option Nat} (h : rW G N M own nx) (ha : N a = some (cT 0 mc cap xs)) (hnx : nx ≤ nx2) (ho2 : own o2 = some a ∨ (nx ≤ o2 ∧ o2 < nx2)) (hoE : o2 ≠ G.2.2.1 1) (hMa : M2 a = some (cO 15 [.int mc2, .ref o2, .int (nI xs2.length)])) (hMo : M2 o2 = some (cAq 5 cap2 g)) (hrow : rowQ g cap2 xs2) (hlen : xs2.length ≤ cap2) (h0 : 0 < cap2) (hcap : cap2 ≤ 9000) (hall : allN N xs2) (hfr : ∀ b, b < nx → b ≠ a → own b ≠ some a → M2 b = M b) : rN G (gup N a (cT 0 mc2 cap2 xs2)) M2 nx2 := by
  obtain ⟨-, hoa, halt, -⟩ := al_at h ha
  have hane : a ≠ o2 := fun e => by
    rcases ho2 with k | k
    · rw [← e, hoa] at k; cases k
    · omega
  refine al_set h ha [o2] hnx (by simpa using hane) (fun b hb => ?_) hfr ⟨o2, hMa, hlen, hcap, allN_set hall (by simp [anyN, ha]), Or.inr ⟨h0, ownU_in (by simp), hoE, g, hMo, hrow⟩⟩
  rw [List.mem_singleton.mp hb]
  exact ho2
theorem nI_sub1 {n : Nat} (h : 0 < n) : nI n - nI 1 = nI (n - 1) := pk_sub h
theorem rowQ_erase {f : Nat → Option Nat} {cap j : Nat} {xs : List Nat} (h : rowQ f cap xs) (hj : j < xs.length) (hc : xs.length ≤ cap) : rowQ (va_up (va_cpy f f (j + 1) j (xs.length - 1 - j)) (xs.length - 1) none) cap (xs.eraseIdx j) := by
  have hl : (xs.eraseIdx j).length = xs.length - 1 := by rw [List.length_eraseIdx, if_pos hj]
  refine ⟨fun i hi => ?_, fun i h1 h2 => ?_⟩
  · rw [hl] at hi
    rw [va_up_ne _ _ (by omega), List.getElem?_eraseIdx]
    by_cases c : i < j
    · rw [pk_cpy_out (Or.inl c), if_pos c, h.1 i (by omega)]
    · rw [pk_cpy_in (by omega) (by omega), if_neg c, show j + 1 + (i - j) = i + 1 by omega, h.1 (i + 1) (by omega)]
  · rw [hl] at h1
    by_cases c : i = xs.length - 1
    · subst c; rw [va_up_self]
    · rw [va_up_ne _ _ c, pk_cpy_out (by omega), h.2 i (by omega) h2]
/-- fastRemove -/
theorem al_fast {G : gG} {M : gM} {nx a o cap j : Nat} {mc : Int32} {xs : List Nat} {f : Nat → Option Nat} (h1 : M a = some (cO 15 [.int mc, .ref o, .int (nI xs.length)])) (hoa : o ≠ a) (hoE : o ≠ G.2.2.1 1) (h2 : M o = some (cAq 5 cap f)) (hr : rowQ f cap xs) (hj : j < xs.length) (hl : xs.length ≤ cap) (hc : cap ≤ 9000) (hall : ∀ y ∈ xs, anyO G (M, nx) y = true ∧ y ≠ a) :
    ∃ M2 g, fJ2_fastRemove G a (some o) (nI j) (M, nx) = some ((), (M2, nx), 0, 0) ∧ M2 a = some (cO 15 [.int (mc + 1), .ref o, .int (nI (xs.eraseIdx j).length)]) ∧ M2 o = some (cAq 5 cap g) ∧ rowQ g cap (xs.eraseIdx j) ∧ ∀ b, b ≠ a → b ≠ o → M2 b = M b := by
  have hle : (xs.eraseIdx j).length = xs.length - 1 := by rw [List.length_eraseIdx, if_pos hj]
  have hrow := rowQ_erase hr hj hl
  rw [hle]
  have e1 : ∀ y, y ≠ a → (gup M a (cO 15 [.int (mc + 1), .ref o, .int (nI xs.length)])) y = M y := fun y hy => gup_n _ _ hy
  by_cases c : j = xs.length - 1
  · refine ⟨gup (gup M a (cO 15 [.int (mc + 1), .ref o, .int (nI (xs.length - 1))])) o (cAq 5 cap (va_up f (xs.length - 1) none)), _, ?_, ?_, gup_s _ _ _, ?_, fun b hb hbo => ?_⟩
    · unfold fJ2_fastRemove fJ2_fastRemove_b34
      refine bd_i (e_rdI h1 rfl) (bd_i (e_wr [.int (mc + 1), .ref o, .int (nI xs.length)] h1 (by simp) rfl) (bd_i (e_rdI (gup_s _ _ _) rfl) ?_))
      rw [nI_sub1 (by omega)]
      refine if_i (by rw [c]; exact nI_le (Nat.le_refl _) (by omega)) (bd_i (e_wr [.int (mc + 1), .ref o, .int (nI (xs.length - 1))] (gup_s _ _ _) (by simp) rfl) ?_)
      rw [gup_gup]
      exact bd_i rfl (bd_i (e_wrAq ((gup_n _ _ hoa).trans h2) (by omega) (by omega)) rfl)
    · rw [gup_n _ _ (Ne.symm hoa), gup_s]
    · have e : va_cpy f f (j + 1) j (xs.length - 1 - j) = f := by
        funext i
        rw [pk_cpy_out (by omega)]
      rw [e] at hrow
      exact hrow
    · rw [gup_n _ _ hbo, gup_n _ _ hb]
  · refine ⟨gup (gup (gup (gup M a (cO 15 [.int (mc + 1), .ref o, .int (nI xs.length)])) o (cAq 5 cap (va_cpy f f (j + 1) j (xs.length - 1 - j)))) a (cO 15 [.int (mc + 1), .ref o, .int (nI (xs.length - 1))])) o (cAq 5 cap (va_up (va_cpy f f (j + 1) j (xs.length - 1 - j)) (xs.length - 1) none)), _, ?_, ?_, gup_s _ _ _, hrow, fun b hb hbo => ?_⟩
    · unfold fJ2_fastRemove fJ2_fastRemove_b34
      refine bd_i (e_rdI h1 rfl) (bd_i (e_wr [.int (mc + 1), .ref o, .int (nI xs.length)] h1 (by simp) rfl) (bd_i (e_rdI (gup_s _ _ _) rfl) ?_))
      rw [nI_sub1 (by omega)]
      refine if_e (nI_ge (by omega) (by omega)) (bd_i rfl ?_)
      rw [nI_add, pk_sub (by omega)]
      refine bd_i (e_cpyQ hoE ((e1 o hoa).trans h2) ((e1 o hoa).trans h2) (by omega) (by omega) (by omega) (by omega) (fun i hi y hy => ?_)) ?_
      · rw [hr.1 _ (by omega)] at hy
        obtain ⟨h3, h4⟩ := hall y (List.mem_of_getElem? hy)
        exact anyO_at h3 (e1 y h4)
      · refine bd_i (e_wr [.int (mc + 1), .ref o, .int (nI (xs.length - 1))] ((gup_n _ _ (Ne.symm hoa)).trans (gup_s _ _ _)) (by simp) rfl) ?_
        exact bd_i rfl (bd_i (e_wrAq ((gup_n _ _ hoa).trans (gup_s _ _ _)) (by omega) (by omega)) rfl)
    · rw [gup_n _ _ (Ne.symm hoa), gup_s]
    · rw [gup_n _ _ hbo, gup_n _ _ hb, gup_n _ _ hbo, gup_n _ _ hb]
/-- what a list with an element has -/
theorem al_real {G : gG} {N M : gM} {own : Nat → Option Nat} {nx a : Nat} {mc : Int32} {cap : Nat} {xs : List Nat} (h : rW G N M own nx) (ha : N a = some (cT 0 mc cap xs)) (hl : 0 < xs.length) : ∃ o f, M a = some (cO 15 [.int mc, .ref o, .int (nI xs.length)]) ∧ xs.length ≤ cap ∧ cap ≤ 9000 ∧ allN N xs ∧ own o = some a ∧ o ≠ G.2.2.1 1 ∧ o ≠ a ∧ M o = some (cAq 5 cap f) ∧ rowQ f cap xs ∧ (∀ y ∈ xs, anyO G (M, nx) y = true ∧ y ≠ a) := by
  obtain ⟨⟨o, h3, h4, h5, h6, h7⟩, hoa, halt, hall⟩ := al_at h ha
  rcases h7 with ⟨-, h7⟩ | ⟨h7, h8, h9, f, h10, h11⟩
  · omega
  · exact ⟨o, f, h3, h4, h5, h6, h8, h9, (fun e => by rw [e, hoa] at h8; cases h8), h10, h11, fun y hy => ⟨(hall y hy).1, (hall y hy).2.2.2⟩⟩
theorem allN_erase {N : gM} {xs : List Nat} {j : Nat} (h : allN N xs) : allN N (xs.eraseIdx j) := fun x hx => h x (List.mem_of_mem_eraseIdx hx)
/-- remove(int) -/
theorem al_remI {G : gG} {N M : gM} {own : Nat → Option Nat} {nx a j : Nat} {mc : Int32} {cap : Nat} {xs : List Nat} (h : rW G N M own nx) (ha : N a = some (cT 0 mc cap xs)) (hj : j < xs.length) : ∃ M2, fJ2_remove_2 G a (nI j) (M, nx) = some (xs[j]?, (M2, nx), 0, 0) ∧ rN G (gup N a (cT 0 (mc + 1) cap (xs.eraseIdx j))) M2 nx ∧ (∀ b, b ≠ a → own b ≠ some a → M2 b = M b) ∧ ∃ o, M2 a = some (cO 15 [.int (mc + 1), .ref o, .int (nI (xs.eraseIdx j).length)]) := by
  obtain ⟨o, f, h3, h4, h5, h6, h8, h9, h10, h11, h12, hall⟩ := al_real h ha (by omega)
  obtain ⟨M2, g, k1, k2, k3, k4, k5⟩ := al_fast (nx := nx) h3 h10 h9 h11 h12 hj h4 h5 hall
  have hfr : ∀ b, b ≠ a → own b ≠ some a → M2 b = M b := fun b hb hob => k5 b hb (fun e => hob (by rw [e]; exact h8))
  have hle : (xs.eraseIdx j).length = xs.length - 1 := by rw [List.length_eraseIdx, if_pos hj]
  refine ⟨M2, ?_, al_fin h ha (Nat.le_refl _) (Or.inl h8) h9 k2 k3 k4 (by omega) (by omega) h5 (allN_erase h6) (fun b _ hb hob => hfr b hb hob), hfr, o, k2⟩
  unfold fJ2_remove_2
  refine bd_i (e_rdI h3 rfl) (gb_0 (e_check hj (by omega)) (bd_i (e_rdR (some o) h3 rfl) (bd_i rfl (bd_i (e_rdAq h11 (by omega) (by omega)) (bd_i (e_chk h3) (gb_0 k1 ?_))))))
  rw [h12.1 j hj]
theorem J1_AL_removeI {l : Launch} {G : gG} : J_nAL_removeI l G (rN G) := by
  intro a i S r S2 C N h
  unfold nAL_removeI at h
  obtain ⟨q, h1, h2⟩ := bdo h
  split at h2
  next hin =>
    cases h2
    refine met_up fun M hR => ?_
    obtain ⟨own, hW⟩ := hR
    obtain ⟨⟨o, -, h4, h5, -⟩, -⟩ := al_at hW (adt_M h1)
    obtain ⟨j, hj, rfl, hcl⟩ := inr0_o hin (by omega)
    rw [hcl]
    obtain ⟨M2, k1, k2, -⟩ := al_remI hW (adt_M h1) hj
    exact ⟨M2, k2, gMet_room (mJ2_remove_2 rP_ok k1) (by decide) (by decide)⟩
  next => cases h2
theorem erase_first : ∀ (xs : List Nat) (x i : Nat), xs[i]? = some x → (∀ j, j < i → xs[j]? ≠ some x) → xs.erase x = xs.eraseIdx i
  | [], _, _, h, _ => by simp at h
  | y :: ys, x, 0, h, _ => by
    simp at h
    subst h
    simp
  | y :: ys, x, i + 1, h, h2 => by
    have h3 : y ≠ x := fun e => h2 0 (by omega) (by simp [e])
    have h4 := erase_first ys x i (by simpa using h) (fun j hj => by simpa using h2 (j + 1) (by omega))
    rw [List.erase_cons, if_neg (by simpa using h3), List.eraseIdx_cons_succ, h4]
theorem al_find {G : gG} {M : gM} {nx a o cap x : Nat} {mc : Int32} {xs : List Nat} {f : Nat → Option Nat} {fs : List Value} (h1 : M a = some (cO 15 [.int mc, .ref o, .int (nI xs.length)])) (h2 : M o = some (cAq 5 cap f)) (hr : rowQ f cap xs) (hl : xs.length ≤ cap) (hc : cap ≤ 9000) (hx : M x = some (cO 4 fs)) : ∀ (k i n : Nat), i + k = xs.length → k < n → (∀ j, j < i → xs[j]? ≠ some x) →
    (x ∉ xs ∧ fJ2_remove_b39 G n a (some x) (some o) (nI xs.length) (nI i) (M, nx) = some (nI 0, (M, nx), 0, 0)) ∨ ∃ j, j < xs.length ∧ xs[j]? = some x ∧ (∀ j', j' < j → xs[j']? ≠ some x) ∧ fJ2_remove_b39 G n a (some x) (some o) (nI xs.length) (nI i) (M, nx) = fJ2_remove_b67 G a (some o) (nI j) (M, nx)
  | 0, i, n + 1, hik, _, hpre => by
    refine Or.inl ⟨fun hm => ?_, ?_⟩
    · obtain ⟨j, hj⟩ := List.getElem?_of_mem hm
      have := (List.getElem?_eq_some_iff.mp hj).1
      exact hpre j (by omega) hj
    · rw [fJ2_remove_b39]
      exact if_i (nI_le (by omega) (by omega)) (zg_0 _)
  | k + 1, i, n + 1, hik, hn, hpre => by
    have hi : i < xs.length := by omega
    have step : fJ2_remove_b39 G (n + 1) a (some x) (some o) (nI xs.length) (nI i) (M, nx) = if xs[i]? = some x then fJ2_remove_b67 G a (some o) (nI i) (M, nx) else fJ2_remove_b39 G n a (some x) (some o) (nI xs.length) (nI (i + 1)) (M, nx) := by
      rw [fJ2_remove_b39, if_neg (nI_ge hi (by omega))]
      simp only [bd]
      rw [e_rdAq h2 (by omega) (by omega), e_chk hx, hr.1 i hi]
      simp only
      unfold fJ41_equals_c4
      by_cases e : xs[i]? = some x
      · rw [if_pos e, if_pos e.symm, zg_1]
        simp only [gb]
        rw [if_neg (show ¬ (nI 1 : Int32) = 0 by decide)]
        cases fJ2_remove_b67 G a (some o) (nI i) (M, nx) with
        | none => rfl
        | some t => simp
      · rw [if_neg e, if_neg (fun z => e z.symm), zg_0]
        simp only [gb]
        rw [if_pos (show (nI 0 : Int32) = 0 by decide), nI_add]
        cases fJ2_remove_b39 G n a (some x) (some o) (nI xs.length) (nI (i + 1)) (M, nx) with
        | none => rfl
        | some t => simp
    rw [step]
    by_cases e : xs[i]? = some x
    · rw [if_pos e]
      exact Or.inr ⟨i, hi, e, hpre, rfl⟩
    · rw [if_neg e]
      exact al_find h1 h2 hr hl hc hx k (i + 1) n (by omega) (by omega) (fun j hj => by
        by_cases c : j = i
        · rw [c]; exact e
        · exact hpre j (by omega))
theorem FU_big : 9000 < FU := by decide
theorem J1_AL_removeO {l : Launch} {G : gG} : J_nAL_removeO l G (rN G) := by
  intro a v S r S2 C N h
  unfold nAL_removeO at h
  obtain ⟨q, h1, g1⟩ := bdo h
  obtain ⟨x, hv, g2⟩ := bdo g1
  obtain ⟨k, hk, g3⟩ := bdo g2
  clear h g1 g2
  subst hv
  split at g3
  next h4k =>
    subst h4k
    obtain ⟨fs, hxN⟩ := clsO_o hk
    obtain ⟨mc, cap, xs⟩ := q
    dsimp only at g3
    refine met_up fun M hR => ?_
    obtain ⟨own, hW⟩ := hR
    have ha : S.1 a = some (cT 0 mc cap xs) := adt_M h1
    have hxM := (hW.1 x _ hxN).1
    have hfound : fJ2_remove G a (some x) (M, S.2) = (bd (rdR (M, S.2) a 15 1) fun v1 => bd (rdI (M, S.2) a 15 2) fun v2 => fJ2_remove_b39 G FU a (some x) v1 v2 (nI 0) (M, S.2)) := rfl
    by_cases hl : xs.length = 0
    · have hxs : xs = [] := List.eq_nil_of_length_eq_zero hl
      subst hxs
      rw [if_neg (by simp)] at g3
      cases g3
      obtain ⟨⟨o, h3, -⟩, -⟩ := al_at hW ha
      refine ⟨M, ⟨own, hW⟩, gMet_room (mJ2_remove rP_ok ?_) (by decide) (by decide)⟩
      rw [hfound]
      refine bd_i (e_rdR (some o) h3 rfl) (bd_i (e_rdI h3 rfl) ?_)
      rw [show FU = 9999 + 1 from rfl, fJ2_remove_b39]
      exact if_i (by decide) (zg_0 _)
    · obtain ⟨o, f, h3, h4, h5, h6, h8, h9, h10, h11, h12, hall⟩ := al_real hW ha (by omega)
      rcases al_find (G := G) (nx := S.2) h3 h11 h12 h4 h5 hxM xs.length 0 FU (by omega) (Nat.lt_of_le_of_lt (by omega) FU_big) (fun j hj => by omega) with ⟨e1, e2⟩ | ⟨j, hj, e1, e2, e3⟩
      · rw [if_neg e1] at g3
        cases g3
        refine ⟨M, ⟨own, hW⟩, gMet_room (mJ2_remove rP_ok ?_) (by decide) (by decide)⟩
        rw [hfound]
        exact bd_i (e_rdR (some o) h3 rfl) (bd_i (e_rdI h3 rfl) e2)
      · rw [if_pos (List.mem_of_getElem? e1), erase_first xs x j e1 e2] at g3
        cases g3
        obtain ⟨M2, g, k1, k2, k3, k4, k5⟩ := al_fast (nx := S.2) h3 h10 h9 h11 h12 hj h4 h5 hall
        have hle : (xs.eraseIdx j).length = xs.length - 1 := by rw [List.length_eraseIdx, if_pos hj]
        refine ⟨M2, al_fin hW ha (Nat.le_refl _) (Or.inl h8) h9 k2 k3 k4 (by omega) (by omega) h5 (allN_erase h6) (fun b _ hb hob => k5 b hb (fun e => hob (by rw [e]; exact h8))), gMet_room (mJ2_remove rP_ok ?_) (by decide) (by decide)⟩
        rw [hfound]
        refine bd_i (e_rdR (some o) h3 rfl) (bd_i (e_rdI h3 rfl) (e3.trans ?_))
        unfold fJ2_remove_b67
        exact bd_i (e_chk h3) (gb_0 k1 (zg_1 _))
  next => cases g3
theorem al_clr {G : gG} {nx o cap len : Nat} (hc : cap ≤ 9000) (hl : len ≤ cap) : ∀ (k i n : Nat) (M : gM) (f : Nat → Option Nat), M o = some (cAq 5 cap f) → i + k = len → k < n →
    ∃ M2 g, fJ2_clear_b27 G n (some o) (nI len) (nI i) (M, nx) = some ((), (M2, nx), 0, 0) ∧ M2 o = some (cAq 5 cap g) ∧ (∀ j, g j = if i ≤ j ∧ j < len then none else f j) ∧ ∀ b, b ≠ o → M2 b = M b
  | 0, i, n + 1, M, f, h, hik, _ => by
    refine ⟨M, f, ?_, h, fun j => by rw [if_neg (by omega)], fun b _ => rfl⟩
    rw [fJ2_clear_b27]
    exact if_i (nI_le (by omega) (by omega)) rfl
  | k + 1, i, n + 1, M, f, h, hik, hn => by
    obtain ⟨M2, g, k1, k2, k3, k4⟩ := al_clr hc hl k (i + 1) n (gup M o (cAq 5 cap (va_up f i none))) (va_up f i none) (gup_s _ _ _) (by omega) (by omega)
    refine ⟨M2, g, ?_, k2, fun j => ?_, fun b hb => (k4 b hb).trans (gup_n _ _ hb)⟩
    · rw [fJ2_clear_b27]
      refine if_e (nI_ge (by omega) (by omega)) (bd_i rfl (bd_i (e_wrAq h (by omega) (by omega)) ?_))
      rw [nI_add]
      exact k1
    · rw [k3 j]
      by_cases c : j = i
      · subst c
        rw [if_neg (by omega), if_pos (by omega), va_up_self]
      · rw [va_up_ne _ _ c]
        by_cases c2 : i + 1 ≤ j ∧ j < len
        · rw [if_pos c2, if_pos (by omega)]
        · rw [if_neg c2, if_neg (by omega)]
theorem J1_AL_clear {l : Launch} {G : gG} : J_nAL_clear l G (rN G) := by
  intro a S r S2 C N h
  unfold nAL_clear at h
  obtain ⟨q, h1, h2⟩ := bdo h
  cases h2
  obtain ⟨mc, cap, xs⟩ := q
  refine met_up fun M hR => ?_
  obtain ⟨own, hW⟩ := hR
  have ha : S.1 a = some (cT 0 mc cap xs) := adt_M h1
  obtain ⟨⟨o, h3, h4, h5, h6, h7⟩, hoa, halt, hall⟩ := al_at hW ha
  have hrun : ∀ M2, fJ2_clear_b27 G FU (some o) (nI xs.length) (nI 0) (gup M a (cO 15 [.int (mc + 1), .ref o, .int (nI 0)]), S.2) = some ((), (M2, S.2), 0, 0) → fJ2_clear G a (M, S.2) = some ((), (M2, S.2), 0, 0) := by
    intro M2 hrun
    unfold fJ2_clear
    refine bd_i (e_rdI h3 rfl) (bd_i (e_wr [.int (mc + 1), .ref o, .int (nI xs.length)] h3 (by simp) rfl) (bd_i (e_rdR (some o) (gup_s _ _ _) rfl) (bd_i (e_rdI (gup_s _ _ _) rfl) (bd_i (e_wr [.int (mc + 1), .ref o, .int (nI 0)] (gup_s _ _ _) (by simp) rfl) ?_))))
    rw [gup_gup]
    exact hrun
  rcases h7 with ⟨e1, e2⟩ | ⟨h7, h8, h9, f, h10, h11⟩
  · refine ⟨gup M a (cO 15 [.int (mc + 1), .ref o, .int (nI 0)]), ?_, gMet_room (mJ2_clear (r2 := ()) rP_ok (hrun _ ?_)) (by decide) (by decide)⟩
    · exact al_set hW ha [] (Nat.le_refl _) (by simp) (fun b hb => by cases hb) (fun b _ hb _ => gup_n _ _ hb) ⟨o, gup_s _ _ _, Nat.zero_le _, h5, (fun x hx => absurd hx (by simp)), Or.inl ⟨e1, e2⟩⟩
    · rw [show FU = 9999 + 1 from rfl, fJ2_clear_b27, show xs.length = 0 by omega]
      exact if_i (by decide) rfl
  · have hoa2 : o ≠ a := fun e => by rw [e, hoa] at h8; cases h8
    obtain ⟨M2, g, k1, k2, k3, k4⟩ := al_clr (G := G) (nx := S.2) h5 h4 xs.length 0 FU (gup M a (cO 15 [.int (mc + 1), .ref o, .int (nI 0)])) f ((gup_n _ _ hoa2).trans h10) (by omega) (Nat.lt_of_le_of_lt (by omega) FU_big)
    refine ⟨M2, al_fin hW ha (xs2 := []) (Nat.le_refl _) (Or.inl h8) h9 ((k4 a (Ne.symm hoa2)).trans (gup_s _ _ _)) k2 ⟨fun i hi => absurd hi (Nat.not_lt_zero _), fun i _ hi => ?_⟩ (Nat.zero_le _) h7 h5 (fun x hx => absurd hx (by simp)) (fun b _ hb hob => ?_), gMet_room (mJ2_clear (r2 := ()) rP_ok (hrun _ k1)) (by decide) (by decide)⟩
    · rw [k3 i]
      by_cases c : i < xs.length
      · rw [if_pos ⟨Nat.zero_le _, c⟩]
      · rw [if_neg (by omega)]
        exact h11.2 i (by omega) hi
    · have hbo : b ≠ o := fun e => hob (by rw [e]; exact h8)
      rw [k4 b hbo, gup_n _ _ hb]
