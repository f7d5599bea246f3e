/-! ArrayList at the level rN, second: growth, add, addAll, remove, clear -/
set_option maxRecDepth 100000
set_option maxHeartbeats 1000000
theorem rowQ_app {f : Nat → Option Nat} {cap x : Nat} {xs : List Nat} (h : rowQ f cap xs) (hl : xs.length < cap) : rowQ (va_up f xs.length (some x)) cap (xs ++ [x]) := by
  refine ⟨fun i hi => ?_, fun i h1 h2 => ?_⟩
  · rw [List.length_append, List.length_singleton] at hi
    by_cases e : i = xs.length
    · subst e
      rw [va_up_self]
      simp
    · rw [va_up_ne _ _ e, h.1 i (by omega), List.getElem?_append_left (by omega)]
  · rw [List.length_append, List.length_singleton] at h1
    rw [va_up_ne _ _ (by omega)]
    exact h.2 i (by omega) h2
theorem nI_max {a b : Nat} (ha : a < 2 ^ 31) (hb : b < 2 ^ 31) : (if nI a < nI b then nI b else nI a) = nI (max a b) := by
  by_cases c : a < b
  · rw [if_pos (nI_lt c hb), Nat.max_eq_right (by omega)]
  · rw [if_neg (nI_nlt (by omega) ha), Nat.max_eq_left (by omega)]
theorem nI_half {n : Nat} (h : n < 2 ^ 31) : nI n >>> ((nI 1) &&& 31) = nI (n / 2) := pk_shrN h _ 1 (by decide)
theorem e_copyOf {G : gG} {M : gM} {nx o n0 n1 : Nat} {f : Nat → Option Nat} {xs : List Nat} (ho : o ≠ G.2.2.1 1) (hlt : o < nx) (h0 : M o = some (cAq 5 n0 f)) (hr : rowQ f n0 xs) (hx : xs.length ≤ n0) (hn0 : n0 ≤ 9000) (hn1 : n1 ≤ 9000) (hle : xs.length ≤ n1) (hall : ∀ y ∈ xs, anyO G (M, nx) y = true ∧ y < nx) :
    ∃ f2, rowQ f2 n1 xs ∧ fJ19_copyOf_2 G (some o) (nI n1) (M, nx) = some (some nx, (gup M nx (cAq 5 n1 f2), nx + 1), 1, n1) := by
  have hne : o ≠ nx := by omega
  refine ⟨va_cpy f (fun _ => none) 0 0 (min n0 n1), ⟨fun i hi => ?_, fun i h1 h2 => ?_⟩, ?_⟩
  · rw [pk_cpy_in (Nat.zero_le _) (by omega), Nat.zero_add, Nat.sub_zero]
    exact hr.1 i hi
  · by_cases c : i < min n0 n1
    · rw [pk_cpy_in (Nat.zero_le _) (by omega), Nat.zero_add, Nat.sub_zero]
      exact hr.2 i h1 (by omega)
    · rw [pk_cpy_out (by omega)]
  · unfold fJ19_copyOf_2 fJ19_copyOf_3
    have e1 : (gup M nx (cAq 5 n1 (fun _ => none))) o = some (cAq 5 n0 f) := (gup_n M _ hne).trans h0
    refine bd_i rfl (bd_i (e_lenQ ho h0) (gb_i (c2 := 0) (n2 := 0) (if_i rfl (e_nwq (by omega) (c2 := 0) (n2 := 0) ?_ rfl rfl)) rfl rfl rfl))
    refine bd_i rfl (bd_i (e_lenQ ho e1) ?_)
    have em : (if nI n1 < nI n0 then nI n1 else nI n0) = nI (min n0 n1) := by
      by_cases c : n1 < n0
      · rw [if_pos (nI_lt c (by omega)), Nat.min_eq_right (by omega)]
      · rw [if_neg (nI_nlt (by omega) (by omega)), Nat.min_eq_left (by omega)]
    rw [em]
    refine bd_i (e_cpyQ ho e1 (gup_s _ _ _) (by omega) (by omega) (by omega) (by omega) (fun i hi y hy => ?_)) ?_
    · rw [Nat.zero_add] at hy
      have hi2 : i < xs.length := by
        apply Nat.lt_of_not_le
        intro z
        rw [hr.2 i z (by omega)] at hy
        cases hy
      rw [hr.1 i hi2] at hy
      obtain ⟨h3, h4⟩ := hall y (List.mem_of_getElem? hy)
      exact anyO_at h3 (gup_n M _ (by omega))
    · rw [gup_gup]
theorem al_grow {G : gG} {M : gM} {nx a o cap need : Nat} {mc sz : Int32} {xs : List Nat} (h1 : M a = some (cO 15 [.int mc, .ref o, .int sz])) (ha : a < nx) (ho : (o = G.2.2.1 1 ∧ cap = 0) ∨ (0 < cap ∧ o ≠ G.2.2.1 1 ∧ o < nx ∧ ∃ f, M o = some (cAq 5 cap f) ∧ rowQ f cap xs)) (hx : xs.length ≤ cap) (hall : ∀ y ∈ xs, anyO G (M, nx) y = true ∧ y < nx) (hc : cap < need) (hb : alCap cap need ≤ 9000) :
    ∃ f2, rowQ f2 (alCap cap need) xs ∧ fJ2_grow_2 G a (nI need) (M, nx) = some (some nx, (gup (gup M nx (cAq 5 (alCap cap need) f2)) a (cO 15 [.int mc, .ref nx, .int sz]), nx + 1), 1, alCap cap need) := by
  have hane : a ≠ nx := by omega
  rcases ho with ⟨e1, e2⟩ | ⟨h2, h3, h4, f, h5, h6⟩
  · subst e1 e2
    have hxs : xs = [] := List.eq_nil_of_length_eq_zero (by omega)
    subst hxs
    have ec : alCap 0 need = max 10 need := rfl
    rw [ec] at hb ⊢
    refine ⟨fun _ => none, ?_, ?_⟩
    · refine ⟨fun i hi => ?_, fun _ _ _ => rfl⟩
      cases hi
    unfold fJ2_grow_2
    refine bd_i (e_rdR (some _) h1 rfl) (bd_i rfl (bd_i e_lenQ0 (if_e (by decide) (bd_i (e_rdR (some _) h1 rfl) (if_i rfl ?_)))))
    rw [nI_max (by omega) (by omega)]
    refine e_nwq (by omega) (c2 := 0) (n2 := 0) ?_ rfl rfl
    exact bd_i (e_wr [.int mc, .ref nx, .int sz] ((gup_n M _ hane).trans h1) (by simp) rfl) rfl
  · have ec : alCap cap need = cap + max (need - cap) (cap / 2) := if_neg (by omega)
    have hb2 : cap + max (need - cap) (cap / 2) ≤ 9000 := by rw [ec] at hb; exact hb
    have hm1 : need - cap ≤ max (need - cap) (cap / 2) := Nat.le_max_left _ _
    obtain ⟨f2, h7, h8⟩ := e_copyOf (n1 := alCap cap need) h3 h4 h5 h6 hx (by omega) hb (by omega) hall
    refine ⟨f2, h7, ?_⟩
    unfold fJ2_grow_2 fJ2_grow_2_b20
    refine bd_i (e_rdR (some _) h1 rfl) (bd_i rfl (bd_i (e_lenQ h3 h5) (if_i (show (0 : Int32) < nI cap by rw [← nI_0]; exact nI_lt h2 (by omega)) ?_)))
    refine gb_0 (x := nI (alCap cap need)) (S := (M, nx)) ?_ (bd_i (e_rdR (some _) h1 rfl) (gb_i h8 (c2 := 0) (n2 := 0) (bd_i (e_wr [.int mc, .ref nx, .int sz] ((gup_n M _ hane).trans h1) (by simp) rfl) rfl) rfl rfl))
    unfold fJ17_newLength
    rw [pk_sub (by omega), nI_half (by omega), nI_max (by omega) (by omega), nI_add, ← ec]
    refine if_e (nI_nle (by omega) (by omega)) (if_e (nI_nlt (by omega) (by decide)) rfl)
/-- the store behind the last element, and the new size -/
theorem al_put {G : gG} {M : gM} {nx a o cap x : Nat} {mc sz : Int32} {xs : List Nat} {f : Nat → Option Nat} (h1 : M a = some (cO 15 [.int mc, .ref o, .int sz])) (hoa : o ≠ a) (h2 : M o = some (cAq 5 cap f)) (hl : xs.length < cap) (hc : cap ≤ 9000) (hx : anyO G (M, nx) x = true) :
    fJ2_add_2_b11 G a (some x) (some o) (nI xs.length) (M, nx) = some ((), (gup (gup M o (cAq 5 cap (va_up f xs.length (some x)))) a (cO 15 [.int mc, .ref o, .int (nI (xs.length + 1))]), nx), 0, 0) := by
  unfold fJ2_add_2_b11
  refine bd_i rfl (bd_i rfl (bd_i (if_pos hx) (bd_i (e_wrAq h2 hl (by omega)) ?_)))
  rw [nI_add]
  exact bd_i (e_wr [.int mc, .ref o, .int (nI (xs.length + 1))] ((gup_n M _ (Ne.symm hoa)).trans h1) (by simp) rfl) rfl
theorem J1_AL_add {l : Launch} {G : gG} : J_nAL_add l G (rN G) := by
  intro a v S r S2 C N h
  unfold nAL_add at h
  obtain ⟨q, h1, g1⟩ := bdo h
  obtain ⟨x, hv, g2⟩ := bdo g1
  obtain ⟨u, hok, g3⟩ := bdo g2
  clear h g1 g2
  subst hv
  have hx : anyN S x = true := by
    unfold okN at hok
    split at hok
    next e => exact e
    next => cases hok
  obtain ⟨mc, cap, xs⟩ := q
  dsimp only at g3
  split at g3
  next hg =>
    cases g3
    refine met_up fun M hR => ?_
    obtain ⟨own, hW⟩ := hR
    have ha : S.1 a = some (cT 0 mc cap xs) := adt_M h1
    obtain ⟨⟨o, h3, h4, h5, h6, h7⟩, hoa, halt, hall⟩ := al_at hW ha
    obtain ⟨hx1, hx2, hx3⟩ := any_up hW (show anyN (S.1, 0) x = true from hx)
    have haN : anyN (S.1, 0) a = false := by simp [anyN, ha]
    have hxa : x ≠ a := fun e => by
      have hx' : anyN (S.1, 0) x = true := hx
      rw [e, haN] at hx'
      cases hx'
    have hallN : allN S.1 (xs ++ [x]) := fun y hy => by
      rcases List.mem_append.mp hy with hy | hy
      · exact h6 y hy
      · rw [List.mem_singleton.mp hy]; exact hx
    have hlen : nI (xs ++ [x]).length = nI (xs.length + 1) := by simp
    unfold alGrow at hg ⊢
    split at hg
    next hle =>
      try dsimp only at hle
      rw [if_pos hle]
      try dsimp only
      rcases h7 with ⟨-, h7⟩ | ⟨h7, h8, h9, f, h10, h11⟩
      · omega
      have hoa2 : o ≠ a := fun e => by rw [e, hoa] at h8; cases h8
      refine ⟨gup (gup (gup M a (cO 15 [.int (mc + 1), .ref o, .int (nI xs.length)])) o (cAq 5 cap (va_up f xs.length (some x)))) a (cO 15 [.int (mc + 1), .ref o, .int (nI (xs.length + 1))]), al_set hW ha [o] (Nat.le_refl _) (by simpa using Ne.symm hoa2) (fun b hb => ?_) (fun b hb hba hob => ?_) ⟨o, ?_, ?_, h5, allN_set hallN haN, Or.inr ⟨h7, ownU_in (by simp), h9, _, ?_, rowQ_app h11 (by omega)⟩⟩, gMet_room (mJ2_add rP_ok ?_) (by decide) (by decide)⟩
      · rw [List.mem_singleton.mp hb]; exact Or.inl h8
      · have hbo : b ≠ o := fun e => hob (by rw [e]; exact h8)
        rw [gup_n _ _ hba, gup_n _ _ hbo, gup_n _ _ hba]
      · rw [gup_s, hlen]
      · simp; omega
      · rw [gup_n _ _ hoa2, gup_s]
      · unfold fJ2_add fJ2_add_2
        refine bd_i (e_rdI h3 rfl) (bd_i (e_wr [.int (mc + 1), .ref o, .int (nI xs.length)] h3 (by simp) rfl) (bd_i (e_rdR (some o) (gup_s _ _ _) rfl) (bd_i (e_rdI (gup_s _ _ _) rfl) (bd_i (e_chk (gup_s _ _ _)) (gb_0 (x := ()) ?_ (zg_1 _))))))
        refine bd_i rfl (bd_i (e_lenQ h9 ((gup_n _ _ hoa2).trans h10)) (if_e (fun e => ?_) (al_put (gup_s _ _ _) hoa2 ((gup_n _ _ hoa2).trans h10) (by omega) h5 (anyO_at hx1 (gup_n _ _ hxa)))))
        exact absurd ((nI_eq (by omega) (by omega)).mp e) (by omega)
    next hle =>
      try dsimp only at hle hg
      rw [if_neg hle]
      try dsimp only
      have hcl : xs.length = cap := by omega
      have hM1 : ∀ y, y ≠ a → (gup M a (cO 15 [.int (mc + 1), .ref o, .int (nI xs.length)])) y = M y := fun y hy => gup_n _ _ hy
      have ho7 : (o = G.2.2.1 1 ∧ cap = 0) ∨ (0 < cap ∧ o ≠ G.2.2.1 1 ∧ o < S.2 ∧ ∃ f, (gup M a (cO 15 [.int (mc + 1), .ref o, .int (nI xs.length)])) o = some (cAq 5 cap f) ∧ rowQ f cap xs) := by
        rcases h7 with h7 | ⟨h7, h8, h9, f, h10, h11⟩
        · exact Or.inl h7
        · exact Or.inr ⟨h7, h9, hW.2.2.2.1 o a h8, f, (hM1 o (fun e => by rw [e, hoa] at h8; cases h8)).trans h10, h11⟩
      obtain ⟨f2, k1, k2⟩ := al_grow (G := G) (need := xs.length + 1) (gup_s M a (cO 15 [.int (mc + 1), .ref o, .int (nI xs.length)])) halt ho7 h4 (fun y hy => ⟨anyO_at (hall y hy).1 (hM1 y (hall y hy).2.2.2), (hall y hy).2.1⟩) (by omega) hg
      have hne : S.2 ≠ a := by omega
      have hcap2 : xs.length + 1 ≤ alCap cap (xs.length + 1) := by
        unfold alCap
        split
        · omega
        · have := Nat.le_max_left (xs.length + 1 - cap) (cap / 2)
          omega
      refine ⟨gup (gup (gup (gup (gup M a (cO 15 [.int (mc + 1), .ref o, .int (nI xs.length)])) S.2 (cAq 5 (alCap cap (xs.length + 1)) f2)) a (cO 15 [.int (mc + 1), .ref S.2, .int (nI xs.length)])) S.2 (cAq 5 (alCap cap (xs.length + 1)) (va_up f2 xs.length (some x)))) a (cO 15 [.int (mc + 1), .ref S.2, .int (nI (xs.length + 1))]),
        al_set hW ha [S.2] (Nat.le_succ _) (by simpa using Ne.symm hne) (fun b hb => ?_) (fun b hb hba hob => ?_) ⟨S.2, ?_, ?_, hg, allN_set hallN haN, Or.inr ⟨by omega, ownU_in (by simp), ?_, _, ?_, rowQ_app k1 (by omega)⟩⟩, gMet_room (mJ2_add rP_ok ?_) (by decide) (by decide)⟩
      · rw [List.mem_singleton.mp hb]; exact Or.inr ⟨Nat.le_refl _, Nat.lt_succ_self _⟩
      · have hbo : b ≠ S.2 := by omega
        rw [gup_n _ _ hba, gup_n _ _ hbo, gup_n _ _ hba, gup_n _ _ hbo, gup_n _ _ hba]
      · rw [gup_s, hlen]
      · simp; omega
      · have := hW.2.2.2.2.2 1 (Or.inl ⟨by omega, by omega⟩)
        omega
      · rw [gup_n _ _ hne, gup_s]
      · unfold fJ2_add fJ2_add_2
        refine bd_i (e_rdI h3 rfl) (bd_i (e_wr [.int (mc + 1), .ref o, .int (nI xs.length)] h3 (by simp) rfl) (bd_i (e_rdR (some o) (gup_s _ _ _) rfl) (bd_i (e_rdI (gup_s _ _ _) rfl) (bd_i (e_chk (gup_s _ _ _)) (gb_i (x := ()) (c2 := 0) (n2 := 0) ?_ (zg_1 _) rfl rfl)))))
        have el : lenQ G (gup M a (cO 15 [.int (mc + 1), .ref o, .int (nI xs.length)]), S.2) o = some (nI xs.length) := by
          rcases ho7 with ⟨e, e2⟩ | ⟨g1, g2, -, f, g3, -⟩
          · rw [e, show xs.length = 0 by omega]; exact e_lenQ0
          · rw [hcl]
            rw [hcl] at g3
            exact e_lenQ g2 g3
        refine bd_i rfl (bd_i el (if_i rfl (bd_i (e_chk (gup_s _ _ _)) (gb_i (c2 := 0) (n2 := 0) (c := 1) (n := alCap cap (xs.length + 1)) (x := some S.2) (S := (gup (gup (gup M a (cO 15 [.int (mc + 1), .ref o, .int (nI xs.length)])) S.2 (cAq 5 (alCap cap (xs.length + 1)) f2)) a (cO 15 [.int (mc + 1), .ref S.2, .int (nI xs.length)]), S.2 + 1)) ?_ ?_ rfl rfl))))
        · unfold fJ2_grow
          refine bd_i (e_rdI (gup_s _ _ _) rfl) (bd_i (e_chk (gup_s _ _ _)) ?_)
          rw [nI_add]
          exact gb_i (c2 := 0) (n2 := 0) k2 rfl rfl rfl
        · exact al_put (gup_s _ _ _) hne ((gup_n _ _ hne).trans (gup_s _ _ _)) (by omega) hg (anyO_at hx1 (by rw [gup_n _ _ hxa, gup_n _ _ (show x ≠ S.2 by omega), gup_n _ _ hxa]))
  next => cases g3
