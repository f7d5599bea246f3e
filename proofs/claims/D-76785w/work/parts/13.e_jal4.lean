/-! ArrayList at the level rN, fourth: insertion, addAll, the iterator -/
set_option maxRecDepth 100000
set_option maxHeartbeats 1000000
theorem alCap_ge {cap n : Nat} (h : cap < n) : n ≤ alCap cap n := by
  unfold alCap
  split
  · omega
  · have := Nat.le_max_left (n - cap) (cap / 2)
    omega
theorem alGrow_ge {cap n : Nat} : n ≤ (alGrow cap n).1 := by
  unfold alGrow
  split
  · assumption
  · exact alCap_ge (by omega)
theorem adt_T {S : gS} {a t cap : Nat} {mc : Int32} {xs : List Nat} (h : adt S a t = some (mc, cap, xs)) : S.1 a = some (cT t mc cap xs) := adt_o h
theorem okN_o {S : gS} {x : Nat} {u : Unit} (h : okN S x = some u) : anyN (S.1, 0) x = true := by
  unfold okN at h
  split at h
  next e => exact e
  next => cases h
theorem kE_lt {G : gG} {N M : gM} {own : Nat → Option Nat} {nx : Nat} (h : rW G N M own nx) : G.2.2.1 1 < nx := h.2.2.2.2.2 1 (Or.inl ⟨by omega, by omega⟩)
/-- room for so many -/
theorem al_ens {G : gG} {N M M1 : gM} {own : Nat → Option Nat} {nx nx1 a o cap need : Nat} {mc mc1 : Int32} {xs : List Nat} (h : rW G N M own nx) (ha : N a = some (cT 0 mc cap xs)) (hMa : M a = some (cO 15 [.int mc, .ref o, .int (nI xs.length)])) (hM1a : M1 a = some (cO 15 [.int mc1, .ref o, .int (nI xs.length)])) (hM1 : ∀ b, b < nx → b ≠ a → M1 b = M b) (hnx : nx ≤ nx1) (hn : xs.length < need) (hb : (alGrow cap need).1 ≤ 9000) :
    ∃ (M2 : gM) (o2 : Nat) (f2 : Nat → Option Nat), M2 a = some (cO 15 [.int mc1, .ref o2, .int (nI xs.length)]) ∧ M2 o2 = some (cAq 5 (alGrow cap need).1 f2) ∧ rowQ f2 (alGrow cap need).1 xs ∧ o2 ≠ a ∧ o2 ≠ G.2.2.1 1 ∧ (own o2 = some a ∨ (nx1 ≤ o2 ∧ o2 < nx1 + (alGrow cap need).2.1)) ∧ (∀ b, b ≠ a → b ≠ o2 → M2 b = M1 b) ∧ lenQ G (M1, nx1) o = some (nI cap) ∧ (need ≤ cap → M2 = M1 ∧ o2 = o ∧ alGrow cap need = (cap, 0, 0)) ∧ (cap < need → alGrow cap need = (alCap cap need, 1, alCap cap need) ∧ fJ2_grow_2 G a (nI need) (M1, nx1) = some (some o2, (M2, nx1 + 1), 1, alCap cap need)) := by
  obtain ⟨⟨o', h3, h4, h5, h6, h7⟩, hoa, halt, hall⟩ := al_at h ha
  have hoo : o' = o := by
    rw [h3] at hMa
    simpa using hMa
  subst hoo
  have hlen : lenQ G (M1, nx1) o' = some (nI cap) := by
    rcases h7 with ⟨e1, e2⟩ | ⟨g1, g2, g3, f, g4, g5⟩
    · rw [e1, e2]; exact e_lenQ0
    · exact e_lenQ g3 ((hM1 o' (h.2.2.2.1 o' a g2) (fun e => by rw [e, hoa] at g2; cases g2)).trans g4)
  by_cases c : need ≤ cap
  · have eg : alGrow cap need = (cap, 0, 0) := if_pos c
    rw [eg] at hb ⊢
    rcases h7 with ⟨e1, e2⟩ | ⟨g1, g2, g3, f, g4, g5⟩
    · omega
    · have hone : o' ≠ a := fun e => by rw [e, hoa] at g2; cases g2
      exact ⟨M1, o', f, hM1a, (hM1 o' (h.2.2.2.1 o' a g2) hone).trans g4, g5, hone, g3, Or.inl g2, fun _ _ _ => rfl, hlen, fun _ => ⟨rfl, rfl, rfl⟩, fun z => by omega⟩
  · have eg : alGrow cap need = (alCap cap need, 1, alCap cap need) := if_neg c
    rw [eg] at hb ⊢
    have ho7 : (o' = G.2.2.1 1 ∧ cap = 0) ∨ (0 < cap ∧ o' ≠ G.2.2.1 1 ∧ o' < nx1 ∧ ∃ f, M1 o' = some (cAq 5 cap f) ∧ rowQ f cap xs) := by
      rcases h7 with h7 | ⟨g1, g2, g3, f, g4, g5⟩
      · exact Or.inl h7
      · have hon := h.2.2.2.1 o' a g2
        exact Or.inr ⟨g1, g3, by omega, f, (hM1 o' hon (fun e => by rw [e, hoa] at g2; cases g2)).trans g4, g5⟩
    obtain ⟨f2, k1, k2⟩ := al_grow (G := G) (need := need) hM1a (by omega) ho7 h4 (fun y hy => ⟨anyO_at (hall y hy).1 (hM1 y (hall y hy).2.1 (hall y hy).2.2.2), by have := (hall y hy).2.1; omega⟩) (by omega) hb
    have hne : nx1 ≠ a := by omega
    have hE := kE_lt h
    refine ⟨_, nx1, f2, gup_s _ _ _, (gup_n _ _ hne).trans (gup_s _ _ _), k1, hne, Nat.ne_of_gt (Nat.lt_of_lt_of_le hE hnx), Or.inr ⟨Nat.le_refl _, Nat.lt_succ_self _⟩, fun b hb hbo => by rw [gup_n _ _ hb, gup_n _ _ hbo], hlen, fun z => absurd z c, fun _ => ⟨rfl, k2⟩⟩
theorem rowQ_ins {f : Nat → Option Nat} {cap j x : Nat} {xs : List Nat} (h : rowQ f cap xs) (hj : j ≤ xs.length) (hc : xs.length < cap) : rowQ (va_up (va_cpy f f j (j + 1) (xs.length - j)) j (some x)) cap (xs.insertIdx j x) := by
  have hl : (xs.insertIdx j x).length = xs.length + 1 := List.length_insertIdx_of_le_length hj _
  refine ⟨fun i hi => ?_, fun i h1 h2 => ?_⟩
  · rw [hl] at hi
    rw [List.getElem?_insertIdx]
    by_cases c : i < j
    · rw [if_pos c, va_up_ne _ _ (by omega), pk_cpy_out (by omega), h.1 i (by omega)]
    · rw [if_neg c]
      by_cases c2 : i = j
      · subst c2
        rw [if_pos rfl, if_pos hj, va_up_self]
      · rw [if_neg c2, va_up_ne _ _ c2, pk_cpy_in (by omega) (by omega), show j + (i - (j + 1)) = i - 1 by omega, h.1 (i - 1) (by omega)]
  · rw [hl] at h1
    rw [va_up_ne _ _ (by omega), pk_cpy_out (by omega)]
    exact h.2 i (by omega) h2
theorem allN_ins {N : gM} {xs : List Nat} {j x : Nat} (h : allN N xs) (hj : j ≤ xs.length) (hx : anyN (N, 0) x = true) : allN N (xs.insertIdx j x) := fun y hy => by
  rcases (List.mem_insertIdx hj).mp hy with e | e
  · rw [e]; exact hx
  · exact h y e
theorem J1_AL_addAt {l : Launch} {G : gG} : J_nAL_addAt l G (rN G) := by
  intro a i v S r S2 C N h
  unfold nAL_addAt at h
  obtain ⟨q, h1, g1⟩ := bdo h
  obtain ⟨x, hv, g2⟩ := bdo g1
  obtain ⟨u, hok, g3⟩ := bdo g2
  clear h g1 g2
  subst hv
  have hx := okN_o hok
  obtain ⟨mc, cap, xs⟩ := q
  dsimp only at g3
  split at g3
  next hin =>
    split at g3
    next hg =>
      cases g3
      refine met_up fun M hR => ?_
      obtain ⟨own, hW⟩ := hR
      have ha : S.1 a = some (cT 0 mc cap xs) := adt_T h1
      obtain ⟨⟨o, h3, h4, h5, h6, -⟩, hoa, halt, hall⟩ := al_at hW ha
      obtain ⟨hx1, hx2, hx3⟩ := any_up hW hx
      obtain ⟨j, hj, rfl, hcl⟩ := inr0_o hin (by omega)
      rw [hcl]
      have hxa : x ≠ a := fun e => by
        rw [e] at hx
        simp [anyN, ha] at hx
      have hl : (xs.insertIdx j x).length = xs.length + 1 := List.length_insertIdx_of_le_length (by omega) _
      obtain ⟨M2, o2, f2, k1, k2, k3, k4, k5, k6, k7, k8, k9, k10⟩ := al_ens hW ha h3 (gup_s M a (cO 15 [.int (mc + 1), .ref o, .int (nI xs.length)])) (fun b _ hb => gup_n _ _ hb) (Nat.le_refl S.2) (need := xs.length + 1) (Nat.lt_succ_self xs.length) hg
      have hge : xs.length + 1 ≤ (alGrow cap (xs.length + 1)).1 := alGrow_ge
      have hyM : ∀ y, anyO G (M, S.2) y = true → y < S.2 → own y = none → y ≠ a → ∀ n, anyO G (M2, n) y = true := fun y hy1 hy2 hy3 hy4 n => by
        refine anyO_at hy1 ?_
        rw [k7 y hy4 (fun e => ?_), gup_n _ _ hy4]
        rcases k6 with k | k
        · rw [← e, hy3] at k; cases k
        · omega
      have hb38 : ∀ n, fJ2_add_3_b38 G a (nI j) (some x) (nI xs.length) (some o2) (M2, n) = some ((), (gup (gup (gup M2 o2 (cAq 5 (alGrow cap (xs.length + 1)).1 (va_cpy f2 f2 j (j + 1) (xs.length - j)))) o2 (cAq 5 (alGrow cap (xs.length + 1)).1 (va_up (va_cpy f2 f2 j (j + 1) (xs.length - j)) j (some x)))) a (cO 15 [.int (mc + 1), .ref o2, .int (nI (xs.length + 1))]), n), 0, 0) := fun n => by
        unfold fJ2_add_3_b38
        rw [nI_add, pk_sub (by omega)]
        refine bd_i rfl (bd_i (e_cpyQ k5 k2 k2 (by omega) (by omega) (by omega) (by omega) (fun i hi y hy => ?_)) (bd_i rfl (bd_i (if_pos (anyO_at (hyM x hx1 hx2 hx3 hxa n) (gup_n _ _ (fun e => ?_)))) (bd_i (e_wrAq (gup_s _ _ _) (by omega) (by omega)) ?_))))
        · rw [k3.1 _ (by omega)] at hy
          obtain ⟨q1, q2, q3, q4⟩ := hall y (List.mem_of_getElem? hy)
          exact hyM y q1 q2 q3 q4 n
        · rcases k6 with k | k
          · rw [← e, hx3] at k; cases k
          · omega
        · rw [nI_add]
          exact bd_i (e_wr [.int (mc + 1), .ref o2, .int (nI (xs.length + 1))] ((gup_n _ _ (Ne.symm k4)).trans ((gup_n _ _ (Ne.symm k4)).trans k1)) (by simp) rfl) rfl
      refine ⟨gup (gup (gup M2 o2 (cAq 5 (alGrow cap (xs.length + 1)).1 (va_cpy f2 f2 j (j + 1) (xs.length - j)))) o2 (cAq 5 (alGrow cap (xs.length + 1)).1 (va_up (va_cpy f2 f2 j (j + 1) (xs.length - j)) j (some x)))) a (cO 15 [.int (mc + 1), .ref o2, .int (nI (xs.length + 1))]), al_fin hW ha (Nat.le_add_right _ _) k6 k5 (by rw [gup_s, hl]) ((gup_n _ _ k4).trans (gup_s _ _ _)) (rowQ_ins k3 (by omega) (by omega)) (by omega) (by omega) hg (allN_ins h6 (by omega) hx) (fun b hbn hb hob => ?_), gMet_room (mJ2_add_3 (r2 := ()) rP_ok ?_) (by decide) (by decide)⟩
      · have hbo : b ≠ o2 := fun e => by
          rcases k6 with k | k
          · rw [← e] at k; exact hob k
          · omega
        rw [gup_n _ _ hb, gup_n _ _ hbo, gup_n _ _ hbo, k7 b hb hbo, gup_n _ _ hb]
      · unfold fJ2_add_3
        refine bd_i (e_chk h3) (gb_0 (x := ()) (S := (M, S.2)) ?_ (bd_i (e_rdI h3 rfl) (bd_i (e_wr [.int (mc + 1), .ref o, .int (nI xs.length)] h3 (by simp) rfl) (bd_i (e_rdI (gup_s _ _ _) rfl) (bd_i (e_rdR (some o) (gup_s _ _ _) rfl) (bd_i rfl (bd_i k8 ?_)))))))
        · unfold fJ2_rangeCheckForAdd
          refine bd_i (e_rdI h3 rfl) (if_e (nI_nlt (by omega) (by omega)) (if_i (nI_pos' (by omega)) rfl))
        · by_cases c : xs.length + 1 ≤ cap
          · obtain ⟨e1, e2, e3⟩ := k9 c
            subst e1 e2
            rw [e3] at hb38 ⊢
            exact if_e (fun e => absurd ((nI_eq (by omega) (by omega)).mp e) (by omega)) (hb38 _)
          · obtain ⟨e1, e2⟩ := k10 (by omega)
            rw [e1] at hb38 ⊢
            have hcl2 : xs.length = cap := by omega
            refine if_i (by rw [hcl2]) (bd_i (e_chk (gup_s _ _ _)) (gb_i (x := some o2) (S := (M2, S.2 + 1)) (c := 1) (n := alCap cap (xs.length + 1)) ?_ (hb38 _) rfl rfl))
            unfold fJ2_grow
            refine bd_i (e_rdI (gup_s _ _ _) rfl) (bd_i (e_chk (gup_s _ _ _)) ?_)
            rw [nI_add]
            exact gb_i (c2 := 0) (n2 := 0) e2 rfl rfl rfl
    next => cases g3
  next => cases g3
/-- a new object with nothing behind it: an iterator -/
theorem it_new {G : gG} {N M M2 : gM} {own : Nat → Option Nat} {nx nx2 : Nat} {q : Nat × Int32 × Nat × List Nat} (h : rW G N M own nx) (hnx : nx < nx2) (hM : ∀ b, b < nx → M2 b = M b) (hrep : rep G (gup N nx (.inr (.inr q))) M2 (ownU own nx []) nx q) : rN G (gup N nx (.inr (.inr q))) M2 nx2 := by
  have hN : ∀ c, N nx ≠ some c := fun c hc => absurd (h.2.2.2.2.1 nx (by rw [hc]; simp)) (Nat.lt_irrefl _)
  exact ⟨_, rN_set (q2 := q) h [] (Nat.le_of_lt hnx) hnx (own_nx h (Nat.le_refl _)) (by simp) (fun _ hc => absurd hc (hN _)) (fun c hc => absurd hc (hN _)) (fun c => hN _) (fun b hb => by cases hb) (fun b hb _ _ => hM b hb) hrep⟩
theorem J1_AL_iter {l : Launch} {G : gG} : J_nAL_iter l G (rN G) := by
  intro a S r S2 C N h
  unfold nAL_iter at h
  obtain ⟨q, h1, h2⟩ := bdo h
  cases h2
  obtain ⟨mc, cap, xs⟩ := q
  refine met_up fun M hR => ?_
  obtain ⟨own, hW⟩ := hR
  have ha : S.1 a = some (cT 0 mc cap xs) := adt_T h1
  obtain ⟨⟨o, h3, -⟩, hoa, halt, -⟩ := al_at hW ha
  have hne : a ≠ S.2 := by omega
  refine ⟨gup M S.2 (cO 21 [.int 0, .int (-1), .int mc, .ref a]), it_new (q := (6, mc, 0, [a, 0])) hW (Nat.lt_succ_self _) (fun b hb => gup_n _ _ (by omega)) ⟨a, 0, rfl, Nat.zero_le _, Nat.zero_le _, by rw [gup_s]; rfl⟩, gMet_room (mJ2_iterator (r2 := some S.2) rP_ok ?_) (by decide) (by decide)⟩
  unfold fJ2_iterator nw
  refine ad_i (c2 := 0) (n2 := 0) (gb_0 (x := ()) (S := (gup M S.2 (cO 21 [.int 0, .int (-1), .int mc, .ref a]), S.2 + 1)) ?_ rfl) rfl rfl
  unfold fJ26_init
  refine bd_i (e_wr [.int 0, .int 0, .int 0, .ref a] (gup_s _ _ _) (by simp) rfl) (bd_i (e_wr [.int 0, .int (-1), .int 0, .ref a] (gup_s _ _ _) (by simp) rfl) (bd_i (e_rdR (some a) (gup_s _ _ _) rfl) (bd_i rfl (bd_i (e_rdI ((gup_n _ _ hne).trans ((gup_n _ _ hne).trans ((gup_n _ _ hne).trans h3))) rfl) (bd_i (e_wr [.int 0, .int (-1), .int mc, .ref a] (gup_s _ _ _) (by simp) rfl) ?_)))))
  rw [gup_gup, gup_gup, gup_gup]
theorem i6_at {G : gG} {N M : gM} {own : Nat → Option Nat} {nx a cur : Nat} {emc : Int32} {xs : List Nat} (h : rW G N M own nx) (ha : N a = some (cT 6 emc cur xs)) : rI6 M a emc cur xs ∧ own a = none ∧ a < nx := by
  obtain ⟨h1, h2⟩ := h.2.2.1 a _ ha
  exact ⟨h1, h2, h.2.2.2.2.1 a (by rw [ha]; simp)⟩
theorem J1_I6_hasNext {l : Launch} {G : gG} : J_nI6_hasNext l G (rN G) := by
  intro a S r S2 C N h
  unfold nI6_hasNext at h
  obtain ⟨⟨emc, cur, ys⟩, h1, h⟩ := bdo h
  obtain ⟨b, hb, h⟩ := bdo h
  obtain ⟨⟨mc, cap, xs⟩, h2, h⟩ := bdo h
  cases h
  refine met_up fun M hR => ⟨M, hR, ?_⟩
  obtain ⟨own, hW⟩ := hR
  obtain ⟨⟨b', l', e1, e2, e3, e4⟩, -⟩ := i6_at hW (adt_T h1)
  subst e1
  cases hb
  obtain ⟨⟨o, h3, h4, h5, -⟩, -⟩ := al_at hW (adt_T h2)
  try dsimp only at e2 e4 h3 h4 h5 ⊢
  refine gMet_room (mJ26_hasNext rP_ok (bd_i (e_rdI e4 rfl) (bd_i (e_rdR (some b) e4 rfl) (bd_i rfl (bd_i (e_rdI h3 rfl) ?_))))) (by decide) (by decide)
  have e := nI_eq (a := cur) (b := xs.length) (by omega) (by omega)
  by_cases c : cur = xs.length
  · rw [if_pos (e.mpr c), if_pos c, zg_0]
  · rw [if_neg (fun z => c (e.mp z)), if_neg c, zg_1]
/-- changing an iterator of one plain cell -/
theorem it_set {G : gG} {N M M2 : gM} {own : Nat → Option Nat} {nx a t : Nat} {q q2 : Int32 × Nat × List Nat} (h : rW G N M own nx) (ht : t = 6 ∨ t = 8 ∨ t = 9) (ha : N a = some (.inr (.inr (t, q)))) (hM : ∀ b, b < nx → b ≠ a → M2 b = M b) (hrep : rep G (gup N a (.inr (.inr (t, q2)))) M2 (ownU own a []) a (t, q2)) : rN G (gup N a (.inr (.inr (t, q2)))) M2 nx := by
  obtain ⟨-, h2⟩ := h.2.2.1 a _ ha
  refine ⟨_, rN_set (q2 := (t, q2)) h [] (Nat.le_refl _) (h.2.2.2.2.1 a (by rw [ha]; simp)) h2 (by simp) (fun q' hq => ?_) (fun c hc => by rw [ha] at hc; cases hc) (fun c hc => by rw [ha] at hc; cases hc) (fun b hb => by cases hb) (fun b hb hba _ => hM b hb hba) hrep⟩
  rw [ha] at hq
  cases hq
  exact ⟨rfl, fun e => by dsimp only at e; omega⟩
theorem J1_I6_next {l : Launch} {G : gG} : J_nI6_next l G (rN G) := by
  intro a S r S2 C N h
  unfold nI6_next at h
  obtain ⟨⟨emc, cur, ys⟩, h1, h⟩ := bdo h
  obtain ⟨b, hb, h⟩ := bdo h
  obtain ⟨⟨mc, cap, xs⟩, h2, h⟩ := bdo h
  dsimp only at h hb
  split at h
  next e0 =>
    subst e0
    obtain ⟨x, hx, h⟩ := bdo h
    cases h
    refine met_up fun M hR => ?_
    obtain ⟨own, hW⟩ := hR
    obtain ⟨⟨b', l', e1, e2, e3, e4⟩, hoa, halt⟩ := i6_at hW (adt_T h1)
    subst e1
    cases hb
    try dsimp only at e2 e4 hx
    have hcur : cur < xs.length := (List.getElem?_eq_some_iff.mp hx).1
    have hN2 := adt_T h2
    have hne : b ≠ a := fun e => by rw [e, adt_T h1] at hN2; cases hN2
    obtain ⟨o, f, h3, h4, h5, h6, h8, h9, h10, h11, h12, hall⟩ := al_real hW hN2 (by omega)
    have hoa2 : o ≠ a := fun e => by rw [e, hoa] at h8; cases h8
    have h9k : cur + 1 ≤ 9000 := by omega
    refine ⟨gup (gup M a (cO 21 [.int (nI (cur + 1)), .int (nI l' - 1), .int emc, .ref b])) a (cO 21 [.int (nI (cur + 1)), .int (nI cur), .int emc, .ref b]), it_set hW (Or.inl rfl) (adt_T h1) (fun c _ hc => by rw [gup_n _ _ hc, gup_n _ _ hc]) ⟨b, cur + 1, rfl, h9k, h9k, ?_⟩, gMet_room (mJ26_next rP_ok ?_) (by decide) (by decide)⟩
    · rw [gup_s, show nI (cur + 1) - 1 = nI cur from nI_pred cur]
    · unfold fJ26_next
      refine bd_i (e_chk e4) (gb_0 (x := ()) (S := (M, S.2)) (bd_i (e_rdR (some b) e4 rfl) (bd_i rfl (bd_i (e_rdI h3 rfl) (bd_i (e_rdI e4 rfl) (if_i rfl rfl))))) (bd_i (e_rdI e4 rfl) (bd_i (e_rdR (some b) e4 rfl) (bd_i rfl (bd_i (e_rdI h3 rfl) (if_i (nI_lt hcur (by omega)) (bd_i (e_rdR (some b) e4 rfl) (bd_i rfl (bd_i (e_rdR (some o) h3 rfl) (bd_i rfl (bd_i (e_lenQ h9 h11) (if_i (nI_lt (by omega) (by omega)) ?_))))))))))))
      rw [nI_add]
      refine bd_i (e_wr [.int (nI (cur + 1)), .int (nI l' - 1), .int emc, .ref b] e4 (by simp) rfl) (bd_i (e_wr [.int (nI (cur + 1)), .int (nI cur), .int emc, .ref b] (gup_s _ _ _) (by simp) rfl) (bd_i (e_rdAq ((gup_n _ _ hoa2).trans ((gup_n _ _ hoa2).trans h11)) (by omega) (by omega)) ?_))
      rw [h12.1 cur hcur, hx]
      rfl
  next => cases h
theorem J1_I6_remove {l : Launch} {G : gG} : J_nI6_remove l G (rN G) := by
  intro a S r S2 C N h
  unfold nI6_remove at h
  obtain ⟨⟨emc, cur, ys⟩, h1, h⟩ := bdo h
  obtain ⟨b, hb, h⟩ := bdo h
  obtain ⟨l0, hl0, h⟩ := bdo h
  obtain ⟨⟨mc, cap, xs⟩, h2, h⟩ := bdo h
  dsimp only at h hb hl0
  split at h
  next e0 =>
    obtain ⟨e0, hl1, hl2⟩ := e0
    subst e0
    cases h
    refine met_up fun M hR => ?_
    obtain ⟨own, hW⟩ := hR
    obtain ⟨⟨b', l', e1, e2, e3, e4⟩, hoa, halt⟩ := i6_at hW (adt_T h1)
    subst e1
    cases hb
    cases hl0
    have hN1 := adt_T h1
    have hN2 := adt_T h2
    try dsimp only at hN1 hN2 e2 e4
    have hne : b ≠ a := fun e => by rw [e, hN1] at hN2; cases hN2
    obtain ⟨k, rfl⟩ : ∃ k, l0 = k + 1 := ⟨l0 - 1, by omega⟩
    rw [Nat.add_sub_cancel]
    obtain ⟨o, f, h3, h4, h5, h6, h8, h9, h10, h11, h12, hall⟩ := al_real hW hN2 (by omega)
    obtain ⟨M2, k1, ⟨own2, hW2⟩, k3, o3, k4⟩ := al_remI hW hN2 (j := k) (by omega)
    have hla : nI (k + 1) - 1 = nI k := nI_pred k
    have h9k : k ≤ 9000 := by omega
    rw [hla] at e4
    have e5 : M2 a = some (cO 21 [.int (nI cur), .int (nI k), .int emc, .ref b]) := (k3 a (Ne.symm hne) (by rw [hoa]; simp)).trans e4
    have hN3 : gup S.1 b (cT 0 (emc + 1) cap (xs.eraseIdx k)) a = some (cT 6 emc cur [b, k + 1]) := (gup_n _ _ (Ne.symm hne)).trans hN1
    refine ⟨gup (gup (gup M2 a (cO 21 [.int (nI k), .int (nI k), .int emc, .ref b])) a (cO 21 [.int (nI k), .int (-1), .int emc, .ref b])) a (cO 21 [.int (nI k), .int (-1), .int (emc + 1), .ref b]), it_set hW2 (Or.inl rfl) hN3 (fun c _ hc => by rw [gup_n _ _ hc, gup_n _ _ hc, gup_n _ _ hc]) ⟨b, 0, rfl, h9k, Nat.zero_le _, by rw [gup_s]; rfl⟩, gMetW_room (mJ26_remove (r2 := ()) rP_ok ?_) (by decide) (by decide)⟩
    unfold fJ26_remove
    refine bd_i (e_rdI e4 rfl) (if_i (nI_pos' (by omega)) (bd_i (e_chk e4) (gb_0 (x := ()) (S := (M, S.2)) (bd_i (e_rdR (some b) e4 rfl) (bd_i rfl (bd_i (e_rdI h3 rfl) (bd_i (e_rdI e4 rfl) (if_i rfl rfl))))) (bd_i (e_rdR (some b) e4 rfl) (bd_i (e_rdI e4 rfl) (bd_i rfl (bd_i (e_chk h3) (gb_0 k1 ?_))))))))
    refine bd_i (e_rdI e5 rfl) (bd_i (e_wr [.int (nI k), .int (nI k), .int emc, .ref b] e5 (by simp) rfl) (bd_i (e_wr [.int (nI k), .int (-1), .int emc, .ref b] (gup_s _ _ _) (by simp) rfl) (bd_i (e_rdR (some b) (gup_s _ _ _) rfl) (bd_i rfl (bd_i (e_rdI ((gup_n _ _ hne).trans ((gup_n _ _ hne).trans k4)) rfl) (bd_i (e_wr [.int (nI k), .int (-1), .int (emc + 1), .ref b] (gup_s _ _ _) (by simp) rfl) rfl))))))
  next => cases h
