/-! ArrayDeque and Integer at the level rN -/
set_option maxRecDepth 100000
set_option maxHeartbeats 1000000
theorem ad_at {G : gG} {N M : gM} {own : Nat → Option Nat} {nx a cap : Nat} {hd : Int32} {xs : List Nat} (h : rW G N M own nx) (ha : N a = some (cT 3 hd cap xs)) : ∃ (k o : Nat) (f : Nat → Option Nat), hd = nI k ∧ k < cap ∧ xs.length < cap ∧ (cap = 17 ∨ cap = 36) ∧ M a = some (cO 18 [.ref o, .int (nI k), .int (nI ((k + xs.length) % cap))]) ∧ own o = some a ∧ o ≠ G.2.2.1 1 ∧ M o = some (cAq 5 cap f) ∧ (∀ i, i < xs.length → f ((k + i) % cap) = xs[i]?) ∧ (∀ i, xs.length ≤ i → i < cap → f ((k + i) % cap) = none) ∧ allN N xs ∧ own a = none ∧ a < nx ∧ o ≠ a ∧ o < nx := by
  obtain ⟨h1, h2⟩ := h.2.2.1 a _ ha
  obtain ⟨k, o, f, k1, k2, k3, k4, k5, k6, k7, k8, k9, k10, k11⟩ := (show rAD G N M own a hd cap xs from h1)
  exact ⟨k, o, f, k1, k2, k3, k4, k5, k6, k7, k8, k9, k10, k11, h2, h.2.2.2.2.1 a (by rw [ha]; simp), (fun e => by rw [e, h2] at k6; cases k6), h.2.2.2.1 o a k6⟩
theorem ad_set {G : gG} {N M M2 : gM} {own : Nat → Option Nat} {nx nx2 a cap cap2 : Nat} {hd : Int32} {xs xs2 : List Nat} {k2 o2 : Nat} {f2 : Nat → Option Nat} (h : rW G N M own nx) (ha : N a = some (cT 3 hd cap xs)) (hnx : nx ≤ nx2) (ho : own o2 = some a ∨ (nx ≤ o2 ∧ o2 < nx2)) (hoE : o2 ≠ G.2.2.1 1) (hk : k2 < cap2) (hl : xs2.length < cap2) (hc : cap2 = 17 ∨ cap2 = 36) (hMa : M2 a = some (cO 18 [.ref o2, .int (nI k2), .int (nI ((k2 + xs2.length) % cap2))])) (hMo : M2 o2 = some (cAq 5 cap2 f2)) (h1 : ∀ i, i < xs2.length → f2 ((k2 + i) % cap2) = xs2[i]?) (h2 : ∀ i, xs2.length ≤ i → i < cap2 → f2 ((k2 + i) % cap2) = none) (hall : allN N xs2) (hfr : ∀ b, b < nx → b ≠ a → own b ≠ some a → M2 b = M b) : rN G (gup N a (cT 3 (nI k2) cap2 xs2)) M2 nx2 := by
  obtain ⟨k, o, f, -, -, -, -, -, -, -, -, -, -, -, hoa, halt, -, -⟩ := ad_at h ha
  have hane : a ≠ o2 := fun e => by
    rcases ho with q | q
    · rw [← e, hoa] at q; cases q
    · omega
  refine ⟨_, rN_set (q2 := (3, nI k2, cap2, xs2)) h [o2] hnx (by omega) hoa (by simpa using hane) (fun q hq => ?_) (fun c hc => by rw [ha] at hc; cases hc) (fun c hc => by rw [ha] at hc; cases hc) (fun b hb => by rw [List.mem_singleton.mp hb]; exact ho) hfr ⟨k2, o2, f2, rfl, hk, hl, hc, hMa, ownU_in (by simp), hoE, hMo, h1, h2, allN_set hall (by simp [anyN, ha])⟩⟩
  rw [ha] at hq
  cases hq
  exact ⟨rfl, fun e => by cases e⟩
theorem J1_AD_init {l : Launch} {G : gG} : J_nAD_init l G (rN G) := by
  intro a S r S2 C N h
  unfold nAD_init at h
  obtain ⟨u, h1, g9⟩ := bdo h
  clear h
  have h := g9
  clear g9
  have h0 := fresh_o h1
  cases h
  refine met_up fun M hR => ?_
  obtain ⟨own, hW⟩ := hR
  obtain ⟨hMa, hoa⟩ := hW.1 a _ h0
  have halt : a < S.2 := hW.2.2.2.2.1 a (by rw [h0]; simp)
  have hne : a ≠ S.2 := by omega
  have hE := kE_lt hW
  refine ⟨gup (gup M S.2 (cAq 5 17 (fun _ => none))) a (cO 18 [.ref S.2, .int 0, .int 0]), ob_set (q2 := (3, 0, 17, [])) hW h0 (by decide) [S.2] (Nat.le_succ _) (by simpa using hne) (fun c hc => by rw [List.mem_singleton.mp hc]; exact ⟨Nat.le_refl _, Nat.lt_succ_self _⟩) (fun c hc hca => by rw [gup_n _ _ hca, gup_n _ _ (by omega)]) ⟨0, S.2, fun _ => none, by decide, by decide, by decide, Or.inl rfl, by rw [gup_s]; rfl, ownU_in (by simp), by omega, by rw [gup_n _ _ (Ne.symm hne), gup_s], fun i hi => (by cases hi), fun _ _ _ => rfl, fun x hx => (by cases hx)⟩, gMet_room (mJ28_init (r2 := ()) rP_ok ?_) (by decide) (by decide)⟩
  unfold fJ28_init fJ0_init_c18
  refine gb_0 (x := ()) (S := (M, S.2)) rfl (e_nwq (i := 17) (by omega) (c2 := 0) (n2 := 0) ?_ rfl rfl)
  exact bd_i (e_wr [.ref S.2, .int 0, .int 0] ((gup_n _ _ hne).trans hMa) (by simp) rfl) rfl
theorem J1_AD_isEmpty {l : Launch} {G : gG} : J_nAD_isEmpty l G (rN G) := by
  intro a S r S2 C N h
  unfold nAD_isEmpty at h
  obtain ⟨⟨hd, cap, xs⟩, h1, h2⟩ := bdo h
  cases h2
  refine met_up fun M hR => ⟨M, hR, ?_⟩
  obtain ⟨own, hW⟩ := hR
  obtain ⟨k, o, f, k1, k2, k3, k4, k5, -⟩ := ad_at hW (adt_T h1)
  try dsimp only at k2 k3 k4 k5 ⊢
  refine gMet_room (mJ28_isEmpty rP_ok (bd_i (e_rdI k5 rfl) (bd_i (e_rdI k5 rfl) ?_))) (by decide) (by decide)
  have hm : (k + xs.length) % cap < cap := Nat.mod_lt _ (by omega)
  have e := nI_eq (a := k) (b := (k + xs.length) % cap) (by omega) (by omega)
  by_cases c : xs.length = 0
  · rw [if_pos c]
    exact if_i (e.mpr (by rw [c, Nat.add_zero, Nat.mod_eq_of_lt k2])) (zg_1 _)
  · rw [if_neg c]
    refine if_e (fun z => c ?_) (zg_0 _)
    have z2 := e.mp z
    by_cases c2 : k + xs.length < cap
    · rw [Nat.mod_eq_of_lt c2] at z2; omega
    · rw [Nat.mod_eq_sub_mod (by omega), Nat.mod_eq_of_lt (by omega)] at z2; omega
theorem e_inc {G : gG} {S : gS} {k cap : Nat} (hk : k < cap) (hc : cap ≤ 36) : fJ28_inc G (nI k) (nI cap) S = some (nI ((k + 1) % cap), S, 0, 0) := by
  unfold fJ28_inc
  rw [nI_add]
  by_cases c : k + 1 < cap
  · rw [Nat.mod_eq_of_lt c]
    exact if_i (nI_lt c (by omega)) rfl
  · rw [show k + 1 = cap by omega, Nat.mod_self]
    exact if_e (nI_nlt (Nat.le_refl _) (by omega)) rfl
theorem J1_AD_pollFirst {l : Launch} {G : gG} : J_nAD_pollFirst l G (rN G) := by
  intro a S r S2 C N h
  unfold nAD_pollFirst at h
  obtain ⟨⟨hd, cap, xs⟩, h1, h2⟩ := bdo h
  try dsimp only at h2
  have ha := adt_T h1
  try dsimp only at ha
  cases xs with
  | nil =>
    cases h2
    refine met_up fun M hR => ⟨M, hR, ?_⟩
    obtain ⟨own, hW⟩ := hR
    obtain ⟨k, o, f, k1, k2, k3, k4, k5, k6, k7, k8, k9, k10, -⟩ := ad_at hW ha
    refine gMet_room (mJ28_pollFirst rP_ok ?_) (by decide) (by decide)
    unfold fJ28_pollFirst
    refine bd_i (e_rdR (some o) k5 rfl) (bd_i (e_rdI k5 rfl) (gb_0 (x := none) (S := (M, S.2)) ?_ (if_i rfl rfl)))
    unfold fJ28_elementAt
    refine bd_i rfl (bd_i (e_rdAq k8 k2 (by omega)) ?_)
    have := k10 0 (Nat.le_refl _) (by omega)
    rw [Nat.add_zero, Nat.mod_eq_of_lt k2] at this
    rw [this]
  | cons x t =>
    cases h2
    refine met_up fun M hR => ?_
    obtain ⟨own, hW⟩ := hR
    obtain ⟨k, o, f, k1, k2, k3, k4, k5, k6, k7, k8, k9, k10, k11, hoa, halt, hone, hon⟩ := ad_at hW ha
    subst k1
    have hx0 : f k = some x := by
      have := k9 0 (by simp)
      rw [Nat.add_zero, Nat.mod_eq_of_lt k2] at this
      exact this
    have hnew : (if nI k + 1 = nI cap then (0 : Int32) else nI k + 1) = nI ((k + 1) % cap) := by
      rw [nI_1]
      by_cases c : k + 1 < cap
      · rw [if_neg (fun e => by have := (nI_eq (by omega) (by omega)).mp e; omega), Nat.mod_eq_of_lt c]
      · rw [if_pos (by rw [show k + 1 = cap by omega]), show k + 1 = cap by omega, Nat.mod_self]; rfl
    rw [hnew]
    have hlt : t.length + 1 < cap := by simpa using k3
    have hmod : ∀ i, ((k + 1) % cap + i) % cap = (k + (i + 1)) % cap := fun i => by rw [Nat.mod_add_mod, Nat.add_assoc, Nat.add_comm 1 i]
    have hne0 : ∀ i, 0 < i → i < cap → (k + i) % cap ≠ k := fun i h1 h2 e => by
      by_cases c : k + i < cap
      · rw [Nat.mod_eq_of_lt c] at e; omega
      · rw [Nat.mod_eq_sub_mod (by omega), Nat.mod_eq_of_lt (by omega)] at e; omega
    refine ⟨gup (gup M o (cAq 5 cap (va_up f k none))) a (cO 18 [.ref o, .int (nI ((k + 1) % cap)), .int (nI ((k + (x :: t).length) % cap))]), ad_set hW ha (Nat.le_refl _) (Or.inl k6) k7 (Nat.mod_lt _ (by omega)) (by omega) k4 (by rw [gup_s, hmod, show (x :: t).length = t.length + 1 from rfl]) ((gup_n _ _ hone).trans (gup_s _ _ _)) (fun i hi => ?_) (fun i hi1 hi2 => ?_) (fun y hy => k11 y (List.mem_cons_of_mem _ hy)) (fun b hb hba hob => ?_), gMet_room (mJ28_pollFirst rP_ok ?_) (by decide) (by decide)⟩
    · rw [hmod, va_up_ne _ _ (hne0 _ (by omega) (by omega)), k9 (i + 1) (by simp; omega)]
      rfl
    · rw [hmod]
      by_cases c : i + 1 < cap
      · rw [va_up_ne _ _ (hne0 _ (by omega) c)]
        exact k10 (i + 1) (by simp; omega) c
      · rw [show i + 1 = cap by omega, Nat.add_mod_right, Nat.mod_eq_of_lt k2, va_up_self]
    · have hbo : b ≠ o := fun e => hob (by rw [e]; exact k6)
      rw [gup_n _ _ hba, gup_n _ _ hbo]
    · unfold fJ28_pollFirst
      refine bd_i (e_rdR (some o) k5 rfl) (bd_i (e_rdI k5 rfl) (gb_0 (x := some x) (S := (M, S.2)) ?_ (if_e (by simp) (bd_i rfl (bd_i (e_wrAq k8 k2 (by omega)) (bd_i (e_lenQ k7 (gup_s _ _ _)) (gb_0 (e_inc k2 (by omega)) (bd_i (e_wr [.ref o, .int (nI ((k + 1) % cap)), .int (nI ((k + (x :: t).length) % cap))] ((gup_n _ _ (Ne.symm hone)).trans k5) (by simp) rfl) rfl))))))))
      unfold fJ28_elementAt
      refine bd_i rfl (bd_i (e_rdAq k8 k2 (by omega)) ?_)
      rw [hx0]
theorem J1_AD_iter {l : Launch} {G : gG} : J_nAD_iter l G (rN G) := by
  intro a S r S2 C N h
  unfold nAD_iter at h
  obtain ⟨⟨hd, cap, xs⟩, h1, h2⟩ := bdo h
  cases h2
  refine met_up fun M hR => ?_
  obtain ⟨own, hW⟩ := hR
  obtain ⟨k, o, f, k1, k2, k3, k4, k5, k6, k7, k8, -, -, -, hoa, halt, hone, hon⟩ := ad_at hW (adt_T h1)
  try dsimp only at k1 k2 k3 k4 k5 k8
  have hne : a ≠ S.2 := by omega
  have hon2 : o ≠ S.2 := by omega
  have hm : (k + xs.length) % cap < cap := Nat.mod_lt _ (by omega)
  refine ⟨gup (gup (gup (gup (gup M S.2 (cO 24 [.int 0, .int 0, .int 0, .null])) S.2 (cO 24 [.int 0, .int 0, .int 0, .ref a])) S.2 (cO 24 [.int 0, .int (nI xs.length), .int 0, .ref a])) S.2 (cO 24 [.int 0, .int (nI xs.length), .int (-1), .ref a])) S.2 (cO 24 [.int (nI k), .int (nI xs.length), .int (-1), .ref a]), it_new (q := (9, hd, 0, [a, cap, xs.length])) hW (Nat.lt_succ_self _) (fun b hb => ?_) ⟨a, cap, xs.length, k, -1, rfl, k1, k2, by omega, k3, Nat.zero_le _, by rw [gup_s, Nat.add_zero, Nat.mod_eq_of_lt k2]; rfl⟩, gMet_room (mJ28_iterator (r2 := some S.2) rP_ok ?_) (by decide) (by decide)⟩
  · have hbn : b ≠ S.2 := by omega
    rw [gup_n _ _ hbn, gup_n _ _ hbn, gup_n _ _ hbn, gup_n _ _ hbn, gup_n _ _ hbn]
  · have q5 : ∀ c, (gup M S.2 c) a = some (cO 18 [.ref o, .int (nI k), .int (nI ((k + xs.length) % cap))]) := fun c => (gup_n _ _ hne).trans k5
    have q8 : ∀ c, (gup M S.2 c) o = some (cAq 5 cap f) := fun c => (gup_n _ _ hon2).trans k8
    unfold fJ28_iterator nw
    refine ad_i (c2 := 0) (n2 := 0) (gb_0 (x := ()) ?_ rfl) rfl rfl
    unfold fJ40_init
    refine bd_i (e_wr [.int 0, .int 0, .int 0, .ref a] (gup_s _ _ _) (by simp) rfl) (bd_i (e_rdR (some a) (gup_s _ _ _) rfl) (bd_i rfl (bd_i (e_chk ((gup_n _ _ hne).trans (q5 _))) (gb_0 (x := nI xs.length) (S := (gup (gup M S.2 (cO 24 [.int 0, .int 0, .int 0, .null])) S.2 (cO 24 [.int 0, .int 0, .int 0, .ref a]), S.2 + 1)) ?_ (bd_i (e_wr [.int 0, .int (nI xs.length), .int 0, .ref a] (gup_s _ _ _) (by simp) rfl) (bd_i (e_wr [.int 0, .int (nI xs.length), .int (-1), .ref a] (gup_s _ _ _) (by simp) rfl) (bd_i rfl (bd_i (e_rdI ((gup_n _ _ hne).trans ((gup_n _ _ hne).trans ((gup_n _ _ hne).trans (q5 _)))) rfl) (bd_i (e_wr [.int (nI k), .int (nI xs.length), .int (-1), .ref a] (gup_s _ _ _) (by simp) rfl) rfl)))))))))
    unfold fJ28_size
    refine bd_i (e_rdI ((gup_n _ _ hne).trans (q5 _)) rfl) (bd_i (e_rdI ((gup_n _ _ hne).trans (q5 _)) rfl) (bd_i (e_rdR (some o) ((gup_n _ _ hne).trans (q5 _)) rfl) (bd_i rfl (bd_i (e_lenQ k7 ((gup_n _ _ hon2).trans (q8 _))) (gb_0 (x := nI xs.length) ?_ rfl)))))
    unfold fJ28_sub
    by_cases c : k + xs.length < cap
    · rw [Nat.mod_eq_of_lt c, pk_sub (by omega), show k + xs.length - k = xs.length by omega]
      exact if_i (nI_pos' (by omega)) rfl
    · have e1 : (k + xs.length) % cap = k + xs.length - cap := by rw [Nat.mod_eq_sub_mod (by omega), Nat.mod_eq_of_lt (by omega)]
      rw [e1]
      have hneg : nI (k + xs.length - cap) - nI k < 0 := pk_sneg (by omega) (by omega)
      refine if_e (fun z => ?_) ?_
      · have h1 := Int32.le_iff_toInt_le.mp z
        have h2 := Int32.lt_iff_toInt_lt.mp hneg
        omega
      · have e2 : nI (k + xs.length - cap) - nI k + nI cap = nI xs.length := by
          have e3 : nI (k + xs.length - cap) + nI cap = nI xs.length + nI k := by rw [nI_add, nI_add]; congr 1; omega
          generalize nI (k + xs.length - cap) = u at e3 ⊢
          generalize nI cap = w at e3 ⊢
          generalize nI k = z at e3 ⊢
          generalize nI xs.length = t at e3 ⊢
          grind
        rw [e2]
theorem i9_at {G : gG} {N M : gM} {own : Nat → Option Nat} {nx a cur : Nat} {hd : Int32} {xs : List Nat} (h : rW G N M own nx) (ha : N a = some (cT 9 hd cur xs)) : rI9 M a hd cur xs ∧ own a = none ∧ a < nx := by
  obtain ⟨h1, h2⟩ := h.2.2.1 a _ ha
  exact ⟨h1, h2, h.2.2.2.2.1 a (by rw [ha]; simp)⟩
theorem J1_I9_hasNext {l : Launch} {G : gG} : J_nI9_hasNext l G (rN G) := by
  intro a S r S2 C N h
  unfold nI9_hasNext at h
  obtain ⟨⟨hd, cur, ys⟩, h1, g9⟩ := bdo h
  clear h
  obtain ⟨n, hn, h⟩ := bdo g9
  clear g9
  cases h
  refine met_up fun M hR => ⟨M, hR, ?_⟩
  obtain ⟨own, hW⟩ := hR
  obtain ⟨⟨b, cap, n', k, lr, e1, e2, e3, e4, e5, e6, e7⟩, -⟩ := i9_at hW (adt_T h1)
  try dsimp only at e1 e2 e6 e7 hn ⊢
  subst e1
  cases hn
  refine gMet_room (mJ40_hasNext rP_ok (bd_i (e_rdI e7 rfl) ?_)) (by decide) (by decide)
  by_cases c : cur < n
  · rw [if_pos c]
    exact if_e (nI_nle (by omega) (by omega)) (zg_1 _)
  · rw [if_neg c, show n - cur = 0 by omega]
    exact if_i (by decide) (zg_0 _)
theorem J1_I9_next {l : Launch} {G : gG} : J_nI9_next l G (rN G) := by
  intro a S r S2 C N h
  unfold nI9_next at h
  obtain ⟨⟨hd, cur, ys⟩, h1, g9⟩ := bdo h
  clear h
  obtain ⟨b, hb, h⟩ := bdo g9
  clear g9
  obtain ⟨⟨hd2, cap, xs⟩, h2, g9⟩ := bdo h
  clear h
  have h := g9
  clear g9
  try dsimp only at h hb
  split at h
  next e0 =>
    obtain ⟨e01, e02, e03⟩ := e0
    subst e01
    obtain ⟨x, hx, g9⟩ := bdo h
    clear h
    have h := g9
    clear g9
    cases h
    refine met_up fun M hR => ?_
    obtain ⟨own, hW⟩ := hR
    have hN1 := adt_T h1
    have hN2 := adt_T h2
    try dsimp only at hN1 hN2
    obtain ⟨⟨b', cap', n', k, lr, e1, e2, e3, e4, e5, e6, e7⟩, hoa, halt⟩ := i9_at hW hN1
    subst e1
    cases hb
    have e02 : cap' = cap := by simpa using e02
    have e03 : n' = xs.length := by simpa using e03
    subst e02 e03
    have hne : b ≠ a := fun e => by rw [e, hN1] at hN2; cases hN2
    obtain ⟨k2, o, f, q1, q2, q3, q4, q5, q6, q7, q8, q9, q10, q11, -, -, -, -⟩ := ad_at hW hN2
    have hkk : k2 = k := by
      rw [e2] at q1
      exact ((nI_eq (by omega) (by omega)).mp q1).symm
    subst hkk
    have hcur : cur < xs.length := (List.getElem?_eq_some_iff.mp hx).1
    have hoa2 : o ≠ a := fun e => by rw [e, hoa] at q6; cases q6
    have hm : (k2 + cur) % cap' < cap' := Nat.mod_lt _ (by omega)
    have hval : f ((k2 + cur) % cap') = some x := by rw [q9 cur hcur, hx]
    have hmod : ((k2 + cur) % cap' + 1) % cap' = (k2 + (cur + 1)) % cap' := by rw [Nat.mod_add_mod, Nat.add_assoc]
    refine ⟨gup (gup (gup M a (cO 24 [.int (nI ((k2 + cur) % cap')), .int (nI (xs.length - cur)), .int (nI ((k2 + cur) % cap')), .ref b])) a (cO 24 [.int (nI ((k2 + (cur + 1)) % cap')), .int (nI (xs.length - cur)), .int (nI ((k2 + cur) % cap')), .ref b])) a (cO 24 [.int (nI ((k2 + (cur + 1)) % cap')), .int (nI (xs.length - (cur + 1))), .int (nI ((k2 + cur) % cap')), .ref b]), it_set hW (Or.inr (Or.inr rfl)) hN1 (fun c _ hc => by rw [gup_n _ _ hc, gup_n _ _ hc, gup_n _ _ hc]) ⟨b, cap', xs.length, k2, _, rfl, e2, e3, e4, e5, hcur, gup_s _ _ _⟩, gMet_room (mJ40_next rP_ok ?_) (by decide) (by decide)⟩
    unfold fJ40_next
    refine bd_i (e_rdI e7 rfl) (if_i (show (0 : Int32) < nI (xs.length - cur) by rw [← nI_0]; exact nI_lt (by omega) (by omega)) (bd_i (e_rdR (some b) e7 rfl) (bd_i rfl (bd_i (e_rdR (some o) q5 rfl) (bd_i (e_rdI e7 rfl) (gb_0 (x := some x) (S := (M, S.2)) ?_ (bd_i (e_rdI e7 rfl) (bd_i (e_wr [.int (nI ((k2 + cur) % cap')), .int (nI (xs.length - cur)), .int (nI ((k2 + cur) % cap')), .ref b] e7 (by simp) rfl) (bd_i rfl (bd_i (e_lenQ q7 ((gup_n _ _ hoa2).trans q8)) (gb_0 (e_inc hm (by omega)) ?_)))))))))))
    · unfold fJ28_nonNullElementAt
      refine bd_i rfl (bd_i (e_rdAq q8 hm (by omega)) ?_)
      rw [hval]
      exact if_e (by simp) rfl
    · rw [hmod]
      refine bd_i (e_wr [.int (nI ((k2 + (cur + 1)) % cap')), .int (nI (xs.length - cur)), .int (nI ((k2 + cur) % cap')), .ref b] (gup_s _ _ _) (by simp) rfl) (bd_i (e_rdI (gup_s _ _ _) rfl) ?_)
      rw [pk_sub (by omega), show xs.length - cur - 1 = xs.length - (cur + 1) by omega]
      exact bd_i (e_wr [.int (nI ((k2 + (cur + 1)) % cap')), .int (nI (xs.length - (cur + 1))), .int (nI ((k2 + cur) % cap')), .ref b] (gup_s _ _ _) (by simp) rfl) rfl
  next => cases h
theorem ad_wrap {k i cap : Nat} (hk : k < cap) (hi : i < cap) : (k + i) % cap = if k + i < cap then k + i else k + i - cap := by
  by_cases c : k + i < cap
  · rw [if_pos c, Nat.mod_eq_of_lt c]
  · rw [if_neg c, Nat.mod_eq_sub_mod (by omega), Nat.mod_eq_of_lt (by omega)]
/-- the clearing loop of growing -/
theorem ad_clr {G : gG} {nx o cap : Nat} (hc : cap ≤ 36) : ∀ (k i j n : Nat) (M : gM) (f : Nat → Option Nat), M o = some (cAq 5 cap f) → i + k = j → j ≤ cap → k < n →
    ∃ g, fJ28_grow_b145 G n (some o) (nI i) (nI j) (M, nx) = some ((), (gup M o (cAq 5 cap g), nx), 0, 0) ∧ ∀ p, g p = if i ≤ p ∧ p < j then none else f p
  | 0, i, j, n + 1, M, f, h, hik, hj, _ => by
    refine ⟨f, ?_, fun p => by rw [if_neg (by omega)]⟩
    rw [fJ28_grow_b145, gup_same h]
    exact if_i (nI_le (by omega) (by omega)) rfl
  | k + 1, i, j, n + 1, M, f, h, hik, hj, hn => by
    obtain ⟨g, k1, k2⟩ := ad_clr (G := G) (nx := nx) hc k (i + 1) j n (gup M o (cAq 5 cap (va_up f i none))) (va_up f i none) (gup_s _ _ _) (by omega) hj (by omega)
    rw [gup_gup] at k1
    refine ⟨g, ?_, fun p => ?_⟩
    · rw [fJ28_grow_b145]
      refine if_e (nI_ge (by omega) (by omega)) (bd_i rfl (bd_i (e_wrAq h (by omega) (by omega)) ?_))
      rw [nI_add]
      exact k1
    · rw [k2 p]
      by_cases c : p = i
      · subst c
        rw [if_neg (by omega), if_pos (by omega), va_up_self]
      · rw [va_up_ne _ _ c]
        by_cases c2 : i + 1 ≤ p ∧ p < j
        · rw [if_pos c2, if_pos (by omega)]
        · rw [if_neg c2, if_neg (by omega)]
theorem J1_AD_addLast {l : Launch} {G : gG} : J_nAD_addLast l G (rN G) := by
  intro a v S r S2 C N h
  unfold nAD_addLast at h
  obtain ⟨⟨hd, cap, xs⟩, h1, g9⟩ := bdo h
  clear h
  obtain ⟨x, hv, h⟩ := bdo g9
  clear g9
  obtain ⟨u, hok, g9⟩ := bdo h
  clear h
  have h := g9
  clear g9
  subst hv
  have hx := okN_o hok
  have ha := adt_T h1
  try dsimp only at h ha
  have hpre : ∀ {M : gM} {own : Nat → Option Nat}, rW G S.1 M own S.2 → ∀ {k o : Nat} {f : Nat → Option Nat}, k < cap → xs.length < cap → cap ≤ 36 → M a = some (cO 18 [.ref o, .int (nI k), .int (nI ((k + xs.length) % cap))]) → own o = some a → o ≠ G.2.2.1 1 → M o = some (cAq 5 cap f) → o ≠ a → ∀ {r : gO Unit}, (if nI k = nI ((k + xs.length + 1) % cap) then bd (chk (gup (gup M o (cAq 5 cap (va_up f ((k + xs.length) % cap) (some x)))) a (cO 18 [.ref o, .int (nI k), .int (nI ((k + xs.length + 1) % cap))]), S.2) a 18) fun _ => gb (fJ28_grow G a (nI 1) (gup (gup M o (cAq 5 cap (va_up f ((k + xs.length) % cap) (some x)))) a (cO 18 [.ref o, .int (nI k), .int (nI ((k + xs.length + 1) % cap))]), S.2)) fun _ S14 => some ((), S14, 0, 0) else some ((), (gup (gup M o (cAq 5 cap (va_up f ((k + xs.length) % cap) (some x)))) a (cO 18 [.ref o, .int (nI k), .int (nI ((k + xs.length + 1) % cap))]), S.2), 0, 0)) = r → (∃ q, r = some q) → fJ28_addLast G a (some x) (M, S.2) = r := fun {M own} hW {k o f} hk hl hc k5 k6 k7 k8 hone r hr hr2 => by
    obtain ⟨⟨u, Sf, c, n⟩, hr2⟩ := hr2
    subst hr2
    have hm : (k + xs.length) % cap < cap := Nat.mod_lt _ (by omega)
    obtain ⟨a1, a2, a3⟩ := any_up hW hx
    unfold fJ28_addLast
    refine if_e (by simp) (bd_i (e_rdR (some o) k5 rfl) (bd_i (e_rdI k5 rfl) (bd_i rfl (bd_i rfl (bd_i (if_pos a1) (bd_i (e_wrAq k8 hm (by omega)) (bd_i (e_rdI ((gup_n _ _ (Ne.symm hone)).trans k5) rfl) (bd_i (e_rdI ((gup_n _ _ (Ne.symm hone)).trans k5) rfl) (bd_i (e_lenQ k7 (gup_s _ _ _)) (gb_0 (e_inc hm hc) ?_))))))))))
    rw [Nat.mod_add_mod]
    exact bd_i (e_wr [.ref o, .int (nI k), .int (nI ((k + xs.length + 1) % cap))] ((gup_n _ _ (Ne.symm hone)).trans k5) (by simp) rfl) hr
  split at h
  next hle =>
    cases h
    refine met_up fun M hR => ?_
    obtain ⟨own, hW⟩ := hR
    obtain ⟨k, o, f, k1, k2, k3, k4, k5, k6, k7, k8, k9, k10, k11, hoa, halt, hone, hon⟩ := ad_at hW ha
    subst k1
    have e1 := ad_wrap (cap := cap) (i := xs.length) k2 k3
    have e2 := ad_wrap (cap := cap) (i := xs.length + 1) k2 (by omega)
    refine ⟨_, ad_set hW ha (Nat.le_refl _) (Or.inl k6) k7 k2 (xs2 := xs ++ [x]) (by simp; omega) k4 (by rw [gup_s, List.length_append]; rfl) ((gup_n _ _ hone).trans (gup_s _ _ _)) (fun i hi => ?_) (fun i hi1 hi2 => ?_) (fun y hy => ?_) (fun b hb hba hob => ?_), gMet_room (mJ28_addLast (r2 := ()) rP_ok (hpre hW k2 k3 (by omega) k5 k6 k7 k8 hone (if_neg (fun e => ?_)) ⟨_, rfl⟩)) (by decide) (by decide)⟩
    · rw [List.length_append, List.length_singleton] at hi
      have e3 := ad_wrap (cap := cap) (i := i) k2 (by omega)
      by_cases c : i = xs.length
      · subst c
        rw [va_up_self]
        simp
      · rw [va_up_ne _ _ (by rw [e1, e3]; split <;> split <;> omega), k9 i (by omega), List.getElem?_append_left (by omega)]
    · rw [List.length_append, List.length_singleton] at hi1
      have e3 := ad_wrap (cap := cap) (i := i) k2 (by omega)
      rw [va_up_ne _ _ (by rw [e1, e3]; split <;> split <;> omega)]
      exact k10 i (by omega) hi2
    · rcases List.mem_append.mp hy with hy | hy
      · exact k11 y hy
      · rw [List.mem_singleton.mp hy]; exact hx
    · have hbo : b ≠ o := fun e => hob (by rw [e]; exact k6)
      rw [gup_n _ _ hba, gup_n _ _ hbo]
    · have hm2 : (k + xs.length + 1) % cap < cap := Nat.mod_lt _ (by omega)
      have := (nI_eq (by omega) (by omega)).mp e
      rw [Nat.add_assoc, e2] at this
      split at this <;> omega
  next hle =>
    split at h
    next hcc =>
      obtain ⟨hcc, hcap⟩ := hcc
      subst hcap
      cases h
      refine met_up fun M hR => ?_
      obtain ⟨own, hW⟩ := hR
      obtain ⟨k, o, f, k1, k2, k3, k4, k5, k6, k7, k8, k9, k10, k11, hoa, halt, hone, hon⟩ := ad_at hW ha
      subst k1
      have hE := kE_lt hW
      have hxl : xs.length = 16 := by omega
      have hane : a ≠ S.2 := by omega
      have hone2 : o ≠ S.2 := by omega
      have htail : (k + xs.length + 1) % 17 = k := by rw [hxl, show k + 16 + 1 = k + 17 by omega, Nat.add_mod_right, Nat.mod_eq_of_lt k2]
      obtain ⟨a1, a2, a3⟩ := any_up hW hx
      -- the full row
      have hrow1 : ∀ i, i < 17 → (va_up f ((k + xs.length) % 17) (some x)) ((k + i) % 17) = (xs ++ [x])[i]? := fun i hi => by
        have e1 := ad_wrap (cap := 17) (i := xs.length) k2 k3
        have e3 := ad_wrap (cap := 17) (i := i) k2 hi
        by_cases c : i = xs.length
        · subst c
          rw [va_up_self]
          simp
        · rw [va_up_ne _ _ (by rw [e1, e3]; split <;> split <;> omega), k9 i (by omega), List.getElem?_append_left (by omega)]
      have hall : ∀ y ∈ xs ++ [x], anyN (S.1, 0) y = true := fun y hy => by
        rcases List.mem_append.mp hy with hy | hy
        · exact k11 y hy
        · rw [List.mem_singleton.mp hy]; exact hx
      have hany : anyN (S.1, 0) a = false := by simp [anyN, ha]
      generalize hf1 : va_up f ((k + xs.length) % 17) (some x) = f1 at hrow1
      -- the copy
      have hsrc : ∀ i, i < 17 → ∃ y, f1 i = some y ∧ anyN (S.1, 0) y = true := fun i hi => by
        have hi2 : ∃ j, j < 17 ∧ (k + j) % 17 = i := by
          by_cases c : k ≤ i
          · exact ⟨i - k, by omega, by rw [show k + (i - k) = i by omega, Nat.mod_eq_of_lt hi]⟩
          · exact ⟨i + 17 - k, by omega, by rw [show k + (i + 17 - k) = i + 17 by omega, Nat.add_mod_right, Nat.mod_eq_of_lt hi]⟩
        obtain ⟨j, hj, e⟩ := hi2
        have h9 := hrow1 j hj
        rw [e, List.getElem?_eq_getElem (by simp; omega)] at h9
        exact ⟨_, h9, hall _ (List.getElem_mem _)⟩
      obtain ⟨L, hLl, hLr⟩ : ∃ L : List Nat, L.length = 17 ∧ ∀ i, i < 17 → f1 i = L[i]? := ⟨(List.range 17).map (fun i => (f1 i).getD 0), by simp, fun i hi => by
        obtain ⟨y, hy, -⟩ := hsrc i hi
        rw [List.getElem?_map, List.getElem?_range hi, hy]
        simp [hy]⟩
      have hLN : ∀ y ∈ L, anyN (S.1, 0) y = true := fun y hy => by
        obtain ⟨i, hi⟩ := List.getElem?_of_mem hy
        have hil := (List.getElem?_eq_some_iff.mp hi).1
        obtain ⟨z, hz, hz2⟩ := hsrc i (by omega)
        rw [hLr i (by omega), hi] at hz
        cases hz
        exact hz2
      have hyM : ∀ y, anyN (S.1, 0) y = true → ∀ (M' : gM) (n : Nat), (∀ b, b < S.2 → b ≠ a → b ≠ o → M' b = M b) → anyO G (M', n) y = true := fun y hy M' n hM' => by
        obtain ⟨p1, p2, p3⟩ := any_up hW hy
        refine anyO_at p1 (hM' y p2 (fun e => ?_) (fun e => ?_))
        · rw [e, hany] at hy; cases hy
        · rw [e, k6] at p3; cases p3
      have hB : ∀ b, b < S.2 → b ≠ a → b ≠ o → (gup (gup M o (cAq 5 17 f1)) a (cO 18 [.ref o, .int (nI k), .int (nI k)])) b = M b := fun b _ hb hbo => by rw [gup_n _ _ hb, gup_n _ _ hbo]
      obtain ⟨f2, q1, q2⟩ := e_copyOf (G := G) (M := gup (gup M o (cAq 5 17 f1)) a (cO 18 [.ref o, .int (nI k), .int (nI k)])) (n1 := 36) (xs := L) k7 hon ((gup_n _ _ hone).trans (gup_s _ _ _)) ⟨fun i hi => hLr i (by omega), fun i h1 h2 => by omega⟩ (by omega) (by decide) (by decide) (by omega) (fun y hy => ⟨hyM y (hLN y hy) _ _ hB, (any_up hW (hLN y hy)).2.1⟩)
      have hf2 : ∀ i, i < 17 → f2 i = f1 i := fun i hi => by rw [q1.1 i (by omega), hLr i hi]
      have hf2n : ∀ i, 17 ≤ i → i < 36 → f2 i = none := fun i h1 h2 => q1.2 i (by omega) h2
      obtain ⟨g, g1, g2⟩ := ad_clr (G := G) (nx := S.2 + 1) (cap := 36) (o := S.2) (by decide) 19 k (k + 19) FU (gup (gup (gup (gup (gup (gup M o (cAq 5 17 f1)) a (cO 18 [.ref o, .int (nI k), .int (nI k)])) S.2 (cAq 5 36 f2)) a (cO 18 [.ref S.2, .int (nI k), .int (nI k)])) S.2 (cAq 5 36 (va_cpy f2 f2 k (k + 19) (17 - k)))) a (cO 18 [.ref S.2, .int (nI (k + 19)), .int (nI k)])) (va_cpy f2 f2 k (k + 19) (17 - k)) ((gup_n _ _ (Ne.symm hane)).trans (gup_s _ _ _)) (by omega) (by omega) (Nat.le_of_ble_eq_true rfl)
      have hhead : nI k + 19 = nI (k + 19) := nI_add k 19
      rw [hhead]
      have hfin36 : ((k + 19) + (xs ++ [x]).length) % 36 = k := by rw [List.length_append, hxl, show k + 19 + (16 + [x].length) = k + 36 from rfl, Nat.add_mod_right, Nat.mod_eq_of_lt (by omega)]
      have hgv : ∀ i, i < 36 → g ((k + 19 + i) % 36) = if i < 17 then (xs ++ [x])[i]? else none := fun i hi => by
        have e3 := ad_wrap (cap := 36) (k := k + 19) (i := i) (by omega) hi
        rw [g2, e3]
        by_cases c : i < 17
        · rw [if_pos c]
          by_cases c2 : k + 19 + i < 36
          · rw [if_pos c2, if_neg (by omega), pk_cpy_in (by omega) (by omega), show k + (k + 19 + i - (k + 19)) = k + i by omega, hf2 _ (by omega), ← hrow1 i c, Nat.mod_eq_of_lt (by omega)]
          · rw [if_neg c2, if_neg (by omega), pk_cpy_out (by omega), hf2 _ (by omega), ← hrow1 i c, ad_wrap k2 c, if_neg (by omega)]
            congr 1
            omega
        · rw [if_neg c]
          by_cases c2 : k + 19 + i < 36
          · omega
          · rw [if_neg c2, if_pos (by omega)]
      refine ⟨gup (gup (gup (gup (gup (gup (gup M o (cAq 5 17 f1)) a (cO 18 [.ref o, .int (nI k), .int (nI k)])) S.2 (cAq 5 36 f2)) a (cO 18 [.ref S.2, .int (nI k), .int (nI k)])) S.2 (cAq 5 36 (va_cpy f2 f2 k (k + 19) (17 - k)))) a (cO 18 [.ref S.2, .int (nI (k + 19)), .int (nI k)])) S.2 (cAq 5 36 g), ad_set hW ha (Nat.le_succ _) (Or.inr ⟨Nat.le_refl S.2, Nat.lt_succ_self _⟩) (k2 := k + 19) (by omega) (by omega) (xs2 := xs ++ [x]) (cap2 := 36) (by simp; omega) (Or.inr rfl) (by rw [hfin36, gup_n _ _ hane, gup_s]) (gup_s _ _ _) (fun i hi => ?_) (fun i hi1 hi2 => ?_) hall (fun b hb hba hob => ?_), gMet_room (mJ28_addLast (r2 := ()) rP_ok (hpre hW k2 k3 (by omega) k5 k6 k7 k8 hone ((if_pos (by rw [htail])).trans ?_) ⟨_, rfl⟩)) (by decide) (by decide)⟩
      · rw [List.length_append, hxl] at hi
        rw [hgv i (by have : [x].length = 1 := rfl; omega), if_pos (by have : [x].length = 1 := rfl; omega)]
      · rw [List.length_append, hxl] at hi1
        rw [hgv i hi2, if_neg (by have : [x].length = 1 := rfl; omega)]
      · have hbo : b ≠ o := fun e => hob (by rw [e]; exact k6)
        have hbn : b ≠ S.2 := by omega
        rw [gup_n _ _ hbn, gup_n _ _ hba, gup_n _ _ hbn, gup_n _ _ hba, gup_n _ _ hbn, gup_n _ _ hba, gup_n _ _ hbo]
      · rw [htail, hf1]
        have hMa1 : (gup (gup M o (cAq 5 17 f1)) a (cO 18 [.ref o, .int (nI k), .int (nI k)])) a = some (cO 18 [.ref o, .int (nI k), .int (nI k)]) := gup_s _ _ _
        have hMo1 : (gup (gup M o (cAq 5 17 f1)) a (cO 18 [.ref o, .int (nI k), .int (nI k)])) o = some (cAq 5 17 f1) := (gup_n _ _ hone).trans (gup_s _ _ _)
        refine bd_i (e_chk hMa1) (gb_i (c := 1) (n := 36) (c2 := 0) (n2 := 0) (x := ()) (S := (gup (gup (gup (gup (gup (gup (gup M o (cAq 5 17 f1)) a (cO 18 [.ref o, .int (nI k), .int (nI k)])) S.2 (cAq 5 36 f2)) a (cO 18 [.ref S.2, .int (nI k), .int (nI k)])) S.2 (cAq 5 36 (va_cpy f2 f2 k (k + 19) (17 - k)))) a (cO 18 [.ref S.2, .int (nI (k + 19)), .int (nI k)])) S.2 (cAq 5 36 g), S.2 + 1)) ?_ rfl rfl rfl)
        unfold fJ28_grow fJ28_grow_b21
        refine bd_i (e_rdR (some o) hMa1 rfl) (bd_i rfl (bd_i (e_lenQ k7 hMo1) (if_e (by decide) (if_e (by decide) (if_i (by decide) ?_)))))
        unfold fJ28_grow_b49
        have e36 : nI 17 + (nI 17 + nI 2) = nI 36 := by decide
        rw [e36]
        refine bd_i (e_rdR (some o) hMa1 rfl) (gb_i (c2 := 0) (n2 := 0) q2 ?_ rfl rfl)
        have hMa2 : (gup (gup (gup M o (cAq 5 17 f1)) a (cO 18 [.ref o, .int (nI k), .int (nI k)])) S.2 (cAq 5 36 f2)) a = some (cO 18 [.ref o, .int (nI k), .int (nI k)]) := (gup_n _ _ hane).trans hMa1
        have hMa3 : (gup (gup (gup (gup M o (cAq 5 17 f1)) a (cO 18 [.ref o, .int (nI k), .int (nI k)])) S.2 (cAq 5 36 f2)) a (cO 18 [.ref S.2, .int (nI k), .int (nI k)])) a = some (cO 18 [.ref S.2, .int (nI k), .int (nI k)]) := gup_s _ _ _
        have hMn3 : (gup (gup (gup (gup M o (cAq 5 17 f1)) a (cO 18 [.ref o, .int (nI k), .int (nI k)])) S.2 (cAq 5 36 f2)) a (cO 18 [.ref S.2, .int (nI k), .int (nI k)])) S.2 = some (cAq 5 36 f2) := (gup_n _ _ (Ne.symm hane)).trans (gup_s _ _ _)
        refine bd_i (e_wr [.ref S.2, .int (nI k), .int (nI k)] hMa2 (by simp) rfl) (bd_i (e_rdI hMa3 rfl) (bd_i (e_rdI hMa3 rfl) (if_e (nI_nlt (Nat.le_refl _) (by omega)) (bd_i (e_rdI hMa3 rfl) (bd_i (e_rdI hMa3 rfl) (if_i rfl (bd_i (e_rdI hMa3 rfl) (bd_i rfl (bd_i (e_rdAq hMn3 (by omega) (by omega)) ?_)))))))))
        obtain ⟨y, hy, -⟩ := hsrc k k2
        rw [hf2 k k2, hy]
        refine if_e (by simp) ?_
        unfold fJ28_grow_b96
        refine bd_i (e_rdI hMa3 rfl) (bd_i (e_rdI hMa3 rfl) (bd_i (e_rdI hMa3 rfl) (bd_i rfl ?_)))
        rw [pk_sub (show 17 ≤ 36 by decide), pk_sub (show k ≤ 17 by omega), nI_add]
        refine bd_i (e_cpyQ (by omega) hMn3 hMn3 (by omega) (by omega) (by omega) (by omega) (fun i hi z hz => ?_)) (bd_i (e_rdI ((gup_n _ _ hane).trans hMa3) rfl) (bd_i (e_rdI ((gup_n _ _ hane).trans hMa3) rfl) (bd_i (e_wr [.ref S.2, .int (nI (k + 19)), .int (nI k)] ((gup_n _ _ hane).trans hMa3) (by simp) (by rw [nI_add]; rfl)) ?_)))
        · rw [hf2 _ (by omega)] at hz
          obtain ⟨z2, hz2, hz3⟩ := hsrc (k + i) (by omega)
          rw [hz2] at hz
          cases hz
          exact hyM _ hz3 _ _ (fun b hb hba hbo => by rw [gup_n _ _ hba, gup_n _ _ (by omega), gup_n _ _ hba, gup_n _ _ hbo])
        · rw [nI_add]
          exact g1
    next => cases h
