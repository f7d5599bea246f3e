/-! LinkedList at the level rN, third: the iterator, addAll -/
set_option maxRecDepth 100000
set_option maxHeartbeats 1000000
theorem rLL_it {N M M2 : gM} {own : Nat → Option Nat} {b c : Nat} {mc : Int32} {es ns : List Nat} {q : Nat × Int32 × Nat × List Nat} (h : rLL N M own b mc es ns) (hc : anyN (N, 0) c = false) (hbc : b ≠ c) (hMb : M2 b = M b) (hM : ∀ x, own x = some b → M2 x = M x) : rLL (gup N c (.inr (.inr q))) M2 (ownU own c []) b mc es ns := by
  refine h.to (fun x hx => ?_) hMb (fun x hx => ⟨?_, hM x hx⟩)
  · have hxc : x ≠ c := fun e => by rw [e, hc] at hx; cases hx
    have e : (gup N c (.inr (.inr q))) x = N x := gup_n N _ hxc
    simpa [anyN, e] using hx
  · unfold ownU
    rw [if_neg (by simp), if_neg (by rw [hx]; exact fun e => hbc (Option.some.inj e)), hx]
theorem J1_LL_iter {l : Launch} {G : gG} : J_nLL_iter l G (rN G) := by
  intro a S r S2 C N h
  unfold nLL_iter at h
  obtain ⟨⟨mc, v, xs⟩, h1, h2⟩ := bdo h
  cases h2
  refine met_up fun M hR => ?_
  obtain ⟨own, hW⟩ := hR
  have ha := adt_T h1
  obtain ⟨ns, hr, h8, hoa, halt, hns, -⟩ := ll_at hW ha
  have hr' := hr
  obtain ⟨h3, h4, h5, h6, h7, h7b⟩ := hr'
  try dsimp only at h3 h4 h6 h8
  have hne : a ≠ S.2 := by omega
  have hNn : S.1 S.2 = none := by
    cases hq : S.1 S.2 with
    | none => rfl
    | some c => exact absurd (hW.2.2.2.2.1 S.2 (by rw [hq]; simp)) (Nat.lt_irrefl _)
  have hany : anyN (S.1, 0) S.2 = false := by simp [anyN, hNn]
  have hfin : ∀ {M2 : gM}, (∀ b, b < S.2 → M2 b = M b) → M2 S.2 = some (cO 22 [.null, va_rf ns[0]?, .int (nI 0), .int mc, .ref a]) → rN G (mk S (cT 7 mc 0 [a, 0, v])).1 M2 (S.2 + 1) := fun e1 e2 => by
    refine it_new (q := (7, mc, 0, [a, 0, v])) hW (Nat.lt_succ_self _) e1 ⟨a, 0, v, none, ns[0]?, rfl, Nat.zero_le _, Nat.zero_le _, e2, mc, v, xs, (gup_n _ _ hne).trans ha, Nat.le_refl _, fun _ => ⟨rfl, Nat.zero_le _, ns, rLL_it hr hany hne (e1 a halt) (fun x hx => e1 x (hW.2.2.2.1 x a hx)), rfl, rfl⟩⟩
  have hrun : ∀ {M2 : gM}, (if nI 0 = nI xs.length then bd (wr (gup (gup (gup M S.2 (cO 22 [.null, .null, .int 0, .int 0, .null])) S.2 (cO 22 [.null, .null, .int 0, .int 0, .ref a])) S.2 (cO 22 [.null, .null, .int 0, .int mc, .ref a]), S.2 + 1) S.2 22 1 (.null)) fun S13 => bd (wr S13 S.2 22 2 (.int (nI 0))) fun S14 => some ((), S14, 0, 0) else bd (chk (gup (gup (gup M S.2 (cO 22 [.null, .null, .int 0, .int 0, .null])) S.2 (cO 22 [.null, .null, .int 0, .int 0, .ref a])) S.2 (cO 22 [.null, .null, .int 0, .int mc, .ref a]), S.2 + 1) a 16) fun _ => gb (fJ4_node G a (nI 0) (gup (gup (gup M S.2 (cO 22 [.null, .null, .int 0, .int 0, .null])) S.2 (cO 22 [.null, .null, .int 0, .int 0, .ref a])) S.2 (cO 22 [.null, .null, .int 0, .int mc, .ref a]), S.2 + 1)) fun v10 S10 => bd (wr S10 S.2 22 1 (va_rf v10)) fun S11 => bd (wr S11 S.2 22 2 (.int (nI 0))) fun S12 => some ((), S12, 0, 0)) = some ((), (M2, S.2 + 1), 0, 0) → fJ3_iterator_c16 G a (M, S.2) = some (some S.2, (M2, S.2 + 1), 1, 5) := fun {M2} hr => by
    unfold fJ3_iterator_c16 fJ1_listIterator_c16 fJ4_listIterator nw
    have hM1 : ∀ c, (gup M S.2 c) a = some (cO 16 [.int mc, .int (nI xs.length), va_rf ns[0]?, va_rf ns[ns.length - 1]?]) := fun c => (gup_n _ _ hne).trans h3
    refine bd_i (e_chk h3) (gb_i (c2 := 0) (n2 := 0) (bd_i (e_chk h3) (gb_i (c2 := 0) (n2 := 0) (bd_i (e_chk h3) (gb_0 (x := ()) (S := (M, S.2)) ?_ (ad_i (c2 := 0) (n2 := 0) (gb_0 (x := ()) (S := (M2, S.2 + 1)) ?_ rfl) rfl rfl))) rfl rfl rfl)) rfl rfl rfl)
    · unfold fJ4_checkPositionIndex
      refine bd_i (e_chk h3) (gb_0 (x := nI 1) (S := (M, S.2)) ?_ (if_e (by decide) rfl))
      unfold fJ4_isPositionIndex
      exact if_e (by decide) (bd_i (e_rdI h3 rfl) (if_e (nI_nlt (Nat.zero_le _) (by omega)) (zg_1 _)))
    · unfold fJ32_init
      refine bd_i (e_wr [.null, .null, .int 0, .int 0, .ref a] (gup_s _ _ _) (by simp) rfl) (bd_i (e_rdR (some a) (gup_s _ _ _) rfl) (bd_i rfl (bd_i (e_rdI ((gup_n _ _ hne).trans (hM1 _)) rfl) (bd_i (e_wr [.null, .null, .int 0, .int mc, .ref a] (gup_s _ _ _) (by simp) rfl) (bd_i rfl (bd_i (e_rdI ((gup_n _ _ hne).trans ((gup_n _ _ hne).trans (hM1 _))) rfl) hr))))))
  by_cases c : xs.length = 0
  · have hn0 : ns = [] := List.eq_nil_of_length_eq_zero (by omega)
    subst hn0
    refine ⟨_, hfin (fun b hb => ?_) (gup_s _ _ _), gMet_room (mJ3_iterator_c16 rP_ok (hrun (if_i (by rw [c]) (bd_i (e_wr [.null, .null, .int 0, .int mc, .ref a] (gup_s _ _ _) (by simp) rfl) (bd_i (e_wr [.null, .null, .int (nI 0), .int mc, .ref a] (gup_s _ _ _) (by simp) rfl) rfl))))) (by decide) (by decide)⟩
    have hbn : b ≠ S.2 := by omega
    rw [gup_n _ _ hbn, gup_n _ _ hbn, gup_n _ _ hbn, gup_n _ _ hbn, gup_n _ _ hbn]
  · have hM3 : (gup (gup (gup M S.2 (cO 22 [.null, .null, .int 0, .int 0, .null])) S.2 (cO 22 [.null, .null, .int 0, .int 0, .ref a])) S.2 (cO 22 [.null, .null, .int 0, .int mc, .ref a])) a = some (cO 16 [.int mc, .int (nI xs.length), va_rf ns[0]?, va_rf ns[ns.length - 1]?]) := by rw [gup_n _ _ hne, gup_n _ _ hne, gup_n _ _ hne, h3]
    have hn3 : ndC (gup (gup (gup M S.2 (cO 22 [.null, .null, .int 0, .int 0, .null])) S.2 (cO 22 [.null, .null, .int 0, .int 0, .ref a])) S.2 (cO 22 [.null, .null, .int 0, .int mc, .ref a])) ns xs (fun i => ns[i + 1]?) (ndP ns) := h8.to (fun m hm => by
      have hmn : m ≠ S.2 := by have := (hns m hm).2.1; omega
      rw [gup_n _ _ hmn, gup_n _ _ hmn, gup_n _ _ hmn]) (fun _ _ => rfl) (fun _ _ => rfl) (fun _ _ => rfl)
    refine ⟨_, hfin (fun b hb => ?_) (gup_s _ _ _), gMet_room (mJ3_iterator_c16 rP_ok (hrun (if_e (fun e => c ((nI_eq (by omega) (by omega)).mp e).symm) (bd_i (e_chk hM3) (gb_0 (ll_node hM3 hn3 h6 h4 (by omega)) (bd_i (e_wr [.null, va_rf ns[0]?, .int 0, .int mc, .ref a] (gup_s _ _ _) (by simp) rfl) (bd_i (e_wr [.null, va_rf ns[0]?, .int (nI 0), .int mc, .ref a] (gup_s _ _ _) (by simp) rfl) rfl))))))) (by decide) (by decide)⟩
    have hbn : b ≠ S.2 := by omega
    rw [gup_n _ _ hbn, gup_n _ _ hbn, gup_n _ _ hbn, gup_n _ _ hbn, gup_n _ _ hbn]
theorem i7_at {G : gG} {N M : gM} {own : Nat → Option Nat} {nx a cur : Nat} {emc : Int32} {xs : List Nat} (h : rW G N M own nx) (ha : N a = some (cT 7 emc cur xs)) : rI7 N M own a emc cur xs ∧ own a = none ∧ a < nx := by
  obtain ⟨h1, h2⟩ := h.2.2.1 a _ ha
  exact ⟨h1, h2, h.2.2.2.2.1 a (by rw [ha]; simp)⟩
theorem i7_set {G : gG} {N M M2 : gM} {own : Nat → Option Nat} {nx a : Nat} {q q2 : Int32 × Nat × List Nat} (h : rW G N M own nx) (ha : N a = some (.inr (.inr (7, q)))) (hM : ∀ b, b < nx → b ≠ a → M2 b = M b) (hrep : rep G (gup N a (.inr (.inr (7, q2)))) M2 (ownU own a []) a (7, q2)) : rN G (gup N a (.inr (.inr (7, q2)))) M2 nx := by
  obtain ⟨-, h2⟩ := h.2.2.1 a _ ha
  refine ⟨_, rN_set (q2 := (7, q2)) h [] (Nat.le_refl _) (h.2.2.2.2.1 a (by rw [ha]; simp)) h2 (by simp) (fun q' hq => ?_) (fun c hc => by rw [ha] at hc; cases hc) (fun c hc => by rw [ha] at hc; cases hc) (fun b hb => by cases hb) (fun b hb hba _ => hM b hb hba) hrep⟩
  rw [ha] at hq
  cases hq
  exact ⟨rfl, fun e => by cases e⟩
theorem J1_I7_hasNext {l : Launch} {G : gG} : J_nI7_hasNext l G (rN G) := by
  intro a S r S2 C N h
  unfold nI7_hasNext at h
  obtain ⟨⟨emc, cur, ys⟩, h1, g9⟩ := bdo h
  clear h
  obtain ⟨b, hb, h⟩ := bdo g9
  clear g9
  obtain ⟨⟨mc, v, xs⟩, h2, g9⟩ := bdo h
  clear h
  have h := g9
  clear g9
  cases h
  refine met_up fun M hR => ⟨M, hR, ?_⟩
  obtain ⟨own, hW⟩ := hR
  obtain ⟨⟨b', l', ver, la, nxt, e1, e2, e3, e4, -⟩, -⟩ := i7_at hW (adt_T h1)
  subst e1
  cases hb
  obtain ⟨ns, ⟨h3, h4, -⟩, -⟩ := ll_at hW (adt_T h2)
  refine gMet_room (mJ32_hasNext rP_ok (bd_i (e_rdI e4 rfl) (bd_i (e_rdR (some b) e4 rfl) (bd_i rfl (bd_i (e_rdI h3 rfl) ?_))))) (by decide) (by decide)
  try dsimp only at h4 e2 ⊢
  by_cases c : cur < xs.length
  · rw [if_pos c, if_neg (nI_ge c (by omega)), zg_1]
  · rw [if_neg c, if_pos (nI_le (by omega) (by omega)), zg_0]
theorem ll_comod {G : gG} {M : gM} {nx a b : Nat} {mc sz cur : Int32} {v1 v2 w1 w2 : Value} (e4 : M a = some (cO 22 [v1, v2, .int cur, .int mc, .ref b])) (h3 : M b = some (cO 16 [.int mc, .int sz, w1, w2])) : fJ32_checkForComodification G a (M, nx) = some ((), (M, nx), 0, 0) :=
  bd_i (e_rdR (some b) e4 rfl) (bd_i rfl (bd_i (e_rdI h3 rfl) (bd_i (e_rdI e4 rfl) (if_i rfl rfl))))
theorem J1_I7_next {l : Launch} {G : gG} : J_nI7_next l G (rN G) := by
  intro a S r S2 C N h
  unfold nI7_next at h
  obtain ⟨⟨emc, cur, ys⟩, h1, g9⟩ := bdo h
  clear h
  obtain ⟨b, hb, h⟩ := bdo g9
  clear g9
  obtain ⟨⟨mc, v, xs⟩, h2, g9⟩ := bdo h
  clear h
  have h := g9
  clear g9
  try dsimp only at h hb
  split at h
  next e0 =>
    obtain ⟨x, hx, g9⟩ := bdo h
    clear h
    have h := g9
    clear g9
    cases h
    refine met_up fun M hR => ?_
    obtain ⟨own, hW⟩ := hR
    obtain ⟨⟨b', l', ver, la, nxt, e1, e2, e3, e4, mcb, vb, es, e5, e6, e7⟩, hoa, halt⟩ := i7_at hW (adt_T h1)
    subst e1
    cases hb
    have hN2 := adt_T h2
    try dsimp only at hN2
    rw [hN2] at e5
    cases e5
    have ev : ver = v := by simpa using e0
    obtain ⟨e8, e9, ns, hr, e10, e11⟩ := e7 ev
    subst e8 ev
    have hr' := hr
    obtain ⟨h3, h4, h5, h6, h7, h8⟩ := hr'
    have hne : b ≠ a := fun e => by rw [e, adt_T h1] at hN2; cases hN2
    have hcur : cur < xs.length := (List.getElem?_eq_some_iff.mp hx).1
    have hcn : ns[cur]? = some ns[cur] := List.getElem?_eq_getElem (by omega)
    have hnc := h8 cur _ hcn
    have hna : ns[cur] ≠ a := fun e => by
      have h9 := hnc.1
      rw [e, hoa] at h9
      cases h9
    rw [e10] at e4
    have h9k : cur + 1 ≤ 9000 := by omega
    refine ⟨_, i7_set hW (adt_T h1) (M2 := gup (gup (gup M a (cO 22 [va_rf ns[cur]?, va_rf ns[cur]?, .int (nI cur), .int emc, .ref b])) a (cO 22 [va_rf ns[cur]?, va_rf ns[cur + 1]?, .int (nI cur), .int emc, .ref b])) a (cO 22 [va_rf ns[cur]?, va_rf ns[cur + 1]?, .int (nI (cur + 1)), .int emc, .ref b])) (fun c _ hc => by rw [gup_n _ _ hc, gup_n _ _ hc, gup_n _ _ hc]) ⟨b, cur + 1, ver, ns[cur]?, ns[cur + 1]?, rfl, h9k, h9k, gup_s _ _ _, emc, ver, xs, (gup_n _ _ hne).trans hN2, Nat.le_refl _, fun _ => ⟨rfl, hcur, ns, rLL_it hr (by simp [anyN, adt_T h1]) hne (by rw [gup_n _ _ hne, gup_n _ _ hne, gup_n _ _ hne]) (fun y hy => ?_), rfl, by simp⟩⟩, gMet_room (mJ32_next rP_ok ?_) (by decide) (by decide)⟩
    · have hya : y ≠ a := fun e => by rw [e, hoa] at hy; cases hy
      rw [gup_n _ _ hya, gup_n _ _ hya, gup_n _ _ hya]
    · unfold fJ32_next
      refine bd_i (e_chk e4) (gb_0 (ll_comod e4 h3) (bd_i (e_chk e4) (gb_0 (x := nI 1) (S := (M, S.2)) (bd_i (e_rdI e4 rfl) (bd_i (e_rdR (some b) e4 rfl) (bd_i rfl (bd_i (e_rdI h3 rfl) (if_e (nI_ge hcur (by omega)) (zg_1 _)))))) (if_e (by decide) (bd_i (e_rdR (ns[cur]?) e4 rfl) (bd_i (e_wr [va_rf ns[cur]?, va_rf ns[cur]?, .int (nI cur), .int emc, .ref b] e4 (by simp) rfl) (bd_i (e_rdR (ns[cur]?) (gup_s _ _ _) rfl) (bd_i hcn (bd_i (e_rdR (ns[cur + 1]?) ((gup_n _ _ hna).trans hnc.2) rfl) (bd_i (e_wr [va_rf ns[cur]?, va_rf ns[cur + 1]?, .int (nI cur), .int emc, .ref b] (gup_s _ _ _) (by simp) rfl) (bd_i (e_rdI (gup_s _ _ _) rfl) ?_)))))))))))
      rw [nI_add]
      refine bd_i (e_wr [va_rf ns[cur]?, va_rf ns[cur + 1]?, .int (nI (cur + 1)), .int emc, .ref b] (gup_s _ _ _) (by simp) rfl) (bd_i (e_rdR (ns[cur]?) (gup_s _ _ _) rfl) (bd_i hcn (bd_i (e_rdR (xs[cur]?) ((gup_n _ _ hna).trans ((gup_n _ _ hna).trans ((gup_n _ _ hna).trans hnc.2))) rfl) ?_)))
      rw [hx]
      rfl
  next => cases h
theorem J1_I7_remove {l : Launch} {G : gG} : J_nI7_remove l G (rN G) := by
  intro a S r S2 C N h
  unfold nI7_remove at h
  obtain ⟨⟨emc, cur, ys⟩, h1, g9⟩ := bdo h
  clear h
  obtain ⟨b, hb, h⟩ := bdo g9
  clear g9
  obtain ⟨l0, hl0, g9⟩ := bdo h
  clear h
  obtain ⟨⟨mc, v, xs⟩, h2, h⟩ := bdo g9
  clear g9
  try dsimp only at h hb hl0
  split at h
  next e0 =>
    obtain ⟨e0, hl1, hl2, hl3⟩ := e0
    cases h
    refine met_up fun M hR => ?_
    obtain ⟨own, hW⟩ := hR
    have hN1 := adt_T h1
    have hN2 := adt_T h2
    try dsimp only at hN1 hN2
    obtain ⟨⟨b', l', ver, la, nxt, e1, e2, e3, e4, mcb, vb, es, e5, e6, e7⟩, hoa, halt⟩ := i7_at hW hN1
    subst e1
    cases hb
    cases hl0
    rw [hN2] at e5
    cases e5
    have ev : ver = v := by simpa using e0
    obtain ⟨e8, e9, ns, hr, e10, e11⟩ := e7 ev
    subst e8 ev hl3
    have hr' := hr
    obtain ⟨h3, h4, h5, h6, h7, h8⟩ := hr'
    have hne : b ≠ a := fun e => by rw [e, hN1] at hN2; cases hN2
    obtain ⟨k, rfl⟩ : ∃ k, cur = k + 1 := ⟨cur - 1, by omega⟩
    rw [Nat.add_sub_cancel] at e11 ⊢
    rw [if_neg (by omega)] at e11
    have hkn : ns[k]? = some ns[k] := List.getElem?_eq_getElem (by omega)
    rw [hkn] at e11
    subst e10 e11
    have h9k : k ≤ 9000 := by omega
    obtain ⟨M2, own2, k1, k2, k3, k4, k5⟩ := ll_unlW hW hN2 hr hkn
    have hMa : M2 a = some (cO 22 [va_rf (some ns[k]), va_rf ns[k + 1]?, .int (nI (k + 1)), .int emc, .ref b]) := (k4 a (Ne.symm hne) (by rw [hoa]; simp)).trans e4
    have hN3 : gup S.1 b (cT 1 (emc + 1) (ver + 1) (xs.eraseIdx k)) a = some (cT 7 emc (k + 1) [b, k + 1, ver]) := (gup_n _ _ (Ne.symm hne)).trans hN1
    have hoa2 : own2 a = none := (k2.2.2.1 a _ hN3).2
    have hany3 : anyN (gup S.1 b (cT 1 (emc + 1) (ver + 1) (xs.eraseIdx k)), 0) a = false := by simp [anyN, hN3]
    refine ⟨_, i7_set k2 hN3 (M2 := gup (gup (gup M2 a (cO 22 [va_rf (some ns[k]), va_rf ns[k + 1]?, .int (nI k), .int emc, .ref b])) a (cO 22 [.null, va_rf ns[k + 1]?, .int (nI k), .int emc, .ref b])) a (cO 22 [.null, va_rf ns[k + 1]?, .int (nI k), .int (emc + 1), .ref b])) (fun c _ hc => by rw [gup_n _ _ hc, gup_n _ _ hc, gup_n _ _ hc]) ⟨b, 0, ver + 1, none, ns[k + 1]?, rfl, h9k, Nat.zero_le _, gup_s _ _ _, emc + 1, ver + 1, xs.eraseIdx k, (gup_n _ _ hne).trans (gup_s _ _ _), Nat.le_refl _, fun _ => ⟨rfl, ?_, ns.eraseIdx k, rLL_it k3 hany3 hne (by rw [gup_n _ _ hne, gup_n _ _ hne, gup_n _ _ hne]) (fun y hy => ?_), ?_, by simp⟩⟩, gMet_room (mJ32_remove (r2 := ()) rP_ok ?_) (by decide) (by decide)⟩
    · show k ≤ _
      rw [List.length_eraseIdx, if_pos (by omega)]; omega
    · have hya : y ≠ a := fun e => by rw [e, hoa2] at hy; cases hy
      rw [gup_n _ _ hya, gup_n _ _ hya, gup_n _ _ hya]
    · show ns[k + 1]? = (ns.eraseIdx k)[k]?
      rw [List.getElem?_eraseIdx, if_neg (Nat.lt_irrefl k)]
    · unfold fJ32_remove
      refine bd_i (e_chk e4) (gb_0 (ll_comod e4 h3) (bd_i (e_rdR (some ns[k]) e4 rfl) (if_e (by simp) (bd_i (e_rdR (some ns[k]) e4 rfl) (bd_i rfl (bd_i (e_rdR (ns[k + 1]?) (h8 k _ hkn).2 rfl) (bd_i (e_rdR (some b) e4 rfl) (bd_i (e_rdR (some ns[k]) e4 rfl) (bd_i rfl (bd_i (e_chk h3) (gb_0 k1 (bd_i (e_rdR (ns[k + 1]?) hMa rfl) (bd_i (e_rdR (some ns[k]) hMa rfl) (if_e (fun e => ?_) (bd_i (e_rdI hMa rfl) ?_)))))))))))))))
      · exact nd_ne h7 e hkn (by omega) rfl
      · rw [show nI (k + 1) - nI 1 = nI k from nI_pred k]
        unfold fJ32_remove_b68
        exact bd_i (e_wr [va_rf (some ns[k]), va_rf ns[k + 1]?, .int (nI k), .int emc, .ref b] hMa (by simp) rfl) (bd_i (e_wr [.null, va_rf ns[k + 1]?, .int (nI k), .int emc, .ref b] (gup_s _ _ _) (by simp) rfl) (bd_i (e_rdI (gup_s _ _ _) rfl) (bd_i (e_wr [.null, va_rf ns[k + 1]?, .int (nI k), .int (emc + 1), .ref b] (gup_s _ _ _) (by simp) rfl) rfl)))
  next => cases h
theorem ll_tA {G : gG} {M : gM} {nx n1 : Nat} {ns ys : List Nat} {nxt prv : Nat → Option Nat} (h : ndC M ns ys (fun i => ns[i + 1]?) prv) (hl : ns.length = ys.length) (hy : ys.length ≤ 9000) (hnx : nx ∉ ns) (hall : ∀ y ∈ ys, anyO G (M, nx) y = true ∧ y < nx) : ∀ (k i n : Nat) (g : Nat → Option Nat), i + k = ys.length → k < n → (∀ j, j < i → g j = ys[j]?) → ∃ g2, rowQ g2 ys.length ys ∧ fJ4_toArray_b15 G n nx (nI i) ns[i]? (gup M nx (cAq 5 ys.length g), n1) = some (some nx, (gup M nx (cAq 5 ys.length g2), n1), 0, 0)
  | 0, i, n + 1, g, hik, _, hg => by
    refine ⟨g, ⟨fun j hj => hg j (by omega), fun j h1 h2 => by omega⟩, ?_⟩
    rw [fJ4_toArray_b15]
    exact if_i (List.getElem?_eq_none (by omega)) rfl
  | k + 1, i, n + 1, g, hik, hn, hg => by
    have hi : i < ns.length := by omega
    have hm : ns[i]? = some ns[i] := List.getElem?_eq_getElem hi
    have hyi : ys[i]? = some ys[i] := List.getElem?_eq_getElem (by omega)
    have hmx : ns[i] ≠ nx := fun e => hnx (e ▸ List.mem_of_getElem? hm)
    have hc := h i _ hm
    obtain ⟨q1, q2⟩ := hall _ (List.mem_of_getElem? hyi)
    obtain ⟨g2, k1, k2⟩ := ll_tA (n1 := n1) (nxt := nxt) h hl hy hnx hall k (i + 1) n (va_up g i (some ys[i])) (by omega) (by omega) (fun j hj => by
      by_cases c : j = i
      · subst c; rw [va_up_self, hyi]
      · rw [va_up_ne _ _ c]; exact hg j (by omega))
    refine ⟨g2, k1, ?_⟩
    rw [fJ4_toArray_b15, hm]
    refine if_e (by simp) (bd_i rfl (bd_i (e_rdR (ys[i]?) ((gup_n _ _ hmx).trans hc) rfl) (bd_i hyi (bd_i (if_pos (anyO_at q1 (gup_n _ _ (by omega)))) (bd_i (e_wrAq (gup_s _ _ _) (by omega) (by omega)) ?_)))))
    rw [gup_gup, nI_add]
    exact bd_i (e_rdR (ns[i + 1]?) ((gup_n _ _ hmx).trans hc) rfl) k2
theorem ll_toArr {G : gG} {N M : gM} {own : Nat → Option Nat} {nx b v : Nat} {mc : Int32} {ys : List Nat} (h : rW G N M own nx) (hb : N b = some (cT 1 mc v ys)) : ∃ f2, rowQ f2 ys.length ys ∧ fJ4_toArray G b (M, nx) = some (some nx, (gup M nx (cAq 5 ys.length f2), nx + 1), 1, ys.length) := by
  obtain ⟨ns, ⟨h3, h4, h5, h6, h7, h7b⟩, h8, hob, hblt, hns, hys⟩ := ll_at h hb
  obtain ⟨f2, k1, k2⟩ := ll_tA (G := G) (n1 := nx + 1) (nxt := fun _ => none) h8 h6 h4 (fun hm => by have := (hns _ hm).2.1; omega) (fun y hy => ⟨(hys y hy).1, (hys y hy).2.1⟩) ys.length 0 FU (fun _ => none) (by omega) (Nat.lt_of_le_of_lt (by omega) FU_big) (fun j hj => by omega)
  refine ⟨f2, k1, ?_⟩
  unfold fJ4_toArray
  exact bd_i (e_rdI h3 rfl) (e_nwq (by omega) (c2 := 0) (n2 := 0) (bd_i (e_rdR (ns[0]?) ((gup_n _ _ (by omega)).trans h3) rfl) k2) rfl rfl)
theorem ll_app {G : gG} {a arr nn : Nat} {mc sz : Int32} {l0 : Value} {ys : List Nat} {f : Nat → Option Nat} (hf : rowQ f ys.length ys) (hy : ys.length ≤ 9000) (harr : arr ≠ a) : ∀ (k i n nx : Nat) (M : gM) (ns xs : List Nat), i + k = ys.length → k < n → a < nx → arr < nx → (∀ m ∈ ns, m < nx ∧ m ≠ a ∧ m ≠ arr) → ns.Nodup → ns.length = xs.length → M a = some (cO 16 [.int mc, .int sz, va_rf ns[0]?, l0]) → M arr = some (cAq 5 ys.length f) → ndC M ns xs (fun i => ns[i + 1]?) (ndP ns) →
    ∃ (M2 : gM) (ns2 : List Nat), fJ4_addAll_2_b68 G n a (nI nn) ns[ns.length - 1]? none (some arr) (nI ys.length) (nI i) (M, nx) = some (nI 1, (M2, nx + k), k, 3 * k) ∧ M2 a = some (cO 16 [.int (mc + 1), .int (sz + nI nn), va_rf ns2[0]?, va_rf ns2[ns2.length - 1]?]) ∧ ns2.Nodup ∧ ns2.length = xs.length + k ∧ ndC M2 ns2 (xs ++ ys.drop i) (fun i => ns2[i + 1]?) (ndP ns2) ∧ (∀ m ∈ ns2, m ∈ ns ∨ (nx ≤ m ∧ m < nx + k)) ∧ ∀ b, b < nx → b ≠ a → b ∉ ns → M2 b = M b
  | 0, i, n + 1, nx, M, ns, xs, hik, _, hax, harx, hns, hnd, hl, hMa, hMr, h => by
    refine ⟨gup (gup (gup M a (cO 16 [.int mc, .int sz, va_rf ns[0]?, va_rf ns[ns.length - 1]?])) a (cO 16 [.int mc, .int (sz + nI nn), va_rf ns[0]?, va_rf ns[ns.length - 1]?])) a (cO 16 [.int (mc + 1), .int (sz + nI nn), va_rf ns[0]?, va_rf ns[ns.length - 1]?]), ns, ?_, gup_s _ _ _, hnd, hl, ?_, fun m hm => Or.inl hm, fun b _ hb _ => by rw [gup_n _ _ hb, gup_n _ _ hb, gup_n _ _ hb]⟩
    · rw [fJ4_addAll_2_b68]
      unfold fJ4_addAll_2_b159
      exact if_i (nI_le (by omega) (by omega)) (if_i rfl (bd_i (e_wr [.int mc, .int sz, va_rf ns[0]?, va_rf ns[ns.length - 1]?] hMa (by simp) rfl) (bd_i (e_rdI (gup_s _ _ _) rfl) (bd_i (e_wr [.int mc, .int (sz + nI nn), va_rf ns[0]?, va_rf ns[ns.length - 1]?] (gup_s _ _ _) (by simp) rfl) (bd_i (e_rdI (gup_s _ _ _) rfl) (bd_i (e_wr [.int (mc + 1), .int (sz + nI nn), va_rf ns[0]?, va_rf ns[ns.length - 1]?] (gup_s _ _ _) (by simp) rfl) (zg_1 _)))))))
    · rw [List.drop_eq_nil_of_le (by omega), List.append_nil]
      refine h.to (fun m hm => ?_) (fun _ _ => rfl) (fun _ _ => rfl) (fun _ _ => rfl)
      have hma := (hns m hm).2.1
      rw [gup_n _ _ hma, gup_n _ _ hma, gup_n _ _ hma]
  | k + 1, i, n + 1, nx, M, ns, xs, hik, hn, hax, harx, hns, hnd, hl, hMa, hMr, h => by
    have hyi : ys[i]? = some ys[i] := List.getElem?_eq_getElem (by omega)
    have hnn : nx ∉ ns := fun hm => by have := (hns _ hm).1; omega
    have hane : a ≠ nx := by omega
    have harn : arr ≠ nx := by omega
    have hdrop : ys.drop i = ys[i] :: ys.drop (i + 1) := List.drop_eq_getElem_cons (by omega)
    have hnd2 := nodup_snoc hnd hnn
    have e1 : (ns ++ [nx])[(ns ++ [nx]).length - 1]? = some nx := by simp
    have hstep : ∀ {M1 : gM} {r : Int32} {Sf : gS} {c n2 : Nat}, (if ns[ns.length - 1]? = none then bd (wr (gup M nx (cO 20 [va_rf (some ys[i]), va_rf none, va_rf ns[ns.length - 1]?]), nx + 1) a 16 2 (.ref nx)) fun S15 => fJ4_addAll_2_b68 G n a (nI nn) (some nx) none (some arr) (nI ys.length) (nI (i + 1)) S15 else bd ns[ns.length - 1]? fun a13 => bd (wr (gup M nx (cO 20 [va_rf (some ys[i]), va_rf none, va_rf ns[ns.length - 1]?]), nx + 1) a13 20 1 (.ref nx)) fun S14 => fJ4_addAll_2_b68 G n a (nI nn) (some nx) none (some arr) (nI ys.length) (nI (i + 1)) S14) = some (r, Sf, c, n2) → fJ4_addAll_2_b68 G (n + 1) a (nI nn) ns[ns.length - 1]? none (some arr) (nI ys.length) (nI i) (M, nx) = some (r, Sf, 1 + c, 3 + n2) := fun {M1 r Sf c n2} hr => by
      rw [fJ4_addAll_2_b68]
      refine if_e (nI_ge (by omega) (by omega)) (bd_i rfl (bd_i (e_rdAq hMr (by omega) (by omega)) ?_))
      rw [hf.1 i (by omega), hyi, nI_add]
      unfold nw
      exact ad_i (gb_0 e_node hr) rfl rfl
    have hcont : ∀ M1 : gM, M1 a = some (cO 16 [.int mc, .int sz, va_rf (ns ++ [nx])[0]?, l0]) → M1 arr = some (cAq 5 ys.length f) → ndC M1 (ns ++ [nx]) (xs ++ [ys[i]]) (fun i => (ns ++ [nx])[i + 1]?) (ndP (ns ++ [nx])) → (∀ b, b < nx → b ≠ a → b ∉ ns → M1 b = M b) → ∃ (M2 : gM) (ns2 : List Nat), fJ4_addAll_2_b68 G n a (nI nn) (some nx) none (some arr) (nI ys.length) (nI (i + 1)) (M1, nx + 1) = some (nI 1, (M2, nx + (k + 1)), k, 3 * k) ∧ M2 a = some (cO 16 [.int (mc + 1), .int (sz + nI nn), va_rf ns2[0]?, va_rf ns2[ns2.length - 1]?]) ∧ ns2.Nodup ∧ ns2.length = xs.length + (k + 1) ∧ ndC M2 ns2 (xs ++ ys.drop i) (fun i => ns2[i + 1]?) (ndP ns2) ∧ (∀ m ∈ ns2, m ∈ ns ∨ (nx ≤ m ∧ m < nx + (k + 1))) ∧ ∀ b, b < nx → b ≠ a → b ∉ ns → M2 b = M b := fun M1 a1 a2 a3 a4 => by
      obtain ⟨M2, ns2, k1, k2, k3, k4, k5, k6, k7⟩ := ll_app (G := G) (nn := nn) hf hy harr k (i + 1) n (nx + 1) M1 (ns ++ [nx]) (xs ++ [ys[i]]) (by omega) (by omega) (by omega) (by omega) (fun m hm => by
        rcases List.mem_append.mp hm with hm | hm
        · have := hns m hm
          exact ⟨by omega, this.2⟩
        · rw [List.mem_singleton.mp hm]; exact ⟨by omega, Ne.symm hane, Ne.symm harn⟩) hnd2 (by simp [hl]) a1 a2 a3
      rw [e1] at k1
      refine ⟨M2, ns2, by rw [k1, show nx + 1 + k = nx + (k + 1) by omega], k2, k3, by rw [k4]; simp; omega, ?_, fun m hm => ?_, fun b hb hba hbn => ?_⟩
      · rw [hdrop]
        rw [List.append_assoc] at k5
        exact k5
      · rcases k6 m hm with e | e
        · rcases List.mem_append.mp e with e | e
          · exact Or.inl e
          · rw [List.mem_singleton.mp e]; exact Or.inr ⟨Nat.le_refl _, by omega⟩
        · exact Or.inr ⟨by omega, by omega⟩
      · rw [k7 b (by omega) hba (fun hm => ?_), a4 b hb hba hbn]
        rcases List.mem_append.mp hm with e | e
        · exact hbn e
        · rw [List.mem_singleton.mp e] at hb; omega
    by_cases c : ns = []
    · subst c
      have hx0 : xs = [] := List.eq_nil_of_length_eq_zero hl.symm
      subst hx0
      obtain ⟨M2, ns2, k1, k2⟩ := hcont (gup (gup M nx (cO 20 [va_rf (some ys[i]), va_rf none, va_rf none])) a (cO 16 [.int mc, .int sz, .ref nx, l0])) (gup_s _ _ _) (by rw [gup_n _ _ harr, gup_n _ _ harn]; exact hMr) (ll_link h hl hnd hnn (fun m hm => by cases hm) (fun m hm => by cases hm) (by rw [gup_n _ _ (Ne.symm hane), gup_s]; rfl)) (fun b hb hba _ => by rw [gup_n _ _ hba, gup_n _ _ (by omega)])
      refine ⟨M2, ns2, ?_, k2⟩
      rw [hstep (M1 := M) (if_i rfl (bd_i (e_wr [.int mc, .int sz, .ref nx, l0] ((gup_n _ _ hane).trans hMa) (by simp) rfl) k1)), Nat.add_comm 1 k, show 3 + 3 * k = 3 * (k + 1) by omega]
    · obtain ⟨p, hp⟩ := last_some c
      have hlen0 : 0 < ns.length := len_pos c
      have hpm : p ∈ ns := List.mem_of_getElem? hp
      obtain ⟨hpl, hpa, hpr⟩ := hns p hpm
      have hpn : p ≠ nx := by omega
      have e0 : (ns ++ [nx])[0]? = ns[0]? := List.getElem?_append_left hlen0
      have hMp : M p = some (cO 20 [va_rf xs[ns.length - 1]?, va_rf none, va_rf (ndP ns (ns.length - 1))]) := by
        rw [h _ p hp]
        dsimp only
        rw [show ns[ns.length - 1 + 1]? = none from List.getElem?_eq_none (by omega)]
      obtain ⟨M2, ns2, k1, k2⟩ := hcont (gup (gup M nx (cO 20 [va_rf (some ys[i]), va_rf none, va_rf ns[ns.length - 1]?])) p (cO 20 [va_rf xs[ns.length - 1]?, .ref nx, va_rf (ndP ns (ns.length - 1))])) (by rw [gup_n _ _ (Ne.symm hpa), gup_n _ _ hane, e0]; exact hMa) (by rw [gup_n _ _ (Ne.symm hpr), gup_n _ _ harn]; exact hMr) (ll_link h hl hnd hnn (fun m hm hne => by
        have z1 : m ≠ p := fun e => hne (e ▸ hp)
        have z2 : m ≠ nx := fun e => hnn (e ▸ hm)
        rw [gup_n _ _ z1, gup_n _ _ z2]) (fun m hm => by
        rw [hp] at hm
        cases hm
        rw [gup_s]
        rfl) (by rw [gup_n _ _ (Ne.symm hpn), gup_s])) (fun b hb hba hbn => by
        have z1 : b ≠ p := fun e => hbn (e ▸ hpm)
        have z2 : b ≠ nx := by omega
        rw [gup_n _ _ z1, gup_n _ _ z2])
      refine ⟨M2, ns2, ?_, k2⟩
      rw [hstep (M1 := M) (if_e (by rw [hp]; simp) (bd_i hp (bd_i (e_wr [va_rf xs[ns.length - 1]?, .ref nx, va_rf (ndP ns (ns.length - 1))] ((gup_n _ _ hpn).trans hMp) (by simp) rfl) k1))), Nat.add_comm 1 k, show 3 + 3 * k = 3 * (k + 1) by omega]
theorem J1_LL_addAll {l : Launch} {G : gG} : J_nLL_addAll l G (rN G) := by
  intro a vv S r S2 C N h
  unfold nLL_addAll at h
  obtain ⟨⟨mc, v, xs⟩, h1, g9⟩ := bdo h
  clear h
  obtain ⟨b, hv, h⟩ := bdo g9
  clear g9
  obtain ⟨⟨mcb, vb, ys⟩, h2, g9⟩ := bdo h
  clear h
  have h := g9
  clear g9
  subst hv
  try dsimp only at h
  have ha := adt_T h1
  have hb := adt_T h2
  try dsimp only at ha hb
  have hpre : ∀ {M : gM} {own : Nat → Option Nat}, rW G S.1 M own S.2 → ∃ f2, rowQ f2 ys.length ys ∧ ∀ {r : Int32} {Sf : gS} {c n : Nat}, (if nI ys.length = 0 then zg (nI 0) (gup M S.2 (cAq 5 ys.length f2), S.2 + 1) else bd (rdR (gup M S.2 (cAq 5 ys.length f2), S.2 + 1) a 16 3) fun v12 => fJ4_addAll_2_b57 G a (some S.2) (nI ys.length) v12 none (gup M S.2 (cAq 5 ys.length f2), S.2 + 1)) = some (r, Sf, c, n) → (r = nI 0 ∨ r = nI 1) → fJ4_addAll G a (some b) (M, S.2) = some (r, Sf, 1 + c, ys.length + n) := fun {M own} hW => by
    obtain ⟨ns, ⟨h3, h4, h5, h6, h7, h7b⟩, h8, hoa, halt, hns, -⟩ := ll_at hW ha
    obtain ⟨nb, ⟨b3, b4, -⟩, -⟩ := ll_at hW hb
    obtain ⟨f2, k1, k2⟩ := ll_toArr hW hb
    have hane : a ≠ S.2 := by omega
    have hE := kE_lt hW
    refine ⟨f2, k1, fun {r Sf c n} hr hz => ?_⟩
    have hM1a : (gup M S.2 (cAq 5 ys.length f2)) a = some (cO 16 [.int mc, .int (nI xs.length), va_rf ns[0]?, va_rf ns[ns.length - 1]?]) := (gup_n _ _ hane).trans h3
    unfold fJ4_addAll fJ4_addAll_2
    refine bd_i (e_rdI h3 rfl) (bd_i (e_chk h3) (gb_i (c2 := 0) (n2 := 0) (bd_i (e_chk h3) (gb_0 (x := ()) (S := (M, S.2)) ?_ (bd_i rfl (bd_i (e_chk b3) (gb_i k2 (bd_i rfl (bd_i (e_lenQ (by omega) (gup_s _ _ _)) ?_)) rfl rfl))))) (if_pos hz) rfl rfl))
    · unfold fJ4_checkPositionIndex
      refine bd_i (e_chk h3) (gb_0 (x := nI 1) (S := (M, S.2)) ?_ (if_e (by decide) rfl))
      unfold fJ4_isPositionIndex
      exact if_e (nI_pos (by omega)) (bd_i (e_rdI h3 rfl) (if_e (nI_nlt (Nat.le_refl _) (by omega)) (zg_1 _)))
    · by_cases c0 : nI ys.length = 0
      · rw [if_pos c0] at hr ⊢
        exact hr
      · rw [if_neg c0] at hr ⊢
        exact bd_i (e_rdI hM1a rfl) (if_i rfl hr)
  by_cases hn : ys.length = 0
  · rw [if_pos hn] at h
    cases h
    refine met_up fun M hR => ?_
    obtain ⟨own, hW⟩ := hR
    obtain ⟨f2, k1, k2⟩ := hpre hW
    rw [hn] at k2
    refine ⟨gup M S.2 (cAq 5 0 f2), ⟨own, ?_⟩, gMet_room (mJ4_addAll rP_ok (k2 (if_i (by decide) (zg_0 _)) (Or.inl rfl))) (by decide) (by decide)⟩
    have hfr : ∀ b, b < S.2 → (gup M S.2 (cAq 5 0 f2)) b = M b := fun b hb => gup_n _ _ (by omega)
    obtain ⟨w1, w2, w3, w4, w5, w6⟩ := hW
    refine ⟨fun x c hx => ?_, fun x c hx => ?_, fun x q hx => ?_, fun b x hb => Nat.lt_of_lt_of_le (w4 b x hb) (Nat.le_succ _), fun x hx => Nat.lt_of_lt_of_le (w5 x hx) (Nat.le_succ _), fun i hi => Nat.lt_of_lt_of_le (w6 i hi) (Nat.le_succ _)⟩
    · rw [hfr x (w5 x (by rw [hx]; simp))]; exact w1 x c hx
    · rw [hfr x (w5 x (by rw [hx]; simp))]; exact w2 x c hx
    · obtain ⟨q1, q2⟩ := w3 x q hx
      refine ⟨rep_loc q1 (fun _ h => h) (hfr x (w5 x (by rw [hx]; simp))) (fun b hb => ⟨hb, hfr b (w4 b x hb)⟩) (fun _ b mc v xs hb => Or.inl ⟨rfl, hfr b (w5 b (by rw [hb]; simp)), fun n hn => ⟨hn, hfr n (w4 n b hn)⟩⟩), q2⟩
  · rw [if_neg hn] at h
    split at h
    next hg =>
      obtain ⟨hg, hab⟩ := hg
      cases h
      refine met_up fun M hR => ?_
      obtain ⟨own, hW⟩ := hR
      obtain ⟨f2, k1, k2⟩ := hpre hW
      obtain ⟨ns, ⟨h3, h4, h5, h6, h7, h7b⟩, h8, hoa, halt, hns, -⟩ := ll_at hW ha
      obtain ⟨nb, ⟨b3, b4, b5, -⟩, -⟩ := ll_at hW hb
      have hane : a ≠ S.2 := by omega
      have hE := kE_lt hW
      have hM1a : (gup M S.2 (cAq 5 ys.length f2)) a = some (cO 16 [.int mc, .int (nI xs.length), va_rf ns[0]?, va_rf ns[ns.length - 1]?]) := (gup_n _ _ hane).trans h3
      obtain ⟨M2, ns2, q1, q2, q3, q4, q5, q6, q7⟩ := ll_app (G := G) (nn := ys.length) k1 b4 (Ne.symm hane) ys.length 0 FU (S.2 + 1) (gup M S.2 (cAq 5 ys.length f2)) ns xs (by omega) (Nat.lt_of_le_of_lt (by omega) FU_big) (by omega) (by omega) (fun m hm => by have := hns m hm; exact ⟨by omega, this.2.2, by omega⟩) h7 h6 hM1a (gup_s _ _ _) (h8.to (fun m hm => gup_n _ _ (by have := (hns m hm).2.1; omega)) (fun _ _ => rfl) (fun _ _ => rfl) (fun _ _ => rfl))
      rw [List.drop_zero] at q5
      rw [nI_add] at q2
      have hrun := k2 (if_e (nI_ne0 (by omega) (by omega)) (bd_i (e_rdR (ns[ns.length - 1]?) hM1a rfl) (show fJ4_addAll_2_b57 G a (some S.2) (nI ys.length) ns[ns.length - 1]? none (gup M S.2 (cAq 5 ys.length f2), S.2 + 1) = _ from bd_i rfl (bd_i (e_lenQ (by omega) (gup_s _ _ _)) q1)))) (Or.inr rfl)
      refine ⟨M2, ⟨_, (ll_fin hW ha (xs2 := xs ++ ys) (ns2 := ns2) (Nat.lt_succ_self _) (by omega) (by rw [List.length_append]; exact q2) (by rw [List.length_append]; exact hg) (fun y hy => ?_) (by rw [List.length_append]; exact q4) q3 (fun m hm => ?_) q5 (fun c hc hca hoc => ?_)).1⟩, gMet_room (mJ4_addAll rP_ok hrun) (by decide) (by decide)⟩
      · rcases List.mem_append.mp hy with hy | hy
        · exact h5 y hy
        · exact b5 y hy
      · rcases q6 m hm with e | e
        · exact Or.inl (hns m e).1
        · exact Or.inr (by omega)
      · rw [q7 c (by omega) hca (fun hm => hoc (hns c hm).1), gup_n _ _ (by omega)]
    next => cases h
