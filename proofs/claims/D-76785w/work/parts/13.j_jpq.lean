/-! PriorityQueue and ArrayDeque at the level rN -/
set_option maxRecDepth 100000
set_option maxHeartbeats 1000000
theorem fresh_o {S : gS} {a ci : Nat} {fs : List Value} {u : Unit} (h : fresh S a ci fs = some u) : S.1 a = some (cO ci fs) := by
  unfold fresh at h
  split at h
  next q hq =>
    split at h
    next e => rw [hq, e]
    next => cases h
  next => cases h
/-- a plain object becomes an abstract thing -/
theorem ob_set {G : gG} {N M M2 : gM} {own : Nat → Option Nat} {nx nx2 a ci : Nat} {fs : List Value} {q2 : Nat × Int32 × Nat × List Nat} (h : rW G N M own nx) (ha : N a = some (cO ci fs)) (hci : ¬ (ci = 3 ∨ ci = 4 ∨ ci = 5 ∨ ci = 6 ∨ ci = 7)) (L : List Nat) (hnx : nx ≤ nx2) (haL : a ∉ L) (hL : ∀ b ∈ L, nx ≤ b ∧ b < nx2) (hM : ∀ b, b < nx → b ≠ a → M2 b = M b) (hrep : rep G (gup N a (.inr (.inr q2))) M2 (ownU own a L) a q2) : rN G (gup N a (.inr (.inr q2))) M2 nx2 := by
  have hlt : a < nx := h.2.2.2.2.1 a (by rw [ha]; simp)
  refine ⟨_, rN_set (q2 := q2) h L hnx (by omega) (h.1 a _ ha).2 haL (fun q hq => by rw [ha] at hq; cases hq) (fun c hc => ?_) (fun c hc => by rw [ha] at hc; cases hc) (fun b hb => Or.inr (hL b hb)) (fun b hb hba _ => hM b hb hba) hrep⟩
  simp [anyN, ha, hci]
theorem J1_PQ_init {l : Launch} {G : gG} : J_nPQ_init l G (rN G) := by
  intro a n c S r S2 C N h
  unfold nPQ_init at h
  obtain ⟨u, h1, g9⟩ := bdo h
  clear h
  obtain ⟨b, hb, h⟩ := bdo g9
  clear g9
  subst hb
  have h0 := fresh_o h1
  split at h
  next hn =>
    cases h
    subst hn
    refine met_up fun M hR => ?_
    obtain ⟨own, hW⟩ := hR
    obtain ⟨hMa, hoa⟩ := hW.1 a _ h0
    have halt : a < S.2 := hW.2.2.2.2.1 a (by rw [h0]; simp)
    have hne : a ≠ S.2 := by omega
    have hE := kE_lt hW
    refine ⟨gup (gup (gup M S.2 (cAq 5 20 (fun _ => none))) a (cO 17 [.ref S.2, .int 0, .null, .int 0])) a (cO 17 [.ref S.2, .int 0, .ref b, .int 0]), ob_set (q2 := (2, 0, 20, [b])) hW h0 (by decide) [S.2] (Nat.le_succ _) (by simpa using hne) (fun c hc => by rw [List.mem_singleton.mp hc]; exact ⟨Nat.le_refl _, Nat.lt_succ_self _⟩) (fun c hc hca => by rw [gup_n _ _ hca, gup_n _ _ hca, gup_n _ _ (by omega)]) ⟨b, [], S.2, fun _ => none, rfl, gup_s _ _ _, ownU_in (by simp), by omega, by rw [gup_n _ _ (Ne.symm hne), gup_n _ _ (Ne.symm hne), gup_s], ⟨(fun i hi => by cases hi), fun _ _ _ => rfl⟩, by simp, rfl, fun x hx => by cases hx⟩, gMet_room (mJ36_init (r2 := ()) rP_ok ?_) (by decide) (by decide)⟩
    unfold fJ36_init fJ35_init_c17 fJ0_init_c17
    refine gb_0 (x := ()) (S := (M, S.2)) rfl (if_i (by decide) (e_nwq (i := 20) (by omega) (c2 := 0) (n2 := 0) ?_ rfl rfl))
    exact bd_i (e_wr [.ref S.2, .int 0, .null, .int 0] ((gup_n _ _ hne).trans hMa) (by simp) rfl) (bd_i (e_wr [.ref S.2, .int 0, .ref b, .int 0] (gup_s _ _ _) (by simp) rfl) rfl)
  next => cases h
theorem pq_at {G : gG} {N M : gM} {own : Nat → Option Nat} {nx a cap : Nat} {mc : Int32} {xs : List Nat} (h : rW G N M own nx) (ha : N a = some (cT 2 mc cap xs)) : ∃ (cmp : Nat) (es : List Nat) (o : Nat) (f : Nat → Option Nat), xs = cmp :: es ∧ M a = some (cO 17 [.ref o, .int (nI es.length), .ref cmp, .int mc]) ∧ own o = some a ∧ o ≠ G.2.2.1 1 ∧ M o = some (cAq 5 cap f) ∧ rowQ f cap es ∧ es.length ≤ cap ∧ cap = 20 ∧ allN N es ∧ own a = none ∧ a < nx ∧ o ≠ a ∧ o < nx := by
  obtain ⟨h1, h2⟩ := h.2.2.1 a _ ha
  obtain ⟨cmp, es, o, f, k1, k2, k3, k4, k5, k6, k7, k8, k9⟩ := (show rPQ G N M own a mc cap xs from h1)
  exact ⟨cmp, es, o, f, k1, k2, k3, k4, k5, k6, k7, k8, k9, h2, h.2.2.2.2.1 a (by rw [ha]; simp), (fun e => by rw [e, h2] at k3; cases k3), h.2.2.2.1 o a k3⟩
theorem J1_PQ_size {l : Launch} {G : gG} : J_nPQ_size l G (rN G) := by
  intro a S r S2 C N h
  unfold nPQ_size at h
  obtain ⟨⟨mc, cap, xs⟩, h1, h2⟩ := bdo h
  cases h2
  refine met_up fun M hR => ⟨M, hR, ?_⟩
  obtain ⟨own, hW⟩ := hR
  obtain ⟨cmp, es, o, f, rfl, h3, -⟩ := pq_at hW (adt_T h1)
  exact gMet_room (mJ36_size rP_ok (bd_i (e_rdI h3 rfl) rfl)) (by decide) (by decide)
/-- plain objects, and what may lie in a container -/
def plN (N : gM) (c : Nat) : Prop := (∃ q, N c = some (.inl q)) ∨ anyN (N, 0) c = true
theorem plN_own {G : gG} {N M : gM} {own : Nat → Option Nat} {nx c : Nat} (h : rW G N M own nx) (hc : plN N c) : own c = none ∧ c < nx := by
  rcases hc with ⟨q, hq⟩ | hc
  · exact ⟨(h.1 c q hq).2, h.2.2.2.2.1 c (by rw [hq]; simp)⟩
  · obtain ⟨-, a2, a3⟩ := any_up h hc
    exact ⟨a3, a2⟩
/-- the comparison, wherever the plain objects stand as they did -/
theorem pq_cmp {G : gG} {N M : gM} {own : Nat → Option Nat} {nx n0 x e cmp : Nat} {b : Bool} (h : rW G N M own nx) (hl : gLess (N, n0) x e = some b) (hc : clsO (N, n0) cmp = some 10) : ∃ v : Int32, b = decide (v < 0) ∧ ∀ (M2 : gM) (n : Nat), (∀ c, plN N c → M2 c = M c) → fX9_compare_2p G cmp (some x) (some e) (M2, n) = some (v, (M2, n), 0, 0) := by
  unfold gLess at hl
  obtain ⟨mx, hmx, g1⟩ := bdo hl
  obtain ⟨m1, e1, g2⟩ := bdo g1
  obtain ⟨my, hmy, g3⟩ := bdo g2
  obtain ⟨m2, e2, g4⟩ := bdo g3
  obtain ⟨p1, hp1, g5⟩ := bdo g4
  obtain ⟨p2, hp2, g6⟩ := bdo g5
  obtain ⟨n1, hn1, g7⟩ := bdo g6
  obtain ⟨n2, hn2, g8⟩ := bdo g7
  clear hl g1 g2 g3 g4 g5 g6 g7
  subst e1 e2
  cases g8
  have ht : ∀ {a ci k : Nat} {v : Value}, rdV (N, n0) a ci k = some v → ∃ fs, fs[k]? = some v ∧ ∀ (M2 : gM), (∀ c, plN N c → M2 c = M c) → M2 a = some (cO ci fs) := fun hr => by
    obtain ⟨fs, q1, q2⟩ := rdV_o hr
    have q1 : N _ = some (cO _ fs) := q1
    exact ⟨fs, q2, fun M2 hM => (hM _ (Or.inl ⟨_, q1⟩)).trans (h.1 _ _ q1).1⟩
  obtain ⟨f1, a1, b1⟩ := ht (rdR_o hmx)
  obtain ⟨f2, a2, b2⟩ := ht (rdR_o hmy)
  obtain ⟨f3, a3, b3⟩ := ht (rdI_o hp1)
  obtain ⟨f4, a4, b4⟩ := ht (rdI_o hp2)
  obtain ⟨f5, a5, b5⟩ := ht (rdI_o hn1)
  obtain ⟨f6, a6, b6⟩ := ht (rdI_o hn2)
  obtain ⟨f7, q1⟩ := clsO_o hc
  have q1 : N cmp = some (cO 10 f7) := q1
  refine ⟨if p1 = p2 then n1 - n2 else p2 - p1, rfl, fun M2 n hM => ?_⟩
  have hcm : M2 cmp = some (cO 10 f7) := (hM _ (Or.inl ⟨_, q1⟩)).trans (h.1 _ _ q1).1
  unfold fX9_compare_2p
  refine bd_i (e_chk (b1 M2 hM)) (bd_i (e_chk (b2 M2 hM)) (bd_i (e_chk hcm) (gb_0 (x := if p1 = p2 then n1 - n2 else p2 - p1) (S := (M2, n)) ?_ rfl)))
  unfold fX9_comparep
  refine bd_i rfl (bd_i (e_rdR (some m1) (b1 M2 hM) a1) (bd_i rfl (bd_i (e_rdR (some m2) (b2 M2 hM) a2) (bd_i rfl (bd_i (e_rdI (b3 M2 hM) a3) (bd_i rfl (bd_i (e_rdI (b4 M2 hM) a4) ?_)))))))
  by_cases c : p1 = p2
  · rw [if_pos c, if_pos c]
    exact bd_i (e_rdI (b5 M2 hM) a5) (bd_i (e_rdI (b6 M2 hM) a6) rfl)
  · rw [if_neg c, if_neg c]
    exact bd_i (e_rdI (b4 M2 hM) a4) (bd_i (e_rdI (b3 M2 hM) a3) rfl)
theorem pq_half {k : Nat} (hk : 0 < k) (h : k < 2 ^ 31) : ((nI k - (nI 1)).toUInt32 >>> ((nI 1).toUInt32 &&& Int32.toUInt32 31)).toInt32 = nI ((k - 1) / 2) := by
  rw [pk_sub hk]
  exact pk_ushrN (n := k - 1) (by omega) (nI 1) 1 (by decide)
theorem pq_up {G : gG} {N M B : gM} {own : Nat → Option Nat} {nx n0 n1 x cmp o cap n : Nat} (h : rW G N M own nx) (hc : clsO (N, n0) cmp = some 10) (hB : ∀ c, plN N c → B c = M c ∧ c ≠ o) (hcap : n < cap) (hcap2 : cap ≤ 9000) (hx : anyN (N, 0) x = true) : ∀ (fl k : Nat) (es : List Nat) (es' : List Nat) (g : Nat → Option Nat) (fu : Nat), es.length = n + 1 → k ≤ n → fl ≤ fu → allN N es → (∀ i, i < n + 1 → i ≠ k → g i = es[i]?) → (∀ i, n + 1 ≤ i → i < cap → g i = none) → pqUp (N, n0) x fl k es = some es' →
    ∃ g2, es'.length = n + 1 ∧ allN N es' ∧ rowQ g2 cap es' ∧ fJ36_siftUpUsingComparator G fu (nI k) (some x) (some o) (some cmp) (gup B o (cAq 5 cap g), n1) = some ((), (gup B o (cAq 5 cap g2), n1), 0, 0)
  | 0, k, es, es', g, fu, _, _, _, _, _, _, hp => by cases hp
  | fl + 1, k, es, es', g, fu, hl, hk, hfu, hall, hg, hg2, hp => by
    obtain ⟨fu, rfl⟩ : ∃ f, fu = f + 1 := ⟨fu - 1, by omega⟩
    have hM2 : ∀ g : Nat → Option Nat, ∀ c, plN N c → (gup B o (cAq 5 cap g)) c = M c := fun g c hc => (gup_n _ _ (hB c hc).2).trans (hB c hc).1
    have hany : ∀ y, anyN (N, 0) y = true → ∀ n g, anyO G (gup B o (cAq 5 cap g), n) y = true := fun y hy n g => by
      exact anyO_at (any_up h hy).1 (hM2 g y (Or.inr hy))
    have hset : ∀ y : Nat, anyN (N, 0) y = true → allN N (es.set k y) := fun y hy z hz => by
      rcases List.mem_or_eq_of_mem_set hz with e | e
      · exact hall z e
      · rw [e]; exact hy
    have hrow : ∀ y : Nat, rowQ (va_up g k (some y)) cap (es.set k y) := fun y => ⟨fun i hi => by
      rw [List.length_set] at hi
      by_cases c : i = k
      · subst c
        rw [va_up_self, List.getElem?_set_self (by omega)]
      · rw [va_up_ne _ _ c, List.getElem?_set_ne (Ne.symm c)]
        exact hg i (by omega) c, fun i h1 h2 => by
      rw [List.length_set] at h1
      rw [va_up_ne _ _ (by omega)]
      exact hg2 i (by omega) h2⟩
    have hput : ∀ y : Nat, anyN (N, 0) y = true → ∀ {β : Type} (kk : gS → gO β), (bd (chkA G (gup B o (cAq 5 cap g), n1) y) fun _ => bd (wrAq (gup B o (cAq 5 cap g), n1) o 5 (nI k) (some y)) kk) = kk (gup B o (cAq 5 cap (va_up g k (some y))), n1) := fun y hy β kk => by
      refine (bd_e (if_pos (hany y hy _ _))).trans ((bd_e (e_wrAq (gup_s _ _ _) (by omega) (by omega))).trans ?_)
      rw [gup_gup]
    rw [pqUp] at hp
    rw [fJ36_siftUpUsingComparator]
    by_cases ck : k = 0
    · rw [if_pos ck] at hp
      cases hp
      subst ck
      refine ⟨_, by rw [List.length_set, hl], hset x hx, hrow x, ?_⟩
      exact if_i (by decide) (bd_i rfl (bd_i rfl ((hput x hx _).trans rfl)))
    · rw [if_neg ck] at hp
      obtain ⟨e, he, hp⟩ := bdo hp
      obtain ⟨b, hb, hp⟩ := bdo hp
      have hek : (k - 1) / 2 < n + 1 := by omega
      have hee : anyN (N, 0) e = true := hall e (List.mem_of_getElem? he)
      obtain ⟨v, hv, hcmp⟩ := pq_cmp h hb hc
      have hread : rdAq (gup B o (cAq 5 cap g), n1) o 5 (nI ((k - 1) / 2)) = some (some e) := by
        rw [e_rdAq (gup_s _ _ _) (by omega) (by omega), hg _ hek (by omega), he]
      have hgo : ∀ {r : gO Unit}, (if v < 0 then (bd (some e) fun a12 => bd (chkA G (gup B o (cAq 5 cap g), n1) a12) fun _ => bd (wrAq (gup B o (cAq 5 cap g), n1) o 5 (nI k) (some a12)) fun S11 => fJ36_siftUpUsingComparator G fu (nI ((k - 1) / 2)) (some x) (some o) (some cmp) S11) else bd (some x) fun a15 => bd (chkA G (gup B o (cAq 5 cap g), n1) a15) fun _ => bd (wrAq (gup B o (cAq 5 cap g), n1) o 5 (nI k) (some a15)) fun S14 => some ((), S14, 0, 0)) = r → (∃ g', r = some ((), (gup B o (cAq 5 cap g'), n1), 0, 0)) → (if nI k ≤ 0 then (bd (some o) fun a2 => bd (some x) fun a4 => bd (chkA G (gup B o (cAq 5 cap g), n1) a4) fun _ => bd (wrAq (gup B o (cAq 5 cap g), n1) a2 5 (nI k) (some a4)) fun S3 => some ((), S3, 0, 0)) else bd (some o) fun a6 => bd (rdAq (gup B o (cAq 5 cap g), n1) a6 5 (((nI k - (nI 1)).toUInt32 >>> ((nI 1).toUInt32 &&& Int32.toUInt32 31)).toInt32)) fun v7 => bd (some cmp) fun a9 => bd (chk (gup B o (cAq 5 cap g), n1) a9 10) fun _ => gb (fX9_compare_2p G a9 (some x) v7 (gup B o (cAq 5 cap g), n1)) fun v8 S8 => if v8 < 0 then (bd v7 fun a12 => bd (chkA G S8 a12) fun _ => bd (wrAq S8 a6 5 (nI k) (some a12)) fun S11 => fJ36_siftUpUsingComparator G fu (((nI k - (nI 1)).toUInt32 >>> ((nI 1).toUInt32 &&& Int32.toUInt32 31)).toInt32) (some x) (some o) (some cmp) S11) else bd (some x) fun a15 => bd (chkA G S8 a15) fun _ => bd (wrAq S8 a6 5 (nI k) (some a15)) fun S14 => some ((), S14, 0, 0)) = r := fun {r} hr hr2 => by
        obtain ⟨g', hr2⟩ := hr2
        subst hr2
        obtain ⟨f7, q1⟩ := clsO_o hc
        have q1 : N cmp = some (cO 10 f7) := q1
        have hcm : (gup B o (cAq 5 cap g)) cmp = some (cO 10 f7) := (hM2 g _ (Or.inl ⟨_, q1⟩)).trans (h.1 _ _ q1).1
        refine if_e (nI_nle (by omega) (by omega)) (bd_i rfl ?_)
        rw [pq_half (by omega) (by omega)]
        exact bd_i hread (bd_i rfl (bd_i (e_chk hcm) (gb_0 (hcmp _ _ (hM2 g)) hr)))
      by_cases cv : v < 0
      · rw [hv, show decide (v < 0) = true from decide_eq_true cv, if_pos rfl] at hp
        obtain ⟨g2, k1, k2, k3, k4⟩ := pq_up h hc hB hcap hcap2 hx fl ((k - 1) / 2) (es.set k e) es' (va_up g k (some e)) fu (by rw [List.length_set, hl]) (by omega) (by omega) (hset e hee) (fun i hi _ => (hrow e).1 i (by rw [List.length_set, hl]; exact hi)) (fun i h1 h2 => (hrow e).2 i (by rw [List.length_set, hl]; exact h1) h2) hp
        refine ⟨g2, k1, k2, k3, hgo ?_ ⟨_, rfl⟩⟩
        exact if_i cv (bd_i rfl ((hput e hee _).trans k4))
      · rw [hv, show decide (v < 0) = false from decide_eq_false cv, if_neg (by simp)] at hp
        cases hp
        refine ⟨_, by rw [List.length_set, hl], hset x hx, hrow x, hgo ?_ ⟨_, rfl⟩⟩
        exact if_e cv (bd_i rfl ((hput x hx _).trans rfl))
theorem gup_same {M : gM} {a : Nat} {c : Cel} (h : M a = some c) : gup M a c = M := by
  funext b
  unfold gup
  split
  next e => rw [e, h]
  next => rfl
theorem J1_PQ_add {l : Launch} {G : gG} : J_nPQ_add l G (rN G) := by
  intro a v S r S2 C N h
  unfold nPQ_add at h
  obtain ⟨⟨mc, cap, xs⟩, h1, g9⟩ := bdo h
  clear h
  obtain ⟨x, hv, h⟩ := bdo g9
  clear g9
  obtain ⟨u, hok, g9⟩ := bdo h
  clear h
  have h := g9
  clear g9
  subst hv
  have hx := okN_o hok
  try dsimp only at h
  cases xs with
  | nil => cases h
  | cons cmp es =>
    try dsimp only at h
    split at h
    next hlen =>
      obtain ⟨kc, hkc, g9⟩ := bdo h
      clear h
      have h := g9
      clear g9
      split at h
      next hk10 =>
        subst hk10
        obtain ⟨es', hes, g9⟩ := bdo h
        clear h
        have h := g9
        clear g9
        cases h
        refine met_up fun M hR => ?_
        obtain ⟨own, hW⟩ := hR
        have ha := adt_T h1
        obtain ⟨cmp', es2, o, f, e0, h3, h4, h5, h6, h7, h8, h9, h10, hoa, halt, hone, hon⟩ := pq_at hW ha
        cases e0
        subst h9
        have hany : anyN (S.1, 0) a = false := by simp [anyN, ha]
        have hB : ∀ c, plN S.1 c → (gup M a (cO 17 [.ref o, .int (nI es.length), .ref cmp, .int (mc + 1)])) c = M c ∧ c ≠ o := fun c hc => by
          have hca : c ≠ a := fun e => by
            subst e
            rcases hc with ⟨q, hq⟩ | hc
            · rw [ha] at hq; cases hq
            · rw [hany] at hc; cases hc
          refine ⟨gup_n _ _ hca, fun e => ?_⟩
          have h9 := (plN_own hW hc).1
          rw [e, h4] at h9
          cases h9
        have hM1o : (gup M a (cO 17 [.ref o, .int (nI es.length), .ref cmp, .int (mc + 1)])) o = some (cAq 5 20 f) := (gup_n _ _ hone).trans h6
        obtain ⟨g2, k1, k2, k3, k4⟩ := pq_up (G := G) (n1 := S.2) (o := o) (cap := 20) (n := es.length) hW hkc hB hlen (by decide) hx (es.length + 1) es.length (es ++ [x]) es' f FU (by simp) (Nat.le_refl _) (Nat.le_trans (by omega : es.length + 1 ≤ 9001) (Nat.le_of_ble_eq_true rfl)) (fun y hy => by
          rcases List.mem_append.mp hy with hy | hy
          · exact h10 y hy
          · rw [List.mem_singleton.mp hy]; exact hx) (fun i hi hne => by rw [h7.1 i (by omega), List.getElem?_append_left (by omega)]) (fun i h1 h2 => h7.2 i (by omega) h2) hes
        rw [gup_same hM1o] at k4
        have hle20 : es'.length ≤ 20 := by omega
        refine ⟨gup (gup (gup M a (cO 17 [.ref o, .int (nI es.length), .ref cmp, .int (mc + 1)])) o (cAq 5 20 g2)) a (cO 17 [.ref o, .int (nI (es.length + 1)), .ref cmp, .int (mc + 1)]), ⟨_, rN_set (q2 := (2, mc + 1, 20, cmp :: es')) hW [o] (Nat.le_refl _) halt hoa (by simpa using Ne.symm hone) (fun q hq => ?_) (fun c hc => by rw [ha] at hc; cases hc) (fun c hc => by rw [ha] at hc; cases hc) (fun b hb => by rw [List.mem_singleton.mp hb]; exact Or.inl h4) (fun b hb hba hob => ?_) ⟨cmp, es', o, g2, rfl, by rw [gup_s, k1], ownU_in (by simp), h5, (gup_n _ _ hone).trans (gup_s _ _ _), k3, hle20, rfl, allN_set k2 hany⟩⟩, gMet_room (mJ36_add rP_ok ?_) (by decide) (by decide)⟩
        · rw [ha] at hq
          cases hq
          exact ⟨rfl, fun e => by cases e⟩
        · have hbo : b ≠ o := fun e => hob (by rw [e]; exact h4)
          rw [gup_n _ _ hba, gup_n _ _ hbo, gup_n _ _ hba]
        · unfold fJ36_add fJ36_offer
          refine bd_i (e_chk h3) (gb_0 (x := nI 1) (if_e (by simp) (bd_i (e_rdI h3 rfl) (bd_i (e_wr [.ref o, .int (nI es.length), .ref cmp, .int (mc + 1)] h3 (by simp) rfl) (bd_i (e_rdI (gup_s _ _ _) rfl) (bd_i (e_rdR (some o) (gup_s _ _ _) rfl) (bd_i rfl (bd_i (e_lenQ h5 hM1o) (if_i (nI_lt hlen (by omega)) (bd_i (e_chk (gup_s _ _ _)) (gb_0 (x := ()) (S := (gup (gup M a (cO 17 [.ref o, .int (nI es.length), .ref cmp, .int (mc + 1)])) o (cAq 5 20 g2), S.2)) ?_ ?_)))))))))) (zg_1 _))
          · unfold fJ36_siftUp
            exact bd_i (e_rdR (some cmp) (gup_s _ _ _) rfl) (if_e (by simp) (bd_i (e_rdR (some o) (gup_s _ _ _) rfl) (bd_i (e_rdR (some cmp) (gup_s _ _ _) rfl) (gb_0 k4 rfl))))
          · rw [nI_add]
            exact bd_i (e_wr [.ref o, .int (nI (es.length + 1)), .ref cmp, .int (mc + 1)] ((gup_n _ _ (Ne.symm hone)).trans (gup_s _ _ _)) (by simp) rfl) (zg_1 _)
      next => cases h
    next => cases h
theorem J1_PQ_iter {l : Launch} {G : gG} : J_nPQ_iter l G (rN G) := by
  intro a S r S2 C N h
  unfold nPQ_iter at h
  obtain ⟨⟨mc, cap, xs⟩, h1, h2⟩ := bdo h
  cases h2
  refine met_up fun M hR => ?_
  obtain ⟨own, hW⟩ := hR
  obtain ⟨cmp, es, o, f, -, h3, -, -, -, -, -, -, -, hoa, halt, -⟩ := pq_at hW (adt_T h1)
  have hne : a ≠ S.2 := by omega
  refine ⟨gup (gup (gup (gup M S.2 (cO 23 [.int 0, .int 0, .null, .null, .int 0, .null])) S.2 (cO 23 [.int 0, .int 0, .null, .null, .int 0, .ref a])) S.2 (cO 23 [.int 0, .int (-1), .null, .null, .int 0, .ref a])) S.2 (cO 23 [.int 0, .int (-1), .null, .null, .int mc, .ref a]), it_new (q := (8, mc, 0, [a])) hW (Nat.lt_succ_self _) (fun b hb => ?_) ⟨a, rfl, Nat.zero_le _, by rw [gup_s]; rfl⟩, gMet_room (mJ36_iterator (r2 := some S.2) rP_ok ?_) (by decide) (by decide)⟩
  · have hbn : b ≠ S.2 := by omega
    rw [gup_n _ _ hbn, gup_n _ _ hbn, gup_n _ _ hbn, gup_n _ _ hbn]
  · unfold fJ36_iterator nw
    refine ad_i (c2 := 0) (n2 := 0) (gb_0 (x := ()) ?_ rfl) rfl rfl
    unfold fJ39_init
    exact bd_i (e_wr [.int 0, .int 0, .null, .null, .int 0, .ref a] (gup_s _ _ _) (by simp) rfl) (bd_i (e_wr [.int 0, .int (-1), .null, .null, .int 0, .ref a] (gup_s _ _ _) (by simp) rfl) (bd_i (e_rdR (some a) (gup_s _ _ _) rfl) (bd_i rfl (bd_i (e_rdI ((gup_n _ _ hne).trans ((gup_n _ _ hne).trans ((gup_n _ _ hne).trans h3))) rfl) (bd_i (e_wr [.int 0, .int (-1), .null, .null, .int mc, .ref a] (gup_s _ _ _) (by simp) rfl) rfl)))))
theorem i8_at {G : gG} {N M : gM} {own : Nat → Option Nat} {nx a cur : Nat} {emc : Int32} {xs : List Nat} (h : rW G N M own nx) (ha : N a = some (cT 8 emc cur xs)) : rI8 M a emc cur xs ∧ own a = none ∧ a < nx := by
  obtain ⟨h1, h2⟩ := h.2.2.1 a _ ha
  exact ⟨h1, h2, h.2.2.2.2.1 a (by rw [ha]; simp)⟩
theorem J1_I8_hasNext {l : Launch} {G : gG} : J_nI8_hasNext l G (rN G) := by
  intro a S r S2 C N h
  unfold nI8_hasNext at h
  obtain ⟨⟨emc, cur, ys⟩, h1, g9⟩ := bdo h
  clear h
  obtain ⟨b, hb, h⟩ := bdo g9
  clear g9
  obtain ⟨⟨mc, cap, xs⟩, h2, g9⟩ := bdo h
  clear h
  have h := g9
  clear g9
  cases h
  refine met_up fun M hR => ⟨M, hR, ?_⟩
  obtain ⟨own, hW⟩ := hR
  obtain ⟨⟨b', e1, e2, e4⟩, -⟩ := i8_at hW (adt_T h1)
  subst e1
  cases hb
  obtain ⟨cmp, es, o, f, rfl, h3, h4, h5, h6, h7, h8, h9, -⟩ := pq_at hW (adt_T h2)
  refine gMet_room (mJ39_hasNext rP_ok (bd_i (e_rdI e4 rfl) (bd_i (e_rdR (some b) e4 rfl) (bd_i rfl (bd_i (e_rdI h3 rfl) ?_))))) (by decide) (by decide)
  try dsimp only at e2 h8 h9 ⊢
  by_cases c : cur < es.length
  · have hR : (if cur + 1 < (cmp :: es).length then nI 1 else nI 0) = nI 1 := if_pos (by simpa using c)
    rw [hR]
    exact if_i (nI_lt c (by omega)) (zg_1 _)
  · have hR : (if cur + 1 < (cmp :: es).length then nI 1 else nI 0) = nI 0 := if_neg (by simpa using c)
    rw [hR]
    exact if_e (nI_nlt (by omega) (by omega)) (bd_i (e_rdR none e4 rfl) (if_i rfl (zg_0 _)))
theorem J1_I8_next {l : Launch} {G : gG} : J_nI8_next l G (rN G) := by
  intro a S r S2 C N h
  unfold nI8_next at h
  obtain ⟨⟨emc, cur, ys⟩, h1, g9⟩ := bdo h
  clear h
  obtain ⟨b, hb, h⟩ := bdo g9
  clear g9
  obtain ⟨⟨mc, cap, xs⟩, h2, g9⟩ := bdo h
  clear h
  have h := g9
  clear g9
  try dsimp only at h hb
  split at h
  next e0 =>
    subst e0
    obtain ⟨x, hx, g9⟩ := bdo h
    clear h
    have h := g9
    clear g9
    cases h
    refine met_up fun M hR => ?_
    obtain ⟨own, hW⟩ := hR
    have hN1 := adt_T h1
    obtain ⟨⟨b', e1, e2, e4⟩, hoa, halt⟩ := i8_at hW hN1
    subst e1
    cases hb
    have hN2 := adt_T h2
    have hne : b ≠ a := fun e => by rw [e, hN1] at hN2; cases hN2
    obtain ⟨cmp, es, o, f, rfl, h3, h4, h5, h6, h7, h8, h9, h10, -, -, -, -⟩ := pq_at hW hN2
    try dsimp only at hx e2
    rw [List.getElem?_cons_succ] at hx
    have hcur : cur < es.length := (List.getElem?_eq_some_iff.mp hx).1
    have hoa2 : o ≠ a := fun e => by rw [e, hoa] at h4; cases h4
    have h9k : cur + 1 ≤ 9000 := by omega
    refine ⟨gup (gup M a (cO 23 [.int (nI (cur + 1)), .int (nI cur - 1), .null, .null, .int emc, .ref b])) a (cO 23 [.int (nI (cur + 1)), .int (nI cur), .null, .null, .int emc, .ref b]), it_set hW (Or.inr (Or.inl rfl)) hN1 (fun c _ hc => by rw [gup_n _ _ hc, gup_n _ _ hc]) ⟨b, rfl, h9k, ?_⟩, gMet_room (mJ39_next rP_ok ?_) (by decide) (by decide)⟩
    · rw [gup_s, show nI (cur + 1) - 1 = nI cur from nI_pred cur]
    · unfold fJ39_next
      refine bd_i (e_rdI e4 rfl) (bd_i (e_rdR (some b) e4 rfl) (bd_i rfl (bd_i (e_rdI h3 rfl) (if_i rfl (bd_i (e_rdI e4 rfl) (bd_i (e_rdR (some b) e4 rfl) (bd_i rfl (bd_i (e_rdI h3 rfl) (if_e (nI_ge hcur (by omega)) (bd_i (e_rdR (some b) e4 rfl) (bd_i rfl (bd_i (e_rdR (some o) h3 rfl) (bd_i (e_rdI e4 rfl) ?_)))))))))))))
      rw [nI_add]
      refine bd_i (e_wr [.int (nI (cur + 1)), .int (nI cur - 1), .null, .null, .int emc, .ref b] e4 (by simp) rfl) (bd_i (e_wr [.int (nI (cur + 1)), .int (nI cur), .null, .null, .int emc, .ref b] (gup_s _ _ _) (by simp) rfl) (bd_i rfl (bd_i (e_rdAq ((gup_n _ _ hoa2).trans ((gup_n _ _ hoa2).trans h6)) (by omega) (by omega)) ?_)))
      rw [h7.1 cur hcur, hx]
      rfl
  next => cases h
