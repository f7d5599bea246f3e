/-! LinkedList at the level rN, first: nodes; get, addLast, remove, clear -/
set_option maxRecDepth 100000
set_option maxHeartbeats 1000000
theorem len_pos {ns : List Nat} (h : ns ≠ []) : 0 < ns.length := by
  cases ns with
  | nil => exact absurd rfl h
  | cons a t => exact Nat.succ_pos _
/-- the cells of nodes: items, next, previous -/
def ndC (M : gM) (ns xs : List Nat) (nxt prv : Nat → Option Nat) : Prop := ∀ i n, ns[i]? = some n → M n = some (cO 20 [va_rf xs[i]?, va_rf (nxt i), va_rf (prv i)])
def ndP (ns : List Nat) (i : Nat) : Option Nat := if i = 0 then none else ns[i - 1]?
theorem ndC.to {M M2 : gM} {ns xs xs2 : List Nat} {nxt prv nxt2 prv2 : Nat → Option Nat} (h : ndC M ns xs nxt prv) (hM : ∀ n ∈ ns, M2 n = M n) (hx : ∀ i, i < ns.length → xs2[i]? = xs[i]?) (h1 : ∀ i, i < ns.length → nxt2 i = nxt i) (h2 : ∀ i, i < ns.length → prv2 i = prv i) : ndC M2 ns xs2 nxt2 prv2 := fun i n hi => by
  have hl := (List.getElem?_eq_some_iff.mp hi).1
  rw [hM n (List.mem_of_getElem? hi), h i n hi, hx i hl, h1 i hl, h2 i hl]
theorem ndC.up {M : gM} {ns xs : List Nat} {nxt prv : Nat → Option Nat} (h : ndC M ns xs nxt prv) (hnd : ns.Nodup) {k n : Nat} (hk : ns[k]? = some n) (y z : Option Nat) : ndC (gup M n (cO 20 [va_rf xs[k]?, va_rf y, va_rf z])) ns xs (fun i => if i = k then y else nxt i) (fun i => if i = k then z else prv i) := fun i m hi => by
  by_cases c : i = k
  · subst c
    rw [hk] at hi
    cases hi
    rw [gup_s]
    simp
  · have hne : m ≠ n := fun e => by
      subst e
      obtain ⟨l1, e1⟩ := List.getElem?_eq_some_iff.mp hi
      obtain ⟨l2, e2⟩ := List.getElem?_eq_some_iff.mp hk
      exact c ((List.getElem_inj hnd).mp (e1.trans e2.symm))
    rw [gup_n _ _ hne, h i m hi]
    simp [c]
theorem ll_at {G : gG} {N M : gM} {own : Nat → Option Nat} {nx a : Nat} {mc : Int32} {v : Nat} {xs : List Nat} (h : rW G N M own nx) (ha : N a = some (cT 1 mc v xs)) : ∃ ns, rLL N M own a mc xs ns ∧ ndC M ns xs (fun i => ns[i + 1]?) (ndP ns) ∧ own a = none ∧ a < nx ∧ (∀ n ∈ ns, own n = some a ∧ n < nx ∧ n ≠ a) ∧ ∀ y ∈ xs, anyO G (M, nx) y = true ∧ y < nx ∧ own y = none := by
  obtain ⟨h1, h2⟩ := h.2.2.1 a _ ha
  obtain ⟨ns, h1⟩ := (show ∃ ns, rLL N M own a mc xs ns from h1)
  obtain ⟨k1, k2, k3, k4, k5, k6⟩ := h1
  refine ⟨ns, ⟨k1, k2, k3, k4, k5, k6⟩, fun i n hi => (k6 i n hi).2, h2, h.2.2.2.2.1 a (by rw [ha]; simp), fun n hn => ?_, fun y hy => any_up h (k3 y hy)⟩
  obtain ⟨i, hi⟩ := List.getElem?_of_mem hn
  have ho := (k6 i n hi).1
  exact ⟨ho, h.2.2.2.1 n a ho, fun e => by rw [e, h2] at ho; cases ho⟩
theorem ll_fin {G : gG} {N M M2 : gM} {own : Nat → Option Nat} {nx nx2 a v v2 : Nat} {mc mc2 : Int32} {xs xs2 ns2 : List Nat} (h : rW G N M own nx) (ha : N a = some (cT 1 mc v xs)) (hv : v < v2) (hnx : nx ≤ nx2) (hMa : M2 a = some (cO 16 [.int mc2, .int (nI xs2.length), va_rf ns2[0]?, va_rf ns2[ns2.length - 1]?])) (hlen : xs2.length ≤ 9000) (hall : allN N xs2) (hln : ns2.length = xs2.length) (hnd : ns2.Nodup) (hown : ∀ n ∈ ns2, own n = some a ∨ (nx ≤ n ∧ n < nx2)) (hc : ndC M2 ns2 xs2 (fun i => ns2[i + 1]?) (ndP ns2)) (hfr : ∀ b, b < nx → b ≠ a → own b ≠ some a → M2 b = M b) :
    rW G (gup N a (cT 1 mc2 v2 xs2)) M2 (ownU own a ns2) nx2 ∧ rLL (gup N a (cT 1 mc2 v2 xs2)) M2 (ownU own a ns2) a mc2 xs2 ns2 := by
  obtain ⟨ns, -, -, hoa, halt, -, -⟩ := ll_at h ha
  have hrep : rLL (gup N a (cT 1 mc2 v2 xs2)) M2 (ownU own a ns2) a mc2 xs2 ns2 := ⟨hMa, hlen, allN_set hall (by simp [anyN, ha]), hln, hnd, fun i n hi => ⟨ownU_in (List.mem_of_getElem? hi), hc i n hi⟩⟩
  refine ⟨rN_set (q2 := (1, mc2, v2, xs2)) h ns2 hnx (by omega) hoa (fun hm => ?_) (fun q hq => ?_) (fun c hc => by rw [ha] at hc; cases hc) (fun c hc => by rw [ha] at hc; cases hc) hown hfr ⟨ns2, hrep⟩, hrep⟩
  · rcases hown a hm with k | k
    · rw [hoa] at k; cases k
    · omega
  · rw [ha] at hq
    cases hq
    exact ⟨rfl, fun _ => hv⟩
theorem J1_LL_init {l : Launch} {G : gG} : J_nLL_init l G (rN G) := by
  intro a S r S2 C N h
  unfold nLL_init at h
  obtain ⟨u, h1, h2⟩ := bdo h
  cases h2
  have h0 : S.1 a = some (cO 16 [.int 0, .int 0, .null, .null]) := by
    unfold fresh at h1
    split at h1
    next q hq =>
      split at h1
      next e => rw [hq, e]
      next => cases h1
    next => cases h1
  refine met_up fun M hR => ?_
  obtain ⟨own, hW⟩ := hR
  obtain ⟨hMa, hoa⟩ := hW.1 a _ h0
  refine ⟨gup (gup M a (cO 16 [.int 0, .int 0, .null, .null])) a (cO 16 [.int 0, .int (nI 0), .null, .null]), ⟨_, rN_set (q2 := (1, 0, 0, [])) hW [] (Nat.le_refl _) (hW.2.2.2.2.1 a (by rw [h0]; simp)) hoa (by simp) (fun q hq => by rw [h0] at hq; cases hq) (fun c hc => ?_) (fun c hc => by rw [h0] at hc; cases hc) (fun b hb => by cases hb) (fun b hb hba _ => by rw [gup_n _ _ hba, gup_n _ _ hba]) ?_⟩, gMet_room (mJ4_init (r2 := ()) rP_ok ?_) (by decide) (by decide)⟩
  · simp [anyN, h0]
  · refine ⟨[], gup_s _ _ _, by decide, fun x hx => (by cases hx), rfl, List.nodup_nil, fun i n hi => by cases hi⟩
  · unfold fJ4_init fJ3_init_c16 fJ1_init_c16 fJ0_init_c16
    refine gb_0 (gb_0 (gb_0 rfl (bd_i (e_wr [.int 0, .int 0, .null, .null] hMa (by simp) rfl) rfl)) rfl) ?_
    exact bd_i (e_wr [.int 0, .int (nI 0), .null, .null] (gup_s _ _ _) (by simp) rfl) rfl
theorem J1_LL_size {l : Launch} {G : gG} : J_nLL_size l G (rN G) := by
  intro a S r S2 C N h
  unfold nLL_size at h
  obtain ⟨q, h1, h2⟩ := bdo h
  cases h2
  refine met_up fun M hR => ⟨M, hR, ?_⟩
  obtain ⟨own, hW⟩ := hR
  obtain ⟨ns, ⟨h3, -⟩, -⟩ := ll_at hW (adt_M h1)
  exact gMet_room (mJ4_size rP_ok (bd_i (e_rdI h3 rfl) rfl)) (by decide) (by decide)
theorem node_f {G : gG} {M : gM} {nx j : Nat} {ns xs : List Nat} {prv : Nat → Option Nat} (h : ndC M ns xs (fun i => ns[i + 1]?) prv) (hj : j < ns.length) (hl : ns.length ≤ 9000) : ∀ (k i n : Nat), i + k = j → k < n → fJ4_node_b17 G n (nI j) ns[i]? (nI i) (M, nx) = some (ns[j]?, (M, nx), 0, 0)
  | 0, i, n + 1, hik, _ => by
    rw [fJ4_node_b17, show i = j by omega]
    exact if_i (nI_le (Nat.le_refl _) (by omega)) rfl
  | k + 1, i, n + 1, hik, hn => by
    have hi : i < ns.length := by omega
    rw [fJ4_node_b17]
    refine if_e (nI_ge (by omega) (by omega)) (bd_i (List.getElem?_eq_getElem hi) (bd_i (e_rdR (ns[i + 1]?) (h i _ (List.getElem?_eq_getElem hi)) rfl) ?_))
    rw [nI_add]
    exact node_f h hj hl k (i + 1) n (by omega) (by omega)
theorem node_b {G : gG} {M : gM} {nx j : Nat} {ns xs : List Nat} {nxt : Nat → Option Nat} (h : ndC M ns xs nxt (ndP ns)) (hl : ns.length ≤ 9000) : ∀ (k i n : Nat), j + k = i → i < ns.length → k < n → fJ4_node_b47 G n (nI j) ns[i]? (nI i) (M, nx) = some (ns[j]?, (M, nx), 0, 0)
  | 0, i, n + 1, hik, hi, _ => by
    rw [fJ4_node_b47, show i = j by omega]
    exact if_i (nI_le (Nat.le_refl _) (by omega)) rfl
  | k + 1, i, n + 1, hik, hi, hn => by
    rw [fJ4_node_b47]
    refine if_e (nI_ge (by omega) (by omega)) (bd_i (List.getElem?_eq_getElem hi) (bd_i (e_rdR (ns[i - 1]?) (h i _ (List.getElem?_eq_getElem hi)) ?_) ?_))
    · simp [ndP, show i ≠ 0 by omega]
    · obtain ⟨i', rfl⟩ : ∃ i', i = i' + 1 := ⟨i - 1, by omega⟩
      rw [pk_m1, Nat.add_sub_cancel]
      exact node_b h hl k i' n (by omega) (by omega) (by omega)
theorem ll_node {G : gG} {M : gM} {nx a j : Nat} {mc : Int32} {ns xs : List Nat} (hMa : M a = some (cO 16 [.int mc, .int (nI xs.length), va_rf ns[0]?, va_rf ns[ns.length - 1]?])) (h : ndC M ns xs (fun i => ns[i + 1]?) (ndP ns)) (hl : ns.length = xs.length) (hx : xs.length ≤ 9000) (hj : j < xs.length) : fJ4_node G a (nI j) (M, nx) = some (ns[j]?, (M, nx), 0, 0) := by
  unfold fJ4_node
  refine bd_i (e_rdI hMa rfl) ?_
  rw [nI_half (by omega)]
  by_cases c : xs.length / 2 ≤ j
  · refine if_i (nI_le c (by omega)) (bd_i (e_rdR (ns[ns.length - 1]?) hMa rfl) (bd_i (e_rdI hMa rfl) ?_))
    rw [pk_sub (by omega), ← hl]
    exact node_b h (by omega) (ns.length - 1 - j) _ _ (by omega) (by omega) (Nat.lt_of_le_of_lt (by omega) FU_big)
  · refine if_e (nI_ge (by omega) (by omega)) (bd_i (e_rdR (ns[0]?) hMa rfl) ?_)
    exact node_f h (by omega) (by omega) j 0 _ (by omega) (Nat.lt_of_le_of_lt (by omega) FU_big)
theorem ll_chkE {G : gG} {M : gM} {nx a j : Nat} {mc : Int32} {n : Nat} {v1 v2 : Value} (hMa : M a = some (cO 16 [.int mc, .int (nI n), v1, v2])) (hn : n ≤ 9000) (hj : j < n) : fJ4_checkElementIndex G a (nI j) (M, nx) = some ((), (M, nx), 0, 0) := by
  unfold fJ4_checkElementIndex
  refine bd_i (e_chk hMa) (gb_0 (x := nI 1) (S := (M, nx)) ?_ (if_e (by decide) rfl))
  unfold fJ4_isElementIndex
  exact if_e (nI_pos (by omega)) (bd_i (e_rdI hMa rfl) (if_e (nI_ge hj (by omega)) (zg_1 _)))
theorem J1_LL_get {l : Launch} {G : gG} : J_nLL_get l G (rN G) := by
  intro a i S r S2 C N h
  unfold nLL_get at h
  obtain ⟨q, h1, h2⟩ := bdo h
  obtain ⟨mc, v, xs⟩ := q
  split at h2
  next hin =>
    cases h2
    refine met_up fun M hR => ⟨M, hR, ?_⟩
    obtain ⟨own, hW⟩ := hR
    obtain ⟨ns, ⟨h3, h4, h5, h6, h7, -⟩, h8, -⟩ := ll_at hW (adt_T h1)
    try dsimp only at hin h3 h4
    obtain ⟨j, hj, rfl, hcl⟩ := inr0_o hin (by omega)
    refine gMet_room (mJ4_get rP_ok ?_) (by decide) (by decide)
    rw [hcl]
    have hjn : j < ns.length := by omega
    unfold fJ4_get
    refine bd_i (e_chk h3) (gb_0 (ll_chkE h3 h4 hj) (bd_i (e_chk h3) (gb_0 (ll_node h3 h8 h6 h4 hj) (bd_i (List.getElem?_eq_getElem hjn) (bd_i (e_rdR (xs[j]?) (h8 j _ (List.getElem?_eq_getElem hjn)) rfl) rfl)))))
  next => cases h2
/-- a new node at the end -/
theorem ll_link {M : gM} {n : Nat} {x : Nat} {ns xs : List Nat} (h : ndC M ns xs (fun i => ns[i + 1]?) (ndP ns)) (hl : ns.length = xs.length) (hnd : ns.Nodup) (hn : n ∉ ns) {M2 : gM} (hM : ∀ m ∈ ns, ns[ns.length - 1]? ≠ some m → M2 m = M m) (hlast : ∀ m, ns[ns.length - 1]? = some m → M2 m = some (cO 20 [va_rf xs[ns.length - 1]?, va_rf (some n), va_rf (ndP ns (ns.length - 1))])) (hnew : M2 n = some (cO 20 [va_rf (some x), va_rf none, va_rf ns[ns.length - 1]?])) : ndC M2 (ns ++ [n]) (xs ++ [x]) (fun i => (ns ++ [n])[i + 1]?) (ndP (ns ++ [n])) := fun i m hi => by
  have hil := (List.getElem?_eq_some_iff.mp hi).1
  rw [List.length_append, List.length_singleton] at hil
  by_cases c : i = ns.length
  · subst c
    have hm : m = n := by simpa using hi.symm
    subst hm
    rw [hnew]
    have e1 : (xs ++ [x])[ns.length]? = some x := by rw [hl]; simp
    have e2 : (ns ++ [m])[ns.length + 1]? = none := by simp
    have e3 : ndP (ns ++ [m]) ns.length = ns[ns.length - 1]? := by
      unfold ndP
      by_cases c0 : ns.length = 0
      · rw [if_pos c0, List.eq_nil_of_length_eq_zero c0]; rfl
      · rw [if_neg c0, List.getElem?_append_left (by omega)]
    dsimp only
    rw [e1, e2, e3]
  · have hi2 : ns[i]? = some m := by rw [← hi, List.getElem?_append_left (by omega)]
    have hx : (xs ++ [x])[i]? = xs[i]? := List.getElem?_append_left (by omega)
    have hp : ndP (ns ++ [n]) i = ndP ns i := by
      unfold ndP
      split
      · rfl
      · rw [List.getElem?_append_left (by omega)]
    by_cases c2 : i = ns.length - 1
    · rw [hx, hp, c2, hlast m (by rw [← c2]; exact hi2)]
      have : (ns ++ [n])[ns.length - 1 + 1]? = some n := by rw [show ns.length - 1 + 1 = ns.length by omega]; simp
      dsimp only
      rw [this]
    · rw [hx, hp, hM m (List.mem_of_getElem? hi2) (fun e => ?_), h i m hi2]
      · dsimp only
        rw [List.getElem?_append_left (by omega)]
      · obtain ⟨l1, e1⟩ := List.getElem?_eq_some_iff.mp hi2
        obtain ⟨l2, e2⟩ := List.getElem?_eq_some_iff.mp e
        exact c2 ((List.getElem_inj hnd).mp (e1.trans e2.symm))
theorem last_some {ns : List Nat} (h : ns ≠ []) : ∃ p, ns[ns.length - 1]? = some p := by
  have : 0 < ns.length := len_pos h
  exact ⟨_, List.getElem?_eq_getElem (by omega)⟩
theorem nodup_snoc {ns : List Nat} {n : Nat} (h : ns.Nodup) (hn : n ∉ ns) : (ns ++ [n]).Nodup := by
  rw [List.nodup_append]
  exact ⟨h, List.nodup_cons.mpr ⟨by simp, List.nodup_nil⟩, fun a ha b hb => by rw [List.mem_singleton.mp hb]; exact fun e => hn (e ▸ ha)⟩
theorem e_node {G : gG} {M : gM} {nx n : Nat} {p x : Option Nat} : fJ29_init G n p x none (gup M n (cO 20 [.null, .null, .null]), nx) = some ((), (gup M n (cO 20 [va_rf x, va_rf none, va_rf p]), nx), 0, 0) := by
  unfold fJ29_init
  refine bd_i (e_wr [va_rf x, .null, .null] (gup_s _ _ _) (by simp) rfl) (bd_i (e_wr [va_rf x, va_rf none, .null] (gup_s _ _ _) (by simp) rfl) (bd_i (e_wr [va_rf x, va_rf none, va_rf p] (gup_s _ _ _) (by simp) rfl) ?_))
  rw [gup_gup, gup_gup, gup_gup]
theorem J1_LL_addLast {l : Launch} {G : gG} : J_nLL_addLast l G (rN G) := by
  intro a v S r S2 C N h
  unfold nLL_addLast at h
  obtain ⟨⟨mc, ver, xs⟩, h1, g1⟩ := bdo h
  obtain ⟨x, hv, g2⟩ := bdo g1
  obtain ⟨u, hok, g3⟩ := bdo g2
  clear h g1 g2
  subst hv
  try dsimp only at g3
  split at g3
  next hlen =>
    cases g3
    have hx := okN_o hok
    refine met_up fun M hR => ?_
    obtain ⟨own, hW⟩ := hR
    have ha := adt_T h1
    obtain ⟨ns, ⟨h3, h4, h5, h6, h7, h7b⟩, h8, hoa, halt, hns, hxs⟩ := ll_at hW ha
    try dsimp only at h3 h4 h5 h6 h8 hxs
    have hnn : S.2 ∉ ns := fun hm => by have := (hns _ hm).2.1; omega
    have hane : a ≠ S.2 := by omega
    have hans : a ∉ ns := fun hm => (hns _ hm).2.2 rfl
    have hallx : allN S.1 (xs ++ [x]) := fun y hy => by
      rcases List.mem_append.mp hy with hy | hy
      · exact h5 y hy
      · rw [List.mem_singleton.mp hy]; exact hx
    have hnd := nodup_snoc h7 hnn
    have hown : ∀ n ∈ ns ++ [S.2], own n = some a ∨ (S.2 ≤ n ∧ n < S.2 + 1) := fun n hn => by
      rcases List.mem_append.mp hn with hn | hn
      · exact Or.inl (hns n hn).1
      · rw [List.mem_singleton.mp hn]; exact Or.inr ⟨Nat.le_refl _, Nat.lt_succ_self _⟩
    have hb38 : ∀ (M' : gM) (f l : Value), M' a = some (cO 16 [.int mc, .int (nI xs.length), f, l]) → fJ4_linkLast_b38 G a (M', S.2 + 1) = some ((), (gup (gup M' a (cO 16 [.int mc, .int (nI (xs.length + 1)), f, l])) a (cO 16 [.int (mc + 1), .int (nI (xs.length + 1)), f, l]), S.2 + 1), 0, 0) := fun M' f l e => by
      unfold fJ4_linkLast_b38
      refine bd_i (e_rdI e rfl) ?_
      rw [nI_add]
      exact bd_i (e_wr [.int mc, .int (nI (xs.length + 1)), f, l] e (by simp) rfl) (bd_i (e_rdI (gup_s _ _ _) rfl) (bd_i (e_wr [.int (mc + 1), .int (nI (xs.length + 1)), f, l] (gup_s _ _ _) (by simp) rfl) rfl))
    have hrun : ∀ {M2 : gM}, (if ns[ns.length - 1]? = none then bd (wr (gup (gup M S.2 (cO 20 [va_rf (some x), va_rf none, va_rf ns[ns.length - 1]?])) a (cO 16 [.int mc, .int (nI xs.length), va_rf ns[0]?, .ref S.2]), S.2 + 1) a 16 2 (.ref S.2)) fun S8 => fJ4_linkLast_b38 G a S8 else bd ns[ns.length - 1]? fun a6 => bd (wr (gup (gup M S.2 (cO 20 [va_rf (some x), va_rf none, va_rf ns[ns.length - 1]?])) a (cO 16 [.int mc, .int (nI xs.length), va_rf ns[0]?, .ref S.2]), S.2 + 1) a6 20 1 (.ref S.2)) fun S7 => fJ4_linkLast_b38 G a S7) = some ((), (M2, S.2 + 1), 0, 0) → fJ4_addLast G a (some x) (M, S.2) = some ((), (M2, S.2 + 1), 1, 3) := fun hr => by
      unfold fJ4_addLast fJ4_linkLast nw
      refine bd_i (e_chk h3) (gb_i (c2 := 0) (n2 := 0) (bd_i (e_rdR (ns[ns.length - 1]?) h3 rfl) (ad_i (c2 := 0) (n2 := 0) (gb_0 e_node (bd_i (e_wr [.int mc, .int (nI xs.length), va_rf ns[0]?, .ref S.2] ((gup_n _ _ hane).trans h3) (by simp) rfl) hr)) rfl rfl)) rfl rfl rfl)
    by_cases c : ns = []
    · subst c
      have hx0 : xs = [] := List.eq_nil_of_length_eq_zero h6.symm
      subst hx0
      refine ⟨_, ⟨_, (ll_fin hW ha (ns2 := [] ++ [S.2]) (Nat.lt_succ_self _) (Nat.le_succ _) (gup_s _ _ _) (by simp) hallx (by simp) hnd hown (ll_link h8 h6 h7 hnn (fun m hm => by cases hm) (fun m hm => by cases hm) ?_) (fun b hb hba _ => ?_)).1⟩, gMet_room (mJ4_addLast (r2 := ()) rP_ok (hrun (if_i rfl (bd_i (e_wr [.int mc, .int (nI 0), .ref S.2, .ref S.2] (gup_s _ _ _) (by simp) rfl) (hb38 _ _ _ (gup_s _ _ _)))))) (by decide) (by decide)⟩
      · rw [gup_n _ _ (Ne.symm hane), gup_n _ _ (Ne.symm hane), gup_n _ _ (Ne.symm hane), gup_n _ _ (Ne.symm hane), gup_s]
      · rw [gup_n _ _ hba, gup_n _ _ hba, gup_n _ _ hba, gup_n _ _ hba, gup_n _ _ (by omega)]
    · obtain ⟨p, hp⟩ := last_some c
      have hlen0 : 0 < ns.length := len_pos c
      have hpm : p ∈ ns := List.mem_of_getElem? hp
      have hpa : p ≠ a := (hns p hpm).2.2
      have hpn : p ≠ S.2 := fun e => hnn (e ▸ hpm)
      have e0 : (ns ++ [S.2])[0]? = ns[0]? := List.getElem?_append_left hlen0
      have e1 : (ns ++ [S.2])[(ns ++ [S.2]).length - 1]? = some S.2 := by simp
      have hMp : M p = some (cO 20 [va_rf xs[ns.length - 1]?, va_rf none, va_rf (ndP ns (ns.length - 1))]) := by
        rw [h8 _ p hp]
        dsimp only
        rw [show ns[ns.length - 1 + 1]? = none from List.getElem?_eq_none (by omega)]
      refine ⟨_, ⟨_, (ll_fin hW ha (ns2 := ns ++ [S.2]) (Nat.lt_succ_self _) (Nat.le_succ _) (by rw [gup_s, e0, e1, List.length_append]; rfl) (by simp; omega) hallx (by simp [h6]) hnd hown (ll_link h8 h6 h7 hnn (fun m hm hne => ?_) (fun m hm => ?_) ?_) (fun b hb hba hob => ?_)).1⟩, gMet_room (mJ4_addLast (r2 := ()) rP_ok (hrun (if_e (by rw [hp]; simp) (bd_i hp (bd_i (e_wr [va_rf xs[ns.length - 1]?, .ref S.2, va_rf (ndP ns (ns.length - 1))] ((gup_n _ _ hpa).trans ((gup_n _ _ hpn).trans hMp)) (by simp) rfl) (hb38 _ (va_rf ns[0]?) (.ref S.2) ((gup_n _ _ (Ne.symm hpa)).trans (gup_s _ _ _)))))))) (by decide) (by decide)⟩
      · have hma := (hns m hm).2.2
        have hmp : m ≠ p := fun e => hne (e ▸ hp)
        have hmn : m ≠ S.2 := fun e => hnn (e ▸ hm)
        rw [gup_n _ _ hma, gup_n _ _ hma, gup_n _ _ hmp, gup_n _ _ hma, gup_n _ _ hmn]
      · rw [hp] at hm
        cases hm
        rw [gup_n _ _ hpa, gup_n _ _ hpa, gup_s]
        rfl
      · rw [gup_n _ _ (Ne.symm hane), gup_n _ _ (Ne.symm hane), gup_n _ _ (Ne.symm hpn), gup_n _ _ (Ne.symm hane), gup_s]
      · have hbp : b ≠ p := fun e => hob (by rw [e]; exact (hns p hpm).1)
        rw [gup_n _ _ hba, gup_n _ _ hba, gup_n _ _ hbp, gup_n _ _ hba, gup_n _ _ (by omega)]
  next => cases g3
