/-! LinkedList at the level rN, second: unlinking, removal, clearing -/
set_option maxRecDepth 100000
set_option maxHeartbeats 1000000
theorem bd_e {α β : Type} {o : Option α} {k : α → Option β} {x : α} (h : o = some x) : bd o k = k x := by subst h; rfl
theorem nd_ne {ns : List Nat} {i j m n : Nat} (hnd : ns.Nodup) (hi : ns[i]? = some m) (hj : ns[j]? = some n) (h : i ≠ j) : m ≠ n := fun e => by
  subst e
  obtain ⟨l1, e1⟩ := List.getElem?_eq_some_iff.mp hi
  obtain ⟨l2, e2⟩ := List.getElem?_eq_some_iff.mp hj
  exact h ((List.getElem_inj hnd).mp (e1.trans e2.symm))
theorem ll_u1 {M : gM} {nx a j n : Nat} {mc sz : Int32} {lst : Value} {ns xs : List Nat} (hMa : M a = some (cO 16 [.int mc, .int sz, va_rf ns[0]?, lst])) (h : ndC M ns xs (fun i => ns[i + 1]?) (ndP ns)) (hnd : ns.Nodup) (hans : a ∉ ns) (hj : ns[j]? = some n) :
    ∃ (M1 : gM), (∀ (β : Type) (k : gS → gO β), (if ndP ns j = none then bd (wr (M, nx) a 16 2 (va_rf ns[j + 1]?)) k else bd (ndP ns j) fun a6 => bd (wr (M, nx) a6 20 1 (va_rf ns[j + 1]?)) fun S7 => bd (wr S7 n 20 2 .null) k) = k (M1, nx)) ∧ M1 a = some (cO 16 [.int mc, .int sz, va_rf (if j = 0 then ns[1]? else ns[0]?), lst]) ∧ ndC M1 ns xs (fun i => if i + 1 = j then ns[j + 1]? else ns[i + 1]?) (fun i => if i = j then none else ndP ns i) ∧ ∀ b, b ≠ a → b ∉ ns → M1 b = M b := by
  have hjl := (List.getElem?_eq_some_iff.mp hj).1
  cases j with
  | zero =>
    refine ⟨gup M a (cO 16 [.int mc, .int sz, va_rf ns[1]?, lst]), fun β k => ?_, ?_, h.to (fun m hm => gup_n _ _ (fun e => hans (e ▸ hm))) (fun _ _ => rfl) (fun i _ => by simp) (fun i _ => ?_), fun b hb _ => gup_n _ _ hb⟩
    · rw [if_pos (by rfl)]
      exact bd_e (e_wr [.int mc, .int sz, va_rf ns[1]?, lst] hMa (by simp) rfl)
    · rw [gup_s, if_pos rfl]
    · by_cases c : i = 0
      · rw [if_pos c, c]; rfl
      · rw [if_neg c]
  | succ j =>
    have hp : ns[j]? = some ns[j] := List.getElem?_eq_getElem (by omega)
    have hpn : ns[j] ≠ n := nd_ne hnd hp hj (by omega)
    have hpa : a ≠ ns[j] := fun e => hans (e ▸ List.mem_of_getElem? hp)
    have hna : a ≠ n := fun e => hans (e ▸ List.mem_of_getElem? hj)
    have e0 : ndP ns (j + 1) = some ns[j] := by unfold ndP; rw [if_neg (by omega), Nat.add_sub_cancel, hp]
    have c1 := h.up hnd hp (ns[j + 1 + 1]?) (ndP ns j)
    have c2 := c1.up hnd hj (ns[j + 1 + 1]?) none
    refine ⟨_, fun β k => ?_, ?_, c2.to (fun _ _ => rfl) (fun _ _ => rfl) (fun i hi => ?_) (fun i hi => ?_), fun b hb hbn => ?_⟩
    · rw [e0, if_neg (by simp)]
      refine (bd_e rfl).trans ((bd_e (e_wr [va_rf xs[j]?, va_rf ns[j + 1 + 1]?, va_rf (ndP ns j)] (h j _ hp) (by simp) rfl)).trans (bd_e ?_))
      refine e_wr [va_rf xs[j + 1]?, va_rf ns[j + 1 + 1]?, va_rf none] ((gup_n _ _ (Ne.symm hpn)).trans (h _ _ hj)) (by simp) rfl
    · rw [gup_n _ _ hna, gup_n _ _ hpa, hMa, if_neg (by omega)]
    · by_cases c : i = j + 1
      · subst c; simp
      · by_cases c2 : i = j
        · subst c2; simp
        · simp [c, c2]
    · by_cases c : i = j + 1
      · subst c; simp
      · by_cases c2 : i = j
        · subst c2; simp
        · simp [c, c2]
    · have z1 : b ≠ n := fun e => hbn (e ▸ List.mem_of_getElem? hj)
      have z2 : b ≠ ns[j] := fun e => hbn (e ▸ List.mem_of_getElem? hp)
      rw [gup_n _ _ z1, gup_n _ _ z2]
theorem ll_u2 {M : gM} {nx a j n : Nat} {mc sz : Int32} {fst : Value} {ns xs : List Nat} {nxt prv : Nat → Option Nat} {pv : Option Nat} (hMa : M a = some (cO 16 [.int mc, .int sz, fst, va_rf ns[ns.length - 1]?])) (h : ndC M ns xs nxt prv) (hnj : nxt j = ns[j + 1]?) (hpj : prv j = none) (hnd : ns.Nodup) (hans : a ∉ ns) (hj : ns[j]? = some n) :
    ∃ (M1 : gM), (∀ (β : Type) (k : gS → gO β), (if ns[j + 1]? = none then bd (wr (M, nx) a 16 3 (va_rf pv)) k else bd ns[j + 1]? fun a2 => bd (wr (M, nx) a2 20 2 (va_rf pv)) fun S3 => bd (some n) fun a4 => bd (wr S3 a4 20 1 .null) k) = k (M1, nx)) ∧ M1 a = some (cO 16 [.int mc, .int sz, fst, va_rf (if j + 1 = ns.length then pv else ns[ns.length - 1]?)]) ∧ ndC M1 ns xs (fun i => if i = j then none else nxt i) (fun i => if i = j + 1 then pv else prv i) ∧ ∀ b, b ≠ a → b ∉ ns → M1 b = M b := by
  have hjl := (List.getElem?_eq_some_iff.mp hj).1
  by_cases c : j + 1 = ns.length
  · have e0 : ns[j + 1]? = none := List.getElem?_eq_none (by omega)
    refine ⟨gup M a (cO 16 [.int mc, .int sz, fst, va_rf pv]), fun β k => ?_, ?_, h.to (fun m hm => gup_n _ _ (fun e => hans (e ▸ hm))) (fun _ _ => rfl) (fun i _ => ?_) (fun i hi => ?_), fun b hb _ => gup_n _ _ hb⟩
    · rw [if_pos e0]
      exact bd_e (e_wr [.int mc, .int sz, fst, va_rf pv] hMa (by simp) rfl)
    · rw [gup_s, if_pos c]
    · by_cases c2 : i = j
      · rw [if_pos c2, c2, hnj, e0]
      · rw [if_neg c2]
    · rw [if_neg (by omega)]
  · have hq : ns[j + 1]? = some ns[j + 1] := List.getElem?_eq_getElem (by omega)
    have hqn : ns[j + 1] ≠ n := nd_ne hnd hq hj (by omega)
    have hqa : a ≠ ns[j + 1] := fun e => hans (e ▸ List.mem_of_getElem? hq)
    have hna : a ≠ n := fun e => hans (e ▸ List.mem_of_getElem? hj)
    have c1 := h.up hnd hq (nxt (j + 1)) pv
    have c2 := c1.up hnd hj none none
    refine ⟨_, fun β k => ?_, ?_, c2.to (fun _ _ => rfl) (fun _ _ => rfl) (fun i hi => ?_) (fun i hi => ?_), fun b hb hbn => ?_⟩
    · rw [hq, if_neg (by simp)]
      refine (bd_e rfl).trans ((bd_e (e_wr [va_rf xs[j + 1]?, va_rf (nxt (j + 1)), va_rf pv] (h _ _ hq) (by simp) rfl)).trans ((bd_e rfl).trans (bd_e ?_)))
      refine e_wr [va_rf xs[j]?, va_rf none, va_rf none] ((gup_n _ _ (Ne.symm hqn)).trans (h _ _ hj)) (by simp) ?_
      rw [hpj]
      rfl
    · rw [gup_n _ _ hna, gup_n _ _ hqa, hMa, if_neg c]
    · by_cases c : i = j
      · subst c; simp
      · by_cases c2 : i = j + 1
        · subst c2; simp
        · simp [c, c2]
    · by_cases c : i = j
      · subst c; simp [hpj]
      · by_cases c2 : i = j + 1
        · subst c2; simp
        · simp [c, c2]
    · have z1 : b ≠ n := fun e => hbn (e ▸ List.mem_of_getElem? hj)
      have z2 : b ≠ ns[j + 1] := fun e => hbn (e ▸ List.mem_of_getElem? hq)
      rw [gup_n _ _ z1, gup_n _ _ z2]
theorem nd_erase {M M2 : gM} {ns xs : List Nat} {j n : Nat} (hnd : ns.Nodup) (hl : ns.length = xs.length) (hj : ns[j]? = some n) (h : ndC M ns xs (fun i => if i = j then none else if i + 1 = j then ns[j + 1]? else ns[i + 1]?) (fun i => if i = j + 1 then ndP ns j else if i = j then none else ndP ns i)) (hM : ∀ m ∈ ns, m ≠ n → M2 m = M m) : ndC M2 (ns.eraseIdx j) (xs.eraseIdx j) (fun i => (ns.eraseIdx j)[i + 1]?) (ndP (ns.eraseIdx j)) := fun i m hi => by
  have hjl := (List.getElem?_eq_some_iff.mp hj).1
  rw [List.getElem?_eraseIdx] at hi
  by_cases c : i < j
  · rw [if_pos c] at hi
    have hne : m ≠ n := nd_ne hnd hi hj (by omega)
    rw [hM m (List.mem_of_getElem? hi) hne, h i m hi]
    have e1 : (xs.eraseIdx j)[i]? = xs[i]? := by rw [List.getElem?_eraseIdx, if_pos c]
    have e2 : (ns.eraseIdx j)[i + 1]? = if i = j then none else if i + 1 = j then ns[j + 1]? else ns[i + 1]? := by
      rw [List.getElem?_eraseIdx, if_neg (show ¬ i = j by omega)]
      by_cases c2 : i + 1 = j
      · rw [if_neg (by omega), if_pos c2, c2]
      · rw [if_pos (by omega), if_neg c2]
    have e3 : ndP (ns.eraseIdx j) i = if i = j + 1 then ndP ns j else if i = j then none else ndP ns i := by
      rw [if_neg (by omega), if_neg (by omega)]
      unfold ndP
      by_cases c0 : i = 0
      · rw [if_pos c0, if_pos c0]
      · rw [if_neg c0, if_neg c0, List.getElem?_eraseIdx, if_pos (by omega)]
    dsimp only
    rw [e1, e2, e3]
  · rw [if_neg c] at hi
    have hne : m ≠ n := nd_ne hnd hi hj (by omega)
    rw [hM m (List.mem_of_getElem? hi) hne, h (i + 1) m hi]
    have e1 : (xs.eraseIdx j)[i]? = xs[i + 1]? := by rw [List.getElem?_eraseIdx, if_neg c]
    have e2 : (ns.eraseIdx j)[i + 1]? = if i + 1 = j then none else if i + 1 + 1 = j then ns[j + 1]? else ns[i + 1 + 1]? := by
      rw [List.getElem?_eraseIdx, if_neg (by omega), if_neg (by omega), if_neg (by omega)]
    have e3 : ndP (ns.eraseIdx j) i = if i + 1 = j + 1 then ndP ns j else if i + 1 = j then none else ndP ns (i + 1) := by
      unfold ndP
      by_cases c2 : i = j
      · subst c2
        rw [if_pos rfl]
        by_cases c0 : i = 0
        · rw [if_pos c0, if_pos c0]
        · rw [if_neg c0, if_neg c0, List.getElem?_eraseIdx, if_pos (by omega)]
      · rw [if_neg (by omega), if_neg (by omega), if_neg (by omega), if_neg (by omega), List.getElem?_eraseIdx, if_neg (by omega), Nat.add_sub_cancel, show i - 1 + 1 = i by omega]
    dsimp only
    rw [e1, e2, e3]
theorem er_first {ns : List Nat} {j : Nat} : (ns.eraseIdx j)[0]? = if j = 0 then ns[1]? else ns[0]? := by
  rw [List.getElem?_eraseIdx]
  by_cases c : j = 0
  · rw [if_neg (by omega), if_pos c]
  · rw [if_pos (by omega), if_neg c]
theorem er_last {ns : List Nat} {j : Nat} (hj : j < ns.length) : (ns.eraseIdx j)[(ns.eraseIdx j).length - 1]? = if j + 1 = ns.length then ndP ns j else ns[ns.length - 1]? := by
  have hl : (ns.eraseIdx j).length = ns.length - 1 := by rw [List.length_eraseIdx, if_pos hj]
  rw [hl, List.getElem?_eraseIdx]
  by_cases c : j + 1 = ns.length
  · rw [if_pos c]
    unfold ndP
    by_cases c0 : j = 0
    · rw [if_pos c0, if_neg (by omega)]
      exact List.getElem?_eq_none (by omega)
    · rw [if_neg c0, if_pos (by omega), show ns.length - 1 - 1 = j - 1 by omega]
  · rw [if_neg c, if_neg (by omega), show ns.length - 1 - 1 + 1 = ns.length - 1 by omega]
theorem ll_unl {G : gG} {M : gM} {nx a j n : Nat} {mc : Int32} {ns xs : List Nat} (hMa : M a = some (cO 16 [.int mc, .int (nI xs.length), va_rf ns[0]?, va_rf ns[ns.length - 1]?])) (h : ndC M ns xs (fun i => ns[i + 1]?) (ndP ns)) (hl : ns.length = xs.length) (hx : xs.length ≤ 9000) (hnd : ns.Nodup) (hans : a ∉ ns) (hj : ns[j]? = some n) :
    ∃ (M2 : gM), fJ4_unlink G a (some n) (M, nx) = some (xs[j]?, (M2, nx), 0, 0) ∧ M2 a = some (cO 16 [.int (mc + 1), .int (nI (xs.eraseIdx j).length), va_rf (ns.eraseIdx j)[0]?, va_rf (ns.eraseIdx j)[(ns.eraseIdx j).length - 1]?]) ∧ ndC M2 (ns.eraseIdx j) (xs.eraseIdx j) (fun i => (ns.eraseIdx j)[i + 1]?) (ndP (ns.eraseIdx j)) ∧ ∀ b, b ≠ a → b ∉ ns → M2 b = M b := by
  have hjl := (List.getElem?_eq_some_iff.mp hj).1
  have hna : n ≠ a := fun e => hans (e ▸ List.mem_of_getElem? hj)
  obtain ⟨M1, k1, k2, k3, k4⟩ := ll_u1 (nx := nx) hMa h hnd hans hj
  obtain ⟨M2, q1, q2, q3, q4⟩ := ll_u2 (nx := nx) (pv := ndP ns j) k2 k3 (by simp) (by simp) hnd hans hj
  have hxl : (xs.eraseIdx j).length = xs.length - 1 := by rw [List.length_eraseIdx, if_pos (by omega)]
  refine ⟨gup (gup (gup M2 n (cO 20 [.null, va_rf none, va_rf none])) a (cO 16 [.int mc, .int (nI (xs.length - 1)), va_rf (if j = 0 then ns[1]? else ns[0]?), va_rf (if j + 1 = ns.length then ndP ns j else ns[ns.length - 1]?)])) a (cO 16 [.int (mc + 1), .int (nI (xs.length - 1)), va_rf (if j = 0 then ns[1]? else ns[0]?), va_rf (if j + 1 = ns.length then ndP ns j else ns[ns.length - 1]?)]), ?_, ?_, nd_erase hnd hl hj q3 (fun m hm hmn => ?_), fun b hb hbn => ?_⟩
  · unfold fJ4_unlink
    refine bd_i rfl (bd_i (e_rdR (xs[j]?) (h j n hj) rfl) (bd_i (e_rdR (ns[j + 1]?) (h j n hj) rfl) (bd_i (e_rdR (ndP ns j) (h j n hj) rfl) ?_)))
    rw [k1]
    unfold fJ4_unlink_b40
    rw [q1]
    unfold fJ4_unlink_b64
    refine bd_i rfl (bd_i (e_wr [.null, va_rf none, va_rf none] (q3 j n hj) (by simp) (by simp)) (bd_i (e_rdI ((gup_n _ _ (Ne.symm hna)).trans q2) rfl) ?_))
    rw [pk_sub (by omega)]
    exact bd_i (e_wr [.int mc, .int (nI (xs.length - 1)), va_rf (if j = 0 then ns[1]? else ns[0]?), va_rf (if j + 1 = ns.length then ndP ns j else ns[ns.length - 1]?)] ((gup_n _ _ (Ne.symm hna)).trans q2) (by simp) rfl) (bd_i (e_rdI (gup_s _ _ _) rfl) (bd_i (e_wr [.int (mc + 1), .int (nI (xs.length - 1)), va_rf (if j = 0 then ns[1]? else ns[0]?), va_rf (if j + 1 = ns.length then ndP ns j else ns[ns.length - 1]?)] (gup_s _ _ _) (by simp) rfl) rfl))
  · rw [gup_s, hxl, er_first, er_last hjl]
  · have hma : m ≠ a := fun e => hans (e ▸ hm)
    rw [gup_n _ _ hma, gup_n _ _ hma, gup_n _ _ hmn]
  · have hbn2 : b ≠ n := fun e => hbn (e ▸ List.mem_of_getElem? hj)
    rw [gup_n _ _ hb, gup_n _ _ hb, gup_n _ _ hbn2, q4 b hb hbn, k4 b hb hbn]
/-- what is behind an unlinking, for the level -/
theorem ll_unlW {G : gG} {N M : gM} {own : Nat → Option Nat} {nx a v j n : Nat} {mc : Int32} {ns xs : List Nat} (h : rW G N M own nx) (ha : N a = some (cT 1 mc v xs)) (hr : rLL N M own a mc xs ns) (hj : ns[j]? = some n) :
    ∃ (M2 : gM) (own2 : Nat → Option Nat), fJ4_unlink G a (some n) (M, nx) = some (xs[j]?, (M2, nx), 0, 0) ∧ rW G (gup N a (cT 1 (mc + 1) (v + 1) (xs.eraseIdx j))) M2 own2 nx ∧ rLL (gup N a (cT 1 (mc + 1) (v + 1) (xs.eraseIdx j))) M2 own2 a (mc + 1) (xs.eraseIdx j) (ns.eraseIdx j) ∧ (∀ b, b ≠ a → own b ≠ some a → M2 b = M b) ∧ own2 = ownU own a (ns.eraseIdx j) := by
  obtain ⟨k1, k2, k3, k4, k5, k6⟩ := hr
  have hoa : own a = none := (h.2.2.1 a _ ha).2
  have hns : ∀ n ∈ ns, own n = some a := fun n hn => by
    obtain ⟨i, hi⟩ := List.getElem?_of_mem hn
    exact (k6 i n hi).1
  have hans : a ∉ ns := fun hm => by have := hns a hm; rw [hoa] at this; cases this
  obtain ⟨M2, q1, q2, q3, q4⟩ := ll_unl (G := G) (nx := nx) k1 (fun i n hi => (k6 i n hi).2) k4 k2 k5 hans hj
  have hfr : ∀ b, b ≠ a → own b ≠ some a → M2 b = M b := fun b hb hob => q4 b hb (fun hm => hob (hns b hm))
  have hjl := (List.getElem?_eq_some_iff.mp hj).1
  have hxl : (xs.eraseIdx j).length = xs.length - 1 := by rw [List.length_eraseIdx, if_pos (by omega)]
  have hnl : (ns.eraseIdx j).length = ns.length - 1 := by rw [List.length_eraseIdx, if_pos hjl]
  obtain ⟨w1, w2⟩ := ll_fin (ns2 := ns.eraseIdx j) (xs2 := xs.eraseIdx j) (v2 := v + 1) h ha (Nat.lt_succ_self _) (Nat.le_refl _) q2 (by omega) (allN_erase k3) (by omega) (k5.eraseIdx j) (fun m hm => Or.inl (hns m (List.mem_of_mem_eraseIdx hm))) q3 (fun b _ hb hob => hfr b hb hob)
  exact ⟨M2, _, q1, w1, w2, hfr, rfl⟩
theorem J1_LL_removeI {l : Launch} {G : gG} : J_nLL_removeI l G (rN G) := by
  intro a i S r S2 C N h
  unfold nLL_removeI at h
  obtain ⟨⟨mc, v, xs⟩, h1, h2⟩ := bdo h
  try dsimp only at h2
  split at h2
  next hin =>
    cases h2
    refine met_up fun M hR => ?_
    obtain ⟨own, hW⟩ := hR
    have ha := adt_T h1
    obtain ⟨ns, hr, h8, -⟩ := ll_at hW ha
    have hr' := hr
    obtain ⟨h3, h4, h5, h6, h7, -⟩ := hr'
    try dsimp only at h3 h4 h6
    obtain ⟨j, hj, rfl, hcl⟩ := inr0_o hin (by omega)
    rw [hcl]
    have hjn : j < ns.length := by omega
    obtain ⟨M2, own2, k1, k2, -⟩ := ll_unlW hW ha hr (List.getElem?_eq_getElem hjn)
    refine ⟨M2, ⟨own2, k2⟩, gMet_room (mJ4_remove rP_ok ?_) (by decide) (by decide)⟩
    unfold fJ4_remove
    refine bd_i (e_chk h3) (gb_0 (ll_chkE h3 h4 hj) (bd_i (e_chk h3) (gb_0 (ll_node h3 h8 h6 h4 hj) (bd_i (e_chk h3) (gb_0 ?_ rfl)))))
    rw [List.getElem?_eq_getElem hjn]
    exact k1
  next => cases h2
theorem J1_LL_removeFirst {l : Launch} {G : gG} : J_nLL_removeFirst l G (rN G) := by
  intro a S r S2 C N h
  unfold nLL_removeFirst at h
  obtain ⟨⟨mc, v, xs⟩, h1, h2⟩ := bdo h
  try dsimp only at h2
  cases xs with
  | nil => cases h2
  | cons x t =>
    cases h2
    refine met_up fun M hR => ?_
    obtain ⟨own, hW⟩ := hR
    have ha := adt_T h1
    obtain ⟨ns, ⟨h3, h4, h5, h6, h7, h7b⟩, h8, hoa, halt, hns, -⟩ := ll_at hW ha
    try dsimp only at h3 h4 h5 h6 h8
    cases ns with
    | nil => cases h6
    | cons n ns =>
      have hnd2 : ns.Nodup := (List.nodup_cons.mp h7).2
      have hnn : n ∉ ns := (List.nodup_cons.mp h7).1
      have hna : n ≠ a := (hns n List.mem_cons_self).2.2
      have hlt : t.length ≤ 9000 := by have : (x :: t).length = t.length + 1 := rfl; omega
      have hln : ns.length = t.length := by simpa using h6
      have hc0 := h8 0 n rfl
      have hfin : ∀ {M2 : gM}, M2 a = some (cO 16 [.int (mc + 1), .int (nI t.length), va_rf ns[0]?, va_rf ns[ns.length - 1]?]) → ndC M2 ns t (fun i => ns[i + 1]?) (ndP ns) → (∀ b, b ≠ a → b ∉ n :: ns → M2 b = M b) → rN G (gup S.1 a (cT 1 (mc + 1) (v + 1) t)) M2 S.2 := fun e1 e2 e3 => ⟨_, (ll_fin hW ha (Nat.lt_succ_self _) (Nat.le_refl _) e1 hlt (fun y hy => h5 y (List.mem_cons_of_mem _ hy)) hln hnd2 (fun m hm => Or.inl (hns m (List.mem_cons_of_mem _ hm)).1) e2 (fun b _ hb hob => e3 b hb (fun hm => hob (hns b hm).1))).1⟩
      have hrun : ∀ {M2 : gM}, (if ns[0]? = none then bd (wr (gup (gup (gup M n (cO 20 [.null, va_rf ns[0]?, va_rf none])) n (cO 20 [.null, .null, va_rf none])) a (cO 16 [.int mc, .int (nI (x :: t).length), va_rf ns[0]?, va_rf (n :: ns)[(n :: ns).length - 1]?]), S.2) a 16 3 .null) fun S10 => fJ4_unlinkFirst_b42 G a (some x) S10 else bd ns[0]? fun a8 => bd (wr (gup (gup (gup M n (cO 20 [.null, va_rf ns[0]?, va_rf none])) n (cO 20 [.null, .null, va_rf none])) a (cO 16 [.int mc, .int (nI (x :: t).length), va_rf ns[0]?, va_rf (n :: ns)[(n :: ns).length - 1]?]), S.2) a8 20 2 .null) fun S9 => fJ4_unlinkFirst_b42 G a (some x) S9) = some (some x, (M2, S.2), 0, 0) → fJ4_removeFirst G a (M, S.2) = some (some x, (M2, S.2), 0, 0) := fun hr => by
        unfold fJ4_removeFirst fJ4_unlinkFirst
        refine bd_i (e_rdR (some n) h3 rfl) (if_e (by simp) (bd_i (e_chk h3) (gb_0 (bd_i rfl (bd_i (e_rdR (some x) hc0 rfl) (bd_i (e_rdR (ns[0]?) hc0 rfl) (bd_i (e_wr [.null, va_rf ns[0]?, va_rf none] hc0 (by simp) rfl) (bd_i (e_wr [.null, .null, va_rf none] (gup_s _ _ _) (by simp) rfl) (bd_i (e_wr [.int mc, .int (nI (x :: t).length), va_rf ns[0]?, va_rf (n :: ns)[(n :: ns).length - 1]?] ((gup_n _ _ (Ne.symm hna)).trans ((gup_n _ _ (Ne.symm hna)).trans h3)) (by simp) rfl) hr)))))) rfl)))
      have hb42 : ∀ (M' : gM) (f l : Value), M' a = some (cO 16 [.int mc, .int (nI (x :: t).length), f, l]) → fJ4_unlinkFirst_b42 G a (some x) (M', S.2) = some (some x, (gup (gup M' a (cO 16 [.int mc, .int (nI t.length), f, l])) a (cO 16 [.int (mc + 1), .int (nI t.length), f, l]), S.2), 0, 0) := fun M' f l e => by
        unfold fJ4_unlinkFirst_b42
        refine bd_i (e_rdI e rfl) ?_
        rw [pk_sub (by simp), show (x :: t).length - 1 = t.length by simp]
        exact bd_i (e_wr [.int mc, .int (nI t.length), f, l] e (by simp) rfl) (bd_i (e_rdI (gup_s _ _ _) rfl) (bd_i (e_wr [.int (mc + 1), .int (nI t.length), f, l] (gup_s _ _ _) (by simp) rfl) rfl))
      cases ns with
      | nil =>
        have ht : t = [] := List.eq_nil_of_length_eq_zero hln.symm
        subst ht
        refine ⟨_, hfin (gup_s _ _ _) (fun i m hi => by cases hi) (fun b hb hbn => ?_), gMet_room (mJ4_removeFirst rP_ok (hrun (if_i rfl (bd_i (e_wr [.int mc, .int (nI [x].length), .null, .null] (gup_s _ _ _) (by simp) rfl) (hb42 _ .null .null (gup_s _ _ _)))))) (by decide) (by decide)⟩
        have hbn2 : b ≠ n := fun e => hbn (by rw [e]; exact List.mem_cons_self)
        rw [gup_n _ _ hb, gup_n _ _ hb, gup_n _ _ hb, gup_n _ _ hb, gup_n _ _ hbn2, gup_n _ _ hbn2]
      | cons q ns =>
        have hqn : q ≠ n := fun e => hnn (by rw [e]; exact List.mem_cons_self)
        have hqa : q ≠ a := (hns q (List.mem_cons_of_mem _ List.mem_cons_self)).2.2
        have hc1 := h8 1 q rfl
        refine ⟨_, hfin (gup_s _ _ _) (fun i m hi => ?_) (fun b hb hbn => ?_), gMet_room (mJ4_removeFirst rP_ok (hrun (if_e (by simp) (bd_i rfl (bd_i (e_wr [va_rf t[0]?, va_rf ns[0]?, .null] ((gup_n _ _ hqa).trans ((gup_n _ _ hqn).trans ((gup_n _ _ hqn).trans hc1))) (by simp) rfl) (hb42 _ (va_rf (q :: ns)[0]?) (va_rf (q :: ns)[(q :: ns).length - 1]?) ((gup_n _ _ (Ne.symm hqa)).trans (gup_s _ _ _)))))))) (by decide) (by decide)⟩
        · have hmm : m ∈ q :: ns := List.mem_of_getElem? hi
          have hma : m ≠ a := (hns m (List.mem_cons_of_mem _ hmm)).2.2
          have hmn : m ≠ n := fun e => hnn (e ▸ hmm)
          cases i with
          | zero =>
            cases hi
            rw [gup_n _ _ hqa, gup_n _ _ hqa, gup_s]
            rfl
          | succ i =>
            have hmq : m ≠ q := nd_ne hnd2 hi (show (q :: ns)[0]? = some q from rfl) (by omega)
            rw [gup_n _ _ hma, gup_n _ _ hma, gup_n _ _ hmq, gup_n _ _ hma, gup_n _ _ hmn, gup_n _ _ hmn, h8 (i + 2) m hi]
            rfl
        · have hbn2 : b ≠ n := fun e => hbn (by rw [e]; exact List.mem_cons_self)
          have hbq : b ≠ q := fun e => hbn (by rw [e]; exact List.mem_cons_of_mem _ List.mem_cons_self)
          rw [gup_n _ _ hb, gup_n _ _ hb, gup_n _ _ hbq, gup_n _ _ hb, gup_n _ _ hbn2, gup_n _ _ hbn2]
theorem ll_clr {G : gG} {nx a : Nat} {mc sz : Int32} {f0 l0 : Value} {ns xs : List Nat} (hans : a ∉ ns) (hnd : ns.Nodup) : ∀ (k i n : Nat) (M : gM), i + k = ns.length → k < n → M a = some (cO 16 [.int mc, .int sz, f0, l0]) → (∀ j m, i ≤ j → ns[j]? = some m → M m = some (cO 20 [va_rf xs[j]?, va_rf ns[j + 1]?, va_rf (ndP ns j)])) →
    ∃ (M2 : gM), fJ4_clear_b5 G n a ns[i]? (M, nx) = some ((), (M2, nx), 0, 0) ∧ M2 a = some (cO 16 [.int (mc + 1), .int (nI 0), .null, .null]) ∧ ∀ b, b ≠ a → b ∉ ns → M2 b = M b
  | 0, i, n + 1, M, hik, _, hMa, h => by
    refine ⟨gup (gup (gup (gup M a (cO 16 [.int mc, .int sz, f0, .null])) a (cO 16 [.int mc, .int sz, .null, .null])) a (cO 16 [.int mc, .int (nI 0), .null, .null])) a (cO 16 [.int (mc + 1), .int (nI 0), .null, .null]), ?_, gup_s _ _ _, fun b hb _ => by rw [gup_n _ _ hb, gup_n _ _ hb, gup_n _ _ hb, gup_n _ _ hb]⟩
    rw [fJ4_clear_b5]
    exact if_i (List.getElem?_eq_none (by omega)) (bd_i (e_wr [.int mc, .int sz, f0, .null] hMa (by simp) rfl) (bd_i (e_wr [.int mc, .int sz, .null, .null] (gup_s _ _ _) (by simp) rfl) (bd_i (e_wr [.int mc, .int (nI 0), .null, .null] (gup_s _ _ _) (by simp) rfl) (bd_i (e_rdI (gup_s _ _ _) rfl) (bd_i (e_wr [.int (mc + 1), .int (nI 0), .null, .null] (gup_s _ _ _) (by simp) rfl) rfl)))))
  | k + 1, i, n + 1, M, hik, hn, hMa, h => by
    have hi : i < ns.length := by omega
    have hm : ns[i]? = some ns[i] := List.getElem?_eq_getElem hi
    have hma : a ≠ ns[i] := fun e => hans (e ▸ List.mem_of_getElem? hm)
    have hc := h i _ (Nat.le_refl _) hm
    obtain ⟨M2, k1, k2, k3⟩ := ll_clr (G := G) (nx := nx) (xs := xs) hans hnd k (i + 1) n (gup (gup (gup M ns[i] (cO 20 [.null, va_rf ns[i + 1]?, va_rf (ndP ns i)])) ns[i] (cO 20 [.null, .null, va_rf (ndP ns i)])) ns[i] (cO 20 [.null, .null, .null])) (by omega) (by omega) (by rw [gup_n _ _ hma, gup_n _ _ hma, gup_n _ _ hma]; exact hMa) (fun j m hj hjm => by
      have hne : m ≠ ns[i] := nd_ne hnd hjm hm (by omega)
      rw [gup_n _ _ hne, gup_n _ _ hne, gup_n _ _ hne]
      exact h j m (by omega) hjm)
    refine ⟨M2, ?_, k2, fun b hb hbn => ?_⟩
    · rw [fJ4_clear_b5, hm]
      exact if_e (by simp) (bd_i rfl (bd_i (e_rdR (ns[i + 1]?) hc rfl) (bd_i (e_wr [.null, va_rf ns[i + 1]?, va_rf (ndP ns i)] hc (by simp) rfl) (bd_i (e_wr [.null, .null, va_rf (ndP ns i)] (gup_s _ _ _) (by simp) rfl) (bd_i (e_wr [.null, .null, .null] (gup_s _ _ _) (by simp) rfl) k1)))))
    · have hne : b ≠ ns[i] := fun e => hbn (e ▸ List.mem_of_getElem? hm)
      rw [k3 b hb hbn, gup_n _ _ hne, gup_n _ _ hne, gup_n _ _ hne]
theorem J1_LL_clear {l : Launch} {G : gG} : J_nLL_clear l G (rN G) := by
  intro a S r S2 C N h
  unfold nLL_clear at h
  obtain ⟨⟨mc, v, xs⟩, h1, h2⟩ := bdo h
  cases h2
  refine met_up fun M hR => ?_
  obtain ⟨own, hW⟩ := hR
  have ha := adt_T h1
  obtain ⟨ns, ⟨h3, h4, h5, h6, h7, h7b⟩, h8, hoa, halt, hns, -⟩ := ll_at hW ha
  try dsimp only at h3 h4 h6 h8
  have hans : a ∉ ns := fun hm => (hns a hm).2.2 rfl
  obtain ⟨M2, k1, k2, k3⟩ := ll_clr (G := G) (nx := S.2) (xs := xs) hans h7 ns.length 0 FU M (by omega) (Nat.lt_of_le_of_lt (by omega) FU_big) h3 (fun j m _ hj => h8 j m hj)
  refine ⟨M2, ⟨_, (ll_fin hW ha (ns2 := []) (xs2 := []) (Nat.lt_succ_self _) (Nat.le_refl _) k2 (by decide) (fun x hx => by cases hx) rfl List.nodup_nil (fun n hn => by cases hn) (fun i n hi => by cases hi) (fun b _ hb hob => k3 b hb (fun hm => hob (hns b hm).1))).1⟩, gMet_room (mJ4_clear (r2 := ()) rP_ok ?_) (by decide) (by decide)⟩
  unfold fJ4_clear
  exact bd_i (e_rdR (ns[0]?) h3 rfl) k1
