/-! Integer, String, StringBuilder at the level rN; the JDK's contracts together -/
set_option maxRecDepth 100000
set_option maxHeartbeats 1000000
/-- the constants' bytes stand apart -/
def kDis (G : gG) : Prop := bK G (G.2.2.1 10) = some 0 ∧ bK G (G.2.2.1 11) = some 1 ∧ bK G (G.2.2.1 12) = some 2
theorem J1_Box {l : Launch} {G : gG} : J_nBox l G (rN G) := by
  intro i S r S2 C N h
  unfold nBox at h
  split at h
  next hout =>
    cases h
    refine met_up fun M hR => ?_
    obtain ⟨own, hW⟩ := hR
    have hik : iK G S.2 = none := by
      cases hq : iK G S.2 with
      | none => rfl
      | some j =>
        obtain ⟨q1, q2⟩ := iK_o hq
        have := hW.2.2.2.2.2 (200 + j) (Or.inr (Or.inr ⟨by omega, by omega⟩))
        omega
    have hb23 : fJ23_valueOf_b23 G i (M, S.2) = some (some S.2, (gup (gup M S.2 (cO 26 [.int 0])) S.2 (cO 26 [.int i]), S.2 + 1), 1, 1) := by
      unfold fJ23_valueOf_b23 nw
      refine ad_i (c2 := 0) (n2 := 0) (gb_0 (x := ()) ?_ rfl) rfl rfl
      unfold fJ23_init fJ22_init_c26
      exact gb_0 (x := ()) (S := (gup M S.2 (cO 26 [.int 0]), S.2 + 1)) rfl (bd_i (e_wr [.int i] (gup_s _ _ _) (by simp) rfl) rfl)
    refine ⟨gup (gup M S.2 (cO 26 [.int 0])) S.2 (cO 26 [.int i]), it_new (q := (10, i, 0, [])) hW (Nat.lt_succ_self _) (fun b hb => ?_) (Or.inr ⟨hik, gup_s _ _ _⟩), gMet_room (mJ23_valueOf rP_ok ?_) (by decide) (by decide)⟩
    · rw [gup_n _ _ (by omega), gup_n _ _ (by omega)]
    · unfold fJ23_valueOf
      by_cases c : i < -128
      · exact if_i c hb23
      · exact if_e c (if_i (by rcases hout with q | q; exact absurd q c; exact q) hb23)
  next hin =>
    obtain ⟨q, h1, g9⟩ := bdo h
    clear h
    have h := g9
    clear g9
    split at h
    next hq =>
      cases h
      refine met_up fun M hR => ⟨M, hR, gMet_room (mJ23_valueOf rP_ok ?_) (by decide) (by decide)⟩
      unfold fJ23_valueOf
      have h1 : ¬ i < -128 := fun e => hin (Or.inl e)
      have h2 : ¬ 127 < i := fun e => hin (Or.inr e)
      refine if_e h1 (if_e h2 (bd_i (x := kBox G i) ?_ rfl))
      unfold kCache kBox
      have t1 : (-128 : Int) ≤ i.toInt := by
        have := Int32.le_iff_toInt_le.mp (Int32.not_lt.mp h1)
        simpa using this
      have t2 : i.toInt ≤ 127 := by
        have := Int32.le_iff_toInt_le.mp (Int32.not_lt.mp h2)
        simpa using this
      obtain ⟨j, hj, hj2⟩ : ∃ j : Nat, j < 256 ∧ i + 128 = nI j := by
        refine ⟨(i.toInt + 128).toNat, by omega, ?_⟩
        apply Int32.toInt_inj.mp
        rw [nI_toInt (by omega), Int32.toInt_add]
        have e128 : (128 : Int32).toInt = 128 := by decide
        rw [e128, Int.bmod_eq_of_le (by omega) (by omega)]
        omega
      have e : i + nI 128 = nI j := hj2
      rw [e, hj2, nI_clamp (by omega), if_neg]
      intro z
      rcases z with z | z
      · exact nI_pos (by omega) z
      · omega
    next => cases h
theorem J1_Unbox {l : Launch} {G : gG} : J_nUnbox l G (rN G) := by
  intro a S r S2 C N h
  unfold nUnbox at h
  obtain ⟨⟨v, cap, xs⟩, h1, h2⟩ := bdo h
  cases h2
  refine met_up fun M hR => ⟨M, hR, gMet_room (mJ23_intValue rP_ok (bd_i (x := v) ?_ rfl)) (by decide) (by decide)⟩
  obtain ⟨own, hW⟩ := hR
  unfold intV
  rcases (show rInt G M a v from (hW.2.2.1 a _ (adt_T h1)).1) with ⟨j, h3, h4⟩ | ⟨h3, h4⟩
  · rw [h3, h4]
  · rw [h3]
    exact e_rdI h4 rfl
/-- a text's bytes -/
def stV (G : gG) (M : gM) (a o : Nat) (xs : List Nat) : Prop :=
  (∀ n, strV G (M, n) a = some (some o)) ∧ (∀ n, strC G (M, n) a = some 0) ∧ (∀ n, chS G (M, n) a = some ()) ∧ (∀ n, lenB G (M, n) o = some (nI xs.length)) ∧ xs.length ≤ 4000 ∧ ∀ i x, xs[i]? = some x → x < 256 ∧ ∀ n, rdB G (M, n) o (nI i) = some (sb_b x)
theorem st_const (G : gG) (hG : kDis G) {i : Nat} (hi : i < 3) : bK G (G.2.2.1 (10 + i)) = some i := by
  rcases (show i = 0 ∨ i = 1 ∨ i = 2 by omega) with rfl | rfl | rfl
  · exact hG.1
  · exact hG.2.1
  · exact hG.2.2
theorem st_view {G : gG} (hG : kDis G) {N M : gM} {own : Nat → Option Nat} {nx a cap : Nat} {mc : Int32} {xs : List Nat} (h : rW G N M own nx) (ha : N a = some (cT 5 mc cap xs)) : ∃ o, stV G M a o xs := by
  rcases (show rSt G M own a xs from (h.2.2.1 a _ ha).1) with ⟨i, h1, h2⟩ | ⟨h0, o, f, hh, z, h1, h2, h3, h4, h5, h6⟩
  · obtain ⟨hi, e⟩ := sK_o h1
    have hb := st_const G hG hi
    have hl : (xs.length) = gStrLen.getD i 0 := by
      rw [h2]
      rcases (show i = 0 ∨ i = 1 ∨ i = 2 by omega) with rfl | rfl | rfl <;> rfl
    refine ⟨G.2.2.1 (10 + i), fun n => by simp [strV, h1], fun n => by simp [strC, h1], fun n => by simp [chS, h1], fun n => by simp [lenB, hb, hl], ?_, fun j x hx => ?_⟩
    · rw [hl]
      rcases (show i = 0 ∨ i = 1 ∨ i = 2 by omega) with rfl | rfl | rfl <;> decide
    · have hj := (List.getElem?_eq_some_iff.mp hx).1
      rw [hl] at hj
      subst h2
      rcases (show i = 0 ∨ i = 1 ∨ i = 2 by omega) with rfl | rfl | rfl
      · exact absurd hj (Nat.not_lt_zero _)
      · have : j = 0 := by have h9 : j < 1 := hj; omega
        subst this
        have hx2 : x = 35 := (Option.some.inj hx).symm
        subst hx2
        refine ⟨by decide, fun n => ?_⟩
        simp only [rdB, hb]
        decide
      · have : j = 0 := by have h9 : j < 1 := hj; omega
        subst this
        have hx2 : x = 42 := (Option.some.inj hx).symm
        subst hx2
        refine ⟨by decide, fun n => ?_⟩
        simp only [rdB, hb]
        decide
  · refine ⟨o, fun n => ?_, fun n => ?_, fun n => ?_, fun n => ?_, h5, fun j x hx => ?_⟩
    · simp only [strV, h0]
      exact e_rdR (some o) h1 rfl
    · simp only [strC, h0]
      exact e_rdI h1 rfl
    · have : clsO (M, n) a = some 25 := by simp [clsO, h1]
      simp [chS, this]
    · simp [lenB, h3, lenT, h4]
    · have hj := (List.getElem?_eq_some_iff.mp hx).1
      obtain ⟨q1, q2⟩ := h6.2 j x hx
      refine ⟨q1, fun n => ?_⟩
      have e1 := nI_in hj (show xs.length < 2 ^ 31 by omega)
      have e2 := nI_clamp (n := j) (by omega)
      simp only [rdB, h3, rdAi, h4]
      rw [if_pos ⟨trivial, e1⟩, e2, q2]
      rfl
theorem e_coder {G : gG} {M : gM} {n a o : Nat} {xs : List Nat} (h : stV G M a o xs) : fJ9_coder G a (M, n) = some (0, (M, n), 0, 0) := by
  unfold fJ9_coder
  exact if_e (by decide) (bd_i (h.2.1 n) (if_pos (by decide)))
theorem e_slen {G : gG} {M : gM} {n a o : Nat} {xs : List Nat} (h : stV G M a o xs) : fJ9_length G a (M, n) = some (nI xs.length, (M, n), 0, 0) := by
  unfold fJ9_length
  refine bd_i (h.1 n) (bd_i rfl (bd_i (h.2.2.2.1 n) (bd_i (h.2.2.1 n) (gb_0 (e_coder h) ?_))))
  rw [sb_shr0]
theorem J1_St_len {l : Launch} {G : gG} (hG : kDis G) : J_nSt_len l G (rN G) := by
  intro a S r S2 C N h
  unfold nSt_len at h
  obtain ⟨⟨v, cap, xs⟩, h1, h2⟩ := bdo h
  cases h2
  refine met_up fun M hR => ⟨M, hR, ?_⟩
  obtain ⟨own, hW⟩ := hR
  obtain ⟨o, hv⟩ := st_view hG hW (adt_T h1)
  exact gMet_room (mJ9_length rP_ok (e_slen hv)) (by decide) (by decide)
theorem e_cg {x : Nat} (hx : x < 256) (S : gS) : cg (nI x) S = some (nI x, S, 0, 0) := by
  refine if_pos ?_
  have : ∀ x, x < 256 → (nI x).toUInt32.toUInt16.toUInt32.toInt32 = nI x := by decide +kernel
  exact this x hx
theorem e_isL {G : gG} {M : gM} {n a o : Nat} {xs : List Nat} (h : stV G M a o xs) : fJ9_isLatin1 G a (M, n) = some (nI 1, (M, n), 0, 0) := by
  unfold fJ9_isLatin1
  exact if_e (by decide) (bd_i (h.2.1 n) (if_i rfl (zg_1 _)))
theorem J1_St_at {l : Launch} {G : gG} (hG : kDis G) : J_nSt_at l G (rN G) := by
  intro a i S r S2 C N h
  unfold nSt_at at h
  obtain ⟨⟨v, cap, xs⟩, h1, h2⟩ := bdo h
  try dsimp only at h2
  split at h2
  next hin =>
    obtain ⟨x, hx, h2⟩ := bdo h2
    cases h2
    refine met_up fun M hR => ⟨M, hR, ?_⟩
    obtain ⟨own, hW⟩ := hR
    obtain ⟨o, hv⟩ := st_view hG hW (adt_T h1)
    have hl := hv.2.2.2.2.1
    try dsimp only at hl
    obtain ⟨j, hj, rfl, hcl⟩ := inr0_o hin (by omega)
    rw [hcl] at hx
    obtain ⟨q1, q2⟩ := hv.2.2.2.2.2 j x hx
    refine gMet_room (mJ9_charAt rP_ok ?_) (by decide) (by decide)
    unfold fJ9_charAt
    refine bd_i (hv.2.2.1 _) (gb_0 (e_isL hv) (if_e (by decide) (bd_i (hv.1 _) (gb_0 (x := nI x) (S := (M, S.2)) ?_ (e_cg q1 _)))))
    unfold fJ21_charAt
    refine bd_i rfl (bd_i (hv.2.2.2.1 _) (gb_0 (x := ()) (S := (M, S.2)) ?_ (bd_i (q2 _) ?_)))
    · unfold fJ9_checkIndex fJ20_checkIndex
      exact gb_0 (if_e (nI_pos (by omega)) (if_i (nI_lt hj (by omega)) rfl)) rfl
    · have e1 : sb_b x &&& nI 255 = nI x := (sb_byte x q1).1
      rw [e1, (sb_byte x q1).2.1]
      exact e_cg q1 _
  next => cases h2
theorem sb_inj {x y : Nat} (hx : x < 256) (hy : y < 256) (h : sb_b x = sb_b y) : x = y := by
  have h1 := (sb_byte x hx).1
  have h2 := (sb_byte y hy).1
  rw [h, h2] at h1
  exact ((nI_eq (by omega) (by omega)).mp h1).symm
theorem st_cmp {G : gG} {M : gM} {n0 a b o1 o2 : Nat} {xs ys : List Nat} (hx : stV G M a o1 xs) (hy : stV G M b o2 ys) (hl : xs.length = ys.length) : ∀ (k i n : Nat), i + k = xs.length → k < n → fJ21_equals_b9 G n (some o1) (some o2) (nI i) (M, n0) = some (if xs.drop i = ys.drop i then nI 1 else nI 0, (M, n0), 0, 0)
  | 0, i, n + 1, hik, _ => by
    have h5 := hx.2.2.2.2.1
    rw [fJ21_equals_b9, List.drop_eq_nil_of_le (by omega), List.drop_eq_nil_of_le (by omega), if_pos rfl]
    exact bd_i rfl (bd_i (hx.2.2.2.1 _) (if_i (nI_le (by omega) (by omega)) (zg_1 _)))
  | k + 1, i, n + 1, hik, hn => by
    have h5 := hx.2.2.2.2.1
    have e1 : xs[i]? = some xs[i] := List.getElem?_eq_getElem (by omega)
    have e2 : ys[i]? = some ys[i] := List.getElem?_eq_getElem (by omega)
    obtain ⟨p1, p2⟩ := hx.2.2.2.2.2 i _ e1
    obtain ⟨q1, q2⟩ := hy.2.2.2.2.2 i _ e2
    rw [fJ21_equals_b9, List.drop_eq_getElem_cons (show i < xs.length by omega), List.drop_eq_getElem_cons (show i < ys.length by omega)]
    refine bd_i rfl (bd_i (hx.2.2.2.1 _) (if_e (nI_ge (by omega) (by omega)) (bd_i (p2 _) (bd_i rfl (bd_i (q2 _) ?_)))))
    by_cases c : xs[i] = ys[i]
    · rw [if_pos (by rw [c]), nI_add, st_cmp hx hy hl k (i + 1) n (by omega) (by omega)]
      by_cases c2 : xs.drop (i + 1) = ys.drop (i + 1)
      · rw [if_pos c2, if_pos (by rw [c, c2])]
      · rw [if_neg c2, if_neg (fun e => c2 (List.cons.inj e).2)]
    · rw [if_neg (fun e => c (sb_inj p1 q1 e)), if_neg (fun e => c (List.cons.inj e).1), zg_0]
theorem J1_St_eq {l : Launch} {G : gG} (hG : kDis G) : J_nSt_eq l G (rN G) := by
  intro a v S r S2 C N h
  unfold nSt_eq at h
  obtain ⟨⟨mc, cap, xs⟩, h1, g9⟩ := bdo h
  clear h
  obtain ⟨b, hv, h⟩ := bdo g9
  clear g9
  obtain ⟨⟨mcb, capb, ys⟩, h2, g9⟩ := bdo h
  clear h
  have h := g9
  clear g9
  subst hv
  cases h
  refine met_up fun M hR => ⟨M, hR, ?_⟩
  obtain ⟨own, hW⟩ := hR
  obtain ⟨o1, hx⟩ := st_view hG hW (adt_T h1)
  obtain ⟨o2, hy⟩ := st_view hG hW (adt_T h2)
  try dsimp only at hx hy
  refine gMet_room (mJ9_equals rP_ok ?_) (by decide) (by decide)
  unfold fJ9_equals
  by_cases cab : a = b
  · subst cab
    have : xs = ys := by
      have e1 := adt_T h1
      rw [adt_T h2] at e1
      simp at e1
      exact e1.2.2.symm
    rw [if_pos this]
    exact if_i rfl (zg_1 _)
  · refine if_e (fun e => cab (Option.some.inj e)) (bd_i rfl (bd_i (hy.2.2.1 _) (if_e (by decide) (bd_i (hy.2.2.1 _) (if_e (by decide) (bd_i (hx.2.1 _) (bd_i (hy.2.1 _) (if_i rfl ?_))))))))
    unfold fJ9_equals_b36
    refine bd_i (hx.1 _) (bd_i rfl (bd_i (hy.1 _) (gb_0 (x := if xs = ys then nI 1 else nI 0) (S := (M, S.2)) ?_ ?_)))
    · unfold fJ21_equals
      have h5 := hx.2.2.2.2.1
      have h6 := hy.2.2.2.2.1
      refine bd_i rfl (bd_i (hx.2.2.2.1 _) (bd_i rfl (bd_i (hy.2.2.2.1 _) ?_)))
      by_cases cl : xs.length = ys.length
      · rw [if_pos (by rw [cl]), show (0 : Nat) = 0 from rfl, st_cmp hx hy cl xs.length 0 FU (by omega) (Nat.lt_of_le_of_lt (by omega) FU_big)]
        rfl
      · rw [if_neg (fun e => cl ((nI_eq (by omega) (by omega)).mp e)), if_neg (fun e => cl (by rw [e])), zg_0]
    · by_cases c : xs = ys
      · rw [if_pos c]
        exact if_e (by decide) (zg_1 _)
      · rw [if_neg c]
        exact if_i (by decide) (zg_0 _)
theorem k_lt {G : gG} {N M : gM} {own : Nat → Option Nat} {nx : Nat} (h : rW G N M own nx) : bK G nx = none ∧ sK G nx = none ∧ bK G (nx + 1) = none := by
  have h10 := h.2.2.2.2.2 10 (Or.inr (Or.inl ⟨by omega, by omega⟩))
  have h11 := h.2.2.2.2.2 11 (Or.inr (Or.inl ⟨by omega, by omega⟩))
  have h12 := h.2.2.2.2.2 12 (Or.inr (Or.inl ⟨by omega, by omega⟩))
  have h3 := h.2.2.2.2.2 3 (Or.inl ⟨by omega, by omega⟩)
  have h4 := h.2.2.2.2.2 4 (Or.inl ⟨by omega, by omega⟩)
  have h5 := h.2.2.2.2.2 5 (Or.inl ⟨by omega, by omega⟩)
  refine ⟨?_, ?_, ?_⟩
  · unfold bK; rw [if_neg (by omega), if_neg (by omega), if_neg (by omega)]
  · unfold sK; rw [if_neg (by omega), if_neg (by omega), if_neg (by omega)]
  · unfold bK; rw [if_neg (by omega), if_neg (by omega), if_neg (by omega)]
theorem e_nwa {β : Type} {M : gM} {nx i : Nat} {k : gS → gO β} {Sf : gS} {r : β} {c2 n2 C N : Nat} (hi : i ≤ 100000) (h : k (gup M nx (cAi 2 i (fun _ => 0)), nx + 1) = some (r, Sf, c2, n2)) (hC : C = 1 + c2) (hN : N = i + n2) : nwa (M, nx) 2 (nI i) k = some (r, Sf, C, N) := by
  have e1 := nI_clamp (n := i) (by omega)
  unfold nwa
  rw [if_neg (by rw [e1]; intro z; rcases z with z | z; exact nI_pos (by omega) z; omega), if_neg (by decide)]
  unfold nw
  rw [e1]
  exact ad_i h hC hN
theorem fit0 : fits .byte (.int 0) = true := by decide
theorem J1_SB_init {l : Launch} {G : gG} : J_nSB_init l G (rN G) := by
  intro a S r S2 C N h
  unfold nSB_init at h
  obtain ⟨u, h1, g9⟩ := bdo h
  clear h
  have h := g9
  clear g9
  have h0 := fresh_o h1
  cases h
  refine met_up fun M hR => ?_
  obtain ⟨own, hW⟩ := hR
  obtain ⟨hMa, hoa⟩ := hW.1 a _ h0
  have halt : a < S.2 := hW.2.2.2.2.1 a (by rw [h0]; simp)
  have hne : a ≠ S.2 := by omega
  refine ⟨gup (gup (gup M S.2 (cAi 2 16 (fun _ => 0))) a (cO 19 [.ref S.2, .int 0, .int 0, .int 0])) a (cO 19 [.ref S.2, .int (nI 0), .int 0, .int 0]), ob_set (q2 := (4, 0, 16, [])) hW h0 (by decide) [S.2] (Nat.le_succ _) (by simpa using hne) (fun c hc => by rw [List.mem_singleton.mp hc]; exact ⟨Nat.le_refl _, Nat.lt_succ_self _⟩) (fun c hc hca => by rw [gup_n _ _ hca, gup_n _ _ hca, gup_n _ _ (by omega)]) ⟨S.2, fun _ => 0, 0, gup_s _ _ _, ownU_in (by simp), (k_lt hW).1, by rw [gup_n _ _ (Ne.symm hne), gup_n _ _ (Ne.symm hne), gup_s], Nat.zero_le _, by decide, fun _ => fit0, fun i x hx => by cases hx⟩, gMet_room (mJ15_init (r2 := ()) rP_ok ?_) (by decide) (by decide)⟩
  unfold fJ15_init fJ14_init_c19
  refine gb_i (x := ()) (c := 1) (n := 16) (c2 := 0) (n2 := 0) (if_e (by decide) (e_nwa (i := 16) (by omega) (c2 := 0) (n2 := 0) ?_ rfl rfl)) rfl rfl rfl
  exact bd_i (e_wr [.ref S.2, .int 0, .int 0, .int 0] ((gup_n _ _ hne).trans hMa) (by simp) rfl) (bd_i (e_wr [.ref S.2, .int (nI 0), .int 0, .int 0] (gup_s _ _ _) (by simp) rfl) rfl)
theorem sb_at2 {G : gG} {N M : gM} {own : Nat → Option Nat} {nx a cap : Nat} {mc : Int32} {xs : List Nat} (h : rW G N M own nx) (ha : N a = some (cT 4 mc cap xs)) : ∃ (o : Nat) (f : Nat → Int32) (ml : Int32), M a = some (cO 19 [.ref o, .int 0, .int ml, .int (nI xs.length)]) ∧ own o = some a ∧ bK G o = none ∧ M o = some (cAi 2 cap f) ∧ xs.length ≤ cap ∧ cap ≤ 4000 ∧ rowB f xs ∧ own a = none ∧ a < nx ∧ o ≠ a ∧ o < nx := by
  obtain ⟨h1, h2⟩ := h.2.2.1 a _ ha
  obtain ⟨o, f, ml, k1, k2, k3, k4, k5, k6, k7⟩ := (show rSB G M own a cap xs from h1)
  exact ⟨o, f, ml, k1, k2, k3, k4, k5, k6, k7, h2, h.2.2.2.2.1 a (by rw [ha]; simp), (fun e => by rw [e, h2] at k2; cases k2), h.2.2.2.1 o a k2⟩
theorem J1_SB_len {l : Launch} {G : gG} : J_nSB_len l G (rN G) := by
  intro a S r S2 C N h
  unfold nSB_len at h
  obtain ⟨⟨mc, cap, xs⟩, h1, h2⟩ := bdo h
  cases h2
  refine met_up fun M hR => ⟨M, hR, ?_⟩
  obtain ⟨own, hW⟩ := hR
  obtain ⟨o, f, ml, h3, -⟩ := sb_at2 hW (adt_T h1)
  refine gMet_room (mJ15_length rP_ok ?_) (by decide) (by decide)
  unfold fJ15_length fJ14_length_c19
  exact bd_i (e_chk h3) (gb_0 (bd_i (e_rdI h3 rfl) rfl) rfl)
theorem e_lenB {G : gG} {M : gM} {nx o cap : Nat} {f : Nat → Int32} (ho : bK G o = none) (h : M o = some (cAi 2 cap f)) : lenB G (M, nx) o = some (nI cap) := by simp [lenB, ho, lenT, h]
theorem e_cpyK {G : gG} {M : gM} {nx o o1 n0 n1 n : Nat} {f g : Nat → Int32} (ho : bK G o = none) (h0 : M o = some (cAi 2 n0 f)) (h1 : M o1 = some (cAi 2 n1 g)) (hs : n ≤ n0) (hd : n ≤ n1) (hn0 : n0 < 2 ^ 31) (hn1 : n1 < 2 ^ 31) (hf : ∀ i, fits .byte (.int (f i)) = true) : cpyK G (M, nx) o (nI 0) o1 (nI 0) (nI n) = some (gup M o1 (cAi 2 n1 (va_cpy f g 0 0 n)), nx) := by
  have e1 := nI_clamp (n := 0) (by omega)
  have e3 := nI_clamp (n := n) (by omega)
  simp only [cpyK, ho, cpyB, h0, h1, e1, e3]
  rw [if_pos]
  refine ⟨by decide, trivial, trivial, nI_pos (by omega), nI_pos (by omega), nI_pos (by omega), by omega, by omega, List.all_eq_true.mpr fun i _ => ?_⟩
  exact hf _
theorem sb_isL {G : gG} {M : gM} {nx a : Nat} {v : Value} {ml n : Int32} (h : M a = some (cO 19 [v, .int 0, .int ml, .int n])) : fJ14_isLatin1_c19 G a (M, nx) = some (nI 1, (M, nx), 0, 0) := by
  unfold fJ14_isLatin1_c19
  exact if_e (by decide) (bd_i (e_rdI h rfl) (if_i rfl (zg_1 _)))
/-- room for so many letters -/
theorem sb_ens {G : gG} {M : gM} {nx a o cap need : Nat} {ml cnt : Int32} {f : Nat → Int32} {xs : List Nat} (h : M a = some (cO 19 [.ref o, .int 0, .int ml, .int cnt])) (hob : bK G o = none) (ho : M o = some (cAi 2 cap f)) (hr : rowB f xs) (hx : xs.length ≤ cap) (ha : a < nx) (hon : o < nx) (hoa : o ≠ a) (hnx : bK G nx = none) (hc : cap ≤ 4000) (hn : need ≤ 1000) :
    ∃ (M2 : gM) (o2 : Nat) (f2 : Nat → Int32), fJ14_ensureCapacityInternal_c19 G a (nI need) (M, nx) = some ((), (M2, nx + (sbGrow cap need).2.1), (sbGrow cap need).2.1, (sbGrow cap need).2.2) ∧ M2 a = some (cO 19 [.ref o2, .int 0, .int ml, .int cnt]) ∧ M2 o2 = some (cAi 2 (sbGrow cap need).1 f2) ∧ rowB f2 xs ∧ bK G o2 = none ∧ o2 ≠ a ∧ (o2 = o ∨ (nx ≤ o2 ∧ o2 < nx + (sbGrow cap need).2.1)) ∧ need ≤ (sbGrow cap need).1 ∧ (sbGrow cap need).1 ≤ 4000 ∧ ∀ b, b < nx → b ≠ a → b ≠ o → M2 b = M b := by
  by_cases c : need ≤ cap
  · have eg : sbGrow cap need = (cap, 0, 0) := if_pos c
    rw [eg]
    refine ⟨M, o, f, ?_, h, ho, hr, hob, hoa, Or.inl rfl, c, hc, fun b _ _ _ => rfl⟩
    unfold fJ14_ensureCapacityInternal_c19
    refine bd_i (e_rdR (some o) h rfl) (bd_i rfl (bd_i (e_lenB hob ho) (bd_i (e_rdI h rfl) ?_)))
    rw [sb_shr0]
    refine if_i ?_ rfl
    by_cases c2 : need = cap
    · rw [c2, pk_sub (Nat.le_refl _), Nat.sub_self]; decide
    · exact Int32.le_of_lt (pk_sneg (by omega) (by omega))
  · have eg : sbGrow cap need = (sb_cap need cap, 1, sb_cap need cap) := if_neg c
    rw [eg]
    have hcap : sb_cap need cap = cap + max (need - cap) (cap + 2) := by
      unfold sb_cap
      rw [if_neg c]
      split
      · rw [Nat.max_eq_left (by omega)]; omega
      · rw [Nat.max_eq_right (by omega)]; omega
    have hcl : cap + max (need - cap) (cap + 2) ≤ 2002 := by
      rcases Nat.le_total (need - cap) (cap + 2) with q | q
      · rw [Nat.max_eq_right q]; omega
      · rw [Nat.max_eq_left q]; omega
    have hcg : need ≤ cap + max (need - cap) (cap + 2) := by
      have := Nat.le_max_left (need - cap) (cap + 2)
      omega
    have hcg2 : cap < cap + max (need - cap) (cap + 2) := by
      have := Nat.le_max_right (need - cap) (cap + 2)
      omega
    rw [hcap]
    have hane : a ≠ nx := by omega
    have hone : o ≠ nx := by omega
    generalize hcc : cap + max (need - cap) (cap + 2) = cap2 at *
    refine ⟨gup (gup M nx (cAi 2 cap2 (va_cpy f (fun _ => 0) 0 0 cap))) a (cO 19 [.ref nx, .int 0, .int ml, .int cnt]), nx, va_cpy f (fun _ => 0) 0 0 cap, ?_, gup_s _ _ _, (gup_n _ _ (Ne.symm hane)).trans (gup_s _ _ _), ⟨fun i => ?_, fun i x hx2 => ?_⟩, hnx, Ne.symm hane, Or.inr ⟨Nat.le_refl _, Nat.lt_succ_self _⟩, hcg, by omega, fun b hb hba hbo => by rw [gup_n _ _ hba, gup_n _ _ (by omega)]⟩
    · unfold fJ14_ensureCapacityInternal_c19
      refine bd_i (e_rdR (some o) h rfl) (bd_i rfl (bd_i (e_lenB hob ho) (bd_i (e_rdI h rfl) ?_)))
      rw [sb_shr0, pk_sub (by omega)]
      refine if_e (nI_nle (by omega) (by omega)) (bd_i (e_rdR (some o) h rfl) (bd_i (e_chk h) (gb_0 (x := nI cap2) (S := (M, nx)) ?_ (bd_i (e_rdI h rfl) ?_))))
      · unfold fJ14_newCapacity_c19
        refine bd_i (e_rdR (some o) h rfl) (bd_i rfl (bd_i (e_lenB hob ho) (bd_i (e_rdI h rfl) (bd_i (e_rdI h rfl) (gb_0 (x := nI cap2) (S := (M, nx)) ?_ (if_e (fun e => ?_) (bd_i (e_rdI h rfl) ?_)))))))
        · unfold fJ17_newLength
          rw [sb_shl0, sb_shl0, pk_sub (by omega), nI_add, nI_max (by omega) (by omega), nI_add, hcc]
          exact if_e (nI_nle (by omega) (by omega)) (if_e (nI_nlt (by omega) (by decide)) rfl)
        · have := (nI_eq (by omega) (by decide)).mp e
          omega
        · rw [sb_shr0]
      · rw [sb_shl0]
        refine gb_i (x := some nx) (S := (gup M nx (cAi 2 cap2 (va_cpy f (fun _ => 0) 0 0 cap)), nx + 1)) (c := 1) (n := cap2) (c2 := 0) (n2 := 0) ?_ (bd_i (e_wr [.ref nx, .int 0, .int ml, .int cnt] ((gup_n _ _ hane).trans h) (by simp) rfl) rfl) rfl rfl
        unfold fJ19_copyOf
        refine bd_i rfl (bd_i (e_lenB hob ho) (if_e (fun e => ?_) (e_nwa (by omega) (c2 := 0) (n2 := 0) (bd_i (e_lenB hob ((gup_n _ _ hone).trans ho)) ?_) rfl rfl)))
        · have := (nI_eq (by omega) (by omega)).mp e
          omega
        · have em : (if nI cap2 < nI cap then nI cap2 else nI cap) = nI cap := if_neg (nI_nlt (by omega) (by omega))
          rw [em]
          refine bd_i (e_cpyK hob ((gup_n _ _ hone).trans ho) (gup_s _ _ _) (Nat.le_refl _) (by omega) (by omega) (by omega) hr.1) ?_
          rw [gup_gup]
    · unfold va_cpy
      split
      · exact hr.1 _
      · exact fit0
    · have hi := (List.getElem?_eq_some_iff.mp hx2).1
      rw [pk_cpy_in (Nat.zero_le _) (by omega), Nat.zero_add, Nat.sub_zero]
      exact hr.2 i x hx2
theorem sb_set {G : gG} {N M M2 : gM} {own : Nat → Option Nat} {nx nx2 a cap cap2 o2 : Nat} {mc mc2 ml : Int32} {xs xs2 : List Nat} {f2 : Nat → Int32} (h : rW G N M own nx) (ha : N a = some (cT 4 mc cap xs)) (hnx : nx ≤ nx2) (ho : own o2 = some a ∨ (nx ≤ o2 ∧ o2 < nx2)) (hb : bK G o2 = none) (hMa : M2 a = some (cO 19 [.ref o2, .int 0, .int ml, .int (nI xs2.length)])) (hMo : M2 o2 = some (cAi 2 cap2 f2)) (hl : xs2.length ≤ cap2) (hc : cap2 ≤ 4000) (hr : rowB f2 xs2) (hfr : ∀ b, b < nx → b ≠ a → own b ≠ some a → M2 b = M b) : rN G (gup N a (cT 4 mc2 cap2 xs2)) M2 nx2 := by
  obtain ⟨o, f, ml', -, -, -, -, -, -, -, hoa, halt, -, -⟩ := sb_at2 h ha
  have hane : a ≠ o2 := fun e => by
    rcases ho with q | q
    · rw [← e, hoa] at q; cases q
    · omega
  refine ⟨_, rN_set (q2 := (4, mc2, cap2, xs2)) h [o2] hnx (by omega) hoa (by simpa using hane) (fun q hq => ?_) (fun c hc => by rw [ha] at hc; cases hc) (fun c hc => by rw [ha] at hc; cases hc) (fun b hb => by rw [List.mem_singleton.mp hb]; exact ho) hfr ⟨o2, f2, ml, hMa, ownU_in (by simp), hb, hMo, hl, hc, hr⟩⟩
  rw [ha] at hq
  cases hq
  exact ⟨rfl, fun e => by cases e⟩
theorem J1_SB_addC {l : Launch} {G : gG} : J_nSB_addC l G (rN G) := by
  intro a ch S r S2 C N h
  unfold nSB_addC at h
  obtain ⟨⟨mc, cap, xs⟩, h1, g9⟩ := bdo h
  clear h
  have h := g9
  clear g9
  try dsimp only at h
  split at h
  next hc =>
    obtain ⟨hc0, hc1, hlen⟩ := hc
    cases h
    have ha := adt_T h1
    obtain ⟨j, hj, rfl⟩ := nI_of (x := ch) (fun e => by
      have h1 := Int32.le_iff_toInt_le.mp hc0
      have h2 := Int32.lt_iff_toInt_lt.mp e
      omega)
    have hj2 : j < 256 := (nI_ltI hj (by decide)).mp hc1
    rw [nI_clamp hj]
    refine met_up fun M hR => ?_
    obtain ⟨own, hW⟩ := hR
    obtain ⟨o, f, ml, h3, h4, h5, h6, h7, h8, h9, hoa, halt, hone, hon⟩ := sb_at2 hW ha
    try dsimp only at h3 h7 h9
    obtain ⟨M2, o2, f2, q1, q2, q3, q4, q5, q6, q7, q8, q9, q10⟩ := sb_ens (G := G) (nx := S.2) (need := xs.length + 1) h3 h5 h6 h9 h7 halt hon hone (k_lt hW).1 h8 (by omega)
    have ho2 : own o2 = some a ∨ (S.2 ≤ o2 ∧ o2 < S.2 + (sbGrow cap (xs.length + 1)).2.1) := by
      rcases q7 with e | e
      · rw [e]; exact Or.inl h4
      · exact Or.inr e
    refine ⟨gup (gup M2 a (cO 19 [.ref o2, .int 0, .int ml, .int (nI (xs.length + 1))])) o2 (cAi 2 (sbGrow cap (xs.length + 1)).1 (upd f2 xs.length (narK 2 (nI j).toInt8.toInt32))), sb_set hW ha (Nat.le_add_right _ _) ho2 q5 (xs2 := xs ++ [j]) (by rw [gup_n _ _ (Ne.symm q6), gup_s, List.length_append]; rfl) (gup_s _ _ _) (by simp; exact q8) q9 ⟨fun i => ?_, fun i x hx => ?_⟩ (fun b hbn hb hob => ?_), gMet_room (mJ15_append_3 rP_ok (r2 := some a) ?_) (by decide) (by decide)⟩
    · by_cases c : i = xs.length
      · subst c
        rw [pk_us]
        show fits .byte (.int (vp_nar .byte (nI j).toInt8.toInt32)) = true
        rw [pk_vb]
        exact pk_fb _
      · rw [pk_un c]; exact q4.1 i
    · have hi := (List.getElem?_eq_some_iff.mp hx).1
      rw [List.length_append, List.length_singleton] at hi
      by_cases c : i = xs.length
      · subst c
        have hx2 : x = j := by simpa using hx.symm
        subst hx2
        rw [pk_us]
        exact ⟨hj2, pk_vb _⟩
      · rw [List.getElem?_append_left (by omega)] at hx
        rw [pk_un c]
        exact q4.2 i x hx
    · have hbo : b ≠ o2 := fun e => by
        rcases ho2 with k | k
        · rw [← e] at k; exact hob k
        · omega
      rw [gup_n _ _ hbo, gup_n _ _ hb, q10 b hbn hb (fun e => hob (by rw [e]; exact h4))]
    · have hl1 : xs.length < (sbGrow cap (xs.length + 1)).1 := by omega
      unfold fJ15_append_3 fJ14_append_3_c19
      refine bd_i (e_chk h3) (gb_i (x := some a) (c2 := 0) (n2 := 0) (bd_i (e_rdI h3 rfl) (bd_i (e_chk h3) ?_)) rfl rfl rfl)
      rw [nI_add]
      refine gb_i (c2 := 0) (n2 := 0) q1 (bd_i (e_chk q2) (gb_0 (sb_isL q2) (if_e (by decide) (gb_0 (x := nI 1) (S := (M2, S.2 + (sbGrow cap (xs.length + 1)).2.1)) ?_ (if_e (by decide) (bd_i (e_rdR (some o2) q2 rfl) (bd_i (e_rdI q2 rfl) ?_))))))) rfl rfl
      · unfold fJ21_canEncode
        exact if_e (nI_nlt (by omega) (by omega)) (zg_1 _)
      · rw [nI_add]
        refine bd_i (e_wr [.ref o2, .int 0, .int ml, .int (nI (xs.length + 1))] q2 (by simp) rfl) (bd_i rfl (bd_i (x := (gup (gup M2 a (cO 19 [.ref o2, .int 0, .int ml, .int (nI (xs.length + 1))])) o2 (cAi 2 (sbGrow cap (xs.length + 1)).1 (upd f2 xs.length (narK 2 (nI j).toInt8.toInt32))), S.2 + (sbGrow cap (xs.length + 1)).2.1)) ?_ rfl))
        have e1 := nI_in hl1 (show (sbGrow cap (xs.length + 1)).1 < 2 ^ 31 by omega)
        have e2 := nI_clamp (n := xs.length) (by omega)
        have e3 : (gup M2 a (cO 19 [.ref o2, .int 0, .int ml, .int (nI (xs.length + 1))])) o2 = some (cAi 2 (sbGrow cap (xs.length + 1)).1 f2) := (gup_n _ _ q6).trans q3
        simp only [wrAn, e3]
        rw [if_pos ⟨trivial, e1⟩, e2]
  next => cases h
theorem J1_SB_addS {l : Launch} {G : gG} : J_nSB_addS l G (rN G) := by
  intro a v S r S2 C N h
  unfold nSB_addS at h
  obtain ⟨⟨mc, cap, xs⟩, h1, g9⟩ := bdo h
  clear h
  have h := g9
  clear g9
  try dsimp only at h
  split at h
  next hv =>
    subst hv
    cases h
    refine met_up fun M hR => ⟨M, hR, ?_⟩
    obtain ⟨own, hW⟩ := hR
    obtain ⟨o, f, ml, h3, h4, h5, h6, h7, h8, h9, hoa, halt, hone, hon⟩ := sb_at2 hW (adt_T h1)
    try dsimp only at h3 h6 h7 h8 h9
    have hs : sK G (G.2.2.1 3) = some 0 := if_pos rfl
    have hb : bK G (G.2.2.1 10) = some 0 := if_pos rfl
    have hst : stV G M (G.2.2.1 3) (G.2.2.1 10) [] := ⟨fun n => by simp [strV, hs], fun n => by simp [strC, hs], fun n => by simp [chS, hs], fun n => by simp [lenB, hb]; rfl, by decide, fun i x hx => by cases hx⟩
    have hcpy : ∀ n, cpyK G (M, n) (G.2.2.1 10) (nI 0) o (nI xs.length) (nI 0) = some (M, n) := fun n => by
      have e1 := nI_clamp (n := 0) (by omega)
      have e2 := nI_clamp (n := xs.length) (by omega)
      simp only [cpyK, hb, h6, e1, e2]
      rw [if_pos]
      · have e3 : va_cpy (fun j => (gStrByt.getD 0 []).getD j 0) f 0 xs.length 0 = f := by
          funext i
          rw [pk_cpy_out (by omega)]
        rw [e3, gup_same h6]
      · exact ⟨trivial, nI_pos (by omega), nI_pos (by omega), nI_pos (by omega), Nat.zero_le _, by omega, rfl⟩
    refine gMet_room (mJ15_append rP_ok (r2 := some a) ?_) (by decide) (by decide)
    unfold fJ15_append fJ14_append_c19
    refine bd_i (e_chk h3) (gb_0 (x := some a) (S := (M, S.2)) (if_e (by simp) (bd_i rfl (bd_i (hst.2.2.1 _) (gb_0 (e_slen hst) (bd_i (e_rdI h3 rfl) (bd_i (e_chk h3) (gb_0 (x := ()) (S := (M, S.2)) ?_ (bd_i (e_rdI h3 rfl) (bd_i (e_chk h3) (gb_0 (x := ()) (S := (M, S.2)) ?_ (bd_i (e_rdI h3 rfl) ?_))))))))))) rfl)
    · show fJ14_ensureCapacityInternal_c19 G a (nI xs.length + nI 0) (M, S.2) = _
      rw [nI_add, Nat.add_zero]
      unfold fJ14_ensureCapacityInternal_c19
      refine bd_i (e_rdR (some o) h3 rfl) (bd_i rfl (bd_i (e_lenB h5 h6) (bd_i (e_rdI h3 rfl) ?_)))
      rw [sb_shr0]
      refine if_i ?_ rfl
      by_cases c2 : xs.length = cap
      · rw [c2, pk_sub (Nat.le_refl _), Nat.sub_self]; decide
      · exact Int32.le_of_lt (pk_sneg (by omega) (by omega))
    · unfold fJ14_putStringAt_c19
      refine bd_i (e_chk h3) (gb_0 (x := ()) (S := (M, S.2)) ?_ (bd_i (e_rdR (some o) h3 rfl) (bd_i (e_rdI h3 rfl) (bd_i rfl (bd_i (hst.2.2.1 _) (gb_0 (x := ()) (S := (M, S.2)) ?_ rfl))))))
      · unfold fJ14_inflateIfNeededFor_c19
        exact if_e (by decide) (bd_i (e_rdI h3 rfl) (bd_i rfl (bd_i (hst.2.2.1 _) (gb_0 (e_coder hst) (if_i rfl rfl)))))
      · unfold fJ9_getBytes
        refine bd_i (hst.2.2.1 _) (gb_0 (e_coder hst) (if_i rfl (bd_i (hst.1 _) (bd_i (hst.1 _) (bd_i rfl (bd_i (hst.2.2.2.1 _) (bd_i rfl (bd_i rfl ?_))))))))
        rw [sb_shl0]
        exact bd_i (hcpy _) rfl
    · show bd (wr (M, S.2) a 19 3 (.int (nI xs.length + nI 0))) _ = _
      rw [nI_add, Nat.add_zero]
      refine bd_i (e_wr [.ref o, .int 0, .int ml, .int (nI xs.length)] h3 (by simp) rfl) ?_
      rw [gup_same h3]
  next => cases h
theorem J1_SB_str {l : Launch} {G : gG} : J_nSB_str l G (rN G) := by
  intro a S r S2 C N h
  unfold nSB_str at h
  obtain ⟨⟨mc, cap, xs⟩, h1, g9⟩ := bdo h
  clear h
  have h := g9
  clear g9
  cases h
  refine met_up fun M hR => ?_
  obtain ⟨own, hW⟩ := hR
  have ha := adt_T h1
  obtain ⟨o, f, ml, h3, h4, h5, h6, h7, h8, h9, hoa, halt, hone, hon⟩ := sb_at2 hW ha
  try dsimp only at h3 h6 h7 h8 h9
  obtain ⟨hk1, hk2, hk3⟩ := k_lt hW
  have hane : a ≠ S.2 := by omega
  have hone2 : o ≠ S.2 := by omega
  have hNn : S.1 S.2 = none := by
    cases hq : S.1 S.2 with
    | none => rfl
    | some c => exact absurd (hW.2.2.2.2.1 S.2 (by rw [hq]; simp)) (Nat.lt_irrefl _)
  have hN : ∀ c, S.1 S.2 ≠ some c := fun c hc => by rw [hNn] at hc; cases hc
  obtain ⟨f2, hf2, hrun⟩ : ∃ f2 : Nat → Int32, rowB f2 xs ∧ fJ19_copyOfRange G (some o) (nI 0) (nI xs.length) (gup (gup M S.2 (cO 25 [.null, .int 0, .int 0, .int 0])) S.2 (cO 25 [.null, .int (nI 0), .int 0, .int 0]), S.2 + 1) = some (some (S.2 + 1), (gup (gup (gup M S.2 (cO 25 [.null, .int 0, .int 0, .int 0])) S.2 (cO 25 [.null, .int (nI 0), .int 0, .int 0])) (S.2 + 1) (cAi 2 xs.length f2), S.2 + 1 + 1), 1, xs.length) := by
    have hMo : (gup (gup M S.2 (cO 25 [.null, .int 0, .int 0, .int 0])) S.2 (cO 25 [.null, .int (nI 0), .int 0, .int 0])) o = some (cAi 2 cap f) := by rw [gup_n _ _ hone2, gup_n _ _ hone2, h6]
    by_cases c : xs.length = cap
    · refine ⟨f, h9, ?_⟩
      unfold fJ19_copyOfRange clnB
      refine if_i (by decide) (bd_i rfl (bd_i (e_lenB h5 hMo) (if_i (by rw [c]) ?_)))
      simp only [hMo]
      refine if_i ⟨trivial, List.all_eq_true.mpr fun i _ => h9.1 i⟩ ?_
      unfold nw
      rw [← c]
      refine ad_i (c2 := 0) (n2 := 0) (bd_i (x := ()) ?_ rfl) rfl rfl
      simp [ckA, knd, mk, gup_s, bd]
    · refine ⟨va_cpy f (fun _ => 0) 0 0 xs.length, ⟨fun i => ?_, fun i x hx => ?_⟩, ?_⟩
      · unfold va_cpy
        split
        · exact h9.1 _
        · exact fit0
      · have hi := (List.getElem?_eq_some_iff.mp hx).1
        rw [pk_cpy_in (Nat.zero_le _) (by omega), Nat.zero_add, Nat.sub_zero]
        exact h9.2 i x hx
      · have hone3 : o ≠ S.2 + 1 := by omega
        unfold fJ19_copyOfRange
        refine if_i (by decide) (bd_i rfl (bd_i (e_lenB h5 hMo) (if_e (fun e => c ((nI_eq (by omega) (by omega)).mp e)) ?_)))
        unfold fJ19_copyOfRange_b10 fJ19_copyOfRangeByte
        refine gb_i (c2 := 0) (n2 := 0) (x := some (S.2 + 1)) (gb_0 (x := ()) (S := (gup (gup M S.2 (cO 25 [.null, .int 0, .int 0, .int 0])) S.2 (cO 25 [.null, .int (nI 0), .int 0, .int 0]), S.2 + 1)) ?_ ?_) rfl rfl rfl
        · unfold fJ19_checkLength
          exact if_i (nI_le (Nat.zero_le _) (by omega)) rfl
        · rw [pk_sub (Nat.zero_le _), Nat.sub_zero]
          refine e_nwa (by omega) (c2 := 0) (n2 := 0) (bd_i rfl (bd_i (e_lenB h5 ((gup_n _ _ hone3).trans hMo)) ?_)) rfl rfl
          rw [pk_sub (Nat.zero_le _), Nat.sub_zero]
          have em : (if nI xs.length < nI cap then nI xs.length else nI cap) = nI xs.length := if_pos (nI_lt (by omega) (by omega))
          rw [em]
          refine bd_i (e_cpyK h5 ((gup_n _ _ hone3).trans hMo) (gup_s _ _ _) h7 (Nat.le_refl _) (by omega) (by omega) h9.1) ?_
          exact congrArg (fun z => some (some (S.2 + 1), ((z, S.2 + 1 + 1) : gS), 0, 0)) (gup_gup _ (S.2 + 1) _ _)
  have hne1 : S.2 ≠ S.2 + 1 := by omega
  have hl4 : xs.length ≤ 4000 := by omega
  refine ⟨gup (gup (gup (gup M S.2 (cO 25 [.null, .int 0, .int 0, .int 0])) S.2 (cO 25 [.null, .int (nI 0), .int 0, .int 0])) (S.2 + 1) (cAi 2 xs.length f2)) S.2 (cO 25 [.ref (S.2 + 1), .int (nI 0), .int 0, .int 0]), ⟨_, rN_set (q2 := (5, 0, 0, xs)) hW [S.2 + 1] (by omega) (by omega) (own_nx hW (Nat.le_refl _)) (by simp) (fun _ hc => absurd hc (hN _)) (fun c hc => absurd hc (hN _)) (fun c => hN _) (fun b hb => by rw [List.mem_singleton.mp hb]; exact Or.inr ⟨by omega, by omega⟩) (fun b hb _ _ => ?_) (Or.inr ⟨hk2, S.2 + 1, f2, 0, 0, gup_s _ _ _, ownU_in (by simp), hk3, (gup_n _ _ (Ne.symm hne1)).trans (gup_s _ _ _), hl4, hf2⟩)⟩, gMet_room (mJ15_toString (r2 := some S.2) rP_ok ?_) (by decide) (by decide)⟩
  · have hbn : b ≠ S.2 := by omega
    rw [gup_n _ _ hbn, gup_n _ _ (by omega), gup_n _ _ hbn, gup_n _ _ hbn]
  · have hMa : ∀ c, (gup M S.2 c) a = some (cO 19 [.ref o, .int 0, .int ml, .int (nI xs.length)]) := fun c => (gup_n _ _ hane).trans h3
    unfold fJ15_toString nw fJ9_init
    refine ad_i (c2 := 1) (n2 := xs.length) (gb_i (x := ()) (c := 1) (n := xs.length) (c2 := 0) (n2 := 0) (gb_i (x := ()) (c := 1) (n := xs.length) (c2 := 0) (n2 := 0) ?_ rfl rfl rfl) rfl rfl rfl) rfl rfl
    unfold fJ9_init_2
    refine bd_i rfl (bd_i (e_chk (hMa _)) (gb_0 (x := some o) (S := mk (M, S.2) (cO 25 [.null, .int 0, .int 0, .int 0])) (bd_i (e_rdR (some o) (hMa _) rfl) rfl) (bd_i (e_chk (hMa _)) (gb_0 (x := nI xs.length) (S := mk (M, S.2) (cO 25 [.null, .int 0, .int 0, .int 0])) ?_ (bd_i (e_chk (hMa _)) (gb_0 (sb_isL (hMa _)) (if_e (by decide) (bd_i (e_wr [.null, .int (nI 0), .int 0, .int 0] (gup_s _ _ _) (by simp) rfl) (gb_i hrun (c2 := 0) (n2 := 0) (bd_i (e_wr [.ref (S.2 + 1), .int (nI 0), .int 0, .int 0] ((gup_n _ _ hne1).trans (gup_s _ _ _)) (by simp) rfl) rfl) rfl rfl)))))))))
    unfold fJ15_length fJ14_length_c19
    exact bd_i (e_chk (hMa _)) (gb_0 (bd_i (e_rdI (hMa _) rfl) rfl) rfl)
theorem J1_recv {l : Launch} {G : gG} : J_recv l G (rN G) := by
  intro s H S a t q locs hE hH hS ha
  obtain ⟨M, hM, hz, own, hW⟩ := hH
  have hP : hp G rP (M, S.2) H := ⟨M, hM, hz, rfl⟩
  obtain ⟨h1, -⟩ := hW.2.2.1 a _ ha
  obtain ⟨mc, cap, xs⟩ := q
  unfold rep at h1
  try dsimp only at h1
  split at h1
  · obtain ⟨o, k, -⟩ := h1
    exact g_recv hE rP_ok hP (ci := 15) (q := (RJ2, TJ2, 3)) rfl k
  · obtain ⟨ns, k, -⟩ := h1
    exact g_recv hE rP_ok hP (ci := 16) (q := (RJ4, TJ4, 4)) rfl k
  · obtain ⟨cmp, es, o, f, -, k, -⟩ := h1
    exact g_recv hE rP_ok hP (ci := 17) (q := (RJ36, TJ36, 4)) rfl k
  · obtain ⟨hd, o, f, -, -, -, -, k, -⟩ := h1
    exact g_recv hE rP_ok hP (ci := 18) (q := (RJ28, TJ28, 3)) rfl k
  · obtain ⟨o, f, ml, k, -⟩ := h1
    exact g_recv hE rP_ok hP (ci := 19) (q := (RJ15, TJ15, 4)) rfl k
  · refine g_recvS (S := (M, S.2)) hE rP_ok hP hS (u := ()) (if_pos ?_)
    rcases h1 with ⟨i, k, -⟩ | ⟨-, o, f, hh, z, k, -⟩
    · exact Or.inl (by rw [k]; rfl)
    · exact Or.inr (by simp [clsO, k])
  · obtain ⟨b, l, -, -, -, k⟩ := h1
    exact g_recv hE rP_ok hP (ci := 21) (q := (RJ26, TJ26, 4)) rfl k
  · obtain ⟨b, l, ver, la, nx, -, -, -, k, -⟩ := h1
    exact g_recv hE rP_ok hP (ci := 22) (q := (RJ32, TJ32, 5)) rfl k
  · obtain ⟨b, -, -, k⟩ := h1
    exact g_recv hE rP_ok hP (ci := 23) (q := (RJ39, TJ39, 6)) rfl k
  · obtain ⟨b, cap', n, hd, lr, -, -, -, -, -, -, k⟩ := h1
    exact g_recv hE rP_ok hP (ci := 24) (q := (RJ40, TJ40, 4)) rfl k
  · refine g_recvI (S := (M, S.2)) hE rP_ok hP hS (u := ()) (if_pos ?_)
    rcases h1 with ⟨i, k, -⟩ | ⟨-, k⟩
    · exact Or.inl (by rw [k]; rfl)
    · exact Or.inr (by simp [clsO, k])
  · exact h1.elim
theorem jdkN {l : Launch} {G : gG} (hG : kDis G) : JDK l G (rN G) := ⟨J1_recv, J1_AL_init, J1_AL_size, J1_AL_isEmpty, J1_AL_get, J1_AL_add, J1_AL_addAt, J1_AL_addAll, J1_AL_clear, J1_AL_removeI, J1_AL_removeO, J1_AL_iter, J1_LL_init, J1_LL_size, J1_LL_get, J1_LL_addLast, J1_LL_addAll, J1_LL_clear, J1_LL_removeI, J1_LL_removeFirst, J1_LL_iter, J1_PQ_init, J1_PQ_add, J1_PQ_size, J1_PQ_iter, J1_AD_init, J1_AD_addLast, J1_AD_isEmpty, J1_AD_pollFirst, J1_AD_iter, J1_Box, J1_Unbox, J1_St_len hG, J1_St_at hG, J1_St_eq hG, J1_SB_init, J1_SB_len, J1_SB_addC, J1_SB_addS, J1_SB_str, J1_I6_hasNext, J1_I6_next, J1_I6_remove, J1_I7_hasNext, J1_I7_next, J1_I7_remove, J1_I8_hasNext, J1_I8_next, J1_I9_hasNext, J1_I9_next⟩
