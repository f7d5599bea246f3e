/-! ArrayList at the level rN: what the lifted methods do to plain cells is what the operations on abstract things say -/
set_option maxRecDepth 100000
set_option maxHeartbeats 1000000
theorem bd_i {α β : Type} {o : Option α} {k : α → Option β} {x : α} {r : β} (h : o = some x) (h2 : k x = some r) : bd o k = some r := by subst h; exact h2
theorem gb_i {α β : Type} {o : gO α} {k : α → gS → gO β} {x : α} {S Sf : gS} {r : β} {c n c2 n2 C N : Nat} (h : o = some (x, S, c, n)) (h2 : k x S = some (r, Sf, c2, n2)) (hC : C = c + c2) (hN : N = n + n2) : gb o k = some (r, Sf, C, N) := by
  subst h hC hN
  simp [gb, h2]
theorem gb_0 {α β : Type} {o : gO α} {k : α → gS → gO β} {x : α} {S Sf : gS} {r : β} {C N : Nat} (h : o = some (x, S, 0, 0)) (h2 : k x S = some (r, Sf, C, N)) : gb o k = some (r, Sf, C, N) := gb_i h h2 (Nat.zero_add _).symm (Nat.zero_add _).symm
theorem ad_i {β : Type} {o : gO β} {Sf : gS} {r : β} {c n c2 n2 C N : Nat} (h : o = some (r, Sf, c2, n2)) (hC : C = c + c2) (hN : N = n + n2) : ad c n o = some (r, Sf, C, N) := by
  subst h hC hN
  rfl
theorem gup_gup (M : gM) (a : Nat) (c c' : Cel) : gup (gup M a c) a c' = gup M a c' := by
  funext b
  unfold gup
  split <;> rfl
theorem if_i {α : Type} {c : Prop} [Decidable c] {x y : Option α} {r : α} (h : c) (h2 : x = some r) : (if c then x else y) = some r := by rw [if_pos h]; exact h2
theorem if_e {α : Type} {c : Prop} [Decidable c] {x y : Option α} {r : α} (h : ¬ c) (h2 : y = some r) : (if c then x else y) = some r := by rw [if_neg h]; exact h2
theorem zg_1 (S : gS) : zg (nI 1) S = some (nI 1, S, 0, 0) := if_pos (Or.inr rfl)
theorem zg_0 (S : gS) : zg (nI 0) S = some (nI 0, S, 0, 0) := if_pos (Or.inl rfl)
section
variable {G : gG} {M : gM} {nx a o ci k : Nat} {fs : List Value}
theorem e_rdI {x : Int32} (h : M a = some (cO ci fs)) (hk : fs[k]? = some (.int x)) : rdI (M, nx) a ci k = some x := by simp [rdI, rdV, h, hk, toI]
theorem e_rdR (x : Option Nat) (h : M a = some (cO ci fs)) (hk : fs[k]? = some (va_rf x)) : rdR (M, nx) a ci k = some x := by
  cases x <;> simp [rdR, rdV, h, hk, toR, va_rf]
theorem e_wr (fs' : List Value) {v : Value} (h : M a = some (cO ci fs)) (hk : k < fs.length) (e : fs' = fs.set k v) : wr (M, nx) a ci k v = some (gup M a (cO ci fs'), nx) := by
  subst e
  simp [wr, h, hk]
theorem e_chk (h : M a = some (cO ci fs)) : chk (M, nx) a ci = some () := by simp [chk, clsO, h]
theorem e_lenQ0 : lenQ G (M, nx) (G.2.2.1 1) = some (nI 0) := if_pos rfl
theorem e_lenQ {n : Nat} {f : Nat → Option Nat} (ho : o ≠ G.2.2.1 1) (h : M o = some (cAq 5 n f)) : lenQ G (M, nx) o = some (nI n) := by
  unfold lenQ
  rw [if_neg ho]
  simp [lenT, h]
theorem e_rdAq {n i : Nat} {f : Nat → Option Nat} (h : M o = some (cAq 5 n f)) (hi : i < n) (hn : n < 2 ^ 31) : rdAq (M, nx) o 5 (nI i) = some (f i) := by
  have h1 := nI_in hi hn
  have h2 := nI_clamp (n := i) (by omega)
  simp only [rdAq, h]
  rw [if_pos ⟨trivial, h1⟩, h2]
theorem e_wrAq {n i : Nat} {f : Nat → Option Nat} {v : Option Nat} (h : M o = some (cAq 5 n f)) (hi : i < n) (hn : n < 2 ^ 31) : wrAq (M, nx) o 5 (nI i) v = some (gup M o (cAq 5 n (va_up f i v)), nx) := by
  have h1 := nI_in hi hn
  have h2 := nI_clamp (n := i) (by omega)
  simp only [wrAq, h]
  rw [if_pos ⟨trivial, h1⟩, h2]
theorem e_cpyQ {o1 n0 n1 sp dp n : Nat} {f g : Nat → Option Nat} (ho : o ≠ G.2.2.1 1) (h0 : M o = some (cAq 5 n0 f)) (h1 : M o1 = some (cAq 5 n1 g)) (hs : sp + n ≤ n0) (hd : dp + n ≤ n1) (hn0 : n0 < 2 ^ 31) (hn1 : n1 < 2 ^ 31) (hall : ∀ i, i < n → ∀ y, f (sp + i) = some y → anyO G (M, nx) y = true) :
    cpyQ G (M, nx) o (nI sp) o1 (nI dp) (nI n) = some (gup M o1 (cAq 5 n1 (va_cpy f g sp dp n)), nx) := by
  have e1 := nI_clamp (n := sp) (by omega)
  have e2 := nI_clamp (n := dp) (by omega)
  have e3 := nI_clamp (n := n) (by omega)
  unfold cpyQ
  rw [if_neg ho]
  simp only [h0, h1, e1, e2, e3]
  rw [if_pos]
  refine ⟨trivial, trivial, nI_pos (by omega), nI_pos (by omega), nI_pos (by omega), hs, hd, List.all_eq_true.mpr fun i hi => ?_⟩
  have hi' := List.mem_range.mp hi
  cases hf : f (sp + i) with
  | none => rfl
  | some y => exact hall i hi' y hf
theorem e_cpyQ0 {o1 n1 : Nat} {g : Nat → Option Nat} (h1 : M o1 = some (cAq 5 n1 g)) : cpyQ G (M, nx) (G.2.2.1 1) (nI 0) o1 (nI 0) (nI 0) = some (M, nx) := by
  have e1 := nI_clamp (n := 0) (by omega)
  unfold cpyQ
  rw [if_pos rfl]
  simp only [h1, e1]
  rw [if_pos]
  exact ⟨trivial, nI_pos (by omega), nI_pos (by omega), nI_pos (by omega), Nat.le_refl _, Nat.zero_le _⟩
theorem e_nwq {β : Type} {i : Nat} {k : gS → gO β} {Sf : gS} {r : β} {c2 n2 C N : Nat} (hi : i ≤ 100000) (h : k (gup M nx (cAq 5 i (fun _ => none)), nx + 1) = some (r, Sf, c2, n2)) (hC : C = 1 + c2) (hN : N = i + n2) : nwq (M, nx) 5 (nI i) k = some (r, Sf, C, N) := by
  have e1 := nI_clamp (n := i) (by omega)
  unfold nwq
  rw [if_neg (by rw [e1]; intro z; rcases z with z | z; exact nI_pos (by omega) z; omega)]
  unfold nw
  rw [e1]
  exact ad_i h hC hN
theorem anyO_at {M2 : gM} {n2 y : Nat} (h : anyO G (M, nx) y = true) (e : M2 y = M y) : anyO G (M2, n2) y = true := by
  unfold anyO at h ⊢
  rw [show ((M2, n2) : gS).1 y = M2 y from rfl, e]
  exact h
end
/-- what stands in a container is apart from its own cells -/
theorem any_up {G : gG} {N M : gM} {own : Nat → Option Nat} {nx y : Nat} (h : rW G N M own nx) (hy : anyN (N, 0) y = true) : anyO G (M, nx) y = true ∧ y < nx ∧ own y = none := by
  have hlt : y < nx := h.2.2.2.2.1 y (fun e => by simp [anyN, e] at hy)
  cases hc : N y with
  | none => simp [anyN, hc] at hy
  | some c =>
    rcases c with c | c | c
    · obtain ⟨h1, h2⟩ := h.1 y c hc
      refine ⟨?_, hlt, h2⟩
      simp [anyN, hc] at hy
      simp [anyO, h1]
      omega
    · simp [anyN, hc] at hy
    · obtain ⟨h1, h2⟩ := h.2.2.1 y c hc
      refine ⟨?_, hlt, h2⟩
      simp [anyN, hc] at hy
      obtain ⟨t, mc, cap, xs⟩ := c
      dsimp only at hy
      rcases hy with rfl | rfl
      · rcases (show rSt G M own y xs from h1) with ⟨i, h3, -⟩ | ⟨-, o, f, hh, z, h3, -⟩
        · simp [anyO, h3]
        · simp [anyO, h3]
      · rcases (show rInt G M y mc from h1) with ⟨i, h3, -⟩ | ⟨-, h3⟩
        · simp [anyO, h3]
        · simp [anyO, h3]
theorem ownU_in {own : Nat → Option Nat} {a b : Nat} {L : List Nat} (h : b ∈ L) : ownU own a L b = some a := by unfold ownU; rw [if_pos h]
theorem own_nx {G : gG} {N M : gM} {own : Nat → Option Nat} {nx b : Nat} (h : rW G N M own nx) (hb : nx ≤ b) : own b = none := by
  cases hq : own b with
  | none => rfl
  | some c => exact absurd (h.2.2.2.1 b c hq) (by omega)
/-- a list, its row, its elements -/
theorem al_at {G : gG} {N M : gM} {own : Nat → Option Nat} {nx a : Nat} {mc : Int32} {cap : Nat} {xs : List Nat} (h : rW G N M own nx) (ha : N a = some (cT 0 mc cap xs)) : rAL G N M own a mc cap xs ∧ own a = none ∧ a < nx ∧ ∀ y ∈ xs, anyO G (M, nx) y = true ∧ y < nx ∧ own y = none ∧ y ≠ a := by
  obtain ⟨h1, h2⟩ := h.2.2.1 a _ ha
  have h1 : rAL G N M own a mc cap xs := h1
  refine ⟨h1, h2, h.2.2.2.2.1 a (by rw [ha]; simp), fun y hy => ?_⟩
  obtain ⟨o, -, -, -, hall, -⟩ := h1
  have h3 := hall y hy
  obtain ⟨h4, h5, h6⟩ := any_up h h3
  exact ⟨h4, h5, h6, fun e => by rw [e] at h3; simp [anyN, ha] at h3⟩
/-- changing a list: what rN_set asks -/
theorem al_set {G : gG} {N M : gM} {own : Nat → Option Nat} {nx a : Nat} {mc mc2 : Int32} {cap cap2 : Nat} {xs xs2 : List Nat} {nx2 : Nat} {M2 : gM} (h : rW G N M own nx) (ha : N a = some (cT 0 mc cap xs)) (L : List Nat) (hnx : nx ≤ nx2) (haL : a ∉ L) (hL : ∀ b ∈ L, own b = some a ∨ (nx ≤ b ∧ b < nx2)) (hM : ∀ b, b < nx → b ≠ a → own b ≠ some a → M2 b = M b)
    (hrep : rAL G (gup N a (cT 0 mc2 cap2 xs2)) M2 (ownU own a L) a mc2 cap2 xs2) : rN G (gup N a (cT 0 mc2 cap2 xs2)) M2 nx2 := by
  obtain ⟨-, h2, h3, -⟩ := al_at h ha
  refine ⟨_, rN_set (q2 := (0, mc2, cap2, xs2)) h L hnx (by omega) h2 haL (fun q hq => ?_) (fun c hc => by rw [ha] at hc; cases hc) (fun c hc => by rw [ha] at hc; cases hc) hL hM hrep⟩
  rw [ha] at hq
  cases hq
  exact ⟨rfl, fun e => by cases e⟩
theorem allN_set {N : gM} {a : Nat} {c : Cel} {xs : List Nat} (h : allN N xs) (ha : anyN (N, 0) a = false) : allN (gup N a c) xs := by
  intro x hx
  have h1 := h x hx
  have hxa : x ≠ a := fun e => by rw [e, ha] at h1; cases h1
  have e : (gup N a c) x = N x := gup_n N _ hxa
  simpa [anyN, e] using h1
theorem adt_M {S : gS} {a t : Nat} {q : Int32 × Nat × List Nat} (h : adt S a t = some q) : S.1 a = some (cT t q.1 q.2.1 q.2.2) := adt_o h
theorem J1_AL_init {l : Launch} {G : gG} : J_nAL_init l G (rN G) := by
  intro a S r S2 C N h
  unfold nAL_init at h
  obtain ⟨u, h1, h2⟩ := bdo h
  cases h2
  have h0 : S.1 a = some (cO 15 [.int 0, .null, .int 0]) := by
    unfold fresh at h1
    split at h1
    next q hq =>
      split at h1
      next e => rw [hq, e]
      next => cases h1
    next => cases h1
  refine met_up fun M hR => ?_
  obtain ⟨own, hW⟩ := hR
  obtain ⟨hMa, hoa⟩ := hW.1 a _ h0
  refine ⟨gup M a (cO 15 [.int 0, .ref (G.2.2.1 1), .int (nI 0)]), ⟨_, rN_set (q2 := (0, 0, 0, [])) hW [] (Nat.le_refl _) (hW.2.2.2.2.1 a (by rw [h0]; simp)) hoa (by simp) (fun q hq => by rw [h0] at hq; cases hq) (fun c hc => ?_) (fun c hc => by rw [h0] at hc; cases hc) (fun b hb => by cases hb) (fun b hb hba _ => gup_n M _ hba) ?_⟩, gMet_room (mJ2_init (r2 := ()) rP_ok ?_) (by decide) (by decide)⟩
  · simp [anyN, h0]
  · show rAL G _ _ _ a 0 0 []
    refine ⟨G.2.2.1 1, gup_s _ _ _, Nat.le_refl _, by decide, ?_, Or.inl ⟨rfl, rfl⟩⟩
    intro x hx
    cases hx
  · unfold fJ2_init fJ1_init_c15 fJ0_init_c15
    refine gb_0 (gb_0 rfl (bd_i (e_wr [.int 0, .null, .int 0] hMa (by decide) rfl) rfl)) ?_
    refine bd_i (e_wr [.int 0, .ref (G.2.2.1 1), .int (nI 0)] (gup_s _ _ _) (by decide) rfl) ?_
    rw [gup_gup]
    rfl
theorem J1_AL_size {l : Launch} {G : gG} : J_nAL_size l G (rN G) := by
  intro a S r S2 C N h
  unfold nAL_size at h
  obtain ⟨q, h1, h2⟩ := bdo h
  cases h2
  refine met_up fun M hR => ⟨M, hR, ?_⟩
  obtain ⟨own, hW⟩ := hR
  obtain ⟨⟨o, h3, -⟩, -⟩ := al_at hW (adt_M h1)
  exact gMet_room (mJ2_size rP_ok (bd_i (e_rdI h3 rfl) rfl)) (by decide) (by decide)
theorem J1_AL_isEmpty {l : Launch} {G : gG} : J_nAL_isEmpty l G (rN G) := by
  intro a S r S2 C N h
  unfold nAL_isEmpty at h
  obtain ⟨q, h1, h2⟩ := bdo h
  cases h2
  refine met_up fun M hR => ⟨M, hR, ?_⟩
  obtain ⟨own, hW⟩ := hR
  obtain ⟨⟨o, h3, h4, h5, -⟩, -⟩ := al_at hW (adt_M h1)
  refine gMet_room (mJ2_isEmpty rP_ok (bd_i (e_rdI h3 rfl) ?_)) (by decide) (by decide)
  have e := nI_eq (a := q.2.2.length) (b := 0) (by omega) (by omega)
  rw [nI_0] at e
  by_cases c : q.2.2.length = 0
  · rw [if_pos (e.mpr c), if_pos c, zg_1]
  · rw [if_neg (fun z => c (e.mp z)), if_neg c, zg_0]
theorem inr0_o {i : Int32} {n : Nat} (h : inr0 i n = true) (hn : n < 2 ^ 31) : ∃ j : Nat, j < n ∧ i = nI j ∧ i.toNatClampNeg = j := by
  unfold inr0 at h
  simp only [Bool.not_eq_true', Bool.or_eq_false_iff, decide_eq_false_iff_not] at h
  obtain ⟨j, h1, h2⟩ := nI_of h.1
  subst h2
  have e := nI_clamp h1
  rw [e] at h
  exact ⟨j, by omega, rfl, e⟩
theorem e_check {G : gG} {S : gS} {j n : Nat} (h : j < n) (hn : n < 2 ^ 31) : fJ25_checkIndex G (nI j) (nI n) S = some (nI j, S, 0, 0) := by
  unfold fJ25_checkIndex fJ20_checkIndex
  exact gb_0 (if_e (nI_pos (by omega)) (if_i (nI_lt h hn) rfl)) rfl
theorem J1_AL_get {l : Launch} {G : gG} : J_nAL_get l G (rN G) := by
  intro a i S r S2 C N h
  unfold nAL_get at h
  obtain ⟨q, h1, h2⟩ := bdo h
  split at h2
  next hin =>
    cases h2
    refine met_up fun M hR => ⟨M, hR, ?_⟩
    obtain ⟨own, hW⟩ := hR
    obtain ⟨⟨o, h3, h4, h5, h6, h7⟩, -⟩ := al_at hW (adt_M h1)
    obtain ⟨j, hj, rfl, hcl⟩ := inr0_o hin (by omega)
    refine gMet_room (mJ2_get rP_ok ?_) (by decide) (by decide)
    rw [hcl]
    rcases h7 with ⟨-, h7⟩ | ⟨h7, h8, h9, f, h10, h11, h12⟩
    · omega
    · unfold fJ2_get fJ2_elementData
      refine bd_i (e_rdI h3 rfl) (gb_0 (e_check hj (by omega)) (bd_i (e_chk h3) (gb_0 (bd_i (e_rdR (some o) h3 rfl) (bd_i rfl (bd_i (e_rdAq h10 (by omega) (by omega)) rfl))) ?_)))
      rw [h11 j hj]
  next => cases h2
