/-! THE LEVEL of the component: plain cells stand as they are; an abstract thing stands for the cells that it owns.
    rP: the plain level. rN: the component's. rN_set: an abstract thing is changed or made. gMet_up: a contract at the plain level, lifted. -/
set_option maxRecDepth 100000
set_option maxHeartbeats 1000000
def rP (N M : gM) (_ : Nat) : Prop := N = M
theorem rP_ok : rOK rP := by
  refine ⟨fun N M nx a c h e => ?_, fun N M nx a c h e => ?_, fun N M nx a c c' dA h _ _ _ _ => ?_, fun N M nx c' dA h _ => ?_, fun N M nx n h _ => h⟩
  · rw [← show N = M from h]; exact e
  · rw [← show N = M from h]; exact e
  · show gup N a c' = gup M a c'
    rw [show N = M from h]
  · show gup N nx c' = gup M nx c'
    rw [show N = M from h]
/-- the constants whose addresses are known -/
def kcon (i : Nat) : Prop := (1 ≤ i ∧ i ≤ 5) ∨ (10 ≤ i ∧ i ≤ 12) ∨ (200 ≤ i ∧ i < 456)
def allN (N : gM) (xs : List Nat) : Prop := ∀ x ∈ xs, anyN (N, 0) x = true
/-- a row of objects: the elements, then nothing -/
def rowQ (f : Nat → Option Nat) (cap : Nat) (xs : List Nat) : Prop := (∀ i, i < xs.length → f i = xs[i]?) ∧ ∀ i, xs.length ≤ i → i < cap → f i = none
def rAL (G : gG) (N M : gM) (own : Nat → Option Nat) (a : Nat) (mc : Int32) (cap : Nat) (xs : List Nat) : Prop :=
  ∃ o : Nat, M a = some (cO 15 [.int mc, .ref o, .int (nI xs.length)]) ∧ xs.length ≤ cap ∧ cap ≤ 9000 ∧ allN N xs ∧ ((o = G.2.2.1 1 ∧ cap = 0) ∨ (0 < cap ∧ own o = some a ∧ o ≠ G.2.2.1 1 ∧ ∃ f, M o = some (cAq 5 cap f) ∧ rowQ f cap xs))
/-- the nodes of a linked list -/
def llN (M : gM) (own : Nat → Option Nat) (a : Nat) (xs ns : List Nat) : Prop :=
  ns.length = xs.length ∧ ns.Nodup ∧ ∀ i n, ns[i]? = some n → own n = some a ∧ M n = some (cO 20 [va_rf xs[i]?, va_rf ns[i + 1]?, va_rf (if i = 0 then none else ns[i - 1]?)])
def rLL (N M : gM) (own : Nat → Option Nat) (a : Nat) (mc : Int32) (xs ns : List Nat) : Prop :=
  M a = some (cO 16 [.int mc, .int (nI xs.length), va_rf ns[0]?, va_rf ns[ns.length - 1]?]) ∧ xs.length ≤ 9000 ∧ allN N xs ∧ llN M own a xs ns
def rPQ (G : gG) (N M : gM) (own : Nat → Option Nat) (a : Nat) (mc : Int32) (cap : Nat) (xs : List Nat) : Prop :=
  ∃ (cmp : Nat) (es : List Nat) (o : Nat) (f : Nat → Option Nat), xs = cmp :: es ∧ M a = some (cO 17 [.ref o, .int (nI es.length), .ref cmp, .int mc]) ∧ own o = some a ∧ o ≠ G.2.2.1 1 ∧ M o = some (cAq 5 cap f) ∧ rowQ f cap es ∧ es.length ≤ cap ∧ cap = 20 ∧ allN N es
def rAD (G : gG) (N M : gM) (own : Nat → Option Nat) (a : Nat) (hd : Int32) (cap : Nat) (xs : List Nat) : Prop :=
  ∃ (h o : Nat) (f : Nat → Option Nat), hd = nI h ∧ h < cap ∧ xs.length < cap ∧ (cap = 17 ∨ cap = 36) ∧ M a = some (cO 18 [.ref o, .int (nI h), .int (nI ((h + xs.length) % cap))]) ∧ own o = some a ∧ o ≠ G.2.2.1 1 ∧ M o = some (cAq 5 cap f) ∧ (∀ i, i < xs.length → f ((h + i) % cap) = xs[i]?) ∧ (∀ i, xs.length ≤ i → i < cap → f ((h + i) % cap) = none) ∧ allN N xs
/-- letters below 256 as bytes -/
def rowB (f : Nat → Int32) (xs : List Nat) : Prop := (∀ i, fits .byte (.int (f i)) = true) ∧ ∀ i x, xs[i]? = some x → x < 256 ∧ f i = (nI x).toInt8.toInt32
def rSB (G : gG) (M : gM) (own : Nat → Option Nat) (a cap : Nat) (xs : List Nat) : Prop :=
  ∃ (o : Nat) (f : Nat → Int32) (ml : Int32), M a = some (cO 19 [.ref o, .int 0, .int ml, .int (nI xs.length)]) ∧ own o = some a ∧ bK G o = none ∧ M o = some (cAi 2 cap f) ∧ xs.length ≤ cap ∧ cap ≤ 4000 ∧ rowB f xs
def rSt (G : gG) (M : gM) (own : Nat → Option Nat) (a : Nat) (xs : List Nat) : Prop :=
  (∃ i, sK G a = some i ∧ xs = (gStrByt.getD i []).map fun b => b.toNatClampNeg) ∨ (sK G a = none ∧ ∃ (o : Nat) (f : Nat → Int32) (h z : Int32), M a = some (cO 25 [.ref o, .int 0, .int h, .int z]) ∧ own o = some a ∧ bK G o = none ∧ M o = some (cAi 2 xs.length f) ∧ xs.length ≤ 4000 ∧ rowB f xs)
def rI6 (M : gM) (a : Nat) (emc : Int32) (cur : Nat) (xs : List Nat) : Prop := ∃ b l : Nat, xs = [b, l] ∧ cur ≤ 9000 ∧ l ≤ 9000 ∧ M a = some (cO 21 [.int (nI cur), .int (nI l - 1), .int emc, .ref b])
def rI7 (N M : gM) (own : Nat → Option Nat) (a : Nat) (emc : Int32) (cur : Nat) (xs : List Nat) : Prop :=
  ∃ (b l ver : Nat) (la nx : Option Nat), xs = [b, l, ver] ∧ cur ≤ 9000 ∧ l ≤ 9000 ∧ M a = some (cO 22 [va_rf la, va_rf nx, .int (nI cur), .int emc, .ref b]) ∧ ∃ mcb vb es, N b = some (cT 1 mcb vb es) ∧ ver ≤ vb ∧ (ver = vb → emc = mcb ∧ cur ≤ es.length ∧ ∃ ns, rLL N M own b mcb es ns ∧ nx = ns[cur]? ∧ la = if l = 0 then none else ns[l - 1]?)
def rI8 (M : gM) (a : Nat) (emc : Int32) (cur : Nat) (xs : List Nat) : Prop := ∃ b : Nat, xs = [b] ∧ cur ≤ 9000 ∧ M a = some (cO 23 [.int (nI cur), .int (nI cur - 1), .null, .null, .int emc, .ref b])
def rI9 (M : gM) (a : Nat) (hd : Int32) (cur : Nat) (xs : List Nat) : Prop := ∃ (b cap n h : Nat) (lr : Int32), xs = [b, cap, n] ∧ hd = nI h ∧ h < cap ∧ cap ≤ 36 ∧ n < cap ∧ cur ≤ n ∧ M a = some (cO 24 [.int (nI ((h + cur) % cap)), .int (nI (n - cur)), .int lr, .ref b])
def rInt (G : gG) (M : gM) (a : Nat) (v : Int32) : Prop := (∃ j, iK G a = some j ∧ v = vb_c j) ∨ (iK G a = none ∧ M a = some (cO 26 [.int v]))
def rep (G : gG) (N M : gM) (own : Nat → Option Nat) (a : Nat) (q : Nat × Int32 × Nat × List Nat) : Prop := match q.1 with
  | 0 => rAL G N M own a q.2.1 q.2.2.1 q.2.2.2
  | 1 => ∃ ns, rLL N M own a q.2.1 q.2.2.2 ns
  | 2 => rPQ G N M own a q.2.1 q.2.2.1 q.2.2.2
  | 3 => rAD G N M own a q.2.1 q.2.2.1 q.2.2.2
  | 4 => rSB G M own a q.2.2.1 q.2.2.2
  | 5 => rSt G M own a q.2.2.2
  | 6 => rI6 M a q.2.1 q.2.2.1 q.2.2.2
  | 7 => rI7 N M own a q.2.1 q.2.2.1 q.2.2.2
  | 8 => rI8 M a q.2.1 q.2.2.1 q.2.2.2
  | 9 => rI9 M a q.2.1 q.2.2.1 q.2.2.2
  | 10 => rInt G M a q.2.1
  | _ => False
def rW (G : gG) (N M : gM) (own : Nat → Option Nat) (nx : Nat) : Prop :=
  (∀ a c, N a = some (.inl c) → M a = some (.inl c) ∧ own a = none) ∧
  (∀ a c, N a = some (.inr (.inl c)) → M a = some (.inr (.inl c)) ∧ own a = none) ∧
  (∀ a q, N a = some (.inr (.inr q)) → rep G N M own a q ∧ own a = none) ∧
  (∀ b a, own b = some a → b < nx) ∧ (∀ a, N a ≠ none → a < nx) ∧ (∀ i, kcon i → G.2.2.1 i < nx)
def rN (G : gG) (N M : gM) (nx : Nat) : Prop := ∃ own, rW G N M own nx
theorem allN.to {N N2 : gM} {xs : List Nat} (h : allN N xs) (hA : ∀ x, anyN (N, 0) x = true → anyN (N2, 0) x = true) : allN N2 xs := fun x hx => hA x (h x hx)
theorem rLL.to {N M N2 M2 : gM} {own own2 : Nat → Option Nat} {a : Nat} {mc : Int32} {xs ns : List Nat} (h : rLL N M own a mc xs ns) (hA : ∀ x, anyN (N, 0) x = true → anyN (N2, 0) x = true) (hM : M2 a = M a) (hO : ∀ b, own b = some a → own2 b = some a ∧ M2 b = M b) : rLL N2 M2 own2 a mc xs ns := by
  obtain ⟨h1, h2, h3, h4, h5, h6⟩ := h
  refine ⟨hM.trans h1, h2, h3.to hA, h4, h5, fun i n hi => ?_⟩
  obtain ⟨h7, h8⟩ := h6 i n hi
  exact ⟨(hO n h7).1, (hO n h7).2.trans h8⟩
theorem rep_loc {G : gG} {N M N2 M2 : gM} {own own2 : Nat → Option Nat} {a : Nat} {q : Nat × Int32 × Nat × List Nat} (h : rep G N M own a q) (hA : ∀ x, anyN (N, 0) x = true → anyN (N2, 0) x = true) (hM : M2 a = M a) (hO : ∀ b, own b = some a → own2 b = some a ∧ M2 b = M b)
    (h7 : q.1 = 7 → ∀ b mc v xs, N b = some (cT 1 mc v xs) → (N2 b = N b ∧ M2 b = M b ∧ ∀ n, own n = some b → own2 n = some b ∧ M2 n = M n) ∨ (∃ mc' v' xs', v < v' ∧ N2 b = some (cT 1 mc' v' xs'))) : rep G N2 M2 own2 a q := by
  obtain ⟨t, mc, cap, xs⟩ := q
  unfold rep at h ⊢
  dsimp only at h ⊢ h7
  split at h
  · obtain ⟨o, h1, h2, h3, h4, h5⟩ := h
    refine ⟨o, hM.trans h1, h2, h3, h4.to hA, ?_⟩
    rcases h5 with h5 | ⟨h5, h6, h7, f, h8, h9⟩
    · exact Or.inl h5
    · exact Or.inr ⟨h5, (hO o h6).1, h7, f, (hO o h6).2.trans h8, h9⟩
  · obtain ⟨ns, h⟩ := h
    exact ⟨ns, h.to hA hM hO⟩
  · obtain ⟨cmp, es, o, f, h1, h2, h3, h4, h5, h6, h7, h8, h9⟩ := h
    exact ⟨cmp, es, o, f, h1, hM.trans h2, (hO o h3).1, h4, (hO o h3).2.trans h5, h6, h7, h8, h9.to hA⟩
  · obtain ⟨hd, o, f, h1, h2, h3, h4, h5, h6, h7, h8, h9, h10, h11⟩ := h
    exact ⟨hd, o, f, h1, h2, h3, h4, hM.trans h5, (hO o h6).1, h7, (hO o h6).2.trans h8, h9, h10, h11.to hA⟩
  · obtain ⟨o, f, ml, h1, h2, h3, h4, h5, h6, h7⟩ := h
    exact ⟨o, f, ml, hM.trans h1, (hO o h2).1, h3, (hO o h2).2.trans h4, h5, h6, h7⟩
  · rcases h with h | ⟨h0, o, f, hh, z, h1, h2, h3, h4, h5, h6⟩
    · exact Or.inl h
    · exact Or.inr ⟨h0, o, f, hh, z, hM.trans h1, (hO o h2).1, h3, (hO o h2).2.trans h4, h5, h6⟩
  · obtain ⟨b, l, h1, h2, h3, h4⟩ := h
    exact ⟨b, l, h1, h2, h3, hM.trans h4⟩
  · obtain ⟨b, l, ver, la, nx, h1, h2, h3, h4, mcb, vb, es, h5, h6, h8⟩ := h
    refine ⟨b, l, ver, la, nx, h1, h2, h3, hM.trans h4, ?_⟩
    rcases h7 rfl b mcb vb es h5 with ⟨k1, k2, k3⟩ | ⟨mc', v', xs', k1, k2⟩
    · refine ⟨mcb, vb, es, k1.trans h5, h6, fun e => ?_⟩
      obtain ⟨g1, g2, ns, g3, g4, g5⟩ := h8 e
      exact ⟨g1, g2, ns, g3.to hA k2 k3, g4, g5⟩
    · exact ⟨mc', v', xs', k2, by omega, fun e => by omega⟩
  · obtain ⟨b, h1, h2, h3⟩ := h
    exact ⟨b, h1, h2, hM.trans h3⟩
  · obtain ⟨b, cap, n, hd, lr, h1, h2, h3, h4, h5, h6, h7⟩ := h
    exact ⟨b, cap, n, hd, lr, h1, h2, h3, h4, h5, h6, hM.trans h7⟩
  · rcases h with h | ⟨h1, h2⟩
    · exact Or.inl h
    · exact Or.inr ⟨h1, hM.trans h2⟩
  · exact h
/-- the owners behind a change of a's cells: now those of L -/
def ownU (own : Nat → Option Nat) (a : Nat) (L : List Nat) : Nat → Option Nat := fun b => if b ∈ L then some a else if own b = some a then none else own b
theorem rN_set {G : gG} {N M : gM} {own : Nat → Option Nat} {nx : Nat} (h : rW G N M own nx) {a nx2 : Nat} {M2 : gM} {q2 : Nat × Int32 × Nat × List Nat} (L : List Nat) (hnx : nx ≤ nx2) (ha : a < nx2) (hao : own a = none) (haL : a ∉ L)
    (hK : ∀ q, N a = some (.inr (.inr q)) → q.1 = q2.1 ∧ (q.1 = 1 → q.2.2.1 < q2.2.2.1)) (hK2 : ∀ c, N a = some (.inl c) → anyN (N, 0) a = false) (hK3 : ∀ c, N a ≠ some (.inr (.inl c)))
    (hL : ∀ b ∈ L, own b = some a ∨ (nx ≤ b ∧ b < nx2)) (hM : ∀ b, b < nx → b ≠ a → own b ≠ some a → M2 b = M b) (hrep : rep G (gup N a (.inr (.inr q2))) M2 (ownU own a L) a q2) : rW G (gup N a (.inr (.inr q2))) M2 (ownU own a L) nx2 := by
  obtain ⟨h1, h2, h3, h4, h5, h6⟩ := h
  have hA : ∀ x, anyN (N, 0) x = true → anyN (gup N a (.inr (.inr q2)), 0) x = true := by
    intro x hx
    by_cases hxa : x = a
    · subst hxa
      cases hc : N x with
      | none => simp [anyN, hc] at hx
      | some c =>
        rcases c with c | c | c
        · exact absurd hx (by rw [hK2 c hc]; decide)
        · exact absurd hc (hK3 c)
        · have e := (hK c hc).1
          simp [anyN, hc] at hx
          simp [anyN, gup_s, ← e, hx]
    · have e : (gup N a (.inr (.inr q2))) x = N x := gup_n N _ hxa
      simpa [anyN, e] using hx
  have o1 : ∀ b, b < nx → own b = none → b ≠ a → M2 b = M b ∧ ownU own a L b = none := by
    intro b hb ho hne
    refine ⟨hM b hb hne (by rw [ho]; simp), ?_⟩
    unfold ownU
    rw [if_neg, if_neg (by rw [ho]; simp), ho]
    intro hbL
    rcases hL b hbL with e | e
    · rw [ho] at e; cases e
    · omega
  have o2 : ∀ b x, own b = some x → x ≠ a → ownU own a L b = some x ∧ M2 b = M b := by
    intro b x ho hne
    have hb := h4 b x ho
    have hba : b ≠ a := fun e => by rw [e, hao] at ho; cases ho
    refine ⟨?_, hM b hb hba (by rw [ho]; exact fun e => hne (Option.some.inj e))⟩
    unfold ownU
    rw [if_neg, if_neg (by rw [ho]; exact fun e => hne (Option.some.inj e)), ho]
    intro hbL
    rcases hL b hbL with e | e
    · rw [ho] at e; exact hne (Option.some.inj e)
    · omega
  refine ⟨fun x c hx => ?_, fun x c hx => ?_, fun x q hx => ?_, fun b x hb => ?_, fun x hx => ?_, fun i hi => Nat.lt_of_lt_of_le (h6 i hi) hnx⟩
  · have hxa : x ≠ a := fun e => by rw [e, gup_s] at hx; cases hx
    rw [gup_n N _ hxa] at hx
    obtain ⟨k1, k2⟩ := h1 x c hx
    obtain ⟨g1, g2⟩ := o1 x (h5 x (by rw [hx]; simp)) k2 hxa
    exact ⟨g1.trans k1, g2⟩
  · have hxa : x ≠ a := fun e => by rw [e, gup_s] at hx; cases hx
    rw [gup_n N _ hxa] at hx
    obtain ⟨k1, k2⟩ := h2 x c hx
    obtain ⟨g1, g2⟩ := o1 x (h5 x (by rw [hx]; simp)) k2 hxa
    exact ⟨g1.trans k1, g2⟩
  · by_cases hxa : x = a
    · subst hxa
      rw [gup_s] at hx
      cases hx
      refine ⟨hrep, ?_⟩
      unfold ownU
      rw [if_neg haL, if_neg (by rw [hao]; simp), hao]
    · rw [gup_n N _ hxa] at hx
      obtain ⟨k1, k2⟩ := h3 x q hx
      have hxn : x < nx := h5 x (by rw [hx]; simp)
      obtain ⟨g1, g2⟩ := o1 x hxn k2 hxa
      refine ⟨rep_loc k1 hA g1 (fun b hb => o2 b x hb hxa) (fun _ b mc v xs hb => ?_), g2⟩
      by_cases hba : b = a
      · subst hba
        obtain ⟨e1, e2⟩ := hK _ hb
        refine Or.inr ⟨q2.2.1, q2.2.2.1, q2.2.2.2, e2 rfl, ?_⟩
        rw [gup_s]
        obtain ⟨t2, mc2, v2, xs2⟩ := q2
        dsimp only at e1
        subst e1
        rfl
      · refine Or.inl ⟨gup_n N _ hba, ?_, fun n hn => o2 n b hn hba⟩
        exact (o1 b (h5 b (by rw [hb]; simp)) (h3 b _ hb).2 hba).1
  · unfold ownU at hb
    split at hb
    next e =>
      rcases hL b e with k | k
      · exact Nat.lt_of_lt_of_le (h4 b a k) hnx
      · exact k.2
    next =>
      split at hb
      next => cases hb
      next => exact Nat.lt_of_lt_of_le (h4 b x hb) hnx
  · by_cases hxa : x = a
    · rw [hxa]; exact ha
    · rw [gup_n N _ hxa] at hx
      exact Nat.lt_of_lt_of_le (h5 x hx) hnx
/-- plain cells written or made -/
theorem rW_plain {G : gG} {N M : gM} {own : Nat → Option Nat} {nx : Nat} (h : rW G N M own nx) {a nx2 : Nat} {c' : Cel} (hnx : nx ≤ nx2) (ha : a < nx2) (hao : own a = none) (hna : ∀ q, N a ≠ some (.inr (.inr q))) (hc : ∀ q, c' ≠ .inr (.inr q)) (hA : anyN (N, 0) a = true → anyN (gup N a c', 0) a = true) : rW G (gup N a c') (gup M a c') own nx2 := by
  obtain ⟨h1, h2, h3, h4, h5, h6⟩ := h
  have hA2 : ∀ x, anyN (N, 0) x = true → anyN (gup N a c', 0) x = true := by
    intro x hx
    by_cases hxa : x = a
    · rw [hxa] at hx ⊢; exact hA hx
    · have e : (gup N a c') x = N x := gup_n N _ hxa
      simpa [anyN, e] using hx
  refine ⟨fun x c hx => ?_, fun x c hx => ?_, fun x q hx => ?_, fun b x hb => Nat.lt_of_lt_of_le (h4 b x hb) hnx, fun x hx => ?_, fun i hi => Nat.lt_of_lt_of_le (h6 i hi) hnx⟩
  · by_cases hxa : x = a
    · rw [hxa] at hx ⊢
      rw [gup_s] at hx ⊢
      exact ⟨hx, hao⟩
    · rw [gup_n N _ hxa] at hx
      rw [gup_n M _ hxa]
      exact h1 x c hx
  · by_cases hxa : x = a
    · rw [hxa] at hx ⊢
      rw [gup_s] at hx ⊢
      exact ⟨hx, hao⟩
    · rw [gup_n N _ hxa] at hx
      rw [gup_n M _ hxa]
      exact h2 x c hx
  · have hxa : x ≠ a := fun e => by
      rw [e, gup_s] at hx
      exact hc q (Option.some.inj hx)
    rw [gup_n N _ hxa] at hx
    obtain ⟨k1, k2⟩ := h3 x q hx
    refine ⟨rep_loc k1 hA2 (gup_n M _ hxa) (fun b hb => ⟨hb, gup_n M _ (fun e => by rw [e, hao] at hb; cases hb)⟩) (fun _ b mc v xs hb => ?_), k2⟩
    have hba : b ≠ a := fun e => by rw [e] at hb; exact hna _ hb
    exact Or.inl ⟨gup_n N _ hba, gup_n M _ hba, fun n hn => ⟨hn, gup_n M _ (fun e => by rw [e, hao] at hn; cases hn)⟩⟩
  · by_cases hxa : x = a
    · rw [hxa]; exact ha
    · rw [gup_n N _ hxa] at hx
      exact Nat.lt_of_lt_of_le (h5 x hx) hnx
theorem rN_ok (G : gG) : rOK (rN G) := by
  refine ⟨fun N M nx a c h e => ?_, fun N M nx a c h e => ?_, fun N M nx a c c' dA h e hs ht ht' => ?_, fun N M nx c' dA h ht => ?_, fun N M nx n h hn => ?_⟩
  · obtain ⟨own, h⟩ := h
    exact (h.1 a c e).1
  · obtain ⟨own, h⟩ := h
    exact (h.2.1 a c e).1
  · obtain ⟨own, h⟩ := h
    have hlt : a < nx := h.2.2.2.2.1 a (by rw [e]; simp)
    rcases c with c | c | c
    · rcases c' with c' | c' | c'
      · refine ⟨own, rW_plain h (Nat.le_refl _) hlt (h.1 a c e).2 (fun q hq => by rw [e] at hq; cases hq) (fun q hq => by cases hq) (fun hx => ?_)⟩
        have hcc : c.1 = c'.1 := hs
        simp only [anyN, e] at hx
        simp only [anyN, gup_s, ← hcc]
        exact hx
      · exact hs.elim
      · exact hs.elim
    · rcases c' with c' | c' | c'
      · exact hs.elim
      · refine ⟨own, rW_plain h (Nat.le_refl _) hlt (h.2.1 a c e).2 (fun q hq => by rw [e] at hq; cases hq) (fun q hq => by cases hq) (fun hx => ?_)⟩
        simp [anyN, e] at hx
      · exact hs.elim
    · exact absurd rfl ht
  · obtain ⟨own, h⟩ := h
    have hnn : N nx = none := by
      cases hq : N nx with
      | none => rfl
      | some c => exact absurd (h.2.2.2.2.1 nx (by rw [hq]; simp)) (Nat.lt_irrefl _)
    have hon : own nx = none := by
      cases hq : own nx with
      | none => rfl
      | some c => exact absurd (h.2.2.2.1 nx c hq) (Nat.lt_irrefl _)
    refine ⟨own, rW_plain h (Nat.le_succ _) (Nat.lt_succ_self _) hon (fun q hq => by rw [hnn] at hq; cases hq) (fun q hq => ?_) (fun hx => ?_)⟩
    · rw [hq] at ht
      exact ht rfl
    · simp [anyN, hnn] at hx
  · obtain ⟨own, h1, h2, h3, h4, h5, h6⟩ := h
    exact ⟨own, h1, h2, h3, fun b a hb => Nat.lt_of_lt_of_le (h4 b a hb) hn, fun a ha => Nat.lt_of_lt_of_le (h5 a ha) hn, fun i hi => Nat.lt_of_lt_of_le (h6 i hi) hn⟩
/-- a contract at the plain level, lifted -/
theorem met_up {l : Launch} {y : MethodName} {ws : List Cond} {rm : Room} {G : gG} {av : List Value} {S S2 : gS} {r : Option Value} {C N : Nat} (h : ∀ M, rN G S.1 M S.2 → ∃ M2, rN G S2.1 M2 S2.2 ∧ Met l y ws rm (gPc G rP av (M, S.2)) (gQc G rP r (M2, S2.2)) C N G.2.2.2) : Met l y ws rm (gPc G (rN G) av S) (gQc G (rN G) r S2) C N G.2.2.2 := by
  intro p e ha hf hc s m args below hfr happ hP hK
  obtain ⟨hav, ⟨M, hM, hz, hR⟩, hE⟩ := hP
  obtain ⟨M2, hR2, hmet⟩ := h M hR
  obtain ⟨n, o, h1, h2, h3, ⟨h4, ⟨M', hM', hz', hrel⟩, h4c⟩, h5⟩ := hmet p e ha hf hc s m args below hfr happ ⟨hav, ⟨M, hM, hz, rfl⟩, hE⟩ hK
  refine ⟨n, o, h1, h2, h3, ⟨h4, ⟨M', hM', hz', ?_⟩, h4c⟩, h5⟩
  have hrel : M2 = M' := hrel
  rw [← hrel]
  exact hR2
