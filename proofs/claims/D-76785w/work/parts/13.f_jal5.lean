/-! ArrayList at the level rN, fifth: addAll -/
set_option maxRecDepth 100000
set_option maxHeartbeats 1000000
theorem al_toArr {G : gG} {N M : gM} {own : Nat → Option Nat} {nx b cap : Nat} {mc : Int32} {ys : List Nat} (h : rW G N M own nx) (hb : N b = some (cT 0 mc cap ys)) : ∃ f2, rowQ f2 ys.length ys ∧ fJ2_toArray G b (M, nx) = some (some nx, (gup M nx (cAq 5 ys.length f2), nx + 1), 1, ys.length) := by
  obtain ⟨⟨o, h3, h4, h5, h6, h7⟩, hob, hblt, hall⟩ := al_at h hb
  rcases h7 with ⟨e1, e2⟩ | ⟨g1, g2, g3, f, g4, g5⟩
  · have hys : ys = [] := List.eq_nil_of_length_eq_zero (by omega)
    subst hys e1
    refine ⟨fun _ => none, ⟨(fun i hi => by cases hi), fun _ _ _ => rfl⟩, ?_⟩
    unfold fJ2_toArray
    refine bd_i (e_rdR (some _) h3 rfl) (bd_i (e_rdI h3 rfl) (gb_i (c2 := 0) (n2 := 0) ?_ rfl rfl rfl))
    unfold fJ19_copyOf_2 fJ19_copyOf_3
    refine bd_i rfl (bd_i e_lenQ0 (gb_i (c2 := 0) (n2 := 0) (if_i rfl (e_nwq (i := 0) (by omega) (c2 := 0) (n2 := 0) ?_ rfl rfl)) rfl rfl rfl))
    exact bd_i rfl (bd_i e_lenQ0 (bd_i (e_cpyQ0 (gup_s _ _ _)) rfl))
  · obtain ⟨f2, k1, k2⟩ := e_copyOf (G := G) (n1 := ys.length) g3 (h.2.2.2.1 o b g2) g4 g5 h4 h5 (by omega) (Nat.le_refl _) (fun y hy => ⟨(hall y hy).1, (hall y hy).2.1⟩)
    refine ⟨f2, k1, ?_⟩
    unfold fJ2_toArray
    exact bd_i (e_rdR (some _) h3 rfl) (bd_i (e_rdI h3 rfl) (gb_i (c2 := 0) (n2 := 0) k2 rfl rfl rfl))
theorem rowQ_cat {f g : Nat → Option Nat} {cap n : Nat} {xs ys : List Nat} (h : rowQ f cap xs) (h2 : rowQ g n ys) (hn : n = ys.length) (hc : xs.length + n ≤ cap) : rowQ (va_cpy g f 0 xs.length n) cap (xs ++ ys) := by
  subst hn
  refine ⟨fun i hi => ?_, fun i h1 h3 => ?_⟩
  · rw [List.length_append] at hi
    by_cases c : i < xs.length
    · rw [pk_cpy_out (Or.inl c), h.1 i c, List.getElem?_append_left c]
    · rw [pk_cpy_in (by omega) (by omega), List.getElem?_append_right (by omega), Nat.zero_add, h2.1 _ (by omega)]
  · rw [List.length_append] at h1
    rw [pk_cpy_out (by omega)]
    exact h.2 i (by omega) h3
theorem J1_AL_addAll {l : Launch} {G : gG} : J_nAL_addAll l G (rN G) := by
  intro a v S r S2 C N h
  unfold nAL_addAll at h
  obtain ⟨⟨mc, cap, xs⟩, h1, g9⟩ := bdo h
  clear h
  obtain ⟨b, hv, h⟩ := bdo g9
  clear g9
  obtain ⟨⟨mcb, capb, ys⟩, h2, g9⟩ := bdo h
  clear h
  have h := g9
  clear g9
  subst hv
  try dsimp only at h
  have ha := adt_T h1
  have hb := adt_T h2
  try dsimp only at ha hb
  rcases Decidable.em ((if ys.length = 0 then (cap, 0, 0) else alGrow cap (xs.length + ys.length)).1 ≤ 9000 ∧ a ≠ b) with hg | hg
  · rw [if_pos hg] at h
    obtain ⟨hg, hab⟩ := hg
    cases h
    refine met_up fun M hR => ?_
    obtain ⟨own, hW⟩ := hR
    obtain ⟨⟨o, h3, h4, h5, h6, h7⟩, hoa, halt, hall⟩ := al_at hW ha
    obtain ⟨⟨ob, b3, b4, b5, b6, b7⟩, hobb, hblt, hallb⟩ := al_at hW hb
    obtain ⟨fs, k1, k2⟩ := al_toArr hW hb
    have hane : a ≠ S.2 := by omega
    have hbne : b ≠ S.2 := by omega
    have hM1a : (gup M S.2 (cAq 5 ys.length fs)) a = some (cO 15 [.int mc, .ref o, .int (nI xs.length)]) := (gup_n _ _ hane).trans h3
    have hE := kE_lt hW
    have hstart : ∀ {r : Int32} {Sf : gS} {c n : Nat}, (bd (lenQ G (gup (gup M S.2 (cAq 5 ys.length fs)) a (cO 15 [.int (mc + 1), .ref o, .int (nI xs.length)]), S.2 + 1) S.2) fun v6 => if v6 = 0 then zg (nI 0) (gup (gup M S.2 (cAq 5 ys.length fs)) a (cO 15 [.int (mc + 1), .ref o, .int (nI xs.length)]), S.2 + 1) else
        bd (rdR (gup (gup M S.2 (cAq 5 ys.length fs)) a (cO 15 [.int (mc + 1), .ref o, .int (nI xs.length)]), S.2 + 1) a 15 1) fun v8 => bd v8 fun a9 =>
        bd (lenQ G (gup (gup M S.2 (cAq 5 ys.length fs)) a (cO 15 [.int (mc + 1), .ref o, .int (nI xs.length)]), S.2 + 1) a9) fun v10 =>
        bd (rdI (gup (gup M S.2 (cAq 5 ys.length fs)) a (cO 15 [.int (mc + 1), .ref o, .int (nI xs.length)]), S.2 + 1) a 15 2) fun v11 =>
        if v6 ≤ (v10 - v11) then
          fJ2_addAll_b56 G a (some S.2) v6 v8 v11 (gup (gup M S.2 (cAq 5 ys.length fs)) a (cO 15 [.int (mc + 1), .ref o, .int (nI xs.length)]), S.2 + 1)
        else
          bd (chk (gup (gup M S.2 (cAq 5 ys.length fs)) a (cO 15 [.int (mc + 1), .ref o, .int (nI xs.length)]), S.2 + 1) a 15) fun _ =>
          gb (fJ2_grow_2 G a (v11 + v6) (gup (gup M S.2 (cAq 5 ys.length fs)) a (cO 15 [.int (mc + 1), .ref o, .int (nI xs.length)]), S.2 + 1)) fun v13 S13 =>
          fJ2_addAll_b56 G a (some S.2) v6 v13 v11 S13) = some (r, Sf, c, n) → fJ2_addAll G a (some b) (M, S.2) = some (r, Sf, 1 + c, ys.length + n) := fun hrun => by
      unfold fJ2_addAll
      refine bd_i rfl (bd_i (e_chk b3) (gb_i k2 (bd_i (e_rdI hM1a rfl) (bd_i (e_wr [.int (mc + 1), .ref o, .int (nI xs.length)] hM1a (by simp) rfl) (bd_i rfl hrun))) rfl rfl))
    have hla : lenQ G (gup (gup M S.2 (cAq 5 ys.length fs)) a (cO 15 [.int (mc + 1), .ref o, .int (nI xs.length)]), S.2 + 1) S.2 = some (nI ys.length) := e_lenQ (by omega) ((gup_n _ _ (Ne.symm hane)).trans (gup_s _ _ _))
    by_cases hn : ys.length = 0
    · have hys : ys = [] := List.eq_nil_of_length_eq_zero hn
      subst hys
      simp only [List.length_nil, if_pos] at hg ⊢
      rw [List.append_nil]
      have hfr : ∀ c, c < S.2 → c ≠ a → own c ≠ some a → (gup (gup M S.2 (cAq 5 0 fs)) a (cO 15 [.int (mc + 1), .ref o, .int (nI xs.length)])) c = M c := fun c hc hca _ => by rw [gup_n _ _ hca, gup_n _ _ (by omega)]
      refine ⟨gup (gup M S.2 (cAq 5 0 fs)) a (cO 15 [.int (mc + 1), .ref o, .int (nI xs.length)]), ?_, gMet_room (mJ2_addAll rP_ok (hstart (bd_i hla (if_i rfl (zg_0 _))))) (by decide) (by decide)⟩
      rcases h7 with ⟨e1, e2⟩ | ⟨g1, g2, g3, f, g4, g5⟩
      · exact al_set hW ha [] (by simp) (by simp) (fun b hb => by cases hb) hfr ⟨o, gup_s _ _ _, h4, h5, allN_set h6 (by simp [anyN, ha]), Or.inl ⟨e1, e2⟩⟩
      · have hoo : o ≠ a := fun e => by rw [e, hoa] at g2; cases g2
        have hon := hW.2.2.2.1 o a g2
        exact al_fin hW ha (by simp) (Or.inl g2) g3 (gup_s _ _ _) ((gup_n _ _ hoo).trans ((gup_n _ _ (by omega)).trans g4)) g5 h4 g1 h5 h6 hfr
    · rw [if_neg hn] at hg ⊢
      rw [if_neg hn]
      have hM1 : ∀ c, c < S.2 → c ≠ a → (gup (gup M S.2 (cAq 5 ys.length fs)) a (cO 15 [.int (mc + 1), .ref o, .int (nI xs.length)])) c = M c := fun c hc hca => by rw [gup_n _ _ hca, gup_n _ _ (by omega)]
      obtain ⟨M2, o2, f2, q1, q2, q3, q4, q5, q6, q7, q8, q9, q10⟩ := al_ens hW ha h3 (gup_s (gup M S.2 (cAq 5 ys.length fs)) a (cO 15 [.int (mc + 1), .ref o, .int (nI xs.length)])) hM1 (Nat.le_succ S.2) (need := xs.length + ys.length) (by omega) hg
      have hge : xs.length + ys.length ≤ (alGrow cap (xs.length + ys.length)).1 := alGrow_ge
      have hone : o2 ≠ S.2 := fun e => by
        rcases q6 with k | k
        · have := hW.2.2.2.1 o2 a k
          omega
        · omega
      have hsrc : M2 S.2 = some (cAq 5 ys.length fs) := by
        rw [q7 _ (Ne.symm hane) (Ne.symm hone), gup_n _ _ (Ne.symm hane), gup_s]
      have hb56 : ∀ n, fJ2_addAll_b56 G a (some S.2) (nI ys.length) (some o2) (nI xs.length) (M2, n) = some (nI 1, (gup (gup M2 o2 (cAq 5 (alGrow cap (xs.length + ys.length)).1 (va_cpy fs f2 0 xs.length ys.length))) a (cO 15 [.int (mc + 1), .ref o2, .int (nI (xs.length + ys.length))]), n), 0, 0) := fun n => by
        unfold fJ2_addAll_b56
        refine bd_i rfl (bd_i rfl (bd_i (e_cpyQ (sp := 0) (by omega) hsrc q2 (by omega) (by omega) (by omega) (by omega) (fun i hi y hy => ?_)) ?_))
        · rw [k1.1 _ (by omega)] at hy
          obtain ⟨p1, p2, p3, p4⟩ := hallb y (List.mem_of_getElem? hy)
          have hya : y ≠ a := fun e => by
            rw [e] at hy
            have hm : a ∈ ys := List.mem_of_getElem? hy
            have hh := b6 a hm
            simp [anyN, ha] at hh
          refine anyO_at p1 ?_
          rw [q7 y hya (fun e => ?_), gup_n _ _ hya, gup_n _ _ (by omega)]
          rcases q6 with k | k
          · rw [← e, p3] at k; cases k
          · omega
        · rw [nI_add]
          exact bd_i (e_wr [.int (mc + 1), .ref o2, .int (nI (xs.length + ys.length))] ((gup_n _ _ (Ne.symm q4)).trans q1) (by simp) rfl) (zg_1 _)
      have hrow : rowQ (va_cpy fs f2 0 xs.length ys.length) (alGrow cap (xs.length + ys.length)).1 (xs ++ ys) := rowQ_cat q3 k1 rfl hge
      have hallc : allN S.1 (xs ++ ys) := fun y hy => by
        rcases List.mem_append.mp hy with hy | hy
        · exact h6 y hy
        · exact b6 y hy
      refine ⟨gup (gup M2 o2 (cAq 5 (alGrow cap (xs.length + ys.length)).1 (va_cpy fs f2 0 xs.length ys.length))) a (cO 15 [.int (mc + 1), .ref o2, .int (nI (xs.length + ys.length))]), al_fin hW ha (nx2 := S.2 + 1 + (alGrow cap (xs.length + ys.length)).2.1) (by omega) (by rcases q6 with k | k; exact Or.inl k; exact Or.inr (by omega)) q5 (by rw [gup_s, List.length_append]) ((gup_n _ _ q4).trans (gup_s _ _ _)) hrow (by rw [List.length_append]; exact hge) (by omega) hg hallc (fun c hcn hc hoc => ?_), gMet_room (mJ2_addAll rP_ok ?_) (by decide) (by decide)⟩
      · have hco : c ≠ o2 := fun e => by
          rcases q6 with k | k
          · rw [← e] at k; exact hoc k
          · omega
        rw [gup_n _ _ hc, gup_n _ _ hco, q7 c hc hco, gup_n _ _ hc, gup_n _ _ (by omega)]
      · by_cases c : xs.length + ys.length ≤ cap
        · obtain ⟨e1, e2, e3⟩ := q9 c
          rw [e3] at hb56 ⊢
          refine hstart (c := 0) (n := 0) (bd_i hla (if_e (nI_ne0 (by omega) (by omega)) (bd_i (e_rdR (some o) (gup_s _ _ _) rfl) (bd_i rfl (bd_i q8 (bd_i (e_rdI (gup_s _ _ _) rfl) ?_))))))
          rw [pk_sub (by omega)]
          refine if_i (nI_le (by omega) (by omega)) ?_
          have hb := hb56 (S.2 + 1)
          rw [e1, e2] at hb ⊢
          exact hb
        · obtain ⟨e1, e2⟩ := q10 (by omega)
          rw [e1] at hb56 ⊢
          refine hstart (c := 1) (n := alCap cap (xs.length + ys.length)) (bd_i hla (if_e (nI_ne0 (by omega) (by omega)) (bd_i (e_rdR (some o) (gup_s _ _ _) rfl) (bd_i rfl (bd_i q8 (bd_i (e_rdI (gup_s _ _ _) rfl) ?_))))))
          rw [pk_sub (by omega), nI_add]
          exact if_e (nI_ge (by omega) (by omega)) (bd_i (e_chk (gup_s _ _ _)) (gb_i (c2 := 0) (n2 := 0) e2 (hb56 _) rfl rfl))
  · rw [if_neg hg] at h
    cases h
