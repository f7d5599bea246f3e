/-! LAMBDAS: the object made at a site -/
set_option maxRecDepth 100000
set_option maxHeartbeats 4000000
theorem lam_inv15 {α : Type} {x : Array Nat} {f : Nat → Nat → Nat → Option α} {r : α} (h : Lambda.shapeOf?.match_15 (fun _ => Option α) x f (fun _ => none) = some r) : ∃ a0 a1 a2, f a0 a1 a2 = some r := by
  rcases x with ⟨L⟩
  rcases L with _ | ⟨a0, _ | ⟨a1, _ | ⟨a2, _ | ⟨a3, L⟩⟩⟩⟩
  · cases h
  · cases h
  · cases h
  · exact ⟨a0, a1, a2, h⟩
  · cases h
theorem shape_site {cf : ClassFile} {index : Nat} {σ : Lambda.Shape} (h : Lambda.shapeOf? cf index = some σ) :
    ∃ (b nt : Nat) (desc : String) (site : MethodDescriptor), cf.constantPool[index]? = some (.invokeDynamic b nt) ∧ cf.constantPool.nameAndType? nt = some (σ.name, desc) ∧ parseMethodDescriptor desc = some site ∧ site.parameters = σ.captured := by
  unfold Lambda.shapeOf? at h
  split at h
  next b nt hc =>
    obtain ⟨entries, -, h⟩ := Option.bind_eq_some_iff.mp h
    obtain ⟨bm, -, h⟩ := Option.bind_eq_some_iff.mp h
    split at h
    next r _ =>
      obtain ⟨_, -, h⟩ := Option.bind_eq_some_iff.mp h
      obtain ⟨a0, a1, a2, h⟩ := lam_inv15 h
      · split at h
        next d0 _ =>
          split at h
          next kind r1 _ =>
            split at h
            next d2 _ =>
              obtain ⟨⟨name, desc⟩, hnt, h⟩ := Option.bind_eq_some_iff.mp h
              obtain ⟨site, hsite, h⟩ := Option.bind_eq_some_iff.mp h
              split at h
              next iface _ =>
                obtain ⟨⟨implClass, implName, implDesc, implItf⟩, -, h⟩ := Option.bind_eq_some_iff.mp h
                obtain ⟨x1, -, h⟩ := Option.bind_eq_some_iff.mp h
                obtain ⟨x2, -, h⟩ := Option.bind_eq_some_iff.mp h
                obtain ⟨x3, -, h⟩ := Option.bind_eq_some_iff.mp h
                obtain ⟨x4, -, h⟩ := Option.bind_eq_some_iff.mp h
                obtain ⟨x5, -, h⟩ := Option.bind_eq_some_iff.mp h
                cases h
                exact ⟨b, nt, desc, site, hc, hnt, hsite, rfl⟩
              next => cases h
            next => cases h
          next => cases h
        next => cases h
    next => cases h
  next => cases h
section LAMX
variable {p : Program} {l : Launch} {e : Env} {s : State} {m : MethodId} {args : Array Value} {below : List Frame} {meth : Method} {c : Code} {G : gG} {Rp : gM → gM → Nat → Prop} {R : Room} {H : Heap} {locs : List Loc} {Q : State → Prop} {cc : ByteArray} {ls : Array Slot} {rest : List Value} {pc : Nat} {kc ks : Nat}
theorem g_lamMake {σ : Lambda.Shape} {caller : String} {D : ClassFile} {fw : Method} {F : Array Field × Array FieldType × Array FieldType} {code : ByteArray} {ret capT : FieldType} {mi mci mnt mcn index nL t : Nat} {xm x y : MethodName} {v : Value} {cel : Cel} {a0 : vp_A} {S S1 : gS} {ty : MethodId}
    (hx : p.tables.exec = Jvm.exec) (hb : c.code = cc) (hml : c.maxLocals = nL) (hts : ∀ w ∈ lw_all, w.before args s = true) (hE : gE G s s.heap) (hA : ∀ q : Nat, s.heap.size ≤ q → G.2.2.2 q) (hk : rOK Rp) (hH : hp G Rp S H) (hS : va_S G.2.2.2 s.heap H locs)
    (hL : LamC σ caller D fw F code ret mi mci mnt mcn) (hT : lamT xm pc index σ (G.2.1 t) none s) (hxm : xm.cls = caller) (hO : (Cond.instantiable "java/lang/Object" 0).before args s = true) (hy : y = ⟨σ.implClass, σ.implName, σ.implDesc.toString⟩) (hxx : x = ⟨σ.iface, σ.name, σ.sam.toString⟩) (hyn : s.methodNamed? y = some ty) (hface : (Cond.interfaceMethod x.cls x.cls x.name x.desc).before args s = true)
    (hnm : s.methodNamed? xm = some m) (hF : F.2.1 = #[capT]) (hcap : σ.captured = [capT]) (hnar : narrow capT v = v) (hfit : fits capT v = true) (hcat : v.category = 1)
    (hcel : toE G.2.1 cel = some (.inl (G.2.1 t, a0))) (ha0 : ∀ cA : ClassId, vp_cell cA a0 = arrV cA 1 (fun _ => v)) (e1 : S1 = mk S cel) (hsize : ls.size = nL) (hroom : (rest.map fun v => v.category).sum + 3100 ≤ R.locals) (hcells : kc + 1 ≤ R.cells) (hslots : ks + 1 ≤ R.slots) (hdg : decode cc pc = .ok (.invokedynamic index, 5))
    (kk : ∀ (H1 : Heap), hp G Rp S1 H1 → va_S G.2.2.2 s.heap H1 locs → W p l e R s m args below meth c H1 locs (kc + 1) (ks + 1) Q (F0 m (pc + 5) ls (.ref S.2 :: rest))) : W p l e R s m args below meth c H locs kc ks Q (F0 m pc ls (v :: rest)) := by
  subst e1
  obtain ⟨ws, hP, hD, hz, hback⟩ := hp_new hk hH
  obtain ⟨r0, k, tk, methk, ck, hK, hkT, hkk, -⟩ := lam_facts e hL hT hxm hO hy hxx hyn hface
  obtain ⟨m0, kd, cfd, i0, p0, h1, h2, h3, h4, h6, h7, h8⟩ := hT
  cases hnm.symm.trans h1
  obtain ⟨bb, nt, desc, site, g1, g2, g3, g4⟩ := shape_site h4
  have hit : k.instanceTypes = #[capT] := hkT.trans hF
  have hsl : ((k.instanceTypes.toList.zip [v]).map fun (t, v) => narrow t v) = [v] := by
    rw [hit]
    show [narrow capT v] = [v]
    rw [hnar]
  intro T hTH X
  have hlw : e.platform.lambdaLinkWords = 3072 := by rw [X.admits.platform]
  obtain ⟨X', st⟩ := X.lambdaMakes hx (g := F0 m pc ls (v :: rest)) rfl (hsize.trans hml.symm) (by rw [hb]; exact hdg) h2 h6 h3 g1 g2 (parseLong_of_parse g3) (vals := [v]) (rest := rest) (by rw [g4, hcap]; rfl) rfl hK
    (by rw [hlw]; show 2 * 0 + (v.category + (rest.map fun v => v.category).sum) + 3072 ≤ R.locals; omega) hcells (by rw [hsl]; exact hslots)
    (fun i w hw => by
      rw [hsl] at hw
      have hi : i < 1 := (Array.getElem?_eq_some_iff.mp hw).1
      obtain rfl : i = 0 := by omega
      obtain rfl : v = w := Option.some.inj hw
      exact fresh_fits (Vm.Alike.refl _) hK hkk (by rw [hit]; rfl) hfit)
  simp only [hsl] at X' st
  have hcell : ({ cls := G.2.1 t, slots := [v].toArray, vm := .none } : Cell) = vp_cell (G.2.1 t) a0 := by
    rw [ha0]
    simp [arrV, Array.ofFn]
    rfl
  generalize hH1 : H.push ({ cls := G.2.1 t, slots := [v].toArray, vm := .none } : Cell) = H1
  have z1 : H1.size = H.size + 1 := by rw [← hH1, Array.size_push]
  have e1 : H1[H.size]? = some (vp_cell (G.2.1 t) a0) := by rw [← hH1, Array.getElem?_push_size, hcell]
  have o1 : ∀ q : Nat, q < H.size → H1[q]? = H[q]? := fun q hq => by rw [← hH1, Array.getElem?_push, if_neg (Nat.ne_of_lt hq)]
  have hk1 : ∀ (k : Nat) (x : Nat × va_E), ws[k]? = some x → H1[x.1]? = H[x.1]? := fun k x hx => o1 x.1 ((hP k x hx).lt)
  have hkk := kk H1 (hback cel _ H1 hcel z1 ((hP.kept hk1).app (fun k x hx => ?_)) (hD.push hP hz.symm (hA _ (by rw [← hz]; exact hS.1)))) ⟨Nat.le_trans hS.1 (by omega), fun x h1 h2 => (o1 x (Nat.lt_of_lt_of_le h1 hS.1)).trans (hS.2.1 x h1 h2), hS.2.2⟩
  · obtain ⟨t2, a1, b1⟩ := hkk _ (by show T.heap.push _ = H1; rw [hTH]; exact hH1) X'
    refine ⟨t2, st _ ?_, b1⟩
    rw [hTH, hz]
    exact a1
  · have hz1 : k < 1 := (List.getElem?_eq_some_iff.mp hx).1
    rw [show k = 0 by omega] at hx
    cases hx
    show H1[S.2]? = some (vp_cell _ _)
    rw [← hz]
    exact e1
theorem g_lamConst {x : MethodName} {index nL q : Nat} {σ : Lambda.Shape} {cK : ClassId} (hx : p.tables.exec = Jvm.exec) (hb : c.code = cc) (hml : c.maxLocals = nL) (hT : lamT x pc index σ cK (some q) s) (hnm : s.methodNamed? x = some m) (hsize : ls.size = nL) (hroom : (rest.map fun v => v.category).sum + 3100 ≤ R.locals) (hdg : decode cc pc = .ok (.invokedynamic index, 5))
    (kk : W p l e R s m args below meth c H locs kc ks Q (F0 m (pc + 5) ls (.ref q :: rest))) : W p l e R s m args below meth c H locs kc ks Q (F0 m pc ls rest) := by
  obtain ⟨m0, kd, cfd, i0, p0, h1, h2, h3, h4, h6, h7, h8⟩ := hT
  cases hnm.symm.trans h1
  intro T hTH X
  have hlw : e.platform.lambdaLinkWords = 3072 := by rw [X.admits.platform]
  obtain ⟨t2, a1, b1⟩ := kk T hTH X
  exact ⟨t2, X.lambdaConstant hx (g := F0 m pc ls rest) rfl (hsize.trans hml.symm) (by rw [hb]; exact hdg) h2 h6 (by rw [hlw]; show 2 * 0 + (rest.map fun v => v.category).sum + 3072 ≤ R.locals; omega) a1, b1⟩
end LAMX
