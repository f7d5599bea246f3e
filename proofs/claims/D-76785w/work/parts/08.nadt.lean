/-! ABSTRACT THINGS of the JDK, as the component sees them: what their methods do to abstract cells, with the cells and slots made.
    kinds: 0 ArrayList (modCount, capacity, elements), 1 LinkedList, 2 PriorityQueue (comparator first), 3 ArrayDeque, 4 StringBuilder, 5 String, 10 Integer (its value as count);
    iterators (expected modCount, cursor, [list, last + 1]): 6 of ArrayList, 7 of LinkedList, 8 of PriorityQueue, 9 of ArrayDeque -/
set_option maxRecDepth 100000
/-- the abstract thing of kind t at a -/
def adt (S : gS) (a t : Nat) : Option (Int32 × Nat × List Nat) := match S.1 a with
  | some (.inr (.inr q)) => if q.1 = t then some q.2 else none
  | _ => none
theorem adt_o {S : gS} {a t : Nat} {q : Int32 × Nat × List Nat} (h : adt S a t = some q) : S.1 a = some (.inr (.inr (t, q))) := by
  unfold adt at h
  split at h
  next w hw =>
    split at h
    next e => subst e; cases h; exact hw
    next => cases h
  next => cases h
def sadt (S : gS) (a t : Nat) (mc : Int32) (cap : Nat) (xs : List Nat) : gS := (gup S.1 a (cT t mc cap xs), S.2)
/-- an object of a class with nothing but its first values, as 'new' leaves it -/
def fresh (S : gS) (a ci : Nat) (fs : List Value) : Option Unit := match S.1 a with
  | some (.inl q) => if q = (ci, fs) then some () else none
  | _ => none
def inr0 (i : Int32) (n : Nat) : Bool := !(decide (i < 0) || decide (n ≤ i.toNatClampNeg))
/-- an object's class is ci -/
def chk (S : gS) (a ci : Nat) : Option Unit := if clsO S a = some ci then some () else none
theorem chk_o {S : gS} {a ci : Nat} {u : Unit} (h : chk S a ci = some u) : ∃ fs, S.1 a = some (cO ci fs) := by
  unfold chk at h
  split at h
  next e => exact clsO_o e
  next => cases h
/-- a cast to one class -/
def ckc (S : gS) (o : Option Nat) (ci : Nat) : Option Unit := match o with
  | none => some ()
  | some a => chk S a ci
def cka (S : gS) (o : Option Nat) (t : Nat) : Option Unit := match o with
  | none => some ()
  | some a => bd (adt S a t) fun _ => some ()
/-- what may lie in a container: queues, letters, messages, consumers, corpses; texts and Integers -/
def anyN (S : gS) (x : Nat) : Bool := match S.1 x with
  | some (.inl q) => decide (q.1 = 3 ∨ q.1 = 4 ∨ q.1 = 5 ∨ q.1 = 6 ∨ q.1 = 7)
  | some (.inr (.inr q)) => decide (q.1 = 5 ∨ q.1 = 10)
  | _ => false
def okN (S : gS) (x : Nat) : Option Unit := if anyN S x = true then some () else none
-- ArrayList
def nAL_init (a : Nat) (S : gS) : gO Unit := bd (fresh S a 15 [.int 0, .null, .int 0]) fun _ => some ((), sadt S a 0 0 0 [], 0, 0)
def nAL_size (a : Nat) (S : gS) : gO Int32 := bd (adt S a 0) fun q => some (nI q.2.2.length, S, 0, 0)
def nAL_isEmpty (a : Nat) (S : gS) : gO Int32 := bd (adt S a 0) fun q => some (if q.2.2.length = 0 then nI 1 else nI 0, S, 0, 0)
def nAL_get (a : Nat) (i : Int32) (S : gS) : gO (Option Nat) := bd (adt S a 0) fun q => if inr0 i q.2.2.length then some (q.2.2[i.toNatClampNeg]?, S, 0, 0) else none
/-- the capacity behind a growth to at least n -/
def alCap (cap n : Nat) : Nat := if cap = 0 then max 10 n else cap + max (n - cap) (cap / 2)
/-- what one more element asks -/
def alGrow (cap n : Nat) : Nat × Nat × Nat := if n ≤ cap then (cap, 0, 0) else (alCap cap n, 1, alCap cap n)
def nAL_add (a : Nat) (v : Option Nat) (S : gS) : gO Int32 := bd (adt S a 0) fun q => bd v fun x => bd (okN S x) fun _ =>
  let g := alGrow q.2.1 (q.2.2.length + 1)
  if g.1 ≤ 9000 then some (nI 1, (gup S.1 a (cT 0 (q.1 + 1) g.1 (q.2.2 ++ [x])), S.2 + g.2.1), g.2.1, g.2.2) else none
def nAL_addAt (a : Nat) (i : Int32) (v : Option Nat) (S : gS) : gO Unit := bd (adt S a 0) fun q => bd v fun x => bd (okN S x) fun _ =>
  if inr0 i (q.2.2.length + 1) then
    let g := alGrow q.2.1 (q.2.2.length + 1)
    if g.1 ≤ 9000 then some ((), (gup S.1 a (cT 0 (q.1 + 1) g.1 (q.2.2.insertIdx i.toNatClampNeg x)), S.2 + g.2.1), g.2.1, g.2.2) else none
  else none
def nAL_addAll (a : Nat) (c : Option Nat) (S : gS) : gO Int32 := bd (adt S a 0) fun q => bd c fun b => bd (adt S b 0) fun t =>
  let n := t.2.2.length
  let g := if n = 0 then (q.2.1, 0, 0) else alGrow q.2.1 (q.2.2.length + n)
  if g.1 ≤ 9000 ∧ a ≠ b then some (if n = 0 then nI 0 else nI 1, (gup S.1 a (cT 0 (q.1 + 1) g.1 (q.2.2 ++ t.2.2)), S.2 + 1 + g.2.1), 1 + g.2.1, n + g.2.2) else none
def nAL_clear (a : Nat) (S : gS) : gO Unit := bd (adt S a 0) fun q => some ((), sadt S a 0 (q.1 + 1) q.2.1 [], 0, 0)
def nAL_removeI (a : Nat) (i : Int32) (S : gS) : gO (Option Nat) := bd (adt S a 0) fun q =>
  if inr0 i q.2.2.length then some (q.2.2[i.toNatClampNeg]?, sadt S a 0 (q.1 + 1) q.2.1 (q.2.2.eraseIdx i.toNatClampNeg), 0, 0) else none
/-- of an object that is equal to none but itself (a letter) -/
def nAL_removeO (a : Nat) (v : Option Nat) (S : gS) : gO Int32 := bd (adt S a 0) fun q => bd v fun x => bd (clsO S x) fun k =>
  if k = 4 then
    if x ∈ q.2.2 then some (nI 1, sadt S a 0 (q.1 + 1) q.2.1 (q.2.2.erase x), 0, 0) else some (nI 0, S, 0, 0)
  else none
def nAL_iter (a : Nat) (S : gS) : gO (Option Nat) := bd (adt S a 0) fun q => some (some S.2, mk S (cT 6 q.1 0 [a, 0]), 1, 4)
def nI6_hasNext (a : Nat) (S : gS) : gO Int32 := bd (adt S a 6) fun q => bd (q.2.2[0]?) fun b => bd (adt S b 0) fun t =>
  some (if q.2.1 = t.2.2.length then nI 0 else nI 1, S, 0, 0)
def nI6_next (a : Nat) (S : gS) : gO (Option Nat) := bd (adt S a 6) fun q => bd (q.2.2[0]?) fun b => bd (adt S b 0) fun t =>
  if q.1 = t.1 then bd (t.2.2[q.2.1]?) fun x => some (some x, sadt S a 6 q.1 (q.2.1 + 1) [b, q.2.1 + 1], 0, 0) else none
def nI6_remove (a : Nat) (S : gS) : gO Unit := bd (adt S a 6) fun q => bd (q.2.2[0]?) fun b => bd (q.2.2[1]?) fun l => bd (adt S b 0) fun t =>
  if q.1 = t.1 ∧ 0 < l ∧ l ≤ t.2.2.length then some ((), sadt (sadt S b 0 (t.1 + 1) t.2.1 (t.2.2.eraseIdx (l - 1))) a 6 (t.1 + 1) (l - 1) [b, 0], 0, 0) else none
-- LinkedList: in the place of the capacity a count of the changes (a ghost); an iterator (expected modCount, cursor, [list, last + 1, count])
def nLL_init (a : Nat) (S : gS) : gO Unit := bd (fresh S a 16 [.int 0, .int 0, .null, .null]) fun _ => some ((), sadt S a 1 0 0 [], 0, 0)
def nLL_size (a : Nat) (S : gS) : gO Int32 := bd (adt S a 1) fun q => some (nI q.2.2.length, S, 0, 0)
def nLL_get (a : Nat) (i : Int32) (S : gS) : gO (Option Nat) := bd (adt S a 1) fun q => if inr0 i q.2.2.length then some (q.2.2[i.toNatClampNeg]?, S, 0, 0) else none
def nLL_addLast (a : Nat) (v : Option Nat) (S : gS) : gO Unit := bd (adt S a 1) fun q => bd v fun x => bd (okN S x) fun _ => if q.2.2.length < 9000 then some ((), (gup S.1 a (cT 1 (q.1 + 1) (q.2.1 + 1) (q.2.2 ++ [x])), S.2 + 1), 1, 3) else none
def nLL_addAll (a : Nat) (c : Option Nat) (S : gS) : gO Int32 := bd (adt S a 1) fun q => bd c fun b => bd (adt S b 1) fun t =>
  let n := t.2.2.length
  if n = 0 then some (nI 0, (S.1, S.2 + 1), 1, 0)
  else if q.2.2.length + n ≤ 9000 ∧ a ≠ b then some (nI 1, (gup S.1 a (cT 1 (q.1 + 1) (q.2.1 + 1) (q.2.2 ++ t.2.2)), S.2 + 1 + n), 1 + n, n + 3 * n)
  else none
def nLL_clear (a : Nat) (S : gS) : gO Unit := bd (adt S a 1) fun q => some ((), sadt S a 1 (q.1 + 1) (q.2.1 + 1) [], 0, 0)
def nLL_removeI (a : Nat) (i : Int32) (S : gS) : gO (Option Nat) := bd (adt S a 1) fun q =>
  if inr0 i q.2.2.length then some (q.2.2[i.toNatClampNeg]?, sadt S a 1 (q.1 + 1) (q.2.1 + 1) (q.2.2.eraseIdx i.toNatClampNeg), 0, 0) else none
def nLL_removeFirst (a : Nat) (S : gS) : gO (Option Nat) := bd (adt S a 1) fun q => match q.2.2 with
  | x :: t => some (some x, sadt S a 1 (q.1 + 1) (q.2.1 + 1) t, 0, 0)
  | [] => none
def nLL_iter (a : Nat) (S : gS) : gO (Option Nat) := bd (adt S a 1) fun q => some (some S.2, mk S (cT 7 q.1 0 [a, 0, q.2.1]), 1, 5)
def nI7_hasNext (a : Nat) (S : gS) : gO Int32 := bd (adt S a 7) fun q => bd (q.2.2[0]?) fun b => bd (adt S b 1) fun t =>
  some (if q.2.1 < t.2.2.length then nI 1 else nI 0, S, 0, 0)
def nI7_next (a : Nat) (S : gS) : gO (Option Nat) := bd (adt S a 7) fun q => bd (q.2.2[0]?) fun b => bd (adt S b 1) fun t =>
  if q.2.2[2]? = some t.2.1 then bd (t.2.2[q.2.1]?) fun x => some (some x, sadt S a 7 q.1 (q.2.1 + 1) [b, q.2.1 + 1, t.2.1], 0, 0) else none
def nI7_remove (a : Nat) (S : gS) : gO Unit := bd (adt S a 7) fun q => bd (q.2.2[0]?) fun b => bd (q.2.2[1]?) fun l => bd (adt S b 1) fun t =>
  if q.2.2[2]? = some t.2.1 ∧ 0 < l ∧ l ≤ t.2.2.length ∧ q.2.1 = l then some ((), sadt (sadt S b 1 (t.1 + 1) (t.2.1 + 1) (t.2.2.eraseIdx (l - 1))) a 7 (t.1 + 1) (l - 1) [b, 0, t.2.1 + 1], 0, 0) else none
-- PriorityQueue, of letters, by the comparator ByPriority
/-- whether the letter x comes ahead of the letter y -/
def gLess (S : gS) (x y : Nat) : Option Bool := bd (rdR S x 4 0) fun mx => bd mx fun m1 => bd (rdR S y 4 0) fun my => bd my fun m2 =>
  bd (rdI S m1 5 2) fun p1 => bd (rdI S m2 5 2) fun p2 => bd (rdI S m1 5 0) fun n1 => bd (rdI S m2 5 0) fun n2 => some (decide ((if p1 = p2 then n1 - n2 else p2 - p1) < 0))
/-- siftUp: x goes up from the place k -/
def pqUp (S : gS) (x : Nat) : Nat → Nat → List Nat → Option (List Nat)
  | 0, _, _ => none
  | f + 1, k, es => if k = 0 then some (es.set 0 x) else bd (es[(k - 1) / 2]?) fun e => bd (gLess S x e) fun b => if b then pqUp S x f ((k - 1) / 2) (es.set k e) else some (es.set k x)
def nPQ_init (a : Nat) (n : Int32) (c : Option Nat) (S : gS) : gO Unit := bd (fresh S a 17 [.null, .int 0, .null, .int 0]) fun _ => bd c fun b =>
  if n = nI 20 then some ((), (gup S.1 a (cT 2 0 20 [b]), S.2 + 1), 1, 20) else none
def nPQ_add (a : Nat) (v : Option Nat) (S : gS) : gO Int32 := bd (adt S a 2) fun q => bd v fun x => bd (okN S x) fun _ => match q.2.2 with
  | cmp :: es => if es.length < q.2.1 then bd (clsO S cmp) fun k => if k = 10 then bd (pqUp S x (es.length + 1) es.length (es ++ [x])) fun es' => some (nI 1, sadt S a 2 (q.1 + 1) q.2.1 (cmp :: es'), 0, 0) else none else none
  | [] => none
def nPQ_size (a : Nat) (S : gS) : gO Int32 := bd (adt S a 2) fun q => some (nI (q.2.2.length - 1), S, 0, 0)
def nPQ_iter (a : Nat) (S : gS) : gO (Option Nat) := bd (adt S a 2) fun q => some (some S.2, mk S (cT 8 q.1 0 [a]), 1, 6)
def nI8_hasNext (a : Nat) (S : gS) : gO Int32 := bd (adt S a 8) fun q => bd (q.2.2[0]?) fun b => bd (adt S b 2) fun t =>
  some (if q.2.1 + 1 < t.2.2.length then nI 1 else nI 0, S, 0, 0)
def nI8_next (a : Nat) (S : gS) : gO (Option Nat) := bd (adt S a 8) fun q => bd (q.2.2[0]?) fun b => bd (adt S b 2) fun t =>
  if q.1 = t.1 then bd (t.2.2[q.2.1 + 1]?) fun x => some (some x, sadt S a 8 q.1 (q.2.1 + 1) [b], 0, 0) else none
-- ArrayDeque: in the place of modCount the place of the head; an iterator (the head, cursor, [deque, capacity, count])
def nAD_init (a : Nat) (S : gS) : gO Unit := bd (fresh S a 18 [.null, .int 0, .int 0]) fun _ => some ((), (gup S.1 a (cT 3 0 17 []), S.2 + 1), 1, 17)
def nAD_addLast (a : Nat) (v : Option Nat) (S : gS) : gO Unit := bd (adt S a 3) fun q => bd v fun x => bd (okN S x) fun _ =>
  if q.2.2.length + 2 ≤ q.2.1 then some ((), sadt S a 3 q.1 q.2.1 (q.2.2 ++ [x]), 0, 0)
  else if q.2.2.length + 1 = q.2.1 ∧ q.2.1 = 17 then some ((), (gup S.1 a (cT 3 (q.1 + 19) 36 (q.2.2 ++ [x])), S.2 + 1), 1, 36)
  else none
def nAD_isEmpty (a : Nat) (S : gS) : gO Int32 := bd (adt S a 3) fun q => some (if q.2.2.length = 0 then nI 1 else nI 0, S, 0, 0)
def nAD_pollFirst (a : Nat) (S : gS) : gO (Option Nat) := bd (adt S a 3) fun q => match q.2.2 with
  | x :: t => some (some x, sadt S a 3 (if q.1 + 1 = nI q.2.1 then 0 else q.1 + 1) q.2.1 t, 0, 0)
  | [] => some (none, S, 0, 0)
def nAD_iter (a : Nat) (S : gS) : gO (Option Nat) := bd (adt S a 3) fun q => some (some S.2, mk S (cT 9 q.1 0 [a, q.2.1, q.2.2.length]), 1, 4)
def nI9_hasNext (a : Nat) (S : gS) : gO Int32 := bd (adt S a 9) fun q => bd (q.2.2[2]?) fun n =>
  some (if q.2.1 < n then nI 1 else nI 0, S, 0, 0)
def nI9_next (a : Nat) (S : gS) : gO (Option Nat) := bd (adt S a 9) fun q => bd (q.2.2[0]?) fun b => bd (adt S b 3) fun t =>
  if q.1 = t.1 ∧ q.2.2[1]? = some t.2.1 ∧ q.2.2[2]? = some t.2.2.length then bd (t.2.2[q.2.1]?) fun x => some (some x, sadt S a 9 q.1 (q.2.1 + 1) [b, t.2.1, t.2.2.length], 0, 0) else none
-- Integer: the cached ones are constants 200 .. 455
def kBox (G : gG) (i : Int32) : Nat := G.2.2.1 (200 + (i + 128).toNatClampNeg)
def nBox (G : gG) (i : Int32) (S : gS) : gO (Option Nat) := if i < -128 ∨ 127 < i then some (some S.2, mk S (cT 10 i 0 []), 1, 1) else bd (adt S (kBox G i) 10) fun q => if q.1 = i then some (some (kBox G i), S, 0, 0) else none
def nUnbox (a : Nat) (S : gS) : gO Int32 := bd (adt S a 10) fun q => some (q.1, S, 0, 0)
-- String (5: its letters, all below 256) and StringBuilder (4)
def nSt_len (a : Nat) (S : gS) : gO Int32 := bd (adt S a 5) fun q => some (nI q.2.2.length, S, 0, 0)
def nSt_at (a : Nat) (i : Int32) (S : gS) : gO Int32 := bd (adt S a 5) fun q => if inr0 i q.2.2.length then bd (q.2.2[i.toNatClampNeg]?) fun x => some (nI x, S, 0, 0) else none
def nSt_eq (a : Nat) (v : Option Nat) (S : gS) : gO Int32 := bd (adt S a 5) fun q => bd v fun b => bd (adt S b 5) fun t => some (if q.2.2 = t.2.2 then nI 1 else nI 0, S, 0, 0)
def sbGrow (cap n : Nat) : Nat × Nat × Nat := if n ≤ cap then (cap, 0, 0) else (sb_cap n cap, 1, sb_cap n cap)
def nSB_init (a : Nat) (S : gS) : gO Unit := bd (fresh S a 19 [.null, .int 0, .int 0, .int 0]) fun _ => some ((), (gup S.1 a (cT 4 0 16 []), S.2 + 1), 1, 16)
def nSB_len (a : Nat) (S : gS) : gO Int32 := bd (adt S a 4) fun q => some (nI q.2.2.length, S, 0, 0)
def nSB_addC (a : Nat) (ch : Int32) (S : gS) : gO (Option Nat) := bd (adt S a 4) fun q => if 0 ≤ ch ∧ ch < nI 256 ∧ q.2.2.length < 1000 then
    let g := sbGrow q.2.1 (q.2.2.length + 1)
    some (some a, (gup S.1 a (cT 4 0 g.1 (q.2.2 ++ [ch.toNatClampNeg])), S.2 + g.2.1), g.2.1, g.2.2)
  else none
/-- of the text "" alone (the constant 3) -/
def nSB_addS (G : gG) (a : Nat) (v : Option Nat) (S : gS) : gO (Option Nat) := bd (adt S a 4) fun _ => if v = some (G.2.2.1 3) then some (some a, S, 0, 0) else none
/-- the text, with its bytes behind it -/
def nSB_str (_G : gG) (a : Nat) (S : gS) : gO (Option Nat) := bd (adt S a 4) fun q => some (some S.2, (gup S.1 S.2 (cT 5 0 0 q.2.2), S.2 + 2), 2, 4 + q.2.2.length)
