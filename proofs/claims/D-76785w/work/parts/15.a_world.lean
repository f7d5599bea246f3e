/-! THE WORLD: what both sides speak of, as lists (products and functions alone) -/
set_option maxRecDepth 100000
set_option maxHeartbeats 4000000
set_option linter.unusedVariables false
abbrev wF : Type := Nat → Int32
/-- a letter: columns 0 message, 1 state, 3 who, 4 till; its causes, the latest first (a cause: kind, time, number, many) -/
abbrev wLet : Type := wF × List wF
/-- a queue: scalars 26 limit, 27 tries, 28 lease, 29 age, 30 exclusive, 31 latest, 32 given, 33 acked, 34 died; parts; text; letters -/
abbrev wQue : Type := wF × List Int32 × List Int32 × List wLet
/-- a dead one: 0 message, 1 queue, 2 time; causes -/
abbrev wDed : Type := wF × List wF
/-- queues, consumers (0 queue, 1 credits, 2 gone, 3 got), messages (0 parts, 5 key, 6 priority, 7 value, 8 time), dead, topic, header (4 now, 5 seed) -/
abbrev wW : Type := List wQue × List wF × List wF × List wDed × List Int32 × wF
def wz : wF := fun _ => 0
def wqs (w : wW) : List wQue := w.1
def wcs (w : wW) : List wF := w.2.1
def wms (w : wW) : List wF := w.2.2.1
def wds (w : wW) : List wDed := w.2.2.2.1
def wtp (w : wW) : List Int32 := w.2.2.2.2.1
def wh (w : wW) : wF := w.2.2.2.2.2
def wq (w : wW) (q : Nat) : wQue := (wqs w).getD q (wz, [], [], [])
def wc (w : wW) (c : Nat) : wF := (wcs w).getD c wz
def wm (w : wW) (m : Nat) : wF := (wms w).getD m wz
def wd (w : wW) (i : Nat) : wDed := (wds w).getD i (wz, [])
def wL (x : wQue) : List wLet := x.2.2.2
def wl (x : wQue) (i : Nat) : wLet := (wL x).getD i (wz, [])
def oI (o : Option Nat) : Int32 := match o with
  | none => -1
  | some n => nI n
/-- the message of a letter -/
def wmo (w : wW) (l : wLet) : wF := wm w (l.1 0).toNatClampNeg
-- patterns
def pOpen (P : List Int32) : Bool := decide (P.getLast? = some (-3))
def pLong (P : List Int32) (n : Nat) : Bool := if pOpen P then decide (P.length - 1 ≤ n) else decide (n = P.length)
def pAt (P : List Int32) (k : Nat) : Int32 := if P.length ≤ k then -2 else if P.getD k 0 = -3 then -2 else P.getD k 0
def pFit (P T : List Int32) : Bool := pLong P T.length && (List.range T.length).all fun k => decide (pAt P k = -2) || decide (pAt P k = T.getD k 0)
-- letters
def mayI (w : wW) (x : wQue) (i : Nat) : Bool := decide ((wl x i).1 1 = 0) && (List.range i).all fun k => decide (wmo w (wl x k) 5 ≠ wmo w (wl x i) 5)
def nextS (w : wW) (x : wQue) (b : Option Nat) (i : Nat) : Option Nat := if mayI w x i = true ∧ (∀ j, b = some j → wmo w (wl x j) 6 < wmo w (wl x i) 6) then some i else b
def nextI (w : wW) (x : wQue) : Option Nat := (List.range (wL x).length).foldl (nextS w x) none
-- consumers
def hereC (w : wW) (q c : Nat) : Bool := decide (wc w c 2 = 0) && decide (wc w c 0 = nI q)
def creditC (w : wW) (c : Nat) : Bool := decide (0 < wc w c 1)
def latest1 (x : wQue) : Nat := (x.1 31 + 1).toNatClampNeg
def whoE (w : wW) (q : Nat) : Option Nat := match (List.range (wcs w).length).find? (hereC w q) with
  | some c => if creditC w c then some c else none
  | none => none
def whoR (w : wW) (q : Nat) : Option Nat := ((List.range (wcs w).length).map fun k => (latest1 (wq w q) + k) % (wcs w).length).find? fun c => hereC w q c && creditC w c
def whoI (w : wW) (q : Nat) : Option Nat := if (wq w q).1 30 = 1 then whoE w q else whoR w q
def outN (x : wQue) (c : Nat) : Nat := (List.range (wL x).length).countP fun i => decide ((wl x i).1 3 = nI c)
def outI (x : wQue) (c : Nat) (m : Int32) : Option Nat := (List.range (wL x).length).find? fun i => decide ((wl x i).1 3 = nI c) && (decide (m < 0) || decide ((wl x i).1 0 = m))
def consN (w : wW) (q : Nat) : Nat := (List.range (wcs w).length).countP (hereC w q)
def consCr (w : wW) (q : Nat) : Int32 := (List.range (wcs w).length).foldl (fun n c => if hereC w q c then n + wc w c 1 else n) 0
-- bounds
def wbL (w : wW) (l : wLet) : Prop := (∃ m, m < (wms w).length ∧ l.1 0 = nI m) ∧ (l.1 3 = -1 ∧ l.1 1 ≠ 2 ∨ l.1 1 = 2 ∧ ∃ c, c < (wcs w).length ∧ l.1 3 = nI c) ∧ l.2.length ≤ 4
/-- a queue's tries and limit hold -/
def wbT (x : wQue) : Prop := (∃ t, t ≤ 5 ∧ x.1 27 = nI t ∧ ∀ i, i < (wL x).length → (wl x i).2.length < t) ∧ ∃ m, m ≤ 20 ∧ x.1 26 = nI m ∧ (wL x).length ≤ m
def wbQ (w : wW) (x : wQue) : Prop := 1 ≤ x.2.1.length ∧ x.2.1.length ≤ 4 ∧ x.2.2.1.length ≤ 20 ∧ (wL x).length ≤ 20 ∧ (x.1 31 = -1 ∨ ∃ c, c < (wcs w).length ∧ x.1 31 = nI c) ∧ ((∀ k, k < x.2.1.length → x.2.1.getD k 0 = -3 → k + 1 = x.2.1.length) ∧ wbT x) ∧ ∀ i, i < (wL x).length → wbL w (wl x i)
def wbD (w : wW) (d : wDed) : Prop := (∃ m, m < (wms w).length ∧ d.1 0 = nI m) ∧ (∃ q, q < (wqs w).length ∧ d.1 1 = nI q) ∧ 1 ≤ d.2.length ∧ d.2.length ≤ 5
def WB (w : wW) : Prop := (wqs w).length ≤ 8 ∧ (wcs w).length ≤ 10 ∧ (wms w).length ≤ 300 ∧ (wds w).length ≤ 30 ∧ (wtp w).length ≤ 4 ∧ (∀ q, q < (wqs w).length → wbQ w (wq w q)) ∧ (∀ c, c < (wcs w).length → ∃ q, q < (wqs w).length ∧ wc w c 0 = nI q) ∧ ∀ i, i < (wds w).length → wbD w (wd w i)
-- the model's picture
def rmC (f : wF) (cs : List wF) : Prop := ∀ i, i < cs.length → ∀ k, k < 4 → f (4 * i + k) = cs.getD i wz k
def rmL (f : wF) (l : wLet) : Prop := f 0 = l.1 0 ∧ f 1 = l.1 1 ∧ f 2 = nI l.2.length ∧ f 3 = l.1 3 ∧ f 4 = l.1 4 ∧ f 5 = nI l.2.length ∧ rmC (fun k => f (6 + k)) l.2
def rmQ (f : wF) (x : wQue) : Prop := f 0 = nI x.2.1.length ∧ (∀ k, k < x.2.1.length → f (1 + k) = x.2.1.getD k 0) ∧ f 5 = nI x.2.2.1.length ∧ (∀ k, k < x.2.2.1.length → f (6 + k) = x.2.2.1.getD k 0) ∧ (∀ k, 26 ≤ k → k < 35 → f k = x.1 k) ∧ f 35 = nI (wL x).length ∧ ∀ i, i < (wL x).length → rmL (fun k => f (36 + 26 * i + k)) (wl x i)
def rmD (f : wF) (d : wDed) : Prop := f 0 = d.1 0 ∧ f 1 = d.1 1 ∧ f 2 = d.1 2 ∧ f 3 = nI d.2.length ∧ rmC (fun k => f (4 + k)) d.2
def rmM (f : wF) (x : wF) : Prop := f 0 = x 0 ∧ f 5 = x 5 ∧ f 6 = x 6 ∧ f 7 = x 7 ∧ f 8 = x 8
def RMh (g : wF) (w : wW) : Prop := g 0 = nI (wqs w).length ∧ g 1 = nI (wcs w).length ∧ g 2 = nI (wms w).length ∧ g 3 = nI (wds w).length ∧ g 4 = wh w 4 ∧ g 5 = wh w 5 ∧ g 6 = nI (wtp w).length ∧ ∀ k, k < (wtp w).length → g (7 + k) = (wtp w).getD k 0
def RM (g : wF) (w : wW) : Prop := RMh g w ∧ (∀ c, c < (wcs w).length → ∀ k, k < 4 → g (11 + 4 * c + k) = wc w c k) ∧ (∀ m, m < (wms w).length → rmM (fun k => g (51 + 9 * m + k)) (wm w m)) ∧ (∀ i, i < (wds w).length → rmD (fun k => g (2751 + 24 * i + k)) (wd w i)) ∧ ∀ q, q < (wqs w).length → rmQ (fun k => g (3471 + 556 * q + k)) (wq w q)
-- sizes alone
def wsQ (x : wQue) : Prop := 1 ≤ x.2.1.length ∧ x.2.1.length ≤ 4 ∧ x.2.2.1.length ≤ 20 ∧ (wL x).length ≤ 20 ∧ ∀ i, i < (wL x).length → (wl x i).2.length ≤ 5
def WS (w : wW) : Prop := (wqs w).length ≤ 8 ∧ (wcs w).length ≤ 10 ∧ (wms w).length ≤ 300 ∧ (wds w).length ≤ 30 ∧ (wtp w).length ≤ 4 ∧ (∀ q, q < (wqs w).length → wsQ (wq w q)) ∧ ∀ i, i < (wds w).length → (wd w i).2.length ≤ 5
theorem WB.ws {w : wW} (h : WB w) : WS w := ⟨h.1, h.2.1, h.2.2.1, h.2.2.2.1, h.2.2.2.2.1, fun q hq => ⟨(h.2.2.2.2.2.1 q hq).1, (h.2.2.2.2.2.1 q hq).2.1, (h.2.2.2.2.2.1 q hq).2.2.1, (h.2.2.2.2.2.1 q hq).2.2.2.1, fun i hi => Nat.le_trans ((h.2.2.2.2.2.1 q hq).2.2.2.2.2.2 i hi).2.2 (by decide)⟩, fun i hi => (h.2.2.2.2.2.2.2 i hi).2.2.2⟩
