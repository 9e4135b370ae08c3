/-! THE JDK'S MEMBERS, as they act on lists, deques, builders and texts that are told as one object each -/
def lsOf (x : Rf) (w : St) : Option (Int32 × Nat × List Rf) := match x with
  | none => none
  | some a => match w.mp a with
    | some (.inr (.inr (.inl q))) => some q
    | _ => none
def dqOf (x : Rf) (w : St) : Option (List Rf) := match x with
  | none => none
  | some a => match w.mp a with
    | some (.inr (.inr (.inr (.inl q)))) => some q
    | _ => none
def sbOf (x : Rf) (w : St) : Option (Nat × List Int32) := match x with
  | none => none
  | some a => match w.mp a with
    | some (.inr (.inr (.inr (.inr (.inl q))))) => some q
    | _ => none
def setO (x : Rf) (o : Ob) (w : St) : St := match x with
  | none => w
  | some a => w.set a o
/-- a cell is made that is not told -/
def St.skip (w : St) (k : Nat) : St := St.mk5 w.g (w.n + 1) (w.sl + k) w.mp w.ms
def isOb (v : Rf) (w : St) : Prop := v = none ∨ cls v w ≠ none
def fL_init (b : Nat) (w : St) : Option (Unit × St) := bo (getP (some b) w) fun q => if q.1 = 15 then some ((), w.set b (oL 0 0 [])) else none
def lGrow (cap : Nat) : Nat := if cap = 0 then 10 else cap + max 1 (cap / 2)
def fL_add (x v : Rf) (w : St) : Option (Int32 × St) := bo (lsOf x w) fun q => if v = none ∨ cls v w ≠ none then (if q.2.2.length < q.2.1 then some (1, setO x (oL (q.1 + 1) q.2.1 (q.2.2 ++ [v])) w) else if q.2.1 ≤ 1000 then some (1, setO x (oL (q.1 + 1) (lGrow q.2.1) (q.2.2 ++ [v])) (w.skip (lGrow q.2.1))) else none) else none
def fL_get (x : Rf) (i : Int32) (w : St) : Option (Rf × St) := bo (lsOf x w) fun q => if 0 ≤ i ∧ i.toNatClampNeg < q.2.2.length then some (q.2.2.getD i.toNatClampNeg none, w) else none
def fL_size (x : Rf) (w : St) : Option (Int32 × St) := bo (lsOf x w) fun q => some (nI q.2.2.length, w)
def fL_remove (x : Rf) (i : Int32) (w : St) : Option (Rf × St) := bo (lsOf x w) fun q => if 0 ≤ i ∧ i.toNatClampNeg < q.2.2.length then some (q.2.2.getD i.toNatClampNeg none, setO x (oL (q.1 + 1) q.2.1 (q.2.2.eraseIdx i.toNatClampNeg)) w) else none
def fL_iterator (x : Rf) (w : St) : Option (Rf × St) := bo (lsOf x w) fun q => some (some w.n, w.new (oP 16 [.int 0, .int (-1), .int q.1, rf x]) 4)
def fI_hasNext (x : Rf) (w : St) : Option (Int32 × St) := bo (geti [16] x 0 w) fun c => bo (getr [16] x 3 w) fun l => bo (lsOf l w) fun q => some (if c = nI q.2.2.length then 0 else 1, w)
def fI_next (x : Rf) (w : St) : Option (Rf × St) := bo (geti [16] x 0 w) fun c => bo (geti [16] x 2 w) fun em => bo (getr [16] x 3 w) fun l => bo (lsOf l w) fun q => if em = q.1 ∧ 0 ≤ c ∧ c.toNatClampNeg < q.2.2.length then (bo (puti [16] x 0 (c + 1) w) fun w1 => bo (puti [16] x 1 c w1) fun w2 => some (q.2.2.getD c.toNatClampNeg none, w2)) else none
def fD_init (b : Nat) (w : St) : Option (Unit × St) := bo (getP (some b) w) fun q => if q.1 = 17 then some ((), (w.skip 17).set b (oD [])) else none
def fD_addLast (x v : Rf) (w : St) : Option (Unit × St) := bo (dqOf x w) fun xs => if v ≠ none ∧ cls v w ≠ none ∧ xs.length ≤ 15 then some ((), setO x (oD (xs ++ [v])) w) else none
def fD_removeFirst (x : Rf) (w : St) : Option (Rf × St) := bo (dqOf x w) fun xs => match xs with
  | [] => none
  | y :: ys => if y ≠ none then some (y, setO x (oD ys) w) else none
def fD_removeLast (x : Rf) (w : St) : Option (Rf × St) := bo (dqOf x w) fun xs => bo xs.getLast? fun y => if y ≠ none then some (y, setO x (oD xs.dropLast) w) else none
def fD_size (x : Rf) (w : St) : Option (Int32 × St) := bo (dqOf x w) fun xs => some (nI xs.length, w)
def fD_isEmpty (x : Rf) (w : St) : Option (Int32 × St) := bo (dqOf x w) fun xs => some (if xs.length = 0 then 1 else 0, w)
def fD_clear (x : Rf) (w : St) : Option (Unit × St) := bo (dqOf x w) fun _ => some ((), setO x (oD []) w)
/-! builders and texts -/
def bGrow (cap need : Nat) : Nat := if need ≤ cap then cap else max need (2 * cap + 2)
def sbAdd (x : Rf) (cap : Nat) (cs : List Int32) (w : St) : Option (Rf × St) := if cs.length ≤ cap then some (x, setO x (oB cap cs) w) else if cs.length ≤ 1000 then some (x, setO x (oB (bGrow cap cs.length) cs) (w.skip (bGrow cap cs.length))) else none
def fB_init (b : Nat) (w : St) : Option (Unit × St) := bo (getP (some b) w) fun q => if q.1 = 18 then some ((), (w.skip 16).set b (oB 16 [])) else none
def fB_appendC (x : Rf) (c : Int32) (w : St) : Option (Rf × St) := bo (sbOf x w) fun q => if 0 ≤ c ∧ c ≤ 127 then sbAdd x q.1 (q.2 ++ [c]) w else none
/-- the digits of a number -/
def decF : Nat → Nat → List Int32
  | 0, _ => []
  | F + 1, n => if n < 10 then [nI (48 + n)] else decF F (n / 10) ++ [nI (48 + n % 10)]
def fB_appendI (x : Rf) (i : Int32) (w : St) : Option (Rf × St) := bo (sbOf x w) fun q => if 0 ≤ i then sbAdd x q.1 (q.2 ++ decF 11 i.toNatClampNeg) w else none
/-- the signs of a text: one that was made, or a constant -/
def strOf (x : Rf) (w : St) : Option (List Int32) := match x with
  | none => none
  | some a => match w.mp a with
    | some (.inr (.inr (.inr (.inr (.inr cs))))) => some cs
    | some (.inl (27, .ref v :: .int 0 :: _)) => bo (getA (some v) w) fun q => if 102 ≤ q.1 ∧ q.1 ≠ 104 then (List.range q.2.1).mapM fun i => vI (q.2.2 i) else none
    | _ => none
def fB_appendS (x s : Rf) (w : St) : Option (Rf × St) := bo (sbOf x w) fun q => bo (strOf s w) fun cs => sbAdd x q.1 (q.2 ++ cs) w
def fB_setLength (x : Rf) (n : Int32) (w : St) : Option (Unit × St) := bo (sbOf x w) fun q => if n = 0 then some ((), setO x (oB q.1 []) w) else none
def fB_length (x : Rf) (w : St) : Option (Int32 × St) := bo (sbOf x w) fun q => some (nI q.2.length, w)
def fB_charAt (x : Rf) (i : Int32) (w : St) : Option (Int32 × St) := bo (sbOf x w) fun q => if 0 ≤ i ∧ i.toNatClampNeg < q.2.length then some (q.2.getD i.toNatClampNeg 0, w) else none
def fB_toString (x : Rf) (w : St) : Option (Rf × St) := bo (sbOf x w) fun q => some (some w.n, (w.new (oS q.2) 4).skip q.2.length)
def fS_length (x : Rf) (w : St) : Option (Int32 × St) := bo (strOf x w) fun cs => some (nI cs.length, w)
def fS_charAt (x : Rf) (i : Int32) (w : St) : Option (Int32 × St) := bo (strOf x w) fun cs => if 0 ≤ i ∧ i.toNatClampNeg < cs.length then some (cs.getD i.toNatClampNeg 0, w) else none
def fS_hashCode (x : Rf) (w : St) : Option (Int32 × St) := bo (geti [27] x 2 w) fun h => bo (geti [27] x 3 w) fun z => if h ≠ 0 ∨ z ≠ 0 then some (h, w) else none
def fS_equals (x y : Rf) (w : St) : Option (Int32 × St) := if x = y ∧ cls x w ≠ none then some (1, w) else none
def fN_valueOf (i : Int32) (w : St) : Option (Rf × St) := if -128 ≤ i ∧ i ≤ 127 then some (some (w.g (100 + (i + 128).toNatClampNeg)), w) else none
def fN_intValue (x : Rf) (w : St) : Option (Int32 × St) := bo (geti [30] x 0 w) fun v => some (v, w)
