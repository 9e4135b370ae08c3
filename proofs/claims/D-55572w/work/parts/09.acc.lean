/-! WHAT THE PROGRAM DOES TO THE ABSTRACT STATE -/
def bo {α β : Type} (o : Option α) (k : α → Option β) : Option β := match o with
  | none => none
  | some x => k x
def bd {α β : Type} (o : Option (α × St)) (k : α → St → Option β) : Option β := match o with
  | none => none
  | some x => k x.1 x.2
/-- behind a call that may throw: what is thrown goes on -/
def bx {α β : Type} (o : Option ((Nat ⊕ α) × St)) (k : α → St → Option ((Nat ⊕ β) × St)) : Option ((Nat ⊕ β) × St) := match o with
  | none => none
  | some (.inl q, w) => some (.inl q, w)
  | some (.inr x, w) => k x w
/-- .. what is thrown is handled here -/
def bh {α β : Type} (o : Option ((Nat ⊕ α) × St)) (h : Nat → St → Option β) (k : α → St → Option β) : Option β := match o with
  | none => none
  | some (.inl q, w) => h q w
  | some (.inr x, w) => k x w
def gd {β : Type} (P : Prop) [Decidable P] (k : Option β) : Option β := if P then k else none
def vI (v : Value) : Option Int32 := match v with
  | .int x => some x
  | _ => none
def vJ (v : Value) : Option Int64 := match v with
  | .long x => some x
  | _ => none
def vD (v : Value) : Option UInt64 := match v with
  | .double x => some x
  | _ => none
def vR (v : Value) : Option Rf := match v with
  | .null => some none
  | .ref a => some (some a)
  | _ => none
/-- the reference's object and its arrays, by their addresses -/
def mP (a : Nat) (w : St) : Option (Nat × List Value) := match w.ms with
  | none => none
  | some M => if a = w.g 400 then some (26, mFs w.g M) else none
def mK (g : Nat → Nat) (a : Nat) : Option Nat := (List.range 34).find? fun k => mArr k && g (401 + k) == a
def mA (a : Nat) (w : St) : Option (Nat × Nat × (Nat → Value)) := match w.ms with
  | none => none
  | some M => match mK w.g a with
    | none => none
    | some k => some (mTy k, mLen k, fun i => .int (M.2 k i))
def getP (x : Rf) (w : St) : Option (Nat × List Value) := match x with
  | none => none
  | some a => match w.mp a with
    | some (.inl q) => some q
    | some _ => none
    | none => mP a w
def getA (x : Rf) (w : St) : Option (Nat × Nat × (Nat → Value)) := match x with
  | none => none
  | some a => match w.mp a with
    | some (.inr (.inl q)) => some q
    | some _ => none
    | none => mA a w
/-- the class of an object, by its number -/
def clsO (o : Ob) : Option Nat := match o with
  | .inl q => some q.1
  | .inr (.inl _) => none
  | .inr (.inr (.inl _)) => some 15
  | .inr (.inr (.inr (.inl _))) => some 17
  | .inr (.inr (.inr (.inr (.inl _)))) => some 18
  | .inr (.inr (.inr (.inr (.inr _)))) => some 19
def cls (x : Rf) (w : St) : Option Nat := match x with
  | none => none
  | some a => match w.mp a with
    | some o => clsO o
    | none => match mP a w with
      | none => none
      | some q => some q.1
def upF (f : Nat → Int32) (k : Nat) (x : Int32) : Nat → Int32 := fun j => if j = k then x else f j
def upA (f : Nat → Nat → Int32) (k i : Nat) (x : Int32) : Nat → Nat → Int32 := fun k2 j => if k2 = k ∧ j = i then x else f k2 j
/-- a store into the reference's object, into one of its arrays -/
def mputv (k : Nat) (v : Value) (w : St) : Option St := match w.ms with
  | none => none
  | some M => match v with
    | .int x => if k < 34 ∧ mArr k = false then some (w.setM (upF M.1 k x, M.2)) else none
    | _ => none
def maput (a : Nat) (i : Nat) (v : Value) (w : St) : Option St := match w.ms with
  | none => none
  | some M => match mK w.g a with
    | none => none
    | some k => match v with
      | .int x => some (w.setM (M.1, upA M.2 k i x))
      | _ => none
def getv (cs : List Nat) (x : Rf) (k : Nat) (w : St) : Option Value := match getP x w with
  | none => none
  | some q => if cs.contains q.1 then q.2[k]? else none
def geti (cs : List Nat) (x : Rf) (k : Nat) (w : St) : Option Int32 := bo (getv cs x k w) vI
def getr (cs : List Nat) (x : Rf) (k : Nat) (w : St) : Option Rf := bo (getv cs x k w) vR
def putv (cs : List Nat) (x : Rf) (k : Nat) (v : Value) (w : St) : Option St := match x with
  | none => none
  | some a => match getP x w with
    | none => none
    | some q => if cs.contains q.1 = true ∧ q.1 < 27 ∧ k < q.2.length then (match w.mp a with
      | none => mputv k v w
      | some _ => some (w.set a (oP q.1 (q.2.set k v)))) else none
def puti (cs : List Nat) (x : Rf) (k : Nat) (v : Int32) (w : St) : Option St := putv cs x k (.int v) w
def putr (cs : List Nat) (x : Rf) (k : Nat) (v : Rf) (w : St) : Option St := putv cs x k (rf v) w
def putz (cs : List Nat) (x : Rf) (k : Nat) (v : Int32) (w : St) : Option St := if v = 0 ∨ v = 1 then putv cs x k (.int v) w else none
def putb (cs : List Nat) (x : Rf) (k : Nat) (v : Int32) (w : St) : Option St := if v = 0 ∨ v = 1 then putv cs x k (.int v) w else none
/-! arrays, by what they hold -/
def kZ (t : Nat) : Bool := t == 0
def kB (t : Nat) : Bool := t == 1 || (102 ≤ t && t != 104)
def kC (t : Nat) : Bool := t == 2
def kI (t : Nat) : Bool := t == 3 || t == 100
def kJ (t : Nat) : Bool := t == 4
def kD (t : Nat) : Bool := t == 5
def kR (t : Nat) : Bool := t == 6 || t == 101 || t == 104
def aget (kp : Nat → Bool) (x : Rf) (i : Int32) (w : St) : Option Value := match getA x w with
  | none => none
  | some q => if kp q.1 = true ∧ ¬ (i < 0 ∨ q.2.1 ≤ i.toNatClampNeg) then some (q.2.2 i.toNatClampNeg) else none
def iald (x : Rf) (i : Int32) (w : St) : Option Int32 := bo (aget kI x i w) vI
def bald (x : Rf) (i : Int32) (w : St) : Option Int32 := bo (aget kB x i w) vI
def zald (x : Rf) (i : Int32) (w : St) : Option Int32 := bo (aget kZ x i w) vI
def cald (x : Rf) (i : Int32) (w : St) : Option Int32 := bo (aget kC x i w) vI
def jald (x : Rf) (i : Int32) (w : St) : Option Int64 := bo (aget kJ x i w) vJ
def dald (x : Rf) (i : Int32) (w : St) : Option UInt64 := bo (aget kD x i w) vD
def rald (x : Rf) (i : Int32) (w : St) : Option Rf := bo (aget kR x i w) vR
def aput (t : Nat) (x : Rf) (i : Int32) (v : Value) (w : St) : Option St := match x with
  | none => none
  | some a => match getA x w with
    | none => none
    | some q => if q.1 = t ∧ t < 7 ∧ ¬ (i < 0 ∨ q.2.1 ≤ i.toNatClampNeg) then (match w.mp a with
      | none => maput a i.toNatClampNeg v w
      | some _ => some (w.set a (oA t q.2.1 (updV q.2.2 i.toNatClampNeg v)))) else none
def iast (x : Rf) (i v : Int32) (w : St) : Option St := aput 3 x i (.int v) w
def bast (x : Rf) (i v : Int32) (w : St) : Option St := aput 1 x i (.int v.toInt8.toInt32) w
def zast (x : Rf) (i v : Int32) (w : St) : Option St := if v = 0 ∨ v = 1 then aput 0 x i (.int v) w else none
def jast (x : Rf) (i : Int32) (v : Int64) (w : St) : Option St := aput 4 x i (.long v) w
def dast (x : Rf) (i : Int32) (v : UInt64) (w : St) : Option St := aput 5 x i (.double v) w
/-- into an array of Objects: null, or an object that is told -/
def caast (x : Rf) (i v : Int32) (w : St) : Option St := aput 2 x i (.int (v.toUInt32 % 65536).toInt32) w
def rast (x : Rf) (i : Int32) (v : Rf) (w : St) : Option St := if v = none ∨ cls v w ≠ none then aput 6 x i (rf v) w else none
def alen (x : Rf) (w : St) : Option Int32 := match getA x w with
  | none => none
  | some q => some (nI q.2.1)
/-- a new array of kind t with n cells that hold z -/
def anew (t : Nat) (z : Value) (n : Int32) (w : St) : Option St := if ¬ n < 0 ∧ n.toNatClampNeg ≤ 100000 then some (w.new (oA t n.toNatClampNeg (fun _ => z)) n.toNatClampNeg) else none
/-- new E(), without a text -/
def enew (ci : Nat) (w : St) : St := w.new (oP ci []) 6
