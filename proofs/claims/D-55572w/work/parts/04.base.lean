/-! THE ABSTRACT STATE: constants' addresses, number of cells, number of slots, what lies at which address, the reference's fields and arrays -/
abbrev Rf : Type := Option Nat
def rf (x : Rf) : Value := match x with
  | none => .null
  | some a => .ref a
abbrev Ob : Type := (Nat × List Value) ⊕ ((Nat × Nat × (Nat → Value)) ⊕ ((Int32 × Nat × List Rf) ⊕ (List Rf ⊕ ((Nat × List Int32) ⊕ List Int32))))
def oP (ci : Nat) (fs : List Value) : Ob := .inl (ci, fs)
def oA (t n : Nat) (f : Nat → Value) : Ob := .inr (.inl (t, n, f))
def oL (mod : Int32) (cap : Nat) (xs : List Rf) : Ob := .inr (.inr (.inl (mod, cap, xs)))
def oD (xs : List Rf) : Ob := .inr (.inr (.inr (.inl xs)))
def oB (cap : Nat) (cs : List Int32) : Ob := .inr (.inr (.inr (.inr (.inl (cap, cs)))))
def oS (cs : List Int32) : Ob := .inr (.inr (.inr (.inr (.inr cs))))
abbrev MS : Type := (Nat → Int32) × (Nat → Nat → Int32)
abbrev St : Type := (Nat → Nat) × Nat × Nat × (Nat → Option Ob) × Option MS
def St.g (w : St) : Nat → Nat := w.1
def St.n (w : St) : Nat := w.2.1
def St.sl (w : St) : Nat := w.2.2.1
def St.mp (w : St) : Nat → Option Ob := w.2.2.2.1
def St.ms (w : St) : Option MS := w.2.2.2.2
def St.mk5 (g : Nat → Nat) (n sl : Nat) (mp : Nat → Option Ob) (ms : Option MS) : St := (g, n, sl, mp, ms)
def upO (f : Nat → Option Ob) (a : Nat) (o : Ob) : Nat → Option Ob := fun b => if b = a then some o else f b
def St.set (w : St) (a : Nat) (o : Ob) : St := St.mk5 w.g w.n w.sl (upO w.mp a o) w.ms
def St.new (w : St) (o : Ob) (k : Nat) : St := St.mk5 w.g (w.n + 1) (w.sl + k) (upO w.mp w.n o) w.ms
def St.setM (w : St) (M : MS) : St := St.mk5 w.g w.n w.sl w.mp (some M)
/-! the classes of objects, by number: the first 27 can be written -/
def clA : List vw_C := [(RX1, TX1, 8), (RX2, TX2, 4), (RX4, TX4, 3), (RX5, TX5, 3), (RX6, TX6, 9), (RX7, TX7, 6), (RX9, TX9, 3), (RX10, TX10, 11), (RX11, TX11, 1), (RX12, TX12, 14), (RX13, TX13, 1), (RX14, TX13, 0), (RX15, TX15, 2), (RX16, TX16, 4), (RX17, TX17, 3),
  (RJ2, TJ2, 3), (RJ12, TJ12, 4), (RJ3, TJ3, 3), (RJ5, TJ5, 4), (RJ6, TJ6, 4), (RJ11, TJ11, 0), (RJ13, TJ11, 0), (RJ17, TJ11, 0), (RJ22, TJ11, 0), (RJ24, TJ11, 0), (RJ27, TJ11, 0), (RX3, TX3, 34), (RJ6, TJ6, 4), (RX18, TX13, 0), (RX19, TX13, 0), (RJ21, TJ21, 1)]
/-- what an array of kind t holds; the kinds from 100 on are constants, each with a number of its own -/
def tyOf (t : Nat) : FieldType := match t with
  | 0 => .boolean
  | 1 => .byte
  | 2 => .char
  | 3 => .int
  | 4 => .long
  | 5 => .double
  | 6 => .object "java/lang/Object"
  | 100 => .int
  | 101 => .object "java/lang/Object"
  | 104 => .object "java/lang/Integer"
  | _ => .byte
abbrev Dn : Type := va_G × (Nat → ClassId)
def okP (D : Dn) (g0 ci : Nat) (fs : List Value) (a : Nat) (H : Heap) : Prop := ∃ (r : vw_C) (cell : Cell), clA[ci]? = some r ∧ fs.length = r.2.2 ∧ H[a]? = some cell ∧ cell.cls = D.1.1 ci ∧
  ((ci < 27 ∧ g0 ≤ a ∧ cell.vm = .none) ∨ (27 ≤ ci ∧ cell.vm ≠ .unknown ∧ cell.vm.isStatics = false)) ∧ ∀ k, k < r.2.2 → cell.slots[D.1.2 ci k]? = some (vp_V fs k)
def okA (D : Dn) (g0 t n : Nat) (f : Nat → Value) (a : Nat) (H : Heap) : Prop := ∃ cell : Cell, H[a]? = some cell ∧ cell.cls = D.2 t ∧
  ((t < 7 ∧ g0 ≤ a ∧ cell.vm = .none) ∨ (100 ≤ t ∧ cell.vm ≠ .unknown ∧ cell.vm.isStatics = false)) ∧ cell.slots.size = n ∧ ∀ i, i < n → cell.slots[i]? = some (f i)
/-- whether an object has an array of its own that is not told -/
def hid (o : Ob) : Bool := match o with
  | .inl _ => false
  | .inr (.inl _) => false
  | .inr (.inr (.inl (_, cap, _))) => cap != 0
  | .inr (.inr (.inr _)) => true
def okO (g : Nat → Nat) (D : Dn) (own a : Nat) (o : Ob) (H : Heap) : Prop := match o with
  | .inl (ci, fs) => okP D (g 0) ci fs a H
  | .inr (.inl (t, n, f)) => okA D (g 0) t n f a H
  | .inr (.inr (.inl (mod, cap, xs))) => okP D (g 0) 15 [.int mod, .ref (if cap = 0 then g 3 else own), .int (nI xs.length)] a H ∧ xs.length ≤ cap ∧ cap < 2 ^ 20 ∧ (cap ≠ 0 → ∃ f, okA D (g 0) 6 cap f own H ∧ ∀ i, i < xs.length → f i = rf (xs.getD i none))
  | .inr (.inr (.inr (.inl xs))) => ∃ (h : Nat) (f : Nat → Value), h < 17 ∧ xs.length ≤ 16 ∧ okP D (g 0) 17 [.ref own, .int (nI h), .int (nI ((h + xs.length) % 17))] a H ∧ okA D (g 0) 6 17 f own H ∧ ∀ i, i < xs.length → f ((h + i) % 17) = rf (xs.getD i none)
  | .inr (.inr (.inr (.inr (.inl (cap, cs))))) => cs.length ≤ cap ∧ cap < 2 ^ 20 ∧ ∃ (mb : Int32) (f : Nat → Value), okP D (g 0) 18 [.ref own, .int 0, .int mb, .int (nI cs.length)] a H ∧ okA D (g 0) 1 cap f own H ∧ ∀ i, i < cs.length → f i = .int (cs.getD i 0)
  | .inr (.inr (.inr (.inr (.inr cs)))) => okP D (g 0) 19 [.ref own, .int 0, .int 0, .int 0] a H ∧ cs.length < 2 ^ 20 ∧ ∃ f, okA D (g 0) 1 cs.length f own H ∧ ∀ i, i < cs.length → f i = .int (cs.getD i 0)
/-! the reference's cells: its object at g 400, its array of field k at g (401 + k) -/
def mArr (k : Nat) : Bool := [0, 1, 2, 4, 11, 14, 15, 16, 17, 18, 19, 22, 23, 24, 25, 26, 27, 32].contains k
def mLen (k : Nat) : Nat := match k with
  | 0 => 412
  | 1 => 412
  | 2 => 412
  | 4 => 3296
  | 11 => 60
  | 14 => 5
  | 15 => 5
  | 16 => 5
  | 17 => 6
  | 18 => 72
  | 19 => 72
  | 22 => 72
  | 23 => 28
  | 24 => 8
  | 25 => 7
  | 26 => 7
  | 27 => 488
  | 32 => 256
  | _ => 0
def mTy (k : Nat) : Nat := if k = 23 then 2 else 3
def mFs (g : Nat → Nat) (M : MS) : List Value := (List.range 34).map fun k => if mArr k then .ref (g (401 + k)) else .int (M.1 k)
def mReg (g : Nat → Nat) (q : Nat) : Prop := q = g 400 ∨ ∃ k, k < 34 ∧ mArr k = true ∧ q = g (401 + k)
def okM (g : Nat → Nat) (D : Dn) (M : MS) (H : Heap) : Prop := okP D (g 0) 26 (mFs g M) (g 400) H ∧ (∀ k, k < 34 → mArr k = true → okA D (g 0) (mTy k) (mLen k) (fun i => .int (M.2 k i)) (g (401 + k)) H) ∧
  (∀ k, k < 34 → mArr k = true → g (401 + k) ≠ g 400) ∧ ∀ k k', k < 34 → k' < 34 → mArr k = true → mArr k' = true → g (401 + k) = g (401 + k') → k = k'
/-- the heap H holds the state w, over the start's heap H0 -/
def Rel (D : Dn) (H0 : Heap) (w : St) (H : Heap) : Prop := H.size = w.n ∧ w.g 0 = H0.size ∧ H0.size ≤ H.size ∧ (∀ q : Nat, q < H0.size → H[q]? = H0[q]?) ∧ ∃ own : Nat → Nat,
  (∀ a o, w.mp a = some o → okO w.g D (own a) a o H) ∧ (∀ a o, w.mp a = some o → hid o = true → w.g 0 ≤ own a ∧ own a < H.size ∧ w.mp (own a) = none ∧ (w.ms ≠ none → ¬ mReg w.g (own a))) ∧
  (∀ a b o o', w.mp a = some o → w.mp b = some o' → hid o = true → hid o' = true → own a = own b → a = b) ∧ (∀ M, w.ms = some M → okM w.g D M H ∧ ∀ q, mReg w.g q → w.mp q = none)
