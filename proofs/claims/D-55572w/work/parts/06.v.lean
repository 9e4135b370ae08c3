/-! WHAT HOLDS OF THE TABLES AND OF THE START'S HEAP, all through a run -/
def isNw : Cond → Bool
  | .fieldLinkNest .. => true
  | .methodLinkNest .. => true
  | .declares _ => true
  | .castable .. => true
  | _ => false
theorem isNw_on {w : Cond} (h : isNw w = true) : w.onTables = true := by
  cases w <;> first | rfl | cases h
theorem va_Nw_warm {w : Cond} (h : isNw w = true) {s U : State} (hW : s.WarmedH U.vm) (hZ : va_Nw w s) : va_Nw w U := by
  cases w <;> first | exact va_Nw.warmF hW hZ | exact va_Nw.warmM hW hZ | exact va_Nw.warmD hW hZ | exact va_Nw.warmC hW hZ | cases h
def fwL : List (String × MethodName × MethodName) := [("java/util/ArrayList$Itr", ⟨"java/util/Iterator", "hasNext", "()Z"⟩, ⟨"java/util/ArrayList$Itr", "hasNext", "()Z"⟩), ("java/util/ArrayList$Itr", ⟨"java/util/Iterator", "next", "()Ljava/lang/Object;"⟩, ⟨"java/util/ArrayList$Itr", "next", "()Ljava/lang/Object;"⟩),
  ("CoachTimetable$Leg", ⟨"CoachTimetable$Lead", "due", "(I)I"⟩, ⟨"CoachTimetable$Leg", "due", "(I)I"⟩), ("CoachTimetable$Stay", ⟨"CoachTimetable$Lead", "due", "(I)I"⟩, ⟨"CoachTimetable$Stay", "due", "(I)I"⟩), ("CoachTimetable$Turn", ⟨"CoachTimetable$Lead", "due", "(I)I"⟩, ⟨"CoachTimetable$Turn", "due", "(I)I"⟩), ("CoachTimetable$Wait", ⟨"CoachTimetable$Lead", "due", "(I)I"⟩, ⟨"CoachTimetable$Wait", "due", "(I)I"⟩)]
def ncL : List (String × String) := [("CoachTimetable$Leg", "CoachTimetable$Wait"), ("CoachTimetable$Stay", "CoachTimetable$Wait"), ("CoachTimetable$Turn", "CoachTimetable$Wait"), ("CoachTimetable$Leg", "CoachTimetable$Turn"), ("CoachTimetable$Stay", "CoachTimetable$Turn"), ("CoachTimetable$Event", "CoachTimetable$Departure"),
  ("java/lang/IllegalArgumentException", "java/lang/IndexOutOfBoundsException"), ("java/lang/IllegalStateException", "java/lang/IllegalArgumentException"), ("java/lang/UnsupportedOperationException", "java/lang/IllegalArgumentException"), ("java/util/NoSuchElementException", "java/lang/IllegalArgumentException")]
def gF (g : Nat → Nat) : Rf := if g 7 = 0 then none else some (g 7 - 1)
def zL (g : Nat → Nat) : List (String × String × String × Value) := [("CoachTimetable$Side", "ARRIVAL", "LCoachTimetable$Side;", .ref (g 1)), ("CoachTimetable$Side", "DEPARTURE", "LCoachTimetable$Side;", .ref (g 2)), ("java/util/ArrayList", "DEFAULTCAPACITY_EMPTY_ELEMENTDATA", "[Ljava/lang/Object;", .ref (g 3)), ("java/lang/Integer", "DigitOnes", "[B", .ref (g 4)), ("java/lang/Integer", "DigitTens", "[B", .ref (g 5)),
  ("java/lang/Integer$IntegerCache", "cache", "[Ljava/lang/Integer;", .ref (g 6)), ("java/lang/Integer$IntegerCache", "high", "I", .int 127), ("java/lang/String", "COMPACT_STRINGS", "Z", .int 1), ("jdk/internal/util/Preconditions", "SIOOBE_FORMATTER", "Ljava/util/function/BiFunction;", rf (gF g))]
def strL (g : Nat → Nat) : List (String × Nat × String × Nat) := [("CoachTimetable", 465, " ", g 10), ("CoachTimetable$Reader", 48, " ", g 10), ("CoachTimetable", 467, "", g 11), ("CoachTimetable$Reader", 66, "", g 11), ("CoachTimetable$Reader", 58, "late", g 12), ("CoachTimetable", 381, "late", g 12), ("CoachTimetable$Reader", 60, "leg", g 13), ("CoachTimetable", 390, "leg", g 13), ("CoachTimetable$Reader", 62, "limit", g 14), ("CoachTimetable", 386, "limit", g 14),
  ("CoachTimetable$Reader", 64, "link", g 15), ("CoachTimetable", 385, "link", g 15), ("CoachTimetable$Reader", 72, "turn", g 16), ("CoachTimetable", 388, "turn", g 16), ("CoachTimetable$Reader", 74, "coach", g 17), ("CoachTimetable$Reader", 76, "cut", g 18), ("CoachTimetable", 387, "cut", g 18), ("CoachTimetable$Reader", 85, "11s3", g 19), ("CoachTimetable$Reader", 87, "111133", g 20), ("CoachTimetable$Reader", 89, "33", g 21), ("CoachTimetable$Reader", 91, "3", g 22), ("CoachTimetable$Reader", 93, "11", g 23), ("CoachTimetable$Reader", 95, "113333", g 24), ("CoachTimetable$Reader", 97, "13", g 25), ("CoachTimetable", 473, "-", g 26)]
def tOk (t : Nat) : Prop := t < 7 ∨ 100 ≤ t
def K0 (D : Dn) (H0 : Heap) (g : Nat → Nat) (U : State) : Prop :=
  ((∀ (c : Nat) (q : vw_C), clA[c]? = some q → u_Kn U q.1 q.2.1 q.2.2 (D.1.1 c) (D.1.2 c)) ∧ (∀ t, tOk t → ArrOfT U (D.2 t) (tyOf t)) ∧ (∀ t, t < 7 → va_RA U (D.2 t) (tyOf t))) ∧
  ((∀ w ∈ lw_tbl, isNw w = true → va_Nw w U) ∧ (∀ q ∈ fwL, va_Fw q.1 q.2.1 q.2.2 U) ∧ va_AO "java/lang/Object" U ∧ ∀ q ∈ ncL, va_Nc q.1 q.2 U) ∧
  (∀ q ∈ zL g, va_Z q.1 q.2.1 q.2.2.1 q.2.2.2 (fun a => g 0 ≤ a) U H0) ∧ (∀ q ∈ strL g, vk_R q.1 q.2.1 q.2.2.1 q.2.2.2 U) ∧
  vx_Zq Bundle.tN "UNASSIGNED_STACK" Bundle.steD (fun a => g 0 ≤ a) U H0 ∧ vx_Zq Bundle.tN "SUPPRESSED_SENTINEL" Bundle.listD (fun a => g 0 ≤ a) U H0
theorem fwL_ok : ∀ q ∈ fwL, q.2.1.cls ≠ "java/lang/invoke/MethodHandle" ∧ q.2.1.cls ≠ "java/lang/invoke/VarHandle" := by decide +kernel
theorem K0.warm {D : Dn} {H0 : Heap} {g : Nat → Nat} {s U : State} (h : K0 D H0 g s) (hW : s.WarmedH U.vm) : K0 D H0 g U := by
  obtain ⟨⟨h1, h2, h3⟩, ⟨h4, h5, h6, h7⟩, h8, h9, h10, h11⟩ := h
  exact ⟨⟨fun c q hq => u_Kn_moved hW.alike (h1 c q hq), fun t ht => arrOfT_moved hW.alike (h2 t ht), fun t ht => (h3 t ht).moved hW.alike⟩,
    ⟨fun w hw hn => va_Nw_warm hn hW (h4 w hw hn), fun q hq => (h5 q hq).moved (fwL_ok q hq) hW.alike, h6.moved hW.alike, fun q hq => (h7 q hq).moved hW.alike⟩,
    fun q hq => (h8 q hq).moved hW.alike, fun q hq => (h9 q hq).warm hW, h10.moved hW.alike, h11.moved hW.alike⟩
theorem K0.same {D : Dn} {H0 : Heap} {g : Nat → Nat} {s U : State} (h : K0 D H0 g s) (hv : s.vm = U.vm) : K0 D H0 g U := by
  obtain ⟨⟨h1, h2, h3⟩, ⟨h4, h5, h6, h7⟩, h8, h9, h10, h11⟩ := h
  have ha : s.vm.Alike U.vm := by rw [hv]; exact Vm.Alike.refl _
  exact ⟨⟨fun c q hq => u_Kn_moved ha (h1 c q hq), fun t ht => arrOfT_moved ha (h2 t ht), fun t ht => (h3 t ht).moved ha⟩,
    ⟨fun w hw hn => (h4 w hw hn).same (isNw_on hn) hv, fun q hq => (h5 q hq).moved (fwL_ok q hq) ha, h6.moved ha, fun q hq => (h7 q hq).moved ha⟩,
    fun q hq => (h8 q hq).moved ha, fun q hq => (h9 q hq).same hv.symm, h10.moved ha, h11.moved ha⟩
/-! CONTRACTS AND THE WALK'S JUDGEMENT -/
/-- a local, an argument: an int, a reference, a long, a float, a double -/
abbrev LV : Type := Int32 ⊕ (Rf ⊕ (Int64 ⊕ (UInt32 ⊕ UInt64)))
abbrev lI (x : Int32) : LV := .inl x
abbrev lR (x : Rf) : LV := .inr (.inl x)
abbrev lJ (x : Int64) : LV := .inr (.inr (.inl x))
abbrev lF (x : UInt32) : LV := .inr (.inr (.inr (.inl x)))
abbrev lD (x : UInt64) : LV := .inr (.inr (.inr (.inr x)))
def LV.v (x : LV) : Value := match x with
  | .inl x => .int x
  | .inr (.inl x) => rf x
  | .inr (.inr (.inl x)) => .long x
  | .inr (.inr (.inr (.inl x))) => .float x
  | .inr (.inr (.inr (.inr x))) => .double x
def LV.two (x : LV) : Bool := match x with
  | .inr (.inr (.inl _)) => true
  | .inr (.inr (.inr (.inr _))) => true
  | _ => false
def lvs (ls : List (Nat × LV)) : List (Nat × Value) := ls.map fun q => (q.1, q.2.v)
def lvA (i : Nat) (av : List LV) : List (Nat × LV) := match av with
  | [] => []
  | v :: vs => (i, v) :: lvA (if v.two then i + 2 else i + 1) vs
theorem rf_cat (x : Rf) : (rf x).category = 1 := by cases x <;> rfl
theorem LV_two (x : LV) : (x.v.category == 2) = x.two := by
  rcases x with x | x | x | x | x
  · rfl
  · show ((rf x).category == 2) = false
    rw [rf_cat]
    rfl
  · rfl
  · rfl
  · rfl
theorem lvA_eq (av : List LV) : ∀ i, lvs (lvA i av) = lv_args i (av.map LV.v) := by
  induction av with
  | nil => intro i; rfl
  | cons v vs ih =>
    intro i
    show (i, v.v) :: lvs (lvA (if v.two then i + 2 else i + 1) vs) = (i, v.v) :: lv_args (if v.v.category = 2 then i + 2 else i + 1) (vs.map LV.v)
    rw [ih, ← LV_two v]
    simp
def exN (ci : Nat) (E : String) : Prop := ∃ q : vw_C, clA[ci]? = some q ∧ q.1 = E
def PcO (D : Dn) (H0 : Heap) (av : List Value) (w : St) : Array Value → State → Prop := fun v U => v = av.toArray ∧ K0 D H0 w.g U ∧ Rel D H0 w U.heap
def QcO (D : Dn) (H0 : Heap) {ρ : Type} (oc : ρ → Nat ⊕ Option Value) (r : ρ) (w : St) : Array Value → State → Outcome → State → Prop := fun _ _ o t => (∃ v, oc r = .inr v ∧ o = .returned v) ∧ Rel D H0 w t.heap
def XcO (D : Dn) (H0 : Heap) {ρ : Type} (oc : ρ → Nat ⊕ Option Value) (r : ρ) (w : St) : String → Addr → State → State → Prop := fun E q _ t => oc r = .inl q ∧ Rel D H0 w t.heap ∧ ∃ (ci : Nat) (fs : List Value), w.mp q = some (oP ci fs) ∧ ci < 27 ∧ exN ci E
def rmO (fr lo : Nat) (w w1 : St) : Room := { frames := fr, cells := w1.n - w.n, slots := w1.sl - w.sl, locals := lo }
def SimX (l : Launch) (D : Dn) (H0 : Heap) (y : MethodName) (ws : List Cond) (fr lo : Nat) {ρ : Type} (oc : ρ → Nat ⊕ Option Value) (av : List LV) (w : St) (res : Option (ρ × St)) : Prop :=
  ∀ r w1, res = some (r, w1) → (w1.g = w.g ∧ w.n ≤ w1.n ∧ w.sl ≤ w1.sl) ∧ vx_Met l y ws (rmO fr lo w w1) (PcO D H0 (av.map LV.v) w) (QcO D H0 oc r w1) (XcO D H0 oc r w1) (w1.n - w.n) (w1.sl - w.sl) (fun q => w.g 0 ≤ q)
def SimN (l : Launch) (D : Dn) (H0 : Heap) (y : MethodName) (ws : List Cond) (fr lo : Nat) {ρ : Type} (rv : ρ → Option Value) (av : List LV) (w : St) (res : Option (ρ × St)) : Prop :=
  ∀ r w1, res = some (r, w1) → (w1.g = w.g ∧ w.n ≤ w1.n ∧ w.sl ≤ w1.sl) ∧ Met l y ws (rmO fr lo w w1) (PcO D H0 (av.map LV.v) w) (QcO D H0 (fun x => .inr (rv x)) r w1) (w1.n - w.n) (w1.sl - w.sl) (fun q => w.g 0 ≤ q)
def Cx (D : Dn) (H0 : Heap) (own nm : String) (cc : ByteArray) (nL : Nat) (ret : Option FieldType) (hh : List (Nat × Nat × Nat × Nat)) (fr lo : Nat) (w0 : St) (p : Program) (R : Room) (s : State) (m : MethodId) (args : Array Value) (meth : Method) (c : Code) : Prop :=
  CallFix p m c cc nL s args lw_all own ∧ meth.sig.returnType = ret ∧ meth.locks = false ∧ c.exceptionTable.toList = tableOf hh ∧ meth.name = nm ∧ K0 D H0 w0.g s ∧ fr ≤ R.frames ∧ lo ≤ R.locals ∧ s.heap.size = w0.n ∧ w0.g 0 = H0.size ∧ H0.size ≤ s.heap.size ∧ ∀ q : Nat, q < H0.size → s.heap[q]? = H0[q]?
def V (l : Launch) (D : Dn) (H0 : Heap) (own nm : String) (cc : ByteArray) (nL : Nat) (ret : Option FieldType) (hh : List (Nat × Nat × Nat × Nat)) (fr lo : Nat) {ρ : Type} (oc : ρ → Nat ⊕ Option Value) (w0 : St) (res : Option (ρ × St)) (pc : Nat) (ls : List (Nat × LV)) (st : List Value) (w : St) : Prop :=
  ∀ r w1, res = some (r, w1) → (w1.g = w.g ∧ w.n ≤ w1.n ∧ w.sl ≤ w1.sl) ∧ ∀ (p : Program) (e : Env) (R : Room) (s : State) (m : MethodId) (args : Array Value) (below : List Frame) (meth : Method) (c : Code) (H : Heap) (locs : List Loc) (la : Array Slot),
    Cx D H0 own nm cc nL ret hh fr lo w0 p R s m args meth c → R.cells = w1.n - w0.n → R.slots = w1.sl - w0.sl → w.g = w0.g → w0.n ≤ w.n → w0.sl ≤ w.sl → Rel D H0 w H → (∀ q ∈ locs, w0.g 0 ≤ q.base) → lv_has la nL (lvs ls) →
    W p l e R s m args below meth c H locs (w.n - w0.n) (w.sl - w0.sl) (vx_MQ below (QcO D H0 oc r w1) (XcO D H0 oc r w1) args s (w1.n - w0.n) (w1.sl - w0.sl) (fun q => w0.g 0 ≤ q)) (F0 m pc la st)
theorem PcO.blind {D : Dn} {H0 : Heap} {av : List Value} {w : St} : FrameBlind (PcO D H0 av w) := fun a U g mk h => ⟨h.1, h.2.1.same rfl, h.2.2⟩
