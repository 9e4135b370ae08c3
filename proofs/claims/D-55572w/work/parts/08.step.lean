section STEP
variable {l : Launch} {D : Dn} {H0 : Heap} {own nm : String} {cc : ByteArray} {nL : Nat} {ret : Option FieldType} {hh : List (Nat × Nat × Nat × Nat)} {fr lo : Nat} {ρ : Type} {oc : ρ → Nat ⊕ Option Value} {w0 w : St} {res : Option (ρ × St)} {pc : Nat} {ls : List (Nat × LV)} {st : List Value}
theorem V.lift {pc pc2 : Nat} {ls ls2 : List (Nat × LV)} {st st2 : List Value} (h : ∀ (p : Program) (e : Env) (R : Room) (s : State) (m : MethodId) (args : Array Value) (below : List Frame) (meth : Method) (c : Code) (H : Heap) (locs : List Loc) (cells slots : Nat) (Q : State → Prop) (la : Array Slot), Cx D H0 own nm cc nL ret hh fr lo w0 p R s m args meth c → lv_has la nL (lvs ls) →
    (∀ la2 : Array Slot, lv_has la2 nL (lvs ls2) → W p l e R s m args below meth c H locs cells slots Q (F0 m pc2 la2 st2)) → W p l e R s m args below meth c H locs cells slots Q (F0 m pc la st)) (k : V l D H0 own nm cc nL ret hh fr lo oc w0 res pc2 ls2 st2 w) : V l D H0 own nm cc nL ret hh fr lo oc w0 res pc ls st w := by
  intro r w1 hres
  obtain ⟨k1, k2⟩ := k r w1 hres
  exact ⟨k1, fun p e R s m args below meth c H locs la hC h1 h2 h3 h4 h5 h6 h7 h8 => h p e R s m args below meth c H locs _ _ _ la hC h8 (fun la2 h9 => k2 p e R s m args below meth c H locs la2 hC h1 h2 h3 h4 h5 h6 h7 h9)⟩
theorem V.br {P : Prop} [Decidable P] {A B : Option (ρ × St)} {pc p1 p2 : Nat} {st st2 : List Value} (h : ∀ (p : Program) (e : Env) (R : Room) (s : State) (m : MethodId) (args : Array Value) (below : List Frame) (meth : Method) (c : Code) (H : Heap) (locs : List Loc) (cells slots : Nat) (Q : State → Prop) (la : Array Slot), Cx D H0 own nm cc nL ret hh fr lo w0 p R s m args meth c →
    (P → W p l e R s m args below meth c H locs cells slots Q (F0 m p1 la st2)) → (¬ P → W p l e R s m args below meth c H locs cells slots Q (F0 m p2 la st2)) → W p l e R s m args below meth c H locs cells slots Q (F0 m pc la st)) (k1 : V l D H0 own nm cc nL ret hh fr lo oc w0 A p1 ls st2 w) (k2 : V l D H0 own nm cc nL ret hh fr lo oc w0 B p2 ls st2 w) : V l D H0 own nm cc nL ret hh fr lo oc w0 (if P then A else B) pc ls st w := by
  intro r w1 hres
  by_cases hP : P
  · rw [if_pos hP] at hres
    obtain ⟨a1, a2⟩ := k1 r w1 hres
    exact ⟨a1, fun p e R s m args below meth c H locs la hC h1 h2 h3 h4 h5 h6 h7 h8 => h p e R s m args below meth c H locs _ _ _ la hC (fun _ => a2 p e R s m args below meth c H locs la hC h1 h2 h3 h4 h5 h6 h7 h8) (fun q => absurd hP q)⟩
  · rw [if_neg hP] at hres
    obtain ⟨a1, a2⟩ := k2 r w1 hres
    exact ⟨a1, fun p e R s m args below meth c H locs la hC h1 h2 h3 h4 h5 h6 h7 h8 => h p e R s m args below meth c H locs _ _ _ la hC (fun q => absurd q hP) (fun _ => a2 p e R s m args below meth c H locs la hC h1 h2 h3 h4 h5 h6 h7 h8)⟩
/-- a case of the answer alone -/
theorem r_if {P : Prop} [Decidable P] {A B : Option (ρ × St)} (k1 : P → V l D H0 own nm cc nL ret hh fr lo oc w0 A pc ls st w) (k2 : ¬ P → V l D H0 own nm cc nL ret hh fr lo oc w0 B pc ls st w) : V l D H0 own nm cc nL ret hh fr lo oc w0 (if P then A else B) pc ls st w := by
  by_cases hP : P
  · rw [if_pos hP]; exact k1 hP
  · rw [if_neg hP]; exact k2 hP
theorem r_none : V l D H0 own nm cc nL ret hh fr lo oc w0 (none : Option (ρ × St)) pc ls st w := fun r w1 h => nomatch h
/-- fewer locals -/
theorem r_ls {ls2 : List (Nat × LV)} (h : ∀ q ∈ ls2, q ∈ ls) (k : V l D H0 own nm cc nL ret hh fr lo oc w0 res pc ls2 st w) : V l D H0 own nm cc nL ret hh fr lo oc w0 res pc ls st w :=
  V.lift (fun p e R s m args below meth c H locs cells slots Q la hC hl kk => kk la ⟨hl.1, hl.2.1, fun q hq => by
    obtain ⟨x, hx, rfl⟩ := List.mem_map.mp hq
    exact hl.2.2 _ (List.mem_map.mpr ⟨x, h x hx, rfl⟩)⟩) k
theorem lvs_at {ls : List (Nat × LV)} {j i : Nat} {v : LV} (h : ls[j]? = some (i, v)) : (lvs ls)[j]? = some (i, v.v) := by
  unfold lvs
  rw [List.getElem?_map, h]
  rfl
def lvSet (ls : List (Nat × LV)) (i : Nat) (v : LV) : List (Nat × LV) := (i, v) :: ls.filter (fun q => !(q.1 == i) && !(q.1 + 1 == i && q.2.two))
def lvSet2 (ls : List (Nat × LV)) (i : Nat) (v : LV) : List (Nat × LV) := (i, v) :: ls.filter (fun q => !(q.1 == i) && (!(q.1 == i + 1) && !(q.1 + 1 == i && q.2.two)))
theorem lvSet_eq (ls : List (Nat × LV)) (i : Nat) (v : LV) : (i, v.v) :: (lvs ls).filter (fun q => !(q.1 == i) && !(q.1 + 1 == i && q.2.category == 2)) = lvs (lvSet ls i v) := by
  unfold lvs lvSet
  rw [List.filter_map, List.map_cons]
  congr 2
  apply List.filter_congr
  intro x _
  show (!(x.1 == i) && !(x.1 + 1 == i && x.2.v.category == 2)) = _
  rw [LV_two]
theorem lvSet2_eq (ls : List (Nat × LV)) (i : Nat) (v : LV) : (i, v.v) :: (lvs ls).filter (fun q => !(q.1 == i) && (!(q.1 == i + 1) && !(q.1 + 1 == i && q.2.category == 2))) = lvs (lvSet2 ls i v) := by
  unfold lvs lvSet2
  rw [List.filter_map, List.map_cons]
  congr 2
  apply List.filter_congr
  intro x _
  show (!(x.1 == i) && (!(x.1 == i + 1) && !(x.1 + 1 == i && x.2.v.category == 2))) = _
  rw [LV_two]
theorem r_iconst (pc2 : Nat) {n : Int} {v : Int32} (d : decode cc pc = .ok (.iconst n, 1)) (hv : Int32.ofInt n = v) (hp : pc + 1 = pc2) (k : V l D H0 own nm cc nL ret hh fr lo oc w0 res pc2 ls (.int v :: st) w) : V l D H0 own nm cc nL ret hh fr lo oc w0 res pc ls (st) w := by
  subst hp
  exact V.lift (fun p e R s m args below meth c H locs cells slots Q la hC hl kk => lv_iconst hC.1.1 hC.1.2.1 d hv (kk la hl)) k
theorem r_bipush (pc2 : Nat) {n : Int} {v : Int32} (d : decode cc pc = .ok (.bipush n, 2)) (hv : (Int8.ofInt n).toInt32 = v) (hp : pc + 2 = pc2) (k : V l D H0 own nm cc nL ret hh fr lo oc w0 res pc2 ls (.int v :: st) w) : V l D H0 own nm cc nL ret hh fr lo oc w0 res pc ls (st) w := by
  subst hp
  exact V.lift (fun p e R s m args below meth c H locs cells slots Q la hC hl kk => lv_bipush hC.1.1 hC.1.2.1 d hv (kk la hl)) k
theorem r_sipush (pc2 : Nat) {n : Int} {v : Int32} (d : decode cc pc = .ok (.sipush n, 3)) (hv : (Int16.ofInt n).toInt32 = v) (hp : pc + 3 = pc2) (k : V l D H0 own nm cc nL ret hh fr lo oc w0 res pc2 ls (.int v :: st) w) : V l D H0 own nm cc nL ret hh fr lo oc w0 res pc ls (st) w := by
  subst hp
  exact V.lift (fun p e R s m args below meth c H locs cells slots Q la hC hl kk => lv_sipush hC.1.1 hC.1.2.1 d hv (kk la hl)) k
theorem r_lconst (pc2 : Nat) {n : Fin 2} {v : Int64} (d : decode cc pc = .ok (.lconst n, 1)) (hv : Int64.ofNat (n : Nat) = v) (hp : pc + 1 = pc2) (k : V l D H0 own nm cc nL ret hh fr lo oc w0 res pc2 ls (.long v :: st) w) : V l D H0 own nm cc nL ret hh fr lo oc w0 res pc ls (st) w := by
  subst hp
  exact V.lift (fun p e R s m args below meth c H locs cells slots Q la hC hl kk => lv_lconst hC.1.1 hC.1.2.1 d hv (kk la hl)) k
theorem r_fconst0 (pc2 : Nat)  (d : decode cc pc = .ok (.fconst 0, 1)) (hp : pc + 1 = pc2) (k : V l D H0 own nm cc nL ret hh fr lo oc w0 res pc2 ls (.float FP.fconst0 :: st) w) : V l D H0 own nm cc nL ret hh fr lo oc w0 res pc ls (st) w := by
  subst hp
  exact V.lift (fun p e R s m args below meth c H locs cells slots Q la hC hl kk => lv_fconst0 hC.1.1 hC.1.2.1 d  (kk la hl)) k
theorem r_dconst0 (pc2 : Nat)  (d : decode cc pc = .ok (.dconst 0, 1)) (hp : pc + 1 = pc2) (k : V l D H0 own nm cc nL ret hh fr lo oc w0 res pc2 ls (.double FP.dconst0 :: st) w) : V l D H0 own nm cc nL ret hh fr lo oc w0 res pc ls (st) w := by
  subst hp
  exact V.lift (fun p e R s m args below meth c H locs cells slots Q la hC hl kk => lv_dconst0 hC.1.1 hC.1.2.1 d  (kk la hl)) k
theorem r_iadd (pc2 : Nat) {x y : Int32} (d : decode cc pc = .ok (.iadd, 1)) (hp : pc + 1 = pc2) (k : V l D H0 own nm cc nL ret hh fr lo oc w0 res pc2 ls (.int (x + y) :: st) w) : V l D H0 own nm cc nL ret hh fr lo oc w0 res pc ls (.int y :: .int x :: st) w := by
  subst hp
  exact V.lift (fun p e R s m args below meth c H locs cells slots Q la hC hl kk => lv_iadd hC.1.1 hC.1.2.1 d  (kk la hl)) k
theorem r_isub (pc2 : Nat) {x y : Int32} (d : decode cc pc = .ok (.isub, 1)) (hp : pc + 1 = pc2) (k : V l D H0 own nm cc nL ret hh fr lo oc w0 res pc2 ls (.int (x - y) :: st) w) : V l D H0 own nm cc nL ret hh fr lo oc w0 res pc ls (.int y :: .int x :: st) w := by
  subst hp
  exact V.lift (fun p e R s m args below meth c H locs cells slots Q la hC hl kk => lv_isub hC.1.1 hC.1.2.1 d  (kk la hl)) k
theorem r_imul (pc2 : Nat) {x y : Int32} (d : decode cc pc = .ok (.imul, 1)) (hp : pc + 1 = pc2) (k : V l D H0 own nm cc nL ret hh fr lo oc w0 res pc2 ls (.int (x * y) :: st) w) : V l D H0 own nm cc nL ret hh fr lo oc w0 res pc ls (.int y :: .int x :: st) w := by
  subst hp
  exact V.lift (fun p e R s m args below meth c H locs cells slots Q la hC hl kk => lv_imul hC.1.1 hC.1.2.1 d  (kk la hl)) k
theorem r_iand (pc2 : Nat) {x y : Int32} (d : decode cc pc = .ok (.iand, 1)) (hp : pc + 1 = pc2) (k : V l D H0 own nm cc nL ret hh fr lo oc w0 res pc2 ls (.int (x &&& y) :: st) w) : V l D H0 own nm cc nL ret hh fr lo oc w0 res pc ls (.int y :: .int x :: st) w := by
  subst hp
  exact V.lift (fun p e R s m args below meth c H locs cells slots Q la hC hl kk => lv_iand hC.1.1 hC.1.2.1 d  (kk la hl)) k
theorem r_ior (pc2 : Nat) {x y : Int32} (d : decode cc pc = .ok (.ior, 1)) (hp : pc + 1 = pc2) (k : V l D H0 own nm cc nL ret hh fr lo oc w0 res pc2 ls (.int (x ||| y) :: st) w) : V l D H0 own nm cc nL ret hh fr lo oc w0 res pc ls (.int y :: .int x :: st) w := by
  subst hp
  exact V.lift (fun p e R s m args below meth c H locs cells slots Q la hC hl kk => lv_ior hC.1.1 hC.1.2.1 d  (kk la hl)) k
theorem r_ixor (pc2 : Nat) {x y : Int32} (d : decode cc pc = .ok (.ixor, 1)) (hp : pc + 1 = pc2) (k : V l D H0 own nm cc nL ret hh fr lo oc w0 res pc2 ls (.int (x ^^^ y) :: st) w) : V l D H0 own nm cc nL ret hh fr lo oc w0 res pc ls (.int y :: .int x :: st) w := by
  subst hp
  exact V.lift (fun p e R s m args below meth c H locs cells slots Q la hC hl kk => lv_ixor hC.1.1 hC.1.2.1 d  (kk la hl)) k
theorem r_ishl (pc2 : Nat) {x y : Int32} (d : decode cc pc = .ok (.ishl, 1)) (hp : pc + 1 = pc2) (k : V l D H0 own nm cc nL ret hh fr lo oc w0 res pc2 ls (.int (x <<< (y &&& 31)) :: st) w) : V l D H0 own nm cc nL ret hh fr lo oc w0 res pc ls (.int y :: .int x :: st) w := by
  subst hp
  exact V.lift (fun p e R s m args below meth c H locs cells slots Q la hC hl kk => lv_ishl hC.1.1 hC.1.2.1 d  (kk la hl)) k
theorem r_ishr (pc2 : Nat) {x y : Int32} (d : decode cc pc = .ok (.ishr, 1)) (hp : pc + 1 = pc2) (k : V l D H0 own nm cc nL ret hh fr lo oc w0 res pc2 ls (.int (x >>> (y &&& 31)) :: st) w) : V l D H0 own nm cc nL ret hh fr lo oc w0 res pc ls (.int y :: .int x :: st) w := by
  subst hp
  exact V.lift (fun p e R s m args below meth c H locs cells slots Q la hC hl kk => lv_ishr hC.1.1 hC.1.2.1 d  (kk la hl)) k
theorem r_idiv (pc2 : Nat) {x y : Int32} (d : decode cc pc = .ok (.idiv, 1)) (hn : ¬ y = 0) (hp : pc + 1 = pc2) (k : V l D H0 own nm cc nL ret hh fr lo oc w0 res pc2 ls (.int (x / y) :: st) w) : V l D H0 own nm cc nL ret hh fr lo oc w0 res pc ls (.int y :: .int x :: st) w := by
  subst hp
  exact V.lift (fun p e R s m args below meth c H locs cells slots Q la hC hl kk => lv_idiv hC.1.1 hC.1.2.1 d hn (kk la hl)) k
theorem r_irem (pc2 : Nat) {x y : Int32} (d : decode cc pc = .ok (.irem, 1)) (hn : ¬ y = 0) (hp : pc + 1 = pc2) (k : V l D H0 own nm cc nL ret hh fr lo oc w0 res pc2 ls (.int (x - x / y * y) :: st) w) : V l D H0 own nm cc nL ret hh fr lo oc w0 res pc ls (.int y :: .int x :: st) w := by
  subst hp
  exact V.lift (fun p e R s m args below meth c H locs cells slots Q la hC hl kk => lv_irem hC.1.1 hC.1.2.1 d hn (kk la hl)) k
theorem r_ineg (pc2 : Nat) {x : Int32} (d : decode cc pc = .ok (.ineg, 1)) (hp : pc + 1 = pc2) (k : V l D H0 own nm cc nL ret hh fr lo oc w0 res pc2 ls (.int (-x) :: st) w) : V l D H0 own nm cc nL ret hh fr lo oc w0 res pc ls (.int x :: st) w := by
  subst hp
  exact V.lift (fun p e R s m args below meth c H locs cells slots Q la hC hl kk => lv_ineg hC.1.1 hC.1.2.1 d  (kk la hl)) k
theorem r_i2l (pc2 : Nat) {x : Int32} (d : decode cc pc = .ok (.i2l, 1)) (hp : pc + 1 = pc2) (k : V l D H0 own nm cc nL ret hh fr lo oc w0 res pc2 ls (.long x.toInt64 :: st) w) : V l D H0 own nm cc nL ret hh fr lo oc w0 res pc ls (.int x :: st) w := by
  subst hp
  exact V.lift (fun p e R s m args below meth c H locs cells slots Q la hC hl kk => lv_i2l hC.1.1 hC.1.2.1 d rfl (kk la hl)) k
theorem r_i2b (pc2 : Nat) {x : Int32} (d : decode cc pc = .ok (.i2b, 1)) (hp : pc + 1 = pc2) (k : V l D H0 own nm cc nL ret hh fr lo oc w0 res pc2 ls (.int x.toInt8.toInt32 :: st) w) : V l D H0 own nm cc nL ret hh fr lo oc w0 res pc ls (.int x :: st) w := by
  subst hp
  exact V.lift (fun p e R s m args below meth c H locs cells slots Q la hC hl kk => lv_i2b hC.1.1 hC.1.2.1 d rfl (kk la hl)) k
theorem r_i2c (pc2 : Nat) {x : Int32} (d : decode cc pc = .ok (.i2c, 1)) (hp : pc + 1 = pc2) (k : V l D H0 own nm cc nL ret hh fr lo oc w0 res pc2 ls (.int (x.toUInt32 % 65536).toInt32 :: st) w) : V l D H0 own nm cc nL ret hh fr lo oc w0 res pc ls (.int x :: st) w := by
  subst hp
  exact V.lift (fun p e R s m args below meth c H locs cells slots Q la hC hl kk => lv_i2c hC.1.1 hC.1.2.1 d rfl (kk la hl)) k
theorem r_i2f (pc2 : Nat) {x : Int32} (d : decode cc pc = .ok (.i2f, 1)) (hp : pc + 1 = pc2) (k : V l D H0 own nm cc nL ret hh fr lo oc w0 res pc2 ls (.float (FP.i2f x) :: st) w) : V l D H0 own nm cc nL ret hh fr lo oc w0 res pc ls (.int x :: st) w := by
  subst hp
  exact V.lift (fun p e R s m args below meth c H locs cells slots Q la hC hl kk => lv_i2f hC.1.1 hC.1.2.1 d  (kk la hl)) k
theorem r_i2d (pc2 : Nat) {x : Int32} (d : decode cc pc = .ok (.i2d, 1)) (hp : pc + 1 = pc2) (k : V l D H0 own nm cc nL ret hh fr lo oc w0 res pc2 ls (.double (FP.i2d x) :: st) w) : V l D H0 own nm cc nL ret hh fr lo oc w0 res pc ls (.int x :: st) w := by
  subst hp
  exact V.lift (fun p e R s m args below meth c H locs cells slots Q la hC hl kk => lv_i2d hC.1.1 hC.1.2.1 d  (kk la hl)) k
theorem r_lcmp (pc2 : Nat) {x y : Int64} (d : decode cc pc = .ok (.lcmp, 1)) (hp : pc + 1 = pc2) (k : V l D H0 own nm cc nL ret hh fr lo oc w0 res pc2 ls (.int (lg_cmp x y) :: st) w) : V l D H0 own nm cc nL ret hh fr lo oc w0 res pc ls (.long y :: .long x :: st) w := by
  subst hp
  exact V.lift (fun p e R s m args below meth c H locs cells slots Q la hC hl kk => W.lcmp hC.1.1 hC.1.2.1 d  (kk la hl)) k
theorem r_dcmp (pc2 : Nat) {x y : UInt64} {op : CmpOp} (d : decode cc pc = .ok (.dcmp op, 1)) (hp : pc + 1 = pc2) (k : V l D H0 own nm cc nL ret hh fr lo oc w0 res pc2 ls (.int (Op.cmpValue (FP.dcmp x y) op) :: st) w) : V l D H0 own nm cc nL ret hh fr lo oc w0 res pc ls (.double y :: .double x :: st) w := by
  subst hp
  exact V.lift (fun p e R s m args below meth c H locs cells slots Q la hC hl kk => lv_dcmp hC.1.1 hC.1.2.1 d  (kk la hl)) k
theorem r_fcmp (pc2 : Nat) {x y : UInt32} {op : CmpOp} (d : decode cc pc = .ok (.fcmp op, 1)) (hp : pc + 1 = pc2) (k : V l D H0 own nm cc nL ret hh fr lo oc w0 res pc2 ls (.int (Op.cmpValue (FP.fcmp x y) op) :: st) w) : V l D H0 own nm cc nL ret hh fr lo oc w0 res pc ls (.float y :: .float x :: st) w := by
  subst hp
  exact V.lift (fun p e R s m args below meth c H locs cells slots Q la hC hl kk => lv_fcmp hC.1.1 hC.1.2.1 d  (kk la hl)) k
theorem r_f2d (pc2 : Nat) {x : UInt32} (d : decode cc pc = .ok (.f2d, 1)) (hn : vf_n64 (FP.f2d x)) (hp : pc + 1 = pc2) (k : V l D H0 own nm cc nL ret hh fr lo oc w0 res pc2 ls (.double (FP.f2d x) :: st) w) : V l D H0 own nm cc nL ret hh fr lo oc w0 res pc ls (.float x :: st) w := by
  subst hp
  exact V.lift (fun p e R s m args below meth c H locs cells slots Q la hC hl kk => lv_f2d hC.1.1 hC.1.2.1 d hn (kk la hl)) k
theorem r_ddiv (pc2 : Nat) {x y : UInt64} (d : decode cc pc = .ok (.ddiv, 1)) (hn : vf_n64 (FP.ddiv x y)) (hp : pc + 1 = pc2) (k : V l D H0 own nm cc nL ret hh fr lo oc w0 res pc2 ls (.double (FP.ddiv x y) :: st) w) : V l D H0 own nm cc nL ret hh fr lo oc w0 res pc ls (.double y :: .double x :: st) w := by
  subst hp
  exact V.lift (fun p e R s m args below meth c H locs cells slots Q la hC hl kk => lv_ddiv hC.1.1 hC.1.2.1 d hn (kk la hl)) k
theorem r_fdiv (pc2 : Nat) {x y : UInt32} (d : decode cc pc = .ok (.fdiv, 1)) (hn : vf_n32 (FP.fdiv x y)) (hp : pc + 1 = pc2) (k : V l D H0 own nm cc nL ret hh fr lo oc w0 res pc2 ls (.float (FP.fdiv x y) :: st) w) : V l D H0 own nm cc nL ret hh fr lo oc w0 res pc ls (.float y :: .float x :: st) w := by
  subst hp
  exact V.lift (fun p e R s m args below meth c H locs cells slots Q la hC hl kk => lv_fdiv hC.1.1 hC.1.2.1 d hn (kk la hl)) k
theorem r_dup_i (pc2 : Nat) {x : Int32} (d : decode cc pc = .ok (.dup, 1)) (hp : pc + 1 = pc2) (k : V l D H0 own nm cc nL ret hh fr lo oc w0 res pc2 ls (.int x :: .int x :: st) w) : V l D H0 own nm cc nL ret hh fr lo oc w0 res pc ls (.int x :: st) w := by
  subst hp
  exact V.lift (fun p e R s m args below meth c H locs cells slots Q la hC hl kk => lv_dup hC.1.1 hC.1.2.1 d rfl (kk la hl)) k
theorem r_dup_r (pc2 : Nat) {x : Rf} (d : decode cc pc = .ok (.dup, 1)) (hp : pc + 1 = pc2) (k : V l D H0 own nm cc nL ret hh fr lo oc w0 res pc2 ls (rf x :: rf x :: st) w) : V l D H0 own nm cc nL ret hh fr lo oc w0 res pc ls (rf x :: st) w := by
  subst hp
  exact V.lift (fun p e R s m args below meth c H locs cells slots Q la hC hl kk => lv_dup hC.1.1 hC.1.2.1 d (rf_cat x) (kk la hl)) k
theorem r_pop_i (pc2 : Nat) {x : Int32} (d : decode cc pc = .ok (.pop, 1)) (hp : pc + 1 = pc2) (k : V l D H0 own nm cc nL ret hh fr lo oc w0 res pc2 ls (st) w) : V l D H0 own nm cc nL ret hh fr lo oc w0 res pc ls (.int x :: st) w := by
  subst hp
  exact V.lift (fun p e R s m args below meth c H locs cells slots Q la hC hl kk => lv_pop hC.1.1 hC.1.2.1 d rfl (kk la hl)) k
theorem r_pop_r (pc2 : Nat) {x : Rf} (d : decode cc pc = .ok (.pop, 1)) (hp : pc + 1 = pc2) (k : V l D H0 own nm cc nL ret hh fr lo oc w0 res pc2 ls (st) w) : V l D H0 own nm cc nL ret hh fr lo oc w0 res pc ls (rf x :: st) w := by
  subst hp
  exact V.lift (fun p e R s m args below meth c H locs cells slots Q la hC hl kk => lv_pop hC.1.1 hC.1.2.1 d (rf_cat x) (kk la hl)) k
theorem r_dup_x1_ii (pc2 : Nat) {x : Int32} {y : Int32} (d : decode cc pc = .ok (.dup_x1, 1)) (hp : pc + 1 = pc2) (k : V l D H0 own nm cc nL ret hh fr lo oc w0 res pc2 ls (.int x :: .int y :: .int x :: st) w) : V l D H0 own nm cc nL ret hh fr lo oc w0 res pc ls (.int x :: .int y :: st) w := by
  subst hp
  exact V.lift (fun p e R s m args below meth c H locs cells slots Q la hC hl kk => lv_dup_x1 hC.1.1 hC.1.2.1 d rfl rfl (kk la hl)) k
theorem r_dup2_ii (pc2 : Nat) {x : Int32} {y : Int32} (d : decode cc pc = .ok (.dup2, 1)) (hp : pc + 1 = pc2) (k : V l D H0 own nm cc nL ret hh fr lo oc w0 res pc2 ls (.int x :: .int y :: .int x :: .int y :: st) w) : V l D H0 own nm cc nL ret hh fr lo oc w0 res pc ls (.int x :: .int y :: st) w := by
  subst hp
  exact V.lift (fun p e R s m args below meth c H locs cells slots Q la hC hl kk => lv_dup2_11 hC.1.1 hC.1.2.1 d rfl rfl (kk la hl)) k
theorem r_dup_x1_ir (pc2 : Nat) {x : Int32} {y : Rf} (d : decode cc pc = .ok (.dup_x1, 1)) (hp : pc + 1 = pc2) (k : V l D H0 own nm cc nL ret hh fr lo oc w0 res pc2 ls (.int x :: rf y :: .int x :: st) w) : V l D H0 own nm cc nL ret hh fr lo oc w0 res pc ls (.int x :: rf y :: st) w := by
  subst hp
  exact V.lift (fun p e R s m args below meth c H locs cells slots Q la hC hl kk => lv_dup_x1 hC.1.1 hC.1.2.1 d rfl (rf_cat y) (kk la hl)) k
theorem r_dup2_ir (pc2 : Nat) {x : Int32} {y : Rf} (d : decode cc pc = .ok (.dup2, 1)) (hp : pc + 1 = pc2) (k : V l D H0 own nm cc nL ret hh fr lo oc w0 res pc2 ls (.int x :: rf y :: .int x :: rf y :: st) w) : V l D H0 own nm cc nL ret hh fr lo oc w0 res pc ls (.int x :: rf y :: st) w := by
  subst hp
  exact V.lift (fun p e R s m args below meth c H locs cells slots Q la hC hl kk => lv_dup2_11 hC.1.1 hC.1.2.1 d rfl (rf_cat y) (kk la hl)) k
theorem r_dup_x1_ri (pc2 : Nat) {x : Rf} {y : Int32} (d : decode cc pc = .ok (.dup_x1, 1)) (hp : pc + 1 = pc2) (k : V l D H0 own nm cc nL ret hh fr lo oc w0 res pc2 ls (rf x :: .int y :: rf x :: st) w) : V l D H0 own nm cc nL ret hh fr lo oc w0 res pc ls (rf x :: .int y :: st) w := by
  subst hp
  exact V.lift (fun p e R s m args below meth c H locs cells slots Q la hC hl kk => lv_dup_x1 hC.1.1 hC.1.2.1 d (rf_cat x) rfl (kk la hl)) k
theorem r_dup2_ri (pc2 : Nat) {x : Rf} {y : Int32} (d : decode cc pc = .ok (.dup2, 1)) (hp : pc + 1 = pc2) (k : V l D H0 own nm cc nL ret hh fr lo oc w0 res pc2 ls (rf x :: .int y :: rf x :: .int y :: st) w) : V l D H0 own nm cc nL ret hh fr lo oc w0 res pc ls (rf x :: .int y :: st) w := by
  subst hp
  exact V.lift (fun p e R s m args below meth c H locs cells slots Q la hC hl kk => lv_dup2_11 hC.1.1 hC.1.2.1 d (rf_cat x) rfl (kk la hl)) k
theorem r_dup_x1_rr (pc2 : Nat) {x : Rf} {y : Rf} (d : decode cc pc = .ok (.dup_x1, 1)) (hp : pc + 1 = pc2) (k : V l D H0 own nm cc nL ret hh fr lo oc w0 res pc2 ls (rf x :: rf y :: rf x :: st) w) : V l D H0 own nm cc nL ret hh fr lo oc w0 res pc ls (rf x :: rf y :: st) w := by
  subst hp
  exact V.lift (fun p e R s m args below meth c H locs cells slots Q la hC hl kk => lv_dup_x1 hC.1.1 hC.1.2.1 d (rf_cat x) (rf_cat y) (kk la hl)) k
theorem r_dup2_rr (pc2 : Nat) {x : Rf} {y : Rf} (d : decode cc pc = .ok (.dup2, 1)) (hp : pc + 1 = pc2) (k : V l D H0 own nm cc nL ret hh fr lo oc w0 res pc2 ls (rf x :: rf y :: rf x :: rf y :: st) w) : V l D H0 own nm cc nL ret hh fr lo oc w0 res pc ls (rf x :: rf y :: st) w := by
  subst hp
  exact V.lift (fun p e R s m args below meth c H locs cells slots Q la hC hl kk => lv_dup2_11 hC.1.1 hC.1.2.1 d (rf_cat x) (rf_cat y) (kk la hl)) k
theorem r_iload_n (pc2 j : Nat) {k : Fin 4} {i : Nat} {x : Int32} (d : decode cc pc = .ok (.iload_n k, 1)) (hi : (k : Nat) = i) (hj : ls[j]? = some (i, lI x)) (hp : pc + 1 = pc2) (k : V l D H0 own nm cc nL ret hh fr lo oc w0 res pc2 ls (.int x :: st) w) : V l D H0 own nm cc nL ret hh fr lo oc w0 res pc ls st w := by
  subst hp
  exact V.lift (fun p e R s m args below meth c H locs cells slots Q la hC hl kk => lv_iload_n hC.1.1 hC.1.2.1 d hi (lv_at hl j (lvs_at hj)) (kk la hl)) k
theorem r_iload (pc2 j : Nat) {i : Nat} {x : Int32} (d : decode cc pc = .ok (.iload i, 2)) (hj : ls[j]? = some (i, lI x)) (hp : pc + 2 = pc2) (k : V l D H0 own nm cc nL ret hh fr lo oc w0 res pc2 ls (.int x :: st) w) : V l D H0 own nm cc nL ret hh fr lo oc w0 res pc ls st w := by
  subst hp
  exact V.lift (fun p e R s m args below meth c H locs cells slots Q la hC hl kk => lv_iload hC.1.1 hC.1.2.1 d (lv_at hl j (lvs_at hj)) (kk la hl)) k
theorem r_lload_n (pc2 j : Nat) {k : Fin 4} {i : Nat} {x : Int64} (d : decode cc pc = .ok (.lload_n k, 1)) (hi : (k : Nat) = i) (hj : ls[j]? = some (i, lJ x)) (hp : pc + 1 = pc2) (k : V l D H0 own nm cc nL ret hh fr lo oc w0 res pc2 ls (.long x :: st) w) : V l D H0 own nm cc nL ret hh fr lo oc w0 res pc ls st w := by
  subst hp
  exact V.lift (fun p e R s m args below meth c H locs cells slots Q la hC hl kk => lv_lload_n hC.1.1 hC.1.2.1 d hi (lv_at hl j (lvs_at hj)) (kk la hl)) k
theorem r_lload (pc2 j : Nat) {i : Nat} {x : Int64} (d : decode cc pc = .ok (.lload i, 2)) (hj : ls[j]? = some (i, lJ x)) (hp : pc + 2 = pc2) (k : V l D H0 own nm cc nL ret hh fr lo oc w0 res pc2 ls (.long x :: st) w) : V l D H0 own nm cc nL ret hh fr lo oc w0 res pc ls st w := by
  subst hp
  exact V.lift (fun p e R s m args below meth c H locs cells slots Q la hC hl kk => lv_lload hC.1.1 hC.1.2.1 d (lv_at hl j (lvs_at hj)) (kk la hl)) k
theorem r_dload (pc2 j : Nat) {i : Nat} {x : UInt64} (d : decode cc pc = .ok (.dload i, 2)) (hj : ls[j]? = some (i, lD x)) (hp : pc + 2 = pc2) (k : V l D H0 own nm cc nL ret hh fr lo oc w0 res pc2 ls (.double x :: st) w) : V l D H0 own nm cc nL ret hh fr lo oc w0 res pc ls st w := by
  subst hp
  exact V.lift (fun p e R s m args below meth c H locs cells slots Q la hC hl kk => lv_dload hC.1.1 hC.1.2.1 d (lv_at hl j (lvs_at hj)) (kk la hl)) k
theorem r_fload (pc2 j : Nat) {i : Nat} {x : UInt32} (d : decode cc pc = .ok (.fload i, 2)) (hj : ls[j]? = some (i, lF x)) (hp : pc + 2 = pc2) (k : V l D H0 own nm cc nL ret hh fr lo oc w0 res pc2 ls (.float x :: st) w) : V l D H0 own nm cc nL ret hh fr lo oc w0 res pc ls st w := by
  subst hp
  exact V.lift (fun p e R s m args below meth c H locs cells slots Q la hC hl kk => lv_fload hC.1.1 hC.1.2.1 d (lv_at hl j (lvs_at hj)) (kk la hl)) k
theorem r_aload_n (pc2 j : Nat) {k : Fin 4} {i : Nat} {x : Rf} (d : decode cc pc = .ok (.aload_n k, 1)) (hi : (k : Nat) = i) (hj : ls[j]? = some (i, lR x)) (hp : pc + 1 = pc2) (k : V l D H0 own nm cc nL ret hh fr lo oc w0 res pc2 ls (rf x :: st) w) : V l D H0 own nm cc nL ret hh fr lo oc w0 res pc ls st w := by
  subst hp
  cases x with
  | none => exact V.lift (fun p e R s m args below meth c H locs cells slots Q la hC hl kk => lv_aload_nN hC.1.1 hC.1.2.1 d hi (lv_at hl j (lvs_at hj)) (kk la hl)) k
  | some a => exact V.lift (fun p e R s m args below meth c H locs cells slots Q la hC hl kk => lv_aload_n hC.1.1 hC.1.2.1 d hi (lv_at hl j (lvs_at hj)) (kk la hl)) k
theorem r_aload (pc2 j : Nat) {i : Nat} {x : Rf} (d : decode cc pc = .ok (.aload i, 2)) (hj : ls[j]? = some (i, lR x)) (hp : pc + 2 = pc2) (k : V l D H0 own nm cc nL ret hh fr lo oc w0 res pc2 ls (rf x :: st) w) : V l D H0 own nm cc nL ret hh fr lo oc w0 res pc ls st w := by
  subst hp
  cases x with
  | none => exact V.lift (fun p e R s m args below meth c H locs cells slots Q la hC hl kk => lv_aloadN hC.1.1 hC.1.2.1 d (lv_at hl j (lvs_at hj)) (kk la hl)) k
  | some a => exact V.lift (fun p e R s m args below meth c H locs cells slots Q la hC hl kk => lv_aload hC.1.1 hC.1.2.1 d (lv_at hl j (lvs_at hj)) (kk la hl)) k
theorem r_istore_n (pc2 : Nat) {k : Fin 4} {i : Nat} {x : Int32} {ls2 : List (Nat × LV)} (d : decode cc pc = .ok (.istore_n k, 1)) (hi : (k : Nat) = i) (hn : i < nL) (h2 : lvSet ls i (lI x) = ls2) (hp : pc + 1 = pc2) (k : V l D H0 own nm cc nL ret hh fr lo oc w0 res pc2 ls2 st w) : V l D H0 own nm cc nL ret hh fr lo oc w0 res pc ls (.int x :: st) w := by
  subst hp
  subst h2
  exact V.lift (fun p e R s m args below meth c H locs cells slots Q la hC hl kk => lv_istore_n hC.1.1 hC.1.2.1 d hi hl hn (lvSet_eq ls i (lI x)) kk) k
theorem r_istore (pc2 : Nat) {i : Nat} {x : Int32} {ls2 : List (Nat × LV)} (d : decode cc pc = .ok (.istore i, 2)) (hn : i < nL) (h2 : lvSet ls i (lI x) = ls2) (hp : pc + 2 = pc2) (k : V l D H0 own nm cc nL ret hh fr lo oc w0 res pc2 ls2 st w) : V l D H0 own nm cc nL ret hh fr lo oc w0 res pc ls (.int x :: st) w := by
  subst hp
  subst h2
  exact V.lift (fun p e R s m args below meth c H locs cells slots Q la hC hl kk => lv_istore hC.1.1 hC.1.2.1 d hl hn (lvSet_eq ls i (lI x)) kk) k
theorem r_fstore (pc2 : Nat) {i : Nat} {x : UInt32} {ls2 : List (Nat × LV)} (d : decode cc pc = .ok (.fstore i, 2)) (hn : i < nL) (h2 : lvSet ls i (lF x) = ls2) (hp : pc + 2 = pc2) (k : V l D H0 own nm cc nL ret hh fr lo oc w0 res pc2 ls2 st w) : V l D H0 own nm cc nL ret hh fr lo oc w0 res pc ls (.float x :: st) w := by
  subst hp
  subst h2
  exact V.lift (fun p e R s m args below meth c H locs cells slots Q la hC hl kk => lv_fstore hC.1.1 hC.1.2.1 d hl hn (lvSet_eq ls i (lF x)) kk) k
theorem r_dstore (pc2 : Nat) {i : Nat} {x : UInt64} {ls2 : List (Nat × LV)} (d : decode cc pc = .ok (.dstore i, 2)) (hn : i + 1 < nL) (h2 : lvSet2 ls i (lD x) = ls2) (hp : pc + 2 = pc2) (k : V l D H0 own nm cc nL ret hh fr lo oc w0 res pc2 ls2 st w) : V l D H0 own nm cc nL ret hh fr lo oc w0 res pc ls (.double x :: st) w := by
  subst hp
  subst h2
  exact V.lift (fun p e R s m args below meth c H locs cells slots Q la hC hl kk => lv_dstore hC.1.1 hC.1.2.1 d hl hn (lvSet2_eq ls i (lD x)) kk) k
theorem r_astore_n (pc2 : Nat) {k : Fin 4} {i : Nat} {x : Rf} {ls2 : List (Nat × LV)} (d : decode cc pc = .ok (.astore_n k, 1)) (hi : (k : Nat) = i) (hn : i < nL) (h2 : lvSet ls i (lR x) = ls2) (hp : pc + 1 = pc2) (k : V l D H0 own nm cc nL ret hh fr lo oc w0 res pc2 ls2 st w) : V l D H0 own nm cc nL ret hh fr lo oc w0 res pc ls (rf x :: st) w := by
  subst hp
  subst h2
  cases x with
  | none => exact V.lift (fun p e R s m args below meth c H locs cells slots Q la hC hl kk => lv_astore_nN hC.1.1 hC.1.2.1 d hi hl hn (lvSet_eq ls i (lR none)) kk) k
  | some a => exact V.lift (fun p e R s m args below meth c H locs cells slots Q la hC hl kk => lv_astore_n hC.1.1 hC.1.2.1 d hi hl hn (lvSet_eq ls i (lR (some a))) kk) k
theorem r_astore (pc2 : Nat) {i : Nat} {x : Rf} {ls2 : List (Nat × LV)} (d : decode cc pc = .ok (.astore i, 2)) (hn : i < nL) (h2 : lvSet ls i (lR x) = ls2) (hp : pc + 2 = pc2) (k : V l D H0 own nm cc nL ret hh fr lo oc w0 res pc2 ls2 st w) : V l D H0 own nm cc nL ret hh fr lo oc w0 res pc ls (rf x :: st) w := by
  subst hp
  subst h2
  cases x with
  | none => exact V.lift (fun p e R s m args below meth c H locs cells slots Q la hC hl kk => lv_astoreN hC.1.1 hC.1.2.1 d hl hn (lvSet_eq ls i (lR none)) kk) k
  | some a => exact V.lift (fun p e R s m args below meth c H locs cells slots Q la hC hl kk => lv_astore hC.1.1 hC.1.2.1 d hl hn (lvSet_eq ls i (lR (some a))) kk) k
theorem r_iinc (pc2 j : Nat) {i : Nat} {n : Int} {x v : Int32} {ls2 : List (Nat × LV)} (d : decode cc pc = .ok (.iinc i n, 3)) (hj : ls[j]? = some (i, lI x)) (hv : x + Int32.ofInt n = v) (hn : i < nL) (h2 : lvSet ls i (lI v) = ls2) (hp : pc + 3 = pc2) (k : V l D H0 own nm cc nL ret hh fr lo oc w0 res pc2 ls2 st w) : V l D H0 own nm cc nL ret hh fr lo oc w0 res pc ls st w := by
  subst hp
  subst h2
  exact V.lift (fun p e R s m args below meth c H locs cells slots Q la hC hl kk => lv_iinc hC.1.1 hC.1.2.1 d hl (lvs_at hj) hv hn (lvSet_eq ls i (lI v)) kk) k
theorem r_goto (tgt : Nat) {off : Int} (d : decode cc pc = .ok (.goto off, 3)) (ht : (pc : Int) + off = (tgt : Int)) (k : V l D H0 own nm cc nL ret hh fr lo oc w0 res tgt ls st w) : V l D H0 own nm cc nL ret hh fr lo oc w0 res pc ls st w :=
  V.lift (fun p e R s m args below meth c H locs cells slots Q la hC hl kk => lv_goto hC.1.1 hC.1.2.1 d ht (kk la hl)) k
theorem r_null (pc2 : Nat) (d : decode cc pc = .ok (.aconst_null, 1)) (hp : pc + 1 = pc2) (k : V l D H0 own nm cc nL ret hh fr lo oc w0 res pc2 ls (rf none :: st) w) : V l D H0 own nm cc nL ret hh fr lo oc w0 res pc ls st w := by
  subst hp
  exact V.lift (fun p e R s m args below meth c H locs cells slots Q la hC hl kk => lv_null hC.1.1 hC.1.2.1 d (kk la hl)) k
theorem r_if_eq (tgt pc2 : Nat) {x : Int32} {off : Int} {A B : Option (ρ × St)} (d : decode cc pc = .ok (.ifCond .eq off, 3)) (ht : (pc : Int) + off = (tgt : Int)) (hp : pc + 3 = pc2) (ka : V l D H0 own nm cc nL ret hh fr lo oc w0 A tgt ls st w) (kb : V l D H0 own nm cc nL ret hh fr lo oc w0 B pc2 ls st w) : V l D H0 own nm cc nL ret hh fr lo oc w0 (if x = 0 then A else B) pc ls (.int x :: st) w := by
  subst hp
  exact V.br (fun p e R s m args below meth c H locs cells slots Q la hC k1 k2 => lv_if_eq hC.1.1 hC.1.2.1 d ht k1 k2) ka kb
theorem r_icmp_eq (tgt pc2 : Nat) {x y : Int32} {off : Int} {A B : Option (ρ × St)} (d : decode cc pc = .ok (.if_icmp .eq off, 3)) (ht : (pc : Int) + off = (tgt : Int)) (hp : pc + 3 = pc2) (ka : V l D H0 own nm cc nL ret hh fr lo oc w0 A tgt ls st w) (kb : V l D H0 own nm cc nL ret hh fr lo oc w0 B pc2 ls st w) : V l D H0 own nm cc nL ret hh fr lo oc w0 (if x = y then A else B) pc ls (.int y :: .int x :: st) w := by
  subst hp
  exact V.br (fun p e R s m args below meth c H locs cells slots Q la hC k1 k2 => lv_icmp_eq hC.1.1 hC.1.2.1 d ht k1 k2) ka kb
theorem r_if_ne (tgt pc2 : Nat) {x : Int32} {off : Int} {A B : Option (ρ × St)} (d : decode cc pc = .ok (.ifCond .ne off, 3)) (ht : (pc : Int) + off = (tgt : Int)) (hp : pc + 3 = pc2) (ka : V l D H0 own nm cc nL ret hh fr lo oc w0 A tgt ls st w) (kb : V l D H0 own nm cc nL ret hh fr lo oc w0 B pc2 ls st w) : V l D H0 own nm cc nL ret hh fr lo oc w0 (if x = 0 then B else A) pc ls (.int x :: st) w := by
  subst hp
  exact V.br (fun p e R s m args below meth c H locs cells slots Q la hC k1 k2 => lv_if_ne hC.1.1 hC.1.2.1 d ht k2 k1) kb ka
theorem r_icmp_ne (tgt pc2 : Nat) {x y : Int32} {off : Int} {A B : Option (ρ × St)} (d : decode cc pc = .ok (.if_icmp .ne off, 3)) (ht : (pc : Int) + off = (tgt : Int)) (hp : pc + 3 = pc2) (ka : V l D H0 own nm cc nL ret hh fr lo oc w0 A tgt ls st w) (kb : V l D H0 own nm cc nL ret hh fr lo oc w0 B pc2 ls st w) : V l D H0 own nm cc nL ret hh fr lo oc w0 (if x = y then B else A) pc ls (.int y :: .int x :: st) w := by
  subst hp
  exact V.br (fun p e R s m args below meth c H locs cells slots Q la hC k1 k2 => lv_icmp_ne hC.1.1 hC.1.2.1 d ht k2 k1) kb ka
theorem r_if_lt (tgt pc2 : Nat) {x : Int32} {off : Int} {A B : Option (ρ × St)} (d : decode cc pc = .ok (.ifCond .lt off, 3)) (ht : (pc : Int) + off = (tgt : Int)) (hp : pc + 3 = pc2) (ka : V l D H0 own nm cc nL ret hh fr lo oc w0 A tgt ls st w) (kb : V l D H0 own nm cc nL ret hh fr lo oc w0 B pc2 ls st w) : V l D H0 own nm cc nL ret hh fr lo oc w0 (if x < 0 then A else B) pc ls (.int x :: st) w := by
  subst hp
  exact V.br (fun p e R s m args below meth c H locs cells slots Q la hC k1 k2 => lv_if_lt hC.1.1 hC.1.2.1 d ht k1 k2) ka kb
theorem r_icmp_lt (tgt pc2 : Nat) {x y : Int32} {off : Int} {A B : Option (ρ × St)} (d : decode cc pc = .ok (.if_icmp .lt off, 3)) (ht : (pc : Int) + off = (tgt : Int)) (hp : pc + 3 = pc2) (ka : V l D H0 own nm cc nL ret hh fr lo oc w0 A tgt ls st w) (kb : V l D H0 own nm cc nL ret hh fr lo oc w0 B pc2 ls st w) : V l D H0 own nm cc nL ret hh fr lo oc w0 (if x < y then A else B) pc ls (.int y :: .int x :: st) w := by
  subst hp
  exact V.br (fun p e R s m args below meth c H locs cells slots Q la hC k1 k2 => lv_icmp_lt hC.1.1 hC.1.2.1 d ht k1 k2) ka kb
theorem r_if_ge (tgt pc2 : Nat) {x : Int32} {off : Int} {A B : Option (ρ × St)} (d : decode cc pc = .ok (.ifCond .ge off, 3)) (ht : (pc : Int) + off = (tgt : Int)) (hp : pc + 3 = pc2) (ka : V l D H0 own nm cc nL ret hh fr lo oc w0 A tgt ls st w) (kb : V l D H0 own nm cc nL ret hh fr lo oc w0 B pc2 ls st w) : V l D H0 own nm cc nL ret hh fr lo oc w0 (if 0 ≤ x then A else B) pc ls (.int x :: st) w := by
  subst hp
  exact V.br (fun p e R s m args below meth c H locs cells slots Q la hC k1 k2 => lv_if_ge hC.1.1 hC.1.2.1 d ht k1 k2) ka kb
theorem r_icmp_ge (tgt pc2 : Nat) {x y : Int32} {off : Int} {A B : Option (ρ × St)} (d : decode cc pc = .ok (.if_icmp .ge off, 3)) (ht : (pc : Int) + off = (tgt : Int)) (hp : pc + 3 = pc2) (ka : V l D H0 own nm cc nL ret hh fr lo oc w0 A tgt ls st w) (kb : V l D H0 own nm cc nL ret hh fr lo oc w0 B pc2 ls st w) : V l D H0 own nm cc nL ret hh fr lo oc w0 (if y ≤ x then A else B) pc ls (.int y :: .int x :: st) w := by
  subst hp
  exact V.br (fun p e R s m args below meth c H locs cells slots Q la hC k1 k2 => lv_icmp_ge hC.1.1 hC.1.2.1 d ht k1 k2) ka kb
theorem r_if_gt (tgt pc2 : Nat) {x : Int32} {off : Int} {A B : Option (ρ × St)} (d : decode cc pc = .ok (.ifCond .gt off, 3)) (ht : (pc : Int) + off = (tgt : Int)) (hp : pc + 3 = pc2) (ka : V l D H0 own nm cc nL ret hh fr lo oc w0 A tgt ls st w) (kb : V l D H0 own nm cc nL ret hh fr lo oc w0 B pc2 ls st w) : V l D H0 own nm cc nL ret hh fr lo oc w0 (if 0 < x then A else B) pc ls (.int x :: st) w := by
  subst hp
  exact V.br (fun p e R s m args below meth c H locs cells slots Q la hC k1 k2 => lv_if_gt hC.1.1 hC.1.2.1 d ht k1 k2) ka kb
theorem r_icmp_gt (tgt pc2 : Nat) {x y : Int32} {off : Int} {A B : Option (ρ × St)} (d : decode cc pc = .ok (.if_icmp .gt off, 3)) (ht : (pc : Int) + off = (tgt : Int)) (hp : pc + 3 = pc2) (ka : V l D H0 own nm cc nL ret hh fr lo oc w0 A tgt ls st w) (kb : V l D H0 own nm cc nL ret hh fr lo oc w0 B pc2 ls st w) : V l D H0 own nm cc nL ret hh fr lo oc w0 (if y < x then A else B) pc ls (.int y :: .int x :: st) w := by
  subst hp
  exact V.br (fun p e R s m args below meth c H locs cells slots Q la hC k1 k2 => lv_icmp_gt hC.1.1 hC.1.2.1 d ht k1 k2) ka kb
theorem r_if_le (tgt pc2 : Nat) {x : Int32} {off : Int} {A B : Option (ρ × St)} (d : decode cc pc = .ok (.ifCond .le off, 3)) (ht : (pc : Int) + off = (tgt : Int)) (hp : pc + 3 = pc2) (ka : V l D H0 own nm cc nL ret hh fr lo oc w0 A tgt ls st w) (kb : V l D H0 own nm cc nL ret hh fr lo oc w0 B pc2 ls st w) : V l D H0 own nm cc nL ret hh fr lo oc w0 (if x ≤ 0 then A else B) pc ls (.int x :: st) w := by
  subst hp
  exact V.br (fun p e R s m args below meth c H locs cells slots Q la hC k1 k2 => lv_if_le hC.1.1 hC.1.2.1 d ht k1 k2) ka kb
theorem r_icmp_le (tgt pc2 : Nat) {x y : Int32} {off : Int} {A B : Option (ρ × St)} (d : decode cc pc = .ok (.if_icmp .le off, 3)) (ht : (pc : Int) + off = (tgt : Int)) (hp : pc + 3 = pc2) (ka : V l D H0 own nm cc nL ret hh fr lo oc w0 A tgt ls st w) (kb : V l D H0 own nm cc nL ret hh fr lo oc w0 B pc2 ls st w) : V l D H0 own nm cc nL ret hh fr lo oc w0 (if x ≤ y then A else B) pc ls (.int y :: .int x :: st) w := by
  subst hp
  exact V.br (fun p e R s m args below meth c H locs cells slots Q la hC k1 k2 => lv_icmp_le hC.1.1 hC.1.2.1 d ht k1 k2) ka kb
theorem rf_va (x : Rf) : rf x = va_rf x := by cases x <;> rfl
theorem r_acmp_eq (tgt pc2 : Nat) {x y : Rf} {off : Int} {A B : Option (ρ × St)} (d : decode cc pc = .ok (.if_acmp .eq off, 3)) (ht : (pc : Int) + off = (tgt : Int)) (hp : pc + 3 = pc2) (ka : V l D H0 own nm cc nL ret hh fr lo oc w0 A tgt ls st w) (kb : V l D H0 own nm cc nL ret hh fr lo oc w0 B pc2 ls st w) : V l D H0 own nm cc nL ret hh fr lo oc w0 (if x = y then A else B) pc ls (rf y :: rf x :: st) w := by
  subst hp
  rw [rf_va, rf_va]
  exact V.br (fun p e R s m args below meth c H locs cells slots Q la hC k1 k2 => lv_acmp_eq hC.1.1 hC.1.2.1 d ht k1 k2) ka kb
theorem r_acmp_ne (tgt pc2 : Nat) {x y : Rf} {off : Int} {A B : Option (ρ × St)} (d : decode cc pc = .ok (.if_acmp .ne off, 3)) (ht : (pc : Int) + off = (tgt : Int)) (hp : pc + 3 = pc2) (ka : V l D H0 own nm cc nL ret hh fr lo oc w0 A tgt ls st w) (kb : V l D H0 own nm cc nL ret hh fr lo oc w0 B pc2 ls st w) : V l D H0 own nm cc nL ret hh fr lo oc w0 (if x = y then B else A) pc ls (rf y :: rf x :: st) w := by
  subst hp
  rw [rf_va, rf_va]
  exact V.br (fun p e R s m args below meth c H locs cells slots Q la hC k1 k2 => lv_acmp_ne hC.1.1 hC.1.2.1 d ht k2 k1) kb ka
theorem r_ifnull (tgt pc2 : Nat) {x : Rf} {off : Int} {A B : Option (ρ × St)} (d : decode cc pc = .ok (.ifnull off, 3)) (ht : (pc : Int) + off = (tgt : Int)) (hp : pc + 3 = pc2) (ka : V l D H0 own nm cc nL ret hh fr lo oc w0 A tgt ls st w) (kb : V l D H0 own nm cc nL ret hh fr lo oc w0 B pc2 ls st w) : V l D H0 own nm cc nL ret hh fr lo oc w0 (if x = none then A else B) pc ls (rf x :: st) w := by
  subst hp
  cases x with
  | none => exact V.br (fun p e R s m args below meth c H locs cells slots Q la hC k1 k2 => lv_ifnullN hC.1.1 hC.1.2.1 d ht (k1 rfl)) ka kb
  | some a => exact V.br (fun p e R s m args below meth c H locs cells slots Q la hC k1 k2 => lv_ifnull hC.1.1 hC.1.2.1 d (k2 (fun h => nomatch h))) ka kb
theorem r_ifnonnull (tgt pc2 : Nat) {x : Rf} {off : Int} {A B : Option (ρ × St)} (d : decode cc pc = .ok (.ifnonnull off, 3)) (ht : (pc : Int) + off = (tgt : Int)) (hp : pc + 3 = pc2) (ka : V l D H0 own nm cc nL ret hh fr lo oc w0 A tgt ls st w) (kb : V l D H0 own nm cc nL ret hh fr lo oc w0 B pc2 ls st w) : V l D H0 own nm cc nL ret hh fr lo oc w0 (if x = none then B else A) pc ls (rf x :: st) w := by
  subst hp
  cases x with
  | none => exact V.br (fun p e R s m args below meth c H locs cells slots Q la hC k1 k2 => lv_ifnonnullN hC.1.1 hC.1.2.1 d (k1 rfl)) kb ka
  | some a => exact V.br (fun p e R s m args below meth c H locs cells slots Q la hC k1 k2 => lv_ifnonnull hC.1.1 hC.1.2.1 d ht (k2 (fun h => nomatch h))) kb ka
theorem neI {x c : Int32} {z : Int} (h : ¬ x = c) (hc : c.toInt = z) : x.toInt ≠ z := fun q => h (Int32.toInt_inj.mp (q.trans hc.symm))
theorem r_tswIn (tgt : Nat) {dflt lo9 hi9 : Int} {offs : Array Int} {len : Nat} {x : Int32} {off z : Int} (d : decode cc pc = .ok (.tableswitch dflt lo9 hi9 offs, len)) (hx : x.toInt = z) (h1 : lo9 ≤ z) (h2 : z ≤ hi9) (ho : offs[(z - lo9).toNat]? = some off) (ht : (pc : Int) + off = (tgt : Int)) (k : V l D H0 own nm cc nL ret hh fr lo oc w0 res tgt ls st w) : V l D H0 own nm cc nL ret hh fr lo oc w0 res pc ls (.int x :: st) w :=
  V.lift (fun p e R s m args below meth c H locs cells slots Q la hC hl kk => lv_tableIn hC.1.1 hC.1.2.1 d (by rw [hx]; omega) (by rw [hx]; omega) (by rw [hx]; exact ho) ht (kk la hl)) k
theorem r_tswOut (tgt : Nat) {dflt lo9 hi9 : Int} {offs : Array Int} {len : Nat} {x : Int32} (d : decode cc pc = .ok (.tableswitch dflt lo9 hi9 offs, len)) (h : x.toInt < lo9 ∨ hi9 < x.toInt) (ht : (pc : Int) + dflt = (tgt : Int)) (k : V l D H0 own nm cc nL ret hh fr lo oc w0 res tgt ls st w) : V l D H0 own nm cc nL ret hh fr lo oc w0 res pc ls (.int x :: st) w :=
  V.lift (fun p e R s m args below meth c H locs cells slots Q la hC hl kk => lv_tableOut hC.1.1 hC.1.2.1 d h ht (kk la hl)) k
theorem r_lsw (tgt : Nat) {dflt : Int} {ps : Array (Int × Int)} {len : Nat} {x : Int32} {off : Int} (d : decode cc pc = .ok (.lookupswitch dflt ps, len)) (hps : (ps.toList.zip (ps.toList.drop 1)).all (fun (a, next) => a.1 < next.1) = true) (ho : Op.lookupswitch.offset ps.toList dflt x.toInt = off) (ht : (pc : Int) + off = (tgt : Int)) (k : V l D H0 own nm cc nL ret hh fr lo oc w0 res tgt ls st w) : V l D H0 own nm cc nL ret hh fr lo oc w0 res pc ls (.int x :: st) w :=
  V.lift (fun p e R s m args below meth c H locs cells slots Q la hC hl kk => lv_lookup hC.1.1 hC.1.2.1 d hps ho ht (kk la hl)) k
theorem r_ldcI (pc2 : Nat) {idx : Nat} {v : Int32} (hq : Cond.constant own idx v ∈ lw_all) (d : decode cc pc = .ok (.ldc idx, 2)) (hp : pc + 2 = pc2) (k : V l D H0 own nm cc nL ret hh fr lo oc w0 res pc2 ls (.int v :: st) w) : V l D H0 own nm cc nL ret hh fr lo oc w0 res pc ls st w := by
  subst hp
  exact V.lift (fun p e R s m args below meth c H locs cells slots Q la hC hl kk => lv_ldc hC.1.1 hC.1.2.1 hC.1.2.2.2.1 (hC.1.2.2.2.2 _ hq) d (kk la hl)) k
theorem r_ldc2J (pc2 : Nat) {idx : Nat} {v : Int64} (hq : Cond.constantLong own idx v ∈ lw_all) (d : decode cc pc = .ok (.ldc2_w idx, 3)) (hp : pc + 3 = pc2) (k : V l D H0 own nm cc nL ret hh fr lo oc w0 res pc2 ls (.long v :: st) w) : V l D H0 own nm cc nL ret hh fr lo oc w0 res pc ls st w := by
  subst hp
  exact V.lift (fun p e R s m args below meth c H locs cells slots Q la hC hl kk => lv_ldc2 hC.1.1 hC.1.2.1 hC.1.2.2.2.1 (hC.1.2.2.2.2 _ hq) d (kk la hl)) k
end STEP
