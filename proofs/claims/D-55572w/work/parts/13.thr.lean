section THR
variable {l : Launch} {D : Dn} {H0 : Heap} {own nm : String} {cc : ByteArray} {nL : Nat} {ret : Option FieldType} {hh : List (Nat × Nat × Nat × Nat)} {fr lo : Nat} {ρ : Type} {oc : ρ → Nat ⊕ Option Value} {w0 w : St} {res : Option (ρ × St)} {pc : Nat} {ls : List (Nat × LV)} {st : List Value}
def ocX {γ : Type} (rv : γ → Option Value) (r : Nat ⊕ γ) : Nat ⊕ Option Value := match r with
  | .inl q => .inl q
  | .inr x => .inr (rv x)
/-- what is thrown lies in the state as an object of a known class -/
def isX (w : St) (q : Nat) : Prop := ∃ (ci : Nat) (fs : List Value) (r : vw_C), w.mp q = some (oP ci fs) ∧ clA[ci]? = some r ∧ ci < 27
/-- the walk's judgement where q is thrown at pc -/
def VT (l : Launch) (D : Dn) (H0 : Heap) (own nm : String) (cc : ByteArray) (nL : Nat) (ret : Option FieldType) (hh : List (Nat × Nat × Nat × Nat)) (fr lo : Nat) {ρ : Type} (oc : ρ → Nat ⊕ Option Value) (w0 : St) (res : Option (ρ × St)) (pc : Nat) (ls : List (Nat × LV)) (q : Nat) (w : St) : Prop :=
  ∀ r w1, res = some (r, w1) → (w1.g = w.g ∧ w.n ≤ w1.n ∧ w.sl ≤ w1.sl) ∧ (isX w q → ∀ (p : Program) (e : Env) (R : Room) (s : State) (m : MethodId) (args : Array Value) (below : List Frame) (meth : Method) (c : Code) (H : Heap) (locs : List Loc) (la : Array Slot) (rest : List Value),
    Cx D H0 own nm cc nL ret hh fr lo w0 p R s m args meth c → R.cells = w1.n - w0.n → R.slots = w1.sl - w0.sl → w.g = w0.g → w0.n ≤ w.n → w0.sl ≤ w.sl → Rel D H0 w H → (∀ q ∈ locs, w0.g 0 ≤ q.base) → lv_has la nL (lvs ls) →
    vx_W p l e R s m args below meth c H locs (w.n - w0.n) (w.sl - w0.sl) (vx_MQ below (QcO D H0 oc r w1) (XcO D H0 oc r w1) args s (w1.n - w0.n) (w1.sl - w0.sl) (fun q => w0.g 0 ≤ q)) (F0 m pc la rest) q)
theorem V.liftH {pc pc2 : Nat} {ls ls2 : List (Nat × LV)} {st st2 : List Value} {w w2 : St} (hm : w2.g = w.g ∧ w.n ≤ w2.n ∧ w.sl ≤ w2.sl) (h : ∀ (p : Program) (e : Env) (R : Room) (s : State) (m : MethodId) (args : Array Value) (below : List Frame) (meth : Method) (c : Code) (H : Heap) (locs : List Loc) (cells slots : Nat) (Q : State → Prop) (la : Array Slot), Cx D H0 own nm cc nL ret hh fr lo w0 p R s m args meth c → w.g = w0.g → w0.n ≤ w.n → Rel D H0 w H → (∀ q ∈ locs, w0.g 0 ≤ q.base) → lv_has la nL (lvs ls) →
    cells + (w2.n - w.n) ≤ R.cells → slots + (w2.sl - w.sl) ≤ R.slots → (∀ (H2 : Heap) (locs2 : List Loc) (la2 : Array Slot), Rel D H0 w2 H2 → (∀ q ∈ locs2, w0.g 0 ≤ q.base) → lv_has la2 nL (lvs ls2) → W p l e R s m args below meth c H2 locs2 (cells + (w2.n - w.n)) (slots + (w2.sl - w.sl)) Q (F0 m pc2 la2 st2)) → W p l e R s m args below meth c H locs cells slots Q (F0 m pc la st)) (k : V l D H0 own nm cc nL ret hh fr lo oc w0 res pc2 ls2 st2 w2) : V l D H0 own nm cc nL ret hh fr lo oc w0 res pc ls st w := by
  intro r w1 hres
  obtain ⟨⟨k1, k3, k4⟩, k2⟩ := k r w1 hres
  obtain ⟨m1, m2, m3⟩ := hm
  refine ⟨⟨k1.trans m1, Nat.le_trans m2 k3, Nat.le_trans m3 k4⟩, fun p e R s m args below meth c H locs la hC h1 h2 h3 h4 h5 h6 h7 h8 => h p e R s m args below meth c H locs _ _ _ la hC h3 h4 h6 h7 h8 (by rw [h1]; omega) (by rw [h2]; omega) (fun H2 locs2 la2 g1 g2 g3 => ?_)⟩
  have := k2 p e R s m args below meth c H2 locs2 la2 hC h1 h2 (m1.trans h3) (by omega) (by omega) g1 g2 g3
  rw [show w.n - w0.n + (w2.n - w.n) = w2.n - w0.n by omega, show w.sl - w0.sl + (w2.sl - w.sl) = w2.sl - w0.sl by omega]
  exact this
theorem r_tnone {q : Nat} : VT l D H0 own nm cc nL ret hh fr lo oc w0 (none : Option (ρ × St)) pc ls q w := fun r w1 h => nomatch h
theorem isX_cell {s : State} {H : Heap} {q ci : Nat} {fs : List Value} {r : vw_C} (hR : Rel D H0 w H) (hK : K0 D H0 w.g s) (h1 : w.mp q = some (oP ci fs)) (h2 : clA[ci]? = some r) (h3 : ci < 27) : ∃ ce : Cell, H[q]? = some ce ∧ ce.vm = .none ∧ s.vm.findClass r.1 = some ce.cls := by
  obtain ⟨-, -, -, -, own9, h5, -⟩ := hR
  obtain ⟨r', cell, g1, g2, g3, g4, g5, -⟩ : okP D (w.g 0) ci fs q H := h5 q _ h1
  cases h2.symm.trans g1
  refine ⟨cell, g3, ?_, by rw [g4]; exact (hK.1.1 ci r h2).2.1⟩
  rcases g5 with ⟨-, -, h⟩ | ⟨h, -⟩
  · exact h
  · omega
/-- not caught here -/
theorem r_out {x : ρ} {q : Nat} (ho : oc x = .inl q) (hout : (tableOf hh).all (fun z => !covers z pc) = true) : VT l D H0 own nm cc nL ret hh fr lo oc w0 (some (x, w)) pc ls q w := by
  intro r w1 hres
  cases hres
  refine ⟨⟨rfl, Nat.le_refl _, Nat.le_refl _⟩, fun hx p e R s m args below meth c H locs la rest hC g1 g2 g3 g4 g5 g6 g7 g8 => ?_⟩
  obtain ⟨ci, fs, rr, h1, h2, h3⟩ := hx
  obtain ⟨ce, k1, k2, k3⟩ := isX_cell g6 (hC.K g3) h1 h2 h3
  refine vx_out (E := rr.1) (fun z hz => ?_) hC.2.2.1 k1 k2 k3 (fun t ht hW => ⟨ho, by rw [ht]; exact g6, ci, fs, h1, h3, rr, h2, rfl⟩) g7 (Nat.le_refl _) (Nat.le_refl _)
  have h9 := List.all_eq_true.mp hout z (by rw [← hC.2.2.2.1]; exact hz)
  cases h8 : covers z pc with
  | false => rfl
  | true => rw [h8] at h9; cases h9
theorem r_athrow {q : Nat} (hx : isX w q) (d : decode cc pc = .ok (.athrow, 1)) (k : VT l D H0 own nm cc nL ret hh fr lo oc w0 res pc ls q w) : V l D H0 own nm cc nL ret hh fr lo oc w0 res pc ls (rf (some q) :: st) w := by
  intro r w1 hres
  obtain ⟨k1, k2⟩ := k r w1 hres
  exact ⟨k1, fun p e R s m args below meth c H locs la hC h1 h2 h3 h4 h5 h6 h7 h8 => vx_athrow hC.1.1 hC.1.2.1 d (k2 hx p e R s m args below meth c H locs la st hC h1 h2 h3 h4 h5 h6 h7 h8)⟩
/-- caught by the row z of the table; those ahead don't cover the place or don't take the class -/
theorem r_catch {q ci : Nat} {rr : vw_C} {n : String} (i : Nat) {z : ExceptionTableEntry} (h1 : cls (some q) w = some ci) (h2 : clA[ci]? = some rr) (hz : (tableOf hh)[i]? = some z) (hpre : ∀ y ∈ (tableOf hh).take i, covers y pc = false ∨ (y.catchType ≠ 0 ∧ ∃ nm9 : String, Cond.classLink own y.catchType nm9 ∈ lw_all ∧ (rr.1, nm9) ∈ ncL)) (hcov : covers z pc = true) (h0 : z.catchType ≠ 0) (hq : Cond.classLink own z.catchType n ∈ lw_all) (hca : Cond.castable rr.1 n ∈ lw_tbl) (k : V l D H0 own nm cc nL ret hh fr lo oc w0 res z.handlerPc ls [rf (some q)] w) : VT l D H0 own nm cc nL ret hh fr lo oc w0 res pc ls q w := by
  intro r w1 hres
  obtain ⟨k1, k2⟩ := k r w1 hres
  refine ⟨k1, fun hx p e R s m args below meth c H locs la rest hC g1 g2 g3 g4 g5 g6 g7 g8 => ?_⟩
  have hK := hC.K g3
  obtain ⟨ci9, fs9, rr9, x1, x2, x3⟩ := hx
  obtain rfl : ci = ci9 := by
    unfold cls at h1
    dsimp only at h1
    rw [x1] at h1
    exact (Option.some.inj h1).symm
  cases h2.symm.trans x2
  obtain ⟨ce, m1, m2, m3⟩ := isX_cell g6 hK x1 h2 x3
  have hsplit : tableOf hh = (tableOf hh).take i ++ z :: (tableOf hh).drop (i + 1) := by
    have hlt := (List.getElem?_eq_some_iff.mp hz).1
    have he := (List.getElem?_eq_some_iff.mp hz).2
    have h9 := (List.take_append_drop i (tableOf hh)).symm
    rw [List.drop_eq_getElem_cons hlt, he] at h9
    exact h9
  refine vx_catch hC.1.2.2.2.1 ((tableOf hh).take i) z ((tableOf hh).drop (i + 1)) (by rw [hC.2.2.2.1]; exact hsplit) (fun y hy => ?_) hcov h0 (hC.1.2.2.2.2 _ hq) (nwU hK hca rfl) m1 m2 m3 (k2 p e R s m args below meth c H locs la hC g1 g2 g3 g4 g5 g6 g7 g8)
  rcases hpre y hy with h | ⟨hy0, nm9, hl9, hn9⟩
  · exact Or.inl h
  · exact Or.inr ⟨hy0, nm9, hC.1.2.2.2.2 _ hl9, hK.2.1.2.2.2 _ hn9⟩
/-- .. by a row for anything (finally) -/
theorem r_make (pc2 ci : Nat) {X : String} {T0 : u_T} {names : List String} {ik ic k8 : Nat} (hl : l.stackTraces = false) (hc9 : clA[ci]? = some (X, T0, 0)) (hci : Nat.blt ci 27 = true) (hcls : Bundle.fit X = true) (hnames : ∀ n ∈ names, Bundle.fit n = true) (hk : Cond.classLink own ik X ∈ lw_all) (hini : Cond.initialized X ∈ lw_all) (hat : ∀ v ∈ vx_at0 own ic X names, v ∈ lw_all ∨ (v ∈ lw_tbl ∧ isNw v = true))
    (hrm : Nat.ble (names.length + 4) fr = true ∧ Nat.ble (k8 + (13 * (names.length + 1) + 42)) lo = true) (hc8 : cat2 k8 st) (d0 : decode cc pc = .ok (.new ik, 3)) (d3 : decode cc (pc + 3) = .ok (.dup, 1)) (d4 : decode cc (pc + 4) = .ok (.invokespecial ic, 3)) (hp : pc + 7 = pc2) (k : V l D H0 own nm cc nL ret hh fr lo oc w0 res pc2 ls (rf (some w.n) :: st) (enew ci w)) : V l D H0 own nm cc nL ret hh fr lo oc w0 res pc ls st w := by
  subst hp
  refine V.liftH (w2 := enew ci w) ⟨rfl, Nat.le_succ _, Nat.le_add_right _ _⟩ (fun p e R s m args below meth c H locs cells slots Q la hC hg hn0 hR hL hll hcc hss kk => ?_) k
  have e1 : (enew ci w).n - w.n = 1 := by show w.n + 1 - w.n = 1; omega
  have e2 : (enew ci w).sl - w.sl = 6 := by show w.sl + 6 - w.sl = 6; omega
  rw [e1] at hcc kk; rw [e2] at hss kk
  have hK := hC.K hg
  have hts := hC.1.2.2.2.2
  have hword : ∀ v : Cond, (v ∈ lw_all ∨ (v ∈ lw_tbl ∧ isNw v = true)) → v.before args s = true ∧ vx_ot v = true := by
    intro v hv
    rcases hv with h | ⟨h, h'⟩
    · exact ⟨hts _ h, by unfold vx_ot; rw [(List.mem_filter.mp h).2]; exact Bool.or_true _⟩
    · exact ⟨nwU hK h h', by unfold vx_ot; rw [isNw_on h']; rfl⟩
  have hZ : ∀ {C n d : String}, vx_Zq C n d (fun a => w.g 0 ≤ a) s H0 → vx_Zq C n d (fun a => w.g 0 ≤ a) s s.heap := fun h => h.kept (fun a ha hna => hC.2.2.2.2.2.2.2.2.2.2.2 a ha)
  refine vx_make9 hC.1.1 hC.1.2.1 hl hC.1.2.2.2.1 hcls hnames (hts _ hk) (hts _ hini) (fun v hv => (hword v (hat v hv)).1) (fun v hv => ?_) (hZ hK.2.2.2.2.1) (hZ hK.2.2.2.2.2) ?_ (hll.1.trans hC.1.2.2.1.symm) d0 d3 d4 ?_ ?_ hcc hss (fun H1 ce z1 z2 z3 z4 z5 => ?_)
  · rcases List.mem_cons.mp hv with rfl | hv
    · exact (hword _ (Or.inl hk)).2
    · rcases List.mem_cons.mp hv with rfl | hv
      · exact (hword _ (Or.inl hini)).2
      · exact (hword _ (hat v hv)).2
  · exact hC.S hg hR hL (by rw [hC.2.2.2.2.2.2.2.2.1, hR.1]; exact hn0)
  · have := Nat.le_trans (Nat.le_of_ble_eq_true hrm.1) hC.2.2.2.2.2.2.1; omega
  · have := Nat.le_trans (Nat.le_of_ble_eq_true hrm.2) hC.2.2.2.2.2.2.2.1
    have h8 : (st.map fun v => v.category).sum ≤ k8 := hc8
    omega
  · have h9 := hR.1
    rw [h9]
    refine kk H1 locs la (hR.new 6 rfl z1 z5 ⟨_, ce, hc9, rfl, by rw [← h9]; exact z2, ?_, Or.inl ⟨Nat.le_of_ble_eq_true hci, ?_, z3⟩, fun j hj => absurd hj (Nat.not_lt_zero j)⟩) hL hll
    · exact Option.some.inj (z4.symm.trans (hK.1.1 ci _ hc9).2.1)
    · rw [hR.2.1, ← hR.1]; exact hR.2.2.1
theorem isX_enew {ci : Nat} {r : vw_C} (hr : clA[ci]? = some r) (hci : ci < 27) : isX (enew ci w) w.n := ⟨ci, [], r, upO_self, hr, hci⟩
end THR
section CALLX
variable {l : Launch} {D : Dn} {H0 : Heap} {own nm : String} {cc : ByteArray} {nL : Nat} {ret : Option FieldType} {hh : List (Nat × Nat × Nat × Nat)} {fr lo : Nat} {ρ : Type} {oc : ρ → Nat ⊕ Option Value} {w0 w : St} {res : Option (ρ × St)} {pc : Nat} {ls : List (Nat × LV)} {st : List Value}
variable {γ : Type} {rv : γ → Option Value} {f : Option ((Nat ⊕ γ) × St)} {rest : List Value}
/-- behind a call that may throw -/
theorem V.callX {h : Nat → St → Option (ρ × St)} {g : γ → St → Option (ρ × St)} (hmono : ∀ r1 w1, f = some (r1, w1) → w1.g = w.g ∧ w.n ≤ w1.n ∧ w.sl ≤ w1.sl) (run : ∀ r1 w1, f = some (r1, w1) → ∀ (p : Program) (e : Env) (R : Room) (s : State) (m : MethodId) (args : Array Value) (below : List Frame) (meth : Method) (c : Code) (H : Heap) (locs : List Loc) (cells slots : Nat) (la : Array Slot), Cx D H0 own nm cc nL ret hh fr lo w0 p R s m args meth c → w.g = w0.g → Rel D H0 w H → lv_has la nL (lvs ls) → cells + (w1.n - w.n) ≤ R.cells → slots + (w1.sl - w.sl) ≤ R.slots → vx_Run p l e R s m args below meth c H locs cells slots (w1.n - w.n) (w1.sl - w.sl) (F0 m pc la st) rest (QcO D H0 (ocX rv) r1 w1 #[]) (XcO D H0 (ocX rv) r1 w1) (fun q => w.g 0 ≤ q))
    (kk : ∀ r1 w1, V l D H0 own nm cc nL ret hh fr lo oc w0 (g r1 w1) (pc + 3) ls ((rv r1).toList ++ rest) w1) (kx : ∀ q w1, VT l D H0 own nm cc nL ret hh fr lo oc w0 (h q w1) pc ls q w1) : V l D H0 own nm cc nL ret hh fr lo oc w0 (bh f h g) pc ls st w := by
  intro r w2 hres
  cases e : f with
  | none => rw [e] at hres; cases hres
  | some q =>
    obtain ⟨r1, w1⟩ := q
    rw [e] at hres
    obtain ⟨m1, m2, m3⟩ := hmono r1 w1 e
    have hmn : ∀ {A : Prop}, ((w2.g = w1.g ∧ w1.n ≤ w2.n ∧ w1.sl ≤ w2.sl) ∧ A) → (w2.g = w.g ∧ w.n ≤ w2.n ∧ w.sl ≤ w2.sl) := fun k => ⟨k.1.1.trans m1, Nat.le_trans m2 k.1.2.1, Nat.le_trans m3 k.1.2.2⟩
    have hm9 : (w2.g = w.g ∧ w.n ≤ w2.n ∧ w.sl ≤ w2.sl) ∧ w1.n ≤ w2.n ∧ w1.sl ≤ w2.sl := by
      rcases r1 with q | x
      · have k := kx q w1 r w2 hres
        exact ⟨hmn k, k.1.2.1, k.1.2.2⟩
      · have k := kk x w1 r w2 hres
        exact ⟨hmn k, k.1.2.1, k.1.2.2⟩
    refine ⟨hm9.1, fun p e9 R s m args below meth c H locs la hC h1 h2 h3 h4 h5 h6 h7 h8 => ?_⟩
    intro T hT X
    have hrun := run r1 w1 e p e9 R s m args below meth c H locs _ _ la hC h3 h6 h8 (by rw [h1]; omega) (by rw [h2]; omega) T hT X
    have hloc : ∀ L : List Loc, (∀ q ∈ L, w.g 0 ≤ q.base) → ∀ q ∈ locs ++ L, w0.g 0 ≤ q.base := by
      intro L hL q hq
      rcases List.mem_append.mp hq with h | h
      · exact h7 q h
      · have := hL q h; rw [← h3]; exact this
    rcases hrun with ⟨v, st₀, t, T', L, g0, X', hL, e1, e2, ⟨⟨v', hv', ho⟩, hR⟩, sts⟩ | ⟨q, st₀, t, T', L, E, ce, g0, X', hL, e1, e2, ⟨hoc, hR, hx⟩, hce, hcv, hcf, sts⟩
    · cases ho
      rcases r1 with q | x
      · cases hv'
      · cases hv'
        obtain ⟨-, k2⟩ := kk x w1 r w2 hres
        have hk := k2 p e9 R s m args below meth c T'.heap (locs ++ L) la hC h1 h2 (m1.trans h3) (by omega) (by omega) (by rw [e1]; exact hR) (hloc L hL) h8
        rw [show w.n - w0.n + (w1.n - w.n) = w1.n - w0.n by omega, show w.sl - w0.sl + (w1.sl - w.sl) = w1.sl - w0.sl by omega] at X'
        obtain ⟨t2, a1, b1⟩ := hk T' rfl X'
        exact ⟨t2, sts t2 a1, b1⟩
    · rcases r1 with q1 | x
      · cases hoc
        obtain ⟨ci, fs, hm, hci, rr, hrr, -⟩ := hx
        obtain ⟨-, k2⟩ := kx q w1 r w2 hres
        have hk := k2 ⟨ci, fs, rr, hm, hrr, hci⟩ p e9 R s m args below meth c T'.heap (locs ++ L) la rest hC h1 h2 (m1.trans h3) (by omega) (by omega) (by rw [e1]; exact hR) (hloc L hL) h8
        rw [show w.n - w0.n + (w1.n - w.n) = w1.n - w0.n by omega, show w.sl - w0.sl + (w1.sl - w.sl) = w1.sl - w0.sl by omega] at X'
        obtain ⟨t2, a1, b1⟩ := hk T' rfl X'
        exact ⟨t2, sts.trans a1, b1⟩
      · cases hoc
end CALLX
