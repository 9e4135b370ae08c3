/-! what a field's row of the tables gives -/
def GF (own : String) (idx : Nat) (cs : List Nat) (k : Nat) : Prop := ∀ ci ∈ cs, ∀ {D : Dn} {H0 : Heap} {g : Nat → Nat} {p : Program} {l : Launch} {e : Env} {R : Room} {s : State} {m : MethodId} {args : Array Value} {below : List Frame} {meth : Method} {c : Code} {cc : ByteArray} {nL : Nat} {H : Heap} {locs : List Loc} {cells slots : Nat} {Q : State → Prop} {pc a : Nat} {la : Array Slot} {st fs : List Value} {v : Value},
  CallFix p m c cc nL s args lw_all own → K0 D H0 g s → okP D (g 0) ci fs a H → fs[k]? = some v → decode cc pc = .ok (.getfield idx, 3) → W p l e R s m args below meth c H locs cells slots Q (F0 m (pc + 3) la (v :: st)) → W p l e R s m args below meth c H locs cells slots Q (F0 m pc la (.ref a :: st))
def PF (own nm : String) (idx : Nat) (cs : List Nat) (k : Nat) (ty : FieldType) : Prop := ∀ ci ∈ cs, ∀ {D : Dn} {H0 : Heap} {g : Nat → Nat} {p : Program} {l : Launch} {e : Env} {R : Room} {s : State} {m : MethodId} {args : Array Value} {below : List Frame} {meth : Method} {c : Code} {cc : ByteArray} {nL : Nat} {H : Heap} {locs : List Loc} {cells slots : Nat} {Q : State → Prop} {pc a : Nat} {la : Array Slot} {st fs : List Value} {v : Value},
  CallFix p m c cc nL s args lw_all own → meth.name = nm → K0 D H0 g s → okP D (g 0) ci fs a H → ci < 27 → k < fs.length → narrow ty v = v → fits ty v = true → decode cc pc = .ok (.putfield idx, 3) →
  (∀ (H1 : Heap) (i : Nat), okP D (g 0) ci (fs.set k v) a H1 → H1.size = H.size → (∀ q : Nat, q ≠ a → H1[q]? = H[q]?) → W p l e R s m args below meth c H1 (locs ++ [⟨a, i⟩]) cells slots Q (F0 m (pc + 3) la st)) → W p l e R s m args below meth c H locs cells slots Q (F0 m pc la (v :: .ref a :: st))
theorem nwU {U : State} {w : Cond} {A : Array Value} {D : Dn} {H0 : Heap} {g : Nat → Nat} (hK : K0 D H0 g U) (hw : w ∈ lw_tbl) (hn : isNw w = true) : w.before A U = true := va_Nw.use (isNw_on hn) (hK.2.1.1 w hw hn)
/-- the link of a field, by one of its two words -/
def FL (own : String) (idx : Nat) (ref n d : String) : Prop := Cond.fieldLink own idx ref n d ∈ lw_all ∨ ∃ host, Cond.fieldLinkNest own idx ref n d host ∈ lw_tbl
def FS (ref o n d : String) : Prop := ref = o ∨ Cond.sameField ref o n d ∈ lw_all
theorem FS.use {ref o n d : String} {s : State} {args : Array Value} (h : FS ref o n d) (ht : ∀ w ∈ lw_all, w.before args s = true) : ∀ x, s.fieldFound? o n d = some x → s.fieldFound? ref n d = some x := by
  intro x hx
  rcases h with rfl | h
  · exact hx
  · exact u_same (ht _ h) x hx
theorem GF1 {own ref C : String} {T : u_T} {N ci idx k : Nat} (hc : clA[ci]? = some (C, T, N)) (hin : ∀ w ∈ u_ws C T N, w ∈ lw_all) (hk : k < N) (hl : FL own idx ref (T k).2.1 (T k).2.2.1) (hs : FS ref (T k).1 (T k).2.1 (T k).2.2.1) : GF own idx [ci] k := by
  intro c9 hc9
  rw [List.mem_singleton.mp hc9]
  intro D H0 g p l e R s m args below meth c cc nL H locs cells slots Q pc a la st fs v S hK hP hv hdg kk
  obtain ⟨hx, hb, hml, hown, hts⟩ := S
  obtain ⟨r, cell, h1, h2, h3, h4, h5, h6⟩ := hP
  have hr : r = (C, T, N) := Option.some.inj (h1.symm.trans hc)
  subst hr
  obtain ⟨hS, hfc, kC, hkC, hkind⟩ := hK.1.1 ci _ hc
  obtain ⟨cf, kf, fi, f, hi, hsl⟩ := hS k hk
  have hun : cell.vm ≠ .unknown := by
    rcases h5 with ⟨-, -, h⟩ | ⟨-, h, -⟩
    · rw [h]; exact fun h => by cases h
    · exact h
  have hv2 : cell.slots[f.slot]? = some v := by
    rw [hsl, h6 k hk]
    simp [vp_V, hv]
  rcases hl with hl | ⟨host, hl⟩
  · exact W.getf hx hb hown (hts _ hl) (hs.use hts _ hi) (u_facts hfc hkC (u_lays hts hin hk) hi).1 h3 hun hv2 rfl rfl hdg kk
  · exact va_Wgetf hx hb hown (nwU hK hl rfl) (hs.use hts _ hi) (u_facts hfc hkC (u_lays hts hin hk) hi).1 h3 hun hv2 rfl rfl hdg kk
theorem GF.app {own : String} {idx k : Nat} {a b : List Nat} (h1 : GF own idx a k) (h2 : GF own idx b k) : GF own idx (a ++ b) k := by
  intro ci hci
  rcases List.mem_append.mp hci with h | h
  · exact h1 ci h
  · exact h2 ci h
theorem PF1 {own ref C nm : String} {T : u_T} {N ci idx k : Nat} {ty : FieldType} {ty0 : Nat → FieldType} (hc : clA[ci]? = some (C, T, N)) (hin : ∀ w ∈ u_ws C T N, w ∈ lw_all) (hty : ∀ k, k < N → parseFieldDescriptor (T k).2.2.1 = some (ty0 k)) (hnm : ∀ a, a < N → ∀ b, b < N → a ≠ b → (T a).2.1 ≠ (T b).2.1) (hk : k < N) (hd : parseFieldDescriptor (T k).2.2.1 = some ty)
    (hfin : (T k).2.2.2 = false ∨ ((T k).2.2.2 = true ∧ nm = "<init>" ∧ (T k).1 = own ∧ Cond.fieldLink own idx ref (T k).2.1 (T k).2.2.1 ∈ lw_all)) (hl : FL own idx ref (T k).2.1 (T k).2.2.1) (hs : FS ref (T k).1 (T k).2.1 (T k).2.2.1) : PF own nm idx [ci] k ty := by
  intro c9 hc9
  rw [List.mem_singleton.mp hc9]
  intro D H0 g p l e R s m args below meth c cc nL H locs cells slots Q pc a la st fs v S hnam hK hP hci hlen hn hfit hdg kk
  obtain ⟨hx, hb, hml, hown, hts⟩ := S
  obtain ⟨r, cell, h1, h2, h3, h4, h5, h6⟩ := hP
  have hr : r = (C, T, N) := Option.some.inj (h1.symm.trans hc)
  subst hr
  have hap : ∀ x y, x < N → y < N → x ≠ y → (D.1.2 ci) x ≠ (D.1.2 ci) y := by
    intro x y hx' hy' hne
    obtain ⟨hS, -⟩ := hK.1.1 ci _ hc
    obtain ⟨_, _, _, fa, hia, ea⟩ := hS x hx'
    obtain ⟨_, _, _, fb, hib, eb⟩ := hS y hy'
    rw [← ea, ← eb]
    refine u_apart (u_lays hts hin hx') (u_lays hts hin hy') hia hib ?_
    rw [(State.fieldFound?_type hia (hty x hx')).1, (State.fieldFound?_type hib (hty y hy')).1]
    exact hnm x hx' y hy' hne
  obtain ⟨hS, hfc, kC, hkC, hkind⟩ := hK.1.1 ci _ hc
  obtain ⟨cf, kf, fi, f, hi, hsl⟩ := hS k hk
  have hvm : cell.vm = .none ∧ g 0 ≤ a := by
    rcases h5 with ⟨-, h0, h⟩ | ⟨h, -, -⟩
    · exact ⟨h, h0⟩
    · omega
  have hlay := hts _ (hin _ (u_in_lay hk))
  unfold u_lay at hlay
  have hst := (u_facts hfc hkC (u_lays hts hin hk) hi).1
  have fin : ∀ H' : Heap, H'[a]? = some (cell.setSlot f.slot v) → H'.size = H.size → (∀ q, q ≠ a → H'[q]? = H[q]?) → W p l e R s m args below meth c H' (locs ++ [⟨a, f.slot⟩]) cells slots Q (F0 m (pc + 3) la st) := by
    intro H' e1 e2 e3
    refine kk H' _ ?_ e2 e3
    rw [hsl] at e1
    refine ⟨_, _, hc, by rw [List.length_set]; exact h2, e1, h4, Or.inl ⟨hci, hvm.2, hvm.1⟩, fun j hj => ?_⟩
    rw [t_set h6 hap hk v j hj, vp_updV_set hlen v j]
  have hlt : f.slot < cell.slots.size := by rw [hsl]; exact k2_hasslot (h6 k hk)
  rcases hfin with hfin | ⟨hfin, hin2, hdecl, hl1⟩
  · rw [if_neg (by rw [hfin]; decide)] at hlay
    have h7 := u_store hfc hkC hkind hlay hi hd hn hfit
    rcases hl with hl | ⟨host, hl⟩
    · exact W.putK hx hb (f := f) ⟨hown, hts _ hl, ⟨_, _, _, hs.use hts _ hi⟩, hst⟩ (by rw [h4]; exact h7) h3 hvm.1 hlt rfl rfl hdg fin
    · exact va_WputK hx hb hown (nwU hK hl rfl) (hs.use hts _ hi) hst (by rw [h4]; exact h7) h3 hvm.1 hlt rfl rfl hdg fin
  · rw [if_pos hfin] at hlay
    have hcf : m.cls = cf := by
      obtain ⟨_, _, c', _, _, _, -, -, hf', -, -, -, hown2, -⟩ := Cond.laysFinal_spec hlay
      have e1 : c' = cf := by have := hi.symm.trans hf'; simp at this; exact this.1.symm
      rw [hdecl] at hown2
      rw [← e1]; exact Option.some.inj (hown.symm.trans hown2)
    have h7 := u_fits hfc hkC hkind (Or.inr hlay) hi hd hn hfit
    exact W.putFinK hx hb hown (hts _ hl1) (hs.use hts _ hi) hst hcf (hnam.trans hin2) (by rw [h4]; exact h7) h3 hvm.1 hlt rfl rfl hdg fin
theorem PF.app {own nm : String} {idx k : Nat} {ty : FieldType} {a b : List Nat} (h1 : PF own nm idx a k ty) (h2 : PF own nm idx b k ty) : PF own nm idx (a ++ b) k ty := by
  intro ci hci
  rcases List.mem_append.mp hci with h | h
  · exact h1 ci h
  · exact h2 ci h
/-! what the abstract state says of the heap -/
theorem mK_spec {g : Nat → Nat} {a k : Nat} (h : mK g a = some k) : k < 34 ∧ mArr k = true ∧ a = g (401 + k) := by
  unfold mK at h
  have h1 := List.mem_of_find?_eq_some h
  have h2 := List.find?_some h
  simp only [Bool.and_eq_true, beq_iff_eq] at h2
  exact ⟨List.mem_range.mp h1, h2.1, h2.2.symm⟩
theorem Rel.getP {D : Dn} {H0 H : Heap} {w : St} {x : Rf} {q : Nat × List Value} (h : Rel D H0 w H) (e : getP x w = some q) : ∃ a, x = some a ∧ (w.mp a = some (oP q.1 q.2) ∨ (w.mp a = none ∧ a = w.g 400 ∧ ∃ M, w.ms = some M ∧ q = (26, mFs w.g M))) ∧ okP D (w.g 0) q.1 q.2 a H := by
  obtain ⟨-, -, -, -, own, h5, -, -, h8⟩ := h
  unfold _root_.Jvm.Pilot.@@N@@.getP at e
  cases x with
  | none => cases e
  | some a =>
    dsimp only at e
    refine ⟨a, rfl, ?_⟩
    cases hm : w.mp a with
    | none =>
      rw [hm] at e
      have e : mP a w = some q := e
      unfold mP at e
      cases hM : w.ms with
      | none => rw [hM] at e; cases e
      | some M =>
        rw [hM] at e
        dsimp only at e
        by_cases ha : a = w.g 400
        · rw [if_pos ha] at e
          cases e
          exact ⟨Or.inr ⟨rfl, ha, M, rfl, rfl⟩, by rw [ha]; exact (h8 M hM).1.1⟩
        · rw [if_neg ha] at e; cases e
    | some o =>
      rw [hm] at e
      rcases o with ⟨ci, fs⟩ | o
      · cases e
        exact ⟨Or.inl rfl, h5 a _ hm⟩
      · cases e
theorem Rel.getA {D : Dn} {H0 H : Heap} {w : St} {x : Rf} {q : Nat × Nat × (Nat → Value)} (h : Rel D H0 w H) (e : getA x w = some q) : ∃ a, x = some a ∧ (w.mp a = some (oA q.1 q.2.1 q.2.2) ∨ (w.mp a = none ∧ ∃ M k, w.ms = some M ∧ mK w.g a = some k ∧ q = (mTy k, mLen k, fun i => .int (M.2 k i)))) ∧ okA D (w.g 0) q.1 q.2.1 q.2.2 a H := by
  obtain ⟨-, -, -, -, own, h5, -, -, h8⟩ := h
  unfold _root_.Jvm.Pilot.@@N@@.getA at e
  cases x with
  | none => cases e
  | some a =>
    dsimp only at e
    refine ⟨a, rfl, ?_⟩
    cases hm : w.mp a with
    | none =>
      rw [hm] at e
      have e : mA a w = some q := e
      unfold mA at e
      cases hM : w.ms with
      | none => rw [hM] at e; cases e
      | some M =>
        rw [hM] at e
        dsimp only at e
        cases hk : mK w.g a with
        | none => rw [hk] at e; cases e
        | some k =>
          rw [hk] at e
          cases e
          obtain ⟨k1, k2, k3⟩ := mK_spec hk
          exact ⟨Or.inr ⟨rfl, M, k, rfl, rfl, rfl⟩, by rw [k3]; exact (h8 M hM).1.2.1 k k1 k2⟩
    | some o =>
      rw [hm] at e
      rcases o with o | ⟨t, n, f⟩ | o
      · cases e
      · cases e
        exact ⟨Or.inl rfl, h5 a _ hm⟩
      · cases e
theorem okP_cls {D : Dn} {g0 ci a : Nat} {fs : List Value} {H : Heap} (h : okP D g0 ci fs a H) : ∃ (r : vw_C) (cell : Cell), clA[ci]? = some r ∧ H[a]? = some cell ∧ cell.vm.isStatics = false ∧ cell.cls = D.1.1 ci := by
  obtain ⟨r, cell, h1, h2, h3, h4, h5, h6⟩ := h
  refine ⟨r, cell, h1, h3, ?_, h4⟩
  rcases h5 with ⟨-, -, h⟩ | ⟨-, -, h⟩
  · rw [h]; rfl
  · exact h
theorem Rel.cls {D : Dn} {H0 H : Heap} {w : St} {x : Rf} {ci : Nat} (h : Rel D H0 w H) (e : cls x w = some ci) : ∃ (a : Nat) (r : vw_C) (cell : Cell), x = some a ∧ clA[ci]? = some r ∧ H[a]? = some cell ∧ cell.vm.isStatics = false ∧ cell.cls = D.1.1 ci := by
  obtain ⟨-, -, -, -, own, h5, -, -, h8⟩ := h
  unfold _root_.Jvm.Pilot.@@N@@.cls at e
  cases x with
  | none => cases e
  | some a =>
    dsimp only at e
    cases hm : w.mp a with
    | none =>
      rw [hm] at e
      dsimp only at e
      cases hq : mP a w with
      | none => rw [hq] at e; cases e
      | some q =>
        rw [hq] at e
        cases e
        unfold mP at hq
        cases hM : w.ms with
        | none => rw [hM] at hq; cases hq
        | some M =>
          rw [hM] at hq
          dsimp only at hq
          by_cases ha : a = w.g 400
          · rw [if_pos ha] at hq
            cases hq
            subst ha
            obtain ⟨r, cell, g1, g2, g3, g4⟩ := okP_cls (h8 M hM).1.1
            exact ⟨_, r, cell, rfl, g1, g2, g3, g4⟩
          · rw [if_neg ha] at hq; cases hq
    | some o =>
      rw [hm] at e
      have h := h5 a o hm
      have fin : ∀ {ci fs}, okP D (w.g 0) ci fs a H → ∃ (a' : Nat) (r : vw_C) (cell : Cell), (some a : Rf) = some a' ∧ clA[ci]? = some r ∧ H[a']? = some cell ∧ cell.vm.isStatics = false ∧ cell.cls = D.1.1 ci := by
        intro ci fs h
        obtain ⟨r, cell, g1, g2, g3, g4⟩ := okP_cls h
        exact ⟨a, r, cell, rfl, g1, g2, g3, g4⟩
      rcases o with ⟨ci, fs⟩ | ⟨t, n, f⟩ | ⟨mod, cap, xs⟩ | xs | ⟨cap, cs⟩ | cs
      · cases e; exact fin h
      · cases e
      · cases e; exact fin h.1
      · cases e
        obtain ⟨hh, f, h1, h2, h3, h4, h5⟩ := h
        exact fin h3
      · cases e
        obtain ⟨h2, h3, mb, f, h1, h4, h5⟩ := h
        exact fin h1
      · cases e; exact fin h.1
/-- the reference's object is written, or one of its arrays -/
theorem Rel.setM {D : Dn} {H0 H H1 : Heap} {w : St} {a : Nat} {M M1 : MS} (h : Rel D H0 w H) (hM : w.ms = some M) (ha : mReg w.g a) (z : H1.size = H.size) (e : ∀ q : Nat, q ≠ a → H1[q]? = H[q]?) (hk : okM w.g D M1 H1) : Rel D H0 (w.setM M1) H1 := by
  obtain ⟨h1, h2, h3, h4, own, h5, h6, h7, h8⟩ := h
  have hg0 : w.g 0 ≤ a := by
    obtain ⟨g1, g2⟩ := h8 M hM
    rcases ha with rfl | ⟨k, k1, k2, rfl⟩
    · obtain ⟨r, cell, -, -, -, -, q, -⟩ := g1.1
      rcases q with ⟨-, q, -⟩ | ⟨q, -⟩
      · exact q
      · omega
    · obtain ⟨cell, -, -, q, -⟩ := g1.2.1 k k1 k2
      rcases q with ⟨-, q, -⟩ | ⟨q, -⟩
      · exact q
      · unfold mTy at q; split at q <;> omega
  have hne : ∀ b o, w.mp b = some o → b ≠ a := by
    intro b o hb r
    have := (h8 M hM).2 a ha
    rw [← r, hb] at this
    cases this
  refine ⟨z.trans h1, h2, by rw [z]; exact h3, fun q hq => (e q (by omega)).trans (h4 q hq), own, ?_, ?_, h7, ?_⟩
  · intro b p hb
    exact okO_kept (h5 b p hb) (e b (hne b p hb)) (fun hp => e _ (fun r => (h6 b p hb hp).2.2.2 (by rw [hM]; exact fun z => by cases z) (by rw [r]; exact ha)))
  · intro b p hb hp
    obtain ⟨g1, g2, g3, g4⟩ := h6 b p hb hp
    exact ⟨g1, by rw [z]; exact g2, g3, fun _ => g4 (by rw [hM]; exact fun z => by cases z)⟩
  · intro M2 hM2
    cases hM2
    exact ⟨hk, (h8 M hM).2⟩
theorem mFs_set {g : Nat → Nat} {M : MS} {k : Nat} {x : Int32} (hk : mArr k = false) : (mFs g M).set k (.int x) = mFs g (upF M.1 k x, M.2) := by
  apply List.ext_getElem?
  intro i
  unfold mFs
  rw [List.getElem?_set, List.getElem?_map, List.getElem?_map]
  by_cases h : k = i
  · subst h
    rw [if_pos rfl]
    by_cases h2 : k < 34
    · rw [List.getElem?_range h2]
      simp [h2, hk, upF]
    · simp [h2]
  · rw [if_neg h]
    by_cases h2 : i < 34
    · rw [List.getElem?_range h2]
      simp [upF, Ne.symm h]
    · simp [h2]
