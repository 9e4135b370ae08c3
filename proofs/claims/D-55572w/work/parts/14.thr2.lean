theorem bx_bh {α β : Type} (o : Option ((Nat ⊕ α) × St)) (k : α → St → Option ((Nat ⊕ β) × St)) : bx o k = bh o (fun q w => some (.inl q, w)) k := by
  rcases o with - | ⟨q | x, w⟩ <;> rfl
section CALLX2
variable {l : Launch} {D : Dn} {H0 : Heap} {own nm : String} {cc : ByteArray} {nL : Nat} {ret : Option FieldType} {hh : List (Nat × Nat × Nat × Nat)} {fr lo : Nat} {ρ : Type} {oc : ρ → Nat ⊕ Option Value} {w0 w : St} {res : Option (ρ × St)} {pc : Nat} {ls : List (Nat × LV)} {st : List Value}
variable {γ : Type} {rv : γ → Option Value} {f : Option ((Nat ⊕ γ) × St)} {rest : List Value} {h : Nat → St → Option (ρ × St)} {g : γ → St → Option (ρ × St)}
variable {y : MethodName} {bytes : ByteArray} {maxL fr2 lo2 n idx k8 : Nat} {ret2 : Option FieldType} {as : List LV} {hh2 : List (Nat × Nat × Nat × Nat)}
theorem r_callHV (pc2 ci : Nat) {x : Rf} {r : vw_C} (sim : SimX l D H0 y (ws_ y bytes maxL ret2) fr2 lo2 (ocX rv) (lR x :: as) w f) (hcl : cls x w = some ci) (hr : clA[ci]? = some r) (hG : GoodIn lw_all (wsV own idx r.1 y (ws_ y bytes maxL ret2))) (hd : y.cls = r.1 ∧ y.cls ≠ "java/lang/invoke/MethodHandle" ∧ y.cls ≠ "java/lang/invoke/VarHandle" ∧ (parseMethodDescriptor y.desc).map (fun d => d.parameters.length) = some n) (hrm : Nat.ble (fr2 + 1) fr = true ∧ Nat.ble (8 + (maxL + 11) + lo2) lo = true) (hn : as.length = n) (hst : (as.map LV.v).reverse ++ rf x :: rest = st) (hc8 : cat2 k8 rest) (hk8 : Nat.ble k8 8 = true) (d : decode cc pc = .ok (.invokevirtual idx, 3)) (hp : pc + 3 = pc2)
    (kx : ∀ q w1, VT l D H0 own nm cc nL ret hh fr lo oc w0 (h q w1) pc ls q w1) (kk : ∀ r1 w1, V l D H0 own nm cc nL ret hh fr lo oc w0 (g r1 w1) pc2 ls ((rv r1).toList ++ rest) w1) : V l D H0 own nm cc nL ret hh fr lo oc w0 (bh f h g) pc ls st w := by
  subst hp
  obtain ⟨b, rfl⟩ := cls_some hcl
  refine V.callX (fun r1 w1 e1 => (sim r1 w1 e1).1) (fun r1 w1 e1 p e R s m args below meth c H locs cells slots la hC hg hR hl hcc hss => ?_) kk kx
  have hM := (sim r1 w1 e1).2
  have hK := hC.K hg
  have hts := hC.1.2.2.2.2
  have hfr := Nat.le_of_ble_eq_true hrm.1
  have hlo := Nat.le_of_ble_eq_true hrm.2
  have hRm : (rmO fr2 lo2 w w1).frames + 1 ≤ R.frames ∧ 8 + (maxL + 11) + (rmO fr2 lo2 w w1).locals ≤ R.locals := ⟨Nat.le_trans hfr hC.2.2.2.2.2.2.1, Nat.le_trans hlo hC.2.2.2.2.2.2.2.1⟩
  exact vx_runV (As := as.map LV.v) hC.1 hM (cwV n hts hG rfl rfl rfl hd hRm) (mkPreV hR hK hcl hr) rfl (by rw [List.length_map]; exact hn) hl.1 hst.symm (F0_room (cat2_8 hc8 hk8)) d ⟨hcc, hss⟩
theorem r_callHVX (pc2 ci : Nat) {x : Rf} {r : vw_C} (sim : SimX l D H0 y (wsW_ y bytes maxL ret2 hh2) fr2 lo2 (ocX rv) (lR x :: as) w f) (hcl : cls x w = some ci) (hr : clA[ci]? = some r) (hG : GoodIn lw_all (wsV own idx r.1 y (wsW_ y bytes maxL ret2 hh2))) (hd : y.cls = r.1 ∧ y.cls ≠ "java/lang/invoke/MethodHandle" ∧ y.cls ≠ "java/lang/invoke/VarHandle" ∧ (parseMethodDescriptor y.desc).map (fun d => d.parameters.length) = some n) (hrm : Nat.ble (fr2 + 1) fr = true ∧ Nat.ble (8 + (maxL + 11) + lo2) lo = true) (hn : as.length = n) (hst : (as.map LV.v).reverse ++ rf x :: rest = st) (hc8 : cat2 k8 rest) (hk8 : Nat.ble k8 8 = true) (d : decode cc pc = .ok (.invokevirtual idx, 3)) (hp : pc + 3 = pc2)
    (kx : ∀ q w1, VT l D H0 own nm cc nL ret hh fr lo oc w0 (h q w1) pc ls q w1) (kk : ∀ r1 w1, V l D H0 own nm cc nL ret hh fr lo oc w0 (g r1 w1) pc2 ls ((rv r1).toList ++ rest) w1) : V l D H0 own nm cc nL ret hh fr lo oc w0 (bh f h g) pc ls st w := by
  subst hp
  obtain ⟨b, rfl⟩ := cls_some hcl
  refine V.callX (fun r1 w1 e1 => (sim r1 w1 e1).1) (fun r1 w1 e1 p e R s m args below meth c H locs cells slots la hC hg hR hl hcc hss => ?_) kk kx
  have hM := (sim r1 w1 e1).2
  have hK := hC.K hg
  have hts := hC.1.2.2.2.2
  have hfr := Nat.le_of_ble_eq_true hrm.1
  have hlo := Nat.le_of_ble_eq_true hrm.2
  have hRm : (rmO fr2 lo2 w w1).frames + 1 ≤ R.frames ∧ 8 + (maxL + 11) + (rmO fr2 lo2 w w1).locals ≤ R.locals := ⟨Nat.le_trans hfr hC.2.2.2.2.2.2.1, Nat.le_trans hlo hC.2.2.2.2.2.2.2.1⟩
  exact vx_runVX (As := as.map LV.v) hC.1 hM (vx_cwVW n hts hG rfl rfl rfl hd hRm) (mkPreV hR hK hcl hr) rfl (by rw [List.length_map]; exact hn) hl.1 hst.symm (F0_room (cat2_8 hc8 hk8)) d ⟨hcc, hss⟩
theorem r_callHS (pc2 : Nat) (sim : SimX l D H0 y (ws_ y bytes maxL ret2) fr2 lo2 (ocX rv) as w f) (hG : GoodIn lw_all (va_wsS own idx y (ws_ y bytes maxL ret2))) (hd : y.cls ≠ "java/lang/invoke/MethodHandle" ∧ y.cls ≠ "java/lang/invoke/VarHandle" ∧ (parseMethodDescriptor y.desc).map (fun d => d.parameters.length) = some n) (hrm : Nat.ble (fr2 + 1) fr = true ∧ Nat.ble (8 + (maxL + 11) + lo2) lo = true) (hn : as.length = n) (hst : (as.map LV.v).reverse ++ rest = st) (hc8 : cat2 k8 rest) (hk8 : Nat.ble k8 8 = true) (d : decode cc pc = .ok (.invokestatic idx, 3)) (hp : pc + 3 = pc2)
    (kx : ∀ q w1, VT l D H0 own nm cc nL ret hh fr lo oc w0 (h q w1) pc ls q w1) (kk : ∀ r1 w1, V l D H0 own nm cc nL ret hh fr lo oc w0 (g r1 w1) pc2 ls ((rv r1).toList ++ rest) w1) : V l D H0 own nm cc nL ret hh fr lo oc w0 (bh f h g) pc ls st w := by
  subst hp
  refine V.callX (fun r1 w1 e1 => (sim r1 w1 e1).1) (fun r1 w1 e1 p e R s m args below meth c H locs cells slots la hC hg hR hl hcc hss => ?_) kk kx
  have hM := (sim r1 w1 e1).2
  have hK := hC.K hg
  have hts := hC.1.2.2.2.2
  have hfr := Nat.le_of_ble_eq_true hrm.1
  have hlo := Nat.le_of_ble_eq_true hrm.2
  have hRm : (rmO fr2 lo2 w w1).frames + 1 ≤ R.frames ∧ 8 + (maxL + 11) + (rmO fr2 lo2 w w1).locals ≤ R.locals := ⟨Nat.le_trans hfr hC.2.2.2.2.2.2.1, Nat.le_trans hlo hC.2.2.2.2.2.2.2.1⟩
  exact vx_runS (As := as.map LV.v) hC.1 hM (va_cwS n hts hG rfl rfl rfl hd hRm) (mkPreS hR hK) rfl (by rw [List.length_map]; exact hn) hl.1 hst.symm (F0_room (cat2_8 hc8 hk8)) d ⟨hcc, hss⟩
/-- a static method with handlers of its own that never throws -/
theorem r_callSW (pc2 : Nat) {f1 : Option (γ × St)} (sim : SimN l D H0 y (wsW_ y bytes maxL ret2 hh2) fr2 lo2 rv as w f1) (hG : GoodIn lw_all (va_wsS own idx y (wsW_ y bytes maxL ret2 hh2))) (hd : y.cls ≠ "java/lang/invoke/MethodHandle" ∧ y.cls ≠ "java/lang/invoke/VarHandle" ∧ (parseMethodDescriptor y.desc).map (fun d => d.parameters.length) = some n) (hrm : Nat.ble (fr2 + 1) fr = true ∧ Nat.ble (8 + (maxL + 11) + lo2) lo = true) (hn : as.length = n) (hst : (as.map LV.v).reverse ++ rest = st) (hc8 : cat2 k8 rest) (hk8 : Nat.ble k8 8 = true) (d : decode cc pc = .ok (.invokestatic idx, 3)) (hp : pc + 3 = pc2)
    (kk : ∀ r1 w1, V l D H0 own nm cc nL ret hh fr lo oc w0 (g r1 w1) pc2 ls ((rv r1).toList ++ rest) w1) : V l D H0 own nm cc nL ret hh fr lo oc w0 (bd f1 g) pc ls st w := by
  subst hp
  refine V.callN (fun r1 w1 e1 => (sim r1 w1 e1).1) (fun r1 w1 e1 p e R s m args below meth c H locs cells slots la hC hg hR hl hcc hss => ?_) kk
  have hM := (sim r1 w1 e1).2
  have hK := hC.K hg
  have hts := hC.1.2.2.2.2
  have hfr := Nat.le_of_ble_eq_true hrm.1
  have hlo := Nat.le_of_ble_eq_true hrm.2
  have hRm : (rmO fr2 lo2 w w1).frames + 1 ≤ R.frames ∧ 8 + (maxL + 11) + (rmO fr2 lo2 w w1).locals ≤ R.locals := ⟨Nat.le_trans hfr hC.2.2.2.2.2.2.1, Nat.le_trans hlo hC.2.2.2.2.2.2.2.1⟩
  exact vx_runSW (As := as.map LV.v) hC.1 hM (vx_cwSW n hts hG rfl rfl rfl hd hRm) (mkPreS hR hK) rfl (by rw [List.length_map]; exact hn) hl.1 hst.symm (F0_room (cat2_8 hc8 hk8)) d ⟨hcc, hss⟩
end CALLX2
/-- a name for an int -/
def nmv {α β : Type} (e : α) (k : α → β) : β := k e
/-- a new object: its address, and the state -/
def nw (ci : Nat) (fs : List Value) (n : Nat) (w : St) : Option (Nat × St) := some (w.n, w.new (oP ci fs) n)
/-- a call by the receiver's class -/
def dsp {α : Type} (x : Rf) (w : St) (F : Nat → Option α) : Option α := match cls x w with
  | none => none
  | some c => F c
noncomputable def gdC {β : Type} (P : Prop) (k : Option β) : Option β := @ite _ P (Classical.propDecidable P) k none
section NAMES
variable {l : Launch} {D : Dn} {H0 : Heap} {own nm : String} {cc : ByteArray} {nL : Nat} {ret : Option FieldType} {hh : List (Nat × Nat × Nat × Nat)} {fr lo : Nat} {ρ : Type} {oc : ρ → Nat ⊕ Option Value} {w0 w : St} {res : Option (ρ × St)} {pc : Nat} {ls : List (Nat × LV)} {st : List Value}
theorem r_nmI {e : Int32} {g : Int32 → Option (ρ × St)} (k : ∀ x, V l D H0 own nm cc nL ret hh fr lo oc w0 (g x) pc ls (.int x :: st) w) : V l D H0 own nm cc nL ret hh fr lo oc w0 (nmv e g) pc ls (.int e :: st) w := k e
theorem r_gdC {P : Prop} (k : P → V l D H0 own nm cc nL ret hh fr lo oc w0 res pc ls st w) : V l D H0 own nm cc nL ret hh fr lo oc w0 (gdC P res) pc ls st w := by
  unfold gdC
  by_cases hP : P
  · rw [if_pos hP]; exact k hP
  · rw [if_neg hP]; exact r_none
theorem r_lsP (ks : List Nat) {ls2 : List (Nat × LV)} (h : ks.filterMap (fun k => ls[k]?) = ls2) (k : V l D H0 own nm cc nL ret hh fr lo oc w0 res pc ls2 st w) : V l D H0 own nm cc nL ret hh fr lo oc w0 res pc ls st w := by
  subst h
  refine r_ls (fun q hq => ?_) k
  obtain ⟨i, -, hi⟩ := List.mem_filterMap.mp hq
  exact List.mem_of_getElem? hi
theorem r_nw (pc2 ci : Nat) {C : String} {T : u_T} {N n idx : Nat} {ty : Nat → FieldType} {fs : List Value} {g : Nat → St → Option (ρ × St)} (hc : clA[ci]? = some (C, T, N)) (hci : Nat.blt ci 27 = true) (hin : ∀ w ∈ u_ws C T N, w ∈ lw_all) (hty : ∀ k, k < N → parseFieldDescriptor (T k).2.2.1 = some (ty k)) (hq : Cond.classLink own idx C ∈ lw_all) (hq2 : Cond.instantiable C n ∈ lw_all) (hq3 : Cond.initialized C ∈ lw_all) (hlen : fs.length = N) (hfs : ∀ j, j < N → defaultValue (ty j) = vp_V fs j) (d : decode cc pc = .ok (.new idx, 3)) (hp : pc + 3 = pc2) (k : ∀ b w2, V l D H0 own nm cc nL ret hh fr lo oc w0 (g b w2) pc2 ls (rf (some b) :: st) w2) : V l D H0 own nm cc nL ret hh fr lo oc w0 (bd (nw ci fs n w) g) pc ls st w :=
  r_new pc2 ci hc hci hin hty hq hq2 hq3 hlen hfs d hp (k _ _)
theorem r_dsp {α : Type} {x : Rf} {F : Nat → Option (α × St)} {g : α → St → Option (ρ × St)} (h : ∀ c, cls x w = some c → V l D H0 own nm cc nL ret hh fr lo oc w0 (bd (F c) g) pc ls st w) : V l D H0 own nm cc nL ret hh fr lo oc w0 (bd (dsp x w F) g) pc ls st w := by
  unfold dsp
  cases hc : cls x w with
  | none => exact r_none
  | some c => exact h c hc
theorem r_dif {α : Type} {c c0 : Nat} {A B : Option (α × St)} {g : α → St → Option (ρ × St)} (h1 : c = c0 → V l D H0 own nm cc nL ret hh fr lo oc w0 (bd A g) pc ls st w) (h2 : ¬ c = c0 → V l D H0 own nm cc nL ret hh fr lo oc w0 (bd B g) pc ls st w) : V l D H0 own nm cc nL ret hh fr lo oc w0 (bd (if c = c0 then A else B) g) pc ls st w := by
  by_cases h : c = c0
  · rw [if_pos h]; exact h1 h
  · rw [if_neg h]; exact h2 h
theorem r_bdn {α : Type} {g : α → St → Option (ρ × St)} : V l D H0 own nm cc nL ret hh fr lo oc w0 (bd none g) pc ls st w := r_none
/-- no handlers here: what the callee throws goes on -/
theorem r_pass {α : Type} {q : Nat} {oc : Nat ⊕ α → Nat ⊕ Option Value} (ho : ∀ q, oc (.inl q) = .inl q) (hout : (tableOf hh).all (fun z => !covers z pc) = true) : VT l D H0 own nm cc nL ret hh fr lo oc w0 (some ((.inl q : Nat ⊕ α), w)) pc ls q w := r_out (ho q) hout
theorem r_fin {α : Type} {f : α → Option (ρ × St)} {x : α} (k : V l D H0 own nm cc nL ret hh fr lo oc w0 (f x) pc ls st w) : V l D H0 own nm cc nL ret hh fr lo oc w0 (f x) pc ls st w := k
theorem r_share {γ : Type} {f : Option (γ × St)} {g : γ → St → Option (ρ × St)} {st2 : γ → List Value} {pc2 : Nat} (h1 : (∀ r1 w1, V l D H0 own nm cc nL ret hh fr lo oc w0 (g r1 w1) pc2 ls (st2 r1) w1) → V l D H0 own nm cc nL ret hh fr lo oc w0 (bd f g) pc ls st w) (h2 : ∀ r1 w1, V l D H0 own nm cc nL ret hh fr lo oc w0 (g r1 w1) pc2 ls (st2 r1) w1) : V l D H0 own nm cc nL ret hh fr lo oc w0 (bd f g) pc ls st w := h1 h2
end NAMES
abbrev rvI (x : Int32) : Option Value := some (.int x)
abbrev rvR (x : Rf) : Option Value := some (rf x)
abbrev rvU (_ : Unit) : Option Value := none
abbrev rvD (x : UInt64) : Option Value := some (.double x)
abbrev rvF (x : UInt32) : Option Value := some (.float x)
theorem l4 {a b c d : Cond} (h1 : a ∈ lw_all) (h2 : b ∈ lw_all) (h3 : c ∈ lw_all) (h4 : d ∈ lw_all) : ∀ w ∈ [a, b, c, d], w ∈ lw_all := by
  intro w hw
  simp only [List.mem_cons, List.not_mem_nil, or_false] at hw
  rcases hw with rfl | rfl | rfl | rfl <;> assumption
theorem l5 {a b c d e : Cond} (h1 : a ∈ lw_all) (h2 : b ∈ lw_all) (h3 : c ∈ lw_all) (h4 : d ∈ lw_all) (h5 : e ∈ lw_all) : ∀ w ∈ [a, b, c, d, e], w ∈ lw_all := by
  intro w hw
  simp only [List.mem_cons, List.not_mem_nil, or_false] at hw
  rcases hw with rfl | rfl | rfl | rfl | rfl <;> assumption
theorem l6 {a b c d e f : Cond} (h1 : a ∈ lw_all) (h2 : b ∈ lw_all) (h3 : c ∈ lw_all) (h4 : d ∈ lw_all) (h5 : e ∈ lw_all) (h6 : f ∈ lw_all) : ∀ w ∈ [a, b, c, d, e, f], w ∈ lw_all := by
  intro w hw
  simp only [List.mem_cons, List.not_mem_nil, or_false] at hw
  rcases hw with rfl | rfl | rfl | rfl | rfl | rfl <;> assumption
theorem vx_ofWF {l : Launch} {y : MethodName} {ws ws' : List Cond} {rm : Room} {Pc : Array Value → State → Prop} {Qc : Array Value → State → Outcome → State → Prop} {XC : String → Addr → State → State → Prop} {mc ms : Nat} {free : Addr → Prop} {cc : ByteArray} {maxL : Nat} {ret : Option FieldType}
    (hy : plainFor y = true) (hw : ws = Cond.code y cc maxL ret :: ws')
    (body : ∀ p e s m args below meth c s₁, BodyLoose p l y (headSpec ws rm) cc maxL ret e s m args below meth c s₁ → c.maxLocals = maxL → (∀ x ∈ c.exceptionTable.toList, False) → Pc args s →
      W p l e (headSpec ws rm).room s m args below meth c s.heap [] 0 0 (vx_MQ below Qc XC args s mc ms free) (entryFrame m args maxL)) : vx_Met l y ws rm Pc Qc XC mc ms free := by
  refine MetFree.of_bodySF (code := cc) (maxLocals := maxL) (ret := ret) hy ?_ ?_
  · intro args s m h hn
    obtain ⟨meth, c, h1, h2, h3, h4, h5, h6, -, -⟩ := Cond.code_spec hn (atoms_spec (ws := ws) h _ (by rw [hw]; exact List.mem_cons_self))
    exact ⟨meth, c, h1, h2, h3, h4, h5, h6⟩
  · intro p e s m args below meth c s₁ B hml hP _
    have hh0 : s₁.heap = s.heap := by rw [B.state]; rfl
    have ht : ∀ x ∈ c.exceptionTable.toList, False := by
      obtain ⟨meth9, c9, h1, h2, -, -, -, -, h7, -⟩ := Cond.code_spec B.named (atoms_spec (ws := ws) B.pre _ (by rw [hw]; exact List.mem_cons_self))
      cases Option.some.inj (h1.symm.trans B.method)
      cases Option.some.inj (h2.symm.trans (Stand.of_body B).code)
      intro x hx
      rw [Array.isEmpty_iff.mp h7] at hx
      cases hx
    obtain ⟨t, a1, o, b1, b2, b3⟩ := body p e s m args below meth c s₁ B hml ht hP s₁ hh0 (Stand.of_body B)
    exact ⟨t, o, a1, b1, b2, b3⟩
/-- a member of a class that has entries, itself without one -/
theorem SimX.ofVF {l : Launch} {D : Dn} {H0 : Heap} {y : MethodName} {cc : ByteArray} {nL : Nat} {ret : Option FieldType} {fr lo : Nat} {ρ : Type} {av : List LV} {w : St} {res : Option (ρ × St)} {oc : ρ → Nat ⊕ Option Value} (hy : plainFor y = true) (hlen : Nat.ble (lvLen av) nL = true) (k : V l D H0 y.cls y.name cc nL ret [] fr lo oc w res 0 (lvA 0 av) [] w) : SimX l D H0 y (ws_ y cc nL ret) fr lo oc av w res := by
  intro r w1 hres
  obtain ⟨k1, k2⟩ := k r w1 hres
  refine ⟨k1, vx_ofWF (cc := cc) (maxL := nL) (ret := ret) hy rfl ?_⟩
  intro p e s m args below meth c s₁ B hml ht hP
  obtain ⟨rfl, hK, hR⟩ := hP
  have hts := atoms_spec (ws := ws_ y cc nL ret) B.pre
  have hts : ∀ w ∈ lw_all, w.before (av.map LV.v).toArray s = true := fun w h => hts w (List.mem_cons_of_mem _ h)
  have hl := lv_entry (av.map LV.v) (n := nL) (by rw [lvLen_eq]; exact Nat.le_of_ble_eq_true hlen)
  rw [← lvA_eq] at hl
  rw [lg_entry_eq]
  have h := k2 p e (rmO fr lo w w1) s m (av.map LV.v).toArray below meth c s.heap [] _ ⟨⟨B.exec, B.bytes, hml, findClass_of_methodNamed B.named, hts⟩, B.returns, B.notSynchronized, ?_, (name_of_methodNamed B.named B.method).1, hK, Nat.le_refl _, Nat.le_refl _, hR.1, hR.2.1, hR.2.2.1, hR.2.2.2.1⟩ rfl rfl rfl (Nat.le_refl _) (Nat.le_refl _) hR (fun q hq => nomatch hq) hl
  · rw [Nat.sub_self, Nat.sub_self] at h
    exact h
  · show _ = []
    exact List.eq_nil_iff_forall_not_mem.mpr (fun x hx => ht x hx)
def exNm : List String := ["java/lang/RuntimeException", "java/lang/Exception"]
theorem exNm_ok : ∀ n ∈ exNm, Bundle.fit n = true := by decide +kernel
theorem is_Wait : CA [12] "CoachTimetable$Wait" := CA_cons (c0 := 12) rfl (Or.inl rfl) CA_nil
theorem is_Turn : CA [11] "CoachTimetable$Turn" := CA_cons (c0 := 11) rfl (Or.inl rfl) CA_nil
theorem is_ture : CA [9] "CoachTimetable$Departure" := CA_cons (c0 := 9) rfl (Or.inl rfl) CA_nil
theorem NCs_nil {n : String} : NCs [] n := fun _ h => nomatch h
theorem NCs_cons {n : String} {c0 : Nat} {cs : List Nat} {r0 : vw_C} (i : Nat) (h0 : clA[c0]? = some r0) (h : ncL[i]? = some (r0.1, n)) (hs : NCs cs n) : NCs (c0 :: cs) n := by
  intro ci hci r hr
  rcases List.mem_cons.mp hci with rfl | hci
  · cases h0.symm.trans hr
    exact List.mem_of_getElem? h
  · exact hs ci hci r hr
theorem ns_Wait : NCs [8, 10, 11] "CoachTimetable$Wait" := NCs_cons (c0 := 8) 0 rfl rfl (NCs_cons (c0 := 10) 1 rfl rfl (NCs_cons (c0 := 11) 2 rfl rfl NCs_nil))
theorem ns_Turn : NCs [8, 10] "CoachTimetable$Turn" := NCs_cons (c0 := 8) 3 rfl rfl (NCs_cons (c0 := 10) 4 rfl rfl NCs_nil)
theorem ns_ture : NCs [7] "CoachTimetable$Departure" := NCs_cons (c0 := 7) 5 rfl rfl NCs_nil
