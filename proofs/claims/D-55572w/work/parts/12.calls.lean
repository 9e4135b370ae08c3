section CALL
variable {l : Launch} {D : Dn} {H0 : Heap} {own nm : String} {cc : ByteArray} {nL : Nat} {ret : Option FieldType} {hh : List (Nat × Nat × Nat × Nat)} {fr lo : Nat} {ρ : Type} {oc : ρ → Nat ⊕ Option Value} {w0 w : St} {res : Option (ρ × St)} {pc : Nat} {ls : List (Nat × LV)} {st : List Value}
variable {γ : Type} {rv : γ → Option Value} {f : Option (γ × St)} {g : γ → St → Option (ρ × St)} {rest : List Value}

theorem V.callN (hmono : ∀ r1 w1, f = some (r1, w1) → w1.g = w.g ∧ w.n ≤ w1.n ∧ w.sl ≤ w1.sl) (run : ∀ r1 w1, f = some (r1, w1) → ∀ (p : Program) (e : Env) (R : Room) (s : State) (m : MethodId) (args : Array Value) (below : List Frame) (meth : Method) (c : Code) (H : Heap) (locs : List Loc) (cells slots : Nat) (la : Array Slot), Cx D H0 own nm cc nL ret hh fr lo w0 p R s m args meth c → w.g = w0.g → Rel D H0 w H → lv_has la nL (lvs ls) → cells + (w1.n - w.n) ≤ R.cells → slots + (w1.sl - w.sl) ≤ R.slots → va_Run p l e R s m args below meth c H locs cells slots (w1.n - w.n) (w1.sl - w.sl) (F0 m pc la st) rest (QcO D H0 (fun x => .inr (rv x)) r1 w1 #[]) (fun q => w.g 0 ≤ q))
    (kk : ∀ r1 w1, V l D H0 own nm cc nL ret hh fr lo oc w0 (g r1 w1) (pc + 3) ls ((rv r1).toList ++ rest) w1) : V l D H0 own nm cc nL ret hh fr lo oc w0 (bd f g) pc ls st w := by
  intro r w2 hres
  cases e : f with
  | none => rw [e] at hres; cases hres
  | some q =>
    obtain ⟨r1, w1⟩ := q
    rw [e] at hres
    obtain ⟨⟨k1, k3, k4⟩, k2⟩ := kk r1 w1 r w2 hres
    obtain ⟨m1, m2, m3⟩ := hmono r1 w1 e
    refine ⟨⟨k1.trans m1, Nat.le_trans m2 k3, Nat.le_trans m3 k4⟩, fun p e9 R s m args below meth c H locs la hC h1 h2 h3 h4 h5 h6 h7 h8 => ?_⟩
    intro T hT X
    obtain ⟨v, st₀, t, T', L, g0, X', hL, e1, e2, ⟨⟨v', hv', ho⟩, hR⟩, sts⟩ := run r1 w1 e p e9 R s m args below meth c H locs _ _ la hC h3 h6 h8 (by rw [h1]; omega) (by rw [h2]; omega) T hT X
    cases ho
    cases hv'
    have hk := k2 p e9 R s m args below meth c T'.heap (locs ++ L) la hC h1 h2 (m1.trans h3) (by omega) (by omega) (by rw [e1]; exact hR) (fun q hq => by
      rcases List.mem_append.mp hq with h | h
      · exact h7 q h
      · have := hL q h; rw [← h3]; exact this) h8
    rw [show w.n - w0.n + (w1.n - w.n) = w1.n - w0.n by omega, show w.sl - w0.sl + (w1.sl - w.sl) = w1.sl - w0.sl by omega] at X'
    obtain ⟨t2, a1, b1⟩ := hk T' rfl X'
    exact ⟨t2, sts t2 a1, b1⟩
theorem V.callN5 (hmono : ∀ r1 w1, f = some (r1, w1) → w1.g = w.g ∧ w.n ≤ w1.n ∧ w.sl ≤ w1.sl) (run : ∀ r1 w1, f = some (r1, w1) → ∀ (p : Program) (e : Env) (R : Room) (s : State) (m : MethodId) (args : Array Value) (below : List Frame) (meth : Method) (c : Code) (H : Heap) (locs : List Loc) (cells slots : Nat) (la : Array Slot), Cx D H0 own nm cc nL ret hh fr lo w0 p R s m args meth c → w.g = w0.g → Rel D H0 w H → lv_has la nL (lvs ls) → cells + (w1.n - w.n) ≤ R.cells → slots + (w1.sl - w.sl) ≤ R.slots → va_Run5 p l e R s m args below meth c H locs cells slots (w1.n - w.n) (w1.sl - w.sl) (F0 m pc la st) rest (QcO D H0 (fun x => .inr (rv x)) r1 w1 #[]) (fun q => w.g 0 ≤ q))
    (kk : ∀ r1 w1, V l D H0 own nm cc nL ret hh fr lo oc w0 (g r1 w1) (pc + 5) ls ((rv r1).toList ++ rest) w1) : V l D H0 own nm cc nL ret hh fr lo oc w0 (bd f g) pc ls st w := by
  intro r w2 hres
  cases e : f with
  | none => rw [e] at hres; cases hres
  | some q =>
    obtain ⟨r1, w1⟩ := q
    rw [e] at hres
    obtain ⟨⟨k1, k3, k4⟩, k2⟩ := kk r1 w1 r w2 hres
    obtain ⟨m1, m2, m3⟩ := hmono r1 w1 e
    refine ⟨⟨k1.trans m1, Nat.le_trans m2 k3, Nat.le_trans m3 k4⟩, fun p e9 R s m args below meth c H locs la hC h1 h2 h3 h4 h5 h6 h7 h8 => ?_⟩
    intro T hT X
    obtain ⟨v, st₀, t, T', L, g0, X', hL, e1, e2, ⟨⟨v', hv', ho⟩, hR⟩, sts⟩ := run r1 w1 e p e9 R s m args below meth c H locs _ _ la hC h3 h6 h8 (by rw [h1]; omega) (by rw [h2]; omega) T hT X
    cases ho
    cases hv'
    have hk := k2 p e9 R s m args below meth c T'.heap (locs ++ L) la hC h1 h2 (m1.trans h3) (by omega) (by omega) (by rw [e1]; exact hR) (fun q hq => by
      rcases List.mem_append.mp hq with h | h
      · exact h7 q h
      · have := hL q h; rw [← h3]; exact this) h8
    rw [show w.n - w0.n + (w1.n - w.n) = w1.n - w0.n by omega, show w.sl - w0.sl + (w1.sl - w.sl) = w1.sl - w0.sl by omega] at X'
    obtain ⟨t2, a1, b1⟩ := hk T' rfl X'
    exact ⟨t2, sts t2 a1, b1⟩
theorem mkPreV {s : State} {H : Heap} {b ci : Nat} {r : vw_C} {As : List Value} (hR : Rel D H0 w H) (hK : K0 D H0 w.g s) (hcl : cls (some b) w = some ci) (hr : clA[ci]? = some r) : PreV s H r.1 b (PcO D H0 (.ref b :: As) w) As := by
  refine ⟨PcO.blind, ?_, fun U hU hW => ⟨rfl, hK.warm hW, by rw [hU]; exact hR⟩⟩
  obtain ⟨a, r', cell, h1, h2, h3, h4, h5⟩ := hR.cls hcl
  cases h1
  exact ⟨cell, h3, h4, by rw [h5]; exact (hK.1.1 ci r hr).2.1⟩
theorem mkPreS {s : State} {H : Heap} {As : List Value} (hR : Rel D H0 w H) (hK : K0 D H0 w.g s) : PreS s H (PcO D H0 As w) As := ⟨PcO.blind, fun U hU hW => ⟨rfl, hK.warm hW, by rw [hU]; exact hR⟩⟩
theorem cls_some {x : Rf} {ci : Nat} (h : cls x w = some ci) : ∃ b, x = some b := by
  cases x with
  | none => cases h
  | some b => exact ⟨b, rfl⟩
theorem F0_room {m : MethodId} {la : Array Slot} (h : (rest.map fun v => v.category).sum ≤ 8) : 2 * (F0 m pc la st).monitorRoom + (rest.map fun v => v.category).sum ≤ 8 := lv_room h
/-- the stack below a call: at most eight words, by a count that is computed -/
def cat2 (k : Nat) (st : List Value) : Prop := (st.map fun v => v.category).sum ≤ k
theorem cat2_nil {k : Nat} : cat2 k [] := Nat.zero_le _
theorem cat2_i {k : Nat} {x : Int32} {st : List Value} (h : cat2 k st) : cat2 (k + 1) (.int x :: st) := by
  have h2 : (Value.int x).category = 1 := rfl
  unfold cat2 at *; simp only [List.map_cons, List.sum_cons, h2]; omega
theorem cat2_r {k : Nat} {x : Rf} {st : List Value} (h : cat2 k st) : cat2 (k + 1) (rf x :: st) := by
  unfold cat2 at *; simp only [List.map_cons, List.sum_cons, rf_cat]; omega
theorem cat2_j {k : Nat} {x : Int64} {st : List Value} (h : cat2 k st) : cat2 (k + 2) (.long x :: st) := by
  have h2 : (Value.long x).category = 2 := rfl
  unfold cat2 at *; simp only [List.map_cons, List.sum_cons, h2]; omega
theorem cat2_d {k : Nat} {x : UInt64} {st : List Value} (h : cat2 k st) : cat2 (k + 2) (.double x :: st) := by
  have h2 : (Value.double x).category = 2 := rfl
  unfold cat2 at *; simp only [List.map_cons, List.sum_cons, h2]; omega
theorem cat2_f {k : Nat} {x : UInt32} {st : List Value} (h : cat2 k st) : cat2 (k + 1) (.float x :: st) := by
  have h2 : (Value.float x).category = 1 := rfl
  unfold cat2 at *; simp only [List.map_cons, List.sum_cons, h2]; omega
theorem cat2_8 {k : Nat} {st : List Value} (h : cat2 k st) (hk : Nat.ble k 8 = true) : (st.map fun v => v.category).sum ≤ 8 := Nat.le_trans h (Nat.le_of_ble_eq_true hk)
variable {y : MethodName} {bytes : ByteArray} {maxL fr2 lo2 n idx k8 : Nat} {ret2 : Option FieldType} {as : List LV}
theorem r_callV (pc2 ci : Nat) {x : Rf} {r : vw_C}  (sim : SimN l D H0 y (ws_ y bytes maxL ret2) fr2 lo2 rv (lR x :: as) w f) (hcl : cls x w = some ci) (hr : clA[ci]? = some r) (hG : GoodIn lw_all (wsV own idx r.1 y (ws_ y bytes maxL ret2))) (hd : y.cls = r.1 ∧ y.cls ≠ "java/lang/invoke/MethodHandle" ∧ y.cls ≠ "java/lang/invoke/VarHandle" ∧ (parseMethodDescriptor y.desc).map (fun d => d.parameters.length) = some n) (hrm : Nat.ble (fr2 + 1) fr = true ∧ Nat.ble (8 + (maxL + 11) + lo2) lo = true) (hn : as.length = n) (hst : (as.map LV.v).reverse ++ rf x :: rest = st) (hc8 : cat2 k8 rest) (hk8 : Nat.ble k8 8 = true) (d : decode cc pc = .ok (.invokevirtual idx, 3)) (hp : pc + 3 = pc2)
    (kk : ∀ r1 w1, V l D H0 own nm cc nL ret hh fr lo oc w0 (g r1 w1) pc2 ls ((rv r1).toList ++ rest) w1) : V l D H0 own nm cc nL ret hh fr lo oc w0 (bd f g) pc ls st w := by
  subst hp
  obtain ⟨b, rfl⟩ := cls_some hcl
  refine V.callN (fun r1 w1 e1 => (sim r1 w1 e1).1) (fun r1 w1 e1 p e R s m args below meth c H locs cells slots la hC hg hR hl hcc hss => ?_) kk
  have hM := (sim r1 w1 e1).2
  have hK := hC.K hg
  have hts := hC.1.2.2.2.2
  have hfr := Nat.le_of_ble_eq_true hrm.1
  have hlo := Nat.le_of_ble_eq_true hrm.2
  have hRm : (rmO fr2 lo2 w w1).frames + 1 ≤ R.frames ∧ 8 + (maxL + 11) + (rmO fr2 lo2 w w1).locals ≤ R.locals := ⟨Nat.le_trans hfr hC.2.2.2.2.2.2.1, Nat.le_trans hlo hC.2.2.2.2.2.2.2.1⟩
  exact va_runV (As := as.map LV.v) hC.1 hM (cwV n hts hG rfl rfl rfl hd hRm) (mkPreV hR hK hcl hr) rfl (by rw [List.length_map]; exact hn) hl.1 hst.symm (F0_room (cat2_8 hc8 hk8)) d ⟨hcc, hss⟩
theorem r_callU (pc2 ci : Nat) {x : Rf} {r : vw_C} {x2 : MethodName} {owner : String} (sim : SimN l D H0 y (ws_ y bytes maxL ret2) fr2 lo2 rv (lR x :: as) w f) (hcl : cls x w = some ci) (hr : clA[ci]? = some r) (hG : GoodIn lw_all (va_wsU own idx r.1 owner x2 y (ws_ y bytes maxL ret2))) (hyx : y = ⟨owner, x2.name, x2.desc⟩) (hd : owner ≠ "java/lang/invoke/MethodHandle" ∧ owner ≠ "java/lang/invoke/VarHandle" ∧ (parseMethodDescriptor x2.desc).map (fun d => d.parameters.length) = some n) (hrm : Nat.ble (fr2 + 1) fr = true ∧ Nat.ble (8 + (maxL + 11) + lo2) lo = true) (hn : as.length = n) (hst : (as.map LV.v).reverse ++ rf x :: rest = st) (hc8 : cat2 k8 rest) (hk8 : Nat.ble k8 8 = true) (d : decode cc pc = .ok (.invokevirtual idx, 3)) (hp : pc + 3 = pc2)
    (kk : ∀ r1 w1, V l D H0 own nm cc nL ret hh fr lo oc w0 (g r1 w1) pc2 ls ((rv r1).toList ++ rest) w1) : V l D H0 own nm cc nL ret hh fr lo oc w0 (bd f g) pc ls st w := by
  subst hp
  obtain ⟨b, rfl⟩ := cls_some hcl
  refine V.callN (fun r1 w1 e1 => (sim r1 w1 e1).1) (fun r1 w1 e1 p e R s m args below meth c H locs cells slots la hC hg hR hl hcc hss => ?_) kk
  have hM := (sim r1 w1 e1).2
  have hK := hC.K hg
  have hts := hC.1.2.2.2.2
  have hfr := Nat.le_of_ble_eq_true hrm.1
  have hlo := Nat.le_of_ble_eq_true hrm.2
  have hRm : (rmO fr2 lo2 w w1).frames + 1 ≤ R.frames ∧ 8 + (maxL + 11) + (rmO fr2 lo2 w w1).locals ≤ R.locals := ⟨Nat.le_trans hfr hC.2.2.2.2.2.2.1, Nat.le_trans hlo hC.2.2.2.2.2.2.2.1⟩
  exact va_runU (As := as.map LV.v) hC.1 hM (va_cwU n hts hG rfl rfl rfl hyx hd hRm) (mkPreV hR hK hcl hr) rfl (by rw [List.length_map]; exact hn) hl.1 hst.symm (F0_room (cat2_8 hc8 hk8)) d ⟨hcc, hss⟩
theorem r_callA (pc2 ci : Nat) {x : Rf} {r : vw_C} {x2 : MethodName} {owner : String} (sim : SimN l D H0 y (ws_ y bytes maxL ret2) fr2 lo2 rv (lR x :: as) w f) (hcl : cls x w = some ci) (hr : clA[ci]? = some r) (hG : GoodIn lw_all (va_wsU own idx r.1 owner x2 y (ws_ y bytes maxL ret2))) (hz : Cond.declares ⟨owner, x2.name, x2.desc⟩ ∈ lw_tbl) (hd : owner ≠ "java/lang/invoke/MethodHandle" ∧ owner ≠ "java/lang/invoke/VarHandle" ∧ (parseMethodDescriptor x2.desc).map (fun d => d.parameters.length) = some n) (hrm : Nat.ble (fr2 + 1) fr = true ∧ Nat.ble (8 + (maxL + 11) + lo2) lo = true) (hn : as.length = n) (hst : (as.map LV.v).reverse ++ rf x :: rest = st) (hc8 : cat2 k8 rest) (hk8 : Nat.ble k8 8 = true) (d : decode cc pc = .ok (.invokevirtual idx, 3)) (hp : pc + 3 = pc2)
    (kk : ∀ r1 w1, V l D H0 own nm cc nL ret hh fr lo oc w0 (g r1 w1) pc2 ls ((rv r1).toList ++ rest) w1) : V l D H0 own nm cc nL ret hh fr lo oc w0 (bd f g) pc ls st w := by
  subst hp
  obtain ⟨b, rfl⟩ := cls_some hcl
  refine V.callN (fun r1 w1 e1 => (sim r1 w1 e1).1) (fun r1 w1 e1 p e R s m args below meth c H locs cells slots la hC hg hR hl hcc hss => ?_) kk
  have hM := (sim r1 w1 e1).2
  have hK := hC.K hg
  have hts := hC.1.2.2.2.2
  have hfr := Nat.le_of_ble_eq_true hrm.1
  have hlo := Nat.le_of_ble_eq_true hrm.2
  have hRm : (rmO fr2 lo2 w w1).frames + 1 ≤ R.frames ∧ 8 + (maxL + 11) + (rmO fr2 lo2 w w1).locals ≤ R.locals := ⟨Nat.le_trans hfr hC.2.2.2.2.2.2.1, Nat.le_trans hlo hC.2.2.2.2.2.2.2.1⟩
  exact va_runU (As := as.map LV.v) hC.1 hM (va_cwA n hts hG rfl rfl rfl (hK.2.1.1 _ hz rfl) hd hRm) (mkPreV hR hK hcl hr) rfl (by rw [List.length_map]; exact hn) hl.1 hst.symm (F0_room (cat2_8 hc8 hk8)) d ⟨hcc, hss⟩
theorem r_callO (pc2 ci : Nat) {x : Rf} {r : vw_C} {x2 : MethodName} {owner : String} {b9 : ByteArray} {m9 : Nat} {r9 : Option FieldType} (sim : SimN l D H0 y (ws_ y bytes maxL ret2) fr2 lo2 rv (lR x :: as) w f) (hcl : cls x w = some ci) (hr : clA[ci]? = some r) (hG : GoodIn lw_all (va_wsO own idx r.1 owner x2 y (ws_ y bytes maxL ret2))) (h9 : Cond.code ⟨owner, x2.name, x2.desc⟩ b9 m9 r9 ∈ lw_all) (hd : owner ≠ "java/lang/invoke/MethodHandle" ∧ owner ≠ "java/lang/invoke/VarHandle" ∧ (parseMethodDescriptor x2.desc).map (fun d => d.parameters.length) = some n) (hrm : Nat.ble (fr2 + 1) fr = true ∧ Nat.ble (8 + (maxL + 11) + lo2) lo = true) (hn : as.length = n) (hst : (as.map LV.v).reverse ++ rf x :: rest = st) (hc8 : cat2 k8 rest) (hk8 : Nat.ble k8 8 = true) (d : decode cc pc = .ok (.invokevirtual idx, 3)) (hp : pc + 3 = pc2)
    (kk : ∀ r1 w1, V l D H0 own nm cc nL ret hh fr lo oc w0 (g r1 w1) pc2 ls ((rv r1).toList ++ rest) w1) : V l D H0 own nm cc nL ret hh fr lo oc w0 (bd f g) pc ls st w := by
  subst hp
  obtain ⟨b, rfl⟩ := cls_some hcl
  refine V.callN (fun r1 w1 e1 => (sim r1 w1 e1).1) (fun r1 w1 e1 p e R s m args below meth c H locs cells slots la hC hg hR hl hcc hss => ?_) kk
  have hM := (sim r1 w1 e1).2
  have hK := hC.K hg
  have hts := hC.1.2.2.2.2
  have hfr := Nat.le_of_ble_eq_true hrm.1
  have hlo := Nat.le_of_ble_eq_true hrm.2
  have hRm : (rmO fr2 lo2 w w1).frames + 1 ≤ R.frames ∧ 8 + (maxL + 11) + (rmO fr2 lo2 w w1).locals ≤ R.locals := ⟨Nat.le_trans hfr hC.2.2.2.2.2.2.1, Nat.le_trans hlo hC.2.2.2.2.2.2.2.1⟩
  exact va_runU (As := as.map LV.v) hC.1 hM (va_cwO n hts hG rfl rfl rfl h9 hd hRm) (mkPreV hR hK hcl hr) rfl (by rw [List.length_map]; exact hn) hl.1 hst.symm (F0_room (cat2_8 hc8 hk8)) d ⟨hcc, hss⟩
theorem r_callNV (pc2 ci : Nat) {x : Rf} {r : vw_C} {host : String} (sim : SimN l D H0 y (ws_ y bytes maxL ret2) fr2 lo2 rv (lR x :: as) w f) (hcl : cls x w = some ci) (hr : clA[ci]? = some r) (hG : GoodIn lw_all (ws_ y bytes maxL ret2)) (hl9 : Cond.methodLinkNest own idx y host ∈ lw_tbl) (hi9 : Cond.initialized y.cls ∈ lw_all) (hin9 : Cond.instanceMethod y ∈ lw_all) (hse9 : Cond.selects r.1 y y ∈ lw_all) (hd : y.cls ≠ "java/lang/invoke/MethodHandle" ∧ y.cls ≠ "java/lang/invoke/VarHandle" ∧ (parseMethodDescriptor y.desc).map (fun d => d.parameters.length) = some n) (hrm : Nat.ble (fr2 + 1) fr = true ∧ Nat.ble (8 + (maxL + 11) + lo2) lo = true) (hn : as.length = n) (hst : (as.map LV.v).reverse ++ rf x :: rest = st) (hc8 : cat2 k8 rest) (hk8 : Nat.ble k8 8 = true) (d : decode cc pc = .ok (.invokevirtual idx, 3)) (hp : pc + 3 = pc2)
    (kk : ∀ r1 w1, V l D H0 own nm cc nL ret hh fr lo oc w0 (g r1 w1) pc2 ls ((rv r1).toList ++ rest) w1) : V l D H0 own nm cc nL ret hh fr lo oc w0 (bd f g) pc ls st w := by
  subst hp
  obtain ⟨b, rfl⟩ := cls_some hcl
  refine V.callN (fun r1 w1 e1 => (sim r1 w1 e1).1) (fun r1 w1 e1 p e R s m args below meth c H locs cells slots la hC hg hR hl hcc hss => ?_) kk
  have hM := (sim r1 w1 e1).2
  have hK := hC.K hg
  have hts := hC.1.2.2.2.2
  have hfr := Nat.le_of_ble_eq_true hrm.1
  have hlo := Nat.le_of_ble_eq_true hrm.2
  have hRm : (rmO fr2 lo2 w w1).frames + 1 ≤ R.frames ∧ 8 + (maxL + 11) + (rmO fr2 lo2 w w1).locals ≤ R.locals := ⟨Nat.le_trans hfr hC.2.2.2.2.2.2.1, Nat.le_trans hlo hC.2.2.2.2.2.2.2.1⟩
  exact va_runVN (As := as.map LV.v) hC.1 hM (⟨va_cnB n hts hG rfl rfl rfl (hK.2.1.1 _ hl9 rfl) (hts _ hi9) hd hRm, hts _ hin9, hts _ hse9⟩) (mkPreV hR hK hcl hr) rfl (by rw [List.length_map]; exact hn) hl.1 hst.symm (F0_room (cat2_8 hc8 hk8)) d ⟨hcc, hss⟩
theorem r_callF (pc2 ci : Nat) {x : Rf} {r : vw_C} {x2 : MethodName} {count : Nat} (sim : SimN l D H0 y (ws_ y bytes maxL ret2) fr2 lo2 rv (lR x :: as) w f) (hcl : cls x w = some ci) (hr : clA[ci]? = some r) (hG : GoodIn lw_all (va_wsF own idx r.1 x2 y (ws_ y bytes maxL ret2))) (hF : (r.1, x2, y) ∈ fwL) (hd : x2.cls ≠ "java/lang/invoke/MethodHandle" ∧ x2.cls ≠ "java/lang/invoke/VarHandle" ∧ (parseMethodDescriptor x2.desc).map (fun d => d.parameters.length) = some n) (hrm : Nat.ble (fr2 + 1) fr = true ∧ Nat.ble (8 + (maxL + 11) + lo2) lo = true) (hn : as.length = n) (hst : (as.map LV.v).reverse ++ rf x :: rest = st) (hc8 : cat2 k8 rest) (hk8 : Nat.ble k8 8 = true) (d : decode cc pc = .ok (.invokeinterface idx count, 5)) (hp : pc + 5 = pc2)
    (kk : ∀ r1 w1, V l D H0 own nm cc nL ret hh fr lo oc w0 (g r1 w1) pc2 ls ((rv r1).toList ++ rest) w1) : V l D H0 own nm cc nL ret hh fr lo oc w0 (bd f g) pc ls st w := by
  subst hp
  obtain ⟨b, rfl⟩ := cls_some hcl
  refine V.callN5 (fun r1 w1 e1 => (sim r1 w1 e1).1) (fun r1 w1 e1 p e R s m args below meth c H locs cells slots la hC hg hR hl hcc hss => ?_) kk
  have hM := (sim r1 w1 e1).2
  have hK := hC.K hg
  have hts := hC.1.2.2.2.2
  have hfr := Nat.le_of_ble_eq_true hrm.1
  have hlo := Nat.le_of_ble_eq_true hrm.2
  have hRm : (rmO fr2 lo2 w w1).frames + 1 ≤ R.frames ∧ 8 + (maxL + 11) + (rmO fr2 lo2 w w1).locals ≤ R.locals := ⟨Nat.le_trans hfr hC.2.2.2.2.2.2.1, Nat.le_trans hlo hC.2.2.2.2.2.2.2.1⟩
  exact va_runF (As := as.map LV.v) (hK.1.1 ci r hr).2 hC.1 hM (va_cwF n hts hG rfl rfl rfl (hK.2.1.2.1 _ hF) hd hRm) (mkPreV hR hK hcl hr) rfl (by rw [List.length_map]; exact hn) hl.1 hst.symm (F0_room (cat2_8 hc8 hk8)) d ⟨hcc, hss⟩
theorem r_callSU (pc2 ci : Nat) {x : Rf} {r : vw_C}  (sim : SimN l D H0 y (ws_ y bytes maxL ret2) fr2 lo2 rv (lR x :: as) w f) (hcl : cls x w = some ci) (hr : clA[ci]? = some r) (hG : GoodIn lw_all (va_wsSU own idx y (ws_ y bytes maxL ret2))) (hd : y.name ≠ "<init>" ∧ (parseMethodDescriptor y.desc).map (fun d => d.parameters.length) = some n) (hrm : Nat.ble (fr2 + 1) fr = true ∧ Nat.ble (8 + (maxL + 11) + lo2) lo = true) (hn : as.length = n) (hst : (as.map LV.v).reverse ++ rf x :: rest = st) (hc8 : cat2 k8 rest) (hk8 : Nat.ble k8 8 = true) (d : decode cc pc = .ok (.invokespecial idx, 3)) (hp : pc + 3 = pc2)
    (kk : ∀ r1 w1, V l D H0 own nm cc nL ret hh fr lo oc w0 (g r1 w1) pc2 ls ((rv r1).toList ++ rest) w1) : V l D H0 own nm cc nL ret hh fr lo oc w0 (bd f g) pc ls st w := by
  subst hp
  obtain ⟨b, rfl⟩ := cls_some hcl
  refine V.callN (fun r1 w1 e1 => (sim r1 w1 e1).1) (fun r1 w1 e1 p e R s m args below meth c H locs cells slots la hC hg hR hl hcc hss => ?_) kk
  have hM := (sim r1 w1 e1).2
  have hK := hC.K hg
  have hts := hC.1.2.2.2.2
  have hfr := Nat.le_of_ble_eq_true hrm.1
  have hlo := Nat.le_of_ble_eq_true hrm.2
  have hRm : (rmO fr2 lo2 w w1).frames + 1 ≤ R.frames ∧ 8 + (maxL + 11) + (rmO fr2 lo2 w w1).locals ≤ R.locals := ⟨Nat.le_trans hfr hC.2.2.2.2.2.2.1, Nat.le_trans hlo hC.2.2.2.2.2.2.2.1⟩
  exact va_runSU (As := as.map LV.v) (hK.1.1 ci r hr).2 hC.1 hM (va_cwSU n hts hG rfl rfl rfl hd hRm) (mkPreV hR hK hcl hr) rfl (by rw [List.length_map]; exact hn) hl.1 hst.symm (F0_room (cat2_8 hc8 hk8)) d ⟨hcc, hss⟩
theorem r_callS (pc2 : Nat)   (sim : SimN l D H0 y (ws_ y bytes maxL ret2) fr2 lo2 rv (as) w f) (hG : GoodIn lw_all (va_wsS own idx y (ws_ y bytes maxL ret2))) (hd : y.cls ≠ "java/lang/invoke/MethodHandle" ∧ y.cls ≠ "java/lang/invoke/VarHandle" ∧ (parseMethodDescriptor y.desc).map (fun d => d.parameters.length) = some n) (hrm : Nat.ble (fr2 + 1) fr = true ∧ Nat.ble (8 + (maxL + 11) + lo2) lo = true) (hn : as.length = n) (hst : (as.map LV.v).reverse ++ rest = st) (hc8 : cat2 k8 rest) (hk8 : Nat.ble k8 8 = true) (d : decode cc pc = .ok (.invokestatic idx, 3)) (hp : pc + 3 = pc2)
    (kk : ∀ r1 w1, V l D H0 own nm cc nL ret hh fr lo oc w0 (g r1 w1) pc2 ls ((rv r1).toList ++ rest) w1) : V l D H0 own nm cc nL ret hh fr lo oc w0 (bd f g) pc ls st w := by
  subst hp
  refine V.callN (fun r1 w1 e1 => (sim r1 w1 e1).1) (fun r1 w1 e1 p e R s m args below meth c H locs cells slots la hC hg hR hl hcc hss => ?_) kk
  have hM := (sim r1 w1 e1).2
  have hK := hC.K hg
  have hts := hC.1.2.2.2.2
  have hfr := Nat.le_of_ble_eq_true hrm.1
  have hlo := Nat.le_of_ble_eq_true hrm.2
  have hRm : (rmO fr2 lo2 w w1).frames + 1 ≤ R.frames ∧ 8 + (maxL + 11) + (rmO fr2 lo2 w w1).locals ≤ R.locals := ⟨Nat.le_trans hfr hC.2.2.2.2.2.2.1, Nat.le_trans hlo hC.2.2.2.2.2.2.2.1⟩
  exact va_runS (As := as.map LV.v) hC.1 hM (va_cwS n hts hG rfl rfl rfl hd hRm) (mkPreS hR hK) rfl (by rw [List.length_map]; exact hn) hl.1 hst.symm (F0_room (cat2_8 hc8 hk8)) d ⟨hcc, hss⟩
theorem r_callNS (pc2 : Nat)  {host : String} (sim : SimN l D H0 y (ws_ y bytes maxL ret2) fr2 lo2 rv (as) w f) (hG : GoodIn lw_all (ws_ y bytes maxL ret2)) (hl9 : Cond.methodLinkNest own idx y host ∈ lw_tbl) (hi9 : Cond.initialized y.cls ∈ lw_all) (hin9 : Cond.static y ∈ lw_all) (hd : y.cls ≠ "java/lang/invoke/MethodHandle" ∧ y.cls ≠ "java/lang/invoke/VarHandle" ∧ (parseMethodDescriptor y.desc).map (fun d => d.parameters.length) = some n) (hrm : Nat.ble (fr2 + 1) fr = true ∧ Nat.ble (8 + (maxL + 11) + lo2) lo = true) (hn : as.length = n) (hst : (as.map LV.v).reverse ++ rest = st) (hc8 : cat2 k8 rest) (hk8 : Nat.ble k8 8 = true) (d : decode cc pc = .ok (.invokestatic idx, 3)) (hp : pc + 3 = pc2)
    (kk : ∀ r1 w1, V l D H0 own nm cc nL ret hh fr lo oc w0 (g r1 w1) pc2 ls ((rv r1).toList ++ rest) w1) : V l D H0 own nm cc nL ret hh fr lo oc w0 (bd f g) pc ls st w := by
  subst hp
  refine V.callN (fun r1 w1 e1 => (sim r1 w1 e1).1) (fun r1 w1 e1 p e R s m args below meth c H locs cells slots la hC hg hR hl hcc hss => ?_) kk
  have hM := (sim r1 w1 e1).2
  have hK := hC.K hg
  have hts := hC.1.2.2.2.2
  have hfr := Nat.le_of_ble_eq_true hrm.1
  have hlo := Nat.le_of_ble_eq_true hrm.2
  have hRm : (rmO fr2 lo2 w w1).frames + 1 ≤ R.frames ∧ 8 + (maxL + 11) + (rmO fr2 lo2 w w1).locals ≤ R.locals := ⟨Nat.le_trans hfr hC.2.2.2.2.2.2.1, Nat.le_trans hlo hC.2.2.2.2.2.2.2.1⟩
  exact va_runSN (As := as.map LV.v) hC.1 hM (⟨va_cnB n hts hG rfl rfl rfl (hK.2.1.1 _ hl9 rfl) (hts _ hi9) hd hRm, hts _ hin9, trivial⟩) (mkPreS hR hK) rfl (by rw [List.length_map]; exact hn) hl.1 hst.symm (F0_room (cat2_8 hc8 hk8)) d ⟨hcc, hss⟩
theorem r_callI (pc2 : Nat) {b : Nat}  (sim : SimN l D H0 y (ws_ y bytes maxL none) fr2 lo2 rv (lR (some b) :: as) w f) (hG : GoodIn lw_all (ws_ y bytes maxL none)) (hi9 : Cond.initialized y.cls ∈ lw_all) (hl9 : Cond.methodLink own idx y ∈ lw_all) (hin9 : Cond.instanceMethod y ∈ lw_all) (hy1 : y.name = "<init>") (hd : y.cls ≠ "java/lang/invoke/MethodHandle" ∧ y.cls ≠ "java/lang/invoke/VarHandle" ∧ (parseMethodDescriptor y.desc).map (fun d => d.parameters.length) = some n) (hrm : Nat.ble (fr2 + 1) fr = true ∧ Nat.ble (8 + (maxL + 11) + lo2) lo = true) (hn : as.length = n) (hst : (as.map LV.v).reverse ++ rf (some b) :: rest = st) (hc8 : cat2 k8 rest) (hk8 : Nat.ble k8 8 = true) (d : decode cc pc = .ok (.invokespecial idx, 3)) (hp : pc + 3 = pc2)
    (kk : ∀ r1 w1, V l D H0 own nm cc nL ret hh fr lo oc w0 (g r1 w1) pc2 ls ((rv r1).toList ++ rest) w1) : V l D H0 own nm cc nL ret hh fr lo oc w0 (bd f g) pc ls st w := by
  subst hp
  refine V.callN (fun r1 w1 e1 => (sim r1 w1 e1).1) (fun r1 w1 e1 p e R s m args below meth c H locs cells slots la hC hg hR hl hcc hss => ?_) kk
  have hM := (sim r1 w1 e1).2
  have hK := hC.K hg
  have hts := hC.1.2.2.2.2
  have hfr := Nat.le_of_ble_eq_true hrm.1
  have hlo := Nat.le_of_ble_eq_true hrm.2
  have hRm : (rmO fr2 lo2 w w1).frames + 1 ≤ R.frames ∧ 8 + (maxL + 11) + (rmO fr2 lo2 w w1).locals ≤ R.locals := ⟨Nat.le_trans hfr hC.2.2.2.2.2.2.1, Nat.le_trans hlo hC.2.2.2.2.2.2.2.1⟩
  exact va_runI (As := as.map LV.v) hC.1 hM (cwI n hts hG rfl rfl rfl (hts _ hi9) (hts _ hl9) (hts _ hin9) hy1 hd hRm) (mkPreS hR hK) rfl (by rw [List.length_map]; exact hn) hl.1 hst.symm (F0_room (cat2_8 hc8 hk8)) d ⟨hcc, hss⟩
theorem r_callNI (pc2 : Nat) {b : Nat} {host : String} (sim : SimN l D H0 y (ws_ y bytes maxL none) fr2 lo2 rv (lR (some b) :: as) w f) (hG : GoodIn lw_all (ws_ y bytes maxL none)) (hl9 : Cond.methodLinkNest own idx y host ∈ lw_tbl) (hi9 : Cond.initialized y.cls ∈ lw_all) (hin9 : Cond.instanceMethod y ∈ lw_all) (hy1 : y.name = "<init>") (hd : y.cls ≠ "java/lang/invoke/MethodHandle" ∧ y.cls ≠ "java/lang/invoke/VarHandle" ∧ (parseMethodDescriptor y.desc).map (fun d => d.parameters.length) = some n) (hrm : Nat.ble (fr2 + 1) fr = true ∧ Nat.ble (8 + (maxL + 11) + lo2) lo = true) (hn : as.length = n) (hst : (as.map LV.v).reverse ++ rf (some b) :: rest = st) (hc8 : cat2 k8 rest) (hk8 : Nat.ble k8 8 = true) (d : decode cc pc = .ok (.invokespecial idx, 3)) (hp : pc + 3 = pc2)
    (kk : ∀ r1 w1, V l D H0 own nm cc nL ret hh fr lo oc w0 (g r1 w1) pc2 ls ((rv r1).toList ++ rest) w1) : V l D H0 own nm cc nL ret hh fr lo oc w0 (bd f g) pc ls st w := by
  subst hp
  refine V.callN (fun r1 w1 e1 => (sim r1 w1 e1).1) (fun r1 w1 e1 p e R s m args below meth c H locs cells slots la hC hg hR hl hcc hss => ?_) kk
  have hM := (sim r1 w1 e1).2
  have hK := hC.K hg
  have hts := hC.1.2.2.2.2
  have hfr := Nat.le_of_ble_eq_true hrm.1
  have hlo := Nat.le_of_ble_eq_true hrm.2
  have hRm : (rmO fr2 lo2 w w1).frames + 1 ≤ R.frames ∧ 8 + (maxL + 11) + (rmO fr2 lo2 w w1).locals ≤ R.locals := ⟨Nat.le_trans hfr hC.2.2.2.2.2.2.1, Nat.le_trans hlo hC.2.2.2.2.2.2.2.1⟩
  exact va_runIN (As := as.map LV.v) hC.1 hM (⟨va_cnB n hts hG rfl rfl rfl (hK.2.1.1 _ hl9 rfl) (hts _ hi9) hd hRm, hy1, hts _ hin9⟩) (mkPreS hR hK) rfl (by rw [List.length_map]; exact hn) hl.1 hst.symm (F0_room (cat2_8 hc8 hk8)) d ⟨hcc, hss⟩
theorem r_iret {x : ρ} {v : Int32} (ho : oc x = .inr (some (.int v))) (hret : ret = some .int) (d : decode cc pc = .ok (.ireturn, 1)) : V l D H0 own nm cc nL ret hh fr lo oc w0 (some (x, w)) pc ls [.int v] w := by
  intro r w1 hres
  cases hres
  refine ⟨⟨rfl, Nat.le_refl _, Nat.le_refl _⟩, fun p e R s m args below meth c H locs la hC h1 h2 h3 h4 h5 h6 h7 h8 => ?_⟩
  refine vx_ret ?_
  exact W.iret hC.1.1 hC.1.2.1 (hC.2.1.trans hret) (fun t ht hW => ⟨⟨_, ho, rfl⟩, by rw [ht]; exact h6⟩) h7 d hC.2.2.1
theorem r_zret {x : ρ} {v : Int32} {ty : FieldType} (ho : oc x = .inr (some (.int v))) (hret : ret = some ty) (hn : narrow ty (.int v) = .int v) (d : decode cc pc = .ok (.ireturn, 1)) : V l D H0 own nm cc nL ret hh fr lo oc w0 (some (x, w)) pc ls [.int v] w := by
  intro r w1 hres
  cases hres
  refine ⟨⟨rfl, Nat.le_refl _, Nat.le_refl _⟩, fun p e R s m args below meth c H locs la hC h1 h2 h3 h4 h5 h6 h7 h8 => ?_⟩
  refine vx_ret ?_
  exact W.zret hC.1.1 hC.1.2.1 (hC.2.1.trans hret) hn (fun t ht hW => ⟨⟨_, ho, rfl⟩, by rw [ht]; exact h6⟩) h7 d hC.2.2.1
theorem r_vret {x : ρ}  (ho : oc x = .inr none) (hret : ret = none) (d : decode cc pc = .ok (.return_, 1)) : V l D H0 own nm cc nL ret hh fr lo oc w0 (some (x, w)) pc ls [] w := by
  intro r w1 hres
  cases hres
  refine ⟨⟨rfl, Nat.le_refl _, Nat.le_refl _⟩, fun p e R s m args below meth c H locs la hC h1 h2 h3 h4 h5 h6 h7 h8 => ?_⟩
  refine vx_ret ?_
  exact W.vret hC.1.1 hC.1.2.1 (hC.2.1.trans hret) (fun t ht hW => ⟨⟨_, ho, rfl⟩, by rw [ht]; exact h6⟩) h7 d hC.2.2.1
theorem r_dret {x : ρ} {v : UInt64} (ho : oc x = .inr (some (.double v))) (hret : ret = some .double) (d : decode cc pc = .ok (.dreturn, 1)) : V l D H0 own nm cc nL ret hh fr lo oc w0 (some (x, w)) pc ls [.double v] w := by
  intro r w1 hres
  cases hres
  refine ⟨⟨rfl, Nat.le_refl _, Nat.le_refl _⟩, fun p e R s m args below meth c H locs la hC h1 h2 h3 h4 h5 h6 h7 h8 => ?_⟩
  refine vx_ret ?_
  exact W.dret hC.1.1 hC.1.2.1 (hC.2.1.trans hret) (fun t ht hW => ⟨⟨_, ho, rfl⟩, by rw [ht]; exact h6⟩) h7 d hC.2.2.1
theorem r_fret {x : ρ} {v : UInt32} (ho : oc x = .inr (some (.float v))) (hret : ret = some .float) (d : decode cc pc = .ok (.freturn, 1)) : V l D H0 own nm cc nL ret hh fr lo oc w0 (some (x, w)) pc ls [.float v] w := by
  intro r w1 hres
  cases hres
  refine ⟨⟨rfl, Nat.le_refl _, Nat.le_refl _⟩, fun p e R s m args below meth c H locs la hC h1 h2 h3 h4 h5 h6 h7 h8 => ?_⟩
  refine vx_ret ?_
  exact W.fret hC.1.1 hC.1.2.1 (hC.2.1.trans hret) (fun t ht hW => ⟨⟨_, ho, rfl⟩, by rw [ht]; exact h6⟩) h7 d hC.2.2.1
theorem r_aret {x : ρ} {v : Rf} {rt : FieldType} (ho : oc x = .inr (some (rf v))) (hret : ret = some rt) (hrt : (∃ n, rt = .object n) ∨ ∃ t, rt = .array t) (d : decode cc pc = .ok (.areturn, 1)) : V l D H0 own nm cc nL ret hh fr lo oc w0 (some (x, w)) pc ls [rf v] w := by
  intro r w1 hres
  cases hres
  refine ⟨⟨rfl, Nat.le_refl _, Nat.le_refl _⟩, fun p e R s m args below meth c H locs la hC h1 h2 h3 h4 h5 h6 h7 h8 => ?_⟩
  refine vx_ret ?_
  exact W.aret hC.1.1 hC.1.2.1 (hC.2.1.trans hret) hrt (by cases v with
    | none => exact Or.inl rfl
    | some a => exact Or.inr ⟨a, rfl⟩) (fun t ht hW => ⟨⟨_, ho, rfl⟩, by rw [ht]; exact h6⟩) h7 d hC.2.2.1
theorem r_zretG {v : Int32} {x : ρ} (ho : oc x = .inr (some (.int v))) (hret : ret = some .boolean) (d : decode cc pc = .ok (.ireturn, 1)) : V l D H0 own nm cc nL ret hh fr lo oc w0 (gd (v = 0 ∨ v = 1) (some (x, w))) pc ls [.int v] w := by
  unfold gd
  by_cases hv : v = 0 ∨ v = 1
  · rw [if_pos hv]
    exact r_zret ho hret (by rcases hv with rfl | rfl <;> rfl) d
  · rw [if_neg hv]; exact r_none
theorem r_gd {P : Prop} [Decidable P] (k : P → V l D H0 own nm cc nL ret hh fr lo oc w0 res pc ls st w) : V l D H0 own nm cc nL ret hh fr lo oc w0 (gd P res) pc ls st w := by
  unfold gd
  by_cases hP : P
  · rw [if_pos hP]; exact k hP
  · rw [if_neg hP]; exact r_none
theorem r_gets (pc2 i : Nat) {C n d9 : String} {v : Value} {idx : Nat} (hz : (zL w.g)[i]? = some (C, n, d9, v)) (hq : Cond.fieldLink own idx C n d9 ∈ lw_all) (d : decode cc pc = .ok (.getstatic idx, 3)) (hp : pc + 3 = pc2) (k : V l D H0 own nm cc nL ret hh fr lo oc w0 res pc2 ls (v :: st) w) : V l D H0 own nm cc nL ret hh fr lo oc w0 res pc ls st w := by
  subst hp
  refine V.liftG ⟨rfl, Nat.le_refl _, Nat.le_refl _⟩ (fun p e R s m args below meth c H locs cells slots Q la hC hg hR hL hl hcc hss kk => ?_) k
  rw [Nat.sub_self, Nat.sub_self] at kk
  have hK := hC.K hg
  have hZ := hK.2.2.1 _ (List.mem_of_getElem? hz)
  obtain ⟨cf, kf, fi, f, a, cell, h1, h2, h3, h4, h5, h6, h7, h8⟩ := hZ
  refine W.gets hC.1.1 hC.1.2.1 hC.1.2.2.2.1 (hC.1.2.2.2.2 _ hq) h1 h2 h3 h4 (a₁ := a) (cell₁ := cell) ?_ (fun e => by rw [e] at h6; cases h6) h7 rfl d (kk H locs la hR hL hl)
  rw [hR.2.2.2.1 a (Array.getElem?_eq_some_iff.mp h5).1]
  exact h5
theorem r_ldcS (pc2 i : Nat) {tx : String} {a idx : Nat} (hz : (strL w.g)[i]? = some (own, idx, tx, a)) (d : decode cc pc = .ok (.ldc idx, 2)) (hp : pc + 2 = pc2) (k : V l D H0 own nm cc nL ret hh fr lo oc w0 res pc2 ls (rf (some a) :: st) w) : V l D H0 own nm cc nL ret hh fr lo oc w0 res pc ls st w := by
  subst hp
  refine V.liftR (fun p e R s m args below meth c H locs cells slots Q la hC hg hR hl kk => ?_) k
  exact va_ldcS hC.1.1 hC.1.2.1 hC.1.2.2.2.1 ((hC.K hg).2.2.2.1 _ (List.mem_of_getElem? hz)) d (kk la hl)
theorem my_ldcW {p : Program} {e : Env} {R : Room} {s : State} {m : MethodId} {args : Array Value} {below : List Frame} {meth : Method} {c : Code} {T : State} {locs : List Loc} {cells slots : Nat}
    (X : Stand p l e R s m args below meth c T locs cells slots) (hexec : p.tables.exec = Jvm.exec) {own text : String} {index : Nat} {a : Addr} (hown : s.vm.findClass own = some m.cls)
    (hconst : (Cond.stringRef own index text).before args s = true) (hev : (Term.string own index).eval args s none [] s = some (.ref a)) {g : JFrame} (hg : g.method = m) (hdg : decode c.code g.pc = .ok (.ldc_w index, 3)) :
    ∀ target, Steps p.tables e below (T.setTop { g with pc := g.pc + 3, stack := .ref a :: g.stack }) target → Steps p.tables e below (T.setTop g) target := by
  obtain ⟨k, cf, i, a', hk, hcf, hcp, -, hr, hev'⟩ := Cond.stringRef_spec hown hconst
  cases hev.symm.trans hev'
  obtain ⟨k', hk', he⟩ := X.warmed.alike.2.2 _ _ hk
  have hr' : k'.resolved[index]? = some (some (.string a)) := by
    rcases X.warmed.entry hk hk' index with h | ⟨h, -⟩
    · rw [h]; exact hr
    · rw [hr] at h; cases h
  intro target hrest
  subst hg
  jvm_step X.here [hexec, hdg, ldc_w.wp_string (e := e) (s := T) (f := g) X.here.top hk' (by rw [he]; exact hcf) hcp hr']
  exact hrest
theorem r_ldcSW (pc2 i : Nat) {tx : String} {a idx : Nat} (hz : (strL w.g)[i]? = some (own, idx, tx, a)) (d : decode cc pc = .ok (.ldc_w idx, 3)) (hp : pc + 3 = pc2) (k : V l D H0 own nm cc nL ret hh fr lo oc w0 res pc2 ls (rf (some a) :: st) w) : V l D H0 own nm cc nL ret hh fr lo oc w0 res pc ls st w := by
  subst hp
  refine V.liftR (fun p e R s m args below meth c H locs cells slots Q la hC hg hR hl kk => ?_) k
  have hZ := (hC.K hg).2.2.2.1 _ (List.mem_of_getElem? hz)
  intro T hT X
  obtain ⟨t, a1, b1⟩ := kk la hl T hT X
  exact ⟨t, my_ldcW X hC.1.1 hC.1.2.2.2.1 hZ.1 hZ.2 rfl (by rw [hC.1.2.1]; exact d) t a1, b1⟩
theorem r_cretG {v : Int32} {x : ρ} (ho : oc x = .inr (some (.int v))) (hret : ret = some .char) (d : decode cc pc = .ok (.ireturn, 1)) : V l D H0 own nm cc nL ret hh fr lo oc w0 (gd (0 ≤ v ∧ v ≤ 65535) (some (x, w))) pc ls [.int v] w := by
  unfold gd
  by_cases hv : 0 ≤ v ∧ v ≤ 65535
  · rw [if_pos hv]
    refine r_zret ho hret ?_ d
    obtain ⟨j, hj, rfl⟩ := nI_of2 (n := 65535) (M := 65535) (by decide) (fun h => by have h1 := Int32.lt_iff_toInt_lt.mp h; have h2 := Int32.le_iff_toInt_le.mp hv.1; omega) hv.2
    exact (pk_charN (by omega)).1
  · rw [if_neg hv]; exact r_none
theorem r_bretG {v : Int32} {x : ρ} (ho : oc x = .inr (some (.int v))) (hret : ret = some .byte) (d : decode cc pc = .ok (.ireturn, 1)) : V l D H0 own nm cc nL ret hh fr lo oc w0 (gd (v = 0 ∨ v = 1) (some (x, w))) pc ls [.int v] w := by
  unfold gd
  by_cases hv : v = 0 ∨ v = 1
  · rw [if_pos hv]
    exact r_zret ho hret (by rcases hv with rfl | rfl <;> rfl) d
  · rw [if_neg hv]; exact r_none
/-- whether an object may pass a cast: null, or of one of these classes -/
def okc (cs : List Nat) (x : Rf) (w : St) : Bool := match x with
  | none => true
  | some a => match cls (some a) w with
    | some ci => cs.contains ci
    | none => false
def isIn (cs ns : List Nat) (x : Rf) (w : St) : Option Int32 := match x with
  | none => some 0
  | some a => match cls (some a) w with
    | some ci => if cs.contains ci then some 1 else if ns.contains ci then some 0 else none
    | none => none
def CA (cs : List Nat) (n : String) : Prop := ∀ ci ∈ cs, ∀ r, clA[ci]? = some r → r.1 = n ∨ Cond.castable r.1 n ∈ lw_tbl
theorem CA_nil {n : String} : CA [] n := fun _ h => nomatch h
theorem CA_cons {n : String} {c0 : Nat} {cs : List Nat} {r0 : vw_C} (h0 : clA[c0]? = some r0) (h : r0.1 = n ∨ Cond.castable r0.1 n ∈ lw_tbl) (hs : CA cs n) : CA (c0 :: cs) n := by
  intro ci hci r hr
  rcases List.mem_cons.mp hci with rfl | hci
  · cases h0.symm.trans hr
    exact h
  · exact hs ci hci r hr
theorem mkRecv {s : State} {H : Heap} {a ci : Nat} (hR : Rel D H0 w H) (hK : K0 D H0 w.g s) (hcl : cls (some a) w = some ci) : ∃ r : vw_C, clA[ci]? = some r ∧ ∃ cell : Cell, H[a]? = some cell ∧ cell.vm.isStatics = false ∧ s.vm.findClass r.1 = some cell.cls := by
  obtain ⟨a', r', cell, h1, h2, h3, h4, h5⟩ := hR.cls hcl
  cases h1
  exact ⟨r', h2, cell, h3, h4, by rw [h5]; exact (hK.1.1 ci r' h2).2.1⟩
theorem r_cast (pc2 : Nat) {x : Rf} {cs : List Nat} {n : String} {idx : Nat} (hcs : CA cs n) (hq : Cond.classLink own idx n ∈ lw_all) (d : decode cc pc = .ok (.checkcast idx, 3)) (hp : pc + 3 = pc2) (k : V l D H0 own nm cc nL ret hh fr lo oc w0 res pc2 ls (rf x :: st) w) : V l D H0 own nm cc nL ret hh fr lo oc w0 (gd (okc cs x w = true) res) pc ls (rf x :: st) w := by
  subst hp
  refine r_gd (fun hok => V.liftR (fun p e R s m args below meth c H locs cells slots Q la hC hg hR hl kk => ?_) k)
  cases x with
  | none => exact lv_castN hC.1.1 hC.1.2.1 d (kk la hl)
  | some a =>
    unfold okc at hok
    dsimp only at hok
    cases hcl : cls (some a) w with
    | none => rw [hcl] at hok; cases hok
    | some ci =>
      rw [hcl] at hok
      have hK := hC.K hg
      obtain ⟨r, hr, hrec⟩ := mkRecv hR hK hcl
      rcases hcs ci (List.contains_iff_mem.mp hok) r hr with h | h
      · subst h
        exact va_castS hC.1.1 hC.1.2.1 hC.1.2.2.2.1 (hC.1.2.2.2.2 _ hq) (hK.1.1 ci r hr).2 hrec d (kk la hl)
      · exact va_castY hC.1.1 hC.1.2.1 hC.1.2.2.2.1 (hC.1.2.2.2.2 _ hq) (hK.2.1.1 _ h rfl) hrec d (kk la hl)
def NCs (ns : List Nat) (n : String) : Prop := ∀ ci ∈ ns, ∀ r, clA[ci]? = some r → (r.1, n) ∈ ncL
theorem r_inst (pc2 : Nat) {x : Rf} {cs ns : List Nat} {n : String} {idx : Nat} {g : Int32 → Option (ρ × St)} (hcs : CA cs n) (hns : NCs ns n) (hq : Cond.classLink own idx n ∈ lw_all) (d : decode cc pc = .ok (.instanceof idx, 3)) (hp : pc + 3 = pc2) (kk : ∀ v, V l D H0 own nm cc nL ret hh fr lo oc w0 (g v) pc2 ls (.int v :: st) w) : V l D H0 own nm cc nL ret hh fr lo oc w0 (bo (isIn cs ns x w) g) pc ls (rf x :: st) w := by
  subst hp
  cases x with
  | none => exact V.liftR (fun p e R s m args below meth c H locs cells slots Q la hC hg hR hl k2 => lv_instN hC.1.1 hC.1.2.1 d (k2 la hl)) (kk 0)
  | some a =>
    unfold isIn
    dsimp only
    cases hcl : cls (some a) w with
    | none => exact r_none
    | some ci =>
      dsimp only
      by_cases h1 : cs.contains ci = true
      · rw [if_pos h1]
        refine V.liftR (fun p e R s m args below meth c H locs cells slots Q la hC hg hR hl k2 => ?_) (kk 1)
        have hK := hC.K hg
        obtain ⟨r, hr, hrec⟩ := mkRecv hR hK hcl
        rcases hcs ci (List.contains_iff_mem.mp h1) r hr with h | h
        · subst h
          exact va_instS hC.1.1 hC.1.2.1 hC.1.2.2.2.1 (hC.1.2.2.2.2 _ hq) (hK.1.1 ci r hr).2 hrec d (k2 la hl)
        · exact va_instY hC.1.1 hC.1.2.1 hC.1.2.2.2.1 (hC.1.2.2.2.2 _ hq) (hK.2.1.1 _ h rfl) hrec d (k2 la hl)
      · rw [if_neg h1]
        by_cases h2 : ns.contains ci = true
        · rw [if_pos h2]
          refine V.liftR (fun p e R s m args below meth c H locs cells slots Q la hC hg hR hl k2 => ?_) (kk 0)
          have hK := hC.K hg
          obtain ⟨r, hr, hrec⟩ := mkRecv hR hK hcl
          exact va_instNo hC.1.1 hC.1.2.1 hC.1.2.2.2.1 (hC.1.2.2.2.2 _ hq) (hK.2.1.2.2.2 _ (hns ci (List.contains_iff_mem.mp h2) r hr)) hrec d (k2 la hl)
        · rw [if_neg h2]; exact r_none
theorem r_objInit (pc2 : Nat) {b idx : Nat} (hq : Cond.methodLink own idx Lib.objectInit ∈ lw_all) (hq2 : Cond.instanceMethod Lib.objectInit ∈ lw_all) (hq3 : Cond.code Lib.objectInit ⟨#[0xb1]⟩ 1 none ∈ lw_all) (hrm : Nat.ble 1 fr = true ∧ Nat.ble 20 lo = true) (hc8 : cat2 k8 st) (hk8 : Nat.ble k8 8 = true) (d : decode cc pc = .ok (.invokespecial idx, 3)) (hp : pc + 3 = pc2) (k : V l D H0 own nm cc nL ret hh fr lo oc w0 res pc2 ls st w) : V l D H0 own nm cc nL ret hh fr lo oc w0 res pc ls (rf (some b) :: st) w := by
  subst hp
  refine V.liftR (fun p e R s m args below meth c H locs cells slots Q la hC hg hR hl kk => ?_) k
  have hts := hC.1.2.2.2.2
  have h8 := F0_room (pc := pc) (st := rf (some b) :: st) (m := m) (la := la) (cat2_8 hc8 hk8)
  exact W.objInit hC.1.1 hC.1.2.1 hC.1.2.2.2.1 (hts _ hq) (hts _ hq2) (hts _ hq3) rfl (hl.1.trans hC.1.2.2.1.symm) rfl d (Nat.le_trans (Nat.le_of_ble_eq_true hrm.1) hC.2.2.2.2.2.2.1) (by have := Nat.le_trans (Nat.le_of_ble_eq_true hrm.2) hC.2.2.2.2.2.2.2.1; omega) (kk la hl)
end CALL
