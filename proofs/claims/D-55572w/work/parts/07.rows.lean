/-! from a walk to a contract -/
theorem Rel.g0 {D : Dn} {H0 H : Heap} {w : St} (h : Rel D H0 w H) : w.g 0 = H0.size := h.2.1
def lvLen (av : List LV) : Nat := match av with
  | [] => 0
  | v :: vs => (if v.two then 2 else 1) + lvLen vs
theorem lvLen_eq (av : List LV) : (lg_sl (av.map LV.v)).length = lvLen av := by
  induction av with
  | nil => rfl
  | cons v vs ih =>
    have h := LV_two v
    rw [List.map_cons]
    have e : lg_sl (v.v :: vs.map LV.v) = (if v.v.category = 2 then [Slot.val v.v, .second] else [.val v.v]) ++ lg_sl (vs.map LV.v) := by simp [lg_sl]
    rw [e, List.length_append, ih]
    show _ = (if v.two then 2 else 1) + lvLen vs
    cases hv : v.two with
    | true =>
      rw [hv] at h
      have h2 : v.v.category = 2 := by simpa using h
      simp [h2]
    | false =>
      rw [hv] at h
      have h2 : ¬ v.v.category = 2 := by simpa using h
      simp [h2]
section ENT
variable {l : Launch} {D : Dn} {H0 : Heap} {y : MethodName} {cc : ByteArray} {nL : Nat} {ret : Option FieldType} {fr lo : Nat} {ρ : Type} {av : List LV} {w : St} {res : Option (ρ × St)}
theorem SimX.ofV {oc : ρ → Nat ⊕ Option Value} (hy : plainName y.cls = true) (hlen : Nat.ble (lvLen av) nL = true) (k : V l D H0 y.cls y.name cc nL ret [] fr lo oc w res 0 (lvA 0 av) [] w) : SimX l D H0 y (ws_ y cc nL ret) fr lo oc av w res := by
  intro r w1 hres
  obtain ⟨k1, k2⟩ := k r w1 hres
  refine ⟨k1, vx_ofW (cc := cc) (maxL := nL) (ret := ret) hy rfl ?_⟩
  intro p e s m args below meth c s₁ B hml ht hP
  obtain ⟨rfl, hK, hR⟩ := hP
  have hts := atoms_spec (ws := ws_ y cc nL ret) B.pre
  have hts : ∀ w ∈ lw_all, w.before (av.map LV.v).toArray s = true := fun w h => hts w (List.mem_cons_of_mem _ h)
  have hl := lv_entry (av.map LV.v) (n := nL) (by rw [lvLen_eq]; exact Nat.le_of_ble_eq_true hlen)
  rw [← lvA_eq] at hl
  rw [lg_entry_eq]
  have h := k2 p e (rmO fr lo w w1) s m (av.map LV.v).toArray below meth c s.heap [] _ ⟨⟨B.exec, B.bytes, hml, findClass_of_methodNamed B.named, hts⟩, B.returns, B.notSynchronized, ?_, (name_of_methodNamed B.named B.method).1, hK, Nat.le_refl _, Nat.le_refl _, hR.1, hR.2.1, hR.2.2.1, hR.2.2.2.1⟩ rfl rfl rfl (Nat.le_refl _) (Nat.le_refl _) hR (fun q hq => nomatch hq) hl
  · rw [Nat.sub_self, Nat.sub_self] at h
    exact h
  · show _ = []
    exact List.eq_nil_iff_forall_not_mem.mpr (fun x hx => ht x hx)
theorem SimX.ofVH {oc : ρ → Nat ⊕ Option Value} {hh : List (Nat × Nat × Nat × Nat)} (hy : plainName y.cls = true) (hlen : Nat.ble (lvLen av) nL = true) (k : V l D H0 y.cls y.name cc nL ret hh fr lo oc w res 0 (lvA 0 av) [] w) : SimX l D H0 y (wsW_ y cc nL ret hh) fr lo oc av w res := by
  intro r w1 hres
  obtain ⟨k1, k2⟩ := k r w1 hres
  refine ⟨k1, vx_ofWH (cc := cc) (maxL := nL) (ret := ret) (hh := hh) hy rfl ?_⟩
  intro p e s m args below meth c s₁ B hml hP
  obtain ⟨rfl, hK, hR⟩ := hP
  have hts0 := atoms_spec (ws := wsW_ y cc nL ret hh) B.pre
  have hts : ∀ w ∈ lw_all, w.before (av.map LV.v).toArray s = true := fun w h => hts0 w (List.mem_cons_of_mem _ h)
  have hl := lv_entry (av.map LV.v) (n := nL) (by rw [lvLen_eq]; exact Nat.le_of_ble_eq_true hlen)
  rw [← lvA_eq] at hl
  rw [lg_entry_eq]
  have h := k2 p e (rmO fr lo w w1) s m (av.map LV.v).toArray below meth c s.heap [] _ ⟨⟨B.exec, B.bytes, hml, findClass_of_methodNamed B.named, hts⟩, B.returns, B.notSynchronized, vx_table (x := y) B (hts0 _ List.mem_cons_self), (name_of_methodNamed B.named B.method).1, hK, Nat.le_refl _, Nat.le_refl _, hR.1, hR.2.1, hR.2.2.1, hR.2.2.2.1⟩ rfl rfl rfl (Nat.le_refl _) (Nat.le_refl _) hR (fun q hq => nomatch hq) hl
  rw [Nat.sub_self, Nat.sub_self] at h
  exact h
/-- a method that never throws -/
theorem SimX.N {rv : ρ → Option Value} {ws : List Cond} (h : SimX l D H0 y ws fr lo (fun x => .inr (rv x)) av w res) : SimN l D H0 y ws fr lo rv av w res := by
  intro r w1 hres
  obtain ⟨k1, k2⟩ := h r w1 hres
  refine ⟨k1, ?_⟩
  intro p e ha hc hk s m args below hf happ hP hK
  obtain ⟨t, o, a1, a2, a3, a4⟩ := k2 p e ha hc hk s m args below hf happ hP hK
  rcases a4 with a4 | ⟨q, -, E, ce, L, ⟨a5, -⟩, -⟩
  · exact ⟨t, o, a1, a2, a3, a4⟩
  · cases a5
theorem SimN.X {rv : ρ → Option Value} {ws : List Cond} (h : SimN l D H0 y ws fr lo rv av w res) : SimX l D H0 y ws fr lo (fun x => .inr (rv x)) av w res := by
  intro r w1 hres
  obtain ⟨k1, k2⟩ := h r w1 hres
  refine ⟨k1, ?_⟩
  intro p e ha hc hk s m args below hf happ hP hK
  obtain ⟨t, o, a1, a2, a3, a4⟩ := k2 p e ha hc hk s m args below hf happ hP hK
  exact ⟨t, o, a1, a2, a3, Or.inl a4⟩
end ENT
