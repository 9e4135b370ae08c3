/-! handlers -/
theorem al_nil {α : Type} {P : α → Prop} : ∀ y ∈ ([] : List α), P y := fun _ h => nomatch h
theorem al_cons {α : Type} {P : α → Prop} {a : α} {L : List α} (h : P a) (t : ∀ y ∈ L, P y) : ∀ y ∈ a :: L, P y := by
  intro y hy
  rcases List.mem_cons.mp hy with rfl | hy
  · exact h
  · exact t y hy
/-- the address that is thrown -/
def rfq (x : Rf) : Nat := x.getD 0
section HAND
variable {l : Launch} {D : Dn} {H0 : Heap} {own nm : String} {cc : ByteArray} {nL : Nat} {ret : Option FieldType} {hh : List (Nat × Nat × Nat × Nat)} {fr lo : Nat} {ρ : Type} {oc : ρ → Nat ⊕ Option Value} {w0 w : St} {res : Option (ρ × St)} {pc : Nat} {ls : List (Nat × LV)} {st : List Value}
theorem r_vif {q : Nat} {c : Prop} [Decidable c] {A B : Option (ρ × St)} (h1 : c → VT l D H0 own nm cc nL ret hh fr lo oc w0 A pc ls q w) (h2 : ¬ c → VT l D H0 own nm cc nL ret hh fr lo oc w0 B pc ls q w) : VT l D H0 own nm cc nL ret hh fr lo oc w0 (if c then A else B) pc ls q w := by
  by_cases h : c
  · rw [if_pos h]; exact h1 h
  · rw [if_neg h]; exact h2 h
theorem vx_catchAny {p : Program} {e : Env} {R : Room} {s : State} {m : MethodId} {args : Array Value} {below : List Frame} {meth : Method} {c : Code} {H : Heap} {locs : List Loc} {cells slots : Nat} {Q : State → Prop} {pc : Nat} {ls : Array Slot} {rest : List Value}
    {E : String} {ce : Cell} {q : Addr} (pre : List ExceptionTableEntry) (x : ExceptionTableEntry) (suf : List ExceptionTableEntry) (hsplit : c.exceptionTable.toList = pre ++ x :: suf)
    (hpass : ∀ z ∈ pre, covers z pc = false) (hx : covers x pc = true) (h0 : x.catchType = 0) (hcell : H[q]? = some ce) (hv : ce.vm = .none) (hcl : s.vm.findClass E = some ce.cls)
    (kk : W p l e R s m args below meth c H locs cells slots Q (F0 m x.handlerPc ls [.ref q])) : vx_W p l e R s m args below meth c H locs cells slots Q (F0 m pc ls rest) q := by
  intro T hT X
  obtain ⟨vm', X', st⟩ := X.thenCaughtThrough q (g := F0 m pc ls rest) rfl (Steps.refl _) (by rw [hT]; exact hcell) (by rw [hv]; rfl) (by obtain ⟨k9, h9, -⟩ := Vm.findClass_spec hcl; exact ⟨k9, h9⟩) pre x suf hsplit
    (fun z hz => Or.inl (hpass z hz)) hx (Or.inl h0)
  obtain ⟨t, a1, b1⟩ := kk (T.setVm vm') hT X'
  exact ⟨t, st.trans a1, b1⟩
/-- caught by a row for anything (finally) -/
theorem r_catchAny {q : Nat} (i : Nat) {z : ExceptionTableEntry} (hz : (tableOf hh)[i]? = some z) (hpre : ∀ y ∈ (tableOf hh).take i, covers y pc = false) (hcov : covers z pc = true) (h0 : z.catchType = 0) (k : V l D H0 own nm cc nL ret hh fr lo oc w0 res z.handlerPc ls [rf (some q)] w) : VT l D H0 own nm cc nL ret hh fr lo oc w0 res pc ls q w := by
  intro r w1 hres
  obtain ⟨k1, k2⟩ := k r w1 hres
  refine ⟨k1, fun hx p e R s m args below meth c H locs la rest hC g1 g2 g3 g4 g5 g6 g7 g8 => ?_⟩
  have hK := hC.K g3
  obtain ⟨ci9, fs9, rr9, x1, x2, x3⟩ := hx
  obtain ⟨ce, m1, m2, m3⟩ := isX_cell g6 hK x1 x2 x3
  have hsplit : tableOf hh = (tableOf hh).take i ++ z :: (tableOf hh).drop (i + 1) := by
    have hlt := (List.getElem?_eq_some_iff.mp hz).1
    have he := (List.getElem?_eq_some_iff.mp hz).2
    have h9 := (List.take_append_drop i (tableOf hh)).symm
    rw [List.drop_eq_getElem_cons hlt, he] at h9
    exact h9
  exact vx_catchAny ((tableOf hh).take i) z ((tableOf hh).drop (i + 1)) (by rw [hC.2.2.2.1]; exact hsplit) hpre hcov h0 m1 m2 m3 (k2 p e R s m args below meth c H locs la hC g1 g2 g3 g4 g5 g6 g7 g8)
/-- what is thrown is known by its class -/
theorem r_athrowC {x : Rf} (ci : Nat) {r : vw_C} (h : cls x w = some ci) (hr : clA[ci]? = some r) (hci : (Nat.ble 20 ci && Nat.blt ci 26) = true) (d : decode cc pc = .ok (.athrow, 1)) (k : VT l D H0 own nm cc nL ret hh fr lo oc w0 res pc ls (rfq x) w) : V l D H0 own nm cc nL ret hh fr lo oc w0 res pc ls (rf x :: st) w := by
  obtain ⟨b, rfl⟩ := cls_some h
  refine r_athrow (q := b) ?_ d k
  have h20 := Nat.le_of_ble_eq_true (Bool.and_eq_true_iff.mp hci).1
  have h26 := Nat.le_of_ble_eq_true (Bool.and_eq_true_iff.mp hci).2
  unfold cls at h
  dsimp only at h
  cases hm : w.mp b with
  | none =>
    rw [hm] at h
    dsimp only at h
    unfold mP at h
    cases h8 : w.ms with
    | none => rw [h8] at h; cases h
    | some M =>
      rw [h8] at h
      dsimp only at h
      by_cases h7 : b = w.g 400
      · rw [if_pos h7] at h
        have h6 := Option.some.inj h
        dsimp only at h6
        omega
      · rw [if_neg h7] at h; cases h
  | some o =>
    rw [hm] at h
    rcases o with ⟨c9, fs⟩ | q
    · obtain rfl : c9 = ci := Option.some.inj h
      exact ⟨c9, fs, r, hm, hr, by omega⟩
    · exfalso
      rcases q with q | q | q | q | q
      · cases h
      · have h6 : 15 = ci := Option.some.inj h
        omega
      · have h6 : 17 = ci := Option.some.inj h
        omega
      · have h6 : 18 = ci := Option.some.inj h
        omega
      · have h6 : 19 = ci := Option.some.inj h
        omega
end HAND
