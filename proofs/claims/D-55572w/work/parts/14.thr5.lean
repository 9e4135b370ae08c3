/-! the methods of the enum constants' own classes: their classes needn't be initialised -/
def SimU (l : Launch) (D : Dn) (H0 : Heap) (y : MethodName) (ws : List Cond) (fr lo : Nat) {ρ : Type} (rv : ρ → Option Value) (av : List LV) (w : St) (res : Option (ρ × St)) : Prop := SimN l D H0 y ws fr lo rv av w res
section SU
variable {l : Launch} {D : Dn} {H0 : Heap} {own nm : String} {cc : ByteArray} {nL : Nat} {ret : Option FieldType} {hh : List (Nat × Nat × Nat × Nat)} {fr lo : Nat} {ρ : Type} {oc : ρ → Nat ⊕ Option Value} {w0 w : St} {res : Option (ρ × St)} {pc : Nat} {ls : List (Nat × LV)} {st : List Value}
variable {γ : Type} {rv : γ → Option Value} {f : Option (γ × St)} {g : γ → St → Option (ρ × St)} {rest : List Value}
variable {y : MethodName} {bytes : ByteArray} {maxL fr2 lo2 n idx k8 : Nat} {ret2 : Option FieldType} {as : List LV}
theorem r_callAU (pc2 ci : Nat) {x : Rf} {r : vw_C} {x2 : MethodName} {owner : String} (sim : SimU l D H0 y (ws_ y bytes maxL ret2) fr2 lo2 rv (lR x :: as) w f) (hcl : cls x w = some ci) (hr : clA[ci]? = some r) (hG : GoodIn lw_all (([.methodLink own idx x2, .sameMethod x2.cls owner x2.name x2.desc, .selects r.1 x2 y, .instanceMethod y] : List Cond) ++ ws_ y bytes maxL ret2)) (hz : Cond.declares ⟨owner, x2.name, x2.desc⟩ ∈ lw_tbl) (hd : owner ≠ "java/lang/invoke/MethodHandle" ∧ owner ≠ "java/lang/invoke/VarHandle" ∧ (parseMethodDescriptor x2.desc).map (fun d => d.parameters.length) = some n) (hrm : Nat.ble (fr2 + 1) fr = true ∧ Nat.ble (8 + (maxL + 11) + lo2) lo = true) (hn : as.length = n) (hst : (as.map LV.v).reverse ++ rf x :: rest = st) (hc8 : cat2 k8 rest) (hk8 : Nat.ble k8 8 = true) (d : decode cc pc = .ok (.invokevirtual idx, 3)) (hp : pc + 3 = pc2)
    (kk : ∀ r1 w1, V l D H0 own nm cc nL ret hh fr lo oc w0 (g r1 w1) pc2 ls ((rv r1).toList ++ rest) w1) : V l D H0 own nm cc nL ret hh fr lo oc w0 (bd f g) pc ls st w := by
  sorry
end SU
section SV
variable {l : Launch} {D : Dn} {H0 : Heap} {y : MethodName} {cc : ByteArray} {nL : Nat} {ret : Option FieldType} {fr lo : Nat} {ρ : Type} {av : List LV} {w : St} {res : Option (ρ × St)}
theorem SimU.ofV {rv : ρ → Option Value} (hy : plainName y.cls = true) (hlen : Nat.ble (lvLen av) nL = true) (k : V l D H0 y.cls y.name cc nL ret [] fr lo (fun x => .inr (rv x)) w res 0 (lvA 0 av) [] w) : SimU l D H0 y (ws_ y cc nL ret) fr lo rv av w res := by
  sorry
end SV
theorem lsC {a o dflt k off : Int} {r : List (Int × Int)} (h : k ≠ a) (t : Op.lookupswitch.offset r dflt k = off) : Op.lookupswitch.offset ((a, o) :: r) dflt k = off := by
  rw [Op.lookupswitch.offset_cons, if_neg (Ne.symm h)]; exact t
