/-! the reference's object, once made, is told apart from the others -/
def isM (w : St) (M : MS) : Prop := w.ms = none ∧ w.mp (w.g 400) = some (oP 26 (mFs w.g M)) ∧ (∀ k, k < 34 → mArr k = true → ∃ f : Nat → Value, w.mp (w.g (401 + k)) = some (oA (mTy k) (mLen k) f) ∧ ∀ i, i < mLen k → f i = .int (M.2 k i)) ∧
  (∀ k, k < 34 → mArr k = true → w.g (401 + k) ≠ w.g 400) ∧ ∀ k k', k < 34 → k' < 34 → mArr k = true → mArr k' = true → w.g (401 + k) = w.g (401 + k') → k = k'
def vI0 (v : Value) : Int32 := match v with
  | .int x => x
  | _ => 0
def rdM (w : St) : MS := (fun k => match w.mp (w.g 400) with
  | some (.inl q) => vI0 (q.2.getD k .null)
  | _ => 0, fun k i => match w.mp (w.g (401 + k)) with
  | some (.inr (.inl q)) => vI0 (q.2.2 i)
  | _ => 0)
noncomputable def toMw (w : St) (M : MS) : St := St.mk5 w.g w.n w.sl (fun a => @ite _ (mReg w.g a) (Classical.propDecidable _) none (w.mp a)) (some M)
noncomputable def toM {β : Type} (w : St) (k : St → Option β) : Option β := gdC (isM w (rdM w)) (k (toMw w (rdM w)))
theorem toMw_mp {w : St} {M : MS} {a : Nat} {o : Ob} (h : (toMw w M).mp a = some o) : ¬ mReg w.g a ∧ w.mp a = some o := by
  have h1 : (@ite _ (mReg w.g a) (Classical.propDecidable _) none (w.mp a)) = some o := h
  by_cases hr : mReg w.g a
  · rw [if_pos hr] at h1; cases h1
  · rw [if_neg hr] at h1; exact ⟨hr, h1⟩
theorem toMw_none {w : St} {M : MS} {a : Nat} (h : mReg w.g a ∨ w.mp a = none) : (toMw w M).mp a = none := by
  show (@ite _ (mReg w.g a) (Classical.propDecidable _) none (w.mp a)) = none
  by_cases hr : mReg w.g a
  · rw [if_pos hr]
  · rw [if_neg hr]; exact h.resolve_left hr
theorem Rel.toM {D : Dn} {H0 H : Heap} {w : St} {M : MS} (h : Rel D H0 w H) (hm : isM w M) : Rel D H0 (toMw w M) H := by
  obtain ⟨h1, h2, h3, h4, own, h5, h6, h7, -⟩ := h
  obtain ⟨m0, m1, m2, m3, m4⟩ := hm
  have hreg : ∀ q, mReg w.g q → w.mp q ≠ none := by
    intro q hq
    rcases hq with rfl | ⟨k, k1, k2, rfl⟩
    · rw [m1]; exact fun z => nomatch z
    · obtain ⟨f, f1, -⟩ := m2 k k1 k2
      rw [f1]; exact fun z => nomatch z
  refine ⟨h1, h2, h3, h4, own, fun a o ha => h5 a o (toMw_mp ha).2, fun a o ha ho => ?_, fun a b o o' ha hb => h7 a b o o' (toMw_mp ha).2 (toMw_mp hb).2, fun M' hM' => ?_⟩
  · obtain ⟨g1, g2, g3, -⟩ := h6 a o (toMw_mp ha).2 ho
    exact ⟨g1, g2, toMw_none (Or.inr g3), fun _ hr => hreg _ hr g3⟩
  · cases hM'
    refine ⟨⟨h5 _ _ m1, fun k k1 k2 => ?_, m3, m4⟩, fun q hq => toMw_none (Or.inl hq)⟩
    obtain ⟨f, f1, f2⟩ := m2 k k1 k2
    obtain ⟨cell, c1, c2, c3, c4, c5⟩ : okA D (w.g 0) (mTy k) (mLen k) f (w.g (401 + k)) H := h5 _ _ f1
    exact ⟨cell, c1, c2, c3, c4, fun i hi => (c5 i hi).trans (by rw [f2 i hi])⟩
section GHOST
variable {l : Launch} {D : Dn} {H0 : Heap} {own nm : String} {cc : ByteArray} {nL : Nat} {ret : Option FieldType} {hh : List (Nat × Nat × Nat × Nat)} {fr lo : Nat} {ρ : Type} {oc : ρ → Nat ⊕ Option Value} {w0 w : St} {res : Option (ρ × St)} {pc : Nat} {ls : List (Nat × LV)} {st : List Value}
theorem V.ghost {w2 : St} (hg : w2.g = w.g) (hn : w2.n = w.n) (hs : w2.sl = w.sl) (hr : ∀ H, Rel D H0 w H → Rel D H0 w2 H) (k : V l D H0 own nm cc nL ret hh fr lo oc w0 res pc ls st w2) : V l D H0 own nm cc nL ret hh fr lo oc w0 res pc ls st w := by
  intro r w1 hres
  obtain ⟨⟨k1, k3, k4⟩, k2⟩ := k r w1 hres
  refine ⟨⟨k1.trans hg, by omega, by omega⟩, fun p e R s m args below meth c H locs la hC h1 h2 h3 h4 h5 h6 h7 h8 => ?_⟩
  have := k2 p e R s m args below meth c H locs la hC h1 h2 (hg.trans h3) (by omega) (by omega) (hr H h6) h7 h8
  rw [hn, hs] at this
  exact this
theorem r_toM {g : St → Option (ρ × St)} (k : ∀ w2, V l D H0 own nm cc nL ret hh fr lo oc w0 (g w2) pc ls st w2) : V l D H0 own nm cc nL ret hh fr lo oc w0 (toM w g) pc ls st w := by
  refine r_gdC (fun hm => ?_)
  exact V.ghost (w2 := toMw w (rdM w)) rfl rfl rfl (fun H h => h.toM hm) (k _)
end GHOST
