theorem okP_kept {D : Dn} {g0 ci a : Nat} {fs : List Value} {H H1 : Heap} (h : okP D g0 ci fs a H) (e : H1[a]? = H[a]?) : okP D g0 ci fs a H1 := by
  obtain ⟨r, cell, h1, h2, h3, h4⟩ := h
  exact ⟨r, cell, h1, h2, e.trans h3, h4⟩
theorem okA_kept {D : Dn} {g0 t n a : Nat} {f : Nat → Value} {H H1 : Heap} (h : okA D g0 t n f a H) (e : H1[a]? = H[a]?) : okA D g0 t n f a H1 := by
  obtain ⟨cell, h3, h4⟩ := h
  exact ⟨cell, e.trans h3, h4⟩
theorem okP_lt {D : Dn} {g0 ci a : Nat} {fs : List Value} {H : Heap} (h : okP D g0 ci fs a H) : a < H.size := by
  obtain ⟨r, cell, h1, h2, h3, h4⟩ := h
  exact (Array.getElem?_eq_some_iff.mp h3).1
theorem okA_lt {D : Dn} {g0 t n a : Nat} {f : Nat → Value} {H : Heap} (h : okA D g0 t n f a H) : a < H.size := by
  obtain ⟨cell, h3, h4⟩ := h
  exact (Array.getElem?_eq_some_iff.mp h3).1
theorem okO_kept {g : Nat → Nat} {D : Dn} {own a : Nat} {o : Ob} {H H1 : Heap} (h : okO g D own a o H) (e : H1[a]? = H[a]?) (e2 : hid o = true → H1[own]? = H[own]?) : okO g D own a o H1 := by
  rcases o with ⟨ci, fs⟩ | ⟨t, n, f⟩ | ⟨mod, cap, xs⟩ | xs | ⟨cap, cs⟩ | cs
  · exact okP_kept h e
  · exact okA_kept h e
  · obtain ⟨h1, h2, h3, h4⟩ := h
    refine ⟨okP_kept h1 e, h2, h3, fun hc => ?_⟩
    obtain ⟨f, h5, h6⟩ := h4 hc
    exact ⟨f, okA_kept h5 (e2 (by simp [hid, hc])), h6⟩
  · obtain ⟨hh, f, h1, h2, h3, h4, h5⟩ := h
    exact ⟨hh, f, h1, h2, okP_kept h3 e, okA_kept h4 (e2 rfl), h5⟩
  · obtain ⟨h2, h3, mb, f, h1, h4, h5⟩ := h
    exact ⟨h2, h3, mb, f, okP_kept h1 e, okA_kept h4 (e2 rfl), h5⟩
  · obtain ⟨h1, h2, f, h4, h5⟩ := h
    exact ⟨okP_kept h1 e, h2, f, okA_kept h4 (e2 rfl), h5⟩
theorem okO_lt {g : Nat → Nat} {D : Dn} {own a : Nat} {o : Ob} {H : Heap} (h : okO g D own a o H) : a < H.size := by
  rcases o with ⟨ci, fs⟩ | ⟨t, n, f⟩ | ⟨mod, cap, xs⟩ | xs | ⟨cap, cs⟩ | cs
  · exact okP_lt h
  · exact okA_lt h
  · exact okP_lt h.1
  · obtain ⟨hh, f, h1, h2, h3, h4, h5⟩ := h
    exact okP_lt h3
  · obtain ⟨h2, h3, mb, f, h1, h4, h5⟩ := h
    exact okP_lt h1
  · exact okP_lt h.1
theorem okO_own {g : Nat → Nat} {D : Dn} {own own1 a : Nat} {o : Ob} {H : Heap} (ho : hid o = false) (h : okO g D own a o H) : okO g D own1 a o H := by
  rcases o with ⟨ci, fs⟩ | ⟨t, n, f⟩ | ⟨mod, cap, xs⟩ | xs | ⟨cap, cs⟩ | cs
  · exact h
  · exact h
  · have hc : cap = 0 := by simpa [hid] using ho
    subst hc
    exact ⟨h.1, h.2.1, h.2.2.1, fun z => absurd rfl z⟩
  · cases ho
  · cases ho
  · cases ho
theorem okM_kept {g : Nat → Nat} {D : Dn} {M : MS} {H H1 : Heap} (h : okM g D M H) (e : ∀ q, mReg g q → H1[q]? = H[q]?) : okM g D M H1 :=
  ⟨okP_kept h.1 (e _ (Or.inl rfl)), fun k h1 h2 => okA_kept (h.2.1 k h1 h2) (e _ (Or.inr ⟨k, h1, h2, rfl⟩)), h.2.2⟩
theorem upO_self {f : Nat → Option Ob} {a : Nat} {o : Ob} : upO f a o a = some o := by simp [upO]
theorem upO_ne {f : Nat → Option Ob} {a b : Nat} {o : Ob} (h : b ≠ a) : upO f a o b = f b := by simp [upO, h]
theorem Rel.lt {D : Dn} {H0 H : Heap} {w : St} {a : Nat} {o : Ob} (h : Rel D H0 w H) (hm : w.mp a = some o) : a < w.n := by
  obtain ⟨h1, -, -, -, own, h5, -⟩ := h
  rw [← h1]
  exact okO_lt (h5 a o hm)
theorem Rel.fresh {D : Dn} {H0 H : Heap} {w : St} {a : Nat} (h : Rel D H0 w H) (ha : w.n ≤ a) : w.mp a = none := by
  cases hm : w.mp a with
  | none => rfl
  | some o => exact absurd (h.lt hm) (by omega)
/-- one cell that is told is written -/
theorem Rel.set {D : Dn} {H0 H H1 : Heap} {w : St} {a : Nat} {o o1 : Ob} (h : Rel D H0 w H) (hm : w.mp a = some o) (ho1 : hid o1 = false) (ha : w.g 0 ≤ a) (z : H1.size = H.size) (e : ∀ q : Nat, q ≠ a → H1[q]? = H[q]?) (hk : okO w.g D 0 a o1 H1) : Rel D H0 (w.set a o1) H1 := by
  obtain ⟨h1, h2, h3, h4, own, h5, h6, h7, h8⟩ := h
  refine ⟨z.trans h1, h2, by rw [z]; exact h3, fun q hq => (e q (by have : w.g 0 = H0.size := h2; omega)).trans (h4 q hq), own, ?_, ?_, ?_, ?_⟩
  · intro b p hb
    show okO w.g D (own b) b p H1
    by_cases hba : b = a
    · subst hba
      have : p = o1 := by
        have q : upO w.mp b o1 b = some p := hb
        rw [upO_self] at q
        exact (Option.some.inj q).symm
      subst this
      exact okO_own ho1 hk
    · have hb' : w.mp b = some p := by
        have q : upO w.mp a o1 b = some p := hb
        rwa [upO_ne hba] at q
      refine okO_kept (h5 b p hb') (e b hba) (fun hp => e _ (fun q => ?_))
      have := (h6 b p hb' hp).2.2.1
      rw [q, hm] at this
      cases this
  · intro b p hb hp
    by_cases hba : b = a
    · subst hba
      have q : upO w.mp b o1 b = some p := hb
      rw [upO_self] at q
      cases q
      rw [ho1] at hp
      cases hp
    · have hb' : w.mp b = some p := by
        have q : upO w.mp a o1 b = some p := hb
        rwa [upO_ne hba] at q
      obtain ⟨g1, g2, g3, g4⟩ := h6 b p hb' hp
      refine ⟨g1, by rw [z]; exact g2, ?_, g4⟩
      show upO w.mp a o1 (own b) = none
      rw [upO_ne (fun q => by rw [q, hm] at g3; cases g3)]
      exact g3
  · intro b b' p p' hb hb' hp hp'
    have f1 : ∀ x y, upO w.mp a o1 x = some y → hid y = true → w.mp x = some y := by
      intro x y hx hy
      by_cases hxa : x = a
      · subst hxa
        rw [upO_self] at hx
        cases hx
        rw [ho1] at hy
        cases hy
      · rwa [upO_ne hxa] at hx
    exact h7 b b' p p' (f1 _ _ hb hp) (f1 _ _ hb' hp') hp hp'
  · intro M hM
    obtain ⟨g1, g2⟩ := h8 M hM
    have hne : ∀ q, mReg w.g q → q ≠ a := fun q hq r => by
      have := g2 q hq
      rw [r, hm] at this
      cases this
    exact ⟨okM_kept g1 (fun q hq => e q (hne q hq)), fun q hq => by
      show upO w.mp a o1 q = none
      rw [upO_ne (hne q hq)]
      exact g2 q hq⟩
/-- a cell is made -/
theorem Rel.new {D : Dn} {H0 H H1 : Heap} {w : St} {o1 : Ob} (k : Nat) (h : Rel D H0 w H) (ho1 : hid o1 = false) (z : H1.size = H.size + 1) (e : ∀ q : Nat, q < H.size → H1[q]? = H[q]?) (hk : okO w.g D 0 w.n o1 H1) : Rel D H0 (w.new o1 k) H1 := by
  have hfr : ∀ a, w.n ≤ a → w.mp a = none := fun a ha => h.fresh ha
  obtain ⟨h1, h2, h3, h4, own, h5, h6, h7, h8⟩ := h
  have f1 : ∀ x y, upO w.mp w.n o1 x = some y → hid y = true → w.mp x = some y := by
    intro x y hx hy
    by_cases hxa : x = w.n
    · subst hxa
      rw [upO_self] at hx
      cases hx
      rw [ho1] at hy
      cases hy
    · rwa [upO_ne hxa] at hx
  refine ⟨by rw [z, h1]; rfl, h2, by omega, fun q hq => (e q (by omega)).trans (h4 q hq), own, ?_, ?_, ?_, ?_⟩
  · intro b p hb
    show okO w.g D (own b) b p H1
    by_cases hba : b = w.n
    · subst hba
      have : p = o1 := by
        have q : upO w.mp w.n o1 w.n = some p := hb
        rw [upO_self] at q
        exact (Option.some.inj q).symm
      subst this
      exact okO_own ho1 hk
    · have hb' : w.mp b = some p := by
        have q : upO w.mp w.n o1 b = some p := hb
        rwa [upO_ne hba] at q
      exact okO_kept (h5 b p hb') (e b (okO_lt (h5 b p hb'))) (fun hp => e _ (h6 b p hb' hp).2.1)
  · intro b p hb hp
    obtain ⟨g1, g2, g3, g4⟩ := h6 b p (f1 _ _ hb hp) hp
    refine ⟨g1, by rw [z]; omega, ?_, g4⟩
    show upO w.mp w.n o1 (own b) = none
    rw [upO_ne (by omega)]
    exact g3
  · intro b b' p p' hb hb' hp hp'
    exact h7 b b' p p' (f1 _ _ hb hp) (f1 _ _ hb' hp') hp hp'
  · intro M hM
    obtain ⟨g1, g2⟩ := h8 M hM
    have hlt : ∀ q, mReg w.g q → q < H.size := by
      intro q hq
      rcases hq with rfl | ⟨k, k1, k2, rfl⟩
      · exact okP_lt g1.1
      · exact okA_lt (g1.2.1 k k1 k2)
    exact ⟨okM_kept g1 (fun q hq => e q (hlt q hq)), fun q hq => by
      show upO w.mp w.n o1 q = none
      rw [upO_ne (by have := hlt q hq; omega)]
      exact g2 q hq⟩
