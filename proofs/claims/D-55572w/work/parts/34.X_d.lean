set_option maxRecDepth 100000
set_option maxHeartbeats 4000000
theorem gf_X1_507 : GF RX1 507 [0] 1 := GF1 (C := RX1) (T := TX1) (N := 8) (ci := 0) rfl in_X1 (by decide) (Or.inl q262) (Or.inl rfl)
noncomputable def f_X1_character (G : Nat) (a0 : Rf) (a1 : Int32) (w : St) : Option ((Nat ⊕ Int32) × St) :=
  bo (getr [0] a0 4 w) fun x3 =>
  gd (cls x3 w = some 18) <|
  bd (fB_length x3 w) fun x6 w6 =>
  bd (f_X1_isBetween G a1 0 (x6 - 1) w6) fun x11 w11 =>
  bx (f_X1_checkIndex G x11 w11) fun _ w14 =>
  bo (getr [0] a0 4 w14) fun x18 =>
  gd (cls x18 w14 = some 18) <|
  bd (fB_charAt x18 a1 w14) fun x22 w22 =>
  gd (0 ≤ x22 ∧ x22 ≤ 65535) (some ((Sum.inr x22), w22))
noncomputable def f_X1_turns_b46 (G : Nat) (k13 : Int32 → Rf → St → Option (Int32 × St)) (v2 : Rf) (s0 : Int32) (s1 : Int32) (w : St) : Option (Int32 × St) :=
  k13 (s1 + s0) v2 w
noncomputable def f_X1_turns_l13 (G : Nat) (k51 : Int32 → St → Option (Int32 × St)) : Nat → Int32 → Rf → St → Option (Int32 × St)
  | 0, _, _, _ => none
  | F + 1, v1, v2, w =>
  gd (cls v2 w = some 16) <|
  bd (fI_hasNext v2 w) fun x14 w14 =>
  if x14 = 0 then (k51 v1 w14) else
  (gd (cls v2 w14 = some 16) <|
  bd (fI_next v2 w14) fun x23 w23 =>
  gd (okc [3] x23 w23 = true) <|
  bo (geti [3] x23 1 w23) fun x34 =>
  if x34 = ((-1)) then (f_X1_turns_b46 G (fun v1 v2 w => f_X1_turns_l13 G k51 F v1 v2 w)  v2 0 v1 w23) else
  (f_X1_turns_b46 G (fun v1 v2 w => f_X1_turns_l13 G k51 F v1 v2 w)  v2 1 v1 w23))
noncomputable def f_X1_turns_b51 (G : Nat) (v1 : Int32) (w : St) : Option (Int32 × St) :=
  some (v1, w)
noncomputable def f_X1_turns (G : Nat) (a0 : Rf) (w : St) : Option (Int32 × St) :=
  bo (getr [0] a0 0 w) fun x3 =>
  bo (getr [1] x3 0 w) fun x6 =>
  gd (cls x6 w = some 15) <|
  bd (fL_iterator x6 w) fun x9 w9 =>
  f_X1_turns_l13 G (fun v1 w => f_X1_turns_b51 G  v1 w) G 0 x9 w9
noncomputable def f_X1_lateEvents_b42 (G : Nat) (k10 : Int32 → Rf → St → Option (Int32 × St)) (v2 : Rf) (s0 : Int32) (s1 : Int32) (w : St) : Option (Int32 × St) :=
  k10 (s1 + s0) v2 w
noncomputable def f_X1_lateEvents_l10 (G : Nat) (k47 : Int32 → St → Option (Int32 × St)) : Nat → Int32 → Rf → St → Option (Int32 × St)
  | 0, _, _, _ => none
  | F + 1, v1, v2, w =>
  gd (cls v2 w = some 16) <|
  bd (fI_hasNext v2 w) fun x11 w11 =>
  if x11 = 0 then (k47 v1 w11) else
  (gd (cls v2 w11 = some 16) <|
  bd (fI_next v2 w11) fun x20 w20 =>
  gd (okc [7, 9] x20 w20 = true) <|
  bd (dsp x20 w20 fun c31 => if c31 = 7 then (f_X10_late G x20 w20) else if c31 = 9 then (f_X10_late G x20 w20) else none) fun x31 w31 =>
  if x31 ≤ 0 then (f_X1_lateEvents_b42 G (fun v1 v2 w => f_X1_lateEvents_l10 G k47 F v1 v2 w)  v2 0 v1 w31) else
  (f_X1_lateEvents_b42 G (fun v1 v2 w => f_X1_lateEvents_l10 G k47 F v1 v2 w)  v2 1 v1 w31))
noncomputable def f_X1_lateEvents_b47 (G : Nat) (v1 : Int32) (w : St) : Option (Int32 × St) :=
  some (v1, w)
noncomputable def f_X1_lateEvents (G : Nat) (a0 : Rf) (w : St) : Option (Int32 × St) :=
  bo (getr [6] a0 0 w) fun x3 =>
  gd (cls x3 w = some 15) <|
  bd (fL_iterator x3 w) fun x6 w6 =>
  f_X1_lateEvents_l10 G (fun v1 w => f_X1_lateEvents_b47 G  v1 w) G 0 x6 w6
noncomputable def f_X1_own_l13 (G : Nat) (k42 : Int32 → St → Option (Int32 × St)) : Nat → Int32 → Rf → St → Option (Int32 × St)
  | 0, _, _, _ => none
  | F + 1, v1, v2, w =>
  gd (cls v2 w = some 16) <|
  bd (fI_hasNext v2 w) fun x14 w14 =>
  if x14 = 0 then (k42 v1 w14) else
  (gd (cls v2 w14 = some 16) <|
  bd (fI_next v2 w14) fun x23 w23 =>
  gd (okc [3] x23 w23 = true) <|
  gd (cls x23 w23 = some 3) <|
  bd (f_X5_own G x23 w23) fun x34 w34 =>
  f_X1_own_l13 G k42 F (v1 + x34) v2 w34)
noncomputable def f_X1_own_b42 (G : Nat) (v1 : Int32) (w : St) : Option (Int32 × St) :=
  some (v1, w)
noncomputable def f_X1_own (G : Nat) (a0 : Rf) (w : St) : Option (Int32 × St) :=
  bo (getr [0] a0 0 w) fun x3 =>
  bo (getr [1] x3 0 w) fun x6 =>
  gd (cls x6 w = some 15) <|
  bd (fL_iterator x6 w) fun x9 w9 =>
  f_X1_own_l13 G (fun v1 w => f_X1_own_b42 G  v1 w) G 0 x9 w9
noncomputable def f_X1_latest_l10 (G : Nat) (k41 : Int32 → St → Option (Int32 × St)) : Nat → Int32 → Rf → St → Option (Int32 × St)
  | 0, _, _, _ => none
  | F + 1, v1, v2, w =>
  gd (cls v2 w = some 16) <|
  bd (fI_hasNext v2 w) fun x11 w11 =>
  if x11 = 0 then (k41 v1 w11) else
  (gd (cls v2 w11 = some 16) <|
  bd (fI_next v2 w11) fun x20 w20 =>
  gd (okc [7, 9] x20 w20 = true) <|
  bd (dsp x20 w20 fun c31 => if c31 = 7 then (f_X10_late G x20 w20) else if c31 = 9 then (f_X10_late G x20 w20) else none) fun x31 w31 =>
  bd (f_J15_max G v1 x31 w31) fun x34 w34 =>
  f_X1_latest_l10 G k41 F x34 v2 w34)
noncomputable def f_X1_latest_b41 (G : Nat) (v1 : Int32) (w : St) : Option (Int32 × St) :=
  some (v1, w)
noncomputable def f_X1_latest (G : Nat) (a0 : Rf) (w : St) : Option (Int32 × St) :=
  bo (getr [6] a0 0 w) fun x3 =>
  gd (cls x3 w = some 15) <|
  bd (fL_iterator x3 w) fun x6 w6 =>
  f_X1_latest_l10 G (fun v1 w => f_X1_latest_b41 G  v1 w) G 0 x6 w6
noncomputable def f_X1_account (G : Nat) (a0 : Rf) (a1 : Int32) (w : St) : Option ((Nat ⊕ Int32) × St) :=
  bd (f_X1_isBetween G a1 0 11 w) fun x4 w4 =>
  bx (f_X1_check G x4 w4) fun _ w7 =>
  if a1 = 0 then (bo (getr [0] a0 0 w7) fun x69 =>
  bo (getr [1] x69 0 w7) fun x72 =>
  gd (cls x72 w7 = some 15) <|
  bd (fL_size x72 w7) fun x75 w75 =>
  some ((Sum.inr x75), w75)) else
  (if a1 = 1 then (gd (cls a0 w7 = some 0) <|
  bd (f_X1_net G a0 w7) fun x80 w80 =>
  bo (getr [6] x80 0 w80) fun x83 =>
  gd (cls x83 w80 = some 15) <|
  bd (fL_size x83 w80) fun x86 w86 =>
  some ((Sum.inr x86), w86)) else
  (if a1 = 2 then (bo (getr [0] a0 0 w7) fun x91 =>
  bo (getr [1] x91 1 w7) fun x94 =>
  gd (cls x94 w7 = some 15) <|
  bd (fL_size x94 w7) fun x97 w97 =>
  some ((Sum.inr x97), w97)) else
  (if a1 = 3 then (gd (cls a0 w7 = some 0) <|
  bd (f_X1_net G a0 w7) fun x102 w102 =>
  gd (cls x102 w102 = some 6) <|
  bd (f_X9_kept G x102 w102) fun x105 w105 =>
  some ((Sum.inr x105), w105)) else
  (if a1 = 4 then (gd (cls a0 w7 = some 0) <|
  bd (f_X1_turns G a0 w7) fun x110 w110 =>
  some ((Sum.inr x110), w110)) else
  (if a1 = 5 then (gd (cls a0 w7 = some 0) <|
  bd (f_X1_net G a0 w7) fun x115 w115 =>
  bd (f_X1_lateEvents G x115 w115) fun x118 w118 =>
  some ((Sum.inr x118), w118)) else
  (if a1 = 6 then (gd (cls a0 w7 = some 0) <|
  bd (f_X1_own G a0 w7) fun x123 w123 =>
  some ((Sum.inr x123), w123)) else
  (if a1 = 7 then (gd (cls a0 w7 = some 0) <|
  bd (f_X1_net G a0 w7) fun x128 w128 =>
  bd (f_X1_latest G x128 w128) fun x131 w131 =>
  some ((Sum.inr x131), w131)) else
  (if a1 = 8 then (bo (getr [0] a0 0 w7) fun x136 =>
  bo (geti [1] x136 2 w7) fun x139 =>
  some ((Sum.inr x139), w7)) else
  (if a1 = 9 then (bo (getr [0] a0 0 w7) fun x144 =>
  bo (geti [1] x144 3 w7) fun x147 =>
  some ((Sum.inr x147), w7)) else
  (if a1 = 10 then (bo (getr [0] a0 3 w7) fun x152 =>
  gd (cls x152 w7 = some 18) <|
  bd (fB_length x152 w7) fun x155 w155 =>
  some ((Sum.inr x155), w155)) else
  (bo (getr [0] a0 2 w7) fun x160 =>
  gd (cls x160 w7 = some 17) <|
  bd (fD_size x160 w7) fun x163 w163 =>
  some ((Sum.inr x163), w163))))))))))))
noncomputable def f_X1_checkMany (G : Nat) (a0 : Int32) (w : St) : Option ((Nat ⊕ Unit) × St) :=
  if a0 = 0 then (some (Sum.inl w.n, (enew 25 w))) else
  (some ((Sum.inr (())), w))
noncomputable def f_X1_meanLate (G : Nat) (a0 : Rf) (w : St) : Option ((Nat ⊕ UInt64) × St) :=
  gd (cls a0 w = some 0) <|
  bd (f_X1_net G a0 w) fun x1 w1 =>
  bo (getr [6] x1 0 w1) fun x6 =>
  gd (cls x6 w1 = some 15) <|
  bd (fL_size x6 w1) fun x9 w9 =>
  bx (f_X1_checkMany G x9 w9) fun _ w12 =>
  gd (cls x1 w12 = some 6) <|
  bd (f_X9_total G x1 w12) fun x16 w16 =>
  bo (getr [6] x1 0 w16) fun x21 =>
  gd (cls x21 w16 = some 15) <|
  bd (fL_size x21 w16) fun x24 w24 =>
  gdC (vf_n64 (FP.ddiv (FP.i2d x16) (FP.i2d x24))) <|
  some ((Sum.inr (FP.ddiv (FP.i2d x16) (FP.i2d x24))), w24)
noncomputable def f_X1_keptShare (G : Nat) (a0 : Rf) (w : St) : Option ((Nat ⊕ UInt32) × St) :=
  bo (getr [0] a0 0 w) fun x1 =>
  bo (getr [1] x1 1 w) fun x4 =>
  gd (cls x4 w = some 15) <|
  bd (fL_size x4 w) fun x7 w7 =>
  bx (f_X1_checkMany G x7 w7) fun _ w10 =>
  gd (cls a0 w10 = some 0) <|
  bd (f_X1_net G a0 w10) fun x14 w14 =>
  gd (cls x14 w14 = some 6) <|
  bd (f_X9_kept G x14 w14) fun x17 w17 =>
  bo (getr [0] a0 0 w17) fun x22 =>
  bo (getr [1] x22 1 w17) fun x25 =>
  gd (cls x25 w17 = some 15) <|
  bd (fL_size x25 w17) fun x28 w28 =>
  gdC (vf_n32 (FP.fdiv (FP.i2f x17) (FP.i2f x28))) <|
  some ((Sum.inr (FP.fdiv (FP.i2f x17) (FP.i2f x28))), w28)
noncomputable def f_X1_undo_b15 (G : Nat) (v0 : Rf) (s0 : Int32) (w : St) : Option ((Nat ⊕ Int32) × St) :=
  bx (f_X1_checkState G s0 w) fun _ w15 =>
  bo (getr [0] v0 2 w15) fun x20 =>
  gd (cls x20 w15 = some 17) <|
  bd (fD_removeLast x20 w15) fun x23 w23 =>
  gd (okc [1] x23 w23 = true) <|
  bo (putr [0] v0 0 x23 w23) fun w29 =>
  bo (getr [0] v0 2 w29) fun x33 =>
  gd (cls x33 w29 = some 17) <|
  bd (fD_size x33 w29) fun x36 w36 =>
  some ((Sum.inr x36), w36)
noncomputable def f_X1_undo (G : Nat) (a0 : Rf) (w : St) : Option ((Nat ⊕ Int32) × St) :=
  bo (getr [0] a0 2 w) fun x1 =>
  gd (cls x1 w = some 17) <|
  bd (fD_isEmpty x1 w) fun x4 w4 =>
  if x4 = 0 then (f_X1_undo_b15 G  a0 1 w4) else
  (f_X1_undo_b15 G  a0 0 w4)
noncomputable def f_X1_restore_b12 (G : Nat) (v0 : Rf) (s0 : Int32) (w : St) : Option ((Nat ⊕ Int32) × St) :=
  bx (f_X1_checkState G s0 w) fun _ w12 =>
  bo (getr [0] v0 1 w12) fun x17 =>
  gd (cls x17 w12 = some 1) <|
  bd (f_X2_copy G x17 w12) fun x20 w20 =>
  bo (putr [0] v0 0 x20 w20) fun w23 =>
  bo (getr [0] v0 2 w23) fun x27 =>
  gd (cls x27 w23 = some 17) <|
  bd (fD_clear x27 w23) fun _ w30 =>
  bo (getr [0] v0 0 w30) fun x34 =>
  bo (getr [1] x34 0 w30) fun x37 =>
  gd (cls x37 w30 = some 15) <|
  bd (fL_size x37 w30) fun x40 w40 =>
  some ((Sum.inr x40), w40)
noncomputable def f_X1_restore (G : Nat) (a0 : Rf) (w : St) : Option ((Nat ⊕ Int32) × St) :=
  bo (getr [0] a0 1 w) fun x1 =>
  if x1 = none then (f_X1_restore_b12 G  a0 0 w) else
  (f_X1_restore_b12 G  a0 1 w)
abbrev V_X1_character (l : Launch) (D : Dn) (H0 : Heap) (w0 : St) (res : Option ((Nat ⊕ Int32) × St)) (pc : Nat) (ls : List (Nat × LV)) (st : List Value) (w : St) : Prop := V l D H0 RX1 "character" cX1_character 2 (some (.char)) [] 31 3021 (ocX rvI) w0 res pc ls st w
theorem t_X1_character {l : Launch} {D : Dn} {H0 : Heap} {w0 : St} (hl : l.stackTraces = false) (G : Nat) (a0 : Rf) (a1 : Int32) (w : St) : V_X1_character l D H0 w0 (f_X1_character G a0 a1 w) 0 [(0, lR a0), (1, lI a1)] [] w := by
  unfold f_X1_character
  refine r_iload_n 1 1 dX1_character_0 rfl rfl rfl ?_
  refine r_iconst (v := 0) 2 dX1_character_1 rfl rfl ?_
  refine r_aload_n 3 0 dX1_character_2 rfl rfl rfl ?_
  refine r_getr 6 gf_X1_30 dX1_character_3 rfl (fun x3 => ?_)
  refine r_gd (fun hc6 => ?_)
  refine r_callV (n := 0) (as := []) (rest := [.int 0, .int a1]) 9 18 (sB_length hl x3 w) hc6 rfl (lw_V q1203 q1036 q2706 q107 q1037) (by decide +kernel) (by decide) rfl rfl (cat2_i (cat2_i (cat2_nil (k := 0)))) rfl dX1_character_6 rfl (fun x6 w6 => ?_)
  refine r_iconst (v := 1) 10 dX1_character_9 rfl rfl ?_
  refine r_isub 11 dX1_character_10 rfl ?_
  refine r_callS (n := 3) (as := [lI a1, lI 0, lI (x6 - 1)]) (rest := []) 14 (s_X1_isBetween hl G a1 0 (x6 - 1) w6) (lw_S q1363 q1364 q100 q1365) (by decide +kernel) (by decide) rfl rfl (cat2_nil (k := 0)) rfl dX1_character_11 rfl (fun x11 w11 => ?_)
  rw [bx_bh]
  refine r_callHS (n := 1) (as := [lI x11]) (rest := []) 17 (s_X1_checkIndex hl G x11 w11) (lw_S q1609 q1610 q100 q1611) (by decide +kernel) (by decide) rfl rfl (cat2_nil (k := 0)) rfl dX1_character_14 rfl (fun q9 w14 => r_pass (fun _ => rfl) rfl) (fun _ w14 => ?_)
  refine r_aload_n 18 0 dX1_character_17 rfl rfl rfl ?_
  refine r_getr 21 gf_X1_30 dX1_character_18 rfl (fun x18 => ?_)
  refine r_iload_n 22 1 dX1_character_21 rfl rfl rfl ?_
  refine r_gd (fun hc22 => ?_)
  refine r_callV (n := 1) (as := [lI a1]) (rest := []) 25 18 (sB_charAt hl x18 a1 w14) hc22 rfl (lw_V q2059 q2060 q2061 q107 q2062) (by decide +kernel) (by decide) rfl rfl (cat2_nil (k := 0)) rfl dX1_character_22 rfl (fun x22 w22 => ?_)
  exact r_cretG rfl rfl dX1_character_25
theorem s_X1_character {l : Launch} {D : Dn} {H0 : Heap} (hl : l.stackTraces = false) (G : Nat) (a0 : Rf) (a1 : Int32) (w : St) : SimX l D H0 yX1_character (ws_ yX1_character cX1_character 2 (some (.char))) 31 3021 (ocX rvI) [lR a0, lI a1] w (f_X1_character G a0 a1 w) := SimX.ofV (y := yX1_character) (by decide) rfl (t_X1_character hl G a0 a1 w)
abbrev V_X1_turns (l : Launch) (D : Dn) (H0 : Heap) (w0 : St) (res : Option (Int32 × St)) (pc : Nat) (ls : List (Nat × LV)) (st : List Value) (w : St) : Prop := V l D H0 RX1 "turns" cX1_turns 4 (some (.int)) [] 31 3022 (fun x => .inr (rvI x)) w0 res pc ls st w
theorem t_X1_turns_b46 {l : Launch} {D : Dn} {H0 : Heap} {w0 : St} (hl : l.stackTraces = false) (G : Nat) (k13 : Int32 → Rf → St → Option (Int32 × St)) (h13 : ∀ v1 v2 w, V_X1_turns l D H0 w0 (k13 v1 v2 w) 13 [(1, lI v1), (2, lR v2)] [] w) (v2 : Rf) (s0 : Int32) (s1 : Int32) (w : St) : V_X1_turns l D H0 w0 (f_X1_turns_b46 G k13 v2 s0 s1 w) 46 [(2, lR v2)] [.int s0, .int s1] w := by
  unfold f_X1_turns_b46
  refine r_iadd 47 dX1_turns_46 rfl ?_
  refine r_istore_n (ls2 := [(1, lI (s1 + s0)), (2, lR v2)]) 48 dX1_turns_47 rfl (by decide) rfl rfl ?_
  refine r_goto 13 dX1_turns_48 (by decide) ?_
  exact r_lsP [0, 1] rfl (h13 (s1 + s0) v2 w)
theorem t_X1_turns_l13 {l : Launch} {D : Dn} {H0 : Heap} {w0 : St} (hl : l.stackTraces = false) (G : Nat) (k51 : Int32 → St → Option (Int32 × St)) (h51 : ∀ v1 w, V_X1_turns l D H0 w0 (k51 v1 w) 51 [(1, lI v1)] [] w) : ∀ (F : Nat) (v1 : Int32) (v2 : Rf) (w : St), V_X1_turns l D H0 w0 (f_X1_turns_l13 G k51 F v1 v2 w) 13 [(1, lI v1), (2, lR v2)] [] w := by
  intro F
  induction F with
  | zero => intros; exact r_none
  | succ F ih =>
    intro v1 v2 w
    unfold f_X1_turns_l13
    refine r_aload_n 14 1 dX1_turns_13 rfl rfl rfl ?_
    refine r_gd (fun hc14 => ?_)
    refine r_callF (x2 := ⟨"java/util/Iterator", "hasNext", "()Z"⟩) (n := 0) (as := []) (rest := []) 19 16 (sI_hasNext hl v2 w) hc14 rfl (lw_app (l4 q1653 q584 q586 q116) (lw_meth q588)) (List.mem_of_getElem? (i := 0) rfl) (by decide +kernel) (by decide) rfl rfl (cat2_nil (k := 0)) rfl dX1_turns_14 rfl (fun x14 w14 => ?_)
    refine r_if_eq 51 22 dX1_turns_19 (by decide) rfl ?_ ?_
    · exact r_lsP [0] rfl (h51 v1 w14)
    refine r_aload_n 23 1 dX1_turns_22 rfl rfl rfl ?_
    refine r_gd (fun hc23 => ?_)
    refine r_callF (x2 := ⟨"java/util/Iterator", "next", "()Ljava/lang/Object;"⟩) (n := 0) (as := []) (rest := []) 28 16 (sI_next hl v2 w14) hc23 rfl (lw_app (l4 q1655 q593 q595 q116) (lw_meth q597)) (List.mem_of_getElem? (i := 1) rfl) (by decide +kernel) (by decide) rfl rfl (cat2_nil (k := 0)) rfl dX1_turns_23 rfl (fun x23 w23 => ?_)
    refine r_cast 31 (CA_cons (c0 := 3) rfl (Or.inl rfl) (CA_nil)) q1463 dX1_turns_28 rfl ?_
    refine r_astore_n (ls2 := [(3, lR x23), (1, lI v1), (2, lR v2)]) 32 dX1_turns_31 rfl (by decide) rfl rfl ?_
    refine r_iload_n 33 1 dX1_turns_32 rfl rfl rfl ?_
    refine r_aload_n 34 0 dX1_turns_33 rfl rfl rfl ?_
    refine r_geti 37 gf_X1_147 dX1_turns_34 rfl (fun x34 => ?_)
    refine r_iconst (v := (-1)) 38 dX1_turns_37 rfl rfl ?_
    refine r_icmp_ne 45 41 dX1_turns_38 (by decide) rfl ?_ ?_
    · refine r_iconst (v := 1) 46 dX1_turns_45 rfl rfl ?_
      exact r_lsP [2] rfl (t_X1_turns_b46 hl G (fun v1 v2 w => f_X1_turns_l13 G k51 F v1 v2 w) (fun v1 v2 w => ih v1 v2 w)  v2 1 v1 w23)
    refine r_iconst (v := 0) 42 dX1_turns_41 rfl rfl ?_
    refine r_goto 46 dX1_turns_42 (by decide) ?_
    exact r_lsP [2] rfl (t_X1_turns_b46 hl G (fun v1 v2 w => f_X1_turns_l13 G k51 F v1 v2 w) (fun v1 v2 w => ih v1 v2 w)  v2 0 v1 w23)
theorem t_X1_turns_b51 {l : Launch} {D : Dn} {H0 : Heap} {w0 : St} (hl : l.stackTraces = false) (G : Nat) (v1 : Int32) (w : St) : V_X1_turns l D H0 w0 (f_X1_turns_b51 G v1 w) 51 [(1, lI v1)] [] w := by
  unfold f_X1_turns_b51
  refine r_iload_n 52 0 dX1_turns_51 rfl rfl rfl ?_
  exact r_iret rfl rfl dX1_turns_52
theorem t_X1_turns {l : Launch} {D : Dn} {H0 : Heap} {w0 : St} (hl : l.stackTraces = false) (G : Nat) (a0 : Rf) (w : St) : V_X1_turns l D H0 w0 (f_X1_turns G a0 w) 0 [(0, lR a0)] [] w := by
  unfold f_X1_turns
  refine r_iconst (v := 0) 1 dX1_turns_0 rfl rfl ?_
  refine r_istore_n (ls2 := [(1, lI 0), (0, lR a0)]) 2 dX1_turns_1 rfl (by decide) rfl rfl ?_
  refine r_aload_n 3 1 dX1_turns_2 rfl rfl rfl ?_
  refine r_getr 6 gf_X1_10 dX1_turns_3 rfl (fun x3 => ?_)
  refine r_getr 9 gf_X1_118 dX1_turns_6 rfl (fun x6 => ?_)
  refine r_gd (fun hc9 => ?_)
  refine r_callV (n := 0) (as := []) (rest := []) 12 15 (sL_iterator hl x6 w) hc9 rfl (lw_V q1651 q557 q558 q104 q559) (by decide +kernel) (by decide) rfl rfl (cat2_nil (k := 0)) rfl dX1_turns_9 rfl (fun x9 w9 => ?_)
  refine r_astore_n (ls2 := [(2, lR x9), (1, lI 0), (0, lR a0)]) 13 dX1_turns_12 rfl (by decide) rfl rfl ?_
  exact r_lsP [1, 0] rfl (t_X1_turns_l13 hl G (fun v1 w => f_X1_turns_b51 G  v1 w) (fun v1 w => t_X1_turns_b51 hl G  v1 w) G 0 x9 w9)
theorem s_X1_turns {l : Launch} {D : Dn} {H0 : Heap} (hl : l.stackTraces = false) (G : Nat) (a0 : Rf) (w : St) : SimN l D H0 yX1_turns (ws_ yX1_turns cX1_turns 4 (some (.int))) 31 3022 rvI [lR a0] w (f_X1_turns G a0 w) := SimX.N (SimX.ofV (y := yX1_turns) (by decide) rfl (t_X1_turns hl G a0 w))
abbrev V_X1_lateEvents (l : Launch) (D : Dn) (H0 : Heap) (w0 : St) (res : Option (Int32 × St)) (pc : Nat) (ls : List (Nat × LV)) (st : List Value) (w : St) : Prop := V l D H0 RX1 "lateEvents" cX1_lateEvents 4 (some (.int)) [] 31 3022 (fun x => .inr (rvI x)) w0 res pc ls st w
theorem t_X1_lateEvents_b42 {l : Launch} {D : Dn} {H0 : Heap} {w0 : St} (hl : l.stackTraces = false) (G : Nat) (k10 : Int32 → Rf → St → Option (Int32 × St)) (h10 : ∀ v1 v2 w, V_X1_lateEvents l D H0 w0 (k10 v1 v2 w) 10 [(1, lI v1), (2, lR v2)] [] w) (v2 : Rf) (s0 : Int32) (s1 : Int32) (w : St) : V_X1_lateEvents l D H0 w0 (f_X1_lateEvents_b42 G k10 v2 s0 s1 w) 42 [(2, lR v2)] [.int s0, .int s1] w := by
  unfold f_X1_lateEvents_b42
  refine r_iadd 43 dX1_lateEvents_42 rfl ?_
  refine r_istore_n (ls2 := [(1, lI (s1 + s0)), (2, lR v2)]) 44 dX1_lateEvents_43 rfl (by decide) rfl rfl ?_
  refine r_goto 10 dX1_lateEvents_44 (by decide) ?_
  exact r_lsP [0, 1] rfl (h10 (s1 + s0) v2 w)
theorem t_X1_lateEvents_l10 {l : Launch} {D : Dn} {H0 : Heap} {w0 : St} (hl : l.stackTraces = false) (G : Nat) (k47 : Int32 → St → Option (Int32 × St)) (h47 : ∀ v1 w, V_X1_lateEvents l D H0 w0 (k47 v1 w) 47 [(1, lI v1)] [] w) : ∀ (F : Nat) (v1 : Int32) (v2 : Rf) (w : St), V_X1_lateEvents l D H0 w0 (f_X1_lateEvents_l10 G k47 F v1 v2 w) 10 [(1, lI v1), (2, lR v2)] [] w := by
  intro F
  induction F with
  | zero => intros; exact r_none
  | succ F ih =>
    intro v1 v2 w
    unfold f_X1_lateEvents_l10
    refine r_aload_n 11 1 dX1_lateEvents_10 rfl rfl rfl ?_
    refine r_gd (fun hc11 => ?_)
    refine r_callF (x2 := ⟨"java/util/Iterator", "hasNext", "()Z"⟩) (n := 0) (as := []) (rest := []) 16 16 (sI_hasNext hl v2 w) hc11 rfl (lw_app (l4 q1653 q584 q586 q116) (lw_meth q588)) (List.mem_of_getElem? (i := 0) rfl) (by decide +kernel) (by decide) rfl rfl (cat2_nil (k := 0)) rfl dX1_lateEvents_11 rfl (fun x11 w11 => ?_)
    refine r_if_eq 47 19 dX1_lateEvents_16 (by decide) rfl ?_ ?_
    · exact r_lsP [0] rfl (h47 v1 w11)
    refine r_aload_n 20 1 dX1_lateEvents_19 rfl rfl rfl ?_
    refine r_gd (fun hc20 => ?_)
    refine r_callF (x2 := ⟨"java/util/Iterator", "next", "()Ljava/lang/Object;"⟩) (n := 0) (as := []) (rest := []) 25 16 (sI_next hl v2 w11) hc20 rfl (lw_app (l4 q1655 q593 q595 q116) (lw_meth q597)) (List.mem_of_getElem? (i := 1) rfl) (by decide +kernel) (by decide) rfl rfl (cat2_nil (k := 0)) rfl dX1_lateEvents_20 rfl (fun x20 w20 => ?_)
    refine r_cast 28 (CA_cons (c0 := 7) rfl (Or.inl rfl) (CA_cons (c0 := 9) rfl (Or.inr q2711) (CA_nil))) q859 dX1_lateEvents_25 rfl ?_
    refine r_astore_n (ls2 := [(3, lR x20), (1, lI v1), (2, lR v2)]) 29 dX1_lateEvents_28 rfl (by decide) rfl rfl ?_
    refine r_iload_n 30 1 dX1_lateEvents_29 rfl rfl rfl ?_
    refine r_aload_n 31 0 dX1_lateEvents_30 rfl rfl rfl ?_
    refine r_share (st2 := fun x31 => [.int x31, .int v1]) (pc2 := 34) (fun hk => ?_) (fun x31 w31 => ?_)
    · refine r_dsp (fun c31 hc31 => ?_)
      refine r_dif (fun he => ?_) (fun _ => ?_)
      · subst he
        exact r_callV (n := 0) (as := []) (rest := [.int v1]) 34 7 (s_X10_late hl G x20 w20) hc31 rfl (lw_V q860 q843 q844 q131 q847) (by decide +kernel) (by decide) rfl rfl (cat2_i (cat2_nil (k := 0))) rfl dX1_lateEvents_31 rfl hk
      refine r_dif (fun he => ?_) (fun _ => ?_)
      · subst he
        exact r_callU (x2 := ⟨"CoachTimetable$Event", "late", "()I"⟩) (owner := "CoachTimetable$Event") (n := 0) (as := []) (rest := [.int v1]) 34 9 (s_X10_late hl G x20 w20) hc31 rfl (lw_app (l5 q860 q845 q846 q843 q131) (lw_meth q847)) rfl (by decide +kernel) (by decide) rfl rfl (cat2_i (cat2_nil (k := 0))) rfl dX1_lateEvents_31 rfl hk
      exact r_bdn
    refine r_if_le 41 37 dX1_lateEvents_34 (by decide) rfl ?_ ?_
    · refine r_iconst (v := 0) 42 dX1_lateEvents_41 rfl rfl ?_
      exact r_lsP [2] rfl (t_X1_lateEvents_b42 hl G (fun v1 v2 w => f_X1_lateEvents_l10 G k47 F v1 v2 w) (fun v1 v2 w => ih v1 v2 w)  v2 0 v1 w31)
    refine r_iconst (v := 1) 38 dX1_lateEvents_37 rfl rfl ?_
    refine r_goto 42 dX1_lateEvents_38 (by decide) ?_
    exact r_lsP [2] rfl (t_X1_lateEvents_b42 hl G (fun v1 v2 w => f_X1_lateEvents_l10 G k47 F v1 v2 w) (fun v1 v2 w => ih v1 v2 w)  v2 1 v1 w31)
theorem t_X1_lateEvents_b47 {l : Launch} {D : Dn} {H0 : Heap} {w0 : St} (hl : l.stackTraces = false) (G : Nat) (v1 : Int32) (w : St) : V_X1_lateEvents l D H0 w0 (f_X1_lateEvents_b47 G v1 w) 47 [(1, lI v1)] [] w := by
  unfold f_X1_lateEvents_b47
  refine r_iload_n 48 0 dX1_lateEvents_47 rfl rfl rfl ?_
  exact r_iret rfl rfl dX1_lateEvents_48
theorem t_X1_lateEvents {l : Launch} {D : Dn} {H0 : Heap} {w0 : St} (hl : l.stackTraces = false) (G : Nat) (a0 : Rf) (w : St) : V_X1_lateEvents l D H0 w0 (f_X1_lateEvents G a0 w) 0 [(0, lR a0)] [] w := by
  unfold f_X1_lateEvents
  refine r_iconst (v := 0) 1 dX1_lateEvents_0 rfl rfl ?_
  refine r_istore_n (ls2 := [(1, lI 0), (0, lR a0)]) 2 dX1_lateEvents_1 rfl (by decide) rfl rfl ?_
  refine r_aload_n 3 1 dX1_lateEvents_2 rfl rfl rfl ?_
  refine r_getr 6 gf_X1_331 dX1_lateEvents_3 rfl (fun x3 => ?_)
  refine r_gd (fun hc6 => ?_)
  refine r_callV (n := 0) (as := []) (rest := []) 9 15 (sL_iterator hl x3 w) hc6 rfl (lw_V q1651 q557 q558 q104 q559) (by decide +kernel) (by decide) rfl rfl (cat2_nil (k := 0)) rfl dX1_lateEvents_6 rfl (fun x6 w6 => ?_)
  refine r_astore_n (ls2 := [(2, lR x6), (1, lI 0), (0, lR a0)]) 10 dX1_lateEvents_9 rfl (by decide) rfl rfl ?_
  exact r_lsP [1, 0] rfl (t_X1_lateEvents_l10 hl G (fun v1 w => f_X1_lateEvents_b47 G  v1 w) (fun v1 w => t_X1_lateEvents_b47 hl G  v1 w) G 0 x6 w6)
theorem s_X1_lateEvents {l : Launch} {D : Dn} {H0 : Heap} (hl : l.stackTraces = false) (G : Nat) (a0 : Rf) (w : St) : SimN l D H0 yX1_lateEvents (ws_ yX1_lateEvents cX1_lateEvents 4 (some (.int))) 31 3022 rvI [lR a0] w (f_X1_lateEvents G a0 w) := SimX.N (SimX.ofV (y := yX1_lateEvents) (by decide) rfl (t_X1_lateEvents hl G a0 w))
abbrev V_X1_own (l : Launch) (D : Dn) (H0 : Heap) (w0 : St) (res : Option (Int32 × St)) (pc : Nat) (ls : List (Nat × LV)) (st : List Value) (w : St) : Prop := V l D H0 RX1 "own" cX1_own 4 (some (.int)) [] 32 3045 (fun x => .inr (rvI x)) w0 res pc ls st w
theorem t_X1_own_l13 {l : Launch} {D : Dn} {H0 : Heap} {w0 : St} (hl : l.stackTraces = false) (G : Nat) (k42 : Int32 → St → Option (Int32 × St)) (h42 : ∀ v1 w, V_X1_own l D H0 w0 (k42 v1 w) 42 [(1, lI v1)] [] w) : ∀ (F : Nat) (v1 : Int32) (v2 : Rf) (w : St), V_X1_own l D H0 w0 (f_X1_own_l13 G k42 F v1 v2 w) 13 [(1, lI v1), (2, lR v2)] [] w := by
  intro F
  induction F with
  | zero => intros; exact r_none
  | succ F ih =>
    intro v1 v2 w
    unfold f_X1_own_l13
    refine r_aload_n 14 1 dX1_own_13 rfl rfl rfl ?_
    refine r_gd (fun hc14 => ?_)
    refine r_callF (x2 := ⟨"java/util/Iterator", "hasNext", "()Z"⟩) (n := 0) (as := []) (rest := []) 19 16 (sI_hasNext hl v2 w) hc14 rfl (lw_app (l4 q1653 q584 q586 q116) (lw_meth q588)) (List.mem_of_getElem? (i := 0) rfl) (by decide +kernel) (by decide) rfl rfl (cat2_nil (k := 0)) rfl dX1_own_14 rfl (fun x14 w14 => ?_)
    refine r_if_eq 42 22 dX1_own_19 (by decide) rfl ?_ ?_
    · exact r_lsP [0] rfl (h42 v1 w14)
    refine r_aload_n 23 1 dX1_own_22 rfl rfl rfl ?_
    refine r_gd (fun hc23 => ?_)
    refine r_callF (x2 := ⟨"java/util/Iterator", "next", "()Ljava/lang/Object;"⟩) (n := 0) (as := []) (rest := []) 28 16 (sI_next hl v2 w14) hc23 rfl (lw_app (l4 q1655 q593 q595 q116) (lw_meth q597)) (List.mem_of_getElem? (i := 1) rfl) (by decide +kernel) (by decide) rfl rfl (cat2_nil (k := 0)) rfl dX1_own_23 rfl (fun x23 w23 => ?_)
    refine r_cast 31 (CA_cons (c0 := 3) rfl (Or.inl rfl) (CA_nil)) q1463 dX1_own_28 rfl ?_
    refine r_astore_n (ls2 := [(3, lR x23), (1, lI v1), (2, lR v2)]) 32 dX1_own_31 rfl (by decide) rfl rfl ?_
    refine r_iload_n 33 1 dX1_own_32 rfl rfl rfl ?_
    refine r_aload_n 34 0 dX1_own_33 rfl rfl rfl ?_
    refine r_gd (fun hc34 => ?_)
    refine r_callV (n := 0) (as := []) (rest := [.int v1]) 37 3 (s_X5_own hl G x23 w23) hc34 rfl (lw_V q1635 q1636 q1637 q118 q1638) (by decide +kernel) (by decide) rfl rfl (cat2_i (cat2_nil (k := 0))) rfl dX1_own_34 rfl (fun x34 w34 => ?_)
    refine r_iadd 38 dX1_own_37 rfl ?_
    refine r_istore_n (ls2 := [(1, lI (v1 + x34)), (3, lR x23), (2, lR v2)]) 39 dX1_own_38 rfl (by decide) rfl rfl ?_
    refine r_goto 13 dX1_own_39 (by decide) ?_
    exact r_lsP [0, 2] rfl (ih (v1 + x34) v2 w34)
theorem t_X1_own_b42 {l : Launch} {D : Dn} {H0 : Heap} {w0 : St} (hl : l.stackTraces = false) (G : Nat) (v1 : Int32) (w : St) : V_X1_own l D H0 w0 (f_X1_own_b42 G v1 w) 42 [(1, lI v1)] [] w := by
  unfold f_X1_own_b42
  refine r_iload_n 43 0 dX1_own_42 rfl rfl rfl ?_
  exact r_iret rfl rfl dX1_own_43
theorem t_X1_own {l : Launch} {D : Dn} {H0 : Heap} {w0 : St} (hl : l.stackTraces = false) (G : Nat) (a0 : Rf) (w : St) : V_X1_own l D H0 w0 (f_X1_own G a0 w) 0 [(0, lR a0)] [] w := by
  unfold f_X1_own
  refine r_iconst (v := 0) 1 dX1_own_0 rfl rfl ?_
  refine r_istore_n (ls2 := [(1, lI 0), (0, lR a0)]) 2 dX1_own_1 rfl (by decide) rfl rfl ?_
  refine r_aload_n 3 1 dX1_own_2 rfl rfl rfl ?_
  refine r_getr 6 gf_X1_10 dX1_own_3 rfl (fun x3 => ?_)
  refine r_getr 9 gf_X1_118 dX1_own_6 rfl (fun x6 => ?_)
  refine r_gd (fun hc9 => ?_)
  refine r_callV (n := 0) (as := []) (rest := []) 12 15 (sL_iterator hl x6 w) hc9 rfl (lw_V q1651 q557 q558 q104 q559) (by decide +kernel) (by decide) rfl rfl (cat2_nil (k := 0)) rfl dX1_own_9 rfl (fun x9 w9 => ?_)
  refine r_astore_n (ls2 := [(2, lR x9), (1, lI 0), (0, lR a0)]) 13 dX1_own_12 rfl (by decide) rfl rfl ?_
  exact r_lsP [1, 0] rfl (t_X1_own_l13 hl G (fun v1 w => f_X1_own_b42 G  v1 w) (fun v1 w => t_X1_own_b42 hl G  v1 w) G 0 x9 w9)
theorem s_X1_own {l : Launch} {D : Dn} {H0 : Heap} (hl : l.stackTraces = false) (G : Nat) (a0 : Rf) (w : St) : SimN l D H0 yX1_own (ws_ yX1_own cX1_own 4 (some (.int))) 32 3045 rvI [lR a0] w (f_X1_own G a0 w) := SimX.N (SimX.ofV (y := yX1_own) (by decide) rfl (t_X1_own hl G a0 w))
abbrev V_X1_latest (l : Launch) (D : Dn) (H0 : Heap) (w0 : St) (res : Option (Int32 × St)) (pc : Nat) (ls : List (Nat × LV)) (st : List Value) (w : St) : Prop := V l D H0 RX1 "latest" cX1_latest 4 (some (.int)) [] 31 3022 (fun x => .inr (rvI x)) w0 res pc ls st w
theorem t_X1_latest_l10 {l : Launch} {D : Dn} {H0 : Heap} {w0 : St} (hl : l.stackTraces = false) (G : Nat) (k41 : Int32 → St → Option (Int32 × St)) (h41 : ∀ v1 w, V_X1_latest l D H0 w0 (k41 v1 w) 41 [(1, lI v1)] [] w) : ∀ (F : Nat) (v1 : Int32) (v2 : Rf) (w : St), V_X1_latest l D H0 w0 (f_X1_latest_l10 G k41 F v1 v2 w) 10 [(1, lI v1), (2, lR v2)] [] w := by
  intro F
  induction F with
  | zero => intros; exact r_none
  | succ F ih =>
    intro v1 v2 w
    unfold f_X1_latest_l10
    refine r_aload_n 11 1 dX1_latest_10 rfl rfl rfl ?_
    refine r_gd (fun hc11 => ?_)
    refine r_callF (x2 := ⟨"java/util/Iterator", "hasNext", "()Z"⟩) (n := 0) (as := []) (rest := []) 16 16 (sI_hasNext hl v2 w) hc11 rfl (lw_app (l4 q1653 q584 q586 q116) (lw_meth q588)) (List.mem_of_getElem? (i := 0) rfl) (by decide +kernel) (by decide) rfl rfl (cat2_nil (k := 0)) rfl dX1_latest_11 rfl (fun x11 w11 => ?_)
    refine r_if_eq 41 19 dX1_latest_16 (by decide) rfl ?_ ?_
    · exact r_lsP [0] rfl (h41 v1 w11)
    refine r_aload_n 20 1 dX1_latest_19 rfl rfl rfl ?_
    refine r_gd (fun hc20 => ?_)
    refine r_callF (x2 := ⟨"java/util/Iterator", "next", "()Ljava/lang/Object;"⟩) (n := 0) (as := []) (rest := []) 25 16 (sI_next hl v2 w11) hc20 rfl (lw_app (l4 q1655 q593 q595 q116) (lw_meth q597)) (List.mem_of_getElem? (i := 1) rfl) (by decide +kernel) (by decide) rfl rfl (cat2_nil (k := 0)) rfl dX1_latest_20 rfl (fun x20 w20 => ?_)
    refine r_cast 28 (CA_cons (c0 := 7) rfl (Or.inl rfl) (CA_cons (c0 := 9) rfl (Or.inr q2711) (CA_nil))) q859 dX1_latest_25 rfl ?_
    refine r_astore_n (ls2 := [(3, lR x20), (1, lI v1), (2, lR v2)]) 29 dX1_latest_28 rfl (by decide) rfl rfl ?_
    refine r_iload_n 30 1 dX1_latest_29 rfl rfl rfl ?_
    refine r_aload_n 31 0 dX1_latest_30 rfl rfl rfl ?_
    refine r_share (st2 := fun x31 => [.int x31, .int v1]) (pc2 := 34) (fun hk => ?_) (fun x31 w31 => ?_)
    · refine r_dsp (fun c31 hc31 => ?_)
      refine r_dif (fun he => ?_) (fun _ => ?_)
      · subst he
        exact r_callV (n := 0) (as := []) (rest := [.int v1]) 34 7 (s_X10_late hl G x20 w20) hc31 rfl (lw_V q860 q843 q844 q131 q847) (by decide +kernel) (by decide) rfl rfl (cat2_i (cat2_nil (k := 0))) rfl dX1_latest_31 rfl hk
      refine r_dif (fun he => ?_) (fun _ => ?_)
      · subst he
        exact r_callU (x2 := ⟨"CoachTimetable$Event", "late", "()I"⟩) (owner := "CoachTimetable$Event") (n := 0) (as := []) (rest := [.int v1]) 34 9 (s_X10_late hl G x20 w20) hc31 rfl (lw_app (l5 q860 q845 q846 q843 q131) (lw_meth q847)) rfl (by decide +kernel) (by decide) rfl rfl (cat2_i (cat2_nil (k := 0))) rfl dX1_latest_31 rfl hk
      exact r_bdn
    refine r_callS (n := 2) (as := [lI v1, lI x31]) (rest := []) 37 (s_J15_max hl G v1 x31 w31) (lw_S q2090 q441 q121 q442) (by decide +kernel) (by decide) rfl rfl (cat2_nil (k := 0)) rfl dX1_latest_34 rfl (fun x34 w34 => ?_)
    refine r_istore_n (ls2 := [(1, lI x34), (3, lR x20), (2, lR v2)]) 38 dX1_latest_37 rfl (by decide) rfl rfl ?_
    refine r_goto 10 dX1_latest_38 (by decide) ?_
    exact r_lsP [0, 2] rfl (ih x34 v2 w34)
theorem t_X1_latest_b41 {l : Launch} {D : Dn} {H0 : Heap} {w0 : St} (hl : l.stackTraces = false) (G : Nat) (v1 : Int32) (w : St) : V_X1_latest l D H0 w0 (f_X1_latest_b41 G v1 w) 41 [(1, lI v1)] [] w := by
  unfold f_X1_latest_b41
  refine r_iload_n 42 0 dX1_latest_41 rfl rfl rfl ?_
  exact r_iret rfl rfl dX1_latest_42
theorem t_X1_latest {l : Launch} {D : Dn} {H0 : Heap} {w0 : St} (hl : l.stackTraces = false) (G : Nat) (a0 : Rf) (w : St) : V_X1_latest l D H0 w0 (f_X1_latest G a0 w) 0 [(0, lR a0)] [] w := by
  unfold f_X1_latest
  refine r_iconst (v := 0) 1 dX1_latest_0 rfl rfl ?_
  refine r_istore_n (ls2 := [(1, lI 0), (0, lR a0)]) 2 dX1_latest_1 rfl (by decide) rfl rfl ?_
  refine r_aload_n 3 1 dX1_latest_2 rfl rfl rfl ?_
  refine r_getr 6 gf_X1_331 dX1_latest_3 rfl (fun x3 => ?_)
  refine r_gd (fun hc6 => ?_)
  refine r_callV (n := 0) (as := []) (rest := []) 9 15 (sL_iterator hl x3 w) hc6 rfl (lw_V q1651 q557 q558 q104 q559) (by decide +kernel) (by decide) rfl rfl (cat2_nil (k := 0)) rfl dX1_latest_6 rfl (fun x6 w6 => ?_)
  refine r_astore_n (ls2 := [(2, lR x6), (1, lI 0), (0, lR a0)]) 10 dX1_latest_9 rfl (by decide) rfl rfl ?_
  exact r_lsP [1, 0] rfl (t_X1_latest_l10 hl G (fun v1 w => f_X1_latest_b41 G  v1 w) (fun v1 w => t_X1_latest_b41 hl G  v1 w) G 0 x6 w6)
theorem s_X1_latest {l : Launch} {D : Dn} {H0 : Heap} (hl : l.stackTraces = false) (G : Nat) (a0 : Rf) (w : St) : SimN l D H0 yX1_latest (ws_ yX1_latest cX1_latest 4 (some (.int))) 31 3022 rvI [lR a0] w (f_X1_latest G a0 w) := SimX.N (SimX.ofV (y := yX1_latest) (by decide) rfl (t_X1_latest hl G a0 w))
abbrev V_X1_account (l : Launch) (D : Dn) (H0 : Heap) (w0 : St) (res : Option ((Nat ⊕ Int32) × St)) (pc : Nat) (ls : List (Nat × LV)) (st : List Value) (w : St) : Prop := V l D H0 RX1 "account" cX1_account 2 (some (.int)) [] 37 3149 (ocX rvI) w0 res pc ls st w
theorem t_X1_account {l : Launch} {D : Dn} {H0 : Heap} {w0 : St} (hl : l.stackTraces = false) (G : Nat) (a0 : Rf) (a1 : Int32) (w : St) : V_X1_account l D H0 w0 (f_X1_account G a0 a1 w) 0 [(0, lR a0), (1, lI a1)] [] w := by
  unfold f_X1_account
  refine r_iload_n 1 1 dX1_account_0 rfl rfl rfl ?_
  refine r_iconst (v := 0) 2 dX1_account_1 rfl rfl ?_
  refine r_bipush (v := 11) 4 dX1_account_2 rfl rfl ?_
  refine r_callS (n := 3) (as := [lI a1, lI 0, lI 11]) (rest := []) 7 (s_X1_isBetween hl G a1 0 11 w) (lw_S q1363 q1364 q100 q1365) (by decide +kernel) (by decide) rfl rfl (cat2_nil (k := 0)) rfl dX1_account_4 rfl (fun x4 w4 => ?_)
  rw [bx_bh]
  refine r_callHS (n := 1) (as := [lI x4]) (rest := []) 10 (s_X1_check hl G x4 w4) (lw_S q1627 q1628 q100 q1629) (by decide +kernel) (by decide) rfl rfl (cat2_nil (k := 0)) rfl dX1_account_7 rfl (fun q9 w7 => r_pass (fun _ => rfl) rfl) (fun _ w7 => ?_)
  refine r_iload_n 11 1 dX1_account_10 rfl rfl rfl ?_
  refine r_if (fun hs => ?_) (fun hs0 => ?_)
  · refine r_tswIn 68 dX1_account_11 (z := 0) (by rw [hs]; rfl) (by decide) (by decide) rfl (by decide) ?_
    refine r_aload_n 69 0 dX1_account_68 rfl rfl rfl ?_
    refine r_getr 72 gf_X1_10 dX1_account_69 rfl (fun x69 => ?_)
    refine r_getr 75 gf_X1_118 dX1_account_72 rfl (fun x72 => ?_)
    refine r_gd (fun hc75 => ?_)
    refine r_callV (n := 0) (as := []) (rest := []) 78 15 (sL_size hl x72 w7) hc75 rfl (lw_V q857 q303 q304 q104 q305) (by decide +kernel) (by decide) rfl rfl (cat2_nil (k := 0)) rfl dX1_account_75 rfl (fun x75 w75 => ?_)
    exact r_iret rfl rfl dX1_account_78
  refine r_if (fun hs => ?_) (fun hs1 => ?_)
  · refine r_tswIn 79 dX1_account_11 (z := 1) (by rw [hs]; rfl) (by decide) (by decide) rfl (by decide) ?_
    refine r_aload_n 80 0 dX1_account_79 rfl rfl rfl ?_
    refine r_gd (fun hc80 => ?_)
    refine r_callV (n := 0) (as := []) (rest := []) 83 0 (s_X1_net hl G a0 w7) hc80 rfl (lw_V q290 q292 qs0 q100 q293) (by decide +kernel) (by decide) rfl rfl (cat2_nil (k := 0)) rfl dX1_account_80 rfl (fun x80 w80 => ?_)
    refine r_getr 86 gf_X1_331 dX1_account_83 rfl (fun x83 => ?_)
    refine r_gd (fun hc86 => ?_)
    refine r_callV (n := 0) (as := []) (rest := []) 89 15 (sL_size hl x83 w80) hc86 rfl (lw_V q857 q303 q304 q104 q305) (by decide +kernel) (by decide) rfl rfl (cat2_nil (k := 0)) rfl dX1_account_86 rfl (fun x86 w86 => ?_)
    exact r_iret rfl rfl dX1_account_89
  refine r_if (fun hs => ?_) (fun hs2 => ?_)
  · refine r_tswIn 90 dX1_account_11 (z := 2) (by rw [hs]; rfl) (by decide) (by decide) rfl (by decide) ?_
    refine r_aload_n 91 0 dX1_account_90 rfl rfl rfl ?_
    refine r_getr 94 gf_X1_10 dX1_account_91 rfl (fun x91 => ?_)
    refine r_getr 97 gf_X1_191 dX1_account_94 rfl (fun x94 => ?_)
    refine r_gd (fun hc97 => ?_)
    refine r_callV (n := 0) (as := []) (rest := []) 100 15 (sL_size hl x94 w7) hc97 rfl (lw_V q857 q303 q304 q104 q305) (by decide +kernel) (by decide) rfl rfl (cat2_nil (k := 0)) rfl dX1_account_97 rfl (fun x97 w97 => ?_)
    exact r_iret rfl rfl dX1_account_100
  refine r_if (fun hs => ?_) (fun hs3 => ?_)
  · refine r_tswIn 101 dX1_account_11 (z := 3) (by rw [hs]; rfl) (by decide) (by decide) rfl (by decide) ?_
    refine r_aload_n 102 0 dX1_account_101 rfl rfl rfl ?_
    refine r_gd (fun hc102 => ?_)
    refine r_callV (n := 0) (as := []) (rest := []) 105 0 (s_X1_net hl G a0 w7) hc102 rfl (lw_V q290 q292 qs0 q100 q293) (by decide +kernel) (by decide) rfl rfl (cat2_nil (k := 0)) rfl dX1_account_102 rfl (fun x102 w102 => ?_)
    refine r_gd (fun hc105 => ?_)
    refine r_callV (n := 0) (as := []) (rest := []) 108 6 (s_X9_kept hl G x102 w102) hc105 rfl (lw_V q1757 q1758 q1759 q130 q1760) (by decide +kernel) (by decide) rfl rfl (cat2_nil (k := 0)) rfl dX1_account_105 rfl (fun x105 w105 => ?_)
    exact r_iret rfl rfl dX1_account_108
  refine r_if (fun hs => ?_) (fun hs4 => ?_)
  · refine r_tswIn 109 dX1_account_11 (z := 4) (by rw [hs]; rfl) (by decide) (by decide) rfl (by decide) ?_
    refine r_aload_n 110 0 dX1_account_109 rfl rfl rfl ?_
    refine r_gd (fun hc110 => ?_)
    refine r_callV (n := 0) (as := []) (rest := []) 113 0 (s_X1_turns hl G a0 w7) hc110 rfl (lw_V q2076 q2078 qs37 q100 q2079) (by decide +kernel) (by decide) rfl rfl (cat2_nil (k := 0)) rfl dX1_account_110 rfl (fun x110 w110 => ?_)
    exact r_iret rfl rfl dX1_account_113
  refine r_if (fun hs => ?_) (fun hs5 => ?_)
  · refine r_tswIn 114 dX1_account_11 (z := 5) (by rw [hs]; rfl) (by decide) (by decide) rfl (by decide) ?_
    refine r_aload_n 115 0 dX1_account_114 rfl rfl rfl ?_
    refine r_gd (fun hc115 => ?_)
    refine r_callV (n := 0) (as := []) (rest := []) 118 0 (s_X1_net hl G a0 w7) hc115 rfl (lw_V q290 q292 qs0 q100 q293) (by decide +kernel) (by decide) rfl rfl (cat2_nil (k := 0)) rfl dX1_account_115 rfl (fun x115 w115 => ?_)
    refine r_callS (n := 1) (as := [lR x115]) (rest := []) 121 (s_X1_lateEvents hl G x115 w115) (lw_S q2080 q2081 q100 q2082) (by decide +kernel) (by decide) rfl rfl (cat2_nil (k := 0)) rfl dX1_account_118 rfl (fun x118 w118 => ?_)
    exact r_iret rfl rfl dX1_account_121
  refine r_if (fun hs => ?_) (fun hs6 => ?_)
  · refine r_tswIn 122 dX1_account_11 (z := 6) (by rw [hs]; rfl) (by decide) (by decide) rfl (by decide) ?_
    refine r_aload_n 123 0 dX1_account_122 rfl rfl rfl ?_
    refine r_gd (fun hc123 => ?_)
    refine r_callV (n := 0) (as := []) (rest := []) 126 0 (s_X1_own hl G a0 w7) hc123 rfl (lw_V q2083 q2085 qs38 q100 q2086) (by decide +kernel) (by decide) rfl rfl (cat2_nil (k := 0)) rfl dX1_account_123 rfl (fun x123 w123 => ?_)
    exact r_iret rfl rfl dX1_account_126
  refine r_if (fun hs => ?_) (fun hs7 => ?_)
  · refine r_tswIn 127 dX1_account_11 (z := 7) (by rw [hs]; rfl) (by decide) (by decide) rfl (by decide) ?_
    refine r_aload_n 128 0 dX1_account_127 rfl rfl rfl ?_
    refine r_gd (fun hc128 => ?_)
    refine r_callV (n := 0) (as := []) (rest := []) 131 0 (s_X1_net hl G a0 w7) hc128 rfl (lw_V q290 q292 qs0 q100 q293) (by decide +kernel) (by decide) rfl rfl (cat2_nil (k := 0)) rfl dX1_account_128 rfl (fun x128 w128 => ?_)
    refine r_callS (n := 1) (as := [lR x128]) (rest := []) 134 (s_X1_latest hl G x128 w128) (lw_S q2087 q2088 q100 q2089) (by decide +kernel) (by decide) rfl rfl (cat2_nil (k := 0)) rfl dX1_account_131 rfl (fun x131 w131 => ?_)
    exact r_iret rfl rfl dX1_account_134
  refine r_if (fun hs => ?_) (fun hs8 => ?_)
  · refine r_tswIn 135 dX1_account_11 (z := 8) (by rw [hs]; rfl) (by decide) (by decide) rfl (by decide) ?_
    refine r_aload_n 136 0 dX1_account_135 rfl rfl rfl ?_
    refine r_getr 139 gf_X1_10 dX1_account_136 rfl (fun x136 => ?_)
    refine r_geti 142 gf_X1_199 dX1_account_139 rfl (fun x139 => ?_)
    exact r_iret rfl rfl dX1_account_142
  refine r_if (fun hs => ?_) (fun hs9 => ?_)
  · refine r_tswIn 143 dX1_account_11 (z := 9) (by rw [hs]; rfl) (by decide) (by decide) rfl (by decide) ?_
    refine r_aload_n 144 0 dX1_account_143 rfl rfl rfl ?_
    refine r_getr 147 gf_X1_10 dX1_account_144 rfl (fun x144 => ?_)
    refine r_geti 150 gf_X1_208 dX1_account_147 rfl (fun x147 => ?_)
    exact r_iret rfl rfl dX1_account_150
  refine r_if (fun hs => ?_) (fun hs10 => ?_)
  · refine r_tswIn 151 dX1_account_11 (z := 10) (by rw [hs]; rfl) (by decide) (by decide) rfl (by decide) ?_
    refine r_aload_n 152 0 dX1_account_151 rfl rfl rfl ?_
    refine r_getr 155 gf_X1_26 dX1_account_152 rfl (fun x152 => ?_)
    refine r_gd (fun hc155 => ?_)
    refine r_callV (n := 0) (as := []) (rest := []) 158 18 (sB_length hl x152 w7) hc155 rfl (lw_V q1203 q1036 q2706 q107 q1037) (by decide +kernel) (by decide) rfl rfl (cat2_nil (k := 0)) rfl dX1_account_155 rfl (fun x155 w155 => ?_)
    exact r_iret rfl rfl dX1_account_158
  have hs0 := neI hs0 (z := 0) rfl
  have hs1 := neI hs1 (z := 1) rfl
  have hs2 := neI hs2 (z := 2) rfl
  have hs3 := neI hs3 (z := 3) rfl
  have hs4 := neI hs4 (z := 4) rfl
  have hs5 := neI hs5 (z := 5) rfl
  have hs6 := neI hs6 (z := 6) rfl
  have hs7 := neI hs7 (z := 7) rfl
  have hs8 := neI hs8 (z := 8) rfl
  have hs9 := neI hs9 (z := 9) rfl
  have hs10 := neI hs10 (z := 10) rfl
  refine r_tswOut 159 dX1_account_11 (by omega) (by decide) ?_
  refine r_aload_n 160 0 dX1_account_159 rfl rfl rfl ?_
  refine r_getr 163 gf_X1_19 dX1_account_160 rfl (fun x160 => ?_)
  refine r_gd (fun hc163 => ?_)
  refine r_callV (n := 0) (as := []) (rest := []) 166 17 (sD_size hl x160 w7) hc163 rfl (lw_V q1443 q1444 q1445 q105 q1446) (by decide +kernel) (by decide) rfl rfl (cat2_nil (k := 0)) rfl dX1_account_163 rfl (fun x163 w163 => ?_)
  exact r_iret rfl rfl dX1_account_166
theorem s_X1_account {l : Launch} {D : Dn} {H0 : Heap} (hl : l.stackTraces = false) (G : Nat) (a0 : Rf) (a1 : Int32) (w : St) : SimX l D H0 yX1_account (ws_ yX1_account cX1_account 2 (some (.int))) 37 3149 (ocX rvI) [lR a0, lI a1] w (f_X1_account G a0 a1 w) := SimX.ofV (y := yX1_account) (by decide) rfl (t_X1_account hl G a0 a1 w)
abbrev V_X1_checkMany (l : Launch) (D : Dn) (H0 : Heap) (w0 : St) (res : Option ((Nat ⊕ Unit) × St)) (pc : Nat) (ls : List (Nat × LV)) (st : List Value) (w : St) : Prop := V l D H0 RX1 "checkMany" cX1_checkMany 1 none [] 6 81 (ocX rvU) w0 res pc ls st w
theorem t_X1_checkMany {l : Launch} {D : Dn} {H0 : Heap} {w0 : St} (hl : l.stackTraces = false) (G : Nat) (a0 : Int32) (w : St) : V_X1_checkMany l D H0 w0 (f_X1_checkMany G a0 w) 0 [(0, lI a0)] [] w := by
  unfold f_X1_checkMany
  refine r_iload_n 1 0 dX1_checkMany_0 rfl rfl rfl ?_
  refine r_if_ne 12 4 dX1_checkMany_1 (by decide) rfl ?_ ?_
  · exact r_vret rfl rfl dX1_checkMany_12
  refine r_make 11 25 (names := exNm) hl (by rfl) (by decide) (by decide) exNm_ok q2115 q147 at_25 (by decide) (cat2_nil (k := 0)) dX1_checkMany_4 dX1_checkMany_7 dX1_checkMany_8 rfl ?_
  exact r_athrow (isX_enew rfl (by decide)) dX1_checkMany_11 (r_pass (fun _ => rfl) rfl)
theorem s_X1_checkMany {l : Launch} {D : Dn} {H0 : Heap} (hl : l.stackTraces = false) (G : Nat) (a0 : Int32) (w : St) : SimX l D H0 yX1_checkMany (ws_ yX1_checkMany cX1_checkMany 1 none) 6 81 (ocX rvU) [lI a0] w (f_X1_checkMany G a0 w) := SimX.ofV (y := yX1_checkMany) (by decide) rfl (t_X1_checkMany hl G a0 w)
abbrev V_X1_meanLate (l : Launch) (D : Dn) (H0 : Heap) (w0 : St) (res : Option ((Nat ⊕ UInt64) × St)) (pc : Nat) (ls : List (Nat × LV)) (st : List Value) (w : St) : Prop := V l D H0 RX1 "meanLate" cX1_meanLate 2 (some (.double)) [] 37 3149 (ocX rvD) w0 res pc ls st w
theorem t_X1_meanLate {l : Launch} {D : Dn} {H0 : Heap} {w0 : St} (hl : l.stackTraces = false) (G : Nat) (a0 : Rf) (w : St) : V_X1_meanLate l D H0 w0 (f_X1_meanLate G a0 w) 0 [(0, lR a0)] [] w := by
  unfold f_X1_meanLate
  refine r_aload_n 1 0 dX1_meanLate_0 rfl rfl rfl ?_
  refine r_gd (fun hc1 => ?_)
  refine r_callV (n := 0) (as := []) (rest := []) 4 0 (s_X1_net hl G a0 w) hc1 rfl (lw_V q290 q292 qs0 q100 q293) (by decide +kernel) (by decide) rfl rfl (cat2_nil (k := 0)) rfl dX1_meanLate_1 rfl (fun x1 w1 => ?_)
  refine r_astore_n (ls2 := [(1, lR x1), (0, lR a0)]) 5 dX1_meanLate_4 rfl (by decide) rfl rfl ?_
  refine r_aload_n 6 0 dX1_meanLate_5 rfl rfl rfl ?_
  refine r_getr 9 gf_X1_331 dX1_meanLate_6 rfl (fun x6 => ?_)
  refine r_gd (fun hc9 => ?_)
  refine r_callV (n := 0) (as := []) (rest := []) 12 15 (sL_size hl x6 w1) hc9 rfl (lw_V q857 q303 q304 q104 q305) (by decide +kernel) (by decide) rfl rfl (cat2_nil (k := 0)) rfl dX1_meanLate_9 rfl (fun x9 w9 => ?_)
  rw [bx_bh]
  refine r_callHS (n := 1) (as := [lI x9]) (rest := []) 15 (s_X1_checkMany hl G x9 w9) (lw_S q2112 q2113 q100 q2114) (by decide +kernel) (by decide) rfl rfl (cat2_nil (k := 0)) rfl dX1_meanLate_12 rfl (fun q9 w12 => r_pass (fun _ => rfl) rfl) (fun _ w12 => ?_)
  refine r_aload_n 16 0 dX1_meanLate_15 rfl rfl rfl ?_
  refine r_gd (fun hc16 => ?_)
  refine r_callV (n := 0) (as := []) (rest := []) 19 6 (s_X9_total hl G x1 w12) hc16 rfl (lw_V q838 q839 q840 q130 q841) (by decide +kernel) (by decide) rfl rfl (cat2_nil (k := 0)) rfl dX1_meanLate_16 rfl (fun x16 w16 => ?_)
  refine r_i2d 20 dX1_meanLate_19 rfl ?_
  refine r_aload_n 21 0 dX1_meanLate_20 rfl rfl rfl ?_
  refine r_getr 24 gf_X1_331 dX1_meanLate_21 rfl (fun x21 => ?_)
  refine r_gd (fun hc24 => ?_)
  refine r_callV (n := 0) (as := []) (rest := [.double (FP.i2d x16)]) 27 15 (sL_size hl x21 w16) hc24 rfl (lw_V q857 q303 q304 q104 q305) (by decide +kernel) (by decide) rfl rfl (cat2_d (cat2_nil (k := 0))) rfl dX1_meanLate_24 rfl (fun x24 w24 => ?_)
  refine r_i2d 28 dX1_meanLate_27 rfl ?_
  refine r_gdC (fun hz28 => ?_)
  refine r_ddiv 29 dX1_meanLate_28 hz28 rfl ?_
  exact r_dret rfl rfl dX1_meanLate_29
theorem s_X1_meanLate {l : Launch} {D : Dn} {H0 : Heap} (hl : l.stackTraces = false) (G : Nat) (a0 : Rf) (w : St) : SimX l D H0 yX1_meanLate (ws_ yX1_meanLate cX1_meanLate 2 (some (.double))) 37 3149 (ocX rvD) [lR a0] w (f_X1_meanLate G a0 w) := SimX.ofV (y := yX1_meanLate) (by decide) rfl (t_X1_meanLate hl G a0 w)
abbrev V_X1_keptShare (l : Launch) (D : Dn) (H0 : Heap) (w0 : St) (res : Option ((Nat ⊕ UInt32) × St)) (pc : Nat) (ls : List (Nat × LV)) (st : List Value) (w : St) : Prop := V l D H0 RX1 "keptShare" cX1_keptShare 1 (some (.float)) [] 37 3149 (ocX rvF) w0 res pc ls st w
theorem t_X1_keptShare {l : Launch} {D : Dn} {H0 : Heap} {w0 : St} (hl : l.stackTraces = false) (G : Nat) (a0 : Rf) (w : St) : V_X1_keptShare l D H0 w0 (f_X1_keptShare G a0 w) 0 [(0, lR a0)] [] w := by
  unfold f_X1_keptShare
  refine r_aload_n 1 0 dX1_keptShare_0 rfl rfl rfl ?_
  refine r_getr 4 gf_X1_10 dX1_keptShare_1 rfl (fun x1 => ?_)
  refine r_getr 7 gf_X1_191 dX1_keptShare_4 rfl (fun x4 => ?_)
  refine r_gd (fun hc7 => ?_)
  refine r_callV (n := 0) (as := []) (rest := []) 10 15 (sL_size hl x4 w) hc7 rfl (lw_V q857 q303 q304 q104 q305) (by decide +kernel) (by decide) rfl rfl (cat2_nil (k := 0)) rfl dX1_keptShare_7 rfl (fun x7 w7 => ?_)
  rw [bx_bh]
  refine r_callHS (n := 1) (as := [lI x7]) (rest := []) 13 (s_X1_checkMany hl G x7 w7) (lw_S q2112 q2113 q100 q2114) (by decide +kernel) (by decide) rfl rfl (cat2_nil (k := 0)) rfl dX1_keptShare_10 rfl (fun q9 w10 => r_pass (fun _ => rfl) rfl) (fun _ w10 => ?_)
  refine r_aload_n 14 0 dX1_keptShare_13 rfl rfl rfl ?_
  refine r_gd (fun hc14 => ?_)
  refine r_callV (n := 0) (as := []) (rest := []) 17 0 (s_X1_net hl G a0 w10) hc14 rfl (lw_V q290 q292 qs0 q100 q293) (by decide +kernel) (by decide) rfl rfl (cat2_nil (k := 0)) rfl dX1_keptShare_14 rfl (fun x14 w14 => ?_)
  refine r_gd (fun hc17 => ?_)
  refine r_callV (n := 0) (as := []) (rest := []) 20 6 (s_X9_kept hl G x14 w14) hc17 rfl (lw_V q1757 q1758 q1759 q130 q1760) (by decide +kernel) (by decide) rfl rfl (cat2_nil (k := 0)) rfl dX1_keptShare_17 rfl (fun x17 w17 => ?_)
  refine r_i2f 21 dX1_keptShare_20 rfl ?_
  refine r_aload_n 22 0 dX1_keptShare_21 rfl rfl rfl ?_
  refine r_getr 25 gf_X1_10 dX1_keptShare_22 rfl (fun x22 => ?_)
  refine r_getr 28 gf_X1_191 dX1_keptShare_25 rfl (fun x25 => ?_)
  refine r_gd (fun hc28 => ?_)
  refine r_callV (n := 0) (as := []) (rest := [.float (FP.i2f x17)]) 31 15 (sL_size hl x25 w17) hc28 rfl (lw_V q857 q303 q304 q104 q305) (by decide +kernel) (by decide) rfl rfl (cat2_f (cat2_nil (k := 0))) rfl dX1_keptShare_28 rfl (fun x28 w28 => ?_)
  refine r_i2f 32 dX1_keptShare_31 rfl ?_
  refine r_gdC (fun hz32 => ?_)
  refine r_fdiv 33 dX1_keptShare_32 hz32 rfl ?_
  exact r_fret rfl rfl dX1_keptShare_33
theorem s_X1_keptShare {l : Launch} {D : Dn} {H0 : Heap} (hl : l.stackTraces = false) (G : Nat) (a0 : Rf) (w : St) : SimX l D H0 yX1_keptShare (ws_ yX1_keptShare cX1_keptShare 1 (some (.float))) 37 3149 (ocX rvF) [lR a0] w (f_X1_keptShare G a0 w) := SimX.ofV (y := yX1_keptShare) (by decide) rfl (t_X1_keptShare hl G a0 w)
abbrev V_X1_undo (l : Launch) (D : Dn) (H0 : Heap) (w0 : St) (res : Option ((Nat ⊕ Int32) × St)) (pc : Nat) (ls : List (Nat × LV)) (st : List Value) (w : St) : Prop := V l D H0 RX1 "undo" cX1_undo 1 (some (.int)) [] 31 3021 (ocX rvI) w0 res pc ls st w
theorem t_X1_undo_b15 {l : Launch} {D : Dn} {H0 : Heap} {w0 : St} (hl : l.stackTraces = false) (G : Nat) (v0 : Rf) (s0 : Int32) (w : St) : V_X1_undo l D H0 w0 (f_X1_undo_b15 G v0 s0 w) 15 [(0, lR v0)] [.int s0] w := by
  unfold f_X1_undo_b15
  rw [bx_bh]
  refine r_callHS (n := 1) (as := [lI s0]) (rest := []) 18 (s_X1_checkState hl G s0 w) (lw_S q1809 q1810 q100 q1811) (by decide +kernel) (by decide) rfl rfl (cat2_nil (k := 0)) rfl dX1_undo_15 rfl (fun q9 w15 => r_pass (fun _ => rfl) rfl) (fun _ w15 => ?_)
  refine r_aload_n 19 0 dX1_undo_18 rfl rfl rfl ?_
  refine r_aload_n 20 0 dX1_undo_19 rfl rfl rfl ?_
  refine r_getr 23 gf_X1_19 dX1_undo_20 rfl (fun x20 => ?_)
  refine r_gd (fun hc23 => ?_)
  refine r_callV (n := 0) (as := []) (rest := [rf v0]) 26 17 (sD_removeLast hl x20 w15) hc23 rfl (lw_V q2138 q2139 q2140 q105 q2141) (by decide +kernel) (by decide) rfl rfl (cat2_r (cat2_nil (k := 0))) rfl dX1_undo_23 rfl (fun x23 w23 => ?_)
  refine r_cast 29 (CA_cons (c0 := 1) rfl (Or.inl rfl) (CA_nil)) q156 dX1_undo_26 rfl ?_
  refine r_putr 32 pf_X1_10 (Or.inl ⟨_, rfl⟩) dX1_undo_29 rfl (fun w29 => ?_)
  refine r_aload_n 33 0 dX1_undo_32 rfl rfl rfl ?_
  refine r_getr 36 gf_X1_19 dX1_undo_33 rfl (fun x33 => ?_)
  refine r_gd (fun hc36 => ?_)
  refine r_callV (n := 0) (as := []) (rest := []) 39 17 (sD_size hl x33 w29) hc36 rfl (lw_V q1443 q1444 q1445 q105 q1446) (by decide +kernel) (by decide) rfl rfl (cat2_nil (k := 0)) rfl dX1_undo_36 rfl (fun x36 w36 => ?_)
  exact r_iret rfl rfl dX1_undo_39
theorem t_X1_undo {l : Launch} {D : Dn} {H0 : Heap} {w0 : St} (hl : l.stackTraces = false) (G : Nat) (a0 : Rf) (w : St) : V_X1_undo l D H0 w0 (f_X1_undo G a0 w) 0 [(0, lR a0)] [] w := by
  unfold f_X1_undo
  refine r_aload_n 1 0 dX1_undo_0 rfl rfl rfl ?_
  refine r_getr 4 gf_X1_19 dX1_undo_1 rfl (fun x1 => ?_)
  refine r_gd (fun hc4 => ?_)
  refine r_callV (n := 0) (as := []) (rest := []) 7 17 (sD_isEmpty hl x1 w) hc4 rfl (lw_V q2134 q2135 q2136 q105 q2137) (by decide +kernel) (by decide) rfl rfl (cat2_nil (k := 0)) rfl dX1_undo_4 rfl (fun x4 w4 => ?_)
  refine r_if_ne 14 10 dX1_undo_7 (by decide) rfl ?_ ?_
  · refine r_iconst (v := 0) 15 dX1_undo_14 rfl rfl ?_
    exact r_lsP [0] rfl (t_X1_undo_b15 hl G  a0 0 w4)
  refine r_iconst (v := 1) 11 dX1_undo_10 rfl rfl ?_
  refine r_goto 15 dX1_undo_11 (by decide) ?_
  exact r_lsP [0] rfl (t_X1_undo_b15 hl G  a0 1 w4)
theorem s_X1_undo {l : Launch} {D : Dn} {H0 : Heap} (hl : l.stackTraces = false) (G : Nat) (a0 : Rf) (w : St) : SimX l D H0 yX1_undo (ws_ yX1_undo cX1_undo 1 (some (.int))) 31 3021 (ocX rvI) [lR a0] w (f_X1_undo G a0 w) := SimX.ofV (y := yX1_undo) (by decide) rfl (t_X1_undo hl G a0 w)
abbrev V_X1_restore (l : Launch) (D : Dn) (H0 : Heap) (w0 : St) (res : Option ((Nat ⊕ Int32) × St)) (pc : Nat) (ls : List (Nat × LV)) (st : List Value) (w : St) : Prop := V l D H0 RX1 "restore" cX1_restore 1 (some (.int)) [] 34 3086 (ocX rvI) w0 res pc ls st w
theorem t_X1_restore_b12 {l : Launch} {D : Dn} {H0 : Heap} {w0 : St} (hl : l.stackTraces = false) (G : Nat) (v0 : Rf) (s0 : Int32) (w : St) : V_X1_restore l D H0 w0 (f_X1_restore_b12 G v0 s0 w) 12 [(0, lR v0)] [.int s0] w := by
  unfold f_X1_restore_b12
  rw [bx_bh]
  refine r_callHS (n := 1) (as := [lI s0]) (rest := []) 15 (s_X1_checkState hl G s0 w) (lw_S q1809 q1810 q100 q1811) (by decide +kernel) (by decide) rfl rfl (cat2_nil (k := 0)) rfl dX1_restore_12 rfl (fun q9 w12 => r_pass (fun _ => rfl) rfl) (fun _ w12 => ?_)
  refine r_aload_n 16 0 dX1_restore_15 rfl rfl rfl ?_
  refine r_aload_n 17 0 dX1_restore_16 rfl rfl rfl ?_
  refine r_getr 20 gf_X1_507 dX1_restore_17 rfl (fun x17 => ?_)
  refine r_gd (fun hc20 => ?_)
  refine r_callV (n := 0) (as := []) (rest := [rf v0]) 23 1 (s_X2_copy hl G x17 w12) hc20 rfl (lw_V q1208 q1209 q1210 q101 q1211) (by decide +kernel) (by decide) rfl rfl (cat2_r (cat2_nil (k := 0))) rfl dX1_restore_20 rfl (fun x20 w20 => ?_)
  refine r_putr 26 pf_X1_10 (Or.inl ⟨_, rfl⟩) dX1_restore_23 rfl (fun w23 => ?_)
  refine r_aload_n 27 0 dX1_restore_26 rfl rfl rfl ?_
  refine r_getr 30 gf_X1_19 dX1_restore_27 rfl (fun x27 => ?_)
  refine r_gd (fun hc30 => ?_)
  refine r_callV (n := 0) (as := []) (rest := []) 33 17 (sD_clear hl x27 w23) hc30 rfl (lw_V q2156 q2157 q2158 q105 q2159) (by decide +kernel) (by decide) rfl rfl (cat2_nil (k := 0)) rfl dX1_restore_30 rfl (fun _ w30 => ?_)
  refine r_aload_n 34 0 dX1_restore_33 rfl rfl rfl ?_
  refine r_getr 37 gf_X1_10 dX1_restore_34 rfl (fun x34 => ?_)
  refine r_getr 40 gf_X1_118 dX1_restore_37 rfl (fun x37 => ?_)
  refine r_gd (fun hc40 => ?_)
  refine r_callV (n := 0) (as := []) (rest := []) 43 15 (sL_size hl x37 w30) hc40 rfl (lw_V q857 q303 q304 q104 q305) (by decide +kernel) (by decide) rfl rfl (cat2_nil (k := 0)) rfl dX1_restore_40 rfl (fun x40 w40 => ?_)
  exact r_iret rfl rfl dX1_restore_43
theorem t_X1_restore {l : Launch} {D : Dn} {H0 : Heap} {w0 : St} (hl : l.stackTraces = false) (G : Nat) (a0 : Rf) (w : St) : V_X1_restore l D H0 w0 (f_X1_restore G a0 w) 0 [(0, lR a0)] [] w := by
  unfold f_X1_restore
  refine r_aload_n 1 0 dX1_restore_0 rfl rfl rfl ?_
  refine r_getr 4 gf_X1_507 dX1_restore_1 rfl (fun x1 => ?_)
  refine r_ifnull 11 7 dX1_restore_4 (by decide) rfl ?_ ?_
  · refine r_iconst (v := 0) 12 dX1_restore_11 rfl rfl ?_
    exact r_lsP [0] rfl (t_X1_restore_b12 hl G  a0 0 w)
  refine r_iconst (v := 1) 8 dX1_restore_7 rfl rfl ?_
  refine r_goto 12 dX1_restore_8 (by decide) ?_
  exact r_lsP [0] rfl (t_X1_restore_b12 hl G  a0 1 w)
theorem s_X1_restore {l : Launch} {D : Dn} {H0 : Heap} (hl : l.stackTraces = false) (G : Nat) (a0 : Rf) (w : St) : SimX l D H0 yX1_restore (ws_ yX1_restore cX1_restore 1 (some (.int))) 34 3086 (ocX rvI) [lR a0] w (f_X1_restore G a0 w) := SimX.ofV (y := yX1_restore) (by decide) rfl (t_X1_restore hl G a0 w)
