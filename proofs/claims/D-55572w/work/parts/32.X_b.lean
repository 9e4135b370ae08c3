set_option maxRecDepth 100000
set_option maxHeartbeats 4000000
theorem gf_X1_118 : GF RX1 118 [1] 0 := GF1 (C := RX2) (T := TX2) (N := 4) (ci := 1) rfl in_X2 (by decide) (Or.inr ⟨_, q193⟩) (Or.inl rfl)
theorem gf_X1_131 : GF RX1 131 [3] 0 := GF1 (C := RX5) (T := TX5) (N := 3) (ci := 3) rfl in_X5 (by decide) (Or.inr ⟨_, q1235⟩) (Or.inl rfl)
theorem gf_X1_147 : GF RX1 147 [3] 1 := GF1 (C := RX5) (T := TX5) (N := 3) (ci := 3) rfl in_X5 (by decide) (Or.inr ⟨_, q1238⟩) (Or.inl rfl)
theorem gf_X1_154 : GF RX1 154 [4] 6 := GF1 (C := RX6) (T := TX6) (N := 9) (ci := 4) rfl in_X6 (by decide) (Or.inr ⟨_, q1281⟩) (Or.inl rfl)
theorem gf_X1_161 : GF RX1 161 [4] 0 := GF1 (C := RX6) (T := TX6) (N := 9) (ci := 4) rfl in_X6 (by decide) (Or.inr ⟨_, q1265⟩) (Or.inl rfl)
theorem gf_X1_164 : GF RX1 164 [4] 5 := GF1 (C := RX6) (T := TX6) (N := 9) (ci := 4) rfl in_X6 (by decide) (Or.inr ⟨_, q1278⟩) (Or.inl rfl)
theorem gf_X1_184 : GF RX1 184 [3] 2 := GF1 (C := RX5) (T := TX5) (N := 3) (ci := 3) rfl in_X5 (by decide) (Or.inr ⟨_, q1240⟩) (Or.inl rfl)
theorem gf_X1_19 : GF RX1 19 [0] 2 := GF1 (C := RX1) (T := TX1) (N := 8) (ci := 0) rfl in_X1 (by decide) (Or.inl q263) (Or.inl rfl)
theorem gf_X1_199 : GF RX1 199 [1] 2 := GF1 (C := RX2) (T := TX2) (N := 4) (ci := 1) rfl in_X2 (by decide) (Or.inr ⟨_, q198⟩) (Or.inl rfl)
theorem gf_X1_208 : GF RX1 208 [1] 3 := GF1 (C := RX2) (T := TX2) (N := 4) (ci := 1) rfl in_X2 (by decide) (Or.inr ⟨_, q200⟩) (Or.inl rfl)
theorem gf_X1_211 : GF RX1 211 [5] 5 := GF1 (C := RX7) (T := TX7) (N := 6) (ci := 5) rfl in_X7 (by decide) (Or.inr ⟨_, q1337⟩) (Or.inl rfl)
theorem gf_X1_278 : GF RX1 278 [4] 1 := GF1 (C := RX6) (T := TX6) (N := 9) (ci := 4) rfl in_X6 (by decide) (Or.inr ⟨_, q1268⟩) (Or.inl rfl)
theorem gf_X1_281 : GF RX1 281 [4] 2 := GF1 (C := RX6) (T := TX6) (N := 9) (ci := 4) rfl in_X6 (by decide) (Or.inr ⟨_, q1270⟩) (Or.inl rfl)
theorem gf_X1_284 : GF RX1 284 [4] 3 := GF1 (C := RX6) (T := TX6) (N := 9) (ci := 4) rfl in_X6 (by decide) (Or.inr ⟨_, q1272⟩) (Or.inl rfl)
theorem gf_X1_287 : GF RX1 287 [4] 4 := GF1 (C := RX6) (T := TX6) (N := 9) (ci := 4) rfl in_X6 (by decide) (Or.inr ⟨_, q1275⟩) (Or.inl rfl)
theorem gf_X1_294 : GF RX1 294 [7, 9] 3 := (GF.app (GF1 (C := RX10) (T := TX10) (N := 11) (ci := 7) rfl in_X10 (by decide) (Or.inr ⟨_, q368⟩) (Or.inl rfl)) (GF1 (C := RX12) (T := TX12) (N := 14) (ci := 9) rfl in_X12 (by decide) (Or.inr ⟨_, q368⟩) (Or.inl rfl)))
theorem gf_X1_300 : GF RX1 300 [7, 9] 4 := (GF.app (GF1 (C := RX10) (T := TX10) (N := 11) (ci := 7) rfl in_X10 (by decide) (Or.inr ⟨_, q370⟩) (Or.inl rfl)) (GF1 (C := RX12) (T := TX12) (N := 14) (ci := 9) rfl in_X12 (by decide) (Or.inr ⟨_, q370⟩) (Or.inl rfl)))
theorem gf_X1_302 : GF RX1 302 [7, 9] 9 := (GF.app (GF1 (C := RX10) (T := TX10) (N := 11) (ci := 7) rfl in_X10 (by decide) (Or.inr ⟨_, q379⟩) (Or.inl rfl)) (GF1 (C := RX12) (T := TX12) (N := 14) (ci := 9) rfl in_X12 (by decide) (Or.inr ⟨_, q379⟩) (Or.inl rfl)))
theorem gf_X1_305 : GF RX1 305 [7, 9] 10 := (GF.app (GF1 (C := RX10) (T := TX10) (N := 11) (ci := 7) rfl in_X10 (by decide) (Or.inr ⟨_, q381⟩) (Or.inl rfl)) (GF1 (C := RX12) (T := TX12) (N := 14) (ci := 9) rfl in_X12 (by decide) (Or.inr ⟨_, q381⟩) (Or.inl rfl)))
theorem gf_X1_316 : GF RX1 316 [5] 4 := GF1 (C := RX7) (T := TX7) (N := 6) (ci := 5) rfl in_X7 (by decide) (Or.inr ⟨_, q1334⟩) (Or.inl rfl)
theorem gf_X1_334 : GF RX1 334 [7, 9] 0 := (GF.app (GF1 (C := RX10) (T := TX10) (N := 11) (ci := 7) rfl in_X10 (by decide) (Or.inr ⟨_, q360⟩) (Or.inl rfl)) (GF1 (C := RX12) (T := TX12) (N := 14) (ci := 9) rfl in_X12 (by decide) (Or.inr ⟨_, q360⟩) (Or.inl rfl)))
theorem gf_X1_82 : GF RX1 82 [0] 5 := GF1 (C := RX1) (T := TX1) (N := 8) (ci := 0) rfl in_X1 (by decide) (Or.inl q266) (Or.inl rfl)
theorem gf_X2_78 : GF RX2 78 [3] 0 := GF1 (C := RX5) (T := TX5) (N := 3) (ci := 3) rfl in_X5 (by decide) (Or.inr ⟨_, q1234⟩) (Or.inl rfl)
theorem gf_X5_64 : GF RX5 64 [4] 7 := GF1 (C := RX6) (T := TX6) (N := 9) (ci := 4) rfl in_X6 (by decide) (Or.inr ⟨_, q1284⟩) (Or.inl rfl)
theorem gf_X5_67 : GF RX5 67 [4] 8 := GF1 (C := RX6) (T := TX6) (N := 9) (ci := 4) rfl in_X6 (by decide) (Or.inr ⟨_, q1287⟩) (Or.inl rfl)
theorem pf_X18_13 {nm9 : String} : PF RX18 nm9 13 [4] 7 (.int) := PF1 (own := RX18) (nm := nm9) (idx := 13) (k := 7) (ty := .int) (C := RX6) (T := TX6) (N := 9) (ci := 4) rfl in_X6 tyX6_ok nmX6 (by decide) rfl (Or.inl rfl) (Or.inr ⟨_, q1283⟩) (Or.inl rfl)
theorem pf_X19_13 {nm9 : String} : PF RX19 nm9 13 [4] 8 (.int) := PF1 (own := RX19) (nm := nm9) (idx := 13) (k := 8) (ty := .int) (C := RX6) (T := TX6) (N := 9) (ci := 4) rfl in_X6 tyX6_ok nmX6 (by decide) rfl (Or.inl rfl) (Or.inr ⟨_, q1286⟩) (Or.inl rfl)
theorem pf_X1_147 {nm9 : String} : PF RX1 nm9 147 [3] 1 (.int) := PF1 (own := RX1) (nm := nm9) (idx := 147) (k := 1) (ty := .int) (C := RX5) (T := TX5) (N := 3) (ci := 3) rfl in_X5 tyX5_ok nmX5 (by decide) rfl (Or.inl rfl) (Or.inr ⟨_, q1238⟩) (Or.inl rfl)
theorem pf_X1_184 {nm9 : String} : PF RX1 nm9 184 [3] 2 (.int) := PF1 (own := RX1) (nm := nm9) (idx := 184) (k := 2) (ty := .int) (C := RX5) (T := TX5) (N := 3) (ci := 3) rfl in_X5 tyX5_ok nmX5 (by decide) rfl (Or.inl rfl) (Or.inr ⟨_, q1240⟩) (Or.inl rfl)
theorem pf_X1_199 {nm9 : String} : PF RX1 nm9 199 [1] 2 (.int) := PF1 (own := RX1) (nm := nm9) (idx := 199) (k := 2) (ty := .int) (C := RX2) (T := TX2) (N := 4) (ci := 1) rfl in_X2 tyX2_ok nmX2 (by decide) rfl (Or.inl rfl) (Or.inr ⟨_, q198⟩) (Or.inl rfl)
theorem pf_X1_208 {nm9 : String} : PF RX1 nm9 208 [1] 3 (.int) := PF1 (own := RX1) (nm := nm9) (idx := 208) (k := 3) (ty := .int) (C := RX2) (T := TX2) (N := 4) (ci := 1) rfl in_X2 tyX2_ok nmX2 (by decide) rfl (Or.inl rfl) (Or.inr ⟨_, q200⟩) (Or.inl rfl)
theorem pf_X1_211 {nm9 : String} : PF RX1 nm9 211 [5] 5 (.int) := PF1 (own := RX1) (nm := nm9) (idx := 211) (k := 5) (ty := .int) (C := RX7) (T := TX7) (N := 6) (ci := 5) rfl in_X7 tyX7_ok nmX7 (by decide) rfl (Or.inl rfl) (Or.inr ⟨_, q1337⟩) (Or.inl rfl)
theorem pf_X1_42 {nm9 : String} : PF RX1 nm9 42 [0] 7 (.object "CoachTimetable$Reason") := PF1 (own := RX1) (nm := nm9) (idx := 42) (k := 7) (ty := (.object "CoachTimetable$Reason")) (C := RX1) (T := TX1) (N := 8) (ci := 0) rfl in_X1 tyX1_ok nmX1 (by decide) rfl (Or.inl rfl) (Or.inl q268) (Or.inl rfl)
theorem pf_X1_507 {nm9 : String} : PF RX1 nm9 507 [0] 1 (.object "CoachTimetable$State") := PF1 (own := RX1) (nm := nm9) (idx := 507) (k := 1) (ty := (.object "CoachTimetable$State")) (C := RX1) (T := TX1) (N := 8) (ci := 0) rfl in_X1 tyX1_ok nmX1 (by decide) rfl (Or.inl rfl) (Or.inl q262) (Or.inl rfl)
theorem pf_X4_13 : PF RX4 "<init>" 13 [2] 1 (.int) := PF1 (own := RX4) (nm := "<init>") (idx := 13) (k := 1) (ty := .int) (C := RX4) (T := TX4) (N := 3) (ci := 2) rfl in_X4 tyX4_ok nmX4 (by decide) rfl (Or.inr ⟨rfl, rfl, rfl, q1378⟩) (Or.inl q1378) (Or.inl rfl)
theorem pf_X4_16 : PF RX4 "<init>" 16 [2] 2 (.object "CoachTimetable$Reason") := PF1 (own := RX4) (nm := "<init>") (idx := 16) (k := 2) (ty := (.object "CoachTimetable$Reason")) (C := RX4) (T := TX4) (N := 3) (ci := 2) rfl in_X4 tyX4_ok nmX4 (by decide) rfl (Or.inr ⟨rfl, rfl, rfl, q1380⟩) (Or.inl q1380) (Or.inl rfl)
theorem pf_X4_7 : PF RX4 "<init>" 7 [2] 0 (.int) := PF1 (own := RX4) (nm := "<init>") (idx := 7) (k := 0) (ty := .int) (C := RX4) (T := TX4) (N := 3) (ci := 2) rfl in_X4 tyX4_ok nmX4 (by decide) rfl (Or.inr ⟨rfl, rfl, rfl, q1376⟩) (Or.inl q1376) (Or.inl rfl)
noncomputable def f_X1_save (G : Nat) (a0 : Rf) (w : St) : Option (Int32 × St) :=
  bo (getr [0] a0 0 w) fun x2 =>
  gd (cls x2 w = some 1) <|
  bd (f_X2_copy G x2 w) fun x5 w5 =>
  bo (putr [0] a0 1 x5 w5) fun w8 =>
  bo (getr [0] a0 0 w8) fun x12 =>
  bo (getr [1] x12 0 w8) fun x15 =>
  gd (cls x15 w8 = some 15) <|
  bd (fL_size x15 w8) fun x18 w18 =>
  some (x18, w18)
noncomputable def f_X4_init (G : Nat) (a0 : Nat) (a1 : Int32) (a2 : Int32) (a3 : Rf) (w : St) : Option (Unit × St) :=
  bo (puti [2] ((some a0)) 0 a1 w) fun w6 =>
  bo (puti [2] ((some a0)) 1 a2 w6) fun w11 =>
  bo (putr [2] ((some a0)) 2 a3 w11) fun w16 =>
  some ((()), w16)
noncomputable def f_X1_refuse (G : Nat) (a0 : Rf) (a1 : Int32) (a2 : Int32) (a3 : Int32) (w : St) : Option ((Nat ⊕ Unit) × St) :=
  if a1 = 0 then (some ((Sum.inr (())), w)) else
  (bd (nw 2 [.int 0, .int 0, .null] 3 w) fun b5 w5 =>
  bd (f_X4_init G b5 a2 a3 none w5) fun _ w12 =>
  bo (putr [0] a0 7 ((some b5)) w12) fun w15 =>
  some (Sum.inl w15.n, (enew 20 w15)))
noncomputable def f_X1_change (G : Nat) (a0 : Rf) (w : St) : Option (Unit × St) :=
  bo (geti [0] a0 5 w) fun x1 =>
  if x1 = 0 then (bo (getr [0] a0 2 w) fun x9 =>
  bo (getr [0] a0 0 w) fun x13 =>
  gd (cls x13 w = some 1) <|
  bd (f_X2_copy G x13 w) fun x16 w16 =>
  gd (cls x9 w16 = some 17) <|
  bd (fD_addLast x9 x16 w16) fun _ w19 =>
  bo (getr [0] a0 2 w19) fun x23 =>
  gd (cls x23 w19 = some 17) <|
  bd (fD_size x23 w19) fun x26 w26 =>
  if x26 ≤ 8 then (some ((()), w26)) else
  (bo (getr [0] a0 2 w26) fun x35 =>
  gd (cls x35 w26 = some 17) <|
  bd (fD_removeFirst x35 w26) fun x38 w38 =>
  some ((()), w38))) else
  (some ((()), w))
noncomputable def f_X1_isBetween (G : Nat) (a0 : Int32) (a1 : Int32) (a2 : Int32) (w : St) : Option (Int32 × St) :=
  if a0 < a1 then (some (0, w)) else
  (if a2 < a0 then (some (0, w)) else
  (some (1, w)))
noncomputable def f_X1_inRange_b15 (G : Nat) (v1 : Int32) (s0 : Int32) (s1 : Rf) (w : St) : Option ((Nat ⊕ Unit) × St) :=
  gd (cls s1 w = some 0) <|
  bx (f_X1_refuse G s1 s0 1 v1 w) fun _ w17 =>
  some ((Sum.inr (())), w17)
noncomputable def f_X1_inRange (G : Nat) (a0 : Rf) (a1 : Int32) (a2 : Int32) (a3 : Int32) (w : St) : Option ((Nat ⊕ Unit) × St) :=
  bd (f_X1_isBetween G a1 a2 a3 w) fun x4 w4 =>
  if x4 = 0 then (f_X1_inRange_b15 G  a1 1 a0 w4) else
  (f_X1_inRange_b15 G  a1 0 a0 w4)
noncomputable def f_X1_coach_b38 (G : Nat) (v0 : Rf) (v1 : Int32) (v2 : Int32) (s0 : Int32) (s1 : Rf) (w : St) : Option ((Nat ⊕ Int32) × St) :=
  gd (cls s1 w = some 0) <|
  bx (f_X1_refuse G s1 s0 2 6 w) fun _ w41 =>
  gd (cls v0 w41 = some 0) <|
  bd (f_X1_change G v0 w41) fun _ w45 =>
  bd (nw 3 [.null, .int 0, .int 0] 3 w45) fun b48 w48 =>
  bd (f_X5_init G b48 w48) fun _ w52 =>
  bo (getr [3] ((some b48)) 0 w52) fun x57 =>
  bd (nw 4 [.int 0, .int 0, .int 0, .int 0, .int 0, .int 0, .int 0, .int 0, .int 0] 9 w52) fun b60 w60 =>
  bd (f_X6_init G b60 v1 0 0 0 0 v2 v2 w60) fun _ w71 =>
  gd (cls x57 w71 = some 15) <|
  bd (fL_add x57 ((some b60)) w71) fun x74 w74 =>
  bo (getr [0] v0 0 w74) fun x79 =>
  bo (getr [1] x79 0 w74) fun x82 =>
  gd (cls x82 w74 = some 15) <|
  bd (fL_add x82 ((some b48)) w74) fun x86 w86 =>
  bo (getr [0] v0 0 w86) fun x91 =>
  bo (getr [1] x91 0 w86) fun x94 =>
  gd (cls x94 w86 = some 15) <|
  bd (fL_size x94 w86) fun x97 w97 =>
  some ((Sum.inr (x97 - 1)), w97)
noncomputable def f_X1_coach (G : Nat) (a0 : Rf) (a1 : Int32) (a2 : Int32) (w : St) : Option ((Nat ⊕ Int32) × St) :=
  gd (cls a0 w = some 0) <|
  bx (f_X1_inRange G a0 a1 0 9 w) fun _ w5 =>
  gd (cls a0 w5 = some 0) <|
  bx (f_X1_inRange G a0 a2 0 600 w5) fun _ w14 =>
  bo (getr [0] a0 0 w14) fun x19 =>
  bo (getr [1] x19 0 w14) fun x22 =>
  gd (cls x22 w14 = some 15) <|
  bd (fL_size x22 w14) fun x25 w25 =>
  if x25 = 6 then (f_X1_coach_b38 G  a0 a1 a2 1 a0 w25) else
  (f_X1_coach_b38 G  a0 a1 a2 0 a0 w25)
noncomputable def f_X5_last (G : Nat) (a0 : Rf) (w : St) : Option (Rf × St) :=
  bo (getr [3] a0 0 w) fun x1 =>
  bo (getr [3] a0 0 w) fun x5 =>
  gd (cls x5 w = some 15) <|
  bd (fL_size x5 w) fun x8 w8 =>
  gd (cls x1 w8 = some 15) <|
  bd (fL_get x1 (x8 - 1) w8) fun x13 w13 =>
  gd (okc [4] x13 w13 = true) <|
  some (x13, w13)
noncomputable def f_X2_isCoach (G : Nat) (a0 : Rf) (a1 : Int32) (w : St) : Option (Int32 × St) :=
  bo (getr [1] a0 0 w) fun x3 =>
  gd (cls x3 w = some 15) <|
  bd (fL_size x3 w) fun x6 w6 =>
  bd (f_X1_isBetween G a1 0 (x6 - 1) w6) fun x11 w11 =>
  gd (x11 = 0 ∨ x11 = 1) (some (x11, w11))
noncomputable def f_X1_mustBeCoach_b17 (G : Nat) (v1 : Int32) (s0 : Int32) (s1 : Rf) (w : St) : Option ((Nat ⊕ Unit) × St) :=
  gd (cls s1 w = some 0) <|
  bx (f_X1_refuse G s1 s0 3 v1 w) fun _ w19 =>
  some ((Sum.inr (())), w19)
noncomputable def f_X1_mustBeCoach (G : Nat) (a0 : Rf) (a1 : Int32) (w : St) : Option ((Nat ⊕ Unit) × St) :=
  bo (getr [0] a0 0 w) fun x2 =>
  gd (cls x2 w = some 1) <|
  bd (f_X2_isCoach G x2 a1 w) fun x6 w6 =>
  if x6 = 0 then (f_X1_mustBeCoach_b17 G  a1 1 a0 w6) else
  (f_X1_mustBeCoach_b17 G  a1 0 a0 w6)
noncomputable def f_X1_leg_b112 (G : Nat) (v0 : Rf) (v1 : Int32) (v2 : Int32) (v3 : Int32) (v4 : Int32) (v5 : Int32) (v6 : Int32) (s0 : Int32) (s1 : Rf) (w : St) : Option ((Nat ⊕ Int32) × St) :=
  gd (cls s1 w = some 0) <|
  bx (f_X1_refuse G s1 s0 2 6 w) fun _ w115 =>
  gd (cls v0 w115 = some 0) <|
  bd (f_X1_change G v0 w115) fun _ w119 =>
  bo (getr [0] v0 0 w119) fun x123 =>
  bo (getr [1] x123 0 w119) fun x126 =>
  gd (cls x126 w119 = some 15) <|
  bd (fL_get x126 v1 w119) fun x130 w130 =>
  gd (okc [3] x130 w130 = true) <|
  gd (cls x130 w130 = some 3) <|
  bd (f_X5_last G x130 w130) fun x140 w140 =>
  bo (geti [4] x140 6 w140) fun x143 =>
  bo (getr [3] x130 0 w140) fun x155 =>
  bd (nw 4 [.int 0, .int 0, .int 0, .int 0, .int 0, .int 0, .int 0, .int 0, .int 0] 9 w140) fun b158 w158 =>
  bd (f_X6_init G b158 v2 v3 v4 v5 v6 ((x143 + v3) + v4) (((x143 + v3) + v4) + v5) w158) fun _ w177 =>
  gd (cls x155 w177 = some 15) <|
  bd (fL_add x155 ((some b158)) w177) fun x180 w180 =>
  some ((Sum.inr ((x143 + v3) + v4)), w180)
noncomputable def f_X1_leg_b75 (G : Nat) (v0 : Rf) (v1 : Int32) (v2 : Int32) (v3 : Int32) (v4 : Int32) (v5 : Int32) (v6 : Int32) (s0 : Int32) (s1 : Rf) (w : St) : Option ((Nat ⊕ Int32) × St) :=
  gd (cls s1 w = some 0) <|
  bx (f_X1_refuse G s1 s0 9 v1 w) fun _ w78 =>
  bo (getr [0] v0 0 w78) fun x83 =>
  bo (getr [1] x83 0 w78) fun x86 =>
  gd (cls x86 w78 = some 15) <|
  bd (fL_get x86 v1 w78) fun x90 w90 =>
  gd (okc [3] x90 w90 = true) <|
  bo (getr [3] x90 0 w90) fun x96 =>
  gd (cls x96 w90 = some 15) <|
  bd (fL_size x96 w90) fun x99 w99 =>
  if x99 = 6 then (f_X1_leg_b112 G  v0 v1 v2 v3 v4 v5 v6 1 v0 w99) else
  (f_X1_leg_b112 G  v0 v1 v2 v3 v4 v5 v6 0 v0 w99)
noncomputable def f_X1_leg (G : Nat) (a0 : Rf) (a1 : Int32) (a2 : Int32) (a3 : Int32) (a4 : Int32) (a5 : Int32) (a6 : Int32) (w : St) : Option ((Nat ⊕ Int32) × St) :=
  gd (cls a0 w = some 0) <|
  bx (f_X1_mustBeCoach G a0 a1 w) fun _ w2 =>
  gd (cls a0 w2 = some 0) <|
  bx (f_X1_inRange G a0 a2 0 9 w2) fun _ w10 =>
  gd (cls a0 w10 = some 0) <|
  bx (f_X1_inRange G a0 a3 1 60 w10) fun _ w18 =>
  gd (cls a0 w18 = some 0) <|
  bx (f_X1_inRange G a0 a4 0 30 w18) fun _ w27 =>
  gd (cls a0 w27 = some 0) <|
  bx (f_X1_inRange G a0 a5 0 60 w27) fun _ w36 =>
  gd (cls a0 w36 = some 0) <|
  bx (f_X1_inRange G a0 a6 0 a5 w36) fun _ w45 =>
  bo (getr [0] a0 0 w45) fun x50 =>
  bo (getr [1] x50 0 w45) fun x53 =>
  gd (cls x53 w45 = some 15) <|
  bd (fL_get x53 a1 w45) fun x57 w57 =>
  gd (okc [3] x57 w57 = true) <|
  bo (geti [3] x57 1 w57) fun x63 =>
  if x63 = ((-1)) then (f_X1_leg_b75 G  a0 a1 a2 a3 a4 a5 a6 0 a0 w57) else
  (f_X1_leg_b75 G  a0 a1 a2 a3 a4 a5 a6 1 a0 w57)
noncomputable def f_X2_stop (G : Nat) (a0 : Rf) (a1 : Int32) (a2 : Int32) (w : St) : Option (Rf × St) :=
  bo (getr [1] a0 0 w) fun x1 =>
  gd (cls x1 w = some 15) <|
  bd (fL_get x1 a1 w) fun x5 w5 =>
  gd (okc [3] x5 w5 = true) <|
  bo (getr [3] x5 0 w5) fun x11 =>
  gd (cls x11 w5 = some 15) <|
  bd (fL_get x11 a2 w5) fun x15 w15 =>
  gd (okc [4] x15 w15 = true) <|
  some (x15, w15)
noncomputable def f_X1_mustMeet_b87 (G : Nat) (v7 : Int32) (s0 : Int32) (s1 : Rf) (w : St) : Option ((Nat ⊕ Unit) × St) :=
  gd (cls s1 w = some 0) <|
  bx (f_X1_refuse G s1 s0 8 v7 w) fun _ w91 =>
  some ((Sum.inr (())), w91)
noncomputable def f_X1_mustMeet_b38 (G : Nat) (v0 : Rf) (v1 : Int32) (v2 : Int32) (v3 : Int32) (v4 : Int32) (v5 : Int32) (v6 : Int32) (s0 : Int32) (s1 : Rf) (w : St) : Option ((Nat ⊕ Unit) × St) :=
  gd (cls s1 w = some 0) <|
  bx (f_X1_refuse G s1 s0 7 v6 w) fun _ w42 =>
  bo (getr [0] v0 0 w42) fun x46 =>
  gd (cls x46 w42 = some 1) <|
  bd (f_X2_stop G x46 v1 v2 w42) fun x51 w51 =>
  bo (geti [4] x51 5 w51) fun x54 =>
  bo (getr [0] v0 0 w51) fun x61 =>
  gd (cls x61 w51 = some 1) <|
  bd (f_X2_stop G x61 v3 v4 w51) fun x67 w67 =>
  bo (geti [4] x67 6 w67) fun x70 =>
  if ((x54 + v5) - x70) ≤ 0 then (f_X1_mustMeet_b87 G  ((x54 + v5) - x70) 0 v0 w67) else
  (f_X1_mustMeet_b87 G  ((x54 + v5) - x70) 1 v0 w67)
noncomputable def f_X1_mustMeet (G : Nat) (a0 : Rf) (a1 : Int32) (a2 : Int32) (a3 : Int32) (a4 : Int32) (a5 : Int32) (w : St) : Option ((Nat ⊕ Unit) × St) :=
  bo (getr [0] a0 0 w) fun x1 =>
  gd (cls x1 w = some 1) <|
  bd (f_X2_stop G x1 a3 a4 w) fun x7 w7 =>
  bo (geti [4] x7 0 w7) fun x10 =>
  bo (getr [0] a0 0 w7) fun x17 =>
  gd (cls x17 w7 = some 1) <|
  bd (f_X2_stop G x17 a1 a2 w7) fun x22 w22 =>
  bo (geti [4] x22 0 w22) fun x25 =>
  if x25 = x10 then (f_X1_mustMeet_b38 G  a0 a1 a2 a3 a4 a5 x10 0 a0 w22) else
  (f_X1_mustMeet_b38 G  a0 a1 a2 a3 a4 a5 x10 1 a0 w22)
noncomputable def f_X1_mustBeTwo_b21 (G : Nat) (v1 : Int32) (s0 : Int32) (s1 : Rf) (w : St) : Option ((Nat ⊕ Unit) × St) :=
  gd (cls s1 w = some 0) <|
  bx (f_X1_refuse G s1 s0 6 v1 w) fun _ w24 =>
  some ((Sum.inr (())), w24)
noncomputable def f_X1_mustBeTwo (G : Nat) (a0 : Rf) (a1 : Int32) (a2 : Int32) (w : St) : Option ((Nat ⊕ Unit) × St) :=
  gd (cls a0 w = some 0) <|
  bx (f_X1_mustBeCoach G a0 a1 w) fun _ w2 =>
  gd (cls a0 w2 = some 0) <|
  bx (f_X1_mustBeCoach G a0 a2 w2) fun _ w7 =>
  if a1 = a2 then (f_X1_mustBeTwo_b21 G  a1 1 a0 w7) else
  (f_X1_mustBeTwo_b21 G  a1 0 a0 w7)
noncomputable def f_X18_isAt (G : Nat) (a0 : Rf) (a1 : Int32) (a2 : Int32) (w : St) : Option (Int32 × St) :=
  if a1 ≤ 0 then (some (0, w)) else
  (if a2 ≤ a1 then (some (0, w)) else
  (some (1, w)))
noncomputable def f_X19_isAt (G : Nat) (a0 : Rf) (a1 : Int32) (a2 : Int32) (w : St) : Option (Int32 × St) :=
  if a1 < 0 then (some (0, w)) else
  (if (a2 - 1) ≤ a1 then (some (0, w)) else
  (some (1, w)))
noncomputable def f_X5_hasEvent (G : Nat) (a0 : Rf) (a1 : Int32) (a2 : Rf) (w : St) : Option (Int32 × St) :=
  bo (getr [3] a0 0 w) fun x3 =>
  gd (cls x3 w = some 15) <|
  bd (fL_size x3 w) fun x6 w6 =>
  bd (dsp a2 w6 fun c9 => if c9 = 28 then (f_X18_isAt G a2 a1 x6 w6) else if c9 = 29 then (f_X19_isAt G a2 a1 x6 w6) else none) fun x9 w9 =>
  gd (x9 = 0 ∨ x9 = 1) (some (x9, w9))
noncomputable def f_X2_isEvent (G : Nat) (a0 : Rf) (a1 : Int32) (a2 : Int32) (a3 : Rf) (w : St) : Option (Int32 × St) :=
  gd (cls a0 w = some 1) <|
  bd (f_X2_isCoach G a0 a1 w) fun x2 w2 =>
  if x2 = 0 then (some (0, w2)) else
  (bo (getr [1] a0 0 w2) fun x9 =>
  gd (cls x9 w2 = some 15) <|
  bd (fL_get x9 a1 w2) fun x13 w13 =>
  gd (okc [3] x13 w13 = true) <|
  gd (cls x13 w13 = some 3) <|
  bd (f_X5_hasEvent G x13 a2 a3 w13) fun x21 w21 =>
  if x21 = 0 then (some (0, w21)) else
  (some (1, w21)))
noncomputable def f_X1_mustBeEvent_b19 (G : Nat) (v2 : Int32) (s0 : Int32) (s1 : Rf) (w : St) : Option ((Nat ⊕ Unit) × St) :=
  gd (cls s1 w = some 0) <|
  bx (f_X1_refuse G s1 s0 4 v2 w) fun _ w21 =>
  some ((Sum.inr (())), w21)
noncomputable def f_X1_mustBeEvent (G : Nat) (a0 : Rf) (a1 : Int32) (a2 : Int32) (a3 : Rf) (w : St) : Option ((Nat ⊕ Unit) × St) :=
  bo (getr [0] a0 0 w) fun x2 =>
  gd (cls x2 w = some 1) <|
  bd (f_X2_isEvent G x2 a1 a2 a3 w) fun x8 w8 =>
  if x8 = 0 then (f_X1_mustBeEvent_b19 G  a2 1 a0 w8) else
  (f_X1_mustBeEvent_b19 G  a2 0 a0 w8)
noncomputable def f_X1_turn_b107 (G : Nat) (v0 : Rf) (v1 : Int32) (v2 : Int32) (v3 : Int32) (s0 : Int32) (s1 : Rf) (w : St) : Option ((Nat ⊕ Int32) × St) :=
  gd (cls s1 w = some 0) <|
  bx (f_X1_refuse G s1 s0 9 v2 w) fun _ w110 =>
  gd (cls v0 w110 = some 0) <|
  bx (f_X1_mustMeet G v0 v1 v3 v2 0 10 w110) fun _ w120 =>
  gd (cls v0 w120 = some 0) <|
  bd (f_X1_change G v0 w120) fun _ w124 =>
  bo (getr [0] v0 0 w124) fun x128 =>
  bo (getr [1] x128 0 w124) fun x131 =>
  gd (cls x131 w124 = some 15) <|
  bd (fL_get x131 v1 w124) fun x135 w135 =>
  gd (okc [3] x135 w135 = true) <|
  bo (puti [3] x135 1 v2 w135) fun w142 =>
  bo (getr [0] v0 0 w142) fun x146 =>
  bo (getr [1] x146 0 w142) fun x149 =>
  gd (cls x149 w142 = some 15) <|
  bd (fL_get x149 v2 w142) fun x153 w153 =>
  gd (okc [3] x153 w153 = true) <|
  bo (puti [3] x153 2 v1 w153) fun w160 =>
  bo (getr [0] v0 0 w160) fun x164 =>
  gd (cls x164 w160 = some 1) <|
  bd (f_X2_stop G x164 v2 0 w160) fun x169 w169 =>
  bo (geti [4] x169 6 w169) fun x172 =>
  bo (getr [0] v0 0 w169) fun x176 =>
  gd (cls x176 w169 = some 1) <|
  bd (f_X2_stop G x176 v1 v3 w169) fun x181 w181 =>
  bo (geti [4] x181 5 w181) fun x184 =>
  some ((Sum.inr ((x172 - x184) - 10)), w181)
noncomputable def f_X1_turn_b74 (G : Nat) (v0 : Rf) (v1 : Int32) (v2 : Int32) (v3 : Int32) (s0 : Int32) (s1 : Rf) (w : St) : Option ((Nat ⊕ Int32) × St) :=
  gd (cls s1 w = some 0) <|
  bx (f_X1_refuse G s1 s0 9 v1 w) fun _ w77 =>
  bo (getr [0] v0 0 w77) fun x82 =>
  bo (getr [1] x82 0 w77) fun x85 =>
  gd (cls x85 w77 = some 15) <|
  bd (fL_get x85 v2 w77) fun x89 w89 =>
  gd (okc [3] x89 w89 = true) <|
  bo (geti [3] x89 2 w89) fun x95 =>
  if x95 = ((-1)) then (f_X1_turn_b107 G  v0 v1 v2 v3 0 v0 w89) else
  (f_X1_turn_b107 G  v0 v1 v2 v3 1 v0 w89)
noncomputable def f_X1_turn (G : Nat) (a0 : Rf) (a1 : Int32) (a2 : Int32) (w : St) : Option ((Nat ⊕ Int32) × St) :=
  gd (cls a0 w = some 0) <|
  bx (f_X1_mustBeTwo G a0 a1 a2 w) fun _ w3 =>
  bo (getr [0] a0 0 w3) fun x7 =>
  bo (getr [1] x7 0 w3) fun x10 =>
  gd (cls x10 w3 = some 15) <|
  bd (fL_get x10 a1 w3) fun x14 w14 =>
  gd (okc [3] x14 w14 = true) <|
  bo (getr [3] x14 0 w14) fun x20 =>
  gd (cls x20 w14 = some 15) <|
  bd (fL_size x20 w14) fun x23 w23 =>
  gd (cls a0 w23 = some 0) <|
  bx (f_X1_mustBeEvent G a0 a1 (x23 - 1) ((some (w23.g 1))) w23) fun _ w35 =>
  gd (cls a0 w35 = some 0) <|
  bx (f_X1_mustBeEvent G a0 a2 0 ((some (w35.g 2))) w35) fun _ w44 =>
  bo (getr [0] a0 0 w44) fun x49 =>
  bo (getr [1] x49 0 w44) fun x52 =>
  gd (cls x52 w44 = some 15) <|
  bd (fL_get x52 a1 w44) fun x56 w56 =>
  gd (okc [3] x56 w56 = true) <|
  bo (geti [3] x56 1 w56) fun x62 =>
  if x62 = ((-1)) then (f_X1_turn_b74 G  a0 a1 a2 (x23 - 1) 0 a0 w56) else
  (f_X1_turn_b74 G  a0 a1 a2 (x23 - 1) 1 a0 w56)
noncomputable def f_X1_link_b75 (G : Nat) (v0 : Rf) (v1 : Int32) (v2 : Int32) (v3 : Int32) (v4 : Int32) (v5 : Int32) (v6 : Int32) (s0 : Int32) (s1 : Rf) (w : St) : Option ((Nat ⊕ Int32) × St) :=
  gd (cls s1 w = some 0) <|
  bx (f_X1_refuse G s1 s0 2 12 w) fun _ w78 =>
  gd (cls v0 w78 = some 0) <|
  bd (f_X1_change G v0 w78) fun _ w82 =>
  bo (getr [0] v0 0 w82) fun x86 =>
  bo (getr [1] x86 1 w82) fun x89 =>
  bd (nw 5 [.int 0, .int 0, .int 0, .int 0, .int 0, .int 0] 6 w82) fun b92 w92 =>
  bd (f_X7_init G b92 v1 v2 v3 v4 v5 v6 w92) fun _ w105 =>
  gd (cls x89 w105 = some 15) <|
  bd (fL_add x89 ((some b92)) w105) fun x108 w108 =>
  bo (getr [0] v0 0 w108) fun x113 =>
  bo (geti [1] x113 2 w108) fun x117 =>
  bo (puti [1] x113 2 (x117 + 1) w108) fun w122 =>
  bo (getr [0] v0 0 w122) fun x126 =>
  bo (getr [1] x126 1 w122) fun x129 =>
  gd (cls x129 w122 = some 15) <|
  bd (fL_size x129 w122) fun x132 w132 =>
  some ((Sum.inr (x132 - 1)), w132)
noncomputable def f_X1_link (G : Nat) (a0 : Rf) (a1 : Int32) (a2 : Int32) (a3 : Int32) (a4 : Int32) (a5 : Int32) (a6 : Int32) (w : St) : Option ((Nat ⊕ Int32) × St) :=
  gd (cls a0 w = some 0) <|
  bx (f_X1_mustBeTwo G a0 a1 a3 w) fun _ w3 =>
  gd (cls a0 w3 = some 0) <|
  bx (f_X1_mustBeEvent G a0 a1 a2 ((some (w3.g 1))) w3) fun _ w12 =>
  gd (cls a0 w12 = some 0) <|
  bx (f_X1_mustBeEvent G a0 a3 a4 ((some (w12.g 2))) w12) fun _ w22 =>
  gd (cls a0 w22 = some 0) <|
  bx (f_X1_inRange G a0 a5 1 60 w22) fun _ w31 =>
  gd (cls a0 w31 = some 0) <|
  bx (f_X1_inRange G a0 a6 0 60 w31) fun _ w40 =>
  gd (cls a0 w40 = some 0) <|
  bx (f_X1_mustMeet G a0 a1 a2 a3 a4 a5 w40) fun _ w51 =>
  bo (getr [0] a0 0 w51) fun x56 =>
  bo (getr [1] x56 1 w51) fun x59 =>
  gd (cls x59 w51 = some 15) <|
  bd (fL_size x59 w51) fun x62 w62 =>
  if x62 = 12 then (f_X1_link_b75 G  a0 a1 a2 a3 a4 a5 a6 1 a0 w62) else
  (f_X1_link_b75 G  a0 a1 a2 a3 a4 a5 a6 0 a0 w62)
noncomputable def f_X2_isLink (G : Nat) (a0 : Rf) (a1 : Int32) (w : St) : Option (Int32 × St) :=
  bo (getr [1] a0 1 w) fun x3 =>
  gd (cls x3 w = some 15) <|
  bd (fL_size x3 w) fun x6 w6 =>
  bd (f_X1_isBetween G a1 0 (x6 - 1) w6) fun x11 w11 =>
  gd (x11 = 0 ∨ x11 = 1) (some (x11, w11))
noncomputable def f_X1_cut_b17 (G : Nat) (v0 : Rf) (v1 : Int32) (s0 : Int32) (s1 : Rf) (w : St) : Option ((Nat ⊕ Int32) × St) :=
  gd (cls s1 w = some 0) <|
  bx (f_X1_refuse G s1 s0 5 v1 w) fun _ w19 =>
  gd (cls v0 w19 = some 0) <|
  bd (f_X1_change G v0 w19) fun _ w23 =>
  bo (getr [0] v0 0 w23) fun x27 =>
  bo (getr [1] x27 1 w23) fun x30 =>
  gd (cls x30 w23 = some 15) <|
  bd (fL_remove x30 v1 w23) fun x34 w34 =>
  bo (getr [0] v0 0 w34) fun x39 =>
  bo (geti [1] x39 3 w34) fun x43 =>
  bo (puti [1] x39 3 (x43 + 1) w34) fun w48 =>
  bo (getr [0] v0 0 w48) fun x52 =>
  bo (getr [1] x52 1 w48) fun x55 =>
  gd (cls x55 w48 = some 15) <|
  bd (fL_size x55 w48) fun x58 w58 =>
  some ((Sum.inr x58), w58)
noncomputable def f_X1_cut (G : Nat) (a0 : Rf) (a1 : Int32) (w : St) : Option ((Nat ⊕ Int32) × St) :=
  bo (getr [0] a0 0 w) fun x2 =>
  gd (cls x2 w = some 1) <|
  bd (f_X2_isLink G x2 a1 w) fun x6 w6 =>
  if x6 = 0 then (f_X1_cut_b17 G  a0 a1 1 a0 w6) else
  (f_X1_cut_b17 G  a0 a1 0 a0 w6)
noncomputable def f_X1_limit_b57 (G : Nat) (v0 : Rf) (v1 : Int32) (v2 : Int32) (s0 : Int32) (s1 : Rf) (w : St) : Option ((Nat ⊕ Int32) × St) :=
  gd (cls s1 w = some 0) <|
  bx (f_X1_refuse G s1 s0 10 v2 w) fun _ w60 =>
  gd (cls v0 w60 = some 0) <|
  bd (f_X1_change G v0 w60) fun _ w64 =>
  bo (getr [0] v0 0 w64) fun x68 =>
  bo (getr [1] x68 1 w64) fun x71 =>
  gd (cls x71 w64 = some 15) <|
  bd (fL_get x71 v1 w64) fun x75 w75 =>
  gd (okc [5] x75 w75 = true) <|
  bo (geti [5] x75 5 w75) fun x81 =>
  bo (getr [0] v0 0 w75) fun x86 =>
  bo (getr [1] x86 1 w75) fun x89 =>
  gd (cls x89 w75 = some 15) <|
  bd (fL_get x89 v1 w75) fun x93 w93 =>
  gd (okc [5] x93 w93 = true) <|
  bo (puti [5] x93 5 v2 w93) fun w100 =>
  some ((Sum.inr x81), w100)
noncomputable def f_X1_limit_b17 (G : Nat) (v0 : Rf) (v1 : Int32) (v2 : Int32) (s0 : Int32) (s1 : Rf) (w : St) : Option ((Nat ⊕ Int32) × St) :=
  gd (cls s1 w = some 0) <|
  bx (f_X1_refuse G s1 s0 5 v1 w) fun _ w19 =>
  gd (cls v0 w19 = some 0) <|
  bx (f_X1_inRange G v0 v2 0 60 w19) fun _ w27 =>
  bo (getr [0] v0 0 w27) fun x32 =>
  bo (getr [1] x32 1 w27) fun x35 =>
  gd (cls x35 w27 = some 15) <|
  bd (fL_get x35 v1 w27) fun x39 w39 =>
  gd (okc [5] x39 w39 = true) <|
  bo (geti [5] x39 5 w39) fun x45 =>
  if x45 = v2 then (f_X1_limit_b57 G  v0 v1 v2 1 v0 w39) else
  (f_X1_limit_b57 G  v0 v1 v2 0 v0 w39)
noncomputable def f_X1_limit (G : Nat) (a0 : Rf) (a1 : Int32) (a2 : Int32) (w : St) : Option ((Nat ⊕ Int32) × St) :=
  bo (getr [0] a0 0 w) fun x2 =>
  gd (cls x2 w = some 1) <|
  bd (f_X2_isLink G x2 a1 w) fun x6 w6 =>
  if x6 = 0 then (f_X1_limit_b17 G  a0 a1 a2 1 a0 w6) else
  (f_X1_limit_b17 G  a0 a1 a2 0 a0 w6)
noncomputable def f_X18_lays (G : Nat) (a0 : Rf) (a1 : Rf) (a2 : Int32) (w : St) : Option (Unit × St) :=
  bo (puti [4] a1 7 a2 w) fun w2 =>
  some ((()), w2)
noncomputable def f_X19_lays (G : Nat) (a0 : Rf) (a1 : Rf) (a2 : Int32) (w : St) : Option (Unit × St) :=
  bo (puti [4] a1 8 a2 w) fun w2 =>
  some ((()), w2)
noncomputable def f_X8_of (G : Nat) (a0 : Int32) (w : St) : Option (Rf × St) :=
  if a0 = 0 then (some (((some (w.g 2))), w)) else
  (some (((some (w.g 1))), w))
noncomputable def f_X1_late_b53 (G : Nat) (v0 : Rf) (v1 : Int32) (v2 : Int32) (v4 : Int32) (v5 : Rf) (s0 : Int32) (s1 : Rf) (w : St) : Option ((Nat ⊕ Int32) × St) :=
  gd (cls s1 w = some 0) <|
  bx (f_X1_refuse G s1 s0 10 v4 w) fun _ w57 =>
  gd (cls v0 w57 = some 0) <|
  bd (f_X1_change G v0 w57) fun _ w61 =>
  bo (getr [0] v0 0 w61) fun x67 =>
  gd (cls x67 w61 = some 1) <|
  bd (f_X2_stop G x67 v1 v2 w61) fun x72 w72 =>
  bd (dsp v5 w72 fun c77 => if c77 = 28 then (f_X18_lays G v5 x72 v4 w72) else if c77 = 29 then (f_X19_lays G v5 x72 v4 w72) else none) fun _ w77 =>
  gd (cls v0 w77 = some 0) <|
  bd (f_X1_net G v0 w77) fun x81 w81 =>
  gd (cls x81 w81 = some 6) <|
  bd (f_X9_event G x81 v1 v2 v5 w81) fun x88 w88 =>
  bd (dsp x88 w88 fun c91 => if c91 = 7 then (f_X10_late G x88 w88) else if c91 = 9 then (f_X10_late G x88 w88) else none) fun x91 w91 =>
  some ((Sum.inr x91), w91)
noncomputable def f_X1_late (G : Nat) (a0 : Rf) (a1 : Int32) (a2 : Int32) (a3 : Int32) (a4 : Int32) (w : St) : Option ((Nat ⊕ Int32) × St) :=
  bd (f_X8_of G a3 w) fun x1 w1 =>
  gd (cls a0 w1 = some 0) <|
  bx (f_X1_mustBeCoach G a0 a1 w1) fun _ w8 =>
  gd (cls a0 w8 = some 0) <|
  bx (f_X1_mustBeEvent G a0 a1 a2 x1 w8) fun _ w16 =>
  gd (cls a0 w16 = some 0) <|
  bx (f_X1_inRange G a0 a4 0 120 w16) fun _ w25 =>
  bo (getr [0] a0 0 w25) fun x30 =>
  gd (cls x30 w25 = some 1) <|
  bd (f_X2_stop G x30 a1 a2 w25) fun x35 w35 =>
  gd (cls x35 w35 = some 4) <|
  bd (f_X6_own G x35 x1 w35) fun x40 w40 =>
  if x40 = a4 then (f_X1_late_b53 G  a0 a1 a2 a4 x1 1 a0 w40) else
  (f_X1_late_b53 G  a0 a1 a2 a4 x1 0 a0 w40)
noncomputable def f_X1_linksAt_b63 (G : Nat) (k14 : Int32 → Int32 → Int32 → Rf → St → Option (Int32 × St)) (v1 : Int32) (v2 : Int32) (v4 : Rf) (s0 : Int32) (s1 : Int32) (w : St) : Option (Int32 × St) :=
  k14 v1 v2 (s1 + s0) v4 w
noncomputable def f_X1_linksAt_b54 (G : Nat) (k14 : Int32 → Int32 → Int32 → Rf → St → Option (Int32 × St)) (v1 : Int32) (v2 : Int32) (v4 : Rf) (s0 : Int32) (s1 : Int32) (w : St) : Option (Int32 × St) :=
  if s0 = v1 then (f_X1_linksAt_b63 G k14  v1 v2 v4 1 s1 w) else
  (f_X1_linksAt_b63 G k14  v1 v2 v4 0 s1 w)
noncomputable def f_X1_linksAt_l14 (G : Nat) (k68 : Int32 → St → Option (Int32 × St)) : Nat → Int32 → Int32 → Int32 → Rf → St → Option (Int32 × St)
  | 0, _, _, _, _, _ => none
  | F + 1, v1, v2, v3, v4, w =>
  gd (cls v4 w = some 16) <|
  bd (fI_hasNext v4 w) fun x16 w16 =>
  if x16 = 0 then (k68 v3 w16) else
  (gd (cls v4 w16 = some 16) <|
  bd (fI_next v4 w16) fun x26 w26 =>
  gd (okc [5] x26 w26 = true) <|
  if v2 = 0 then (bo (geti [5] x26 2 w26) fun x51 =>
  f_X1_linksAt_b54 G (fun v1 v2 v3 v4 w => f_X1_linksAt_l14 G k68 F v1 v2 v3 v4 w)  v1 v2 v4 x51 v3 w26) else
  (bo (geti [5] x26 0 w26) fun x43 =>
  f_X1_linksAt_b54 G (fun v1 v2 v3 v4 w => f_X1_linksAt_l14 G k68 F v1 v2 v3 v4 w)  v1 v2 v4 x43 v3 w26))
noncomputable def f_X1_linksAt_b68 (G : Nat) (v3 : Int32) (w : St) : Option (Int32 × St) :=
  some (v3, w)
noncomputable def f_X1_linksAt (G : Nat) (a0 : Rf) (a1 : Int32) (a2 : Int32) (w : St) : Option (Int32 × St) :=
  bo (getr [0] a0 0 w) fun x3 =>
  bo (getr [1] x3 1 w) fun x6 =>
  gd (cls x6 w = some 15) <|
  bd (fL_iterator x6 w) fun x9 w9 =>
  f_X1_linksAt_l14 G (fun v3 w => f_X1_linksAt_b68 G  v3 w) G a1 a2 0 x9 w9
noncomputable def f_X1_checkIndex (G : Nat) (a0 : Int32) (w : St) : Option ((Nat ⊕ Unit) × St) :=
  if a0 = 0 then (some (Sum.inl w.n, (enew 23 w))) else
  (some ((Sum.inr (())), w))
noncomputable def f_X1_coach0 (G : Nat) (a0 : Rf) (a1 : Int32) (w : St) : Option ((Nat ⊕ Rf) × St) :=
  bo (getr [0] a0 0 w) fun x1 =>
  gd (cls x1 w = some 1) <|
  bd (f_X2_isCoach G x1 a1 w) fun x5 w5 =>
  bx (f_X1_checkIndex G x5 w5) fun _ w8 =>
  bo (getr [0] a0 0 w8) fun x12 =>
  bo (getr [1] x12 0 w8) fun x15 =>
  gd (cls x15 w8 = some 15) <|
  bd (fL_get x15 a1 w8) fun x19 w19 =>
  gd (okc [3] x19 w19 = true) <|
  some ((Sum.inr x19), w19)
noncomputable def f_X1_check (G : Nat) (a0 : Int32) (w : St) : Option ((Nat ⊕ Unit) × St) :=
  if a0 = 0 then (some (Sum.inl w.n, (enew 24 w))) else
  (some ((Sum.inr (())), w))
noncomputable def f_X5_own_l10 (G : Nat) (k44 : Int32 → St → Option (Int32 × St)) : Nat → Int32 → Rf → St → Option (Int32 × St)
  | 0, _, _, _ => none
  | F + 1, v1, v2, w =>
  gd (cls v2 w = some 16) <|
  bd (fI_hasNext v2 w) fun x11 w11 =>
  if x11 = 0 then (k44 v1 w11) else
  (gd (cls v2 w11 = some 16) <|
  bd (fI_next v2 w11) fun x20 w20 =>
  gd (okc [4] x20 w20 = true) <|
  bo (geti [4] x20 7 w20) fun x31 =>
  bo (geti [4] x20 8 w20) fun x35 =>
  f_X5_own_l10 G k44 F (v1 + (x31 + x35)) v2 w20)
noncomputable def f_X5_own_b44 (G : Nat) (v1 : Int32) (w : St) : Option (Int32 × St) :=
  some (v1, w)
noncomputable def f_X5_own (G : Nat) (a0 : Rf) (w : St) : Option (Int32 × St) :=
  bo (getr [3] a0 0 w) fun x3 =>
  gd (cls x3 w = some 15) <|
  bd (fL_iterator x3 w) fun x6 w6 =>
  f_X5_own_l10 G (fun v1 w => f_X5_own_b44 G  v1 w) G 0 x6 w6
noncomputable def f_X9_lastOf_b45 (G : Nat) (k10 : Int32 → Rf → Rf → St → Option (Rf × St)) (v1 : Int32) (v3 : Rf) (s0 : Rf) (w : St) : Option (Rf × St) :=
  k10 v1 s0 v3 w
noncomputable def f_X9_lastOf_l10 (G : Nat) (k49 : Rf → St → Option (Rf × St)) : Nat → Int32 → Rf → Rf → St → Option (Rf × St)
  | 0, _, _, _, _ => none
  | F + 1, v1, v2, v3, w =>
  gd (cls v3 w = some 16) <|
  bd (fI_hasNext v3 w) fun x11 w11 =>
  if x11 = 0 then (k49 v2 w11) else
  (gd (cls v3 w11 = some 16) <|
  bd (fI_next v3 w11) fun x20 w20 =>
  gd (okc [7, 9] x20 w20 = true) <|
  bo (geti [7, 9] x20 0 w20) fun x32 =>
  if x32 = v1 then (f_X9_lastOf_b45 G (fun v1 v2 v3 w => f_X9_lastOf_l10 G k49 F v1 v2 v3 w)  v1 v3 x20 w20) else
  (f_X9_lastOf_b45 G (fun v1 v2 v3 w => f_X9_lastOf_l10 G k49 F v1 v2 v3 w)  v1 v3 v2 w20))
noncomputable def f_X9_lastOf_b49 (G : Nat) (v2 : Rf) (w : St) : Option (Rf × St) :=
  some (v2, w)
noncomputable def f_X9_lastOf (G : Nat) (a0 : Rf) (a1 : Int32) (w : St) : Option (Rf × St) :=
  bo (getr [6] a0 0 w) fun x3 =>
  gd (cls x3 w = some 15) <|
  bd (fL_iterator x3 w) fun x6 w6 =>
  f_X9_lastOf_l10 G (fun v2 w => f_X9_lastOf_b49 G  v2 w) G a1 none x6 w6
noncomputable def f_X9_lateAtEnd (G : Nat) (a0 : Rf) (a1 : Int32) (w : St) : Option (Int32 × St) :=
  gd (cls a0 w = some 6) <|
  bd (f_X9_lastOf G a0 a1 w) fun x2 w2 =>
  if x2 = none then (some (0, w2)) else
  (bd (dsp x2 w2 fun c15 => if c15 = 7 then (f_X10_late G x2 w2) else if c15 = 9 then (f_X10_late G x2 w2) else none) fun x15 w15 =>
  some (x15, w15))
noncomputable def f_X1_coachOf_b96 (G : Nat) (s0 : Int32) (s1 : Int32) (s2 : Rf) (w : St) : Option ((Nat ⊕ Int32) × St) :=
  gd (cls s2 w = some 0) <|
  bd (f_X1_linksAt G s2 s1 s0 w) fun x96 w96 =>
  some ((Sum.inr x96), w96)
noncomputable def f_X1_coachOf (G : Nat) (a0 : Rf) (a1 : Int32) (a2 : Int32) (w : St) : Option ((Nat ⊕ Int32) × St) :=
  gd (cls a0 w = some 0) <|
  bx (f_X1_coach0 G a0 a1 w) fun x2 w2 =>
  bd (f_X1_isBetween G a2 0 6 w2) fun x10 w10 =>
  bx (f_X1_check G x10 w10) fun _ w13 =>
  if a2 = 0 then (bo (getr [3] x2 0 w13) fun x53 =>
  gd (cls x53 w13 = some 15) <|
  bd (fL_size x53 w13) fun x56 w56 =>
  some ((Sum.inr x56), w56)) else
  (if a2 = 1 then (gd (cls x2 w13 = some 3) <|
  bd (f_X5_own G x2 w13) fun x61 w61 =>
  some ((Sum.inr x61), w61)) else
  (if a2 = 2 then (gd (cls a0 w13 = some 0) <|
  bd (f_X1_net G a0 w13) fun x66 w66 =>
  gd (cls x66 w66 = some 6) <|
  bd (f_X9_lateAtEnd G x66 a1 w66) fun x70 w70 =>
  some ((Sum.inr x70), w70)) else
  (if a2 = 3 then (bo (geti [3] x2 1 w13) fun x75 =>
  some ((Sum.inr x75), w13)) else
  (if a2 = 4 then (bo (geti [3] x2 2 w13) fun x80 =>
  some ((Sum.inr x80), w13)) else
  (if a2 = 5 then (f_X1_coachOf_b96 G  1 a1 a0 w13) else
  (f_X1_coachOf_b96 G  0 a1 a0 w13))))))
noncomputable def f_X1_stopOf (G : Nat) (a0 : Rf) (a1 : Int32) (a2 : Int32) (a3 : Int32) (w : St) : Option ((Nat ⊕ Int32) × St) :=
  gd (cls a0 w = some 0) <|
  bx (f_X1_coach0 G a0 a1 w) fun x2 w2 =>
  bo (getr [3] x2 0 w2) fun x11 =>
  gd (cls x11 w2 = some 15) <|
  bd (fL_size x11 w2) fun x14 w14 =>
  bd (f_X1_isBetween G a2 0 (x14 - 1) w14) fun x19 w19 =>
  bx (f_X1_checkIndex G x19 w19) fun _ w22 =>
  bd (f_X1_isBetween G a3 0 4 w22) fun x28 w28 =>
  bx (f_X1_check G x28 w28) fun _ w31 =>
  bo (getr [3] x2 0 w31) fun x36 =>
  gd (cls x36 w31 = some 15) <|
  bd (fL_get x36 a2 w31) fun x40 w40 =>
  gd (okc [4] x40 w40 = true) <|
  if a3 = 0 then (bo (geti [4] x40 0 w40) fun x82 =>
  some ((Sum.inr x82), w40)) else
  (if a3 = 1 then (bo (geti [4] x40 1 w40) fun x88 =>
  some ((Sum.inr x88), w40)) else
  (if a3 = 2 then (bo (geti [4] x40 2 w40) fun x94 =>
  some ((Sum.inr x94), w40)) else
  (if a3 = 3 then (bo (geti [4] x40 3 w40) fun x100 =>
  some ((Sum.inr x100), w40)) else
  (bo (geti [4] x40 4 w40) fun x106 =>
  some ((Sum.inr x106), w40)))))
noncomputable def f_X1_mustBeThere (G : Nat) (a0 : Rf) (a1 : Int32) (a2 : Int32) (a3 : Int32) (w : St) : Option ((Nat ⊕ Unit) × St) :=
  bo (getr [0] a0 0 w) fun x1 =>
  bd (f_X8_of G a3 w) fun x7 w7 =>
  gd (cls x1 w7 = some 1) <|
  bd (f_X2_isEvent G x1 a1 a2 x7 w7) fun x10 w10 =>
  bx (f_X1_checkIndex G x10 w10) fun _ w13 =>
  some ((Sum.inr (())), w13)
noncomputable def f_X1_eventOf (G : Nat) (a0 : Rf) (a1 : Int32) (a2 : Int32) (a3 : Int32) (a4 : Int32) (w : St) : Option ((Nat ⊕ Int32) × St) :=
  gd (cls a0 w = some 0) <|
  bx (f_X1_mustBeThere G a0 a1 a2 a3 w) fun _ w4 =>
  bd (f_X1_isBetween G a4 0 5 w4) fun x11 w11 =>
  bx (f_X1_check G x11 w11) fun _ w14 =>
  gd (cls a0 w14 = some 0) <|
  bd (f_X1_net G a0 w14) fun x18 w18 =>
  bd (f_X8_of G a3 w18) fun x24 w24 =>
  gd (cls x18 w24 = some 6) <|
  bd (f_X9_event G x18 a1 a2 x24 w24) fun x27 w27 =>
  if a4 = 0 then (bo (geti [7, 9] x27 3 w27) fun x70 =>
  some ((Sum.inr x70), w27)) else
  (if a4 = 1 then (bo (geti [7, 9] x27 7 w27) fun x76 =>
  some ((Sum.inr x76), w27)) else
  (if a4 = 2 then (bd (dsp x27 w27 fun c82 => if c82 = 7 then (f_X10_late G x27 w27) else if c82 = 9 then (f_X10_late G x27 w27) else none) fun x82 w82 =>
  some ((Sum.inr x82), w82)) else
  (if a4 = 3 then (bo (geti [7, 9] x27 4 w27) fun x88 =>
  some ((Sum.inr x88), w27)) else
  (if a4 = 4 then (bo (geti [7, 9] x27 9 w27) fun x94 =>
  some ((Sum.inr x94), w27)) else
  (bo (geti [7, 9] x27 10 w27) fun x100 =>
  some ((Sum.inr x100), w27))))))
noncomputable def f_X1_minute (G : Nat) (a0 : Rf) (a1 : Int32) (a2 : Int32) (a3 : Int32) (w : St) : Option ((Nat ⊕ Int32) × St) :=
  gd (cls a0 w = some 0) <|
  bx (f_X1_mustBeThere G a0 a1 a2 a3 w) fun _ w4 =>
  gd (cls a0 w4 = some 0) <|
  bd (f_X1_net G a0 w4) fun x8 w8 =>
  bd (f_X8_of G a3 w8) fun x14 w14 =>
  gd (cls x8 w14 = some 6) <|
  bd (f_X9_event G x8 a1 a2 x14 w14) fun x17 w17 =>
  bo (geti [7, 9] x17 7 w17) fun x20 =>
  some ((Sum.inr x20), w17)
noncomputable def f_X1_minuteAgain (G : Nat) (a0 : Rf) (a1 : Int32) (a2 : Int32) (a3 : Int32) (w : St) : Option ((Nat ⊕ Int32) × St) :=
  gd (cls a0 w = some 0) <|
  bx (f_X1_mustBeThere G a0 a1 a2 a3 w) fun _ w4 =>
  bd (nw 6 [.null, .null, .int 0] 3 w4) fun b7 w7 =>
  bo (getr [0] a0 0 w7) fun x12 =>
  bd (f_X9_init G b7 x12 ((-1)) w7) fun _ w16 =>
  gd (cls ((some b7)) w16 = some 6) <|
  bd (f_X9_inRounds G ((some b7)) w16) fun x19 w19 =>
  bd (f_X8_of G a3 w19) fun x25 w25 =>
  gd (cls x19 w25 = some 6) <|
  bd (f_X9_event G x19 a1 a2 x25 w25) fun x28 w28 =>
  bo (geti [7, 9] x28 7 w28) fun x31 =>
  some ((Sum.inr x31), w28)
noncomputable def f_X1_link0 (G : Nat) (a0 : Rf) (a1 : Int32) (w : St) : Option ((Nat ⊕ Rf) × St) :=
  bo (getr [0] a0 0 w) fun x1 =>
  gd (cls x1 w = some 1) <|
  bd (f_X2_isLink G x1 a1 w) fun x5 w5 =>
  bx (f_X1_checkIndex G x5 w5) fun _ w8 =>
  bo (getr [0] a0 0 w8) fun x12 =>
  bo (getr [1] x12 1 w8) fun x15 =>
  gd (cls x15 w8 = some 15) <|
  bd (fL_get x15 a1 w8) fun x19 w19 =>
  gd (okc [5] x19 w19 = true) <|
  some ((Sum.inr x19), w19)
noncomputable def f_X1_spareOf (G : Nat) (a0 : Rf) (a1 : Rf) (w : St) : Option (Int32 × St) :=
  bo (getr [0] a0 0 w) fun x1 =>
  bo (geti [5] a1 2 w) fun x5 =>
  bo (geti [5] a1 3 w) fun x9 =>
  gd (cls x1 w = some 1) <|
  bd (f_X2_stop G x1 x5 x9 w) fun x12 w12 =>
  bo (geti [4] x12 6 w12) fun x15 =>
  bo (getr [0] a0 0 w12) fun x19 =>
  bo (geti [5] a1 0 w12) fun x23 =>
  bo (geti [5] a1 1 w12) fun x27 =>
  gd (cls x19 w12 = some 1) <|
  bd (f_X2_stop G x19 x23 x27 w12) fun x30 w30 =>
  bo (geti [4] x30 5 w30) fun x33 =>
  bo (geti [5] a1 4 w30) fun x38 =>
  some (((x15 - x33) - x38), w30)
noncomputable def f_X1_linkOf (G : Nat) (a0 : Rf) (a1 : Int32) (a2 : Int32) (w : St) : Option ((Nat ⊕ Int32) × St) :=
  gd (cls a0 w = some 0) <|
  bx (f_X1_link0 G a0 a1 w) fun x2 w2 =>
  bd (f_X1_isBetween G a2 0 8 w2) fun x10 w10 =>
  bx (f_X1_check G x10 w10) fun _ w13 =>
  if a2 = 0 then (bo (geti [5] x2 0 w13) fun x65 =>
  some ((Sum.inr x65), w13)) else
  (if a2 = 1 then (bo (geti [5] x2 1 w13) fun x70 =>
  some ((Sum.inr x70), w13)) else
  (if a2 = 2 then (bo (geti [5] x2 2 w13) fun x75 =>
  some ((Sum.inr x75), w13)) else
  (if a2 = 3 then (bo (geti [5] x2 3 w13) fun x80 =>
  some ((Sum.inr x80), w13)) else
  (if a2 = 4 then (bo (geti [5] x2 4 w13) fun x85 =>
  some ((Sum.inr x85), w13)) else
  (if a2 = 5 then (bo (geti [5] x2 5 w13) fun x90 =>
  some ((Sum.inr x90), w13)) else
  (if a2 = 6 then (gd (cls a0 w13 = some 0) <|
  bd (f_X1_net G a0 w13) fun x95 w95 =>
  gd (cls x95 w95 = some 6) <|
  bd (f_X9_isKept G x95 a1 w95) fun x99 w99 =>
  if x99 = 0 then (some ((Sum.inr 0), w99)) else
  (some ((Sum.inr 1), w99))) else
  (if a2 = 7 then (gd (cls a0 w13 = some 0) <|
  bd (f_X1_net G a0 w13) fun x112 w112 =>
  gd (cls x112 w112 = some 6) <|
  bd (f_X9_waited G x112 a1 w112) fun x116 w116 =>
  some ((Sum.inr x116), w116)) else
  (gd (cls a0 w13 = some 0) <|
  bd (f_X1_spareOf G a0 x2 w13) fun x122 w122 =>
  some ((Sum.inr x122), w122)))))))))
noncomputable def f_X1_missed_b48 (G : Nat) (k10 : Rf → Int32 → Rf → Int32 → Int32 → St → Option ((Nat ⊕ Int32) × St)) (v0 : Rf) (v1 : Int32) (v2 : Rf) (v3 : Int32) (v4 : Int32) (w : St) : Option ((Nat ⊕ Int32) × St) :=
  k10 v0 v1 v2 v3 (v4 + 1) w
noncomputable def f_X1_missed_l10 (G : Nat) (k42 : Int32 → St → Option ((Nat ⊕ Int32) × St)) (k54 : St → Option ((Nat ⊕ Int32) × St)) : Nat → Rf → Int32 → Rf → Int32 → Int32 → St → Option ((Nat ⊕ Int32) × St)
  | 0, _, _, _, _, _, _ => none
  | F + 1, v0, v1, v2, v3, v4, w =>
  bo (getr [0] v0 0 w) fun x13 =>
  bo (getr [1] x13 1 w) fun x16 =>
  gd (cls x16 w = some 15) <|
  bd (fL_size x16 w) fun x19 w19 =>
  if x19 ≤ v4 then (k54 w19) else
  (gd (cls v2 w19 = some 6) <|
  bd (f_X9_isKept G v2 v4 w19) fun x28 w28 =>
  if x28 = 0 then (if v3 = v1 then (k42 v4 w28) else
  (f_X1_missed_b48 G (fun v0 v1 v2 v3 v4 w => f_X1_missed_l10 G k42 k54 F v0 v1 v2 v3 v4 w)  v0 v1 v2 (v3 + 1) v4 w28)) else
  (f_X1_missed_b48 G (fun v0 v1 v2 v3 v4 w => f_X1_missed_l10 G k42 k54 F v0 v1 v2 v3 v4 w)  v0 v1 v2 v3 v4 w28))
noncomputable def f_X1_missed_b42 (G : Nat) (v4 : Int32) (w : St) : Option ((Nat ⊕ Int32) × St) :=
  some ((Sum.inr v4), w)
noncomputable def f_X1_missed_b54 (G : Nat) (w : St) : Option ((Nat ⊕ Int32) × St) :=
  some (Sum.inl w.n, (enew 21 w))
noncomputable def f_X1_missed (G : Nat) (a0 : Rf) (a1 : Int32) (w : St) : Option ((Nat ⊕ Int32) × St) :=
  gd (cls a0 w = some 0) <|
  bd (f_X1_net G a0 w) fun x1 w1 =>
  f_X1_missed_l10 G (fun v4 w => f_X1_missed_b42 G  v4 w) (fun w => f_X1_missed_b54 G  w) G a0 a1 x1 0 0 w1
noncomputable def f_X1_waits_b64 (G : Nat) (k16 : Rf → Int32 → Rf → Int32 → Int32 → St → Option ((Nat ⊕ Int32) × St)) (v0 : Rf) (v1 : Int32) (v2 : Rf) (v4 : Int32) (s0 : Int32) (s1 : Int32) (w : St) : Option ((Nat ⊕ Int32) × St) :=
  k16 v0 v1 v2 (s1 + s0) (v4 + 1) w
noncomputable def f_X1_waits_l16 (G : Nat) (k72 : Int32 → St → Option ((Nat ⊕ Int32) × St)) : Nat → Rf → Int32 → Rf → Int32 → Int32 → St → Option ((Nat ⊕ Int32) × St)
  | 0, _, _, _, _, _, _ => none
  | F + 1, v0, v1, v2, v3, v4, w =>
  bo (getr [0] v0 0 w) fun x19 =>
  bo (getr [1] x19 1 w) fun x22 =>
  gd (cls x22 w = some 15) <|
  bd (fL_size x22 w) fun x25 w25 =>
  if x25 ≤ v4 then (k72 v3 w25) else
  (bo (getr [0] v0 0 w25) fun x33 =>
  bo (getr [1] x33 1 w25) fun x36 =>
  gd (cls x36 w25 = some 15) <|
  bd (fL_get x36 v4 w25) fun x41 w41 =>
  gd (okc [5] x41 w41 = true) <|
  bo (geti [5] x41 2 w41) fun x47 =>
  if x47 = v1 then (gd (cls v2 w41 = some 6) <|
  bd (f_X9_waited G v2 v4 w41) fun x57 w57 =>
  f_X1_waits_b64 G (fun v0 v1 v2 v3 v4 w => f_X1_waits_l16 G k72 F v0 v1 v2 v3 v4 w)  v0 v1 v2 v4 x57 v3 w57) else
  (f_X1_waits_b64 G (fun v0 v1 v2 v3 v4 w => f_X1_waits_l16 G k72 F v0 v1 v2 v3 v4 w)  v0 v1 v2 v4 0 v3 w41))
noncomputable def f_X1_waits_b72 (G : Nat) (v3 : Int32) (w : St) : Option ((Nat ⊕ Int32) × St) :=
  some ((Sum.inr v3), w)
noncomputable def f_X1_waits (G : Nat) (a0 : Rf) (a1 : Int32) (w : St) : Option ((Nat ⊕ Int32) × St) :=
  gd (cls a0 w = some 0) <|
  bx (f_X1_coach0 G a0 a1 w) fun x2 w2 =>
  gd (cls a0 w2 = some 0) <|
  bd (f_X1_net G a0 w2) fun x7 w7 =>
  f_X1_waits_l16 G (fun v3 w => f_X1_waits_b72 G  v3 w) G a0 a1 x7 0 0 w7
noncomputable def f_X1_knocks_b95 (G : Nat) (k39 : Int32 → Rf → Rf → Int32 → Int32 → St → Option ((Nat ⊕ Int32) × St)) (v1 : Int32) (v2 : Rf) (v3 : Rf) (v5 : Int32) (s0 : Int32) (s1 : Int32) (w : St) : Option ((Nat ⊕ Int32) × St) :=
  k39 v1 v2 v3 (s1 + s0) (v5 + 1) w
noncomputable def f_X1_knocks_l39 (G : Nat) (k104 : Int32 → St → Option ((Nat ⊕ Int32) × St)) : Nat → Int32 → Rf → Rf → Int32 → Int32 → St → Option ((Nat ⊕ Int32) × St)
  | 0, _, _, _, _, _, _ => none
  | F + 1, v1, v2, v3, v4, v5, w =>
  gd (cls v2 w = some 15) <|
  bd (fL_size v2 w) fun x42 w42 =>
  if x42 ≤ v5 then (k104 v4 w42) else
  (gd (cls v2 w42 = some 15) <|
  bd (fL_get v2 v5 w42) fun x53 w53 =>
  gd (okc [7, 9] x53 w53 = true) <|
  bo (geti [7, 9] x53 0 w53) fun x59 =>
  if x59 = v1 then (f_X1_knocks_b95 G (fun v1 v2 v3 v4 v5 w => f_X1_knocks_l39 G k104 F v1 v2 v3 v4 v5 w)  v1 v2 v3 v5 0 v4 w53) else
  (gd (cls v2 w53 = some 15) <|
  bd (fL_get v2 v5 w53) fun x73 w73 =>
  gd (okc [7, 9] x73 w73 = true) <|
  bo (geti [7, 9] x73 7 w73) fun x79 =>
  gd (cls v3 w73 = some 15) <|
  bd (fL_get v3 v5 w73) fun x85 w85 =>
  gd (okc [7, 9] x85 w85 = true) <|
  bo (geti [7, 9] x85 7 w85) fun x91 =>
  f_X1_knocks_b95 G (fun v1 v2 v3 v4 v5 w => f_X1_knocks_l39 G k104 F v1 v2 v3 v4 v5 w)  v1 v2 v3 v5 (x79 - x91) v4 w85))
noncomputable def f_X1_knocks_b104 (G : Nat) (v4 : Int32) (w : St) : Option ((Nat ⊕ Int32) × St) :=
  some ((Sum.inr v4), w)
noncomputable def f_X1_knocks (G : Nat) (a0 : Rf) (a1 : Int32) (w : St) : Option ((Nat ⊕ Int32) × St) :=
  gd (cls a0 w = some 0) <|
  bx (f_X1_coach0 G a0 a1 w) fun x2 w2 =>
  gd (cls a0 w2 = some 0) <|
  bd (f_X1_net G a0 w2) fun x7 w7 =>
  bo (getr [6] x7 0 w7) fun x10 =>
  bd (nw 6 [.null, .null, .int 0] 3 w7) fun b14 w14 =>
  bo (getr [0] a0 0 w14) fun x19 =>
  bd (f_X9_init G b14 x19 a1 w14) fun _ w23 =>
  gd (cls ((some b14)) w23 = some 6) <|
  bd (f_X9_inTurn G ((some b14)) w23) fun x26 w26 =>
  bo (getr [6] x26 0 w26) fun x29 =>
  f_X1_knocks_l39 G (fun v4 w => f_X1_knocks_b104 G  v4 w) G a1 x10 x29 0 0 w26
abbrev V_X1_save (l : Launch) (D : Dn) (H0 : Heap) (w0 : St) (res : Option (Int32 × St)) (pc : Nat) (ls : List (Nat × LV)) (st : List Value) (w : St) : Prop := V l D H0 RX1 "save" cX1_save 1 (some (.int)) [] 34 3086 (fun x => .inr (rvI x)) w0 res pc ls st w
theorem t_X1_save {l : Launch} {D : Dn} {H0 : Heap} {w0 : St} (hl : l.stackTraces = false) (G : Nat) (a0 : Rf) (w : St) : V_X1_save l D H0 w0 (f_X1_save G a0 w) 0 [(0, lR a0)] [] w := by
  unfold f_X1_save
  refine r_aload_n 1 0 dX1_save_0 rfl rfl rfl ?_
  refine r_aload_n 2 0 dX1_save_1 rfl rfl rfl ?_
  refine r_getr 5 gf_X1_10 dX1_save_2 rfl (fun x2 => ?_)
  refine r_gd (fun hc5 => ?_)
  refine r_callV (n := 0) (as := []) (rest := [rf a0]) 8 1 (s_X2_copy hl G x2 w) hc5 rfl (lw_V q1208 q1209 q1210 q101 q1211) (by decide +kernel) (by decide) rfl rfl (cat2_r (cat2_nil (k := 0))) rfl dX1_save_5 rfl (fun x5 w5 => ?_)
  refine r_putr 11 pf_X1_507 (Or.inl ⟨_, rfl⟩) dX1_save_8 rfl (fun w8 => ?_)
  refine r_aload_n 12 0 dX1_save_11 rfl rfl rfl ?_
  refine r_getr 15 gf_X1_10 dX1_save_12 rfl (fun x12 => ?_)
  refine r_getr 18 gf_X1_118 dX1_save_15 rfl (fun x15 => ?_)
  refine r_gd (fun hc18 => ?_)
  refine r_callV (n := 0) (as := []) (rest := []) 21 15 (sL_size hl x15 w8) hc18 rfl (lw_V q857 q303 q304 q104 q305) (by decide +kernel) (by decide) rfl rfl (cat2_nil (k := 0)) rfl dX1_save_18 rfl (fun x18 w18 => ?_)
  exact r_iret rfl rfl dX1_save_21
theorem s_X1_save {l : Launch} {D : Dn} {H0 : Heap} (hl : l.stackTraces = false) (G : Nat) (a0 : Rf) (w : St) : SimN l D H0 yX1_save (ws_ yX1_save cX1_save 1 (some (.int))) 34 3086 rvI [lR a0] w (f_X1_save G a0 w) := SimX.N (SimX.ofV (y := yX1_save) (by decide) rfl (t_X1_save hl G a0 w))
abbrev V_X4_init (l : Launch) (D : Dn) (H0 : Heap) (w0 : St) (res : Option (Unit × St)) (pc : Nat) (ls : List (Nat × LV)) (st : List Value) (w : St) : Prop := V l D H0 RX4 "<init>" cX4_init 4 none [] 1 20 (fun x => .inr (rvU x)) w0 res pc ls st w
theorem t_X4_init {l : Launch} {D : Dn} {H0 : Heap} {w0 : St} (hl : l.stackTraces = false) (G : Nat) (a0 : Nat) (a1 : Int32) (a2 : Int32) (a3 : Rf) (w : St) : V_X4_init l D H0 w0 (f_X4_init G a0 a1 a2 a3 w) 0 [(0, lR ((some a0))), (1, lI a1), (2, lI a2), (3, lR a3)] [] w := by
  unfold f_X4_init
  refine r_aload_n 1 0 dX4_init_0 rfl rfl rfl ?_
  refine r_objInit 4 q1375 q154 q155 (by decide) (cat2_nil (k := 0)) rfl dX4_init_1 rfl ?_
  refine r_aload_n 5 0 dX4_init_4 rfl rfl rfl ?_
  refine r_iload_n 6 1 dX4_init_5 rfl rfl rfl ?_
  refine r_puti 9 pf_X4_7 dX4_init_6 rfl (fun w6 => ?_)
  refine r_aload_n 10 0 dX4_init_9 rfl rfl rfl ?_
  refine r_iload_n 11 2 dX4_init_10 rfl rfl rfl ?_
  refine r_puti 14 pf_X4_13 dX4_init_11 rfl (fun w11 => ?_)
  refine r_aload_n 15 0 dX4_init_14 rfl rfl rfl ?_
  refine r_aload_n 16 3 dX4_init_15 rfl rfl rfl ?_
  refine r_putr 19 pf_X4_16 (Or.inl ⟨_, rfl⟩) dX4_init_16 rfl (fun w16 => ?_)
  exact r_vret rfl rfl dX4_init_19
theorem s_X4_init {l : Launch} {D : Dn} {H0 : Heap} (hl : l.stackTraces = false) (G : Nat) (a0 : Nat) (a1 : Int32) (a2 : Int32) (a3 : Rf) (w : St) : SimN l D H0 yX4_init (ws_ yX4_init cX4_init 4 none) 1 20 rvU [lR (some a0), lI a1, lI a2, lR a3] w (f_X4_init G a0 a1 a2 a3 w) := SimX.N (SimX.ofV (y := yX4_init) (by decide) rfl (t_X4_init hl G a0 a1 a2 a3 w))
abbrev V_X1_refuse (l : Launch) (D : Dn) (H0 : Heap) (w0 : St) (res : Option ((Nat ⊕ Unit) × St)) (pc : Nat) (ls : List (Nat × LV)) (st : List Value) (w : St) : Prop := V l D H0 RX1 "refuse" cX1_refuse 4 none [] 6 81 (ocX rvU) w0 res pc ls st w
theorem t_X1_refuse {l : Launch} {D : Dn} {H0 : Heap} {w0 : St} (hl : l.stackTraces = false) (G : Nat) (a0 : Rf) (a1 : Int32) (a2 : Int32) (a3 : Int32) (w : St) : V_X1_refuse l D H0 w0 (f_X1_refuse G a0 a1 a2 a3 w) 0 [(0, lR a0), (1, lI a1), (2, lI a2), (3, lI a3)] [] w := by
  unfold f_X1_refuse
  refine r_iload_n 1 1 dX1_refuse_0 rfl rfl rfl ?_
  refine r_if_eq 26 4 dX1_refuse_1 (by decide) rfl ?_ ?_
  · exact r_vret rfl rfl dX1_refuse_26
  refine r_aload_n 5 0 dX1_refuse_4 rfl rfl rfl ?_
  refine r_nw (C := RX4) (T := TX4) (N := 3) (ty := tyX4) 8 2 rfl rfl in_X4 tyX4_ok q1370 q1371 q111 rfl (by decide) dX1_refuse_5 rfl (fun b5 w5 => ?_)
  refine r_dup_r 9 dX1_refuse_8 rfl ?_
  refine r_iload_n 10 2 dX1_refuse_9 rfl rfl rfl ?_
  refine r_iload_n 11 3 dX1_refuse_10 rfl rfl rfl ?_
  refine r_null 12 dX1_refuse_11 rfl ?_
  refine r_callI (b := b5) (n := 3) (as := [lI a2, lI a3, lR none]) (rest := [rf ((some b5)), rf a0]) 15 (s_X4_init hl G b5 a2 a3 none w5) (lw_meth q1374) q111 q1372 q1373 rfl (by decide +kernel) (by decide) rfl rfl (cat2_r (cat2_r (cat2_nil (k := 0)))) rfl dX1_refuse_12 rfl (fun _ w12 => ?_)
  refine r_putr 18 pf_X1_42 (Or.inl ⟨_, rfl⟩) dX1_refuse_15 rfl (fun w15 => ?_)
  refine r_make 25 20 (names := exNm) hl (by rfl) (by decide) (by decide) exNm_ok q1389 q115 at_20 (by decide) (cat2_nil (k := 0)) dX1_refuse_18 dX1_refuse_21 dX1_refuse_22 rfl ?_
  exact r_athrow (isX_enew rfl (by decide)) dX1_refuse_25 (r_pass (fun _ => rfl) rfl)
theorem s_X1_refuse {l : Launch} {D : Dn} {H0 : Heap} (hl : l.stackTraces = false) (G : Nat) (a0 : Rf) (a1 : Int32) (a2 : Int32) (a3 : Int32) (w : St) : SimX l D H0 yX1_refuse (ws_ yX1_refuse cX1_refuse 4 none) 6 81 (ocX rvU) [lR a0, lI a1, lI a2, lI a3] w (f_X1_refuse G a0 a1 a2 a3 w) := SimX.ofV (y := yX1_refuse) (by decide) rfl (t_X1_refuse hl G a0 a1 a2 a3 w)
abbrev V_X1_change (l : Launch) (D : Dn) (H0 : Heap) (w0 : St) (res : Option (Unit × St)) (pc : Nat) (ls : List (Nat × LV)) (st : List Value) (w : St) : Prop := V l D H0 RX1 "change" cX1_change 1 none [] 34 3086 (fun x => .inr (rvU x)) w0 res pc ls st w
theorem t_X1_change {l : Launch} {D : Dn} {H0 : Heap} {w0 : St} (hl : l.stackTraces = false) (G : Nat) (a0 : Rf) (w : St) : V_X1_change l D H0 w0 (f_X1_change G a0 w) 0 [(0, lR a0)] [] w := by
  unfold f_X1_change
  refine r_aload_n 1 0 dX1_change_0 rfl rfl rfl ?_
  refine r_geti 4 gf_X1_82 dX1_change_1 rfl (fun x1 => ?_)
  refine r_if_eq 8 7 dX1_change_4 (by decide) rfl ?_ ?_
  · refine r_aload_n 9 0 dX1_change_8 rfl rfl rfl ?_
    refine r_getr 12 gf_X1_19 dX1_change_9 rfl (fun x9 => ?_)
    refine r_aload_n 13 0 dX1_change_12 rfl rfl rfl ?_
    refine r_getr 16 gf_X1_10 dX1_change_13 rfl (fun x13 => ?_)
    refine r_gd (fun hc16 => ?_)
    refine r_callV (n := 0) (as := []) (rest := [rf x9]) 19 1 (s_X2_copy hl G x13 w) hc16 rfl (lw_V q1208 q1209 q1210 q101 q1211) (by decide +kernel) (by decide) rfl rfl (cat2_r (cat2_nil (k := 0))) rfl dX1_change_16 rfl (fun x16 w16 => ?_)
    refine r_gd (fun hc19 => ?_)
    refine r_callV (n := 1) (as := [lR x16]) (rest := []) 22 17 (sD_addLast hl x9 x16 w16) hc19 rfl (lw_V q1408 q1409 q1410 q105 q1411) (by decide +kernel) (by decide) rfl rfl (cat2_nil (k := 0)) rfl dX1_change_19 rfl (fun _ w19 => ?_)
    refine r_aload_n 23 0 dX1_change_22 rfl rfl rfl ?_
    refine r_getr 26 gf_X1_19 dX1_change_23 rfl (fun x23 => ?_)
    refine r_gd (fun hc26 => ?_)
    refine r_callV (n := 0) (as := []) (rest := []) 29 17 (sD_size hl x23 w19) hc26 rfl (lw_V q1443 q1444 q1445 q105 q1446) (by decide +kernel) (by decide) rfl rfl (cat2_nil (k := 0)) rfl dX1_change_26 rfl (fun x26 w26 => ?_)
    refine r_bipush (v := 8) 31 dX1_change_29 rfl rfl ?_
    refine r_icmp_le 42 34 dX1_change_31 (by decide) rfl ?_ ?_
    · exact r_vret rfl rfl dX1_change_42
    refine r_aload_n 35 0 dX1_change_34 rfl rfl rfl ?_
    refine r_getr 38 gf_X1_19 dX1_change_35 rfl (fun x35 => ?_)
    refine r_gd (fun hc38 => ?_)
    refine r_callV (n := 0) (as := []) (rest := []) 41 17 (sD_removeFirst hl x35 w26) hc38 rfl (lw_V q1450 q1451 q1452 q105 q1453) (by decide +kernel) (by decide) rfl rfl (cat2_nil (k := 0)) rfl dX1_change_38 rfl (fun x38 w38 => ?_)
    refine r_pop_r 42 dX1_change_41 rfl ?_
    exact r_vret rfl rfl dX1_change_42
  exact r_vret rfl rfl dX1_change_7
theorem s_X1_change {l : Launch} {D : Dn} {H0 : Heap} (hl : l.stackTraces = false) (G : Nat) (a0 : Rf) (w : St) : SimN l D H0 yX1_change (ws_ yX1_change cX1_change 1 none) 34 3086 rvU [lR a0] w (f_X1_change G a0 w) := SimX.N (SimX.ofV (y := yX1_change) (by decide) rfl (t_X1_change hl G a0 w))
abbrev V_X1_isBetween (l : Launch) (D : Dn) (H0 : Heap) (w0 : St) (res : Option (Int32 × St)) (pc : Nat) (ls : List (Nat × LV)) (st : List Value) (w : St) : Prop := V l D H0 RX1 "isBetween" cX1_isBetween 3 (some (.boolean)) [] 0 0 (fun x => .inr (rvI x)) w0 res pc ls st w
theorem t_X1_isBetween {l : Launch} {D : Dn} {H0 : Heap} {w0 : St} (hl : l.stackTraces = false) (G : Nat) (a0 : Int32) (a1 : Int32) (a2 : Int32) (w : St) : V_X1_isBetween l D H0 w0 (f_X1_isBetween G a0 a1 a2 w) 0 [(0, lI a0), (1, lI a1), (2, lI a2)] [] w := by
  unfold f_X1_isBetween
  refine r_iload_n 1 0 dX1_isBetween_0 rfl rfl rfl ?_
  refine r_iload_n 2 1 dX1_isBetween_1 rfl rfl rfl ?_
  refine r_icmp_lt 14 5 dX1_isBetween_2 (by decide) rfl ?_ ?_
  · refine r_iconst (v := 0) 15 dX1_isBetween_14 rfl rfl ?_
    exact r_zret rfl rfl rfl dX1_isBetween_15
  refine r_iload_n 6 0 dX1_isBetween_5 rfl rfl rfl ?_
  refine r_iload_n 7 2 dX1_isBetween_6 rfl rfl rfl ?_
  refine r_icmp_gt 14 10 dX1_isBetween_7 (by decide) rfl ?_ ?_
  · refine r_iconst (v := 0) 15 dX1_isBetween_14 rfl rfl ?_
    exact r_zret rfl rfl rfl dX1_isBetween_15
  refine r_iconst (v := 1) 11 dX1_isBetween_10 rfl rfl ?_
  refine r_goto 15 dX1_isBetween_11 (by decide) ?_
  exact r_zret rfl rfl rfl dX1_isBetween_15
theorem s_X1_isBetween {l : Launch} {D : Dn} {H0 : Heap} (hl : l.stackTraces = false) (G : Nat) (a0 : Int32) (a1 : Int32) (a2 : Int32) (w : St) : SimN l D H0 yX1_isBetween (ws_ yX1_isBetween cX1_isBetween 3 (some (.boolean))) 0 0 rvI [lI a0, lI a1, lI a2] w (f_X1_isBetween G a0 a1 a2 w) := SimX.N (SimX.ofV (y := yX1_isBetween) (by decide) rfl (t_X1_isBetween hl G a0 a1 a2 w))
abbrev V_X1_inRange (l : Launch) (D : Dn) (H0 : Heap) (w0 : St) (res : Option ((Nat ⊕ Unit) × St)) (pc : Nat) (ls : List (Nat × LV)) (st : List Value) (w : St) : Prop := V l D H0 RX1 "inRange" cX1_inRange 4 none [] 7 104 (ocX rvU) w0 res pc ls st w
theorem t_X1_inRange_b15 {l : Launch} {D : Dn} {H0 : Heap} {w0 : St} (hl : l.stackTraces = false) (G : Nat) (v1 : Int32) (s0 : Int32) (s1 : Rf) (w : St) : V_X1_inRange l D H0 w0 (f_X1_inRange_b15 G v1 s0 s1 w) 15 [(1, lI v1)] [.int s0, rf s1] w := by
  unfold f_X1_inRange_b15
  refine r_iconst (v := 1) 16 dX1_inRange_15 rfl rfl ?_
  refine r_iload_n 17 0 dX1_inRange_16 rfl rfl rfl ?_
  refine r_gd (fun hc17 => ?_)
  rw [bx_bh]
  refine r_callHV (n := 3) (as := [lI s0, lI 1, lI v1]) (rest := []) 20 0 (s_X1_refuse hl G s1 s0 1 v1 w) hc17 rfl (lw_V q1366 q1368 qs9 q100 q1369) (by decide +kernel) (by decide) rfl rfl (cat2_nil (k := 0)) rfl dX1_inRange_17 rfl (fun q9 w17 => r_pass (fun _ => rfl) rfl) (fun _ w17 => ?_)
  exact r_vret rfl rfl dX1_inRange_20
theorem t_X1_inRange {l : Launch} {D : Dn} {H0 : Heap} {w0 : St} (hl : l.stackTraces = false) (G : Nat) (a0 : Rf) (a1 : Int32) (a2 : Int32) (a3 : Int32) (w : St) : V_X1_inRange l D H0 w0 (f_X1_inRange G a0 a1 a2 a3 w) 0 [(0, lR a0), (1, lI a1), (2, lI a2), (3, lI a3)] [] w := by
  unfold f_X1_inRange
  refine r_aload_n 1 0 dX1_inRange_0 rfl rfl rfl ?_
  refine r_iload_n 2 1 dX1_inRange_1 rfl rfl rfl ?_
  refine r_iload_n 3 2 dX1_inRange_2 rfl rfl rfl ?_
  refine r_iload_n 4 3 dX1_inRange_3 rfl rfl rfl ?_
  refine r_callS (n := 3) (as := [lI a1, lI a2, lI a3]) (rest := [rf a0]) 7 (s_X1_isBetween hl G a1 a2 a3 w) (lw_S q1363 q1364 q100 q1365) (by decide +kernel) (by decide) rfl rfl (cat2_r (cat2_nil (k := 0))) rfl dX1_inRange_4 rfl (fun x4 w4 => ?_)
  refine r_if_ne 14 10 dX1_inRange_7 (by decide) rfl ?_ ?_
  · refine r_iconst (v := 0) 15 dX1_inRange_14 rfl rfl ?_
    exact r_lsP [1] rfl (t_X1_inRange_b15 hl G  a1 0 a0 w4)
  refine r_iconst (v := 1) 11 dX1_inRange_10 rfl rfl ?_
  refine r_goto 15 dX1_inRange_11 (by decide) ?_
  exact r_lsP [1] rfl (t_X1_inRange_b15 hl G  a1 1 a0 w4)
theorem s_X1_inRange {l : Launch} {D : Dn} {H0 : Heap} (hl : l.stackTraces = false) (G : Nat) (a0 : Rf) (a1 : Int32) (a2 : Int32) (a3 : Int32) (w : St) : SimX l D H0 yX1_inRange (ws_ yX1_inRange cX1_inRange 4 none) 7 104 (ocX rvU) [lR a0, lI a1, lI a2, lI a3] w (f_X1_inRange G a0 a1 a2 a3 w) := SimX.ofV (y := yX1_inRange) (by decide) rfl (t_X1_inRange hl G a0 a1 a2 a3 w)
abbrev V_X1_coach (l : Launch) (D : Dn) (H0 : Heap) (w0 : St) (res : Option ((Nat ⊕ Int32) × St)) (pc : Nat) (ls : List (Nat × LV)) (st : List Value) (w : St) : Prop := V l D H0 RX1 "coach" cX1_coach 4 (some (.int)) [] 35 3106 (ocX rvI) w0 res pc ls st w
theorem t_X1_coach_b38 {l : Launch} {D : Dn} {H0 : Heap} {w0 : St} (hl : l.stackTraces = false) (G : Nat) (v0 : Rf) (v1 : Int32) (v2 : Int32) (s0 : Int32) (s1 : Rf) (w : St) : V_X1_coach l D H0 w0 (f_X1_coach_b38 G v0 v1 v2 s0 s1 w) 38 [(0, lR v0), (1, lI v1), (2, lI v2)] [.int s0, rf s1] w := by
  unfold f_X1_coach_b38
  refine r_iconst (v := 2) 39 dX1_coach_38 rfl rfl ?_
  refine r_bipush (v := 6) 41 dX1_coach_39 rfl rfl ?_
  refine r_gd (fun hc41 => ?_)
  rw [bx_bh]
  refine r_callHV (n := 3) (as := [lI s0, lI 2, lI 6]) (rest := []) 44 0 (s_X1_refuse hl G s1 s0 2 6 w) hc41 rfl (lw_V q1366 q1368 qs9 q100 q1369) (by decide +kernel) (by decide) rfl rfl (cat2_nil (k := 0)) rfl dX1_coach_41 rfl (fun q9 w41 => r_pass (fun _ => rfl) rfl) (fun _ w41 => ?_)
  refine r_aload_n 45 0 dX1_coach_44 rfl rfl rfl ?_
  refine r_gd (fun hc45 => ?_)
  refine r_callV (n := 0) (as := []) (rest := []) 48 0 (s_X1_change hl G v0 w41) hc45 rfl (lw_V q1404 q1406 qs10 q100 q1407) (by decide +kernel) (by decide) rfl rfl (cat2_nil (k := 0)) rfl dX1_coach_45 rfl (fun _ w45 => ?_)
  refine r_nw (C := RX5) (T := TX5) (N := 3) (ty := tyX5) 51 3 rfl rfl in_X5 tyX5_ok q1463 q1225 q118 rfl (by decide) dX1_coach_48 rfl (fun b48 w48 => ?_)
  refine r_dup_r 52 dX1_coach_51 rfl ?_
  refine r_callNI (b := b48) (n := 0) (as := []) (rest := [rf ((some b48))]) 55 (s_X5_init hl G b48 w48) (lw_meth q1228) q1464 q118 q1227 rfl (by decide +kernel) (by decide) rfl rfl (cat2_r (cat2_nil (k := 0))) rfl dX1_coach_52 rfl (fun _ w52 => ?_)
  refine r_astore_n (ls2 := [(3, lR ((some b48))), (0, lR v0), (1, lI v1), (2, lI v2)]) 56 dX1_coach_55 rfl (by decide) rfl rfl ?_
  refine r_aload_n 57 0 dX1_coach_56 rfl rfl rfl ?_
  refine r_getr 60 gf_X1_131 dX1_coach_57 rfl (fun x57 => ?_)
  refine r_nw (C := RX6) (T := TX6) (N := 9) (ty := tyX6) 63 4 rfl rfl in_X6 tyX6_ok q1465 q1259 q119 rfl (by decide) dX1_coach_60 rfl (fun b60 w60 => ?_)
  refine r_dup_r 64 dX1_coach_63 rfl ?_
  refine r_iload_n 65 2 dX1_coach_64 rfl rfl rfl ?_
  refine r_iconst (v := 0) 66 dX1_coach_65 rfl rfl ?_
  refine r_iconst (v := 0) 67 dX1_coach_66 rfl rfl ?_
  refine r_iconst (v := 0) 68 dX1_coach_67 rfl rfl ?_
  refine r_iconst (v := 0) 69 dX1_coach_68 rfl rfl ?_
  refine r_iload_n 70 3 dX1_coach_69 rfl rfl rfl ?_
  refine r_iload_n 71 3 dX1_coach_70 rfl rfl rfl ?_
  refine r_callI (b := b60) (n := 7) (as := [lI v1, lI 0, lI 0, lI 0, lI 0, lI v2, lI v2]) (rest := [rf ((some b60)), rf x57]) 74 (s_X6_init hl G b60 v1 0 0 0 0 v2 v2 w60) (lw_meth q1262) q119 q1466 q1261 rfl (by decide +kernel) (by decide) rfl rfl (cat2_r (cat2_r (cat2_nil (k := 0)))) rfl dX1_coach_71 rfl (fun _ w71 => ?_)
  refine r_gd (fun hc74 => ?_)
  refine r_callV (n := 1) (as := [lR ((some b60))]) (rest := []) 77 15 (sL_add hl x57 ((some b60)) w71) hc74 rfl (lw_V q1467 q422 q423 q104 q424) (by decide +kernel) (by decide) rfl rfl (cat2_nil (k := 0)) rfl dX1_coach_74 rfl (fun x74 w74 => ?_)
  refine r_pop_i 78 dX1_coach_77 rfl ?_
  refine r_aload_n 79 1 dX1_coach_78 rfl rfl rfl ?_
  refine r_getr 82 gf_X1_10 dX1_coach_79 rfl (fun x79 => ?_)
  refine r_getr 85 gf_X1_118 dX1_coach_82 rfl (fun x82 => ?_)
  refine r_aload_n 86 0 dX1_coach_85 rfl rfl rfl ?_
  refine r_gd (fun hc86 => ?_)
  refine r_callV (n := 1) (as := [lR ((some b48))]) (rest := []) 89 15 (sL_add hl x82 ((some b48)) w74) hc86 rfl (lw_V q1467 q422 q423 q104 q424) (by decide +kernel) (by decide) rfl rfl (cat2_nil (k := 0)) rfl dX1_coach_86 rfl (fun x86 w86 => ?_)
  refine r_pop_i 90 dX1_coach_89 rfl ?_
  refine r_aload_n 91 1 dX1_coach_90 rfl rfl rfl ?_
  refine r_getr 94 gf_X1_10 dX1_coach_91 rfl (fun x91 => ?_)
  refine r_getr 97 gf_X1_118 dX1_coach_94 rfl (fun x94 => ?_)
  refine r_gd (fun hc97 => ?_)
  refine r_callV (n := 0) (as := []) (rest := []) 100 15 (sL_size hl x94 w86) hc97 rfl (lw_V q857 q303 q304 q104 q305) (by decide +kernel) (by decide) rfl rfl (cat2_nil (k := 0)) rfl dX1_coach_97 rfl (fun x97 w97 => ?_)
  refine r_iconst (v := 1) 101 dX1_coach_100 rfl rfl ?_
  refine r_isub 102 dX1_coach_101 rfl ?_
  exact r_iret rfl rfl dX1_coach_102
theorem t_X1_coach {l : Launch} {D : Dn} {H0 : Heap} {w0 : St} (hl : l.stackTraces = false) (G : Nat) (a0 : Rf) (a1 : Int32) (a2 : Int32) (w : St) : V_X1_coach l D H0 w0 (f_X1_coach G a0 a1 a2 w) 0 [(0, lR a0), (1, lI a1), (2, lI a2)] [] w := by
  unfold f_X1_coach
  refine r_aload_n 1 0 dX1_coach_0 rfl rfl rfl ?_
  refine r_iload_n 2 1 dX1_coach_1 rfl rfl rfl ?_
  refine r_iconst (v := 0) 3 dX1_coach_2 rfl rfl ?_
  refine r_bipush (v := 9) 5 dX1_coach_3 rfl rfl ?_
  refine r_gd (fun hc5 => ?_)
  rw [bx_bh]
  refine r_callHV (n := 3) (as := [lI a1, lI 0, lI 9]) (rest := []) 8 0 (s_X1_inRange hl G a0 a1 0 9 w) hc5 rfl (lw_V q1359 q1361 qs8 q100 q1362) (by decide +kernel) (by decide) rfl rfl (cat2_nil (k := 0)) rfl dX1_coach_5 rfl (fun q9 w5 => r_pass (fun _ => rfl) rfl) (fun _ w5 => ?_)
  refine r_aload_n 9 0 dX1_coach_8 rfl rfl rfl ?_
  refine r_iload_n 10 2 dX1_coach_9 rfl rfl rfl ?_
  refine r_iconst (v := 0) 11 dX1_coach_10 rfl rfl ?_
  refine r_sipush (v := 600) 14 dX1_coach_11 rfl rfl ?_
  refine r_gd (fun hc14 => ?_)
  rw [bx_bh]
  refine r_callHV (n := 3) (as := [lI a2, lI 0, lI 600]) (rest := []) 17 0 (s_X1_inRange hl G a0 a2 0 600 w5) hc14 rfl (lw_V q1359 q1361 qs8 q100 q1362) (by decide +kernel) (by decide) rfl rfl (cat2_nil (k := 0)) rfl dX1_coach_14 rfl (fun q9 w14 => r_pass (fun _ => rfl) rfl) (fun _ w14 => ?_)
  refine r_aload_n 18 0 dX1_coach_17 rfl rfl rfl ?_
  refine r_aload_n 19 0 dX1_coach_18 rfl rfl rfl ?_
  refine r_getr 22 gf_X1_10 dX1_coach_19 rfl (fun x19 => ?_)
  refine r_getr 25 gf_X1_118 dX1_coach_22 rfl (fun x22 => ?_)
  refine r_gd (fun hc25 => ?_)
  refine r_callV (n := 0) (as := []) (rest := [rf a0]) 28 15 (sL_size hl x22 w14) hc25 rfl (lw_V q857 q303 q304 q104 q305) (by decide +kernel) (by decide) rfl rfl (cat2_r (cat2_nil (k := 0))) rfl dX1_coach_25 rfl (fun x25 w25 => ?_)
  refine r_bipush (v := 6) 30 dX1_coach_28 rfl rfl ?_
  refine r_icmp_ne 37 33 dX1_coach_30 (by decide) rfl ?_ ?_
  · refine r_iconst (v := 0) 38 dX1_coach_37 rfl rfl ?_
    exact r_lsP [0, 1, 2] rfl (t_X1_coach_b38 hl G  a0 a1 a2 0 a0 w25)
  refine r_iconst (v := 1) 34 dX1_coach_33 rfl rfl ?_
  refine r_goto 38 dX1_coach_34 (by decide) ?_
  exact r_lsP [0, 1, 2] rfl (t_X1_coach_b38 hl G  a0 a1 a2 1 a0 w25)
theorem s_X1_coach {l : Launch} {D : Dn} {H0 : Heap} (hl : l.stackTraces = false) (G : Nat) (a0 : Rf) (a1 : Int32) (a2 : Int32) (w : St) : SimX l D H0 yX1_coach (ws_ yX1_coach cX1_coach 4 (some (.int))) 35 3106 (ocX rvI) [lR a0, lI a1, lI a2] w (f_X1_coach G a0 a1 a2 w) := SimX.ofV (y := yX1_coach) (by decide) rfl (t_X1_coach hl G a0 a1 a2 w)
abbrev V_X5_last (l : Launch) (D : Dn) (H0 : Heap) (w0 : St) (res : Option (Rf × St)) (pc : Nat) (ls : List (Nat × LV)) (st : List Value) (w : St) : Prop := V l D H0 RX5 "last" cX5_last 1 (some (.object "CoachTimetable$Stop")) [] 31 3021 (fun x => .inr (rvR x)) w0 res pc ls st w
theorem t_X5_last {l : Launch} {D : Dn} {H0 : Heap} {w0 : St} (hl : l.stackTraces = false) (G : Nat) (a0 : Rf) (w : St) : V_X5_last l D H0 w0 (f_X5_last G a0 w) 0 [(0, lR a0)] [] w := by
  unfold f_X5_last
  refine r_aload_n 1 0 dX5_last_0 rfl rfl rfl ?_
  refine r_getr 4 gf_X5_12 dX5_last_1 rfl (fun x1 => ?_)
  refine r_aload_n 5 0 dX5_last_4 rfl rfl rfl ?_
  refine r_getr 8 gf_X5_12 dX5_last_5 rfl (fun x5 => ?_)
  refine r_gd (fun hc8 => ?_)
  refine r_callV (n := 0) (as := []) (rest := [rf x1]) 11 15 (sL_size hl x5 w) hc8 rfl (lw_V q1489 q303 q304 q104 q305) (by decide +kernel) (by decide) rfl rfl (cat2_r (cat2_nil (k := 0))) rfl dX5_last_8 rfl (fun x8 w8 => ?_)
  refine r_iconst (v := 1) 12 dX5_last_11 rfl rfl ?_
  refine r_isub 13 dX5_last_12 rfl ?_
  refine r_gd (fun hc13 => ?_)
  refine r_callV (n := 1) (as := [lI (x8 - 1)]) (rest := []) 16 15 (sL_get hl x1 (x8 - 1) w8) hc13 rfl (lw_V q1490 q311 q312 q104 q313) (by decide +kernel) (by decide) rfl rfl (cat2_nil (k := 0)) rfl dX5_last_13 rfl (fun x13 w13 => ?_)
  refine r_cast 19 (CA_cons (c0 := 4) rfl (Or.inl rfl) (CA_nil)) q1253 dX5_last_16 rfl ?_
  exact r_aret rfl rfl (Or.inl ⟨_, rfl⟩) dX5_last_19
theorem s_X5_last {l : Launch} {D : Dn} {H0 : Heap} (hl : l.stackTraces = false) (G : Nat) (a0 : Rf) (w : St) : SimN l D H0 yX5_last (ws_ yX5_last cX5_last 1 (some (.object "CoachTimetable$Stop"))) 31 3021 rvR [lR a0] w (f_X5_last G a0 w) := SimX.N (SimX.ofV (y := yX5_last) (by decide) rfl (t_X5_last hl G a0 w))
abbrev V_X2_isCoach (l : Launch) (D : Dn) (H0 : Heap) (w0 : St) (res : Option (Int32 × St)) (pc : Nat) (ls : List (Nat × LV)) (st : List Value) (w : St) : Prop := V l D H0 RX2 "isCoach" cX2_isCoach 2 (some (.boolean)) [] 31 3020 (fun x => .inr (rvI x)) w0 res pc ls st w
theorem t_X2_isCoach {l : Launch} {D : Dn} {H0 : Heap} {w0 : St} (hl : l.stackTraces = false) (G : Nat) (a0 : Rf) (a1 : Int32) (w : St) : V_X2_isCoach l D H0 w0 (f_X2_isCoach G a0 a1 w) 0 [(0, lR a0), (1, lI a1)] [] w := by
  unfold f_X2_isCoach
  refine r_iload_n 1 1 dX2_isCoach_0 rfl rfl rfl ?_
  refine r_iconst (v := 0) 2 dX2_isCoach_1 rfl rfl ?_
  refine r_aload_n 3 0 dX2_isCoach_2 rfl rfl rfl ?_
  refine r_getr 6 gf_X2_10 dX2_isCoach_3 rfl (fun x3 => ?_)
  refine r_gd (fun hc6 => ?_)
  refine r_callV (n := 0) (as := []) (rest := [.int 0, .int a1]) 9 15 (sL_size hl x3 w) hc6 rfl (lw_V q1483 q303 q304 q104 q305) (by decide +kernel) (by decide) rfl rfl (cat2_i (cat2_i (cat2_nil (k := 0)))) rfl dX2_isCoach_6 rfl (fun x6 w6 => ?_)
  refine r_iconst (v := 1) 10 dX2_isCoach_9 rfl rfl ?_
  refine r_isub 11 dX2_isCoach_10 rfl ?_
  refine r_callNS (n := 3) (as := [lI a1, lI 0, lI (x6 - 1)]) (rest := []) 14 (s_X1_isBetween hl G a1 0 (x6 - 1) w6) (lw_meth q1365) q1484 q100 q1364 (by decide +kernel) (by decide) rfl rfl (cat2_nil (k := 0)) rfl dX2_isCoach_11 rfl (fun x11 w11 => ?_)
  exact r_zretG rfl rfl dX2_isCoach_14
theorem s_X2_isCoach {l : Launch} {D : Dn} {H0 : Heap} (hl : l.stackTraces = false) (G : Nat) (a0 : Rf) (a1 : Int32) (w : St) : SimN l D H0 yX2_isCoach (ws_ yX2_isCoach cX2_isCoach 2 (some (.boolean))) 31 3020 rvI [lR a0, lI a1] w (f_X2_isCoach G a0 a1 w) := SimX.N (SimX.ofV (y := yX2_isCoach) (by decide) rfl (t_X2_isCoach hl G a0 a1 w))
abbrev V_X1_mustBeCoach (l : Launch) (D : Dn) (H0 : Heap) (w0 : St) (res : Option ((Nat ⊕ Unit) × St)) (pc : Nat) (ls : List (Nat × LV)) (st : List Value) (w : St) : Prop := V l D H0 RX1 "mustBeCoach" cX1_mustBeCoach 2 none [] 32 3041 (ocX rvU) w0 res pc ls st w
theorem t_X1_mustBeCoach_b17 {l : Launch} {D : Dn} {H0 : Heap} {w0 : St} (hl : l.stackTraces = false) (G : Nat) (v1 : Int32) (s0 : Int32) (s1 : Rf) (w : St) : V_X1_mustBeCoach l D H0 w0 (f_X1_mustBeCoach_b17 G v1 s0 s1 w) 17 [(1, lI v1)] [.int s0, rf s1] w := by
  unfold f_X1_mustBeCoach_b17
  refine r_iconst (v := 3) 18 dX1_mustBeCoach_17 rfl rfl ?_
  refine r_iload_n 19 0 dX1_mustBeCoach_18 rfl rfl rfl ?_
  refine r_gd (fun hc19 => ?_)
  rw [bx_bh]
  refine r_callHV (n := 3) (as := [lI s0, lI 3, lI v1]) (rest := []) 22 0 (s_X1_refuse hl G s1 s0 3 v1 w) hc19 rfl (lw_V q1366 q1368 qs9 q100 q1369) (by decide +kernel) (by decide) rfl rfl (cat2_nil (k := 0)) rfl dX1_mustBeCoach_19 rfl (fun q9 w19 => r_pass (fun _ => rfl) rfl) (fun _ w19 => ?_)
  exact r_vret rfl rfl dX1_mustBeCoach_22
theorem t_X1_mustBeCoach {l : Launch} {D : Dn} {H0 : Heap} {w0 : St} (hl : l.stackTraces = false) (G : Nat) (a0 : Rf) (a1 : Int32) (w : St) : V_X1_mustBeCoach l D H0 w0 (f_X1_mustBeCoach G a0 a1 w) 0 [(0, lR a0), (1, lI a1)] [] w := by
  unfold f_X1_mustBeCoach
  refine r_aload_n 1 0 dX1_mustBeCoach_0 rfl rfl rfl ?_
  refine r_aload_n 2 0 dX1_mustBeCoach_1 rfl rfl rfl ?_
  refine r_getr 5 gf_X1_10 dX1_mustBeCoach_2 rfl (fun x2 => ?_)
  refine r_iload_n 6 1 dX1_mustBeCoach_5 rfl rfl rfl ?_
  refine r_gd (fun hc6 => ?_)
  refine r_callV (n := 1) (as := [lI a1]) (rest := [rf a0]) 9 1 (s_X2_isCoach hl G x2 a1 w) hc6 rfl (lw_V q1479 q1480 q1481 q101 q1482) (by decide +kernel) (by decide) rfl rfl (cat2_r (cat2_nil (k := 0))) rfl dX1_mustBeCoach_6 rfl (fun x6 w6 => ?_)
  refine r_if_ne 16 12 dX1_mustBeCoach_9 (by decide) rfl ?_ ?_
  · refine r_iconst (v := 0) 17 dX1_mustBeCoach_16 rfl rfl ?_
    exact r_lsP [1] rfl (t_X1_mustBeCoach_b17 hl G  a1 0 a0 w6)
  refine r_iconst (v := 1) 13 dX1_mustBeCoach_12 rfl rfl ?_
  refine r_goto 17 dX1_mustBeCoach_13 (by decide) ?_
  exact r_lsP [1] rfl (t_X1_mustBeCoach_b17 hl G  a1 1 a0 w6)
theorem s_X1_mustBeCoach {l : Launch} {D : Dn} {H0 : Heap} (hl : l.stackTraces = false) (G : Nat) (a0 : Rf) (a1 : Int32) (w : St) : SimX l D H0 yX1_mustBeCoach (ws_ yX1_mustBeCoach cX1_mustBeCoach 2 none) 32 3041 (ocX rvU) [lR a0, lI a1] w (f_X1_mustBeCoach G a0 a1 w) := SimX.ofV (y := yX1_mustBeCoach) (by decide) rfl (t_X1_mustBeCoach hl G a0 a1 w)
abbrev V_X1_leg (l : Launch) (D : Dn) (H0 : Heap) (w0 : St) (res : Option ((Nat ⊕ Int32) × St)) (pc : Nat) (ls : List (Nat × LV)) (st : List Value) (w : St) : Prop := V l D H0 RX1 "leg" cX1_leg 9 (some (.int)) [] 35 3106 (ocX rvI) w0 res pc ls st w
theorem t_X1_leg_b112 {l : Launch} {D : Dn} {H0 : Heap} {w0 : St} (hl : l.stackTraces = false) (G : Nat) (v0 : Rf) (v1 : Int32) (v2 : Int32) (v3 : Int32) (v4 : Int32) (v5 : Int32) (v6 : Int32) (s0 : Int32) (s1 : Rf) (w : St) : V_X1_leg l D H0 w0 (f_X1_leg_b112 G v0 v1 v2 v3 v4 v5 v6 s0 s1 w) 112 [(0, lR v0), (1, lI v1), (2, lI v2), (3, lI v3), (4, lI v4), (5, lI v5), (6, lI v6)] [.int s0, rf s1] w := by
  unfold f_X1_leg_b112
  refine r_iconst (v := 2) 113 dX1_leg_112 rfl rfl ?_
  refine r_bipush (v := 6) 115 dX1_leg_113 rfl rfl ?_
  refine r_gd (fun hc115 => ?_)
  rw [bx_bh]
  refine r_callHV (n := 3) (as := [lI s0, lI 2, lI 6]) (rest := []) 118 0 (s_X1_refuse hl G s1 s0 2 6 w) hc115 rfl (lw_V q1366 q1368 qs9 q100 q1369) (by decide +kernel) (by decide) rfl rfl (cat2_nil (k := 0)) rfl dX1_leg_115 rfl (fun q9 w115 => r_pass (fun _ => rfl) rfl) (fun _ w115 => ?_)
  refine r_aload_n 119 0 dX1_leg_118 rfl rfl rfl ?_
  refine r_gd (fun hc119 => ?_)
  refine r_callV (n := 0) (as := []) (rest := []) 122 0 (s_X1_change hl G v0 w115) hc119 rfl (lw_V q1404 q1406 qs10 q100 q1407) (by decide +kernel) (by decide) rfl rfl (cat2_nil (k := 0)) rfl dX1_leg_119 rfl (fun _ w119 => ?_)
  refine r_aload_n 123 0 dX1_leg_122 rfl rfl rfl ?_
  refine r_getr 126 gf_X1_10 dX1_leg_123 rfl (fun x123 => ?_)
  refine r_getr 129 gf_X1_118 dX1_leg_126 rfl (fun x126 => ?_)
  refine r_iload_n 130 1 dX1_leg_129 rfl rfl rfl ?_
  refine r_gd (fun hc130 => ?_)
  refine r_callV (n := 1) (as := [lI v1]) (rest := []) 133 15 (sL_get hl x126 v1 w119) hc130 rfl (lw_V q858 q311 q312 q104 q313) (by decide +kernel) (by decide) rfl rfl (cat2_nil (k := 0)) rfl dX1_leg_130 rfl (fun x130 w130 => ?_)
  refine r_cast 136 (CA_cons (c0 := 3) rfl (Or.inl rfl) (CA_nil)) q1463 dX1_leg_133 rfl ?_
  refine r_astore (ls2 := [(7, lR x130), (0, lR v0), (1, lI v1), (2, lI v2), (3, lI v3), (4, lI v4), (5, lI v5), (6, lI v6)]) 138 dX1_leg_136 (by decide) rfl rfl ?_
  refine r_aload 140 0 dX1_leg_138 rfl rfl ?_
  refine r_gd (fun hc140 => ?_)
  refine r_callV (n := 0) (as := []) (rest := []) 143 3 (s_X5_last hl G x130 w130) hc140 rfl (lw_V q1485 q1486 q1487 q118 q1488) (by decide +kernel) (by decide) rfl rfl (cat2_nil (k := 0)) rfl dX1_leg_140 rfl (fun x140 w140 => ?_)
  refine r_geti 146 gf_X1_154 dX1_leg_143 rfl (fun x143 => ?_)
  refine r_iload_n 147 4 dX1_leg_146 rfl rfl rfl ?_
  refine r_iadd 148 dX1_leg_147 rfl ?_
  refine r_iload 150 5 dX1_leg_148 rfl rfl ?_
  refine r_iadd 151 dX1_leg_150 rfl ?_
  refine r_istore (ls2 := [(8, lI ((x143 + v3) + v4)), (7, lR x130), (0, lR v0), (1, lI v1), (2, lI v2), (3, lI v3), (4, lI v4), (5, lI v5), (6, lI v6)]) 153 dX1_leg_151 (by decide) rfl rfl ?_
  refine r_aload 155 1 dX1_leg_153 rfl rfl ?_
  refine r_getr 158 gf_X1_131 dX1_leg_155 rfl (fun x155 => ?_)
  refine r_nw (C := RX6) (T := TX6) (N := 9) (ty := tyX6) 161 4 rfl rfl in_X6 tyX6_ok q1465 q1259 q119 rfl (by decide) dX1_leg_158 rfl (fun b158 w158 => ?_)
  refine r_dup_r 162 dX1_leg_161 rfl ?_
  refine r_iload_n 163 4 dX1_leg_162 rfl rfl rfl ?_
  refine r_iload_n 164 5 dX1_leg_163 rfl rfl rfl ?_
  refine r_iload 166 6 dX1_leg_164 rfl rfl ?_
  refine r_iload 168 7 dX1_leg_166 rfl rfl ?_
  refine r_iload 170 8 dX1_leg_168 rfl rfl ?_
  refine r_iload 172 0 dX1_leg_170 rfl rfl ?_
  refine r_iload 174 0 dX1_leg_172 rfl rfl ?_
  refine r_iload 176 7 dX1_leg_174 rfl rfl ?_
  refine r_iadd 177 dX1_leg_176 rfl ?_
  refine r_callI (b := b158) (n := 7) (as := [lI v2, lI v3, lI v4, lI v5, lI v6, lI ((x143 + v3) + v4), lI (((x143 + v3) + v4) + v5)]) (rest := [rf ((some b158)), rf x155]) 180 (s_X6_init hl G b158 v2 v3 v4 v5 v6 ((x143 + v3) + v4) (((x143 + v3) + v4) + v5) w158) (lw_meth q1262) q119 q1466 q1261 rfl (by decide +kernel) (by decide) rfl rfl (cat2_r (cat2_r (cat2_nil (k := 0)))) rfl dX1_leg_177 rfl (fun _ w177 => ?_)
  refine r_gd (fun hc180 => ?_)
  refine r_callV (n := 1) (as := [lR ((some b158))]) (rest := []) 183 15 (sL_add hl x155 ((some b158)) w177) hc180 rfl (lw_V q1467 q422 q423 q104 q424) (by decide +kernel) (by decide) rfl rfl (cat2_nil (k := 0)) rfl dX1_leg_180 rfl (fun x180 w180 => ?_)
  refine r_pop_i 184 dX1_leg_183 rfl ?_
  refine r_iload 186 0 dX1_leg_184 rfl rfl ?_
  exact r_iret rfl rfl dX1_leg_186
theorem t_X1_leg_b75 {l : Launch} {D : Dn} {H0 : Heap} {w0 : St} (hl : l.stackTraces = false) (G : Nat) (v0 : Rf) (v1 : Int32) (v2 : Int32) (v3 : Int32) (v4 : Int32) (v5 : Int32) (v6 : Int32) (s0 : Int32) (s1 : Rf) (w : St) : V_X1_leg l D H0 w0 (f_X1_leg_b75 G v0 v1 v2 v3 v4 v5 v6 s0 s1 w) 75 [(0, lR v0), (1, lI v1), (2, lI v2), (3, lI v3), (4, lI v4), (5, lI v5), (6, lI v6)] [.int s0, rf s1] w := by
  unfold f_X1_leg_b75
  refine r_bipush (v := 9) 77 dX1_leg_75 rfl rfl ?_
  refine r_iload_n 78 1 dX1_leg_77 rfl rfl rfl ?_
  refine r_gd (fun hc78 => ?_)
  rw [bx_bh]
  refine r_callHV (n := 3) (as := [lI s0, lI 9, lI v1]) (rest := []) 81 0 (s_X1_refuse hl G s1 s0 9 v1 w) hc78 rfl (lw_V q1366 q1368 qs9 q100 q1369) (by decide +kernel) (by decide) rfl rfl (cat2_nil (k := 0)) rfl dX1_leg_78 rfl (fun q9 w78 => r_pass (fun _ => rfl) rfl) (fun _ w78 => ?_)
  refine r_aload_n 82 0 dX1_leg_81 rfl rfl rfl ?_
  refine r_aload_n 83 0 dX1_leg_82 rfl rfl rfl ?_
  refine r_getr 86 gf_X1_10 dX1_leg_83 rfl (fun x83 => ?_)
  refine r_getr 89 gf_X1_118 dX1_leg_86 rfl (fun x86 => ?_)
  refine r_iload_n 90 1 dX1_leg_89 rfl rfl rfl ?_
  refine r_gd (fun hc90 => ?_)
  refine r_callV (n := 1) (as := [lI v1]) (rest := [rf v0]) 93 15 (sL_get hl x86 v1 w78) hc90 rfl (lw_V q858 q311 q312 q104 q313) (by decide +kernel) (by decide) rfl rfl (cat2_r (cat2_nil (k := 0))) rfl dX1_leg_90 rfl (fun x90 w90 => ?_)
  refine r_cast 96 (CA_cons (c0 := 3) rfl (Or.inl rfl) (CA_nil)) q1463 dX1_leg_93 rfl ?_
  refine r_getr 99 gf_X1_131 dX1_leg_96 rfl (fun x96 => ?_)
  refine r_gd (fun hc99 => ?_)
  refine r_callV (n := 0) (as := []) (rest := [rf v0]) 102 15 (sL_size hl x96 w90) hc99 rfl (lw_V q857 q303 q304 q104 q305) (by decide +kernel) (by decide) rfl rfl (cat2_r (cat2_nil (k := 0))) rfl dX1_leg_99 rfl (fun x99 w99 => ?_)
  refine r_bipush (v := 6) 104 dX1_leg_102 rfl rfl ?_
  refine r_icmp_ne 111 107 dX1_leg_104 (by decide) rfl ?_ ?_
  · refine r_iconst (v := 0) 112 dX1_leg_111 rfl rfl ?_
    exact r_lsP [0, 1, 2, 3, 4, 5, 6] rfl (t_X1_leg_b112 hl G  v0 v1 v2 v3 v4 v5 v6 0 v0 w99)
  refine r_iconst (v := 1) 108 dX1_leg_107 rfl rfl ?_
  refine r_goto 112 dX1_leg_108 (by decide) ?_
  exact r_lsP [0, 1, 2, 3, 4, 5, 6] rfl (t_X1_leg_b112 hl G  v0 v1 v2 v3 v4 v5 v6 1 v0 w99)
theorem t_X1_leg {l : Launch} {D : Dn} {H0 : Heap} {w0 : St} (hl : l.stackTraces = false) (G : Nat) (a0 : Rf) (a1 : Int32) (a2 : Int32) (a3 : Int32) (a4 : Int32) (a5 : Int32) (a6 : Int32) (w : St) : V_X1_leg l D H0 w0 (f_X1_leg G a0 a1 a2 a3 a4 a5 a6 w) 0 [(0, lR a0), (1, lI a1), (2, lI a2), (3, lI a3), (4, lI a4), (5, lI a5), (6, lI a6)] [] w := by
  unfold f_X1_leg
  refine r_aload_n 1 0 dX1_leg_0 rfl rfl rfl ?_
  refine r_iload_n 2 1 dX1_leg_1 rfl rfl rfl ?_
  refine r_gd (fun hc2 => ?_)
  rw [bx_bh]
  refine r_callHV (n := 1) (as := [lI a1]) (rest := []) 5 0 (s_X1_mustBeCoach hl G a0 a1 w) hc2 rfl (lw_V q1475 q1477 qs13 q100 q1478) (by decide +kernel) (by decide) rfl rfl (cat2_nil (k := 0)) rfl dX1_leg_2 rfl (fun q9 w2 => r_pass (fun _ => rfl) rfl) (fun _ w2 => ?_)
  refine r_aload_n 6 0 dX1_leg_5 rfl rfl rfl ?_
  refine r_iload_n 7 2 dX1_leg_6 rfl rfl rfl ?_
  refine r_iconst (v := 0) 8 dX1_leg_7 rfl rfl ?_
  refine r_bipush (v := 9) 10 dX1_leg_8 rfl rfl ?_
  refine r_gd (fun hc10 => ?_)
  rw [bx_bh]
  refine r_callHV (n := 3) (as := [lI a2, lI 0, lI 9]) (rest := []) 13 0 (s_X1_inRange hl G a0 a2 0 9 w2) hc10 rfl (lw_V q1359 q1361 qs8 q100 q1362) (by decide +kernel) (by decide) rfl rfl (cat2_nil (k := 0)) rfl dX1_leg_10 rfl (fun q9 w10 => r_pass (fun _ => rfl) rfl) (fun _ w10 => ?_)
  refine r_aload_n 14 0 dX1_leg_13 rfl rfl rfl ?_
  refine r_iload_n 15 3 dX1_leg_14 rfl rfl rfl ?_
  refine r_iconst (v := 1) 16 dX1_leg_15 rfl rfl ?_
  refine r_bipush (v := 60) 18 dX1_leg_16 rfl rfl ?_
  refine r_gd (fun hc18 => ?_)
  rw [bx_bh]
  refine r_callHV (n := 3) (as := [lI a3, lI 1, lI 60]) (rest := []) 21 0 (s_X1_inRange hl G a0 a3 1 60 w10) hc18 rfl (lw_V q1359 q1361 qs8 q100 q1362) (by decide +kernel) (by decide) rfl rfl (cat2_nil (k := 0)) rfl dX1_leg_18 rfl (fun q9 w18 => r_pass (fun _ => rfl) rfl) (fun _ w18 => ?_)
  refine r_aload_n 22 0 dX1_leg_21 rfl rfl rfl ?_
  refine r_iload 24 4 dX1_leg_22 rfl rfl ?_
  refine r_iconst (v := 0) 25 dX1_leg_24 rfl rfl ?_
  refine r_bipush (v := 30) 27 dX1_leg_25 rfl rfl ?_
  refine r_gd (fun hc27 => ?_)
  rw [bx_bh]
  refine r_callHV (n := 3) (as := [lI a4, lI 0, lI 30]) (rest := []) 30 0 (s_X1_inRange hl G a0 a4 0 30 w18) hc27 rfl (lw_V q1359 q1361 qs8 q100 q1362) (by decide +kernel) (by decide) rfl rfl (cat2_nil (k := 0)) rfl dX1_leg_27 rfl (fun q9 w27 => r_pass (fun _ => rfl) rfl) (fun _ w27 => ?_)
  refine r_aload_n 31 0 dX1_leg_30 rfl rfl rfl ?_
  refine r_iload 33 5 dX1_leg_31 rfl rfl ?_
  refine r_iconst (v := 0) 34 dX1_leg_33 rfl rfl ?_
  refine r_bipush (v := 60) 36 dX1_leg_34 rfl rfl ?_
  refine r_gd (fun hc36 => ?_)
  rw [bx_bh]
  refine r_callHV (n := 3) (as := [lI a5, lI 0, lI 60]) (rest := []) 39 0 (s_X1_inRange hl G a0 a5 0 60 w27) hc36 rfl (lw_V q1359 q1361 qs8 q100 q1362) (by decide +kernel) (by decide) rfl rfl (cat2_nil (k := 0)) rfl dX1_leg_36 rfl (fun q9 w36 => r_pass (fun _ => rfl) rfl) (fun _ w36 => ?_)
  refine r_aload_n 40 0 dX1_leg_39 rfl rfl rfl ?_
  refine r_iload 42 6 dX1_leg_40 rfl rfl ?_
  refine r_iconst (v := 0) 43 dX1_leg_42 rfl rfl ?_
  refine r_iload 45 5 dX1_leg_43 rfl rfl ?_
  refine r_gd (fun hc45 => ?_)
  rw [bx_bh]
  refine r_callHV (n := 3) (as := [lI a6, lI 0, lI a5]) (rest := []) 48 0 (s_X1_inRange hl G a0 a6 0 a5 w36) hc45 rfl (lw_V q1359 q1361 qs8 q100 q1362) (by decide +kernel) (by decide) rfl rfl (cat2_nil (k := 0)) rfl dX1_leg_45 rfl (fun q9 w45 => r_pass (fun _ => rfl) rfl) (fun _ w45 => ?_)
  refine r_aload_n 49 0 dX1_leg_48 rfl rfl rfl ?_
  refine r_aload_n 50 0 dX1_leg_49 rfl rfl rfl ?_
  refine r_getr 53 gf_X1_10 dX1_leg_50 rfl (fun x50 => ?_)
  refine r_getr 56 gf_X1_118 dX1_leg_53 rfl (fun x53 => ?_)
  refine r_iload_n 57 1 dX1_leg_56 rfl rfl rfl ?_
  refine r_gd (fun hc57 => ?_)
  refine r_callV (n := 1) (as := [lI a1]) (rest := [rf a0]) 60 15 (sL_get hl x53 a1 w45) hc57 rfl (lw_V q858 q311 q312 q104 q313) (by decide +kernel) (by decide) rfl rfl (cat2_r (cat2_nil (k := 0))) rfl dX1_leg_57 rfl (fun x57 w57 => ?_)
  refine r_cast 63 (CA_cons (c0 := 3) rfl (Or.inl rfl) (CA_nil)) q1463 dX1_leg_60 rfl ?_
  refine r_geti 66 gf_X1_147 dX1_leg_63 rfl (fun x63 => ?_)
  refine r_iconst (v := (-1)) 67 dX1_leg_66 rfl rfl ?_
  refine r_icmp_eq 74 70 dX1_leg_67 (by decide) rfl ?_ ?_
  · refine r_iconst (v := 0) 75 dX1_leg_74 rfl rfl ?_
    exact r_lsP [0, 1, 2, 3, 4, 5, 6] rfl (t_X1_leg_b75 hl G  a0 a1 a2 a3 a4 a5 a6 0 a0 w57)
  refine r_iconst (v := 1) 71 dX1_leg_70 rfl rfl ?_
  refine r_goto 75 dX1_leg_71 (by decide) ?_
  exact r_lsP [0, 1, 2, 3, 4, 5, 6] rfl (t_X1_leg_b75 hl G  a0 a1 a2 a3 a4 a5 a6 1 a0 w57)
theorem s_X1_leg {l : Launch} {D : Dn} {H0 : Heap} (hl : l.stackTraces = false) (G : Nat) (a0 : Rf) (a1 : Int32) (a2 : Int32) (a3 : Int32) (a4 : Int32) (a5 : Int32) (a6 : Int32) (w : St) : SimX l D H0 yX1_leg (ws_ yX1_leg cX1_leg 9 (some (.int))) 35 3106 (ocX rvI) [lR a0, lI a1, lI a2, lI a3, lI a4, lI a5, lI a6] w (f_X1_leg G a0 a1 a2 a3 a4 a5 a6 w) := SimX.ofV (y := yX1_leg) (by decide) rfl (t_X1_leg hl G a0 a1 a2 a3 a4 a5 a6 w)
abbrev V_X2_stop (l : Launch) (D : Dn) (H0 : Heap) (w0 : St) (res : Option (Rf × St)) (pc : Nat) (ls : List (Nat × LV)) (st : List Value) (w : St) : Prop := V l D H0 RX2 "stop" cX2_stop 3 (some (.object "CoachTimetable$Stop")) [] 31 3021 (fun x => .inr (rvR x)) w0 res pc ls st w
theorem t_X2_stop {l : Launch} {D : Dn} {H0 : Heap} {w0 : St} (hl : l.stackTraces = false) (G : Nat) (a0 : Rf) (a1 : Int32) (a2 : Int32) (w : St) : V_X2_stop l D H0 w0 (f_X2_stop G a0 a1 a2 w) 0 [(0, lR a0), (1, lI a1), (2, lI a2)] [] w := by
  unfold f_X2_stop
  refine r_aload_n 1 0 dX2_stop_0 rfl rfl rfl ?_
  refine r_getr 4 gf_X2_10 dX2_stop_1 rfl (fun x1 => ?_)
  refine r_iload_n 5 1 dX2_stop_4 rfl rfl rfl ?_
  refine r_gd (fun hc5 => ?_)
  refine r_callV (n := 1) (as := [lI a1]) (rest := []) 8 15 (sL_get hl x1 a1 w) hc5 rfl (lw_V q1512 q311 q312 q104 q313) (by decide +kernel) (by decide) rfl rfl (cat2_nil (k := 0)) rfl dX2_stop_5 rfl (fun x5 w5 => ?_)
  refine r_cast 11 (CA_cons (c0 := 3) rfl (Or.inl rfl) (CA_nil)) q1219 dX2_stop_8 rfl ?_
  refine r_getr 14 gf_X2_78 dX2_stop_11 rfl (fun x11 => ?_)
  refine r_iload_n 15 2 dX2_stop_14 rfl rfl rfl ?_
  refine r_gd (fun hc15 => ?_)
  refine r_callV (n := 1) (as := [lI a2]) (rest := []) 18 15 (sL_get hl x11 a2 w5) hc15 rfl (lw_V q1512 q311 q312 q104 q313) (by decide +kernel) (by decide) rfl rfl (cat2_nil (k := 0)) rfl dX2_stop_15 rfl (fun x15 w15 => ?_)
  refine r_cast 21 (CA_cons (c0 := 4) rfl (Or.inl rfl) (CA_nil)) q1535 dX2_stop_18 rfl ?_
  exact r_aret rfl rfl (Or.inl ⟨_, rfl⟩) dX2_stop_21
theorem s_X2_stop {l : Launch} {D : Dn} {H0 : Heap} (hl : l.stackTraces = false) (G : Nat) (a0 : Rf) (a1 : Int32) (a2 : Int32) (w : St) : SimN l D H0 yX2_stop (ws_ yX2_stop cX2_stop 3 (some (.object "CoachTimetable$Stop"))) 31 3021 rvR [lR a0, lI a1, lI a2] w (f_X2_stop G a0 a1 a2 w) := SimX.N (SimX.ofV (y := yX2_stop) (by decide) rfl (t_X2_stop hl G a0 a1 a2 w))
abbrev V_X1_mustMeet (l : Launch) (D : Dn) (H0 : Heap) (w0 : St) (res : Option ((Nat ⊕ Unit) × St)) (pc : Nat) (ls : List (Nat × LV)) (st : List Value) (w : St) : Prop := V l D H0 RX1 "mustMeet" cX1_mustMeet 8 none [] 32 3043 (ocX rvU) w0 res pc ls st w
theorem t_X1_mustMeet_b87 {l : Launch} {D : Dn} {H0 : Heap} {w0 : St} (hl : l.stackTraces = false) (G : Nat) (v7 : Int32) (s0 : Int32) (s1 : Rf) (w : St) : V_X1_mustMeet l D H0 w0 (f_X1_mustMeet_b87 G v7 s0 s1 w) 87 [(7, lI v7)] [.int s0, rf s1] w := by
  unfold f_X1_mustMeet_b87
  refine r_bipush (v := 8) 89 dX1_mustMeet_87 rfl rfl ?_
  refine r_iload 91 0 dX1_mustMeet_89 rfl rfl ?_
  refine r_gd (fun hc91 => ?_)
  rw [bx_bh]
  refine r_callHV (n := 3) (as := [lI s0, lI 8, lI v7]) (rest := []) 94 0 (s_X1_refuse hl G s1 s0 8 v7 w) hc91 rfl (lw_V q1366 q1368 qs9 q100 q1369) (by decide +kernel) (by decide) rfl rfl (cat2_nil (k := 0)) rfl dX1_mustMeet_91 rfl (fun q9 w91 => r_pass (fun _ => rfl) rfl) (fun _ w91 => ?_)
  exact r_vret rfl rfl dX1_mustMeet_94
theorem t_X1_mustMeet_b38 {l : Launch} {D : Dn} {H0 : Heap} {w0 : St} (hl : l.stackTraces = false) (G : Nat) (v0 : Rf) (v1 : Int32) (v2 : Int32) (v3 : Int32) (v4 : Int32) (v5 : Int32) (v6 : Int32) (s0 : Int32) (s1 : Rf) (w : St) : V_X1_mustMeet l D H0 w0 (f_X1_mustMeet_b38 G v0 v1 v2 v3 v4 v5 v6 s0 s1 w) 38 [(0, lR v0), (1, lI v1), (2, lI v2), (3, lI v3), (4, lI v4), (5, lI v5), (6, lI v6)] [.int s0, rf s1] w := by
  unfold f_X1_mustMeet_b38
  refine r_bipush (v := 7) 40 dX1_mustMeet_38 rfl rfl ?_
  refine r_iload 42 6 dX1_mustMeet_40 rfl rfl ?_
  refine r_gd (fun hc42 => ?_)
  rw [bx_bh]
  refine r_callHV (n := 3) (as := [lI s0, lI 7, lI v6]) (rest := []) 45 0 (s_X1_refuse hl G s1 s0 7 v6 w) hc42 rfl (lw_V q1366 q1368 qs9 q100 q1369) (by decide +kernel) (by decide) rfl rfl (cat2_nil (k := 0)) rfl dX1_mustMeet_42 rfl (fun q9 w42 => r_pass (fun _ => rfl) rfl) (fun _ w42 => ?_)
  refine r_aload_n 46 0 dX1_mustMeet_45 rfl rfl rfl ?_
  refine r_getr 49 gf_X1_10 dX1_mustMeet_46 rfl (fun x46 => ?_)
  refine r_iload_n 50 1 dX1_mustMeet_49 rfl rfl rfl ?_
  refine r_iload_n 51 2 dX1_mustMeet_50 rfl rfl rfl ?_
  refine r_gd (fun hc51 => ?_)
  refine r_callV (n := 2) (as := [lI v1, lI v2]) (rest := []) 54 1 (s_X2_stop hl G x46 v1 v2 w42) hc51 rfl (lw_V q1531 q1532 q1533 q101 q1534) (by decide +kernel) (by decide) rfl rfl (cat2_nil (k := 0)) rfl dX1_mustMeet_51 rfl (fun x51 w51 => ?_)
  refine r_geti 57 gf_X1_164 dX1_mustMeet_54 rfl (fun x54 => ?_)
  refine r_iload 59 5 dX1_mustMeet_57 rfl rfl ?_
  refine r_iadd 60 dX1_mustMeet_59 rfl ?_
  refine r_aload_n 61 0 dX1_mustMeet_60 rfl rfl rfl ?_
  refine r_getr 64 gf_X1_10 dX1_mustMeet_61 rfl (fun x61 => ?_)
  refine r_iload_n 65 3 dX1_mustMeet_64 rfl rfl rfl ?_
  refine r_iload 67 4 dX1_mustMeet_65 rfl rfl ?_
  refine r_gd (fun hc67 => ?_)
  refine r_callV (n := 2) (as := [lI v3, lI v4]) (rest := [.int (x54 + v5)]) 70 1 (s_X2_stop hl G x61 v3 v4 w51) hc67 rfl (lw_V q1531 q1532 q1533 q101 q1534) (by decide +kernel) (by decide) rfl rfl (cat2_i (cat2_nil (k := 0))) rfl dX1_mustMeet_67 rfl (fun x67 w67 => ?_)
  refine r_geti 73 gf_X1_154 dX1_mustMeet_70 rfl (fun x70 => ?_)
  refine r_isub 74 dX1_mustMeet_73 rfl ?_
  refine r_istore (ls2 := [(7, lI ((x54 + v5) - x70)), (0, lR v0), (1, lI v1), (2, lI v2), (3, lI v3), (4, lI v4), (5, lI v5), (6, lI v6)]) 76 dX1_mustMeet_74 (by decide) rfl rfl ?_
  refine r_aload_n 77 1 dX1_mustMeet_76 rfl rfl rfl ?_
  refine r_iload 79 0 dX1_mustMeet_77 rfl rfl ?_
  refine r_if_le 86 82 dX1_mustMeet_79 (by decide) rfl ?_ ?_
  · refine r_iconst (v := 0) 87 dX1_mustMeet_86 rfl rfl ?_
    exact r_lsP [0] rfl (t_X1_mustMeet_b87 hl G  ((x54 + v5) - x70) 0 v0 w67)
  refine r_iconst (v := 1) 83 dX1_mustMeet_82 rfl rfl ?_
  refine r_goto 87 dX1_mustMeet_83 (by decide) ?_
  exact r_lsP [0] rfl (t_X1_mustMeet_b87 hl G  ((x54 + v5) - x70) 1 v0 w67)
theorem t_X1_mustMeet {l : Launch} {D : Dn} {H0 : Heap} {w0 : St} (hl : l.stackTraces = false) (G : Nat) (a0 : Rf) (a1 : Int32) (a2 : Int32) (a3 : Int32) (a4 : Int32) (a5 : Int32) (w : St) : V_X1_mustMeet l D H0 w0 (f_X1_mustMeet G a0 a1 a2 a3 a4 a5 w) 0 [(0, lR a0), (1, lI a1), (2, lI a2), (3, lI a3), (4, lI a4), (5, lI a5)] [] w := by
  unfold f_X1_mustMeet
  refine r_aload_n 1 0 dX1_mustMeet_0 rfl rfl rfl ?_
  refine r_getr 4 gf_X1_10 dX1_mustMeet_1 rfl (fun x1 => ?_)
  refine r_iload_n 5 3 dX1_mustMeet_4 rfl rfl rfl ?_
  refine r_iload 7 4 dX1_mustMeet_5 rfl rfl ?_
  refine r_gd (fun hc7 => ?_)
  refine r_callV (n := 2) (as := [lI a3, lI a4]) (rest := []) 10 1 (s_X2_stop hl G x1 a3 a4 w) hc7 rfl (lw_V q1531 q1532 q1533 q101 q1534) (by decide +kernel) (by decide) rfl rfl (cat2_nil (k := 0)) rfl dX1_mustMeet_7 rfl (fun x7 w7 => ?_)
  refine r_geti 13 gf_X1_161 dX1_mustMeet_10 rfl (fun x10 => ?_)
  refine r_istore (ls2 := [(6, lI x10), (0, lR a0), (1, lI a1), (2, lI a2), (3, lI a3), (4, lI a4), (5, lI a5)]) 15 dX1_mustMeet_13 (by decide) rfl rfl ?_
  refine r_aload_n 16 1 dX1_mustMeet_15 rfl rfl rfl ?_
  refine r_aload_n 17 1 dX1_mustMeet_16 rfl rfl rfl ?_
  refine r_getr 20 gf_X1_10 dX1_mustMeet_17 rfl (fun x17 => ?_)
  refine r_iload_n 21 2 dX1_mustMeet_20 rfl rfl rfl ?_
  refine r_iload_n 22 3 dX1_mustMeet_21 rfl rfl rfl ?_
  refine r_gd (fun hc22 => ?_)
  refine r_callV (n := 2) (as := [lI a1, lI a2]) (rest := [rf a0]) 25 1 (s_X2_stop hl G x17 a1 a2 w7) hc22 rfl (lw_V q1531 q1532 q1533 q101 q1534) (by decide +kernel) (by decide) rfl rfl (cat2_r (cat2_nil (k := 0))) rfl dX1_mustMeet_22 rfl (fun x22 w22 => ?_)
  refine r_geti 28 gf_X1_161 dX1_mustMeet_25 rfl (fun x25 => ?_)
  refine r_iload 30 0 dX1_mustMeet_28 rfl rfl ?_
  refine r_icmp_eq 37 33 dX1_mustMeet_30 (by decide) rfl ?_ ?_
  · refine r_iconst (v := 0) 38 dX1_mustMeet_37 rfl rfl ?_
    exact r_lsP [1, 2, 3, 4, 5, 6, 0] rfl (t_X1_mustMeet_b38 hl G  a0 a1 a2 a3 a4 a5 x10 0 a0 w22)
  refine r_iconst (v := 1) 34 dX1_mustMeet_33 rfl rfl ?_
  refine r_goto 38 dX1_mustMeet_34 (by decide) ?_
  exact r_lsP [1, 2, 3, 4, 5, 6, 0] rfl (t_X1_mustMeet_b38 hl G  a0 a1 a2 a3 a4 a5 x10 1 a0 w22)
theorem s_X1_mustMeet {l : Launch} {D : Dn} {H0 : Heap} (hl : l.stackTraces = false) (G : Nat) (a0 : Rf) (a1 : Int32) (a2 : Int32) (a3 : Int32) (a4 : Int32) (a5 : Int32) (w : St) : SimX l D H0 yX1_mustMeet (ws_ yX1_mustMeet cX1_mustMeet 8 none) 32 3043 (ocX rvU) [lR a0, lI a1, lI a2, lI a3, lI a4, lI a5] w (f_X1_mustMeet G a0 a1 a2 a3 a4 a5 w) := SimX.ofV (y := yX1_mustMeet) (by decide) rfl (t_X1_mustMeet hl G a0 a1 a2 a3 a4 a5 w)
abbrev V_X1_mustBeTwo (l : Launch) (D : Dn) (H0 : Heap) (w0 : St) (res : Option ((Nat ⊕ Unit) × St)) (pc : Nat) (ls : List (Nat × LV)) (st : List Value) (w : St) : Prop := V l D H0 RX1 "mustBeTwo" cX1_mustBeTwo 3 none [] 33 3062 (ocX rvU) w0 res pc ls st w
theorem t_X1_mustBeTwo_b21 {l : Launch} {D : Dn} {H0 : Heap} {w0 : St} (hl : l.stackTraces = false) (G : Nat) (v1 : Int32) (s0 : Int32) (s1 : Rf) (w : St) : V_X1_mustBeTwo l D H0 w0 (f_X1_mustBeTwo_b21 G v1 s0 s1 w) 21 [(1, lI v1)] [.int s0, rf s1] w := by
  unfold f_X1_mustBeTwo_b21
  refine r_bipush (v := 6) 23 dX1_mustBeTwo_21 rfl rfl ?_
  refine r_iload_n 24 0 dX1_mustBeTwo_23 rfl rfl rfl ?_
  refine r_gd (fun hc24 => ?_)
  rw [bx_bh]
  refine r_callHV (n := 3) (as := [lI s0, lI 6, lI v1]) (rest := []) 27 0 (s_X1_refuse hl G s1 s0 6 v1 w) hc24 rfl (lw_V q1366 q1368 qs9 q100 q1369) (by decide +kernel) (by decide) rfl rfl (cat2_nil (k := 0)) rfl dX1_mustBeTwo_24 rfl (fun q9 w24 => r_pass (fun _ => rfl) rfl) (fun _ w24 => ?_)
  exact r_vret rfl rfl dX1_mustBeTwo_27
theorem t_X1_mustBeTwo {l : Launch} {D : Dn} {H0 : Heap} {w0 : St} (hl : l.stackTraces = false) (G : Nat) (a0 : Rf) (a1 : Int32) (a2 : Int32) (w : St) : V_X1_mustBeTwo l D H0 w0 (f_X1_mustBeTwo G a0 a1 a2 w) 0 [(0, lR a0), (1, lI a1), (2, lI a2)] [] w := by
  unfold f_X1_mustBeTwo
  refine r_aload_n 1 0 dX1_mustBeTwo_0 rfl rfl rfl ?_
  refine r_iload_n 2 1 dX1_mustBeTwo_1 rfl rfl rfl ?_
  refine r_gd (fun hc2 => ?_)
  rw [bx_bh]
  refine r_callHV (n := 1) (as := [lI a1]) (rest := []) 5 0 (s_X1_mustBeCoach hl G a0 a1 w) hc2 rfl (lw_V q1475 q1477 qs13 q100 q1478) (by decide +kernel) (by decide) rfl rfl (cat2_nil (k := 0)) rfl dX1_mustBeTwo_2 rfl (fun q9 w2 => r_pass (fun _ => rfl) rfl) (fun _ w2 => ?_)
  refine r_aload_n 6 0 dX1_mustBeTwo_5 rfl rfl rfl ?_
  refine r_iload_n 7 2 dX1_mustBeTwo_6 rfl rfl rfl ?_
  refine r_gd (fun hc7 => ?_)
  rw [bx_bh]
  refine r_callHV (n := 1) (as := [lI a2]) (rest := []) 10 0 (s_X1_mustBeCoach hl G a0 a2 w2) hc7 rfl (lw_V q1475 q1477 qs13 q100 q1478) (by decide +kernel) (by decide) rfl rfl (cat2_nil (k := 0)) rfl dX1_mustBeTwo_7 rfl (fun q9 w7 => r_pass (fun _ => rfl) rfl) (fun _ w7 => ?_)
  refine r_aload_n 11 0 dX1_mustBeTwo_10 rfl rfl rfl ?_
  refine r_iload_n 12 1 dX1_mustBeTwo_11 rfl rfl rfl ?_
  refine r_iload_n 13 2 dX1_mustBeTwo_12 rfl rfl rfl ?_
  refine r_icmp_ne 20 16 dX1_mustBeTwo_13 (by decide) rfl ?_ ?_
  · refine r_iconst (v := 0) 21 dX1_mustBeTwo_20 rfl rfl ?_
    exact r_lsP [1] rfl (t_X1_mustBeTwo_b21 hl G  a1 0 a0 w7)
  refine r_iconst (v := 1) 17 dX1_mustBeTwo_16 rfl rfl ?_
  refine r_goto 21 dX1_mustBeTwo_17 (by decide) ?_
  exact r_lsP [1] rfl (t_X1_mustBeTwo_b21 hl G  a1 1 a0 w7)
theorem s_X1_mustBeTwo {l : Launch} {D : Dn} {H0 : Heap} (hl : l.stackTraces = false) (G : Nat) (a0 : Rf) (a1 : Int32) (a2 : Int32) (w : St) : SimX l D H0 yX1_mustBeTwo (ws_ yX1_mustBeTwo cX1_mustBeTwo 3 none) 33 3062 (ocX rvU) [lR a0, lI a1, lI a2] w (f_X1_mustBeTwo G a0 a1 a2 w) := SimX.ofV (y := yX1_mustBeTwo) (by decide) rfl (t_X1_mustBeTwo hl G a0 a1 a2 w)
abbrev V_X18_isAt (l : Launch) (D : Dn) (H0 : Heap) (w0 : St) (res : Option (Int32 × St)) (pc : Nat) (ls : List (Nat × LV)) (st : List Value) (w : St) : Prop := V l D H0 RX18 "isAt" cX18_isAt 3 (some (.boolean)) [] 0 0 (fun x => .inr (rvI x)) w0 res pc ls st w
theorem t_X18_isAt {l : Launch} {D : Dn} {H0 : Heap} {w0 : St} (hl : l.stackTraces = false) (G : Nat) (a0 : Rf) (a1 : Int32) (a2 : Int32) (w : St) : V_X18_isAt l D H0 w0 (f_X18_isAt G a0 a1 a2 w) 0 [(0, lR a0), (1, lI a1), (2, lI a2)] [] w := by
  unfold f_X18_isAt
  refine r_iload_n 1 1 dX18_isAt_0 rfl rfl rfl ?_
  refine r_if_le 13 4 dX18_isAt_1 (by decide) rfl ?_ ?_
  · refine r_iconst (v := 0) 14 dX18_isAt_13 rfl rfl ?_
    exact r_zret rfl rfl rfl dX18_isAt_14
  refine r_iload_n 5 1 dX18_isAt_4 rfl rfl rfl ?_
  refine r_iload_n 6 2 dX18_isAt_5 rfl rfl rfl ?_
  refine r_icmp_ge 13 9 dX18_isAt_6 (by decide) rfl ?_ ?_
  · refine r_iconst (v := 0) 14 dX18_isAt_13 rfl rfl ?_
    exact r_zret rfl rfl rfl dX18_isAt_14
  refine r_iconst (v := 1) 10 dX18_isAt_9 rfl rfl ?_
  refine r_goto 14 dX18_isAt_10 (by decide) ?_
  exact r_zret rfl rfl rfl dX18_isAt_14
theorem s_X18_isAt {l : Launch} {D : Dn} {H0 : Heap} (hl : l.stackTraces = false) (G : Nat) (a0 : Rf) (a1 : Int32) (a2 : Int32) (w : St) : SimU l D H0 yX18_isAt (ws_ yX18_isAt cX18_isAt 3 (some (.boolean))) 0 0 rvI [lR a0, lI a1, lI a2] w (f_X18_isAt G a0 a1 a2 w) := SimU.ofV (y := yX18_isAt) (by decide) rfl (t_X18_isAt hl G a0 a1 a2 w)
abbrev V_X19_isAt (l : Launch) (D : Dn) (H0 : Heap) (w0 : St) (res : Option (Int32 × St)) (pc : Nat) (ls : List (Nat × LV)) (st : List Value) (w : St) : Prop := V l D H0 RX19 "isAt" cX19_isAt 3 (some (.boolean)) [] 0 0 (fun x => .inr (rvI x)) w0 res pc ls st w
theorem t_X19_isAt {l : Launch} {D : Dn} {H0 : Heap} {w0 : St} (hl : l.stackTraces = false) (G : Nat) (a0 : Rf) (a1 : Int32) (a2 : Int32) (w : St) : V_X19_isAt l D H0 w0 (f_X19_isAt G a0 a1 a2 w) 0 [(0, lR a0), (1, lI a1), (2, lI a2)] [] w := by
  unfold f_X19_isAt
  refine r_iload_n 1 1 dX19_isAt_0 rfl rfl rfl ?_
  refine r_if_lt 15 4 dX19_isAt_1 (by decide) rfl ?_ ?_
  · refine r_iconst (v := 0) 16 dX19_isAt_15 rfl rfl ?_
    exact r_zret rfl rfl rfl dX19_isAt_16
  refine r_iload_n 5 1 dX19_isAt_4 rfl rfl rfl ?_
  refine r_iload_n 6 2 dX19_isAt_5 rfl rfl rfl ?_
  refine r_iconst (v := 1) 7 dX19_isAt_6 rfl rfl ?_
  refine r_isub 8 dX19_isAt_7 rfl ?_
  refine r_icmp_ge 15 11 dX19_isAt_8 (by decide) rfl ?_ ?_
  · refine r_iconst (v := 0) 16 dX19_isAt_15 rfl rfl ?_
    exact r_zret rfl rfl rfl dX19_isAt_16
  refine r_iconst (v := 1) 12 dX19_isAt_11 rfl rfl ?_
  refine r_goto 16 dX19_isAt_12 (by decide) ?_
  exact r_zret rfl rfl rfl dX19_isAt_16
theorem s_X19_isAt {l : Launch} {D : Dn} {H0 : Heap} (hl : l.stackTraces = false) (G : Nat) (a0 : Rf) (a1 : Int32) (a2 : Int32) (w : St) : SimU l D H0 yX19_isAt (ws_ yX19_isAt cX19_isAt 3 (some (.boolean))) 0 0 rvI [lR a0, lI a1, lI a2] w (f_X19_isAt G a0 a1 a2 w) := SimU.ofV (y := yX19_isAt) (by decide) rfl (t_X19_isAt hl G a0 a1 a2 w)
abbrev V_X5_hasEvent (l : Launch) (D : Dn) (H0 : Heap) (w0 : St) (res : Option (Int32 × St)) (pc : Nat) (ls : List (Nat × LV)) (st : List Value) (w : St) : Prop := V l D H0 RX5 "hasEvent" cX5_hasEvent 3 (some (.boolean)) [] 31 3020 (fun x => .inr (rvI x)) w0 res pc ls st w
theorem t_X5_hasEvent {l : Launch} {D : Dn} {H0 : Heap} {w0 : St} (hl : l.stackTraces = false) (G : Nat) (a0 : Rf) (a1 : Int32) (a2 : Rf) (w : St) : V_X5_hasEvent l D H0 w0 (f_X5_hasEvent G a0 a1 a2 w) 0 [(0, lR a0), (1, lI a1), (2, lR a2)] [] w := by
  unfold f_X5_hasEvent
  refine r_aload_n 1 2 dX5_hasEvent_0 rfl rfl rfl ?_
  refine r_iload_n 2 1 dX5_hasEvent_1 rfl rfl rfl ?_
  refine r_aload_n 3 0 dX5_hasEvent_2 rfl rfl rfl ?_
  refine r_getr 6 gf_X5_12 dX5_hasEvent_3 rfl (fun x3 => ?_)
  refine r_gd (fun hc6 => ?_)
  refine r_callV (n := 0) (as := []) (rest := [.int a1, rf a2]) 9 15 (sL_size hl x3 w) hc6 rfl (lw_V q1489 q303 q304 q104 q305) (by decide +kernel) (by decide) rfl rfl (cat2_i (cat2_r (cat2_nil (k := 0)))) rfl dX5_hasEvent_6 rfl (fun x6 w6 => ?_)
  refine r_share (st2 := fun x9 => [.int x9]) (pc2 := 12) (fun hk => ?_) (fun x9 w9 => ?_)
  · refine r_dsp (fun c9 hc9 => ?_)
    refine r_dif (fun he => ?_) (fun _ => ?_)
    · subst he
      exact r_callAU (x2 := ⟨"CoachTimetable$Side", "isAt", "(II)Z"⟩) (owner := "CoachTimetable$Side") (n := 2) (as := [lI a1, lI x6]) (rest := []) 12 28 (s_X18_isAt hl G a2 a1 x6 w6) hc9 rfl (lw_app (l4 q1517 q1519 q1520 q1521) (lw_meth q1522)) q1518 (by decide +kernel) (by decide) rfl rfl (cat2_nil (k := 0)) rfl dX5_hasEvent_9 rfl hk
    refine r_dif (fun he => ?_) (fun _ => ?_)
    · subst he
      exact r_callAU (x2 := ⟨"CoachTimetable$Side", "isAt", "(II)Z"⟩) (owner := "CoachTimetable$Side") (n := 2) (as := [lI a1, lI x6]) (rest := []) 12 29 (s_X19_isAt hl G a2 a1 x6 w6) hc9 rfl (lw_app (l4 q1517 q1519 q1523 q1524) (lw_meth q1525)) q1518 (by decide +kernel) (by decide) rfl rfl (cat2_nil (k := 0)) rfl dX5_hasEvent_9 rfl hk
    exact r_bdn
  exact r_zretG rfl rfl dX5_hasEvent_12
theorem s_X5_hasEvent {l : Launch} {D : Dn} {H0 : Heap} (hl : l.stackTraces = false) (G : Nat) (a0 : Rf) (a1 : Int32) (a2 : Rf) (w : St) : SimN l D H0 yX5_hasEvent (ws_ yX5_hasEvent cX5_hasEvent 3 (some (.boolean))) 31 3020 rvI [lR a0, lI a1, lR a2] w (f_X5_hasEvent G a0 a1 a2 w) := SimX.N (SimX.ofV (y := yX5_hasEvent) (by decide) rfl (t_X5_hasEvent hl G a0 a1 a2 w))
abbrev V_X2_isEvent (l : Launch) (D : Dn) (H0 : Heap) (w0 : St) (res : Option (Int32 × St)) (pc : Nat) (ls : List (Nat × LV)) (st : List Value) (w : St) : Prop := V l D H0 RX2 "isEvent" cX2_isEvent 4 (some (.boolean)) [] 32 3042 (fun x => .inr (rvI x)) w0 res pc ls st w
theorem t_X2_isEvent {l : Launch} {D : Dn} {H0 : Heap} {w0 : St} (hl : l.stackTraces = false) (G : Nat) (a0 : Rf) (a1 : Int32) (a2 : Int32) (a3 : Rf) (w : St) : V_X2_isEvent l D H0 w0 (f_X2_isEvent G a0 a1 a2 a3 w) 0 [(0, lR a0), (1, lI a1), (2, lI a2), (3, lR a3)] [] w := by
  unfold f_X2_isEvent
  refine r_aload_n 1 0 dX2_isEvent_0 rfl rfl rfl ?_
  refine r_iload_n 2 1 dX2_isEvent_1 rfl rfl rfl ?_
  refine r_gd (fun hc2 => ?_)
  refine r_callV (n := 1) (as := [lI a1]) (rest := []) 5 1 (s_X2_isCoach hl G a0 a1 w) hc2 rfl (lw_V q1511 q1480 q1481 q101 q1482) (by decide +kernel) (by decide) rfl rfl (cat2_nil (k := 0)) rfl dX2_isEvent_2 rfl (fun x2 w2 => ?_)
  refine r_if_eq 31 8 dX2_isEvent_5 (by decide) rfl ?_ ?_
  · refine r_iconst (v := 0) 32 dX2_isEvent_31 rfl rfl ?_
    exact r_zret rfl rfl rfl dX2_isEvent_32
  refine r_aload_n 9 0 dX2_isEvent_8 rfl rfl rfl ?_
  refine r_getr 12 gf_X2_10 dX2_isEvent_9 rfl (fun x9 => ?_)
  refine r_iload_n 13 1 dX2_isEvent_12 rfl rfl rfl ?_
  refine r_gd (fun hc13 => ?_)
  refine r_callV (n := 1) (as := [lI a1]) (rest := []) 16 15 (sL_get hl x9 a1 w2) hc13 rfl (lw_V q1512 q311 q312 q104 q313) (by decide +kernel) (by decide) rfl rfl (cat2_nil (k := 0)) rfl dX2_isEvent_13 rfl (fun x13 w13 => ?_)
  refine r_cast 19 (CA_cons (c0 := 3) rfl (Or.inl rfl) (CA_nil)) q1219 dX2_isEvent_16 rfl ?_
  refine r_iload_n 20 2 dX2_isEvent_19 rfl rfl rfl ?_
  refine r_aload_n 21 3 dX2_isEvent_20 rfl rfl rfl ?_
  refine r_gd (fun hc21 => ?_)
  refine r_callV (n := 2) (as := [lI a2, lR a3]) (rest := []) 24 3 (s_X5_hasEvent hl G x13 a2 a3 w13) hc21 rfl (lw_V q1513 q1514 q1515 q118 q1516) (by decide +kernel) (by decide) rfl rfl (cat2_nil (k := 0)) rfl dX2_isEvent_21 rfl (fun x21 w21 => ?_)
  refine r_if_eq 31 27 dX2_isEvent_24 (by decide) rfl ?_ ?_
  · refine r_iconst (v := 0) 32 dX2_isEvent_31 rfl rfl ?_
    exact r_zret rfl rfl rfl dX2_isEvent_32
  refine r_iconst (v := 1) 28 dX2_isEvent_27 rfl rfl ?_
  refine r_goto 32 dX2_isEvent_28 (by decide) ?_
  exact r_zret rfl rfl rfl dX2_isEvent_32
theorem s_X2_isEvent {l : Launch} {D : Dn} {H0 : Heap} (hl : l.stackTraces = false) (G : Nat) (a0 : Rf) (a1 : Int32) (a2 : Int32) (a3 : Rf) (w : St) : SimN l D H0 yX2_isEvent (ws_ yX2_isEvent cX2_isEvent 4 (some (.boolean))) 32 3042 rvI [lR a0, lI a1, lI a2, lR a3] w (f_X2_isEvent G a0 a1 a2 a3 w) := SimX.N (SimX.ofV (y := yX2_isEvent) (by decide) rfl (t_X2_isEvent hl G a0 a1 a2 a3 w))
abbrev V_X1_mustBeEvent (l : Launch) (D : Dn) (H0 : Heap) (w0 : St) (res : Option ((Nat ⊕ Unit) × St)) (pc : Nat) (ls : List (Nat × LV)) (st : List Value) (w : St) : Prop := V l D H0 RX1 "mustBeEvent" cX1_mustBeEvent 4 none [] 33 3065 (ocX rvU) w0 res pc ls st w
theorem t_X1_mustBeEvent_b19 {l : Launch} {D : Dn} {H0 : Heap} {w0 : St} (hl : l.stackTraces = false) (G : Nat) (v2 : Int32) (s0 : Int32) (s1 : Rf) (w : St) : V_X1_mustBeEvent l D H0 w0 (f_X1_mustBeEvent_b19 G v2 s0 s1 w) 19 [(2, lI v2)] [.int s0, rf s1] w := by
  unfold f_X1_mustBeEvent_b19
  refine r_iconst (v := 4) 20 dX1_mustBeEvent_19 rfl rfl ?_
  refine r_iload_n 21 0 dX1_mustBeEvent_20 rfl rfl rfl ?_
  refine r_gd (fun hc21 => ?_)
  rw [bx_bh]
  refine r_callHV (n := 3) (as := [lI s0, lI 4, lI v2]) (rest := []) 24 0 (s_X1_refuse hl G s1 s0 4 v2 w) hc21 rfl (lw_V q1366 q1368 qs9 q100 q1369) (by decide +kernel) (by decide) rfl rfl (cat2_nil (k := 0)) rfl dX1_mustBeEvent_21 rfl (fun q9 w21 => r_pass (fun _ => rfl) rfl) (fun _ w21 => ?_)
  exact r_vret rfl rfl dX1_mustBeEvent_24
theorem t_X1_mustBeEvent {l : Launch} {D : Dn} {H0 : Heap} {w0 : St} (hl : l.stackTraces = false) (G : Nat) (a0 : Rf) (a1 : Int32) (a2 : Int32) (a3 : Rf) (w : St) : V_X1_mustBeEvent l D H0 w0 (f_X1_mustBeEvent G a0 a1 a2 a3 w) 0 [(0, lR a0), (1, lI a1), (2, lI a2), (3, lR a3)] [] w := by
  unfold f_X1_mustBeEvent
  refine r_aload_n 1 0 dX1_mustBeEvent_0 rfl rfl rfl ?_
  refine r_aload_n 2 0 dX1_mustBeEvent_1 rfl rfl rfl ?_
  refine r_getr 5 gf_X1_10 dX1_mustBeEvent_2 rfl (fun x2 => ?_)
  refine r_iload_n 6 1 dX1_mustBeEvent_5 rfl rfl rfl ?_
  refine r_iload_n 7 2 dX1_mustBeEvent_6 rfl rfl rfl ?_
  refine r_aload_n 8 3 dX1_mustBeEvent_7 rfl rfl rfl ?_
  refine r_gd (fun hc8 => ?_)
  refine r_callV (n := 3) (as := [lI a1, lI a2, lR a3]) (rest := [rf a0]) 11 1 (s_X2_isEvent hl G x2 a1 a2 a3 w) hc8 rfl (lw_V q1507 q1508 q1509 q101 q1510) (by decide +kernel) (by decide) rfl rfl (cat2_r (cat2_nil (k := 0))) rfl dX1_mustBeEvent_8 rfl (fun x8 w8 => ?_)
  refine r_if_ne 18 14 dX1_mustBeEvent_11 (by decide) rfl ?_ ?_
  · refine r_iconst (v := 0) 19 dX1_mustBeEvent_18 rfl rfl ?_
    exact r_lsP [2] rfl (t_X1_mustBeEvent_b19 hl G  a2 0 a0 w8)
  refine r_iconst (v := 1) 15 dX1_mustBeEvent_14 rfl rfl ?_
  refine r_goto 19 dX1_mustBeEvent_15 (by decide) ?_
  exact r_lsP [2] rfl (t_X1_mustBeEvent_b19 hl G  a2 1 a0 w8)
theorem s_X1_mustBeEvent {l : Launch} {D : Dn} {H0 : Heap} (hl : l.stackTraces = false) (G : Nat) (a0 : Rf) (a1 : Int32) (a2 : Int32) (a3 : Rf) (w : St) : SimX l D H0 yX1_mustBeEvent (ws_ yX1_mustBeEvent cX1_mustBeEvent 4 none) 33 3065 (ocX rvU) [lR a0, lI a1, lI a2, lR a3] w (f_X1_mustBeEvent G a0 a1 a2 a3 w) := SimX.ofV (y := yX1_mustBeEvent) (by decide) rfl (t_X1_mustBeEvent hl G a0 a1 a2 a3 w)
abbrev V_X1_turn (l : Launch) (D : Dn) (H0 : Heap) (w0 : St) (res : Option ((Nat ⊕ Int32) × St)) (pc : Nat) (ls : List (Nat × LV)) (st : List Value) (w : St) : Prop := V l D H0 RX1 "turn" cX1_turn 4 (some (.int)) [] 35 3106 (ocX rvI) w0 res pc ls st w
theorem t_X1_turn_b107 {l : Launch} {D : Dn} {H0 : Heap} {w0 : St} (hl : l.stackTraces = false) (G : Nat) (v0 : Rf) (v1 : Int32) (v2 : Int32) (v3 : Int32) (s0 : Int32) (s1 : Rf) (w : St) : V_X1_turn l D H0 w0 (f_X1_turn_b107 G v0 v1 v2 v3 s0 s1 w) 107 [(0, lR v0), (1, lI v1), (2, lI v2), (3, lI v3)] [.int s0, rf s1] w := by
  unfold f_X1_turn_b107
  refine r_bipush (v := 9) 109 dX1_turn_107 rfl rfl ?_
  refine r_iload_n 110 2 dX1_turn_109 rfl rfl rfl ?_
  refine r_gd (fun hc110 => ?_)
  rw [bx_bh]
  refine r_callHV (n := 3) (as := [lI s0, lI 9, lI v2]) (rest := []) 113 0 (s_X1_refuse hl G s1 s0 9 v2 w) hc110 rfl (lw_V q1366 q1368 qs9 q100 q1369) (by decide +kernel) (by decide) rfl rfl (cat2_nil (k := 0)) rfl dX1_turn_110 rfl (fun q9 w110 => r_pass (fun _ => rfl) rfl) (fun _ w110 => ?_)
  refine r_aload_n 114 0 dX1_turn_113 rfl rfl rfl ?_
  refine r_iload_n 115 1 dX1_turn_114 rfl rfl rfl ?_
  refine r_iload_n 116 3 dX1_turn_115 rfl rfl rfl ?_
  refine r_iload_n 117 2 dX1_turn_116 rfl rfl rfl ?_
  refine r_iconst (v := 0) 118 dX1_turn_117 rfl rfl ?_
  refine r_bipush (v := 10) 120 dX1_turn_118 rfl rfl ?_
  refine r_gd (fun hc120 => ?_)
  rw [bx_bh]
  refine r_callHV (n := 5) (as := [lI v1, lI v3, lI v2, lI 0, lI 10]) (rest := []) 123 0 (s_X1_mustMeet hl G v0 v1 v3 v2 0 10 w110) hc120 rfl (lw_V q1527 q1529 qs16 q100 q1530) (by decide +kernel) (by decide) rfl rfl (cat2_nil (k := 0)) rfl dX1_turn_120 rfl (fun q9 w120 => r_pass (fun _ => rfl) rfl) (fun _ w120 => ?_)
  refine r_aload_n 124 0 dX1_turn_123 rfl rfl rfl ?_
  refine r_gd (fun hc124 => ?_)
  refine r_callV (n := 0) (as := []) (rest := []) 127 0 (s_X1_change hl G v0 w120) hc124 rfl (lw_V q1404 q1406 qs10 q100 q1407) (by decide +kernel) (by decide) rfl rfl (cat2_nil (k := 0)) rfl dX1_turn_124 rfl (fun _ w124 => ?_)
  refine r_aload_n 128 0 dX1_turn_127 rfl rfl rfl ?_
  refine r_getr 131 gf_X1_10 dX1_turn_128 rfl (fun x128 => ?_)
  refine r_getr 134 gf_X1_118 dX1_turn_131 rfl (fun x131 => ?_)
  refine r_iload_n 135 1 dX1_turn_134 rfl rfl rfl ?_
  refine r_gd (fun hc135 => ?_)
  refine r_callV (n := 1) (as := [lI v1]) (rest := []) 138 15 (sL_get hl x131 v1 w124) hc135 rfl (lw_V q858 q311 q312 q104 q313) (by decide +kernel) (by decide) rfl rfl (cat2_nil (k := 0)) rfl dX1_turn_135 rfl (fun x135 w135 => ?_)
  refine r_cast 141 (CA_cons (c0 := 3) rfl (Or.inl rfl) (CA_nil)) q1463 dX1_turn_138 rfl ?_
  refine r_iload_n 142 2 dX1_turn_141 rfl rfl rfl ?_
  refine r_puti 145 pf_X1_147 dX1_turn_142 rfl (fun w142 => ?_)
  refine r_aload_n 146 0 dX1_turn_145 rfl rfl rfl ?_
  refine r_getr 149 gf_X1_10 dX1_turn_146 rfl (fun x146 => ?_)
  refine r_getr 152 gf_X1_118 dX1_turn_149 rfl (fun x149 => ?_)
  refine r_iload_n 153 2 dX1_turn_152 rfl rfl rfl ?_
  refine r_gd (fun hc153 => ?_)
  refine r_callV (n := 1) (as := [lI v2]) (rest := []) 156 15 (sL_get hl x149 v2 w142) hc153 rfl (lw_V q858 q311 q312 q104 q313) (by decide +kernel) (by decide) rfl rfl (cat2_nil (k := 0)) rfl dX1_turn_153 rfl (fun x153 w153 => ?_)
  refine r_cast 159 (CA_cons (c0 := 3) rfl (Or.inl rfl) (CA_nil)) q1463 dX1_turn_156 rfl ?_
  refine r_iload_n 160 1 dX1_turn_159 rfl rfl rfl ?_
  refine r_puti 163 pf_X1_184 dX1_turn_160 rfl (fun w160 => ?_)
  refine r_aload_n 164 0 dX1_turn_163 rfl rfl rfl ?_
  refine r_getr 167 gf_X1_10 dX1_turn_164 rfl (fun x164 => ?_)
  refine r_iload_n 168 2 dX1_turn_167 rfl rfl rfl ?_
  refine r_iconst (v := 0) 169 dX1_turn_168 rfl rfl ?_
  refine r_gd (fun hc169 => ?_)
  refine r_callV (n := 2) (as := [lI v2, lI 0]) (rest := []) 172 1 (s_X2_stop hl G x164 v2 0 w160) hc169 rfl (lw_V q1531 q1532 q1533 q101 q1534) (by decide +kernel) (by decide) rfl rfl (cat2_nil (k := 0)) rfl dX1_turn_169 rfl (fun x169 w169 => ?_)
  refine r_geti 175 gf_X1_154 dX1_turn_172 rfl (fun x172 => ?_)
  refine r_aload_n 176 0 dX1_turn_175 rfl rfl rfl ?_
  refine r_getr 179 gf_X1_10 dX1_turn_176 rfl (fun x176 => ?_)
  refine r_iload_n 180 1 dX1_turn_179 rfl rfl rfl ?_
  refine r_iload_n 181 3 dX1_turn_180 rfl rfl rfl ?_
  refine r_gd (fun hc181 => ?_)
  refine r_callV (n := 2) (as := [lI v1, lI v3]) (rest := [.int x172]) 184 1 (s_X2_stop hl G x176 v1 v3 w169) hc181 rfl (lw_V q1531 q1532 q1533 q101 q1534) (by decide +kernel) (by decide) rfl rfl (cat2_i (cat2_nil (k := 0))) rfl dX1_turn_181 rfl (fun x181 w181 => ?_)
  refine r_geti 187 gf_X1_164 dX1_turn_184 rfl (fun x184 => ?_)
  refine r_isub 188 dX1_turn_187 rfl ?_
  refine r_bipush (v := 10) 190 dX1_turn_188 rfl rfl ?_
  refine r_isub 191 dX1_turn_190 rfl ?_
  exact r_iret rfl rfl dX1_turn_191
theorem t_X1_turn_b74 {l : Launch} {D : Dn} {H0 : Heap} {w0 : St} (hl : l.stackTraces = false) (G : Nat) (v0 : Rf) (v1 : Int32) (v2 : Int32) (v3 : Int32) (s0 : Int32) (s1 : Rf) (w : St) : V_X1_turn l D H0 w0 (f_X1_turn_b74 G v0 v1 v2 v3 s0 s1 w) 74 [(0, lR v0), (1, lI v1), (2, lI v2), (3, lI v3)] [.int s0, rf s1] w := by
  unfold f_X1_turn_b74
  refine r_bipush (v := 9) 76 dX1_turn_74 rfl rfl ?_
  refine r_iload_n 77 1 dX1_turn_76 rfl rfl rfl ?_
  refine r_gd (fun hc77 => ?_)
  rw [bx_bh]
  refine r_callHV (n := 3) (as := [lI s0, lI 9, lI v1]) (rest := []) 80 0 (s_X1_refuse hl G s1 s0 9 v1 w) hc77 rfl (lw_V q1366 q1368 qs9 q100 q1369) (by decide +kernel) (by decide) rfl rfl (cat2_nil (k := 0)) rfl dX1_turn_77 rfl (fun q9 w77 => r_pass (fun _ => rfl) rfl) (fun _ w77 => ?_)
  refine r_aload_n 81 0 dX1_turn_80 rfl rfl rfl ?_
  refine r_aload_n 82 0 dX1_turn_81 rfl rfl rfl ?_
  refine r_getr 85 gf_X1_10 dX1_turn_82 rfl (fun x82 => ?_)
  refine r_getr 88 gf_X1_118 dX1_turn_85 rfl (fun x85 => ?_)
  refine r_iload_n 89 2 dX1_turn_88 rfl rfl rfl ?_
  refine r_gd (fun hc89 => ?_)
  refine r_callV (n := 1) (as := [lI v2]) (rest := [rf v0]) 92 15 (sL_get hl x85 v2 w77) hc89 rfl (lw_V q858 q311 q312 q104 q313) (by decide +kernel) (by decide) rfl rfl (cat2_r (cat2_nil (k := 0))) rfl dX1_turn_89 rfl (fun x89 w89 => ?_)
  refine r_cast 95 (CA_cons (c0 := 3) rfl (Or.inl rfl) (CA_nil)) q1463 dX1_turn_92 rfl ?_
  refine r_geti 98 gf_X1_184 dX1_turn_95 rfl (fun x95 => ?_)
  refine r_iconst (v := (-1)) 99 dX1_turn_98 rfl rfl ?_
  refine r_icmp_eq 106 102 dX1_turn_99 (by decide) rfl ?_ ?_
  · refine r_iconst (v := 0) 107 dX1_turn_106 rfl rfl ?_
    exact r_lsP [0, 1, 2, 3] rfl (t_X1_turn_b107 hl G  v0 v1 v2 v3 0 v0 w89)
  refine r_iconst (v := 1) 103 dX1_turn_102 rfl rfl ?_
  refine r_goto 107 dX1_turn_103 (by decide) ?_
  exact r_lsP [0, 1, 2, 3] rfl (t_X1_turn_b107 hl G  v0 v1 v2 v3 1 v0 w89)
theorem t_X1_turn {l : Launch} {D : Dn} {H0 : Heap} {w0 : St} (hl : l.stackTraces = false) (G : Nat) (a0 : Rf) (a1 : Int32) (a2 : Int32) (w : St) : V_X1_turn l D H0 w0 (f_X1_turn G a0 a1 a2 w) 0 [(0, lR a0), (1, lI a1), (2, lI a2)] [] w := by
  unfold f_X1_turn
  refine r_aload_n 1 0 dX1_turn_0 rfl rfl rfl ?_
  refine r_iload_n 2 1 dX1_turn_1 rfl rfl rfl ?_
  refine r_iload_n 3 2 dX1_turn_2 rfl rfl rfl ?_
  refine r_gd (fun hc3 => ?_)
  rw [bx_bh]
  refine r_callHV (n := 2) (as := [lI a1, lI a2]) (rest := []) 6 0 (s_X1_mustBeTwo hl G a0 a1 a2 w) hc3 rfl (lw_V q1498 q1500 qs14 q100 q1501) (by decide +kernel) (by decide) rfl rfl (cat2_nil (k := 0)) rfl dX1_turn_3 rfl (fun q9 w3 => r_pass (fun _ => rfl) rfl) (fun _ w3 => ?_)
  refine r_aload_n 7 0 dX1_turn_6 rfl rfl rfl ?_
  refine r_getr 10 gf_X1_10 dX1_turn_7 rfl (fun x7 => ?_)
  refine r_getr 13 gf_X1_118 dX1_turn_10 rfl (fun x10 => ?_)
  refine r_iload_n 14 1 dX1_turn_13 rfl rfl rfl ?_
  refine r_gd (fun hc14 => ?_)
  refine r_callV (n := 1) (as := [lI a1]) (rest := []) 17 15 (sL_get hl x10 a1 w3) hc14 rfl (lw_V q858 q311 q312 q104 q313) (by decide +kernel) (by decide) rfl rfl (cat2_nil (k := 0)) rfl dX1_turn_14 rfl (fun x14 w14 => ?_)
  refine r_cast 20 (CA_cons (c0 := 3) rfl (Or.inl rfl) (CA_nil)) q1463 dX1_turn_17 rfl ?_
  refine r_getr 23 gf_X1_131 dX1_turn_20 rfl (fun x20 => ?_)
  refine r_gd (fun hc23 => ?_)
  refine r_callV (n := 0) (as := []) (rest := []) 26 15 (sL_size hl x20 w14) hc23 rfl (lw_V q857 q303 q304 q104 q305) (by decide +kernel) (by decide) rfl rfl (cat2_nil (k := 0)) rfl dX1_turn_23 rfl (fun x23 w23 => ?_)
  refine r_iconst (v := 1) 27 dX1_turn_26 rfl rfl ?_
  refine r_isub 28 dX1_turn_27 rfl ?_
  refine r_istore_n (ls2 := [(3, lI (x23 - 1)), (0, lR a0), (1, lI a1), (2, lI a2)]) 29 dX1_turn_28 rfl (by decide) rfl rfl ?_
  refine r_aload_n 30 1 dX1_turn_29 rfl rfl rfl ?_
  refine r_iload_n 31 2 dX1_turn_30 rfl rfl rfl ?_
  refine r_iload_n 32 0 dX1_turn_31 rfl rfl rfl ?_
  refine r_gets (v := rf ((some (w23.g 1)))) 35 0 rfl q1502 dX1_turn_32 rfl ?_
  refine r_gd (fun hc35 => ?_)
  rw [bx_bh]
  refine r_callHV (n := 3) (as := [lI a1, lI (x23 - 1), lR ((some (w23.g 1)))]) (rest := []) 38 0 (s_X1_mustBeEvent hl G a0 a1 (x23 - 1) ((some (w23.g 1))) w23) hc35 rfl (lw_V q1503 q1505 qs15 q100 q1506) (by decide +kernel) (by decide) rfl rfl (cat2_nil (k := 0)) rfl dX1_turn_35 rfl (fun q9 w35 => r_pass (fun _ => rfl) rfl) (fun _ w35 => ?_)
  refine r_aload_n 39 1 dX1_turn_38 rfl rfl rfl ?_
  refine r_iload_n 40 3 dX1_turn_39 rfl rfl rfl ?_
  refine r_iconst (v := 0) 41 dX1_turn_40 rfl rfl ?_
  refine r_gets (v := rf ((some (w35.g 2)))) 44 1 rfl q1526 dX1_turn_41 rfl ?_
  refine r_gd (fun hc44 => ?_)
  rw [bx_bh]
  refine r_callHV (n := 3) (as := [lI a2, lI 0, lR ((some (w35.g 2)))]) (rest := []) 47 0 (s_X1_mustBeEvent hl G a0 a2 0 ((some (w35.g 2))) w35) hc44 rfl (lw_V q1503 q1505 qs15 q100 q1506) (by decide +kernel) (by decide) rfl rfl (cat2_nil (k := 0)) rfl dX1_turn_44 rfl (fun q9 w44 => r_pass (fun _ => rfl) rfl) (fun _ w44 => ?_)
  refine r_aload_n 48 1 dX1_turn_47 rfl rfl rfl ?_
  refine r_aload_n 49 1 dX1_turn_48 rfl rfl rfl ?_
  refine r_getr 52 gf_X1_10 dX1_turn_49 rfl (fun x49 => ?_)
  refine r_getr 55 gf_X1_118 dX1_turn_52 rfl (fun x52 => ?_)
  refine r_iload_n 56 2 dX1_turn_55 rfl rfl rfl ?_
  refine r_gd (fun hc56 => ?_)
  refine r_callV (n := 1) (as := [lI a1]) (rest := [rf a0]) 59 15 (sL_get hl x52 a1 w44) hc56 rfl (lw_V q858 q311 q312 q104 q313) (by decide +kernel) (by decide) rfl rfl (cat2_r (cat2_nil (k := 0))) rfl dX1_turn_56 rfl (fun x56 w56 => ?_)
  refine r_cast 62 (CA_cons (c0 := 3) rfl (Or.inl rfl) (CA_nil)) q1463 dX1_turn_59 rfl ?_
  refine r_geti 65 gf_X1_147 dX1_turn_62 rfl (fun x62 => ?_)
  refine r_iconst (v := (-1)) 66 dX1_turn_65 rfl rfl ?_
  refine r_icmp_eq 73 69 dX1_turn_66 (by decide) rfl ?_ ?_
  · refine r_iconst (v := 0) 74 dX1_turn_73 rfl rfl ?_
    exact r_lsP [1, 2, 3, 0] rfl (t_X1_turn_b74 hl G  a0 a1 a2 (x23 - 1) 0 a0 w56)
  refine r_iconst (v := 1) 70 dX1_turn_69 rfl rfl ?_
  refine r_goto 74 dX1_turn_70 (by decide) ?_
  exact r_lsP [1, 2, 3, 0] rfl (t_X1_turn_b74 hl G  a0 a1 a2 (x23 - 1) 1 a0 w56)
theorem s_X1_turn {l : Launch} {D : Dn} {H0 : Heap} (hl : l.stackTraces = false) (G : Nat) (a0 : Rf) (a1 : Int32) (a2 : Int32) (w : St) : SimX l D H0 yX1_turn (ws_ yX1_turn cX1_turn 4 (some (.int))) 35 3106 (ocX rvI) [lR a0, lI a1, lI a2] w (f_X1_turn G a0 a1 a2 w) := SimX.ofV (y := yX1_turn) (by decide) rfl (t_X1_turn hl G a0 a1 a2 w)
abbrev V_X1_link (l : Launch) (D : Dn) (H0 : Heap) (w0 : St) (res : Option ((Nat ⊕ Int32) × St)) (pc : Nat) (ls : List (Nat × LV)) (st : List Value) (w : St) : Prop := V l D H0 RX1 "link" cX1_link 7 (some (.int)) [] 35 3106 (ocX rvI) w0 res pc ls st w
theorem t_X1_link_b75 {l : Launch} {D : Dn} {H0 : Heap} {w0 : St} (hl : l.stackTraces = false) (G : Nat) (v0 : Rf) (v1 : Int32) (v2 : Int32) (v3 : Int32) (v4 : Int32) (v5 : Int32) (v6 : Int32) (s0 : Int32) (s1 : Rf) (w : St) : V_X1_link l D H0 w0 (f_X1_link_b75 G v0 v1 v2 v3 v4 v5 v6 s0 s1 w) 75 [(0, lR v0), (1, lI v1), (2, lI v2), (3, lI v3), (4, lI v4), (5, lI v5), (6, lI v6)] [.int s0, rf s1] w := by
  unfold f_X1_link_b75
  refine r_iconst (v := 2) 76 dX1_link_75 rfl rfl ?_
  refine r_bipush (v := 12) 78 dX1_link_76 rfl rfl ?_
  refine r_gd (fun hc78 => ?_)
  rw [bx_bh]
  refine r_callHV (n := 3) (as := [lI s0, lI 2, lI 12]) (rest := []) 81 0 (s_X1_refuse hl G s1 s0 2 12 w) hc78 rfl (lw_V q1366 q1368 qs9 q100 q1369) (by decide +kernel) (by decide) rfl rfl (cat2_nil (k := 0)) rfl dX1_link_78 rfl (fun q9 w78 => r_pass (fun _ => rfl) rfl) (fun _ w78 => ?_)
  refine r_aload_n 82 0 dX1_link_81 rfl rfl rfl ?_
  refine r_gd (fun hc82 => ?_)
  refine r_callV (n := 0) (as := []) (rest := []) 85 0 (s_X1_change hl G v0 w78) hc82 rfl (lw_V q1404 q1406 qs10 q100 q1407) (by decide +kernel) (by decide) rfl rfl (cat2_nil (k := 0)) rfl dX1_link_82 rfl (fun _ w82 => ?_)
  refine r_aload_n 86 0 dX1_link_85 rfl rfl rfl ?_
  refine r_getr 89 gf_X1_10 dX1_link_86 rfl (fun x86 => ?_)
  refine r_getr 92 gf_X1_191 dX1_link_89 rfl (fun x89 => ?_)
  refine r_nw (C := RX7) (T := TX7) (N := 6) (ty := tyX7) 95 5 rfl rfl in_X7 tyX7_ok q1155 q1315 q124 rfl (by decide) dX1_link_92 rfl (fun b92 w92 => ?_)
  refine r_dup_r 96 dX1_link_95 rfl ?_
  refine r_iload_n 97 1 dX1_link_96 rfl rfl rfl ?_
  refine r_iload_n 98 2 dX1_link_97 rfl rfl rfl ?_
  refine r_iload_n 99 3 dX1_link_98 rfl rfl rfl ?_
  refine r_iload 101 4 dX1_link_99 rfl rfl ?_
  refine r_iload 103 5 dX1_link_101 rfl rfl ?_
  refine r_iload 105 6 dX1_link_103 rfl rfl ?_
  refine r_callI (b := b92) (n := 6) (as := [lI v1, lI v2, lI v3, lI v4, lI v5, lI v6]) (rest := [rf ((some b92)), rf x89]) 108 (s_X7_init hl G b92 v1 v2 v3 v4 v5 v6 w92) (lw_meth q1318) q124 q1543 q1317 rfl (by decide +kernel) (by decide) rfl rfl (cat2_r (cat2_r (cat2_nil (k := 0)))) rfl dX1_link_105 rfl (fun _ w105 => ?_)
  refine r_gd (fun hc108 => ?_)
  refine r_callV (n := 1) (as := [lR ((some b92))]) (rest := []) 111 15 (sL_add hl x89 ((some b92)) w105) hc108 rfl (lw_V q1467 q422 q423 q104 q424) (by decide +kernel) (by decide) rfl rfl (cat2_nil (k := 0)) rfl dX1_link_108 rfl (fun x108 w108 => ?_)
  refine r_pop_i 112 dX1_link_111 rfl ?_
  refine r_aload_n 113 0 dX1_link_112 rfl rfl rfl ?_
  refine r_getr 116 gf_X1_10 dX1_link_113 rfl (fun x113 => ?_)
  refine r_dup_r 117 dX1_link_116 rfl ?_
  refine r_geti 120 gf_X1_199 dX1_link_117 rfl (fun x117 => ?_)
  refine r_iconst (v := 1) 121 dX1_link_120 rfl rfl ?_
  refine r_iadd 122 dX1_link_121 rfl ?_
  refine r_puti 125 pf_X1_199 dX1_link_122 rfl (fun w122 => ?_)
  refine r_aload_n 126 0 dX1_link_125 rfl rfl rfl ?_
  refine r_getr 129 gf_X1_10 dX1_link_126 rfl (fun x126 => ?_)
  refine r_getr 132 gf_X1_191 dX1_link_129 rfl (fun x129 => ?_)
  refine r_gd (fun hc132 => ?_)
  refine r_callV (n := 0) (as := []) (rest := []) 135 15 (sL_size hl x129 w122) hc132 rfl (lw_V q857 q303 q304 q104 q305) (by decide +kernel) (by decide) rfl rfl (cat2_nil (k := 0)) rfl dX1_link_132 rfl (fun x132 w132 => ?_)
  refine r_iconst (v := 1) 136 dX1_link_135 rfl rfl ?_
  refine r_isub 137 dX1_link_136 rfl ?_
  exact r_iret rfl rfl dX1_link_137
theorem t_X1_link {l : Launch} {D : Dn} {H0 : Heap} {w0 : St} (hl : l.stackTraces = false) (G : Nat) (a0 : Rf) (a1 : Int32) (a2 : Int32) (a3 : Int32) (a4 : Int32) (a5 : Int32) (a6 : Int32) (w : St) : V_X1_link l D H0 w0 (f_X1_link G a0 a1 a2 a3 a4 a5 a6 w) 0 [(0, lR a0), (1, lI a1), (2, lI a2), (3, lI a3), (4, lI a4), (5, lI a5), (6, lI a6)] [] w := by
  unfold f_X1_link
  refine r_aload_n 1 0 dX1_link_0 rfl rfl rfl ?_
  refine r_iload_n 2 1 dX1_link_1 rfl rfl rfl ?_
  refine r_iload_n 3 3 dX1_link_2 rfl rfl rfl ?_
  refine r_gd (fun hc3 => ?_)
  rw [bx_bh]
  refine r_callHV (n := 2) (as := [lI a1, lI a3]) (rest := []) 6 0 (s_X1_mustBeTwo hl G a0 a1 a3 w) hc3 rfl (lw_V q1498 q1500 qs14 q100 q1501) (by decide +kernel) (by decide) rfl rfl (cat2_nil (k := 0)) rfl dX1_link_3 rfl (fun q9 w3 => r_pass (fun _ => rfl) rfl) (fun _ w3 => ?_)
  refine r_aload_n 7 0 dX1_link_6 rfl rfl rfl ?_
  refine r_iload_n 8 1 dX1_link_7 rfl rfl rfl ?_
  refine r_iload_n 9 2 dX1_link_8 rfl rfl rfl ?_
  refine r_gets (v := rf ((some (w3.g 1)))) 12 0 rfl q1502 dX1_link_9 rfl ?_
  refine r_gd (fun hc12 => ?_)
  rw [bx_bh]
  refine r_callHV (n := 3) (as := [lI a1, lI a2, lR ((some (w3.g 1)))]) (rest := []) 15 0 (s_X1_mustBeEvent hl G a0 a1 a2 ((some (w3.g 1))) w3) hc12 rfl (lw_V q1503 q1505 qs15 q100 q1506) (by decide +kernel) (by decide) rfl rfl (cat2_nil (k := 0)) rfl dX1_link_12 rfl (fun q9 w12 => r_pass (fun _ => rfl) rfl) (fun _ w12 => ?_)
  refine r_aload_n 16 0 dX1_link_15 rfl rfl rfl ?_
  refine r_iload_n 17 3 dX1_link_16 rfl rfl rfl ?_
  refine r_iload 19 4 dX1_link_17 rfl rfl ?_
  refine r_gets (v := rf ((some (w12.g 2)))) 22 1 rfl q1526 dX1_link_19 rfl ?_
  refine r_gd (fun hc22 => ?_)
  rw [bx_bh]
  refine r_callHV (n := 3) (as := [lI a3, lI a4, lR ((some (w12.g 2)))]) (rest := []) 25 0 (s_X1_mustBeEvent hl G a0 a3 a4 ((some (w12.g 2))) w12) hc22 rfl (lw_V q1503 q1505 qs15 q100 q1506) (by decide +kernel) (by decide) rfl rfl (cat2_nil (k := 0)) rfl dX1_link_22 rfl (fun q9 w22 => r_pass (fun _ => rfl) rfl) (fun _ w22 => ?_)
  refine r_aload_n 26 0 dX1_link_25 rfl rfl rfl ?_
  refine r_iload 28 5 dX1_link_26 rfl rfl ?_
  refine r_iconst (v := 1) 29 dX1_link_28 rfl rfl ?_
  refine r_bipush (v := 60) 31 dX1_link_29 rfl rfl ?_
  refine r_gd (fun hc31 => ?_)
  rw [bx_bh]
  refine r_callHV (n := 3) (as := [lI a5, lI 1, lI 60]) (rest := []) 34 0 (s_X1_inRange hl G a0 a5 1 60 w22) hc31 rfl (lw_V q1359 q1361 qs8 q100 q1362) (by decide +kernel) (by decide) rfl rfl (cat2_nil (k := 0)) rfl dX1_link_31 rfl (fun q9 w31 => r_pass (fun _ => rfl) rfl) (fun _ w31 => ?_)
  refine r_aload_n 35 0 dX1_link_34 rfl rfl rfl ?_
  refine r_iload 37 6 dX1_link_35 rfl rfl ?_
  refine r_iconst (v := 0) 38 dX1_link_37 rfl rfl ?_
  refine r_bipush (v := 60) 40 dX1_link_38 rfl rfl ?_
  refine r_gd (fun hc40 => ?_)
  rw [bx_bh]
  refine r_callHV (n := 3) (as := [lI a6, lI 0, lI 60]) (rest := []) 43 0 (s_X1_inRange hl G a0 a6 0 60 w31) hc40 rfl (lw_V q1359 q1361 qs8 q100 q1362) (by decide +kernel) (by decide) rfl rfl (cat2_nil (k := 0)) rfl dX1_link_40 rfl (fun q9 w40 => r_pass (fun _ => rfl) rfl) (fun _ w40 => ?_)
  refine r_aload_n 44 0 dX1_link_43 rfl rfl rfl ?_
  refine r_iload_n 45 1 dX1_link_44 rfl rfl rfl ?_
  refine r_iload_n 46 2 dX1_link_45 rfl rfl rfl ?_
  refine r_iload_n 47 3 dX1_link_46 rfl rfl rfl ?_
  refine r_iload 49 4 dX1_link_47 rfl rfl ?_
  refine r_iload 51 5 dX1_link_49 rfl rfl ?_
  refine r_gd (fun hc51 => ?_)
  rw [bx_bh]
  refine r_callHV (n := 5) (as := [lI a1, lI a2, lI a3, lI a4, lI a5]) (rest := []) 54 0 (s_X1_mustMeet hl G a0 a1 a2 a3 a4 a5 w40) hc51 rfl (lw_V q1527 q1529 qs16 q100 q1530) (by decide +kernel) (by decide) rfl rfl (cat2_nil (k := 0)) rfl dX1_link_51 rfl (fun q9 w51 => r_pass (fun _ => rfl) rfl) (fun _ w51 => ?_)
  refine r_aload_n 55 0 dX1_link_54 rfl rfl rfl ?_
  refine r_aload_n 56 0 dX1_link_55 rfl rfl rfl ?_
  refine r_getr 59 gf_X1_10 dX1_link_56 rfl (fun x56 => ?_)
  refine r_getr 62 gf_X1_191 dX1_link_59 rfl (fun x59 => ?_)
  refine r_gd (fun hc62 => ?_)
  refine r_callV (n := 0) (as := []) (rest := [rf a0]) 65 15 (sL_size hl x59 w51) hc62 rfl (lw_V q857 q303 q304 q104 q305) (by decide +kernel) (by decide) rfl rfl (cat2_r (cat2_nil (k := 0))) rfl dX1_link_62 rfl (fun x62 w62 => ?_)
  refine r_bipush (v := 12) 67 dX1_link_65 rfl rfl ?_
  refine r_icmp_ne 74 70 dX1_link_67 (by decide) rfl ?_ ?_
  · refine r_iconst (v := 0) 75 dX1_link_74 rfl rfl ?_
    exact r_lsP [0, 1, 2, 3, 4, 5, 6] rfl (t_X1_link_b75 hl G  a0 a1 a2 a3 a4 a5 a6 0 a0 w62)
  refine r_iconst (v := 1) 71 dX1_link_70 rfl rfl ?_
  refine r_goto 75 dX1_link_71 (by decide) ?_
  exact r_lsP [0, 1, 2, 3, 4, 5, 6] rfl (t_X1_link_b75 hl G  a0 a1 a2 a3 a4 a5 a6 1 a0 w62)
theorem s_X1_link {l : Launch} {D : Dn} {H0 : Heap} (hl : l.stackTraces = false) (G : Nat) (a0 : Rf) (a1 : Int32) (a2 : Int32) (a3 : Int32) (a4 : Int32) (a5 : Int32) (a6 : Int32) (w : St) : SimX l D H0 yX1_link (ws_ yX1_link cX1_link 7 (some (.int))) 35 3106 (ocX rvI) [lR a0, lI a1, lI a2, lI a3, lI a4, lI a5, lI a6] w (f_X1_link G a0 a1 a2 a3 a4 a5 a6 w) := SimX.ofV (y := yX1_link) (by decide) rfl (t_X1_link hl G a0 a1 a2 a3 a4 a5 a6 w)
abbrev V_X2_isLink (l : Launch) (D : Dn) (H0 : Heap) (w0 : St) (res : Option (Int32 × St)) (pc : Nat) (ls : List (Nat × LV)) (st : List Value) (w : St) : Prop := V l D H0 RX2 "isLink" cX2_isLink 2 (some (.boolean)) [] 31 3020 (fun x => .inr (rvI x)) w0 res pc ls st w
theorem t_X2_isLink {l : Launch} {D : Dn} {H0 : Heap} {w0 : St} (hl : l.stackTraces = false) (G : Nat) (a0 : Rf) (a1 : Int32) (w : St) : V_X2_isLink l D H0 w0 (f_X2_isLink G a0 a1 w) 0 [(0, lR a0), (1, lI a1)] [] w := by
  unfold f_X2_isLink
  refine r_iload_n 1 1 dX2_isLink_0 rfl rfl rfl ?_
  refine r_iconst (v := 0) 2 dX2_isLink_1 rfl rfl ?_
  refine r_aload_n 3 0 dX2_isLink_2 rfl rfl rfl ?_
  refine r_getr 6 gf_X2_16 dX2_isLink_3 rfl (fun x3 => ?_)
  refine r_gd (fun hc6 => ?_)
  refine r_callV (n := 0) (as := []) (rest := [.int 0, .int a1]) 9 15 (sL_size hl x3 w) hc6 rfl (lw_V q1483 q303 q304 q104 q305) (by decide +kernel) (by decide) rfl rfl (cat2_i (cat2_i (cat2_nil (k := 0)))) rfl dX2_isLink_6 rfl (fun x6 w6 => ?_)
  refine r_iconst (v := 1) 10 dX2_isLink_9 rfl rfl ?_
  refine r_isub 11 dX2_isLink_10 rfl ?_
  refine r_callNS (n := 3) (as := [lI a1, lI 0, lI (x6 - 1)]) (rest := []) 14 (s_X1_isBetween hl G a1 0 (x6 - 1) w6) (lw_meth q1365) q1484 q100 q1364 (by decide +kernel) (by decide) rfl rfl (cat2_nil (k := 0)) rfl dX2_isLink_11 rfl (fun x11 w11 => ?_)
  exact r_zretG rfl rfl dX2_isLink_14
theorem s_X2_isLink {l : Launch} {D : Dn} {H0 : Heap} (hl : l.stackTraces = false) (G : Nat) (a0 : Rf) (a1 : Int32) (w : St) : SimN l D H0 yX2_isLink (ws_ yX2_isLink cX2_isLink 2 (some (.boolean))) 31 3020 rvI [lR a0, lI a1] w (f_X2_isLink G a0 a1 w) := SimX.N (SimX.ofV (y := yX2_isLink) (by decide) rfl (t_X2_isLink hl G a0 a1 w))
abbrev V_X1_cut (l : Launch) (D : Dn) (H0 : Heap) (w0 : St) (res : Option ((Nat ⊕ Int32) × St)) (pc : Nat) (ls : List (Nat × LV)) (st : List Value) (w : St) : Prop := V l D H0 RX1 "cut" cX1_cut 2 (some (.int)) [] 35 3106 (ocX rvI) w0 res pc ls st w
theorem t_X1_cut_b17 {l : Launch} {D : Dn} {H0 : Heap} {w0 : St} (hl : l.stackTraces = false) (G : Nat) (v0 : Rf) (v1 : Int32) (s0 : Int32) (s1 : Rf) (w : St) : V_X1_cut l D H0 w0 (f_X1_cut_b17 G v0 v1 s0 s1 w) 17 [(0, lR v0), (1, lI v1)] [.int s0, rf s1] w := by
  unfold f_X1_cut_b17
  refine r_iconst (v := 5) 18 dX1_cut_17 rfl rfl ?_
  refine r_iload_n 19 1 dX1_cut_18 rfl rfl rfl ?_
  refine r_gd (fun hc19 => ?_)
  rw [bx_bh]
  refine r_callHV (n := 3) (as := [lI s0, lI 5, lI v1]) (rest := []) 22 0 (s_X1_refuse hl G s1 s0 5 v1 w) hc19 rfl (lw_V q1366 q1368 qs9 q100 q1369) (by decide +kernel) (by decide) rfl rfl (cat2_nil (k := 0)) rfl dX1_cut_19 rfl (fun q9 w19 => r_pass (fun _ => rfl) rfl) (fun _ w19 => ?_)
  refine r_aload_n 23 0 dX1_cut_22 rfl rfl rfl ?_
  refine r_gd (fun hc23 => ?_)
  refine r_callV (n := 0) (as := []) (rest := []) 26 0 (s_X1_change hl G v0 w19) hc23 rfl (lw_V q1404 q1406 qs10 q100 q1407) (by decide +kernel) (by decide) rfl rfl (cat2_nil (k := 0)) rfl dX1_cut_23 rfl (fun _ w23 => ?_)
  refine r_aload_n 27 0 dX1_cut_26 rfl rfl rfl ?_
  refine r_getr 30 gf_X1_10 dX1_cut_27 rfl (fun x27 => ?_)
  refine r_getr 33 gf_X1_191 dX1_cut_30 rfl (fun x30 => ?_)
  refine r_iload_n 34 1 dX1_cut_33 rfl rfl rfl ?_
  refine r_gd (fun hc34 => ?_)
  refine r_callV (n := 1) (as := [lI v1]) (rest := []) 37 15 (sL_remove hl x30 v1 w23) hc34 rfl (lw_V q1555 q1556 q1557 q104 q1558) (by decide +kernel) (by decide) rfl rfl (cat2_nil (k := 0)) rfl dX1_cut_34 rfl (fun x34 w34 => ?_)
  refine r_pop_r 38 dX1_cut_37 rfl ?_
  refine r_aload_n 39 0 dX1_cut_38 rfl rfl rfl ?_
  refine r_getr 42 gf_X1_10 dX1_cut_39 rfl (fun x39 => ?_)
  refine r_dup_r 43 dX1_cut_42 rfl ?_
  refine r_geti 46 gf_X1_208 dX1_cut_43 rfl (fun x43 => ?_)
  refine r_iconst (v := 1) 47 dX1_cut_46 rfl rfl ?_
  refine r_iadd 48 dX1_cut_47 rfl ?_
  refine r_puti 51 pf_X1_208 dX1_cut_48 rfl (fun w48 => ?_)
  refine r_aload_n 52 0 dX1_cut_51 rfl rfl rfl ?_
  refine r_getr 55 gf_X1_10 dX1_cut_52 rfl (fun x52 => ?_)
  refine r_getr 58 gf_X1_191 dX1_cut_55 rfl (fun x55 => ?_)
  refine r_gd (fun hc58 => ?_)
  refine r_callV (n := 0) (as := []) (rest := []) 61 15 (sL_size hl x55 w48) hc58 rfl (lw_V q857 q303 q304 q104 q305) (by decide +kernel) (by decide) rfl rfl (cat2_nil (k := 0)) rfl dX1_cut_58 rfl (fun x58 w58 => ?_)
  exact r_iret rfl rfl dX1_cut_61
theorem t_X1_cut {l : Launch} {D : Dn} {H0 : Heap} {w0 : St} (hl : l.stackTraces = false) (G : Nat) (a0 : Rf) (a1 : Int32) (w : St) : V_X1_cut l D H0 w0 (f_X1_cut G a0 a1 w) 0 [(0, lR a0), (1, lI a1)] [] w := by
  unfold f_X1_cut
  refine r_aload_n 1 0 dX1_cut_0 rfl rfl rfl ?_
  refine r_aload_n 2 0 dX1_cut_1 rfl rfl rfl ?_
  refine r_getr 5 gf_X1_10 dX1_cut_2 rfl (fun x2 => ?_)
  refine r_iload_n 6 1 dX1_cut_5 rfl rfl rfl ?_
  refine r_gd (fun hc6 => ?_)
  refine r_callV (n := 1) (as := [lI a1]) (rest := [rf a0]) 9 1 (s_X2_isLink hl G x2 a1 w) hc6 rfl (lw_V q1551 q1552 q1553 q101 q1554) (by decide +kernel) (by decide) rfl rfl (cat2_r (cat2_nil (k := 0))) rfl dX1_cut_6 rfl (fun x6 w6 => ?_)
  refine r_if_ne 16 12 dX1_cut_9 (by decide) rfl ?_ ?_
  · refine r_iconst (v := 0) 17 dX1_cut_16 rfl rfl ?_
    exact r_lsP [0, 1] rfl (t_X1_cut_b17 hl G  a0 a1 0 a0 w6)
  refine r_iconst (v := 1) 13 dX1_cut_12 rfl rfl ?_
  refine r_goto 17 dX1_cut_13 (by decide) ?_
  exact r_lsP [0, 1] rfl (t_X1_cut_b17 hl G  a0 a1 1 a0 w6)
theorem s_X1_cut {l : Launch} {D : Dn} {H0 : Heap} (hl : l.stackTraces = false) (G : Nat) (a0 : Rf) (a1 : Int32) (w : St) : SimX l D H0 yX1_cut (ws_ yX1_cut cX1_cut 2 (some (.int))) 35 3106 (ocX rvI) [lR a0, lI a1] w (f_X1_cut G a0 a1 w) := SimX.ofV (y := yX1_cut) (by decide) rfl (t_X1_cut hl G a0 a1 w)
abbrev V_X1_limit (l : Launch) (D : Dn) (H0 : Heap) (w0 : St) (res : Option ((Nat ⊕ Int32) × St)) (pc : Nat) (ls : List (Nat × LV)) (st : List Value) (w : St) : Prop := V l D H0 RX1 "limit" cX1_limit 4 (some (.int)) [] 35 3106 (ocX rvI) w0 res pc ls st w
theorem t_X1_limit_b57 {l : Launch} {D : Dn} {H0 : Heap} {w0 : St} (hl : l.stackTraces = false) (G : Nat) (v0 : Rf) (v1 : Int32) (v2 : Int32) (s0 : Int32) (s1 : Rf) (w : St) : V_X1_limit l D H0 w0 (f_X1_limit_b57 G v0 v1 v2 s0 s1 w) 57 [(0, lR v0), (1, lI v1), (2, lI v2)] [.int s0, rf s1] w := by
  unfold f_X1_limit_b57
  refine r_bipush (v := 10) 59 dX1_limit_57 rfl rfl ?_
  refine r_iload_n 60 2 dX1_limit_59 rfl rfl rfl ?_
  refine r_gd (fun hc60 => ?_)
  rw [bx_bh]
  refine r_callHV (n := 3) (as := [lI s0, lI 10, lI v2]) (rest := []) 63 0 (s_X1_refuse hl G s1 s0 10 v2 w) hc60 rfl (lw_V q1366 q1368 qs9 q100 q1369) (by decide +kernel) (by decide) rfl rfl (cat2_nil (k := 0)) rfl dX1_limit_60 rfl (fun q9 w60 => r_pass (fun _ => rfl) rfl) (fun _ w60 => ?_)
  refine r_aload_n 64 0 dX1_limit_63 rfl rfl rfl ?_
  refine r_gd (fun hc64 => ?_)
  refine r_callV (n := 0) (as := []) (rest := []) 67 0 (s_X1_change hl G v0 w60) hc64 rfl (lw_V q1404 q1406 qs10 q100 q1407) (by decide +kernel) (by decide) rfl rfl (cat2_nil (k := 0)) rfl dX1_limit_64 rfl (fun _ w64 => ?_)
  refine r_aload_n 68 0 dX1_limit_67 rfl rfl rfl ?_
  refine r_getr 71 gf_X1_10 dX1_limit_68 rfl (fun x68 => ?_)
  refine r_getr 74 gf_X1_191 dX1_limit_71 rfl (fun x71 => ?_)
  refine r_iload_n 75 1 dX1_limit_74 rfl rfl rfl ?_
  refine r_gd (fun hc75 => ?_)
  refine r_callV (n := 1) (as := [lI v1]) (rest := []) 78 15 (sL_get hl x71 v1 w64) hc75 rfl (lw_V q858 q311 q312 q104 q313) (by decide +kernel) (by decide) rfl rfl (cat2_nil (k := 0)) rfl dX1_limit_75 rfl (fun x75 w75 => ?_)
  refine r_cast 81 (CA_cons (c0 := 5) rfl (Or.inl rfl) (CA_nil)) q1155 dX1_limit_78 rfl ?_
  refine r_geti 84 gf_X1_211 dX1_limit_81 rfl (fun x81 => ?_)
  refine r_istore_n (ls2 := [(3, lI x81), (0, lR v0), (1, lI v1), (2, lI v2)]) 85 dX1_limit_84 rfl (by decide) rfl rfl ?_
  refine r_aload_n 86 1 dX1_limit_85 rfl rfl rfl ?_
  refine r_getr 89 gf_X1_10 dX1_limit_86 rfl (fun x86 => ?_)
  refine r_getr 92 gf_X1_191 dX1_limit_89 rfl (fun x89 => ?_)
  refine r_iload_n 93 2 dX1_limit_92 rfl rfl rfl ?_
  refine r_gd (fun hc93 => ?_)
  refine r_callV (n := 1) (as := [lI v1]) (rest := []) 96 15 (sL_get hl x89 v1 w75) hc93 rfl (lw_V q858 q311 q312 q104 q313) (by decide +kernel) (by decide) rfl rfl (cat2_nil (k := 0)) rfl dX1_limit_93 rfl (fun x93 w93 => ?_)
  refine r_cast 99 (CA_cons (c0 := 5) rfl (Or.inl rfl) (CA_nil)) q1155 dX1_limit_96 rfl ?_
  refine r_iload_n 100 3 dX1_limit_99 rfl rfl rfl ?_
  refine r_puti 103 pf_X1_211 dX1_limit_100 rfl (fun w100 => ?_)
  refine r_iload_n 104 0 dX1_limit_103 rfl rfl rfl ?_
  exact r_iret rfl rfl dX1_limit_104
theorem t_X1_limit_b17 {l : Launch} {D : Dn} {H0 : Heap} {w0 : St} (hl : l.stackTraces = false) (G : Nat) (v0 : Rf) (v1 : Int32) (v2 : Int32) (s0 : Int32) (s1 : Rf) (w : St) : V_X1_limit l D H0 w0 (f_X1_limit_b17 G v0 v1 v2 s0 s1 w) 17 [(0, lR v0), (1, lI v1), (2, lI v2)] [.int s0, rf s1] w := by
  unfold f_X1_limit_b17
  refine r_iconst (v := 5) 18 dX1_limit_17 rfl rfl ?_
  refine r_iload_n 19 1 dX1_limit_18 rfl rfl rfl ?_
  refine r_gd (fun hc19 => ?_)
  rw [bx_bh]
  refine r_callHV (n := 3) (as := [lI s0, lI 5, lI v1]) (rest := []) 22 0 (s_X1_refuse hl G s1 s0 5 v1 w) hc19 rfl (lw_V q1366 q1368 qs9 q100 q1369) (by decide +kernel) (by decide) rfl rfl (cat2_nil (k := 0)) rfl dX1_limit_19 rfl (fun q9 w19 => r_pass (fun _ => rfl) rfl) (fun _ w19 => ?_)
  refine r_aload_n 23 0 dX1_limit_22 rfl rfl rfl ?_
  refine r_iload_n 24 2 dX1_limit_23 rfl rfl rfl ?_
  refine r_iconst (v := 0) 25 dX1_limit_24 rfl rfl ?_
  refine r_bipush (v := 60) 27 dX1_limit_25 rfl rfl ?_
  refine r_gd (fun hc27 => ?_)
  rw [bx_bh]
  refine r_callHV (n := 3) (as := [lI v2, lI 0, lI 60]) (rest := []) 30 0 (s_X1_inRange hl G v0 v2 0 60 w19) hc27 rfl (lw_V q1359 q1361 qs8 q100 q1362) (by decide +kernel) (by decide) rfl rfl (cat2_nil (k := 0)) rfl dX1_limit_27 rfl (fun q9 w27 => r_pass (fun _ => rfl) rfl) (fun _ w27 => ?_)
  refine r_aload_n 31 0 dX1_limit_30 rfl rfl rfl ?_
  refine r_aload_n 32 0 dX1_limit_31 rfl rfl rfl ?_
  refine r_getr 35 gf_X1_10 dX1_limit_32 rfl (fun x32 => ?_)
  refine r_getr 38 gf_X1_191 dX1_limit_35 rfl (fun x35 => ?_)
  refine r_iload_n 39 1 dX1_limit_38 rfl rfl rfl ?_
  refine r_gd (fun hc39 => ?_)
  refine r_callV (n := 1) (as := [lI v1]) (rest := [rf v0]) 42 15 (sL_get hl x35 v1 w27) hc39 rfl (lw_V q858 q311 q312 q104 q313) (by decide +kernel) (by decide) rfl rfl (cat2_r (cat2_nil (k := 0))) rfl dX1_limit_39 rfl (fun x39 w39 => ?_)
  refine r_cast 45 (CA_cons (c0 := 5) rfl (Or.inl rfl) (CA_nil)) q1155 dX1_limit_42 rfl ?_
  refine r_geti 48 gf_X1_211 dX1_limit_45 rfl (fun x45 => ?_)
  refine r_iload_n 49 2 dX1_limit_48 rfl rfl rfl ?_
  refine r_icmp_ne 56 52 dX1_limit_49 (by decide) rfl ?_ ?_
  · refine r_iconst (v := 0) 57 dX1_limit_56 rfl rfl ?_
    exact r_lsP [0, 1, 2] rfl (t_X1_limit_b57 hl G  v0 v1 v2 0 v0 w39)
  refine r_iconst (v := 1) 53 dX1_limit_52 rfl rfl ?_
  refine r_goto 57 dX1_limit_53 (by decide) ?_
  exact r_lsP [0, 1, 2] rfl (t_X1_limit_b57 hl G  v0 v1 v2 1 v0 w39)
theorem t_X1_limit {l : Launch} {D : Dn} {H0 : Heap} {w0 : St} (hl : l.stackTraces = false) (G : Nat) (a0 : Rf) (a1 : Int32) (a2 : Int32) (w : St) : V_X1_limit l D H0 w0 (f_X1_limit G a0 a1 a2 w) 0 [(0, lR a0), (1, lI a1), (2, lI a2)] [] w := by
  unfold f_X1_limit
  refine r_aload_n 1 0 dX1_limit_0 rfl rfl rfl ?_
  refine r_aload_n 2 0 dX1_limit_1 rfl rfl rfl ?_
  refine r_getr 5 gf_X1_10 dX1_limit_2 rfl (fun x2 => ?_)
  refine r_iload_n 6 1 dX1_limit_5 rfl rfl rfl ?_
  refine r_gd (fun hc6 => ?_)
  refine r_callV (n := 1) (as := [lI a1]) (rest := [rf a0]) 9 1 (s_X2_isLink hl G x2 a1 w) hc6 rfl (lw_V q1551 q1552 q1553 q101 q1554) (by decide +kernel) (by decide) rfl rfl (cat2_r (cat2_nil (k := 0))) rfl dX1_limit_6 rfl (fun x6 w6 => ?_)
  refine r_if_ne 16 12 dX1_limit_9 (by decide) rfl ?_ ?_
  · refine r_iconst (v := 0) 17 dX1_limit_16 rfl rfl ?_
    exact r_lsP [0, 1, 2] rfl (t_X1_limit_b17 hl G  a0 a1 a2 0 a0 w6)
  refine r_iconst (v := 1) 13 dX1_limit_12 rfl rfl ?_
  refine r_goto 17 dX1_limit_13 (by decide) ?_
  exact r_lsP [0, 1, 2] rfl (t_X1_limit_b17 hl G  a0 a1 a2 1 a0 w6)
theorem s_X1_limit {l : Launch} {D : Dn} {H0 : Heap} (hl : l.stackTraces = false) (G : Nat) (a0 : Rf) (a1 : Int32) (a2 : Int32) (w : St) : SimX l D H0 yX1_limit (ws_ yX1_limit cX1_limit 4 (some (.int))) 35 3106 (ocX rvI) [lR a0, lI a1, lI a2] w (f_X1_limit G a0 a1 a2 w) := SimX.ofV (y := yX1_limit) (by decide) rfl (t_X1_limit hl G a0 a1 a2 w)
abbrev V_X18_lays (l : Launch) (D : Dn) (H0 : Heap) (w0 : St) (res : Option (Unit × St)) (pc : Nat) (ls : List (Nat × LV)) (st : List Value) (w : St) : Prop := V l D H0 RX18 "lays" cX18_lays 3 none [] 0 0 (fun x => .inr (rvU x)) w0 res pc ls st w
theorem t_X18_lays {l : Launch} {D : Dn} {H0 : Heap} {w0 : St} (hl : l.stackTraces = false) (G : Nat) (a0 : Rf) (a1 : Rf) (a2 : Int32) (w : St) : V_X18_lays l D H0 w0 (f_X18_lays G a0 a1 a2 w) 0 [(0, lR a0), (1, lR a1), (2, lI a2)] [] w := by
  unfold f_X18_lays
  refine r_aload_n 1 1 dX18_lays_0 rfl rfl rfl ?_
  refine r_iload_n 2 2 dX18_lays_1 rfl rfl rfl ?_
  refine r_puti 5 pf_X18_13 dX18_lays_2 rfl (fun w2 => ?_)
  exact r_vret rfl rfl dX18_lays_5
theorem s_X18_lays {l : Launch} {D : Dn} {H0 : Heap} (hl : l.stackTraces = false) (G : Nat) (a0 : Rf) (a1 : Rf) (a2 : Int32) (w : St) : SimU l D H0 yX18_lays (ws_ yX18_lays cX18_lays 3 none) 0 0 rvU [lR a0, lR a1, lI a2] w (f_X18_lays G a0 a1 a2 w) := SimU.ofV (y := yX18_lays) (by decide) rfl (t_X18_lays hl G a0 a1 a2 w)
abbrev V_X19_lays (l : Launch) (D : Dn) (H0 : Heap) (w0 : St) (res : Option (Unit × St)) (pc : Nat) (ls : List (Nat × LV)) (st : List Value) (w : St) : Prop := V l D H0 RX19 "lays" cX19_lays 3 none [] 0 0 (fun x => .inr (rvU x)) w0 res pc ls st w
theorem t_X19_lays {l : Launch} {D : Dn} {H0 : Heap} {w0 : St} (hl : l.stackTraces = false) (G : Nat) (a0 : Rf) (a1 : Rf) (a2 : Int32) (w : St) : V_X19_lays l D H0 w0 (f_X19_lays G a0 a1 a2 w) 0 [(0, lR a0), (1, lR a1), (2, lI a2)] [] w := by
  unfold f_X19_lays
  refine r_aload_n 1 1 dX19_lays_0 rfl rfl rfl ?_
  refine r_iload_n 2 2 dX19_lays_1 rfl rfl rfl ?_
  refine r_puti 5 pf_X19_13 dX19_lays_2 rfl (fun w2 => ?_)
  exact r_vret rfl rfl dX19_lays_5
theorem s_X19_lays {l : Launch} {D : Dn} {H0 : Heap} (hl : l.stackTraces = false) (G : Nat) (a0 : Rf) (a1 : Rf) (a2 : Int32) (w : St) : SimU l D H0 yX19_lays (ws_ yX19_lays cX19_lays 3 none) 0 0 rvU [lR a0, lR a1, lI a2] w (f_X19_lays G a0 a1 a2 w) := SimU.ofV (y := yX19_lays) (by decide) rfl (t_X19_lays hl G a0 a1 a2 w)
abbrev V_X8_of (l : Launch) (D : Dn) (H0 : Heap) (w0 : St) (res : Option (Rf × St)) (pc : Nat) (ls : List (Nat × LV)) (st : List Value) (w : St) : Prop := V l D H0 RX8 "of" cX8_of 1 (some (.object "CoachTimetable$Side")) [] 0 0 (fun x => .inr (rvR x)) w0 res pc ls st w
theorem t_X8_of {l : Launch} {D : Dn} {H0 : Heap} {w0 : St} (hl : l.stackTraces = false) (G : Nat) (a0 : Int32) (w : St) : V_X8_of l D H0 w0 (f_X8_of G a0 w) 0 [(0, lI a0)] [] w := by
  unfold f_X8_of
  refine r_iload_n 1 0 dX8_of_0 rfl rfl rfl ?_
  refine r_if_eq 10 4 dX8_of_1 (by decide) rfl ?_ ?_
  · refine r_gets (v := rf ((some (w.g 2)))) 13 1 rfl q1582 dX8_of_10 rfl ?_
    exact r_aret rfl rfl (Or.inl ⟨_, rfl⟩) dX8_of_13
  refine r_gets (v := rf ((some (w.g 1)))) 7 0 rfl q1581 dX8_of_4 rfl ?_
  refine r_goto 13 dX8_of_7 (by decide) ?_
  exact r_aret rfl rfl (Or.inl ⟨_, rfl⟩) dX8_of_13
theorem s_X8_of {l : Launch} {D : Dn} {H0 : Heap} (hl : l.stackTraces = false) (G : Nat) (a0 : Int32) (w : St) : SimN l D H0 yX8_of (ws_ yX8_of cX8_of 1 (some (.object "CoachTimetable$Side"))) 0 0 rvR [lI a0] w (f_X8_of G a0 w) := SimX.N (SimX.ofV (y := yX8_of) (by decide) rfl (t_X8_of hl G a0 w))
abbrev V_X1_late (l : Launch) (D : Dn) (H0 : Heap) (w0 : St) (res : Option ((Nat ⊕ Int32) × St)) (pc : Nat) (ls : List (Nat × LV)) (st : List Value) (w : St) : Prop := V l D H0 RX1 "late" cX1_late 6 (some (.int)) [] 37 3149 (ocX rvI) w0 res pc ls st w
theorem t_X1_late_b53 {l : Launch} {D : Dn} {H0 : Heap} {w0 : St} (hl : l.stackTraces = false) (G : Nat) (v0 : Rf) (v1 : Int32) (v2 : Int32) (v4 : Int32) (v5 : Rf) (s0 : Int32) (s1 : Rf) (w : St) : V_X1_late l D H0 w0 (f_X1_late_b53 G v0 v1 v2 v4 v5 s0 s1 w) 53 [(0, lR v0), (1, lI v1), (2, lI v2), (4, lI v4), (5, lR v5)] [.int s0, rf s1] w := by
  unfold f_X1_late_b53
  refine r_bipush (v := 10) 55 dX1_late_53 rfl rfl ?_
  refine r_iload 57 3 dX1_late_55 rfl rfl ?_
  refine r_gd (fun hc57 => ?_)
  rw [bx_bh]
  refine r_callHV (n := 3) (as := [lI s0, lI 10, lI v4]) (rest := []) 60 0 (s_X1_refuse hl G s1 s0 10 v4 w) hc57 rfl (lw_V q1366 q1368 qs9 q100 q1369) (by decide +kernel) (by decide) rfl rfl (cat2_nil (k := 0)) rfl dX1_late_57 rfl (fun q9 w57 => r_pass (fun _ => rfl) rfl) (fun _ w57 => ?_)
  refine r_aload_n 61 0 dX1_late_60 rfl rfl rfl ?_
  refine r_gd (fun hc61 => ?_)
  refine r_callV (n := 0) (as := []) (rest := []) 64 0 (s_X1_change hl G v0 w57) hc61 rfl (lw_V q1404 q1406 qs10 q100 q1407) (by decide +kernel) (by decide) rfl rfl (cat2_nil (k := 0)) rfl dX1_late_61 rfl (fun _ w61 => ?_)
  refine r_aload 66 4 dX1_late_64 rfl rfl ?_
  refine r_aload_n 67 0 dX1_late_66 rfl rfl rfl ?_
  refine r_getr 70 gf_X1_10 dX1_late_67 rfl (fun x67 => ?_)
  refine r_iload_n 71 1 dX1_late_70 rfl rfl rfl ?_
  refine r_iload_n 72 2 dX1_late_71 rfl rfl rfl ?_
  refine r_gd (fun hc72 => ?_)
  refine r_callV (n := 2) (as := [lI v1, lI v2]) (rest := [rf v5]) 75 1 (s_X2_stop hl G x67 v1 v2 w61) hc72 rfl (lw_V q1531 q1532 q1533 q101 q1534) (by decide +kernel) (by decide) rfl rfl (cat2_r (cat2_nil (k := 0))) rfl dX1_late_72 rfl (fun x72 w72 => ?_)
  refine r_iload 77 3 dX1_late_75 rfl rfl ?_
  refine r_share (st2 := fun (_ : Unit) => []) (pc2 := 80) (fun hk => ?_) (fun x77 w77 => ?_)
  · refine r_dsp (fun c77 hc77 => ?_)
    refine r_dif (fun he => ?_) (fun _ => ?_)
    · subst he
      exact r_callAU (x2 := ⟨"CoachTimetable$Side", "lays", "(LCoachTimetable$Stop;I)V"⟩) (owner := "CoachTimetable$Side") (n := 2) (as := [lR x72, lI v4]) (rest := []) 80 28 (s_X18_lays hl G v5 x72 v4 w72) hc77 rfl (lw_app (l4 q1584 q1586 q1587 q1588) (lw_meth q1589)) q1585 (by decide +kernel) (by decide) rfl rfl (cat2_nil (k := 0)) rfl dX1_late_77 rfl hk
    refine r_dif (fun he => ?_) (fun _ => ?_)
    · subst he
      exact r_callAU (x2 := ⟨"CoachTimetable$Side", "lays", "(LCoachTimetable$Stop;I)V"⟩) (owner := "CoachTimetable$Side") (n := 2) (as := [lR x72, lI v4]) (rest := []) 80 29 (s_X19_lays hl G v5 x72 v4 w72) hc77 rfl (lw_app (l4 q1584 q1586 q1590 q1591) (lw_meth q1592)) q1585 (by decide +kernel) (by decide) rfl rfl (cat2_nil (k := 0)) rfl dX1_late_77 rfl hk
    exact r_bdn
  refine r_aload_n 81 0 dX1_late_80 rfl rfl rfl ?_
  refine r_gd (fun hc81 => ?_)
  refine r_callV (n := 0) (as := []) (rest := []) 84 0 (s_X1_net hl G v0 w77) hc81 rfl (lw_V q290 q292 qs0 q100 q293) (by decide +kernel) (by decide) rfl rfl (cat2_nil (k := 0)) rfl dX1_late_81 rfl (fun x81 w81 => ?_)
  refine r_iload_n 85 1 dX1_late_84 rfl rfl rfl ?_
  refine r_iload_n 86 2 dX1_late_85 rfl rfl rfl ?_
  refine r_aload 88 4 dX1_late_86 rfl rfl ?_
  refine r_gd (fun hc88 => ?_)
  refine r_callV (n := 3) (as := [lI v1, lI v2, lR v5]) (rest := []) 91 6 (s_X9_event hl G x81 v1 v2 v5 w81) hc88 rfl (lw_V q1593 q553 q554 q130 q555) (by decide +kernel) (by decide) rfl rfl (cat2_nil (k := 0)) rfl dX1_late_88 rfl (fun x88 w88 => ?_)
  refine r_share (st2 := fun x91 => [.int x91]) (pc2 := 94) (fun hk => ?_) (fun x91 w91 => ?_)
  · refine r_dsp (fun c91 hc91 => ?_)
    refine r_dif (fun he => ?_) (fun _ => ?_)
    · subst he
      exact r_callV (n := 0) (as := []) (rest := []) 94 7 (s_X10_late hl G x88 w88) hc91 rfl (lw_V q860 q843 q844 q131 q847) (by decide +kernel) (by decide) rfl rfl (cat2_nil (k := 0)) rfl dX1_late_91 rfl hk
    refine r_dif (fun he => ?_) (fun _ => ?_)
    · subst he
      exact r_callU (x2 := ⟨"CoachTimetable$Event", "late", "()I"⟩) (owner := "CoachTimetable$Event") (n := 0) (as := []) (rest := []) 94 9 (s_X10_late hl G x88 w88) hc91 rfl (lw_app (l5 q860 q845 q846 q843 q131) (lw_meth q847)) rfl (by decide +kernel) (by decide) rfl rfl (cat2_nil (k := 0)) rfl dX1_late_91 rfl hk
    exact r_bdn
  exact r_iret rfl rfl dX1_late_94
theorem t_X1_late {l : Launch} {D : Dn} {H0 : Heap} {w0 : St} (hl : l.stackTraces = false) (G : Nat) (a0 : Rf) (a1 : Int32) (a2 : Int32) (a3 : Int32) (a4 : Int32) (w : St) : V_X1_late l D H0 w0 (f_X1_late G a0 a1 a2 a3 a4 w) 0 [(0, lR a0), (1, lI a1), (2, lI a2), (3, lI a3), (4, lI a4)] [] w := by
  unfold f_X1_late
  refine r_iload_n 1 3 dX1_late_0 rfl rfl rfl ?_
  refine r_callS (n := 1) (as := [lI a3]) (rest := []) 4 (s_X8_of hl G a3 w) (lw_S q1578 q1579 q129 q1580) (by decide +kernel) (by decide) rfl rfl (cat2_nil (k := 0)) rfl dX1_late_1 rfl (fun x1 w1 => ?_)
  refine r_astore (ls2 := [(5, lR x1), (0, lR a0), (1, lI a1), (2, lI a2), (3, lI a3), (4, lI a4)]) 6 dX1_late_4 (by decide) rfl rfl ?_
  refine r_aload_n 7 1 dX1_late_6 rfl rfl rfl ?_
  refine r_iload_n 8 2 dX1_late_7 rfl rfl rfl ?_
  refine r_gd (fun hc8 => ?_)
  rw [bx_bh]
  refine r_callHV (n := 1) (as := [lI a1]) (rest := []) 11 0 (s_X1_mustBeCoach hl G a0 a1 w1) hc8 rfl (lw_V q1475 q1477 qs13 q100 q1478) (by decide +kernel) (by decide) rfl rfl (cat2_nil (k := 0)) rfl dX1_late_8 rfl (fun q9 w8 => r_pass (fun _ => rfl) rfl) (fun _ w8 => ?_)
  refine r_aload_n 12 1 dX1_late_11 rfl rfl rfl ?_
  refine r_iload_n 13 2 dX1_late_12 rfl rfl rfl ?_
  refine r_iload_n 14 3 dX1_late_13 rfl rfl rfl ?_
  refine r_aload 16 0 dX1_late_14 rfl rfl ?_
  refine r_gd (fun hc16 => ?_)
  rw [bx_bh]
  refine r_callHV (n := 3) (as := [lI a1, lI a2, lR x1]) (rest := []) 19 0 (s_X1_mustBeEvent hl G a0 a1 a2 x1 w8) hc16 rfl (lw_V q1503 q1505 qs15 q100 q1506) (by decide +kernel) (by decide) rfl rfl (cat2_nil (k := 0)) rfl dX1_late_16 rfl (fun q9 w16 => r_pass (fun _ => rfl) rfl) (fun _ w16 => ?_)
  refine r_aload_n 20 1 dX1_late_19 rfl rfl rfl ?_
  refine r_iload 22 5 dX1_late_20 rfl rfl ?_
  refine r_iconst (v := 0) 23 dX1_late_22 rfl rfl ?_
  refine r_bipush (v := 120) 25 dX1_late_23 rfl rfl ?_
  refine r_gd (fun hc25 => ?_)
  rw [bx_bh]
  refine r_callHV (n := 3) (as := [lI a4, lI 0, lI 120]) (rest := []) 28 0 (s_X1_inRange hl G a0 a4 0 120 w16) hc25 rfl (lw_V q1359 q1361 qs8 q100 q1362) (by decide +kernel) (by decide) rfl rfl (cat2_nil (k := 0)) rfl dX1_late_25 rfl (fun q9 w25 => r_pass (fun _ => rfl) rfl) (fun _ w25 => ?_)
  refine r_aload_n 29 1 dX1_late_28 rfl rfl rfl ?_
  refine r_aload_n 30 1 dX1_late_29 rfl rfl rfl ?_
  refine r_getr 33 gf_X1_10 dX1_late_30 rfl (fun x30 => ?_)
  refine r_iload_n 34 2 dX1_late_33 rfl rfl rfl ?_
  refine r_iload_n 35 3 dX1_late_34 rfl rfl rfl ?_
  refine r_gd (fun hc35 => ?_)
  refine r_callV (n := 2) (as := [lI a1, lI a2]) (rest := [rf a0]) 38 1 (s_X2_stop hl G x30 a1 a2 w25) hc35 rfl (lw_V q1531 q1532 q1533 q101 q1534) (by decide +kernel) (by decide) rfl rfl (cat2_r (cat2_nil (k := 0))) rfl dX1_late_35 rfl (fun x35 w35 => ?_)
  refine r_aload 40 0 dX1_late_38 rfl rfl ?_
  refine r_gd (fun hc40 => ?_)
  refine r_callV (n := 1) (as := [lR x1]) (rest := [rf a0]) 43 4 (s_X6_own hl G x35 x1 w35) hc40 rfl (lw_V q1583 q346 q347 q119 q348) (by decide +kernel) (by decide) rfl rfl (cat2_r (cat2_nil (k := 0))) rfl dX1_late_40 rfl (fun x40 w40 => ?_)
  refine r_iload 45 5 dX1_late_43 rfl rfl ?_
  refine r_icmp_ne 52 48 dX1_late_45 (by decide) rfl ?_ ?_
  · refine r_iconst (v := 0) 53 dX1_late_52 rfl rfl ?_
    exact r_lsP [1, 2, 3, 5, 0] rfl (t_X1_late_b53 hl G  a0 a1 a2 a4 x1 0 a0 w40)
  refine r_iconst (v := 1) 49 dX1_late_48 rfl rfl ?_
  refine r_goto 53 dX1_late_49 (by decide) ?_
  exact r_lsP [1, 2, 3, 5, 0] rfl (t_X1_late_b53 hl G  a0 a1 a2 a4 x1 1 a0 w40)
theorem s_X1_late {l : Launch} {D : Dn} {H0 : Heap} (hl : l.stackTraces = false) (G : Nat) (a0 : Rf) (a1 : Int32) (a2 : Int32) (a3 : Int32) (a4 : Int32) (w : St) : SimX l D H0 yX1_late (ws_ yX1_late cX1_late 6 (some (.int))) 37 3149 (ocX rvI) [lR a0, lI a1, lI a2, lI a3, lI a4] w (f_X1_late G a0 a1 a2 a3 a4 w) := SimX.ofV (y := yX1_late) (by decide) rfl (t_X1_late hl G a0 a1 a2 a3 a4 w)
abbrev V_X1_linksAt (l : Launch) (D : Dn) (H0 : Heap) (w0 : St) (res : Option (Int32 × St)) (pc : Nat) (ls : List (Nat × LV)) (st : List Value) (w : St) : Prop := V l D H0 RX1 "linksAt" cX1_linksAt 6 (some (.int)) [] 31 3022 (fun x => .inr (rvI x)) w0 res pc ls st w
theorem t_X1_linksAt_b63 {l : Launch} {D : Dn} {H0 : Heap} {w0 : St} (hl : l.stackTraces = false) (G : Nat) (k14 : Int32 → Int32 → Int32 → Rf → St → Option (Int32 × St)) (h14 : ∀ v1 v2 v3 v4 w, V_X1_linksAt l D H0 w0 (k14 v1 v2 v3 v4 w) 14 [(1, lI v1), (2, lI v2), (3, lI v3), (4, lR v4)] [] w) (v1 : Int32) (v2 : Int32) (v4 : Rf) (s0 : Int32) (s1 : Int32) (w : St) : V_X1_linksAt l D H0 w0 (f_X1_linksAt_b63 G k14 v1 v2 v4 s0 s1 w) 63 [(1, lI v1), (2, lI v2), (4, lR v4)] [.int s0, .int s1] w := by
  unfold f_X1_linksAt_b63
  refine r_iadd 64 dX1_linksAt_63 rfl ?_
  refine r_istore_n (ls2 := [(3, lI (s1 + s0)), (1, lI v1), (2, lI v2), (4, lR v4)]) 65 dX1_linksAt_64 rfl (by decide) rfl rfl ?_
  refine r_goto 14 dX1_linksAt_65 (by decide) ?_
  exact r_lsP [1, 2, 0, 3] rfl (h14 v1 v2 (s1 + s0) v4 w)
theorem t_X1_linksAt_b54 {l : Launch} {D : Dn} {H0 : Heap} {w0 : St} (hl : l.stackTraces = false) (G : Nat) (k14 : Int32 → Int32 → Int32 → Rf → St → Option (Int32 × St)) (h14 : ∀ v1 v2 v3 v4 w, V_X1_linksAt l D H0 w0 (k14 v1 v2 v3 v4 w) 14 [(1, lI v1), (2, lI v2), (3, lI v3), (4, lR v4)] [] w) (v1 : Int32) (v2 : Int32) (v4 : Rf) (s0 : Int32) (s1 : Int32) (w : St) : V_X1_linksAt l D H0 w0 (f_X1_linksAt_b54 G k14 v1 v2 v4 s0 s1 w) 54 [(1, lI v1), (2, lI v2), (4, lR v4)] [.int s0, .int s1] w := by
  unfold f_X1_linksAt_b54
  refine r_iload_n 55 0 dX1_linksAt_54 rfl rfl rfl ?_
  refine r_icmp_ne 62 58 dX1_linksAt_55 (by decide) rfl ?_ ?_
  · refine r_iconst (v := 0) 63 dX1_linksAt_62 rfl rfl ?_
    exact r_lsP [0, 1, 2] rfl (t_X1_linksAt_b63 hl G k14 h14  v1 v2 v4 0 s1 w)
  refine r_iconst (v := 1) 59 dX1_linksAt_58 rfl rfl ?_
  refine r_goto 63 dX1_linksAt_59 (by decide) ?_
  exact r_lsP [0, 1, 2] rfl (t_X1_linksAt_b63 hl G k14 h14  v1 v2 v4 1 s1 w)
theorem t_X1_linksAt_l14 {l : Launch} {D : Dn} {H0 : Heap} {w0 : St} (hl : l.stackTraces = false) (G : Nat) (k68 : Int32 → St → Option (Int32 × St)) (h68 : ∀ v3 w, V_X1_linksAt l D H0 w0 (k68 v3 w) 68 [(3, lI v3)] [] w) : ∀ (F : Nat) (v1 : Int32) (v2 : Int32) (v3 : Int32) (v4 : Rf) (w : St), V_X1_linksAt l D H0 w0 (f_X1_linksAt_l14 G k68 F v1 v2 v3 v4 w) 14 [(1, lI v1), (2, lI v2), (3, lI v3), (4, lR v4)] [] w := by
  intro F
  induction F with
  | zero => intros; exact r_none
  | succ F ih =>
    intro v1 v2 v3 v4 w
    unfold f_X1_linksAt_l14
    refine r_aload 16 3 dX1_linksAt_14 rfl rfl ?_
    refine r_gd (fun hc16 => ?_)
    refine r_callF (x2 := ⟨"java/util/Iterator", "hasNext", "()Z"⟩) (n := 0) (as := []) (rest := []) 21 16 (sI_hasNext hl v4 w) hc16 rfl (lw_app (l4 q1653 q584 q586 q116) (lw_meth q588)) (List.mem_of_getElem? (i := 0) rfl) (by decide +kernel) (by decide) rfl rfl (cat2_nil (k := 0)) rfl dX1_linksAt_16 rfl (fun x16 w16 => ?_)
    refine r_if_eq 68 24 dX1_linksAt_21 (by decide) rfl ?_ ?_
    · exact r_lsP [2] rfl (h68 v3 w16)
    refine r_aload 26 3 dX1_linksAt_24 rfl rfl ?_
    refine r_gd (fun hc26 => ?_)
    refine r_callF (x2 := ⟨"java/util/Iterator", "next", "()Ljava/lang/Object;"⟩) (n := 0) (as := []) (rest := []) 31 16 (sI_next hl v4 w16) hc26 rfl (lw_app (l4 q1655 q593 q595 q116) (lw_meth q597)) (List.mem_of_getElem? (i := 1) rfl) (by decide +kernel) (by decide) rfl rfl (cat2_nil (k := 0)) rfl dX1_linksAt_26 rfl (fun x26 w26 => ?_)
    refine r_cast 34 (CA_cons (c0 := 5) rfl (Or.inl rfl) (CA_nil)) q1155 dX1_linksAt_31 rfl ?_
    refine r_astore (ls2 := [(5, lR x26), (1, lI v1), (2, lI v2), (3, lI v3), (4, lR v4)]) 36 dX1_linksAt_34 (by decide) rfl rfl ?_
    refine r_iload_n 37 3 dX1_linksAt_36 rfl rfl rfl ?_
    refine r_iload_n 38 2 dX1_linksAt_37 rfl rfl rfl ?_
    refine r_if_eq 49 41 dX1_linksAt_38 (by decide) rfl ?_ ?_
    · refine r_aload 51 0 dX1_linksAt_49 rfl rfl ?_
      refine r_geti 54 gf_X1_258 dX1_linksAt_51 rfl (fun x51 => ?_)
      exact r_lsP [1, 2, 4] rfl (t_X1_linksAt_b54 hl G (fun v1 v2 v3 v4 w => f_X1_linksAt_l14 G k68 F v1 v2 v3 v4 w) (fun v1 v2 v3 v4 w => ih v1 v2 v3 v4 w)  v1 v2 v4 x51 v3 w26)
    refine r_aload 43 0 dX1_linksAt_41 rfl rfl ?_
    refine r_geti 46 gf_X1_255 dX1_linksAt_43 rfl (fun x43 => ?_)
    refine r_goto 54 dX1_linksAt_46 (by decide) ?_
    exact r_lsP [1, 2, 4] rfl (t_X1_linksAt_b54 hl G (fun v1 v2 v3 v4 w => f_X1_linksAt_l14 G k68 F v1 v2 v3 v4 w) (fun v1 v2 v3 v4 w => ih v1 v2 v3 v4 w)  v1 v2 v4 x43 v3 w26)
theorem t_X1_linksAt_b68 {l : Launch} {D : Dn} {H0 : Heap} {w0 : St} (hl : l.stackTraces = false) (G : Nat) (v3 : Int32) (w : St) : V_X1_linksAt l D H0 w0 (f_X1_linksAt_b68 G v3 w) 68 [(3, lI v3)] [] w := by
  unfold f_X1_linksAt_b68
  refine r_iload_n 69 0 dX1_linksAt_68 rfl rfl rfl ?_
  exact r_iret rfl rfl dX1_linksAt_69
theorem t_X1_linksAt {l : Launch} {D : Dn} {H0 : Heap} {w0 : St} (hl : l.stackTraces = false) (G : Nat) (a0 : Rf) (a1 : Int32) (a2 : Int32) (w : St) : V_X1_linksAt l D H0 w0 (f_X1_linksAt G a0 a1 a2 w) 0 [(0, lR a0), (1, lI a1), (2, lI a2)] [] w := by
  unfold f_X1_linksAt
  refine r_iconst (v := 0) 1 dX1_linksAt_0 rfl rfl ?_
  refine r_istore_n (ls2 := [(3, lI 0), (0, lR a0), (1, lI a1), (2, lI a2)]) 2 dX1_linksAt_1 rfl (by decide) rfl rfl ?_
  refine r_aload_n 3 1 dX1_linksAt_2 rfl rfl rfl ?_
  refine r_getr 6 gf_X1_10 dX1_linksAt_3 rfl (fun x3 => ?_)
  refine r_getr 9 gf_X1_191 dX1_linksAt_6 rfl (fun x6 => ?_)
  refine r_gd (fun hc9 => ?_)
  refine r_callV (n := 0) (as := []) (rest := []) 12 15 (sL_iterator hl x6 w) hc9 rfl (lw_V q1651 q557 q558 q104 q559) (by decide +kernel) (by decide) rfl rfl (cat2_nil (k := 0)) rfl dX1_linksAt_9 rfl (fun x9 w9 => ?_)
  refine r_astore (ls2 := [(4, lR x9), (3, lI 0), (0, lR a0), (1, lI a1), (2, lI a2)]) 14 dX1_linksAt_12 (by decide) rfl rfl ?_
  exact r_lsP [3, 4, 1, 0] rfl (t_X1_linksAt_l14 hl G (fun v3 w => f_X1_linksAt_b68 G  v3 w) (fun v3 w => t_X1_linksAt_b68 hl G  v3 w) G a1 a2 0 x9 w9)
theorem s_X1_linksAt {l : Launch} {D : Dn} {H0 : Heap} (hl : l.stackTraces = false) (G : Nat) (a0 : Rf) (a1 : Int32) (a2 : Int32) (w : St) : SimN l D H0 yX1_linksAt (ws_ yX1_linksAt cX1_linksAt 6 (some (.int))) 31 3022 rvI [lR a0, lI a1, lI a2] w (f_X1_linksAt G a0 a1 a2 w) := SimX.N (SimX.ofV (y := yX1_linksAt) (by decide) rfl (t_X1_linksAt hl G a0 a1 a2 w))
abbrev V_X1_checkIndex (l : Launch) (D : Dn) (H0 : Heap) (w0 : St) (res : Option ((Nat ⊕ Unit) × St)) (pc : Nat) (ls : List (Nat × LV)) (st : List Value) (w : St) : Prop := V l D H0 RX1 "checkIndex" cX1_checkIndex 1 none [] 6 81 (ocX rvU) w0 res pc ls st w
theorem t_X1_checkIndex {l : Launch} {D : Dn} {H0 : Heap} {w0 : St} (hl : l.stackTraces = false) (G : Nat) (a0 : Int32) (w : St) : V_X1_checkIndex l D H0 w0 (f_X1_checkIndex G a0 w) 0 [(0, lI a0)] [] w := by
  unfold f_X1_checkIndex
  refine r_iload_n 1 0 dX1_checkIndex_0 rfl rfl rfl ?_
  refine r_if_ne 12 4 dX1_checkIndex_1 (by decide) rfl ?_ ?_
  · exact r_vret rfl rfl dX1_checkIndex_12
  refine r_make 11 23 (names := exNm) hl (by rfl) (by decide) (by decide) exNm_ok q1612 q140 at_23 (by decide) (cat2_nil (k := 0)) dX1_checkIndex_4 dX1_checkIndex_7 dX1_checkIndex_8 rfl ?_
  exact r_athrow (isX_enew rfl (by decide)) dX1_checkIndex_11 (r_pass (fun _ => rfl) rfl)
theorem s_X1_checkIndex {l : Launch} {D : Dn} {H0 : Heap} (hl : l.stackTraces = false) (G : Nat) (a0 : Int32) (w : St) : SimX l D H0 yX1_checkIndex (ws_ yX1_checkIndex cX1_checkIndex 1 none) 6 81 (ocX rvU) [lI a0] w (f_X1_checkIndex G a0 w) := SimX.ofV (y := yX1_checkIndex) (by decide) rfl (t_X1_checkIndex hl G a0 w)
abbrev V_X1_coach0 (l : Launch) (D : Dn) (H0 : Heap) (w0 : St) (res : Option ((Nat ⊕ Rf) × St)) (pc : Nat) (ls : List (Nat × LV)) (st : List Value) (w : St) : Prop := V l D H0 RX1 "coach0" cX1_coach0 2 (some (.object "CoachTimetable$Coach")) [] 32 3041 (ocX rvR) w0 res pc ls st w
theorem t_X1_coach0 {l : Launch} {D : Dn} {H0 : Heap} {w0 : St} (hl : l.stackTraces = false) (G : Nat) (a0 : Rf) (a1 : Int32) (w : St) : V_X1_coach0 l D H0 w0 (f_X1_coach0 G a0 a1 w) 0 [(0, lR a0), (1, lI a1)] [] w := by
  unfold f_X1_coach0
  refine r_aload_n 1 0 dX1_coach0_0 rfl rfl rfl ?_
  refine r_getr 4 gf_X1_10 dX1_coach0_1 rfl (fun x1 => ?_)
  refine r_iload_n 5 1 dX1_coach0_4 rfl rfl rfl ?_
  refine r_gd (fun hc5 => ?_)
  refine r_callV (n := 1) (as := [lI a1]) (rest := []) 8 1 (s_X2_isCoach hl G x1 a1 w) hc5 rfl (lw_V q1479 q1480 q1481 q101 q1482) (by decide +kernel) (by decide) rfl rfl (cat2_nil (k := 0)) rfl dX1_coach0_5 rfl (fun x5 w5 => ?_)
  rw [bx_bh]
  refine r_callHS (n := 1) (as := [lI x5]) (rest := []) 11 (s_X1_checkIndex hl G x5 w5) (lw_S q1609 q1610 q100 q1611) (by decide +kernel) (by decide) rfl rfl (cat2_nil (k := 0)) rfl dX1_coach0_8 rfl (fun q9 w8 => r_pass (fun _ => rfl) rfl) (fun _ w8 => ?_)
  refine r_aload_n 12 0 dX1_coach0_11 rfl rfl rfl ?_
  refine r_getr 15 gf_X1_10 dX1_coach0_12 rfl (fun x12 => ?_)
  refine r_getr 18 gf_X1_118 dX1_coach0_15 rfl (fun x15 => ?_)
  refine r_iload_n 19 1 dX1_coach0_18 rfl rfl rfl ?_
  refine r_gd (fun hc19 => ?_)
  refine r_callV (n := 1) (as := [lI a1]) (rest := []) 22 15 (sL_get hl x15 a1 w8) hc19 rfl (lw_V q858 q311 q312 q104 q313) (by decide +kernel) (by decide) rfl rfl (cat2_nil (k := 0)) rfl dX1_coach0_19 rfl (fun x19 w19 => ?_)
  refine r_cast 25 (CA_cons (c0 := 3) rfl (Or.inl rfl) (CA_nil)) q1463 dX1_coach0_22 rfl ?_
  exact r_aret rfl rfl (Or.inl ⟨_, rfl⟩) dX1_coach0_25
theorem s_X1_coach0 {l : Launch} {D : Dn} {H0 : Heap} (hl : l.stackTraces = false) (G : Nat) (a0 : Rf) (a1 : Int32) (w : St) : SimX l D H0 yX1_coach0 (ws_ yX1_coach0 cX1_coach0 2 (some (.object "CoachTimetable$Coach"))) 32 3041 (ocX rvR) [lR a0, lI a1] w (f_X1_coach0 G a0 a1 w) := SimX.ofV (y := yX1_coach0) (by decide) rfl (t_X1_coach0 hl G a0 a1 w)
abbrev V_X1_check (l : Launch) (D : Dn) (H0 : Heap) (w0 : St) (res : Option ((Nat ⊕ Unit) × St)) (pc : Nat) (ls : List (Nat × LV)) (st : List Value) (w : St) : Prop := V l D H0 RX1 "check" cX1_check 1 none [] 6 81 (ocX rvU) w0 res pc ls st w
theorem t_X1_check {l : Launch} {D : Dn} {H0 : Heap} {w0 : St} (hl : l.stackTraces = false) (G : Nat) (a0 : Int32) (w : St) : V_X1_check l D H0 w0 (f_X1_check G a0 w) 0 [(0, lI a0)] [] w := by
  unfold f_X1_check
  refine r_iload_n 1 0 dX1_check_0 rfl rfl rfl ?_
  refine r_if_ne 12 4 dX1_check_1 (by decide) rfl ?_ ?_
  · exact r_vret rfl rfl dX1_check_12
  refine r_make 11 24 (names := exNm) hl (by rfl) (by decide) (by decide) exNm_ok q1630 q142 at_24 (by decide) (cat2_nil (k := 0)) dX1_check_4 dX1_check_7 dX1_check_8 rfl ?_
  exact r_athrow (isX_enew rfl (by decide)) dX1_check_11 (r_pass (fun _ => rfl) rfl)
theorem s_X1_check {l : Launch} {D : Dn} {H0 : Heap} (hl : l.stackTraces = false) (G : Nat) (a0 : Int32) (w : St) : SimX l D H0 yX1_check (ws_ yX1_check cX1_check 1 none) 6 81 (ocX rvU) [lI a0] w (f_X1_check G a0 w) := SimX.ofV (y := yX1_check) (by decide) rfl (t_X1_check hl G a0 w)
abbrev V_X5_own (l : Launch) (D : Dn) (H0 : Heap) (w0 : St) (res : Option (Int32 × St)) (pc : Nat) (ls : List (Nat × LV)) (st : List Value) (w : St) : Prop := V l D H0 RX5 "own" cX5_own 4 (some (.int)) [] 31 3022 (fun x => .inr (rvI x)) w0 res pc ls st w
theorem t_X5_own_l10 {l : Launch} {D : Dn} {H0 : Heap} {w0 : St} (hl : l.stackTraces = false) (G : Nat) (k44 : Int32 → St → Option (Int32 × St)) (h44 : ∀ v1 w, V_X5_own l D H0 w0 (k44 v1 w) 44 [(1, lI v1)] [] w) : ∀ (F : Nat) (v1 : Int32) (v2 : Rf) (w : St), V_X5_own l D H0 w0 (f_X5_own_l10 G k44 F v1 v2 w) 10 [(1, lI v1), (2, lR v2)] [] w := by
  intro F
  induction F with
  | zero => intros; exact r_none
  | succ F ih =>
    intro v1 v2 w
    unfold f_X5_own_l10
    refine r_aload_n 11 1 dX5_own_10 rfl rfl rfl ?_
    refine r_gd (fun hc11 => ?_)
    refine r_callF (x2 := ⟨"java/util/Iterator", "hasNext", "()Z"⟩) (n := 0) (as := []) (rest := []) 16 16 (sI_hasNext hl v2 w) hc11 rfl (lw_app (l4 q1250 q584 q586 q116) (lw_meth q588)) (List.mem_of_getElem? (i := 0) rfl) (by decide +kernel) (by decide) rfl rfl (cat2_nil (k := 0)) rfl dX5_own_11 rfl (fun x11 w11 => ?_)
    refine r_if_eq 44 19 dX5_own_16 (by decide) rfl ?_ ?_
    · exact r_lsP [0] rfl (h44 v1 w11)
    refine r_aload_n 20 1 dX5_own_19 rfl rfl rfl ?_
    refine r_gd (fun hc20 => ?_)
    refine r_callF (x2 := ⟨"java/util/Iterator", "next", "()Ljava/lang/Object;"⟩) (n := 0) (as := []) (rest := []) 25 16 (sI_next hl v2 w11) hc20 rfl (lw_app (l4 q1252 q593 q595 q116) (lw_meth q597)) (List.mem_of_getElem? (i := 1) rfl) (by decide +kernel) (by decide) rfl rfl (cat2_nil (k := 0)) rfl dX5_own_20 rfl (fun x20 w20 => ?_)
    refine r_cast 28 (CA_cons (c0 := 4) rfl (Or.inl rfl) (CA_nil)) q1253 dX5_own_25 rfl ?_
    refine r_astore_n (ls2 := [(3, lR x20), (1, lI v1), (2, lR v2)]) 29 dX5_own_28 rfl (by decide) rfl rfl ?_
    refine r_iload_n 30 1 dX5_own_29 rfl rfl rfl ?_
    refine r_aload_n 31 0 dX5_own_30 rfl rfl rfl ?_
    refine r_geti 34 gf_X5_64 dX5_own_31 rfl (fun x31 => ?_)
    refine r_aload_n 35 0 dX5_own_34 rfl rfl rfl ?_
    refine r_geti 38 gf_X5_67 dX5_own_35 rfl (fun x35 => ?_)
    refine r_iadd 39 dX5_own_38 rfl ?_
    refine r_iadd 40 dX5_own_39 rfl ?_
    refine r_istore_n (ls2 := [(1, lI (v1 + (x31 + x35))), (3, lR x20), (2, lR v2)]) 41 dX5_own_40 rfl (by decide) rfl rfl ?_
    refine r_goto 10 dX5_own_41 (by decide) ?_
    exact r_lsP [0, 2] rfl (ih (v1 + (x31 + x35)) v2 w20)
theorem t_X5_own_b44 {l : Launch} {D : Dn} {H0 : Heap} {w0 : St} (hl : l.stackTraces = false) (G : Nat) (v1 : Int32) (w : St) : V_X5_own l D H0 w0 (f_X5_own_b44 G v1 w) 44 [(1, lI v1)] [] w := by
  unfold f_X5_own_b44
  refine r_iload_n 45 0 dX5_own_44 rfl rfl rfl ?_
  exact r_iret rfl rfl dX5_own_45
theorem t_X5_own {l : Launch} {D : Dn} {H0 : Heap} {w0 : St} (hl : l.stackTraces = false) (G : Nat) (a0 : Rf) (w : St) : V_X5_own l D H0 w0 (f_X5_own G a0 w) 0 [(0, lR a0)] [] w := by
  unfold f_X5_own
  refine r_iconst (v := 0) 1 dX5_own_0 rfl rfl ?_
  refine r_istore_n (ls2 := [(1, lI 0), (0, lR a0)]) 2 dX5_own_1 rfl (by decide) rfl rfl ?_
  refine r_aload_n 3 1 dX5_own_2 rfl rfl rfl ?_
  refine r_getr 6 gf_X5_12 dX5_own_3 rfl (fun x3 => ?_)
  refine r_gd (fun hc6 => ?_)
  refine r_callV (n := 0) (as := []) (rest := []) 9 15 (sL_iterator hl x3 w) hc6 rfl (lw_V q1248 q557 q558 q104 q559) (by decide +kernel) (by decide) rfl rfl (cat2_nil (k := 0)) rfl dX5_own_6 rfl (fun x6 w6 => ?_)
  refine r_astore_n (ls2 := [(2, lR x6), (1, lI 0), (0, lR a0)]) 10 dX5_own_9 rfl (by decide) rfl rfl ?_
  exact r_lsP [1, 0] rfl (t_X5_own_l10 hl G (fun v1 w => f_X5_own_b44 G  v1 w) (fun v1 w => t_X5_own_b44 hl G  v1 w) G 0 x6 w6)
theorem s_X5_own {l : Launch} {D : Dn} {H0 : Heap} (hl : l.stackTraces = false) (G : Nat) (a0 : Rf) (w : St) : SimN l D H0 yX5_own (ws_ yX5_own cX5_own 4 (some (.int))) 31 3022 rvI [lR a0] w (f_X5_own G a0 w) := SimX.N (SimX.ofV (y := yX5_own) (by decide) rfl (t_X5_own hl G a0 w))
abbrev V_X9_lastOf (l : Launch) (D : Dn) (H0 : Heap) (w0 : St) (res : Option (Rf × St)) (pc : Nat) (ls : List (Nat × LV)) (st : List Value) (w : St) : Prop := V l D H0 RX9 "lastOf" cX9_lastOf 5 (some (.object "CoachTimetable$Event")) [] 31 3022 (fun x => .inr (rvR x)) w0 res pc ls st w
theorem t_X9_lastOf_b45 {l : Launch} {D : Dn} {H0 : Heap} {w0 : St} (hl : l.stackTraces = false) (G : Nat) (k10 : Int32 → Rf → Rf → St → Option (Rf × St)) (h10 : ∀ v1 v2 v3 w, V_X9_lastOf l D H0 w0 (k10 v1 v2 v3 w) 10 [(1, lI v1), (2, lR v2), (3, lR v3)] [] w) (v1 : Int32) (v3 : Rf) (s0 : Rf) (w : St) : V_X9_lastOf l D H0 w0 (f_X9_lastOf_b45 G k10 v1 v3 s0 w) 45 [(1, lI v1), (3, lR v3)] [rf s0] w := by
  unfold f_X9_lastOf_b45
  refine r_astore_n (ls2 := [(2, lR s0), (1, lI v1), (3, lR v3)]) 46 dX9_lastOf_45 rfl (by decide) rfl rfl ?_
  refine r_goto 10 dX9_lastOf_46 (by decide) ?_
  exact r_lsP [1, 0, 2] rfl (h10 v1 s0 v3 w)
theorem t_X9_lastOf_l10 {l : Launch} {D : Dn} {H0 : Heap} {w0 : St} (hl : l.stackTraces = false) (G : Nat) (k49 : Rf → St → Option (Rf × St)) (h49 : ∀ v2 w, V_X9_lastOf l D H0 w0 (k49 v2 w) 49 [(2, lR v2)] [] w) : ∀ (F : Nat) (v1 : Int32) (v2 : Rf) (v3 : Rf) (w : St), V_X9_lastOf l D H0 w0 (f_X9_lastOf_l10 G k49 F v1 v2 v3 w) 10 [(1, lI v1), (2, lR v2), (3, lR v3)] [] w := by
  intro F
  induction F with
  | zero => intros; exact r_none
  | succ F ih =>
    intro v1 v2 v3 w
    unfold f_X9_lastOf_l10
    refine r_aload_n 11 2 dX9_lastOf_10 rfl rfl rfl ?_
    refine r_gd (fun hc11 => ?_)
    refine r_callF (x2 := ⟨"java/util/Iterator", "hasNext", "()Z"⟩) (n := 0) (as := []) (rest := []) 16 16 (sI_hasNext hl v3 w) hc11 rfl (lw_app (l4 q580 q584 q586 q116) (lw_meth q588)) (List.mem_of_getElem? (i := 0) rfl) (by decide +kernel) (by decide) rfl rfl (cat2_nil (k := 0)) rfl dX9_lastOf_11 rfl (fun x11 w11 => ?_)
    refine r_if_eq 49 19 dX9_lastOf_16 (by decide) rfl ?_ ?_
    · exact r_lsP [1] rfl (h49 v2 w11)
    refine r_aload_n 20 2 dX9_lastOf_19 rfl rfl rfl ?_
    refine r_gd (fun hc20 => ?_)
    refine r_callF (x2 := ⟨"java/util/Iterator", "next", "()Ljava/lang/Object;"⟩) (n := 0) (as := []) (rest := []) 25 16 (sI_next hl v3 w11) hc20 rfl (lw_app (l4 q590 q593 q595 q116) (lw_meth q597)) (List.mem_of_getElem? (i := 1) rfl) (by decide +kernel) (by decide) rfl rfl (cat2_nil (k := 0)) rfl dX9_lastOf_20 rfl (fun x20 w20 => ?_)
    refine r_cast 28 (CA_cons (c0 := 7) rfl (Or.inl rfl) (CA_cons (c0 := 9) rfl (Or.inr q2711) (CA_nil))) q326 dX9_lastOf_25 rfl ?_
    refine r_astore (ls2 := [(4, lR x20), (1, lI v1), (2, lR v2), (3, lR v3)]) 30 dX9_lastOf_28 (by decide) rfl rfl ?_
    refine r_aload 32 0 dX9_lastOf_30 rfl rfl ?_
    refine r_geti 35 gf_X9_154 dX9_lastOf_32 rfl (fun x32 => ?_)
    refine r_iload_n 36 1 dX9_lastOf_35 rfl rfl rfl ?_
    refine r_icmp_ne 44 39 dX9_lastOf_36 (by decide) rfl ?_ ?_
    · refine r_aload_n 45 2 dX9_lastOf_44 rfl rfl rfl ?_
      exact r_lsP [1, 3] rfl (t_X9_lastOf_b45 hl G (fun v1 v2 v3 w => f_X9_lastOf_l10 G k49 F v1 v2 v3 w) (fun v1 v2 v3 w => ih v1 v2 v3 w)  v1 v3 v2 w20)
    refine r_aload 41 0 dX9_lastOf_39 rfl rfl ?_
    refine r_goto 45 dX9_lastOf_41 (by decide) ?_
    exact r_lsP [1, 3] rfl (t_X9_lastOf_b45 hl G (fun v1 v2 v3 w => f_X9_lastOf_l10 G k49 F v1 v2 v3 w) (fun v1 v2 v3 w => ih v1 v2 v3 w)  v1 v3 x20 w20)
theorem t_X9_lastOf_b49 {l : Launch} {D : Dn} {H0 : Heap} {w0 : St} (hl : l.stackTraces = false) (G : Nat) (v2 : Rf) (w : St) : V_X9_lastOf l D H0 w0 (f_X9_lastOf_b49 G v2 w) 49 [(2, lR v2)] [] w := by
  unfold f_X9_lastOf_b49
  refine r_aload_n 50 0 dX9_lastOf_49 rfl rfl rfl ?_
  exact r_aret rfl rfl (Or.inl ⟨_, rfl⟩) dX9_lastOf_50
theorem t_X9_lastOf {l : Launch} {D : Dn} {H0 : Heap} {w0 : St} (hl : l.stackTraces = false) (G : Nat) (a0 : Rf) (a1 : Int32) (w : St) : V_X9_lastOf l D H0 w0 (f_X9_lastOf G a0 a1 w) 0 [(0, lR a0), (1, lI a1)] [] w := by
  unfold f_X9_lastOf
  refine r_null 1 dX9_lastOf_0 rfl ?_
  refine r_astore_n (ls2 := [(2, lR none), (0, lR a0), (1, lI a1)]) 2 dX9_lastOf_1 rfl (by decide) rfl rfl ?_
  refine r_aload_n 3 1 dX9_lastOf_2 rfl rfl rfl ?_
  refine r_getr 6 gf_X9_12 dX9_lastOf_3 rfl (fun x3 => ?_)
  refine r_gd (fun hc6 => ?_)
  refine r_callV (n := 0) (as := []) (rest := []) 9 15 (sL_iterator hl x3 w) hc6 rfl (lw_V q556 q557 q558 q104 q559) (by decide +kernel) (by decide) rfl rfl (cat2_nil (k := 0)) rfl dX9_lastOf_6 rfl (fun x6 w6 => ?_)
  refine r_astore_n (ls2 := [(3, lR x6), (2, lR none), (0, lR a0), (1, lI a1)]) 10 dX9_lastOf_9 rfl (by decide) rfl rfl ?_
  exact r_lsP [3, 1, 0] rfl (t_X9_lastOf_l10 hl G (fun v2 w => f_X9_lastOf_b49 G  v2 w) (fun v2 w => t_X9_lastOf_b49 hl G  v2 w) G a1 none x6 w6)
theorem s_X9_lastOf {l : Launch} {D : Dn} {H0 : Heap} (hl : l.stackTraces = false) (G : Nat) (a0 : Rf) (a1 : Int32) (w : St) : SimN l D H0 yX9_lastOf (ws_ yX9_lastOf cX9_lastOf 5 (some (.object "CoachTimetable$Event"))) 31 3022 rvR [lR a0, lI a1] w (f_X9_lastOf G a0 a1 w) := SimX.N (SimX.ofV (y := yX9_lastOf) (by decide) rfl (t_X9_lastOf hl G a0 a1 w))
abbrev V_X9_lateAtEnd (l : Launch) (D : Dn) (H0 : Heap) (w0 : St) (res : Option (Int32 × St)) (pc : Nat) (ls : List (Nat × LV)) (st : List Value) (w : St) : Prop := V l D H0 RX9 "lateAtEnd" cX9_lateAtEnd 3 (some (.int)) [] 32 3046 (fun x => .inr (rvI x)) w0 res pc ls st w
theorem t_X9_lateAtEnd {l : Launch} {D : Dn} {H0 : Heap} {w0 : St} (hl : l.stackTraces = false) (G : Nat) (a0 : Rf) (a1 : Int32) (w : St) : V_X9_lateAtEnd l D H0 w0 (f_X9_lateAtEnd G a0 a1 w) 0 [(0, lR a0), (1, lI a1)] [] w := by
  unfold f_X9_lateAtEnd
  refine r_aload_n 1 0 dX9_lateAtEnd_0 rfl rfl rfl ?_
  refine r_iload_n 2 1 dX9_lateAtEnd_1 rfl rfl rfl ?_
  refine r_gd (fun hc2 => ?_)
  refine r_callV (n := 1) (as := [lI a1]) (rest := []) 5 6 (s_X9_lastOf hl G a0 a1 w) hc2 rfl (lw_V q1643 q1644 q1645 q130 q1646) (by decide +kernel) (by decide) rfl rfl (cat2_nil (k := 0)) rfl dX9_lateAtEnd_2 rfl (fun x2 w2 => ?_)
  refine r_astore_n (ls2 := [(2, lR x2), (0, lR a0), (1, lI a1)]) 6 dX9_lateAtEnd_5 rfl (by decide) rfl rfl ?_
  refine r_aload_n 7 0 dX9_lateAtEnd_6 rfl rfl rfl ?_
  refine r_ifnonnull 14 10 dX9_lateAtEnd_7 (by decide) rfl ?_ ?_
  · refine r_aload_n 15 0 dX9_lateAtEnd_14 rfl rfl rfl ?_
    refine r_share (st2 := fun x15 => [.int x15]) (pc2 := 18) (fun hk => ?_) (fun x15 w15 => ?_)
    · refine r_dsp (fun c15 hc15 => ?_)
      refine r_dif (fun he => ?_) (fun _ => ?_)
      · subst he
        exact r_callV (n := 0) (as := []) (rest := []) 18 7 (s_X10_late hl G x2 w2) hc15 rfl (lw_V q842 q843 q844 q131 q847) (by decide +kernel) (by decide) rfl rfl (cat2_nil (k := 0)) rfl dX9_lateAtEnd_15 rfl hk
      refine r_dif (fun he => ?_) (fun _ => ?_)
      · subst he
        exact r_callU (x2 := ⟨"CoachTimetable$Event", "late", "()I"⟩) (owner := "CoachTimetable$Event") (n := 0) (as := []) (rest := []) 18 9 (s_X10_late hl G x2 w2) hc15 rfl (lw_app (l5 q842 q845 q846 q843 q131) (lw_meth q847)) rfl (by decide +kernel) (by decide) rfl rfl (cat2_nil (k := 0)) rfl dX9_lateAtEnd_15 rfl hk
      exact r_bdn
    exact r_iret rfl rfl dX9_lateAtEnd_18
  refine r_iconst (v := 0) 11 dX9_lateAtEnd_10 rfl rfl ?_
  refine r_goto 18 dX9_lateAtEnd_11 (by decide) ?_
  exact r_iret rfl rfl dX9_lateAtEnd_18
theorem s_X9_lateAtEnd {l : Launch} {D : Dn} {H0 : Heap} (hl : l.stackTraces = false) (G : Nat) (a0 : Rf) (a1 : Int32) (w : St) : SimN l D H0 yX9_lateAtEnd (ws_ yX9_lateAtEnd cX9_lateAtEnd 3 (some (.int))) 32 3046 rvI [lR a0, lI a1] w (f_X9_lateAtEnd G a0 a1 w) := SimX.N (SimX.ofV (y := yX9_lateAtEnd) (by decide) rfl (t_X9_lateAtEnd hl G a0 a1 w))
abbrev V_X1_coachOf (l : Launch) (D : Dn) (H0 : Heap) (w0 : St) (res : Option ((Nat ⊕ Int32) × St)) (pc : Nat) (ls : List (Nat × LV)) (st : List Value) (w : St) : Prop := V l D H0 RX1 "coachOf" cX1_coachOf 4 (some (.int)) [] 37 3149 (ocX rvI) w0 res pc ls st w
theorem t_X1_coachOf_b96 {l : Launch} {D : Dn} {H0 : Heap} {w0 : St} (hl : l.stackTraces = false) (G : Nat) (s0 : Int32) (s1 : Int32) (s2 : Rf) (w : St) : V_X1_coachOf l D H0 w0 (f_X1_coachOf_b96 G s0 s1 s2 w) 96 [] [.int s0, .int s1, rf s2] w := by
  unfold f_X1_coachOf_b96
  refine r_gd (fun hc96 => ?_)
  refine r_callV (n := 2) (as := [lI s1, lI s0]) (rest := []) 99 0 (s_X1_linksAt hl G s2 s1 s0 w) hc96 rfl (lw_V q1647 q1649 qs19 q100 q1650) (by decide +kernel) (by decide) rfl rfl (cat2_nil (k := 0)) rfl dX1_coachOf_96 rfl (fun x96 w96 => ?_)
  exact r_iret rfl rfl dX1_coachOf_99
theorem t_X1_coachOf {l : Launch} {D : Dn} {H0 : Heap} {w0 : St} (hl : l.stackTraces = false) (G : Nat) (a0 : Rf) (a1 : Int32) (a2 : Int32) (w : St) : V_X1_coachOf l D H0 w0 (f_X1_coachOf G a0 a1 a2 w) 0 [(0, lR a0), (1, lI a1), (2, lI a2)] [] w := by
  unfold f_X1_coachOf
  refine r_aload_n 1 0 dX1_coachOf_0 rfl rfl rfl ?_
  refine r_iload_n 2 1 dX1_coachOf_1 rfl rfl rfl ?_
  refine r_gd (fun hc2 => ?_)
  rw [bx_bh]
  refine r_callHV (n := 1) (as := [lI a1]) (rest := []) 5 0 (s_X1_coach0 hl G a0 a1 w) hc2 rfl (lw_V q1605 q1607 qs18 q100 q1608) (by decide +kernel) (by decide) rfl rfl (cat2_nil (k := 0)) rfl dX1_coachOf_2 rfl (fun q9 w2 => r_pass (fun _ => rfl) rfl) (fun x2 w2 => ?_)
  refine r_astore_n (ls2 := [(3, lR x2), (0, lR a0), (1, lI a1), (2, lI a2)]) 6 dX1_coachOf_5 rfl (by decide) rfl rfl ?_
  refine r_iload_n 7 3 dX1_coachOf_6 rfl rfl rfl ?_
  refine r_iconst (v := 0) 8 dX1_coachOf_7 rfl rfl ?_
  refine r_bipush (v := 6) 10 dX1_coachOf_8 rfl rfl ?_
  refine r_callS (n := 3) (as := [lI a2, lI 0, lI 6]) (rest := []) 13 (s_X1_isBetween hl G a2 0 6 w2) (lw_S q1363 q1364 q100 q1365) (by decide +kernel) (by decide) rfl rfl (cat2_nil (k := 0)) rfl dX1_coachOf_10 rfl (fun x10 w10 => ?_)
  rw [bx_bh]
  refine r_callHS (n := 1) (as := [lI x10]) (rest := []) 16 (s_X1_check hl G x10 w10) (lw_S q1627 q1628 q100 q1629) (by decide +kernel) (by decide) rfl rfl (cat2_nil (k := 0)) rfl dX1_coachOf_13 rfl (fun q9 w13 => r_pass (fun _ => rfl) rfl) (fun _ w13 => ?_)
  refine r_iload_n 17 3 dX1_coachOf_16 rfl rfl rfl ?_
  refine r_if (fun hs => ?_) (fun hs0 => ?_)
  · refine r_tswIn 52 dX1_coachOf_17 (z := 0) (by rw [hs]; rfl) (by decide) (by decide) rfl (by decide) ?_
    refine r_aload_n 53 0 dX1_coachOf_52 rfl rfl rfl ?_
    refine r_getr 56 gf_X1_131 dX1_coachOf_53 rfl (fun x53 => ?_)
    refine r_gd (fun hc56 => ?_)
    refine r_callV (n := 0) (as := []) (rest := []) 59 15 (sL_size hl x53 w13) hc56 rfl (lw_V q857 q303 q304 q104 q305) (by decide +kernel) (by decide) rfl rfl (cat2_nil (k := 0)) rfl dX1_coachOf_56 rfl (fun x56 w56 => ?_)
    exact r_iret rfl rfl dX1_coachOf_59
  refine r_if (fun hs => ?_) (fun hs1 => ?_)
  · refine r_tswIn 60 dX1_coachOf_17 (z := 1) (by rw [hs]; rfl) (by decide) (by decide) rfl (by decide) ?_
    refine r_aload_n 61 0 dX1_coachOf_60 rfl rfl rfl ?_
    refine r_gd (fun hc61 => ?_)
    refine r_callV (n := 0) (as := []) (rest := []) 64 3 (s_X5_own hl G x2 w13) hc61 rfl (lw_V q1635 q1636 q1637 q118 q1638) (by decide +kernel) (by decide) rfl rfl (cat2_nil (k := 0)) rfl dX1_coachOf_61 rfl (fun x61 w61 => ?_)
    exact r_iret rfl rfl dX1_coachOf_64
  refine r_if (fun hs => ?_) (fun hs2 => ?_)
  · refine r_tswIn 65 dX1_coachOf_17 (z := 2) (by rw [hs]; rfl) (by decide) (by decide) rfl (by decide) ?_
    refine r_aload_n 66 1 dX1_coachOf_65 rfl rfl rfl ?_
    refine r_gd (fun hc66 => ?_)
    refine r_callV (n := 0) (as := []) (rest := []) 69 0 (s_X1_net hl G a0 w13) hc66 rfl (lw_V q290 q292 qs0 q100 q293) (by decide +kernel) (by decide) rfl rfl (cat2_nil (k := 0)) rfl dX1_coachOf_66 rfl (fun x66 w66 => ?_)
    refine r_iload_n 70 2 dX1_coachOf_69 rfl rfl rfl ?_
    refine r_gd (fun hc70 => ?_)
    refine r_callV (n := 1) (as := [lI a1]) (rest := []) 73 6 (s_X9_lateAtEnd hl G x66 a1 w66) hc70 rfl (lw_V q1639 q1640 q1641 q130 q1642) (by decide +kernel) (by decide) rfl rfl (cat2_nil (k := 0)) rfl dX1_coachOf_70 rfl (fun x70 w70 => ?_)
    exact r_iret rfl rfl dX1_coachOf_73
  refine r_if (fun hs => ?_) (fun hs3 => ?_)
  · refine r_tswIn 74 dX1_coachOf_17 (z := 3) (by rw [hs]; rfl) (by decide) (by decide) rfl (by decide) ?_
    refine r_aload_n 75 0 dX1_coachOf_74 rfl rfl rfl ?_
    refine r_geti 78 gf_X1_147 dX1_coachOf_75 rfl (fun x75 => ?_)
    exact r_iret rfl rfl dX1_coachOf_78
  refine r_if (fun hs => ?_) (fun hs4 => ?_)
  · refine r_tswIn 79 dX1_coachOf_17 (z := 4) (by rw [hs]; rfl) (by decide) (by decide) rfl (by decide) ?_
    refine r_aload_n 80 0 dX1_coachOf_79 rfl rfl rfl ?_
    refine r_geti 83 gf_X1_184 dX1_coachOf_80 rfl (fun x80 => ?_)
    exact r_iret rfl rfl dX1_coachOf_83
  have hs0 := neI hs0 (z := 0) rfl
  have hs1 := neI hs1 (z := 1) rfl
  have hs2 := neI hs2 (z := 2) rfl
  have hs3 := neI hs3 (z := 3) rfl
  have hs4 := neI hs4 (z := 4) rfl
  refine r_tswOut 84 dX1_coachOf_17 (by omega) (by decide) ?_
  refine r_aload_n 85 1 dX1_coachOf_84 rfl rfl rfl ?_
  refine r_iload_n 86 2 dX1_coachOf_85 rfl rfl rfl ?_
  refine r_iload_n 87 3 dX1_coachOf_86 rfl rfl rfl ?_
  refine r_iconst (v := 5) 88 dX1_coachOf_87 rfl rfl ?_
  refine r_icmp_ne 95 91 dX1_coachOf_88 (by decide) rfl ?_ ?_
  · refine r_iconst (v := 0) 96 dX1_coachOf_95 rfl rfl ?_
    exact r_lsP [] rfl (t_X1_coachOf_b96 hl G  0 a1 a0 w13)
  refine r_iconst (v := 1) 92 dX1_coachOf_91 rfl rfl ?_
  refine r_goto 96 dX1_coachOf_92 (by decide) ?_
  exact r_lsP [] rfl (t_X1_coachOf_b96 hl G  1 a1 a0 w13)
theorem s_X1_coachOf {l : Launch} {D : Dn} {H0 : Heap} (hl : l.stackTraces = false) (G : Nat) (a0 : Rf) (a1 : Int32) (a2 : Int32) (w : St) : SimX l D H0 yX1_coachOf (ws_ yX1_coachOf cX1_coachOf 4 (some (.int))) 37 3149 (ocX rvI) [lR a0, lI a1, lI a2] w (f_X1_coachOf G a0 a1 a2 w) := SimX.ofV (y := yX1_coachOf) (by decide) rfl (t_X1_coachOf hl G a0 a1 a2 w)
abbrev V_X1_stopOf (l : Launch) (D : Dn) (H0 : Heap) (w0 : St) (res : Option ((Nat ⊕ Int32) × St)) (pc : Nat) (ls : List (Nat × LV)) (st : List Value) (w : St) : Prop := V l D H0 RX1 "stopOf" cX1_stopOf 6 (some (.int)) [] 33 3062 (ocX rvI) w0 res pc ls st w
theorem t_X1_stopOf {l : Launch} {D : Dn} {H0 : Heap} {w0 : St} (hl : l.stackTraces = false) (G : Nat) (a0 : Rf) (a1 : Int32) (a2 : Int32) (a3 : Int32) (w : St) : V_X1_stopOf l D H0 w0 (f_X1_stopOf G a0 a1 a2 a3 w) 0 [(0, lR a0), (1, lI a1), (2, lI a2), (3, lI a3)] [] w := by
  unfold f_X1_stopOf
  refine r_aload_n 1 0 dX1_stopOf_0 rfl rfl rfl ?_
  refine r_iload_n 2 1 dX1_stopOf_1 rfl rfl rfl ?_
  refine r_gd (fun hc2 => ?_)
  rw [bx_bh]
  refine r_callHV (n := 1) (as := [lI a1]) (rest := []) 5 0 (s_X1_coach0 hl G a0 a1 w) hc2 rfl (lw_V q1605 q1607 qs18 q100 q1608) (by decide +kernel) (by decide) rfl rfl (cat2_nil (k := 0)) rfl dX1_stopOf_2 rfl (fun q9 w2 => r_pass (fun _ => rfl) rfl) (fun x2 w2 => ?_)
  refine r_astore (ls2 := [(4, lR x2), (0, lR a0), (1, lI a1), (2, lI a2), (3, lI a3)]) 7 dX1_stopOf_5 (by decide) rfl rfl ?_
  refine r_iload_n 8 3 dX1_stopOf_7 rfl rfl rfl ?_
  refine r_iconst (v := 0) 9 dX1_stopOf_8 rfl rfl ?_
  refine r_aload 11 0 dX1_stopOf_9 rfl rfl ?_
  refine r_getr 14 gf_X1_131 dX1_stopOf_11 rfl (fun x11 => ?_)
  refine r_gd (fun hc14 => ?_)
  refine r_callV (n := 0) (as := []) (rest := [.int 0, .int a2]) 17 15 (sL_size hl x11 w2) hc14 rfl (lw_V q857 q303 q304 q104 q305) (by decide +kernel) (by decide) rfl rfl (cat2_i (cat2_i (cat2_nil (k := 0)))) rfl dX1_stopOf_14 rfl (fun x14 w14 => ?_)
  refine r_iconst (v := 1) 18 dX1_stopOf_17 rfl rfl ?_
  refine r_isub 19 dX1_stopOf_18 rfl ?_
  refine r_callS (n := 3) (as := [lI a2, lI 0, lI (x14 - 1)]) (rest := []) 22 (s_X1_isBetween hl G a2 0 (x14 - 1) w14) (lw_S q1363 q1364 q100 q1365) (by decide +kernel) (by decide) rfl rfl (cat2_nil (k := 0)) rfl dX1_stopOf_19 rfl (fun x19 w19 => ?_)
  rw [bx_bh]
  refine r_callHS (n := 1) (as := [lI x19]) (rest := []) 25 (s_X1_checkIndex hl G x19 w19) (lw_S q1609 q1610 q100 q1611) (by decide +kernel) (by decide) rfl rfl (cat2_nil (k := 0)) rfl dX1_stopOf_22 rfl (fun q9 w22 => r_pass (fun _ => rfl) rfl) (fun _ w22 => ?_)
  refine r_iload_n 26 4 dX1_stopOf_25 rfl rfl rfl ?_
  refine r_iconst (v := 0) 27 dX1_stopOf_26 rfl rfl ?_
  refine r_iconst (v := 4) 28 dX1_stopOf_27 rfl rfl ?_
  refine r_callS (n := 3) (as := [lI a3, lI 0, lI 4]) (rest := []) 31 (s_X1_isBetween hl G a3 0 4 w22) (lw_S q1363 q1364 q100 q1365) (by decide +kernel) (by decide) rfl rfl (cat2_nil (k := 0)) rfl dX1_stopOf_28 rfl (fun x28 w28 => ?_)
  rw [bx_bh]
  refine r_callHS (n := 1) (as := [lI x28]) (rest := []) 34 (s_X1_check hl G x28 w28) (lw_S q1627 q1628 q100 q1629) (by decide +kernel) (by decide) rfl rfl (cat2_nil (k := 0)) rfl dX1_stopOf_31 rfl (fun q9 w31 => r_pass (fun _ => rfl) rfl) (fun _ w31 => ?_)
  refine r_aload 36 0 dX1_stopOf_34 rfl rfl ?_
  refine r_getr 39 gf_X1_131 dX1_stopOf_36 rfl (fun x36 => ?_)
  refine r_iload_n 40 3 dX1_stopOf_39 rfl rfl rfl ?_
  refine r_gd (fun hc40 => ?_)
  refine r_callV (n := 1) (as := [lI a2]) (rest := []) 43 15 (sL_get hl x36 a2 w31) hc40 rfl (lw_V q858 q311 q312 q104 q313) (by decide +kernel) (by decide) rfl rfl (cat2_nil (k := 0)) rfl dX1_stopOf_40 rfl (fun x40 w40 => ?_)
  refine r_cast 46 (CA_cons (c0 := 4) rfl (Or.inl rfl) (CA_nil)) q1465 dX1_stopOf_43 rfl ?_
  refine r_astore (ls2 := [(5, lR x40), (4, lR x2), (0, lR a0), (1, lI a1), (2, lI a2), (3, lI a3)]) 48 dX1_stopOf_46 (by decide) rfl rfl ?_
  refine r_iload_n 49 5 dX1_stopOf_48 rfl rfl rfl ?_
  refine r_if (fun hs => ?_) (fun hs0 => ?_)
  · refine r_tswIn 80 dX1_stopOf_49 (z := 0) (by rw [hs]; rfl) (by decide) (by decide) rfl (by decide) ?_
    refine r_aload 82 0 dX1_stopOf_80 rfl rfl ?_
    refine r_geti 85 gf_X1_161 dX1_stopOf_82 rfl (fun x82 => ?_)
    exact r_iret rfl rfl dX1_stopOf_85
  refine r_if (fun hs => ?_) (fun hs1 => ?_)
  · refine r_tswIn 86 dX1_stopOf_49 (z := 1) (by rw [hs]; rfl) (by decide) (by decide) rfl (by decide) ?_
    refine r_aload 88 0 dX1_stopOf_86 rfl rfl ?_
    refine r_geti 91 gf_X1_278 dX1_stopOf_88 rfl (fun x88 => ?_)
    exact r_iret rfl rfl dX1_stopOf_91
  refine r_if (fun hs => ?_) (fun hs2 => ?_)
  · refine r_tswIn 92 dX1_stopOf_49 (z := 2) (by rw [hs]; rfl) (by decide) (by decide) rfl (by decide) ?_
    refine r_aload 94 0 dX1_stopOf_92 rfl rfl ?_
    refine r_geti 97 gf_X1_281 dX1_stopOf_94 rfl (fun x94 => ?_)
    exact r_iret rfl rfl dX1_stopOf_97
  refine r_if (fun hs => ?_) (fun hs3 => ?_)
  · refine r_tswIn 98 dX1_stopOf_49 (z := 3) (by rw [hs]; rfl) (by decide) (by decide) rfl (by decide) ?_
    refine r_aload 100 0 dX1_stopOf_98 rfl rfl ?_
    refine r_geti 103 gf_X1_284 dX1_stopOf_100 rfl (fun x100 => ?_)
    exact r_iret rfl rfl dX1_stopOf_103
  have hs0 := neI hs0 (z := 0) rfl
  have hs1 := neI hs1 (z := 1) rfl
  have hs2 := neI hs2 (z := 2) rfl
  have hs3 := neI hs3 (z := 3) rfl
  refine r_tswOut 104 dX1_stopOf_49 (by omega) (by decide) ?_
  refine r_aload 106 0 dX1_stopOf_104 rfl rfl ?_
  refine r_geti 109 gf_X1_287 dX1_stopOf_106 rfl (fun x106 => ?_)
  exact r_iret rfl rfl dX1_stopOf_109
theorem s_X1_stopOf {l : Launch} {D : Dn} {H0 : Heap} (hl : l.stackTraces = false) (G : Nat) (a0 : Rf) (a1 : Int32) (a2 : Int32) (a3 : Int32) (w : St) : SimX l D H0 yX1_stopOf (ws_ yX1_stopOf cX1_stopOf 6 (some (.int))) 33 3062 (ocX rvI) [lR a0, lI a1, lI a2, lI a3] w (f_X1_stopOf G a0 a1 a2 a3 w) := SimX.ofV (y := yX1_stopOf) (by decide) rfl (t_X1_stopOf hl G a0 a1 a2 a3 w)
abbrev V_X1_mustBeThere (l : Launch) (D : Dn) (H0 : Heap) (w0 : St) (res : Option ((Nat ⊕ Unit) × St)) (pc : Nat) (ls : List (Nat × LV)) (st : List Value) (w : St) : Prop := V l D H0 RX1 "mustBeThere" cX1_mustBeThere 4 none [] 33 3065 (ocX rvU) w0 res pc ls st w
theorem t_X1_mustBeThere {l : Launch} {D : Dn} {H0 : Heap} {w0 : St} (hl : l.stackTraces = false) (G : Nat) (a0 : Rf) (a1 : Int32) (a2 : Int32) (a3 : Int32) (w : St) : V_X1_mustBeThere l D H0 w0 (f_X1_mustBeThere G a0 a1 a2 a3 w) 0 [(0, lR a0), (1, lI a1), (2, lI a2), (3, lI a3)] [] w := by
  unfold f_X1_mustBeThere
  refine r_aload_n 1 0 dX1_mustBeThere_0 rfl rfl rfl ?_
  refine r_getr 4 gf_X1_10 dX1_mustBeThere_1 rfl (fun x1 => ?_)
  refine r_iload_n 5 1 dX1_mustBeThere_4 rfl rfl rfl ?_
  refine r_iload_n 6 2 dX1_mustBeThere_5 rfl rfl rfl ?_
  refine r_iload_n 7 3 dX1_mustBeThere_6 rfl rfl rfl ?_
  refine r_callS (n := 1) (as := [lI a3]) (rest := [.int a2, .int a1, rf x1]) 10 (s_X8_of hl G a3 w) (lw_S q1578 q1579 q129 q1580) (by decide +kernel) (by decide) rfl rfl (cat2_i (cat2_i (cat2_r (cat2_nil (k := 0))))) rfl dX1_mustBeThere_7 rfl (fun x7 w7 => ?_)
  refine r_gd (fun hc10 => ?_)
  refine r_callV (n := 3) (as := [lI a1, lI a2, lR x7]) (rest := []) 13 1 (s_X2_isEvent hl G x1 a1 a2 x7 w7) hc10 rfl (lw_V q1507 q1508 q1509 q101 q1510) (by decide +kernel) (by decide) rfl rfl (cat2_nil (k := 0)) rfl dX1_mustBeThere_10 rfl (fun x10 w10 => ?_)
  rw [bx_bh]
  refine r_callHS (n := 1) (as := [lI x10]) (rest := []) 16 (s_X1_checkIndex hl G x10 w10) (lw_S q1609 q1610 q100 q1611) (by decide +kernel) (by decide) rfl rfl (cat2_nil (k := 0)) rfl dX1_mustBeThere_13 rfl (fun q9 w13 => r_pass (fun _ => rfl) rfl) (fun _ w13 => ?_)
  exact r_vret rfl rfl dX1_mustBeThere_16
theorem s_X1_mustBeThere {l : Launch} {D : Dn} {H0 : Heap} (hl : l.stackTraces = false) (G : Nat) (a0 : Rf) (a1 : Int32) (a2 : Int32) (a3 : Int32) (w : St) : SimX l D H0 yX1_mustBeThere (ws_ yX1_mustBeThere cX1_mustBeThere 4 none) 33 3065 (ocX rvU) [lR a0, lI a1, lI a2, lI a3] w (f_X1_mustBeThere G a0 a1 a2 a3 w) := SimX.ofV (y := yX1_mustBeThere) (by decide) rfl (t_X1_mustBeThere hl G a0 a1 a2 a3 w)
abbrev V_X1_eventOf (l : Launch) (D : Dn) (H0 : Heap) (w0 : St) (res : Option ((Nat ⊕ Int32) × St)) (pc : Nat) (ls : List (Nat × LV)) (st : List Value) (w : St) : Prop := V l D H0 RX1 "eventOf" cX1_eventOf 6 (some (.int)) [] 37 3149 (ocX rvI) w0 res pc ls st w
theorem t_X1_eventOf {l : Launch} {D : Dn} {H0 : Heap} {w0 : St} (hl : l.stackTraces = false) (G : Nat) (a0 : Rf) (a1 : Int32) (a2 : Int32) (a3 : Int32) (a4 : Int32) (w : St) : V_X1_eventOf l D H0 w0 (f_X1_eventOf G a0 a1 a2 a3 a4 w) 0 [(0, lR a0), (1, lI a1), (2, lI a2), (3, lI a3), (4, lI a4)] [] w := by
  unfold f_X1_eventOf
  refine r_aload_n 1 0 dX1_eventOf_0 rfl rfl rfl ?_
  refine r_iload_n 2 1 dX1_eventOf_1 rfl rfl rfl ?_
  refine r_iload_n 3 2 dX1_eventOf_2 rfl rfl rfl ?_
  refine r_iload_n 4 3 dX1_eventOf_3 rfl rfl rfl ?_
  refine r_gd (fun hc4 => ?_)
  rw [bx_bh]
  refine r_callHV (n := 3) (as := [lI a1, lI a2, lI a3]) (rest := []) 7 0 (s_X1_mustBeThere hl G a0 a1 a2 a3 w) hc4 rfl (lw_V q1670 q1672 qs20 q100 q1673) (by decide +kernel) (by decide) rfl rfl (cat2_nil (k := 0)) rfl dX1_eventOf_4 rfl (fun q9 w4 => r_pass (fun _ => rfl) rfl) (fun _ w4 => ?_)
  refine r_iload 9 4 dX1_eventOf_7 rfl rfl ?_
  refine r_iconst (v := 0) 10 dX1_eventOf_9 rfl rfl ?_
  refine r_iconst (v := 5) 11 dX1_eventOf_10 rfl rfl ?_
  refine r_callS (n := 3) (as := [lI a4, lI 0, lI 5]) (rest := []) 14 (s_X1_isBetween hl G a4 0 5 w4) (lw_S q1363 q1364 q100 q1365) (by decide +kernel) (by decide) rfl rfl (cat2_nil (k := 0)) rfl dX1_eventOf_11 rfl (fun x11 w11 => ?_)
  rw [bx_bh]
  refine r_callHS (n := 1) (as := [lI x11]) (rest := []) 17 (s_X1_check hl G x11 w11) (lw_S q1627 q1628 q100 q1629) (by decide +kernel) (by decide) rfl rfl (cat2_nil (k := 0)) rfl dX1_eventOf_14 rfl (fun q9 w14 => r_pass (fun _ => rfl) rfl) (fun _ w14 => ?_)
  refine r_aload_n 18 0 dX1_eventOf_17 rfl rfl rfl ?_
  refine r_gd (fun hc18 => ?_)
  refine r_callV (n := 0) (as := []) (rest := []) 21 0 (s_X1_net hl G a0 w14) hc18 rfl (lw_V q290 q292 qs0 q100 q293) (by decide +kernel) (by decide) rfl rfl (cat2_nil (k := 0)) rfl dX1_eventOf_18 rfl (fun x18 w18 => ?_)
  refine r_iload_n 22 1 dX1_eventOf_21 rfl rfl rfl ?_
  refine r_iload_n 23 2 dX1_eventOf_22 rfl rfl rfl ?_
  refine r_iload_n 24 3 dX1_eventOf_23 rfl rfl rfl ?_
  refine r_callS (n := 1) (as := [lI a3]) (rest := [.int a2, .int a1, rf x18]) 27 (s_X8_of hl G a3 w18) (lw_S q1578 q1579 q129 q1580) (by decide +kernel) (by decide) rfl rfl (cat2_i (cat2_i (cat2_r (cat2_nil (k := 0))))) rfl dX1_eventOf_24 rfl (fun x24 w24 => ?_)
  refine r_gd (fun hc27 => ?_)
  refine r_callV (n := 3) (as := [lI a1, lI a2, lR x24]) (rest := []) 30 6 (s_X9_event hl G x18 a1 a2 x24 w24) hc27 rfl (lw_V q1593 q553 q554 q130 q555) (by decide +kernel) (by decide) rfl rfl (cat2_nil (k := 0)) rfl dX1_eventOf_27 rfl (fun x27 w27 => ?_)
  refine r_astore (ls2 := [(5, lR x27), (0, lR a0), (1, lI a1), (2, lI a2), (3, lI a3), (4, lI a4)]) 32 dX1_eventOf_30 (by decide) rfl rfl ?_
  refine r_iload 34 5 dX1_eventOf_32 rfl rfl ?_
  refine r_if (fun hs => ?_) (fun hs0 => ?_)
  · refine r_tswIn 68 dX1_eventOf_34 (z := 0) (by rw [hs]; rfl) (by decide) (by decide) rfl (by decide) ?_
    refine r_aload 70 0 dX1_eventOf_68 rfl rfl ?_
    refine r_geti 73 gf_X1_294 dX1_eventOf_70 rfl (fun x70 => ?_)
    exact r_iret rfl rfl dX1_eventOf_73
  refine r_if (fun hs => ?_) (fun hs1 => ?_)
  · refine r_tswIn 74 dX1_eventOf_34 (z := 1) (by rw [hs]; rfl) (by decide) (by decide) rfl (by decide) ?_
    refine r_aload 76 0 dX1_eventOf_74 rfl rfl ?_
    refine r_geti 79 gf_X1_297 dX1_eventOf_76 rfl (fun x76 => ?_)
    exact r_iret rfl rfl dX1_eventOf_79
  refine r_if (fun hs => ?_) (fun hs2 => ?_)
  · refine r_tswIn 80 dX1_eventOf_34 (z := 2) (by rw [hs]; rfl) (by decide) (by decide) rfl (by decide) ?_
    refine r_aload 82 0 dX1_eventOf_80 rfl rfl ?_
    refine r_share (st2 := fun x82 => [.int x82]) (pc2 := 85) (fun hk => ?_) (fun x82 w82 => ?_)
    · refine r_dsp (fun c82 hc82 => ?_)
      refine r_dif (fun he => ?_) (fun _ => ?_)
      · subst he
        exact r_callV (n := 0) (as := []) (rest := []) 85 7 (s_X10_late hl G x27 w27) hc82 rfl (lw_V q860 q843 q844 q131 q847) (by decide +kernel) (by decide) rfl rfl (cat2_nil (k := 0)) rfl dX1_eventOf_82 rfl hk
      refine r_dif (fun he => ?_) (fun _ => ?_)
      · subst he
        exact r_callU (x2 := ⟨"CoachTimetable$Event", "late", "()I"⟩) (owner := "CoachTimetable$Event") (n := 0) (as := []) (rest := []) 85 9 (s_X10_late hl G x27 w27) hc82 rfl (lw_app (l5 q860 q845 q846 q843 q131) (lw_meth q847)) rfl (by decide +kernel) (by decide) rfl rfl (cat2_nil (k := 0)) rfl dX1_eventOf_82 rfl hk
      exact r_bdn
    exact r_iret rfl rfl dX1_eventOf_85
  refine r_if (fun hs => ?_) (fun hs3 => ?_)
  · refine r_tswIn 86 dX1_eventOf_34 (z := 3) (by rw [hs]; rfl) (by decide) (by decide) rfl (by decide) ?_
    refine r_aload 88 0 dX1_eventOf_86 rfl rfl ?_
    refine r_geti 91 gf_X1_300 dX1_eventOf_88 rfl (fun x88 => ?_)
    exact r_iret rfl rfl dX1_eventOf_91
  refine r_if (fun hs => ?_) (fun hs4 => ?_)
  · refine r_tswIn 92 dX1_eventOf_34 (z := 4) (by rw [hs]; rfl) (by decide) (by decide) rfl (by decide) ?_
    refine r_aload 94 0 dX1_eventOf_92 rfl rfl ?_
    refine r_geti 97 gf_X1_302 dX1_eventOf_94 rfl (fun x94 => ?_)
    exact r_iret rfl rfl dX1_eventOf_97
  have hs0 := neI hs0 (z := 0) rfl
  have hs1 := neI hs1 (z := 1) rfl
  have hs2 := neI hs2 (z := 2) rfl
  have hs3 := neI hs3 (z := 3) rfl
  have hs4 := neI hs4 (z := 4) rfl
  refine r_tswOut 98 dX1_eventOf_34 (by omega) (by decide) ?_
  refine r_aload 100 0 dX1_eventOf_98 rfl rfl ?_
  refine r_geti 103 gf_X1_305 dX1_eventOf_100 rfl (fun x100 => ?_)
  exact r_iret rfl rfl dX1_eventOf_103
theorem s_X1_eventOf {l : Launch} {D : Dn} {H0 : Heap} (hl : l.stackTraces = false) (G : Nat) (a0 : Rf) (a1 : Int32) (a2 : Int32) (a3 : Int32) (a4 : Int32) (w : St) : SimX l D H0 yX1_eventOf (ws_ yX1_eventOf cX1_eventOf 6 (some (.int))) 37 3149 (ocX rvI) [lR a0, lI a1, lI a2, lI a3, lI a4] w (f_X1_eventOf G a0 a1 a2 a3 a4 w) := SimX.ofV (y := yX1_eventOf) (by decide) rfl (t_X1_eventOf hl G a0 a1 a2 a3 a4 w)
abbrev V_X1_minute (l : Launch) (D : Dn) (H0 : Heap) (w0 : St) (res : Option ((Nat ⊕ Int32) × St)) (pc : Nat) (ls : List (Nat × LV)) (st : List Value) (w : St) : Prop := V l D H0 RX1 "minute" cX1_minute 4 (some (.int)) [] 37 3149 (ocX rvI) w0 res pc ls st w
theorem t_X1_minute {l : Launch} {D : Dn} {H0 : Heap} {w0 : St} (hl : l.stackTraces = false) (G : Nat) (a0 : Rf) (a1 : Int32) (a2 : Int32) (a3 : Int32) (w : St) : V_X1_minute l D H0 w0 (f_X1_minute G a0 a1 a2 a3 w) 0 [(0, lR a0), (1, lI a1), (2, lI a2), (3, lI a3)] [] w := by
  unfold f_X1_minute
  refine r_aload_n 1 0 dX1_minute_0 rfl rfl rfl ?_
  refine r_iload_n 2 1 dX1_minute_1 rfl rfl rfl ?_
  refine r_iload_n 3 2 dX1_minute_2 rfl rfl rfl ?_
  refine r_iload_n 4 3 dX1_minute_3 rfl rfl rfl ?_
  refine r_gd (fun hc4 => ?_)
  rw [bx_bh]
  refine r_callHV (n := 3) (as := [lI a1, lI a2, lI a3]) (rest := []) 7 0 (s_X1_mustBeThere hl G a0 a1 a2 a3 w) hc4 rfl (lw_V q1670 q1672 qs20 q100 q1673) (by decide +kernel) (by decide) rfl rfl (cat2_nil (k := 0)) rfl dX1_minute_4 rfl (fun q9 w4 => r_pass (fun _ => rfl) rfl) (fun _ w4 => ?_)
  refine r_aload_n 8 0 dX1_minute_7 rfl rfl rfl ?_
  refine r_gd (fun hc8 => ?_)
  refine r_callV (n := 0) (as := []) (rest := []) 11 0 (s_X1_net hl G a0 w4) hc8 rfl (lw_V q290 q292 qs0 q100 q293) (by decide +kernel) (by decide) rfl rfl (cat2_nil (k := 0)) rfl dX1_minute_8 rfl (fun x8 w8 => ?_)
  refine r_iload_n 12 1 dX1_minute_11 rfl rfl rfl ?_
  refine r_iload_n 13 2 dX1_minute_12 rfl rfl rfl ?_
  refine r_iload_n 14 3 dX1_minute_13 rfl rfl rfl ?_
  refine r_callS (n := 1) (as := [lI a3]) (rest := [.int a2, .int a1, rf x8]) 17 (s_X8_of hl G a3 w8) (lw_S q1578 q1579 q129 q1580) (by decide +kernel) (by decide) rfl rfl (cat2_i (cat2_i (cat2_r (cat2_nil (k := 0))))) rfl dX1_minute_14 rfl (fun x14 w14 => ?_)
  refine r_gd (fun hc17 => ?_)
  refine r_callV (n := 3) (as := [lI a1, lI a2, lR x14]) (rest := []) 20 6 (s_X9_event hl G x8 a1 a2 x14 w14) hc17 rfl (lw_V q1593 q553 q554 q130 q555) (by decide +kernel) (by decide) rfl rfl (cat2_nil (k := 0)) rfl dX1_minute_17 rfl (fun x17 w17 => ?_)
  refine r_geti 23 gf_X1_297 dX1_minute_20 rfl (fun x20 => ?_)
  exact r_iret rfl rfl dX1_minute_23
theorem s_X1_minute {l : Launch} {D : Dn} {H0 : Heap} (hl : l.stackTraces = false) (G : Nat) (a0 : Rf) (a1 : Int32) (a2 : Int32) (a3 : Int32) (w : St) : SimX l D H0 yX1_minute (ws_ yX1_minute cX1_minute 4 (some (.int))) 37 3149 (ocX rvI) [lR a0, lI a1, lI a2, lI a3] w (f_X1_minute G a0 a1 a2 a3 w) := SimX.ofV (y := yX1_minute) (by decide) rfl (t_X1_minute hl G a0 a1 a2 a3 w)
abbrev V_X1_minuteAgain (l : Launch) (D : Dn) (H0 : Heap) (w0 : St) (res : Option ((Nat ⊕ Int32) × St)) (pc : Nat) (ls : List (Nat × LV)) (st : List Value) (w : St) : Prop := V l D H0 RX1 "minuteAgain" cX1_minuteAgain 4 (some (.int)) [] 36 3128 (ocX rvI) w0 res pc ls st w
theorem t_X1_minuteAgain {l : Launch} {D : Dn} {H0 : Heap} {w0 : St} (hl : l.stackTraces = false) (G : Nat) (a0 : Rf) (a1 : Int32) (a2 : Int32) (a3 : Int32) (w : St) : V_X1_minuteAgain l D H0 w0 (f_X1_minuteAgain G a0 a1 a2 a3 w) 0 [(0, lR a0), (1, lI a1), (2, lI a2), (3, lI a3)] [] w := by
  unfold f_X1_minuteAgain
  refine r_aload_n 1 0 dX1_minuteAgain_0 rfl rfl rfl ?_
  refine r_iload_n 2 1 dX1_minuteAgain_1 rfl rfl rfl ?_
  refine r_iload_n 3 2 dX1_minuteAgain_2 rfl rfl rfl ?_
  refine r_iload_n 4 3 dX1_minuteAgain_3 rfl rfl rfl ?_
  refine r_gd (fun hc4 => ?_)
  rw [bx_bh]
  refine r_callHV (n := 3) (as := [lI a1, lI a2, lI a3]) (rest := []) 7 0 (s_X1_mustBeThere hl G a0 a1 a2 a3 w) hc4 rfl (lw_V q1670 q1672 qs20 q100 q1673) (by decide +kernel) (by decide) rfl rfl (cat2_nil (k := 0)) rfl dX1_minuteAgain_4 rfl (fun q9 w4 => r_pass (fun _ => rfl) rfl) (fun _ w4 => ?_)
  refine r_nw (C := RX9) (T := TX9) (N := 3) (ty := tyX9) 10 6 rfl rfl in_X9 tyX9_ok q294 q295 q130 rfl (by decide) dX1_minuteAgain_7 rfl (fun b7 w7 => ?_)
  refine r_dup_r 11 dX1_minuteAgain_10 rfl ?_
  refine r_aload_n 12 0 dX1_minuteAgain_11 rfl rfl rfl ?_
  refine r_getr 15 gf_X1_10 dX1_minuteAgain_12 rfl (fun x12 => ?_)
  refine r_iconst (v := (-1)) 16 dX1_minuteAgain_15 rfl rfl ?_
  refine r_callI (b := b7) (n := 2) (as := [lR x12, lI ((-1))]) (rest := [rf ((some b7))]) 19 (s_X9_init hl G b7 x12 ((-1)) w7) (lw_meth q298) q130 q296 q297 rfl (by decide +kernel) (by decide) rfl rfl (cat2_r (cat2_nil (k := 0))) rfl dX1_minuteAgain_16 rfl (fun _ w16 => ?_)
  refine r_gd (fun hc19 => ?_)
  refine r_callV (n := 0) (as := []) (rest := []) 22 6 (s_X9_inRounds hl G ((some b7)) w16) hc19 rfl (lw_V q853 q854 q855 q130 q856) (by decide +kernel) (by decide) rfl rfl (cat2_nil (k := 0)) rfl dX1_minuteAgain_19 rfl (fun x19 w19 => ?_)
  refine r_iload_n 23 1 dX1_minuteAgain_22 rfl rfl rfl ?_
  refine r_iload_n 24 2 dX1_minuteAgain_23 rfl rfl rfl ?_
  refine r_iload_n 25 3 dX1_minuteAgain_24 rfl rfl rfl ?_
  refine r_callS (n := 1) (as := [lI a3]) (rest := [.int a2, .int a1, rf x19]) 28 (s_X8_of hl G a3 w19) (lw_S q1578 q1579 q129 q1580) (by decide +kernel) (by decide) rfl rfl (cat2_i (cat2_i (cat2_r (cat2_nil (k := 0))))) rfl dX1_minuteAgain_25 rfl (fun x25 w25 => ?_)
  refine r_gd (fun hc28 => ?_)
  refine r_callV (n := 3) (as := [lI a1, lI a2, lR x25]) (rest := []) 31 6 (s_X9_event hl G x19 a1 a2 x25 w25) hc28 rfl (lw_V q1593 q553 q554 q130 q555) (by decide +kernel) (by decide) rfl rfl (cat2_nil (k := 0)) rfl dX1_minuteAgain_28 rfl (fun x28 w28 => ?_)
  refine r_geti 34 gf_X1_297 dX1_minuteAgain_31 rfl (fun x31 => ?_)
  exact r_iret rfl rfl dX1_minuteAgain_34
theorem s_X1_minuteAgain {l : Launch} {D : Dn} {H0 : Heap} (hl : l.stackTraces = false) (G : Nat) (a0 : Rf) (a1 : Int32) (a2 : Int32) (a3 : Int32) (w : St) : SimX l D H0 yX1_minuteAgain (ws_ yX1_minuteAgain cX1_minuteAgain 4 (some (.int))) 36 3128 (ocX rvI) [lR a0, lI a1, lI a2, lI a3] w (f_X1_minuteAgain G a0 a1 a2 a3 w) := SimX.ofV (y := yX1_minuteAgain) (by decide) rfl (t_X1_minuteAgain hl G a0 a1 a2 a3 w)
abbrev V_X1_link0 (l : Launch) (D : Dn) (H0 : Heap) (w0 : St) (res : Option ((Nat ⊕ Rf) × St)) (pc : Nat) (ls : List (Nat × LV)) (st : List Value) (w : St) : Prop := V l D H0 RX1 "link0" cX1_link0 2 (some (.object "CoachTimetable$Link")) [] 32 3041 (ocX rvR) w0 res pc ls st w
theorem t_X1_link0 {l : Launch} {D : Dn} {H0 : Heap} {w0 : St} (hl : l.stackTraces = false) (G : Nat) (a0 : Rf) (a1 : Int32) (w : St) : V_X1_link0 l D H0 w0 (f_X1_link0 G a0 a1 w) 0 [(0, lR a0), (1, lI a1)] [] w := by
  unfold f_X1_link0
  refine r_aload_n 1 0 dX1_link0_0 rfl rfl rfl ?_
  refine r_getr 4 gf_X1_10 dX1_link0_1 rfl (fun x1 => ?_)
  refine r_iload_n 5 1 dX1_link0_4 rfl rfl rfl ?_
  refine r_gd (fun hc5 => ?_)
  refine r_callV (n := 1) (as := [lI a1]) (rest := []) 8 1 (s_X2_isLink hl G x1 a1 w) hc5 rfl (lw_V q1551 q1552 q1553 q101 q1554) (by decide +kernel) (by decide) rfl rfl (cat2_nil (k := 0)) rfl dX1_link0_5 rfl (fun x5 w5 => ?_)
  rw [bx_bh]
  refine r_callHS (n := 1) (as := [lI x5]) (rest := []) 11 (s_X1_checkIndex hl G x5 w5) (lw_S q1609 q1610 q100 q1611) (by decide +kernel) (by decide) rfl rfl (cat2_nil (k := 0)) rfl dX1_link0_8 rfl (fun q9 w8 => r_pass (fun _ => rfl) rfl) (fun _ w8 => ?_)
  refine r_aload_n 12 0 dX1_link0_11 rfl rfl rfl ?_
  refine r_getr 15 gf_X1_10 dX1_link0_12 rfl (fun x12 => ?_)
  refine r_getr 18 gf_X1_191 dX1_link0_15 rfl (fun x15 => ?_)
  refine r_iload_n 19 1 dX1_link0_18 rfl rfl rfl ?_
  refine r_gd (fun hc19 => ?_)
  refine r_callV (n := 1) (as := [lI a1]) (rest := []) 22 15 (sL_get hl x15 a1 w8) hc19 rfl (lw_V q858 q311 q312 q104 q313) (by decide +kernel) (by decide) rfl rfl (cat2_nil (k := 0)) rfl dX1_link0_19 rfl (fun x19 w19 => ?_)
  refine r_cast 25 (CA_cons (c0 := 5) rfl (Or.inl rfl) (CA_nil)) q1155 dX1_link0_22 rfl ?_
  exact r_aret rfl rfl (Or.inl ⟨_, rfl⟩) dX1_link0_25
theorem s_X1_link0 {l : Launch} {D : Dn} {H0 : Heap} (hl : l.stackTraces = false) (G : Nat) (a0 : Rf) (a1 : Int32) (w : St) : SimX l D H0 yX1_link0 (ws_ yX1_link0 cX1_link0 2 (some (.object "CoachTimetable$Link"))) 32 3041 (ocX rvR) [lR a0, lI a1] w (f_X1_link0 G a0 a1 w) := SimX.ofV (y := yX1_link0) (by decide) rfl (t_X1_link0 hl G a0 a1 w)
abbrev V_X1_spareOf (l : Launch) (D : Dn) (H0 : Heap) (w0 : St) (res : Option (Int32 × St)) (pc : Nat) (ls : List (Nat × LV)) (st : List Value) (w : St) : Prop := V l D H0 RX1 "spareOf" cX1_spareOf 2 (some (.int)) [] 32 3043 (fun x => .inr (rvI x)) w0 res pc ls st w
theorem t_X1_spareOf {l : Launch} {D : Dn} {H0 : Heap} {w0 : St} (hl : l.stackTraces = false) (G : Nat) (a0 : Rf) (a1 : Rf) (w : St) : V_X1_spareOf l D H0 w0 (f_X1_spareOf G a0 a1 w) 0 [(0, lR a0), (1, lR a1)] [] w := by
  unfold f_X1_spareOf
  refine r_aload_n 1 0 dX1_spareOf_0 rfl rfl rfl ?_
  refine r_getr 4 gf_X1_10 dX1_spareOf_1 rfl (fun x1 => ?_)
  refine r_aload_n 5 1 dX1_spareOf_4 rfl rfl rfl ?_
  refine r_geti 8 gf_X1_258 dX1_spareOf_5 rfl (fun x5 => ?_)
  refine r_aload_n 9 1 dX1_spareOf_8 rfl rfl rfl ?_
  refine r_geti 12 gf_X1_311 dX1_spareOf_9 rfl (fun x9 => ?_)
  refine r_gd (fun hc12 => ?_)
  refine r_callV (n := 2) (as := [lI x5, lI x9]) (rest := []) 15 1 (s_X2_stop hl G x1 x5 x9 w) hc12 rfl (lw_V q1531 q1532 q1533 q101 q1534) (by decide +kernel) (by decide) rfl rfl (cat2_nil (k := 0)) rfl dX1_spareOf_12 rfl (fun x12 w12 => ?_)
  refine r_geti 18 gf_X1_154 dX1_spareOf_15 rfl (fun x15 => ?_)
  refine r_aload_n 19 0 dX1_spareOf_18 rfl rfl rfl ?_
  refine r_getr 22 gf_X1_10 dX1_spareOf_19 rfl (fun x19 => ?_)
  refine r_aload_n 23 1 dX1_spareOf_22 rfl rfl rfl ?_
  refine r_geti 26 gf_X1_255 dX1_spareOf_23 rfl (fun x23 => ?_)
  refine r_aload_n 27 1 dX1_spareOf_26 rfl rfl rfl ?_
  refine r_geti 30 gf_X1_314 dX1_spareOf_27 rfl (fun x27 => ?_)
  refine r_gd (fun hc30 => ?_)
  refine r_callV (n := 2) (as := [lI x23, lI x27]) (rest := [.int x15]) 33 1 (s_X2_stop hl G x19 x23 x27 w12) hc30 rfl (lw_V q1531 q1532 q1533 q101 q1534) (by decide +kernel) (by decide) rfl rfl (cat2_i (cat2_nil (k := 0))) rfl dX1_spareOf_30 rfl (fun x30 w30 => ?_)
  refine r_geti 36 gf_X1_164 dX1_spareOf_33 rfl (fun x33 => ?_)
  refine r_isub 37 dX1_spareOf_36 rfl ?_
  refine r_aload_n 38 1 dX1_spareOf_37 rfl rfl rfl ?_
  refine r_geti 41 gf_X1_316 dX1_spareOf_38 rfl (fun x38 => ?_)
  refine r_isub 42 dX1_spareOf_41 rfl ?_
  exact r_iret rfl rfl dX1_spareOf_42
theorem s_X1_spareOf {l : Launch} {D : Dn} {H0 : Heap} (hl : l.stackTraces = false) (G : Nat) (a0 : Rf) (a1 : Rf) (w : St) : SimN l D H0 yX1_spareOf (ws_ yX1_spareOf cX1_spareOf 2 (some (.int))) 32 3043 rvI [lR a0, lR a1] w (f_X1_spareOf G a0 a1 w) := SimX.N (SimX.ofV (y := yX1_spareOf) (by decide) rfl (t_X1_spareOf hl G a0 a1 w))
abbrev V_X1_linkOf (l : Launch) (D : Dn) (H0 : Heap) (w0 : St) (res : Option ((Nat ⊕ Int32) × St)) (pc : Nat) (ls : List (Nat × LV)) (st : List Value) (w : St) : Prop := V l D H0 RX1 "linkOf" cX1_linkOf 4 (some (.int)) [] 37 3149 (ocX rvI) w0 res pc ls st w
theorem t_X1_linkOf {l : Launch} {D : Dn} {H0 : Heap} {w0 : St} (hl : l.stackTraces = false) (G : Nat) (a0 : Rf) (a1 : Int32) (a2 : Int32) (w : St) : V_X1_linkOf l D H0 w0 (f_X1_linkOf G a0 a1 a2 w) 0 [(0, lR a0), (1, lI a1), (2, lI a2)] [] w := by
  unfold f_X1_linkOf
  refine r_aload_n 1 0 dX1_linkOf_0 rfl rfl rfl ?_
  refine r_iload_n 2 1 dX1_linkOf_1 rfl rfl rfl ?_
  refine r_gd (fun hc2 => ?_)
  rw [bx_bh]
  refine r_callHV (n := 1) (as := [lI a1]) (rest := []) 5 0 (s_X1_link0 hl G a0 a1 w) hc2 rfl (lw_V q1695 q1697 qs21 q100 q1698) (by decide +kernel) (by decide) rfl rfl (cat2_nil (k := 0)) rfl dX1_linkOf_2 rfl (fun q9 w2 => r_pass (fun _ => rfl) rfl) (fun x2 w2 => ?_)
  refine r_astore_n (ls2 := [(3, lR x2), (0, lR a0), (1, lI a1), (2, lI a2)]) 6 dX1_linkOf_5 rfl (by decide) rfl rfl ?_
  refine r_iload_n 7 3 dX1_linkOf_6 rfl rfl rfl ?_
  refine r_iconst (v := 0) 8 dX1_linkOf_7 rfl rfl ?_
  refine r_bipush (v := 8) 10 dX1_linkOf_8 rfl rfl ?_
  refine r_callS (n := 3) (as := [lI a2, lI 0, lI 8]) (rest := []) 13 (s_X1_isBetween hl G a2 0 8 w2) (lw_S q1363 q1364 q100 q1365) (by decide +kernel) (by decide) rfl rfl (cat2_nil (k := 0)) rfl dX1_linkOf_10 rfl (fun x10 w10 => ?_)
  rw [bx_bh]
  refine r_callHS (n := 1) (as := [lI x10]) (rest := []) 16 (s_X1_check hl G x10 w10) (lw_S q1627 q1628 q100 q1629) (by decide +kernel) (by decide) rfl rfl (cat2_nil (k := 0)) rfl dX1_linkOf_13 rfl (fun q9 w13 => r_pass (fun _ => rfl) rfl) (fun _ w13 => ?_)
  refine r_iload_n 17 3 dX1_linkOf_16 rfl rfl rfl ?_
  refine r_if (fun hs => ?_) (fun hs0 => ?_)
  · refine r_tswIn 64 dX1_linkOf_17 (z := 0) (by rw [hs]; rfl) (by decide) (by decide) rfl (by decide) ?_
    refine r_aload_n 65 0 dX1_linkOf_64 rfl rfl rfl ?_
    refine r_geti 68 gf_X1_255 dX1_linkOf_65 rfl (fun x65 => ?_)
    exact r_iret rfl rfl dX1_linkOf_68
  refine r_if (fun hs => ?_) (fun hs1 => ?_)
  · refine r_tswIn 69 dX1_linkOf_17 (z := 1) (by rw [hs]; rfl) (by decide) (by decide) rfl (by decide) ?_
    refine r_aload_n 70 0 dX1_linkOf_69 rfl rfl rfl ?_
    refine r_geti 73 gf_X1_314 dX1_linkOf_70 rfl (fun x70 => ?_)
    exact r_iret rfl rfl dX1_linkOf_73
  refine r_if (fun hs => ?_) (fun hs2 => ?_)
  · refine r_tswIn 74 dX1_linkOf_17 (z := 2) (by rw [hs]; rfl) (by decide) (by decide) rfl (by decide) ?_
    refine r_aload_n 75 0 dX1_linkOf_74 rfl rfl rfl ?_
    refine r_geti 78 gf_X1_258 dX1_linkOf_75 rfl (fun x75 => ?_)
    exact r_iret rfl rfl dX1_linkOf_78
  refine r_if (fun hs => ?_) (fun hs3 => ?_)
  · refine r_tswIn 79 dX1_linkOf_17 (z := 3) (by rw [hs]; rfl) (by decide) (by decide) rfl (by decide) ?_
    refine r_aload_n 80 0 dX1_linkOf_79 rfl rfl rfl ?_
    refine r_geti 83 gf_X1_311 dX1_linkOf_80 rfl (fun x80 => ?_)
    exact r_iret rfl rfl dX1_linkOf_83
  refine r_if (fun hs => ?_) (fun hs4 => ?_)
  · refine r_tswIn 84 dX1_linkOf_17 (z := 4) (by rw [hs]; rfl) (by decide) (by decide) rfl (by decide) ?_
    refine r_aload_n 85 0 dX1_linkOf_84 rfl rfl rfl ?_
    refine r_geti 88 gf_X1_316 dX1_linkOf_85 rfl (fun x85 => ?_)
    exact r_iret rfl rfl dX1_linkOf_88
  refine r_if (fun hs => ?_) (fun hs5 => ?_)
  · refine r_tswIn 89 dX1_linkOf_17 (z := 5) (by rw [hs]; rfl) (by decide) (by decide) rfl (by decide) ?_
    refine r_aload_n 90 0 dX1_linkOf_89 rfl rfl rfl ?_
    refine r_geti 93 gf_X1_211 dX1_linkOf_90 rfl (fun x90 => ?_)
    exact r_iret rfl rfl dX1_linkOf_93
  refine r_if (fun hs => ?_) (fun hs6 => ?_)
  · refine r_tswIn 94 dX1_linkOf_17 (z := 6) (by rw [hs]; rfl) (by decide) (by decide) rfl (by decide) ?_
    refine r_aload_n 95 1 dX1_linkOf_94 rfl rfl rfl ?_
    refine r_gd (fun hc95 => ?_)
    refine r_callV (n := 0) (as := []) (rest := []) 98 0 (s_X1_net hl G a0 w13) hc95 rfl (lw_V q290 q292 qs0 q100 q293) (by decide +kernel) (by decide) rfl rfl (cat2_nil (k := 0)) rfl dX1_linkOf_95 rfl (fun x95 w95 => ?_)
    refine r_iload_n 99 2 dX1_linkOf_98 rfl rfl rfl ?_
    refine r_gd (fun hc99 => ?_)
    refine r_callV (n := 1) (as := [lI a1]) (rest := []) 102 6 (s_X9_isKept hl G x95 a1 w95) hc99 rfl (lw_V q1180 q1181 q1182 q130 q1183) (by decide +kernel) (by decide) rfl rfl (cat2_nil (k := 0)) rfl dX1_linkOf_99 rfl (fun x99 w99 => ?_)
    refine r_if_eq 109 105 dX1_linkOf_102 (by decide) rfl ?_ ?_
    · refine r_iconst (v := 0) 110 dX1_linkOf_109 rfl rfl ?_
      exact r_iret rfl rfl dX1_linkOf_110
    refine r_iconst (v := 1) 106 dX1_linkOf_105 rfl rfl ?_
    refine r_goto 110 dX1_linkOf_106 (by decide) ?_
    exact r_iret rfl rfl dX1_linkOf_110
  refine r_if (fun hs => ?_) (fun hs7 => ?_)
  · refine r_tswIn 111 dX1_linkOf_17 (z := 7) (by rw [hs]; rfl) (by decide) (by decide) rfl (by decide) ?_
    refine r_aload_n 112 1 dX1_linkOf_111 rfl rfl rfl ?_
    refine r_gd (fun hc112 => ?_)
    refine r_callV (n := 0) (as := []) (rest := []) 115 0 (s_X1_net hl G a0 w13) hc112 rfl (lw_V q290 q292 qs0 q100 q293) (by decide +kernel) (by decide) rfl rfl (cat2_nil (k := 0)) rfl dX1_linkOf_112 rfl (fun x112 w112 => ?_)
    refine r_iload_n 116 2 dX1_linkOf_115 rfl rfl rfl ?_
    refine r_gd (fun hc116 => ?_)
    refine r_callV (n := 1) (as := [lI a1]) (rest := []) 119 6 (s_X9_waited hl G x112 a1 w112) hc116 rfl (lw_V q1190 q1191 q1192 q130 q1193) (by decide +kernel) (by decide) rfl rfl (cat2_nil (k := 0)) rfl dX1_linkOf_116 rfl (fun x116 w116 => ?_)
    exact r_iret rfl rfl dX1_linkOf_119
  have hs0 := neI hs0 (z := 0) rfl
  have hs1 := neI hs1 (z := 1) rfl
  have hs2 := neI hs2 (z := 2) rfl
  have hs3 := neI hs3 (z := 3) rfl
  have hs4 := neI hs4 (z := 4) rfl
  have hs5 := neI hs5 (z := 5) rfl
  have hs6 := neI hs6 (z := 6) rfl
  have hs7 := neI hs7 (z := 7) rfl
  refine r_tswOut 120 dX1_linkOf_17 (by omega) (by decide) ?_
  refine r_aload_n 121 1 dX1_linkOf_120 rfl rfl rfl ?_
  refine r_aload_n 122 0 dX1_linkOf_121 rfl rfl rfl ?_
  refine r_gd (fun hc122 => ?_)
  refine r_callV (n := 1) (as := [lR x2]) (rest := []) 125 0 (s_X1_spareOf hl G a0 x2 w13) hc122 rfl (lw_V q1699 q1701 qs22 q100 q1702) (by decide +kernel) (by decide) rfl rfl (cat2_nil (k := 0)) rfl dX1_linkOf_122 rfl (fun x122 w122 => ?_)
  exact r_iret rfl rfl dX1_linkOf_125
theorem s_X1_linkOf {l : Launch} {D : Dn} {H0 : Heap} (hl : l.stackTraces = false) (G : Nat) (a0 : Rf) (a1 : Int32) (a2 : Int32) (w : St) : SimX l D H0 yX1_linkOf (ws_ yX1_linkOf cX1_linkOf 4 (some (.int))) 37 3149 (ocX rvI) [lR a0, lI a1, lI a2] w (f_X1_linkOf G a0 a1 a2 w) := SimX.ofV (y := yX1_linkOf) (by decide) rfl (t_X1_linkOf hl G a0 a1 a2 w)
abbrev V_X1_missed (l : Launch) (D : Dn) (H0 : Heap) (w0 : St) (res : Option ((Nat ⊕ Int32) × St)) (pc : Nat) (ls : List (Nat × LV)) (st : List Value) (w : St) : Prop := V l D H0 RX1 "missed" cX1_missed 5 (some (.int)) [] 37 3149 (ocX rvI) w0 res pc ls st w
theorem t_X1_missed_b48 {l : Launch} {D : Dn} {H0 : Heap} {w0 : St} (hl : l.stackTraces = false) (G : Nat) (k10 : Rf → Int32 → Rf → Int32 → Int32 → St → Option ((Nat ⊕ Int32) × St)) (h10 : ∀ v0 v1 v2 v3 v4 w, V_X1_missed l D H0 w0 (k10 v0 v1 v2 v3 v4 w) 10 [(0, lR v0), (1, lI v1), (2, lR v2), (3, lI v3), (4, lI v4)] [] w) (v0 : Rf) (v1 : Int32) (v2 : Rf) (v3 : Int32) (v4 : Int32) (w : St) : V_X1_missed l D H0 w0 (f_X1_missed_b48 G k10 v0 v1 v2 v3 v4 w) 48 [(0, lR v0), (1, lI v1), (2, lR v2), (3, lI v3), (4, lI v4)] [] w := by
  unfold f_X1_missed_b48
  refine r_iinc (v := v4 + 1) (ls2 := [(4, lI (v4 + 1)), (0, lR v0), (1, lI v1), (2, lR v2), (3, lI v3)]) 51 4 dX1_missed_48 rfl rfl (by decide) rfl rfl ?_
  refine r_goto 10 dX1_missed_51 (by decide) ?_
  exact r_lsP [1, 2, 3, 4, 0] rfl (h10 v0 v1 v2 v3 (v4 + 1) w)
theorem t_X1_missed_l10 {l : Launch} {D : Dn} {H0 : Heap} {w0 : St} (hl : l.stackTraces = false) (G : Nat) (k42 : Int32 → St → Option ((Nat ⊕ Int32) × St)) (h42 : ∀ v4 w, V_X1_missed l D H0 w0 (k42 v4 w) 42 [(4, lI v4)] [] w) (k54 : St → Option ((Nat ⊕ Int32) × St)) (h54 : ∀ w, V_X1_missed l D H0 w0 (k54 w) 54 [] [] w) : ∀ (F : Nat) (v0 : Rf) (v1 : Int32) (v2 : Rf) (v3 : Int32) (v4 : Int32) (w : St), V_X1_missed l D H0 w0 (f_X1_missed_l10 G k42 k54 F v0 v1 v2 v3 v4 w) 10 [(0, lR v0), (1, lI v1), (2, lR v2), (3, lI v3), (4, lI v4)] [] w := by
  intro F
  induction F with
  | zero => intros; exact r_none
  | succ F ih =>
    intro v0 v1 v2 v3 v4 w
    unfold f_X1_missed_l10
    refine r_iload 12 4 dX1_missed_10 rfl rfl ?_
    refine r_aload_n 13 0 dX1_missed_12 rfl rfl rfl ?_
    refine r_getr 16 gf_X1_10 dX1_missed_13 rfl (fun x13 => ?_)
    refine r_getr 19 gf_X1_191 dX1_missed_16 rfl (fun x16 => ?_)
    refine r_gd (fun hc19 => ?_)
    refine r_callV (n := 0) (as := []) (rest := [.int v4]) 22 15 (sL_size hl x16 w) hc19 rfl (lw_V q857 q303 q304 q104 q305) (by decide +kernel) (by decide) rfl rfl (cat2_i (cat2_nil (k := 0))) rfl dX1_missed_19 rfl (fun x19 w19 => ?_)
    refine r_icmp_ge 54 25 dX1_missed_22 (by decide) rfl ?_ ?_
    · exact r_lsP [] rfl (h54 w19)
    refine r_aload_n 26 2 dX1_missed_25 rfl rfl rfl ?_
    refine r_iload 28 4 dX1_missed_26 rfl rfl ?_
    refine r_gd (fun hc28 => ?_)
    refine r_callV (n := 1) (as := [lI v4]) (rest := []) 31 6 (s_X9_isKept hl G v2 v4 w19) hc28 rfl (lw_V q1180 q1181 q1182 q130 q1183) (by decide +kernel) (by decide) rfl rfl (cat2_nil (k := 0)) rfl dX1_missed_28 rfl (fun x28 w28 => ?_)
    refine r_if_eq 37 34 dX1_missed_31 (by decide) rfl ?_ ?_
    · refine r_iload_n 38 3 dX1_missed_37 rfl rfl rfl ?_
      refine r_iload_n 39 1 dX1_missed_38 rfl rfl rfl ?_
      refine r_icmp_ne 45 42 dX1_missed_39 (by decide) rfl ?_ ?_
      · refine r_iinc (v := v3 + 1) (ls2 := [(3, lI (v3 + 1)), (0, lR v0), (1, lI v1), (2, lR v2), (4, lI v4)]) 48 3 dX1_missed_45 rfl rfl (by decide) rfl rfl ?_
        exact r_lsP [1, 2, 3, 0, 4] rfl (t_X1_missed_b48 hl G (fun v0 v1 v2 v3 v4 w => f_X1_missed_l10 G k42 k54 F v0 v1 v2 v3 v4 w) (fun v0 v1 v2 v3 v4 w => ih v0 v1 v2 v3 v4 w)  v0 v1 v2 (v3 + 1) v4 w28)
      exact r_lsP [4] rfl (h42 v4 w28)
    refine r_goto 48 dX1_missed_34 (by decide) ?_
    exact r_lsP [0, 1, 2, 3, 4] rfl (t_X1_missed_b48 hl G (fun v0 v1 v2 v3 v4 w => f_X1_missed_l10 G k42 k54 F v0 v1 v2 v3 v4 w) (fun v0 v1 v2 v3 v4 w => ih v0 v1 v2 v3 v4 w)  v0 v1 v2 v3 v4 w28)
theorem t_X1_missed_b42 {l : Launch} {D : Dn} {H0 : Heap} {w0 : St} (hl : l.stackTraces = false) (G : Nat) (v4 : Int32) (w : St) : V_X1_missed l D H0 w0 (f_X1_missed_b42 G v4 w) 42 [(4, lI v4)] [] w := by
  unfold f_X1_missed_b42
  refine r_iload 44 0 dX1_missed_42 rfl rfl ?_
  exact r_iret rfl rfl dX1_missed_44
theorem t_X1_missed_b54 {l : Launch} {D : Dn} {H0 : Heap} {w0 : St} (hl : l.stackTraces = false) (G : Nat) (w : St) : V_X1_missed l D H0 w0 (f_X1_missed_b54 G  w) 54 [] [] w := by
  unfold f_X1_missed_b54
  refine r_make 61 21 (names := exNm) hl (by rfl) (by decide) (by decide) exNm_ok q1711 q117 at_21 (by decide) (cat2_nil (k := 0)) dX1_missed_54 dX1_missed_57 dX1_missed_58 rfl ?_
  exact r_athrow (isX_enew rfl (by decide)) dX1_missed_61 (r_pass (fun _ => rfl) rfl)
theorem t_X1_missed {l : Launch} {D : Dn} {H0 : Heap} {w0 : St} (hl : l.stackTraces = false) (G : Nat) (a0 : Rf) (a1 : Int32) (w : St) : V_X1_missed l D H0 w0 (f_X1_missed G a0 a1 w) 0 [(0, lR a0), (1, lI a1)] [] w := by
  unfold f_X1_missed
  refine r_aload_n 1 0 dX1_missed_0 rfl rfl rfl ?_
  refine r_gd (fun hc1 => ?_)
  refine r_callV (n := 0) (as := []) (rest := []) 4 0 (s_X1_net hl G a0 w) hc1 rfl (lw_V q290 q292 qs0 q100 q293) (by decide +kernel) (by decide) rfl rfl (cat2_nil (k := 0)) rfl dX1_missed_1 rfl (fun x1 w1 => ?_)
  refine r_astore_n (ls2 := [(2, lR x1), (0, lR a0), (1, lI a1)]) 5 dX1_missed_4 rfl (by decide) rfl rfl ?_
  refine r_iconst (v := 0) 6 dX1_missed_5 rfl rfl ?_
  refine r_istore_n (ls2 := [(3, lI 0), (2, lR x1), (0, lR a0), (1, lI a1)]) 7 dX1_missed_6 rfl (by decide) rfl rfl ?_
  refine r_iconst (v := 0) 8 dX1_missed_7 rfl rfl ?_
  refine r_istore (ls2 := [(4, lI 0), (3, lI 0), (2, lR x1), (0, lR a0), (1, lI a1)]) 10 dX1_missed_8 (by decide) rfl rfl ?_
  exact r_lsP [3, 4, 2, 1, 0] rfl (t_X1_missed_l10 hl G (fun v4 w => f_X1_missed_b42 G  v4 w) (fun v4 w => t_X1_missed_b42 hl G  v4 w) (fun w => f_X1_missed_b54 G  w) (fun w => t_X1_missed_b54 hl G  w) G a0 a1 x1 0 0 w1)
theorem s_X1_missed {l : Launch} {D : Dn} {H0 : Heap} (hl : l.stackTraces = false) (G : Nat) (a0 : Rf) (a1 : Int32) (w : St) : SimX l D H0 yX1_missed (ws_ yX1_missed cX1_missed 5 (some (.int))) 37 3149 (ocX rvI) [lR a0, lI a1] w (f_X1_missed G a0 a1 w) := SimX.ofV (y := yX1_missed) (by decide) rfl (t_X1_missed hl G a0 a1 w)
abbrev V_X1_waits (l : Launch) (D : Dn) (H0 : Heap) (w0 : St) (res : Option ((Nat ⊕ Int32) × St)) (pc : Nat) (ls : List (Nat × LV)) (st : List Value) (w : St) : Prop := V l D H0 RX1 "waits" cX1_waits 5 (some (.int)) [] 37 3149 (ocX rvI) w0 res pc ls st w
theorem t_X1_waits_b64 {l : Launch} {D : Dn} {H0 : Heap} {w0 : St} (hl : l.stackTraces = false) (G : Nat) (k16 : Rf → Int32 → Rf → Int32 → Int32 → St → Option ((Nat ⊕ Int32) × St)) (h16 : ∀ v0 v1 v2 v3 v4 w, V_X1_waits l D H0 w0 (k16 v0 v1 v2 v3 v4 w) 16 [(0, lR v0), (1, lI v1), (2, lR v2), (3, lI v3), (4, lI v4)] [] w) (v0 : Rf) (v1 : Int32) (v2 : Rf) (v4 : Int32) (s0 : Int32) (s1 : Int32) (w : St) : V_X1_waits l D H0 w0 (f_X1_waits_b64 G k16 v0 v1 v2 v4 s0 s1 w) 64 [(0, lR v0), (1, lI v1), (2, lR v2), (4, lI v4)] [.int s0, .int s1] w := by
  unfold f_X1_waits_b64
  refine r_iadd 65 dX1_waits_64 rfl ?_
  refine r_istore_n (ls2 := [(3, lI (s1 + s0)), (0, lR v0), (1, lI v1), (2, lR v2), (4, lI v4)]) 66 dX1_waits_65 rfl (by decide) rfl rfl ?_
  refine r_iinc (v := v4 + 1) (ls2 := [(4, lI (v4 + 1)), (3, lI (s1 + s0)), (0, lR v0), (1, lI v1), (2, lR v2)]) 69 4 dX1_waits_66 rfl rfl (by decide) rfl rfl ?_
  refine r_goto 16 dX1_waits_69 (by decide) ?_
  exact r_lsP [2, 3, 4, 1, 0] rfl (h16 v0 v1 v2 (s1 + s0) (v4 + 1) w)
theorem t_X1_waits_l16 {l : Launch} {D : Dn} {H0 : Heap} {w0 : St} (hl : l.stackTraces = false) (G : Nat) (k72 : Int32 → St → Option ((Nat ⊕ Int32) × St)) (h72 : ∀ v3 w, V_X1_waits l D H0 w0 (k72 v3 w) 72 [(3, lI v3)] [] w) : ∀ (F : Nat) (v0 : Rf) (v1 : Int32) (v2 : Rf) (v3 : Int32) (v4 : Int32) (w : St), V_X1_waits l D H0 w0 (f_X1_waits_l16 G k72 F v0 v1 v2 v3 v4 w) 16 [(0, lR v0), (1, lI v1), (2, lR v2), (3, lI v3), (4, lI v4)] [] w := by
  intro F
  induction F with
  | zero => intros; exact r_none
  | succ F ih =>
    intro v0 v1 v2 v3 v4 w
    unfold f_X1_waits_l16
    refine r_iload 18 4 dX1_waits_16 rfl rfl ?_
    refine r_aload_n 19 0 dX1_waits_18 rfl rfl rfl ?_
    refine r_getr 22 gf_X1_10 dX1_waits_19 rfl (fun x19 => ?_)
    refine r_getr 25 gf_X1_191 dX1_waits_22 rfl (fun x22 => ?_)
    refine r_gd (fun hc25 => ?_)
    refine r_callV (n := 0) (as := []) (rest := [.int v4]) 28 15 (sL_size hl x22 w) hc25 rfl (lw_V q857 q303 q304 q104 q305) (by decide +kernel) (by decide) rfl rfl (cat2_i (cat2_nil (k := 0))) rfl dX1_waits_25 rfl (fun x25 w25 => ?_)
    refine r_icmp_ge 72 31 dX1_waits_28 (by decide) rfl ?_ ?_
    · exact r_lsP [3] rfl (h72 v3 w25)
    refine r_iload_n 32 3 dX1_waits_31 rfl rfl rfl ?_
    refine r_aload_n 33 0 dX1_waits_32 rfl rfl rfl ?_
    refine r_getr 36 gf_X1_10 dX1_waits_33 rfl (fun x33 => ?_)
    refine r_getr 39 gf_X1_191 dX1_waits_36 rfl (fun x36 => ?_)
    refine r_iload 41 4 dX1_waits_39 rfl rfl ?_
    refine r_gd (fun hc41 => ?_)
    refine r_callV (n := 1) (as := [lI v4]) (rest := [.int v3]) 44 15 (sL_get hl x36 v4 w25) hc41 rfl (lw_V q858 q311 q312 q104 q313) (by decide +kernel) (by decide) rfl rfl (cat2_i (cat2_nil (k := 0))) rfl dX1_waits_41 rfl (fun x41 w41 => ?_)
    refine r_cast 47 (CA_cons (c0 := 5) rfl (Or.inl rfl) (CA_nil)) q1155 dX1_waits_44 rfl ?_
    refine r_geti 50 gf_X1_258 dX1_waits_47 rfl (fun x47 => ?_)
    refine r_iload_n 51 1 dX1_waits_50 rfl rfl rfl ?_
    refine r_icmp_ne 63 54 dX1_waits_51 (by decide) rfl ?_ ?_
    · refine r_iconst (v := 0) 64 dX1_waits_63 rfl rfl ?_
      exact r_lsP [0, 1, 2, 4] rfl (t_X1_waits_b64 hl G (fun v0 v1 v2 v3 v4 w => f_X1_waits_l16 G k72 F v0 v1 v2 v3 v4 w) (fun v0 v1 v2 v3 v4 w => ih v0 v1 v2 v3 v4 w)  v0 v1 v2 v4 0 v3 w41)
    refine r_aload_n 55 2 dX1_waits_54 rfl rfl rfl ?_
    refine r_iload 57 4 dX1_waits_55 rfl rfl ?_
    refine r_gd (fun hc57 => ?_)
    refine r_callV (n := 1) (as := [lI v4]) (rest := [.int v3]) 60 6 (s_X9_waited hl G v2 v4 w41) hc57 rfl (lw_V q1190 q1191 q1192 q130 q1193) (by decide +kernel) (by decide) rfl rfl (cat2_i (cat2_nil (k := 0))) rfl dX1_waits_57 rfl (fun x57 w57 => ?_)
    refine r_goto 64 dX1_waits_60 (by decide) ?_
    exact r_lsP [0, 1, 2, 4] rfl (t_X1_waits_b64 hl G (fun v0 v1 v2 v3 v4 w => f_X1_waits_l16 G k72 F v0 v1 v2 v3 v4 w) (fun v0 v1 v2 v3 v4 w => ih v0 v1 v2 v3 v4 w)  v0 v1 v2 v4 x57 v3 w57)
theorem t_X1_waits_b72 {l : Launch} {D : Dn} {H0 : Heap} {w0 : St} (hl : l.stackTraces = false) (G : Nat) (v3 : Int32) (w : St) : V_X1_waits l D H0 w0 (f_X1_waits_b72 G v3 w) 72 [(3, lI v3)] [] w := by
  unfold f_X1_waits_b72
  refine r_iload_n 73 0 dX1_waits_72 rfl rfl rfl ?_
  exact r_iret rfl rfl dX1_waits_73
theorem t_X1_waits {l : Launch} {D : Dn} {H0 : Heap} {w0 : St} (hl : l.stackTraces = false) (G : Nat) (a0 : Rf) (a1 : Int32) (w : St) : V_X1_waits l D H0 w0 (f_X1_waits G a0 a1 w) 0 [(0, lR a0), (1, lI a1)] [] w := by
  unfold f_X1_waits
  refine r_aload_n 1 0 dX1_waits_0 rfl rfl rfl ?_
  refine r_iload_n 2 1 dX1_waits_1 rfl rfl rfl ?_
  refine r_gd (fun hc2 => ?_)
  rw [bx_bh]
  refine r_callHV (n := 1) (as := [lI a1]) (rest := []) 5 0 (s_X1_coach0 hl G a0 a1 w) hc2 rfl (lw_V q1605 q1607 qs18 q100 q1608) (by decide +kernel) (by decide) rfl rfl (cat2_nil (k := 0)) rfl dX1_waits_2 rfl (fun q9 w2 => r_pass (fun _ => rfl) rfl) (fun x2 w2 => ?_)
  refine r_pop_r 6 dX1_waits_5 rfl ?_
  refine r_aload_n 7 0 dX1_waits_6 rfl rfl rfl ?_
  refine r_gd (fun hc7 => ?_)
  refine r_callV (n := 0) (as := []) (rest := []) 10 0 (s_X1_net hl G a0 w2) hc7 rfl (lw_V q290 q292 qs0 q100 q293) (by decide +kernel) (by decide) rfl rfl (cat2_nil (k := 0)) rfl dX1_waits_7 rfl (fun x7 w7 => ?_)
  refine r_astore_n (ls2 := [(2, lR x7), (0, lR a0), (1, lI a1)]) 11 dX1_waits_10 rfl (by decide) rfl rfl ?_
  refine r_iconst (v := 0) 12 dX1_waits_11 rfl rfl ?_
  refine r_istore_n (ls2 := [(3, lI 0), (2, lR x7), (0, lR a0), (1, lI a1)]) 13 dX1_waits_12 rfl (by decide) rfl rfl ?_
  refine r_iconst (v := 0) 14 dX1_waits_13 rfl rfl ?_
  refine r_istore (ls2 := [(4, lI 0), (3, lI 0), (2, lR x7), (0, lR a0), (1, lI a1)]) 16 dX1_waits_14 (by decide) rfl rfl ?_
  exact r_lsP [3, 4, 2, 1, 0] rfl (t_X1_waits_l16 hl G (fun v3 w => f_X1_waits_b72 G  v3 w) (fun v3 w => t_X1_waits_b72 hl G  v3 w) G a0 a1 x7 0 0 w7)
theorem s_X1_waits {l : Launch} {D : Dn} {H0 : Heap} (hl : l.stackTraces = false) (G : Nat) (a0 : Rf) (a1 : Int32) (w : St) : SimX l D H0 yX1_waits (ws_ yX1_waits cX1_waits 5 (some (.int))) 37 3149 (ocX rvI) [lR a0, lI a1] w (f_X1_waits G a0 a1 w) := SimX.ofV (y := yX1_waits) (by decide) rfl (t_X1_waits hl G a0 a1 w)
abbrev V_X1_knocks (l : Launch) (D : Dn) (H0 : Heap) (w0 : St) (res : Option ((Nat ⊕ Int32) × St)) (pc : Nat) (ls : List (Nat × LV)) (st : List Value) (w : St) : Prop := V l D H0 RX1 "knocks" cX1_knocks 6 (some (.int)) [] 37 3149 (ocX rvI) w0 res pc ls st w
theorem t_X1_knocks_b95 {l : Launch} {D : Dn} {H0 : Heap} {w0 : St} (hl : l.stackTraces = false) (G : Nat) (k39 : Int32 → Rf → Rf → Int32 → Int32 → St → Option ((Nat ⊕ Int32) × St)) (h39 : ∀ v1 v2 v3 v4 v5 w, V_X1_knocks l D H0 w0 (k39 v1 v2 v3 v4 v5 w) 39 [(1, lI v1), (2, lR v2), (3, lR v3), (4, lI v4), (5, lI v5)] [] w) (v1 : Int32) (v2 : Rf) (v3 : Rf) (v5 : Int32) (s0 : Int32) (s1 : Int32) (w : St) : V_X1_knocks l D H0 w0 (f_X1_knocks_b95 G k39 v1 v2 v3 v5 s0 s1 w) 95 [(1, lI v1), (2, lR v2), (3, lR v3), (5, lI v5)] [.int s0, .int s1] w := by
  unfold f_X1_knocks_b95
  refine r_iadd 96 dX1_knocks_95 rfl ?_
  refine r_istore (ls2 := [(4, lI (s1 + s0)), (1, lI v1), (2, lR v2), (3, lR v3), (5, lI v5)]) 98 dX1_knocks_96 (by decide) rfl rfl ?_
  refine r_iinc (v := v5 + 1) (ls2 := [(5, lI (v5 + 1)), (4, lI (s1 + s0)), (1, lI v1), (2, lR v2), (3, lR v3)]) 101 4 dX1_knocks_98 rfl rfl (by decide) rfl rfl ?_
  refine r_goto 39 dX1_knocks_101 (by decide) ?_
  exact r_lsP [2, 3, 4, 1, 0] rfl (h39 v1 v2 v3 (s1 + s0) (v5 + 1) w)
theorem t_X1_knocks_l39 {l : Launch} {D : Dn} {H0 : Heap} {w0 : St} (hl : l.stackTraces = false) (G : Nat) (k104 : Int32 → St → Option ((Nat ⊕ Int32) × St)) (h104 : ∀ v4 w, V_X1_knocks l D H0 w0 (k104 v4 w) 104 [(4, lI v4)] [] w) : ∀ (F : Nat) (v1 : Int32) (v2 : Rf) (v3 : Rf) (v4 : Int32) (v5 : Int32) (w : St), V_X1_knocks l D H0 w0 (f_X1_knocks_l39 G k104 F v1 v2 v3 v4 v5 w) 39 [(1, lI v1), (2, lR v2), (3, lR v3), (4, lI v4), (5, lI v5)] [] w := by
  intro F
  induction F with
  | zero => intros; exact r_none
  | succ F ih =>
    intro v1 v2 v3 v4 v5 w
    unfold f_X1_knocks_l39
    refine r_iload 41 4 dX1_knocks_39 rfl rfl ?_
    refine r_aload_n 42 1 dX1_knocks_41 rfl rfl rfl ?_
    refine r_gd (fun hc42 => ?_)
    refine r_callV (n := 0) (as := []) (rest := [.int v5]) 45 15 (sL_size hl v2 w) hc42 rfl (lw_V q857 q303 q304 q104 q305) (by decide +kernel) (by decide) rfl rfl (cat2_i (cat2_nil (k := 0))) rfl dX1_knocks_42 rfl (fun x42 w42 => ?_)
    refine r_icmp_ge 104 48 dX1_knocks_45 (by decide) rfl ?_ ?_
    · exact r_lsP [3] rfl (h104 v4 w42)
    refine r_iload 50 3 dX1_knocks_48 rfl rfl ?_
    refine r_aload_n 51 1 dX1_knocks_50 rfl rfl rfl ?_
    refine r_iload 53 4 dX1_knocks_51 rfl rfl ?_
    refine r_gd (fun hc53 => ?_)
    refine r_callV (n := 1) (as := [lI v5]) (rest := [.int v4]) 56 15 (sL_get hl v2 v5 w42) hc53 rfl (lw_V q858 q311 q312 q104 q313) (by decide +kernel) (by decide) rfl rfl (cat2_i (cat2_nil (k := 0))) rfl dX1_knocks_53 rfl (fun x53 w53 => ?_)
    refine r_cast 59 (CA_cons (c0 := 7) rfl (Or.inl rfl) (CA_cons (c0 := 9) rfl (Or.inr q2711) (CA_nil))) q859 dX1_knocks_56 rfl ?_
    refine r_geti 62 gf_X1_334 dX1_knocks_59 rfl (fun x59 => ?_)
    refine r_iload_n 63 0 dX1_knocks_62 rfl rfl rfl ?_
    refine r_icmp_ne 70 66 dX1_knocks_63 (by decide) rfl ?_ ?_
    · refine r_aload_n 71 1 dX1_knocks_70 rfl rfl rfl ?_
      refine r_iload 73 4 dX1_knocks_71 rfl rfl ?_
      refine r_gd (fun hc73 => ?_)
      refine r_callV (n := 1) (as := [lI v5]) (rest := [.int v4]) 76 15 (sL_get hl v2 v5 w53) hc73 rfl (lw_V q858 q311 q312 q104 q313) (by decide +kernel) (by decide) rfl rfl (cat2_i (cat2_nil (k := 0))) rfl dX1_knocks_73 rfl (fun x73 w73 => ?_)
      refine r_cast 79 (CA_cons (c0 := 7) rfl (Or.inl rfl) (CA_cons (c0 := 9) rfl (Or.inr q2711) (CA_nil))) q859 dX1_knocks_76 rfl ?_
      refine r_geti 82 gf_X1_297 dX1_knocks_79 rfl (fun x79 => ?_)
      refine r_aload_n 83 2 dX1_knocks_82 rfl rfl rfl ?_
      refine r_iload 85 4 dX1_knocks_83 rfl rfl ?_
      refine r_gd (fun hc85 => ?_)
      refine r_callV (n := 1) (as := [lI v5]) (rest := [.int x79, .int v4]) 88 15 (sL_get hl v3 v5 w73) hc85 rfl (lw_V q858 q311 q312 q104 q313) (by decide +kernel) (by decide) rfl rfl (cat2_i (cat2_i (cat2_nil (k := 0)))) rfl dX1_knocks_85 rfl (fun x85 w85 => ?_)
      refine r_cast 91 (CA_cons (c0 := 7) rfl (Or.inl rfl) (CA_cons (c0 := 9) rfl (Or.inr q2711) (CA_nil))) q859 dX1_knocks_88 rfl ?_
      refine r_geti 94 gf_X1_297 dX1_knocks_91 rfl (fun x91 => ?_)
      refine r_isub 95 dX1_knocks_94 rfl ?_
      exact r_lsP [0, 1, 2, 4] rfl (t_X1_knocks_b95 hl G (fun v1 v2 v3 v4 v5 w => f_X1_knocks_l39 G k104 F v1 v2 v3 v4 v5 w) (fun v1 v2 v3 v4 v5 w => ih v1 v2 v3 v4 v5 w)  v1 v2 v3 v5 (x79 - x91) v4 w85)
    refine r_iconst (v := 0) 67 dX1_knocks_66 rfl rfl ?_
    refine r_goto 95 dX1_knocks_67 (by decide) ?_
    exact r_lsP [0, 1, 2, 4] rfl (t_X1_knocks_b95 hl G (fun v1 v2 v3 v4 v5 w => f_X1_knocks_l39 G k104 F v1 v2 v3 v4 v5 w) (fun v1 v2 v3 v4 v5 w => ih v1 v2 v3 v4 v5 w)  v1 v2 v3 v5 0 v4 w53)
theorem t_X1_knocks_b104 {l : Launch} {D : Dn} {H0 : Heap} {w0 : St} (hl : l.stackTraces = false) (G : Nat) (v4 : Int32) (w : St) : V_X1_knocks l D H0 w0 (f_X1_knocks_b104 G v4 w) 104 [(4, lI v4)] [] w := by
  unfold f_X1_knocks_b104
  refine r_iload 106 0 dX1_knocks_104 rfl rfl ?_
  exact r_iret rfl rfl dX1_knocks_106
theorem t_X1_knocks {l : Launch} {D : Dn} {H0 : Heap} {w0 : St} (hl : l.stackTraces = false) (G : Nat) (a0 : Rf) (a1 : Int32) (w : St) : V_X1_knocks l D H0 w0 (f_X1_knocks G a0 a1 w) 0 [(0, lR a0), (1, lI a1)] [] w := by
  unfold f_X1_knocks
  refine r_aload_n 1 0 dX1_knocks_0 rfl rfl rfl ?_
  refine r_iload_n 2 1 dX1_knocks_1 rfl rfl rfl ?_
  refine r_gd (fun hc2 => ?_)
  rw [bx_bh]
  refine r_callHV (n := 1) (as := [lI a1]) (rest := []) 5 0 (s_X1_coach0 hl G a0 a1 w) hc2 rfl (lw_V q1605 q1607 qs18 q100 q1608) (by decide +kernel) (by decide) rfl rfl (cat2_nil (k := 0)) rfl dX1_knocks_2 rfl (fun q9 w2 => r_pass (fun _ => rfl) rfl) (fun x2 w2 => ?_)
  refine r_pop_r 6 dX1_knocks_5 rfl ?_
  refine r_aload_n 7 0 dX1_knocks_6 rfl rfl rfl ?_
  refine r_gd (fun hc7 => ?_)
  refine r_callV (n := 0) (as := []) (rest := []) 10 0 (s_X1_net hl G a0 w2) hc7 rfl (lw_V q290 q292 qs0 q100 q293) (by decide +kernel) (by decide) rfl rfl (cat2_nil (k := 0)) rfl dX1_knocks_7 rfl (fun x7 w7 => ?_)
  refine r_getr 13 gf_X1_331 dX1_knocks_10 rfl (fun x10 => ?_)
  refine r_astore_n (ls2 := [(2, lR x10), (0, lR a0), (1, lI a1)]) 14 dX1_knocks_13 rfl (by decide) rfl rfl ?_
  refine r_nw (C := RX9) (T := TX9) (N := 3) (ty := tyX9) 17 6 rfl rfl in_X9 tyX9_ok q294 q295 q130 rfl (by decide) dX1_knocks_14 rfl (fun b14 w14 => ?_)
  refine r_dup_r 18 dX1_knocks_17 rfl ?_
  refine r_aload_n 19 1 dX1_knocks_18 rfl rfl rfl ?_
  refine r_getr 22 gf_X1_10 dX1_knocks_19 rfl (fun x19 => ?_)
  refine r_iload_n 23 2 dX1_knocks_22 rfl rfl rfl ?_
  refine r_callI (b := b14) (n := 2) (as := [lR x19, lI a1]) (rest := [rf ((some b14))]) 26 (s_X9_init hl G b14 x19 a1 w14) (lw_meth q298) q130 q296 q297 rfl (by decide +kernel) (by decide) rfl rfl (cat2_r (cat2_nil (k := 0))) rfl dX1_knocks_23 rfl (fun _ w23 => ?_)
  refine r_gd (fun hc26 => ?_)
  refine r_callV (n := 0) (as := []) (rest := []) 29 6 (s_X9_inTurn hl G ((some b14)) w23) hc26 rfl (lw_V q740 q741 q742 q130 q743) (by decide +kernel) (by decide) rfl rfl (cat2_nil (k := 0)) rfl dX1_knocks_26 rfl (fun x26 w26 => ?_)
  refine r_getr 32 gf_X1_331 dX1_knocks_29 rfl (fun x29 => ?_)
  refine r_astore_n (ls2 := [(3, lR x29), (2, lR x10), (0, lR a0), (1, lI a1)]) 33 dX1_knocks_32 rfl (by decide) rfl rfl ?_
  refine r_iconst (v := 0) 34 dX1_knocks_33 rfl rfl ?_
  refine r_istore (ls2 := [(4, lI 0), (3, lR x29), (2, lR x10), (0, lR a0), (1, lI a1)]) 36 dX1_knocks_34 (by decide) rfl rfl ?_
  refine r_iconst (v := 0) 37 dX1_knocks_36 rfl rfl ?_
  refine r_istore (ls2 := [(5, lI 0), (4, lI 0), (3, lR x29), (2, lR x10), (0, lR a0), (1, lI a1)]) 39 dX1_knocks_37 (by decide) rfl rfl ?_
  exact r_lsP [5, 3, 2, 1, 0] rfl (t_X1_knocks_l39 hl G (fun v4 w => f_X1_knocks_b104 G  v4 w) (fun v4 w => t_X1_knocks_b104 hl G  v4 w) G a1 x10 x29 0 0 w26)
theorem s_X1_knocks {l : Launch} {D : Dn} {H0 : Heap} (hl : l.stackTraces = false) (G : Nat) (a0 : Rf) (a1 : Int32) (w : St) : SimX l D H0 yX1_knocks (ws_ yX1_knocks cX1_knocks 6 (some (.int))) 37 3149 (ocX rvI) [lR a0, lI a1] w (f_X1_knocks G a0 a1 w) := SimX.ofV (y := yX1_knocks) (by decide) rfl (t_X1_knocks hl G a0 a1 w)
