set_option maxRecDepth 100000
set_option maxHeartbeats 4000000
theorem gf_X16_106 : GF RX16 106 [14] 0 := GF1 (C := RX17) (T := TX17) (N := 3) (ci := 14) rfl in_X17 (by decide) (Or.inr ⟨_, q1902⟩) (Or.inl rfl)
theorem gf_X16_112 : GF RX16 112 [14] 2 := GF1 (C := RX17) (T := TX17) (N := 3) (ci := 14) rfl in_X17 (by decide) (Or.inr ⟨_, q1907⟩) (Or.inl rfl)
theorem gf_X16_115 : GF RX16 115 [14] 1 := GF1 (C := RX17) (T := TX17) (N := 3) (ci := 14) rfl in_X17 (by decide) (Or.inr ⟨_, q1905⟩) (Or.inl rfl)
theorem gf_X16_12 : GF RX16 12 [13] 1 := GF1 (C := RX16) (T := TX16) (N := 4) (ci := 13) rfl in_X16 (by decide) (Or.inl q1834) (Or.inl rfl)
theorem gf_X16_18 : GF RX16 18 [13] 0 := GF1 (C := RX16) (T := TX16) (N := 4) (ci := 13) rfl in_X16 (by decide) (Or.inl q1833) (Or.inl rfl)
theorem gf_X16_22 : GF RX16 22 [13] 2 := GF1 (C := RX16) (T := TX16) (N := 4) (ci := 13) rfl in_X16 (by decide) (Or.inl q1836) (Or.inl rfl)
theorem gf_X16_36 : GF RX16 36 [13] 3 := GF1 (C := RX16) (T := TX16) (N := 4) (ci := 13) rfl in_X16 (by decide) (Or.inl q1837) (Or.inl rfl)
theorem gf_X1_26 : GF RX1 26 [0] 3 := GF1 (C := RX1) (T := TX1) (N := 8) (ci := 0) rfl in_X1 (by decide) (Or.inl q264) (Or.inl rfl)
theorem gf_X1_356 : GF RX1 356 [7, 9] 2 := (GF.app (GF1 (C := RX10) (T := TX10) (N := 11) (ci := 7) rfl in_X10 (by decide) (Or.inr ⟨_, q365⟩) (Or.inl rfl)) (GF1 (C := RX12) (T := TX12) (N := 14) (ci := 9) rfl in_X12 (by decide) (Or.inr ⟨_, q365⟩) (Or.inl rfl)))
theorem gf_X1_366 : GF RX1 366 [14] 1 := GF1 (C := RX17) (T := TX17) (N := 3) (ci := 14) rfl in_X17 (by decide) (Or.inr ⟨_, q1906⟩) (Or.inl rfl)
theorem gf_X1_372 : GF RX1 372 [14] 0 := GF1 (C := RX17) (T := TX17) (N := 3) (ci := 14) rfl in_X17 (by decide) (Or.inr ⟨_, q1903⟩) (Or.inl rfl)
theorem gf_X1_392 : GF RX1 392 [14] 2 := GF1 (C := RX17) (T := TX17) (N := 3) (ci := 14) rfl in_X17 (by decide) (Or.inr ⟨_, q1908⟩) (Or.inl rfl)
theorem gf_X1_42 : GF RX1 42 [0] 7 := GF1 (C := RX1) (T := TX1) (N := 8) (ci := 0) rfl in_X1 (by decide) (Or.inl q268) (Or.inl rfl)
theorem gf_X1_441 : GF RX1 441 [13] 1 := GF1 (C := RX16) (T := TX16) (N := 4) (ci := 13) rfl in_X16 (by decide) (Or.inr ⟨_, q1835⟩) (Or.inl rfl)
theorem gf_X1_448 : GF RX1 448 [2] 2 := GF1 (C := RX4) (T := TX4) (N := 3) (ci := 2) rfl in_X4 (by decide) (Or.inr ⟨_, q1381⟩) (Or.inl rfl)
theorem gf_X1_453 : GF RX1 453 [2] 1 := GF1 (C := RX4) (T := TX4) (N := 3) (ci := 2) rfl in_X4 (by decide) (Or.inr ⟨_, q1379⟩) (Or.inl rfl)
theorem gf_X1_456 : GF RX1 456 [2] 0 := GF1 (C := RX4) (T := TX4) (N := 3) (ci := 2) rfl in_X4 (by decide) (Or.inr ⟨_, q1377⟩) (Or.inl rfl)
theorem pf_X16_112 {nm9 : String} : PF RX16 nm9 112 [14] 2 (.boolean) := PF1 (own := RX16) (nm := nm9) (idx := 112) (k := 2) (ty := .boolean) (C := RX17) (T := TX17) (N := 3) (ci := 14) rfl in_X17 tyX17_ok nmX17 (by decide) rfl (Or.inl rfl) (Or.inr ⟨_, q1907⟩) (Or.inl rfl)
theorem pf_X16_12 : PF RX16 "<init>" 12 [13] 1 (.object "java/util/ArrayList") := PF1 (own := RX16) (nm := "<init>") (idx := 12) (k := 1) (ty := (.object "java/util/ArrayList")) (C := RX16) (T := TX16) (N := 4) (ci := 13) rfl in_X16 tyX16_ok nmX16 (by decide) rfl (Or.inr ⟨rfl, rfl, rfl, q1834⟩) (Or.inl q1834) (Or.inl rfl)
theorem pf_X16_18 : PF RX16 "<init>" 18 [13] 0 (.object "java/lang/String") := PF1 (own := RX16) (nm := "<init>") (idx := 18) (k := 0) (ty := (.object "java/lang/String")) (C := RX16) (T := TX16) (N := 4) (ci := 13) rfl in_X16 tyX16_ok nmX16 (by decide) rfl (Or.inr ⟨rfl, rfl, rfl, q1833⟩) (Or.inl q1833) (Or.inl rfl)
theorem pf_X16_22 {nm9 : String} : PF RX16 nm9 22 [13] 2 (.int) := PF1 (own := RX16) (nm := nm9) (idx := 22) (k := 2) (ty := .int) (C := RX16) (T := TX16) (N := 4) (ci := 13) rfl in_X16 tyX16_ok nmX16 (by decide) rfl (Or.inl rfl) (Or.inl q1836) (Or.inl rfl)
theorem pf_X16_36 {nm9 : String} : PF RX16 nm9 36 [13] 3 (.boolean) := PF1 (own := RX16) (nm := nm9) (idx := 36) (k := 3) (ty := .boolean) (C := RX16) (T := TX16) (N := 4) (ci := 13) rfl in_X16 tyX16_ok nmX16 (by decide) rfl (Or.inl rfl) (Or.inl q1837) (Or.inl rfl)
theorem pf_X17_13 : PF RX17 "<init>" 13 [14] 0 (.object "java/lang/String") := PF1 (own := RX17) (nm := "<init>") (idx := 13) (k := 0) (ty := (.object "java/lang/String")) (C := RX17) (T := TX17) (N := 3) (ci := 14) rfl in_X17 tyX17_ok nmX17 (by decide) rfl (Or.inr ⟨rfl, rfl, rfl, q1901⟩) (Or.inl q1901) (Or.inl rfl)
theorem pf_X17_7 : PF RX17 "<init>" 7 [14] 1 (.array (.int)) := PF1 (own := RX17) (nm := "<init>") (idx := 7) (k := 1) (ty := (.array (.int))) (C := RX17) (T := TX17) (N := 3) (ci := 14) rfl in_X17 tyX17_ok nmX17 (by decide) rfl (Or.inr ⟨rfl, rfl, rfl, q1904⟩) (Or.inl q1904) (Or.inl rfl)
theorem pf_X1_82 {nm9 : String} : PF RX1 nm9 82 [0] 5 (.boolean) := PF1 (own := RX1) (nm := nm9) (idx := 82) (k := 5) (ty := .boolean) (C := RX1) (T := TX1) (N := 8) (ci := 0) rfl in_X1 tyX1_ok nmX1 (by decide) rfl (Or.inl rfl) (Or.inl q266) (Or.inl rfl)
theorem pf_X9_165 {nm9 : String} : PF RX9 nm9 165 [9] 12 (.int) := PF1 (own := RX9) (nm := nm9) (idx := 165) (k := 12) (ty := .int) (C := RX12) (T := TX12) (N := 14) (ci := 9) rfl in_X12 tyX12_ok nmX12 (by decide) rfl (Or.inl rfl) (Or.inr ⟨_, q513⟩) (Or.inl rfl)
noncomputable def f_X1_reaches_b98 (G : Nat) (k39 : Int32 → Rf → Rf → Int32 → Int32 → St → Option ((Nat ⊕ Int32) × St)) (v1 : Int32) (v2 : Rf) (v3 : Rf) (v5 : Int32) (s0 : Int32) (s1 : Int32) (w : St) : Option ((Nat ⊕ Int32) × St) :=
  k39 v1 v2 v3 (s1 + s0) (v5 + 1) w
noncomputable def f_X1_reaches_b97 (G : Nat) (k39 : Int32 → Rf → Rf → Int32 → Int32 → St → Option ((Nat ⊕ Int32) × St)) (v1 : Int32) (v2 : Rf) (v3 : Rf) (v5 : Int32) (s0 : Int32) (w : St) : Option ((Nat ⊕ Int32) × St) :=
  f_X1_reaches_b98 G k39  v1 v2 v3 v5 0 s0 w
noncomputable def f_X1_reaches_l39 (G : Nat) (k107 : Int32 → St → Option ((Nat ⊕ Int32) × St)) : Nat → Int32 → Rf → Rf → Int32 → Int32 → St → Option ((Nat ⊕ Int32) × St)
  | 0, _, _, _, _, _, _ => none
  | F + 1, v1, v2, v3, v4, v5, w =>
  gd (cls v2 w = some 15) <|
  bd (fL_size v2 w) fun x42 w42 =>
  if x42 ≤ v5 then (k107 v4 w42) else
  (gd (cls v2 w42 = some 15) <|
  bd (fL_get v2 v5 w42) fun x53 w53 =>
  gd (okc [7, 9] x53 w53 = true) <|
  bo (geti [7, 9] x53 0 w53) fun x59 =>
  if x59 = v1 then (f_X1_reaches_b97 G (fun v1 v2 v3 v4 v5 w => f_X1_reaches_l39 G k107 F v1 v2 v3 v4 v5 w)  v1 v2 v3 v5 v4 w53) else
  (gd (cls v2 w53 = some 15) <|
  bd (fL_get v2 v5 w53) fun x69 w69 =>
  gd (okc [7, 9] x69 w69 = true) <|
  bo (geti [7, 9] x69 7 w69) fun x75 =>
  gd (cls v3 w69 = some 15) <|
  bd (fL_get v3 v5 w69) fun x81 w81 =>
  gd (okc [7, 9] x81 w81 = true) <|
  bo (geti [7, 9] x81 7 w81) fun x87 =>
  if x75 = x87 then (f_X1_reaches_b97 G (fun v1 v2 v3 v4 v5 w => f_X1_reaches_l39 G k107 F v1 v2 v3 v4 v5 w)  v1 v2 v3 v5 v4 w81) else
  (f_X1_reaches_b98 G (fun v1 v2 v3 v4 v5 w => f_X1_reaches_l39 G k107 F v1 v2 v3 v4 v5 w)  v1 v2 v3 v5 1 v4 w81)))
noncomputable def f_X1_reaches_b107 (G : Nat) (v4 : Int32) (w : St) : Option ((Nat ⊕ Int32) × St) :=
  some ((Sum.inr v4), w)
noncomputable def f_X1_reaches (G : Nat) (a0 : Rf) (a1 : Int32) (w : St) : Option ((Nat ⊕ Int32) × St) :=
  gd (cls a0 w = some 0) <|
  bx (f_X1_coach0 G a0 a1 w) fun x2 w2 =>
  gd (cls a0 w2 = some 0) <|
  bd (f_X1_net G a0 w2) fun x7 w7 =>
  bo (getr [6] x7 0 w7) fun x10 =>
  bd (nw 6 [.null, .null, .int 0] 3 w7) fun b14 w14 =>
  bo (getr [0] a0 0 w14) fun x19 =>
  bd (f_X9_init G b14 x19 a1 w14) fun _ w23 =>
  gd (cls ((some b14)) w23 = some 6) <|
  bd (f_X9_inTurn G ((some b14)) w23) fun x26 w26 =>
  bo (getr [6] x26 0 w26) fun x29 =>
  f_X1_reaches_l39 G (fun v4 w => f_X1_reaches_b107 G  v4 w) G a1 x10 x29 0 0 w26
noncomputable def f_X9_with_b46 (G : Nat) (k8 : Rf → Int32 → Rf → St → Option (Rf × St)) (v0 : Rf) (v1 : Int32) (v2 : Rf) (w : St) : Option (Rf × St) :=
  k8 v0 v1 v2 w
noncomputable def f_X9_with_l8 (G : Nat) (k49 : Rf → St → Option (Rf × St)) : Nat → Rf → Int32 → Rf → St → Option (Rf × St)
  | 0, _, _, _, _ => none
  | F + 1, v0, v1, v2, w =>
  gd (cls v2 w = some 16) <|
  bd (fI_hasNext v2 w) fun x9 w9 =>
  if x9 = 0 then (k49 v0 w9) else
  (gd (cls v2 w9 = some 16) <|
  bd (fI_next v2 w9) fun x18 w18 =>
  gd (okc [7, 9] x18 w18 = true) <|
  bo (isIn [9] [7] x18 w18) fun x28 =>
  if x28 = 0 then (f_X9_with_b46 G (fun v0 v1 v2 w => f_X9_with_l8 G k49 F v0 v1 v2 w)  v0 v1 v2 w18) else
  (gd (okc [9] x18 w18 = true) <|
  bo (puti [9] x18 12 v1 w18) fun w43 =>
  f_X9_with_b46 G (fun v0 v1 v2 w => f_X9_with_l8 G k49 F v0 v1 v2 w)  v0 v1 v2 w43))
noncomputable def f_X9_with_b49 (G : Nat) (v0 : Rf) (w : St) : Option (Rf × St) :=
  gd (cls v0 w = some 6) <|
  bd (f_X9_inTurn G v0 w) fun x50 w50 =>
  some (x50, w50)
noncomputable def f_X9_with (G : Nat) (a0 : Rf) (a1 : Int32) (w : St) : Option (Rf × St) :=
  bo (getr [6] a0 0 w) fun x1 =>
  gd (cls x1 w = some 15) <|
  bd (fL_iterator x1 w) fun x4 w4 =>
  f_X9_with_l8 G (fun v0 w => f_X9_with_b49 G  v0 w) G a0 a1 x4 w4
noncomputable def f_X1_netWith (G : Nat) (a0 : Rf) (a1 : Int32) (w : St) : Option ((Nat ⊕ Rf) × St) :=
  bd (f_X1_isBetween G a1 0 60 w) fun x4 w4 =>
  bx (f_X1_check G x4 w4) fun _ w7 =>
  bd (nw 6 [.null, .null, .int 0] 3 w7) fun b10 w10 =>
  bo (getr [0] a0 0 w10) fun x15 =>
  bd (f_X9_init G b10 x15 ((-1)) w10) fun _ w19 =>
  gd (cls ((some b10)) w19 = some 6) <|
  bd (f_X9_with G ((some b10)) a1 w19) fun x23 w23 =>
  some ((Sum.inr x23), w23)
noncomputable def f_X1_totalWith (G : Nat) (a0 : Rf) (a1 : Int32) (w : St) : Option ((Nat ⊕ Int32) × St) :=
  gd (cls a0 w = some 0) <|
  bx (f_X1_netWith G a0 a1 w) fun x2 w2 =>
  gd (cls x2 w2 = some 6) <|
  bd (f_X9_total G x2 w2) fun x5 w5 =>
  some ((Sum.inr x5), w5)
noncomputable def f_X9_kept_b32 (G : Nat) (k4 : Rf → Int32 → Int32 → St → Option (Int32 × St)) (v0 : Rf) (v2 : Int32) (s0 : Int32) (s1 : Int32) (w : St) : Option (Int32 × St) :=
  k4 v0 (s1 + s0) (v2 + 1) w
noncomputable def f_X9_kept_l4 (G : Nat) (k40 : Int32 → St → Option (Int32 × St)) : Nat → Rf → Int32 → Int32 → St → Option (Int32 × St)
  | 0, _, _, _, _ => none
  | F + 1, v0, v1, v2, w =>
  bo (getr [6] v0 1 w) fun x6 =>
  bo (getr [1] x6 1 w) fun x9 =>
  gd (cls x9 w = some 15) <|
  bd (fL_size x9 w) fun x12 w12 =>
  if x12 ≤ v2 then (k40 v1 w12) else
  (gd (cls v0 w12 = some 6) <|
  bd (f_X9_isKept G v0 v2 w12) fun x21 w21 =>
  if x21 = 0 then (f_X9_kept_b32 G (fun v0 v1 v2 w => f_X9_kept_l4 G k40 F v0 v1 v2 w)  v0 v2 0 v1 w21) else
  (f_X9_kept_b32 G (fun v0 v1 v2 w => f_X9_kept_l4 G k40 F v0 v1 v2 w)  v0 v2 1 v1 w21))
noncomputable def f_X9_kept_b40 (G : Nat) (v1 : Int32) (w : St) : Option (Int32 × St) :=
  some (v1, w)
noncomputable def f_X9_kept (G : Nat) (a0 : Rf) (w : St) : Option (Int32 × St) :=
  f_X9_kept_l4 G (fun v1 w => f_X9_kept_b40 G  v1 w) G a0 0 0 w
noncomputable def f_X1_missedWith (G : Nat) (a0 : Rf) (a1 : Int32) (w : St) : Option ((Nat ⊕ Int32) × St) :=
  bo (getr [0] a0 0 w) fun x1 =>
  bo (getr [1] x1 1 w) fun x4 =>
  gd (cls x4 w = some 15) <|
  bd (fL_size x4 w) fun x7 w7 =>
  gd (cls a0 w7 = some 0) <|
  bx (f_X1_netWith G a0 a1 w7) fun x12 w12 =>
  gd (cls x12 w12 = some 6) <|
  bd (f_X9_kept G x12 w12) fun x15 w15 =>
  some ((Sum.inr (x7 - x15)), w15)
noncomputable def f_X1_bestLimit_b89 (G : Nat) (k31 : Rf → Int32 → Int32 → Int32 → Rf → Int32 → St → Option ((Nat ⊕ Int32) × St)) (v0 : Rf) (v1 : Int32) (v2 : Int32) (v3 : Int32) (v4 : Rf) (v5 : Int32) (w : St) : Option ((Nat ⊕ Int32) × St) :=
  k31 v0 v1 v2 v3 v4 (v5 + 1) w
noncomputable def f_X1_bestLimit_b83 (G : Nat) (k31 : Rf → Int32 → Int32 → Int32 → Rf → Int32 → St → Option ((Nat ⊕ Int32) × St)) (v0 : Rf) (v1 : Int32) (v4 : Rf) (v5 : Int32) (v6 : Int32) (w : St) : Option ((Nat ⊕ Int32) × St) :=
  f_X1_bestLimit_b89 G k31  v0 v1 v5 v6 v4 v5 w
noncomputable def f_X1_bestLimit_l31 (G : Nat) (k95 : Int32 → St → Option ((Nat ⊕ Int32) × St)) : Nat → Rf → Int32 → Int32 → Int32 → Rf → Int32 → St → Option ((Nat ⊕ Int32) × St)
  | 0, _, _, _, _, _, _, _ => none
  | F + 1, v0, v1, v2, v3, v4, v5, w =>
  if 60 < v5 then (k95 v2 w) else
  (gd (cls v4 w = some 6) <|
  bd (f_X9_with G v4 v5 w) fun x42 w42 =>
  gd (cls v4 w42 = some 6) <|
  bd (f_X9_total G v4 w42) fun x48 w48 =>
  bo (getr [0] v0 0 w48) fun x53 =>
  bo (getr [1] x53 1 w48) fun x56 =>
  gd (cls x56 w48 = some 15) <|
  bd (fL_size x56 w48) fun x59 w59 =>
  gd (cls v4 w59 = some 6) <|
  bd (f_X9_kept G v4 w59) fun x64 w64 =>
  if v2 = ((-1)) then (f_X1_bestLimit_b83 G (fun v0 v1 v2 v3 v4 v5 w => f_X1_bestLimit_l31 G k95 F v0 v1 v2 v3 v4 v5 w)  v0 v1 v4 v5 (x48 + (v1 * (x59 - x64))) w64) else
  (if v3 ≤ (x48 + (v1 * (x59 - x64))) then (f_X1_bestLimit_b89 G (fun v0 v1 v2 v3 v4 v5 w => f_X1_bestLimit_l31 G k95 F v0 v1 v2 v3 v4 v5 w)  v0 v1 v2 v3 v4 v5 w64) else
  (f_X1_bestLimit_b83 G (fun v0 v1 v2 v3 v4 v5 w => f_X1_bestLimit_l31 G k95 F v0 v1 v2 v3 v4 v5 w)  v0 v1 v4 v5 (x48 + (v1 * (x59 - x64))) w64)))
noncomputable def f_X1_bestLimit_b95 (G : Nat) (v2 : Int32) (w : St) : Option ((Nat ⊕ Int32) × St) :=
  some ((Sum.inr v2), w)
noncomputable def f_X1_bestLimit (G : Nat) (a0 : Rf) (a1 : Int32) (w : St) : Option ((Nat ⊕ Int32) × St) :=
  bd (f_X1_isBetween G a1 0 99 w) fun x4 w4 =>
  bx (f_X1_check G x4 w4) fun _ w7 =>
  bd (nw 6 [.null, .null, .int 0] 3 w7) fun b14 w14 =>
  bo (getr [0] a0 0 w14) fun x19 =>
  bd (f_X9_init G b14 x19 ((-1)) w14) fun _ w23 =>
  f_X1_bestLimit_l31 G (fun v2 w => f_X1_bestLimit_b95 G  v2 w) G a0 a1 ((-1)) 0 ((some b14)) 0 w23
noncomputable def f_X1_isLater_b81 (G : Nat) (w : St) : Option (Int32 × St) :=
  some (1, w)
noncomputable def f_X1_isLater (G : Nat) (a0 : Rf) (a1 : Rf) (a2 : Int32) (a3 : Int32) (w : St) : Option (Int32 × St) :=
  gd (cls a1 w = some 6) <|
  bd (f_X9_lateAtEnd G a1 a2 w) fun x2 w2 =>
  gd (cls a1 w2 = some 6) <|
  bd (f_X9_lateAtEnd G a1 a3 w2) fun x7 w7 =>
  if (x2 - x7) = 0 then (bo (getr [0] a0 0 w7) fun x30 =>
  bo (getr [1] x30 0 w7) fun x33 =>
  gd (cls x33 w7 = some 15) <|
  bd (fL_get x33 a2 w7) fun x37 w37 =>
  gd (okc [3] x37 w37 = true) <|
  gd (cls x37 w37 = some 3) <|
  bd (f_X5_own G x37 w37) fun x43 w43 =>
  bo (getr [0] a0 0 w43) fun x47 =>
  bo (getr [1] x47 0 w43) fun x50 =>
  gd (cls x50 w43 = some 15) <|
  bd (fL_get x50 a3 w43) fun x54 w54 =>
  gd (okc [3] x54 w54 = true) <|
  gd (cls x54 w54 = some 3) <|
  bd (f_X5_own G x54 w54) fun x60 w60 =>
  if 0 < (x43 - x60) then (f_X1_isLater_b81 G  w60) else
  (if (x43 - x60) = 0 then (if a3 ≤ a2 then (some (0, w60)) else
  (f_X1_isLater_b81 G  w60)) else
  (some (0, w60)))) else
  (if (x2 - x7) ≤ 0 then (some (0, w7)) else
  (some (1, w7)))
noncomputable def f_X1_ranked_b60 (G : Nat) (k27 : Rf → Int32 → Rf → Int32 → Int32 → Int32 → St → Option ((Nat ⊕ Int32) × St)) (v0 : Rf) (v1 : Int32) (v2 : Rf) (v3 : Int32) (v5 : Int32) (s0 : Int32) (s1 : Int32) (w : St) : Option ((Nat ⊕ Int32) × St) :=
  k27 v0 v1 v2 v3 (s1 + s0) (v5 + 1) w
noncomputable def f_X1_ranked_l27 (G : Nat) (k69 : Rf → Int32 → Rf → Int32 → Int32 → St → Option ((Nat ⊕ Int32) × St)) : Nat → Rf → Int32 → Rf → Int32 → Int32 → Int32 → St → Option ((Nat ⊕ Int32) × St)
  | 0, _, _, _, _, _, _, _ => none
  | F + 1, v0, v1, v2, v3, v4, v5, w =>
  bo (getr [0] v0 0 w) fun x30 =>
  bo (getr [1] x30 0 w) fun x33 =>
  gd (cls x33 w = some 15) <|
  bd (fL_size x33 w) fun x36 w36 =>
  if x36 ≤ v5 then (k69 v0 v1 v2 v3 v4 w36) else
  (gd (cls v0 w36 = some 0) <|
  bd (f_X1_isLater G v0 v2 v5 v3 w36) fun x49 w49 =>
  if x49 = 0 then (f_X1_ranked_b60 G (fun v0 v1 v2 v3 v4 v5 w => f_X1_ranked_l27 G k69 F v0 v1 v2 v3 v4 v5 w)  v0 v1 v2 v3 v5 0 v4 w49) else
  (f_X1_ranked_b60 G (fun v0 v1 v2 v3 v4 v5 w => f_X1_ranked_l27 G k69 F v0 v1 v2 v3 v4 v5 w)  v0 v1 v2 v3 v5 1 v4 w49))
noncomputable def f_X1_ranked_b69 (G : Nat) (k7 : Rf → Int32 → Rf → Int32 → St → Option ((Nat ⊕ Int32) × St)) (k75 : Int32 → St → Option ((Nat ⊕ Int32) × St)) (v0 : Rf) (v1 : Int32) (v2 : Rf) (v3 : Int32) (v4 : Int32) (w : St) : Option ((Nat ⊕ Int32) × St) :=
  if v4 = v1 then (k75 v3 w) else
  (k7 v0 v1 v2 (v3 + 1) w)
noncomputable def f_X1_ranked_l7 (G : Nat) (k75 : Int32 → St → Option ((Nat ⊕ Int32) × St)) (k83 : St → Option ((Nat ⊕ Int32) × St)) : Nat → Rf → Int32 → Rf → Int32 → St → Option ((Nat ⊕ Int32) × St)
  | 0, _, _, _, _, _ => none
  | F + 1, v0, v1, v2, v3, w =>
  bo (getr [0] v0 0 w) fun x9 =>
  bo (getr [1] x9 0 w) fun x12 =>
  gd (cls x12 w = some 15) <|
  bd (fL_size x12 w) fun x15 w15 =>
  if x15 ≤ v3 then (k83 w15) else
  (f_X1_ranked_l27 G (fun v0 v1 v2 v3 v4 w => f_X1_ranked_b69 G (fun v0 v1 v2 v3 w => f_X1_ranked_l7 G k75 k83 F v0 v1 v2 v3 w) k75  v0 v1 v2 v3 v4 w) G v0 v1 v2 v3 0 0 w15)
noncomputable def f_X1_ranked_b75 (G : Nat) (v3 : Int32) (w : St) : Option ((Nat ⊕ Int32) × St) :=
  some ((Sum.inr v3), w)
noncomputable def f_X1_ranked_b83 (G : Nat) (w : St) : Option ((Nat ⊕ Int32) × St) :=
  some (Sum.inl w.n, (enew 21 w))
noncomputable def f_X1_ranked (G : Nat) (a0 : Rf) (a1 : Int32) (w : St) : Option ((Nat ⊕ Int32) × St) :=
  gd (cls a0 w = some 0) <|
  bd (f_X1_net G a0 w) fun x1 w1 =>
  f_X1_ranked_l7 G (fun v3 w => f_X1_ranked_b75 G  v3 w) (fun w => f_X1_ranked_b83 G  w) G a0 a1 x1 0 w1
noncomputable def f_X1_isTighter_b90 (G : Nat) (w : St) : Option (Int32 × St) :=
  some (1, w)
noncomputable def f_X1_isTighter (G : Nat) (a0 : Rf) (a1 : Int32) (a2 : Int32) (w : St) : Option (Int32 × St) :=
  bo (getr [0] a0 0 w) fun x1 =>
  bo (getr [1] x1 1 w) fun x4 =>
  gd (cls x4 w = some 15) <|
  bd (fL_get x4 a1 w) fun x8 w8 =>
  gd (okc [5] x8 w8 = true) <|
  bo (getr [0] a0 0 w8) fun x16 =>
  bo (getr [1] x16 1 w8) fun x19 =>
  gd (cls x19 w8 = some 15) <|
  bd (fL_get x19 a2 w8) fun x23 w23 =>
  gd (okc [5] x23 w23 = true) <|
  gd (cls a0 w23 = some 0) <|
  bd (f_X1_spareOf G a0 x8 w23) fun x33 w33 =>
  gd (cls a0 w33 = some 0) <|
  bd (f_X1_spareOf G a0 x23 w33) fun x39 w39 =>
  if (x33 - x39) = 0 then (bo (geti [5] x8 5 w39) fun x62 =>
  bo (geti [5] x23 5 w39) fun x67 =>
  if x62 < x67 then (f_X1_isTighter_b90 G  w39) else
  (bo (geti [5] x8 5 w39) fun x74 =>
  bo (geti [5] x23 5 w39) fun x79 =>
  if x74 = x79 then (if a2 ≤ a1 then (some (0, w39)) else
  (f_X1_isTighter_b90 G  w39)) else
  (some (0, w39)))) else
  (if 0 ≤ (x33 - x39) then (some (0, w39)) else
  (some (1, w39)))
noncomputable def f_X1_tightest_b52 (G : Nat) (k21 : Rf → Int32 → Int32 → Int32 → Int32 → St → Option ((Nat ⊕ Int32) × St)) (v0 : Rf) (v1 : Int32) (v2 : Int32) (v4 : Int32) (s0 : Int32) (s1 : Int32) (w : St) : Option ((Nat ⊕ Int32) × St) :=
  k21 v0 v1 v2 (s1 + s0) (v4 + 1) w
noncomputable def f_X1_tightest_l21 (G : Nat) (k60 : Rf → Int32 → Int32 → Int32 → St → Option ((Nat ⊕ Int32) × St)) : Nat → Rf → Int32 → Int32 → Int32 → Int32 → St → Option ((Nat ⊕ Int32) × St)
  | 0, _, _, _, _, _, _ => none
  | F + 1, v0, v1, v2, v3, v4, w =>
  bo (getr [0] v0 0 w) fun x24 =>
  bo (getr [1] x24 1 w) fun x27 =>
  gd (cls x27 w = some 15) <|
  bd (fL_size x27 w) fun x30 w30 =>
  if x30 ≤ v4 then (k60 v0 v1 v2 v3 w30) else
  (gd (cls v0 w30 = some 0) <|
  bd (f_X1_isTighter G v0 v4 v2 w30) fun x41 w41 =>
  if x41 = 0 then (f_X1_tightest_b52 G (fun v0 v1 v2 v3 v4 w => f_X1_tightest_l21 G k60 F v0 v1 v2 v3 v4 w)  v0 v1 v2 v4 0 v3 w41) else
  (f_X1_tightest_b52 G (fun v0 v1 v2 v3 v4 w => f_X1_tightest_l21 G k60 F v0 v1 v2 v3 v4 w)  v0 v1 v2 v4 1 v3 w41))
noncomputable def f_X1_tightest_b60 (G : Nat) (k2 : Rf → Int32 → Int32 → St → Option ((Nat ⊕ Int32) × St)) (k65 : Int32 → St → Option ((Nat ⊕ Int32) × St)) (v0 : Rf) (v1 : Int32) (v2 : Int32) (v3 : Int32) (w : St) : Option ((Nat ⊕ Int32) × St) :=
  if v3 = v1 then (k65 v2 w) else
  (k2 v0 v1 (v2 + 1) w)
noncomputable def f_X1_tightest_l2 (G : Nat) (k65 : Int32 → St → Option ((Nat ⊕ Int32) × St)) (k73 : St → Option ((Nat ⊕ Int32) × St)) : Nat → Rf → Int32 → Int32 → St → Option ((Nat ⊕ Int32) × St)
  | 0, _, _, _, _ => none
  | F + 1, v0, v1, v2, w =>
  bo (getr [0] v0 0 w) fun x4 =>
  bo (getr [1] x4 1 w) fun x7 =>
  gd (cls x7 w = some 15) <|
  bd (fL_size x7 w) fun x10 w10 =>
  if x10 ≤ v2 then (k73 w10) else
  (f_X1_tightest_l21 G (fun v0 v1 v2 v3 w => f_X1_tightest_b60 G (fun v0 v1 v2 w => f_X1_tightest_l2 G k65 k73 F v0 v1 v2 w) k65  v0 v1 v2 v3 w) G v0 v1 v2 0 0 w10)
noncomputable def f_X1_tightest_b65 (G : Nat) (v2 : Int32) (w : St) : Option ((Nat ⊕ Int32) × St) :=
  some ((Sum.inr v2), w)
noncomputable def f_X1_tightest_b73 (G : Nat) (w : St) : Option ((Nat ⊕ Int32) × St) :=
  some (Sum.inl w.n, (enew 21 w))
noncomputable def f_X1_tightest (G : Nat) (a0 : Rf) (a1 : Int32) (w : St) : Option ((Nat ⊕ Int32) × St) :=
  f_X1_tightest_l2 G (fun v2 w => f_X1_tightest_b65 G  v2 w) (fun w => f_X1_tightest_b73 G  w) G a0 a1 0 w
noncomputable def f_X1_isBefore_b60 (G : Nat) (v0 : Rf) (v1 : Rf) (v2 : Int32) (s0 : Int32) (s1 : Int32) (w : St) : Option (Int32 × St) :=
  if s1 = s0 then (bd (dsp v0 w fun c68 => if c68 = 7 then (f_X10_key G v0 w) else if c68 = 9 then (f_X10_key G v0 w) else none) fun x68 w68 =>
  bd (dsp v1 w68 fun c72 => if c72 = 7 then (f_X10_key G v1 w68) else if c72 = 9 then (f_X10_key G v1 w68) else none) fun x72 w72 =>
  if x72 ≤ x68 then (some (0, w72)) else
  (some (1, w72))) else
  (gd (v2 = 0 ∨ v2 = 1) (some (v2, w)))
noncomputable def f_X1_isBefore_b43 (G : Nat) (v0 : Rf) (v1 : Rf) (s0 : Int32) (w : St) : Option (Int32 × St) :=
  bo (getr [7, 9] v1 2 w) fun x46 =>
  if x46 = ((some (w.g 1))) then (f_X1_isBefore_b60 G  v0 v1 s0 1 s0 w) else
  (f_X1_isBefore_b60 G  v0 v1 s0 0 s0 w)
noncomputable def f_X1_isBefore (G : Nat) (a0 : Rf) (a1 : Rf) (w : St) : Option (Int32 × St) :=
  bo (geti [7, 9] a0 7 w) fun x1 =>
  bo (geti [7, 9] a1 7 w) fun x5 =>
  if x1 = x5 then (bo (getr [7, 9] a0 2 w) fun x29 =>
  if x29 = ((some (w.g 1))) then (f_X1_isBefore_b43 G  a0 a1 1 w) else
  (f_X1_isBefore_b43 G  a0 a1 0 w)) else
  (bo (geti [7, 9] a0 7 w) fun x12 =>
  bo (geti [7, 9] a1 7 w) fun x16 =>
  if x16 ≤ x12 then (some (0, w)) else
  (some (1, w)))
noncomputable def f_X1_event_b81 (G : Nat) (k42 : Int32 → Rf → Rf → Rf → Int32 → Rf → St → Option ((Nat ⊕ Int32) × St)) (v1 : Int32) (v2 : Rf) (v3 : Rf) (v4 : Rf) (v6 : Rf) (s0 : Int32) (s1 : Int32) (w : St) : Option ((Nat ⊕ Int32) × St) :=
  k42 v1 v2 v3 v4 (s1 + s0) v6 w
noncomputable def f_X1_event_l42 (G : Nat) (k87 : Int32 → Rf → Rf → Rf → Int32 → St → Option ((Nat ⊕ Int32) × St)) : Nat → Int32 → Rf → Rf → Rf → Int32 → Rf → St → Option ((Nat ⊕ Int32) × St)
  | 0, _, _, _, _, _, _, _ => none
  | F + 1, v1, v2, v3, v4, v5, v6, w =>
  gd (cls v6 w = some 16) <|
  bd (fI_hasNext v6 w) fun x44 w44 =>
  if x44 = 0 then (k87 v1 v2 v3 v4 v5 w44) else
  (gd (cls v6 w44 = some 16) <|
  bd (fI_next v6 w44) fun x54 w54 =>
  gd (okc [7, 9] x54 w54 = true) <|
  bd (f_X1_isBefore G x54 v4 w54) fun x70 w70 =>
  if x70 = 0 then (f_X1_event_b81 G (fun v1 v2 v3 v4 v5 v6 w => f_X1_event_l42 G k87 F v1 v2 v3 v4 v5 v6 w)  v1 v2 v3 v4 v6 0 v5 w70) else
  (f_X1_event_b81 G (fun v1 v2 v3 v4 v5 v6 w => f_X1_event_l42 G k87 F v1 v2 v3 v4 v5 v6 w)  v1 v2 v3 v4 v6 1 v5 w70))
noncomputable def f_X1_event_b87 (G : Nat) (k13 : Int32 → Rf → Rf → St → Option ((Nat ⊕ Int32) × St)) (k93 : Rf → St → Option ((Nat ⊕ Int32) × St)) (v1 : Int32) (v2 : Rf) (v3 : Rf) (v4 : Rf) (v5 : Int32) (w : St) : Option ((Nat ⊕ Int32) × St) :=
  if v5 = v1 then (k93 v4 w) else
  (k13 v1 v2 v3 w)
noncomputable def f_X1_event_l13 (G : Nat) (k93 : Rf → St → Option ((Nat ⊕ Int32) × St)) (k102 : St → Option ((Nat ⊕ Int32) × St)) : Nat → Int32 → Rf → Rf → St → Option ((Nat ⊕ Int32) × St)
  | 0, _, _, _, _ => none
  | F + 1, v1, v2, v3, w =>
  gd (cls v3 w = some 16) <|
  bd (fI_hasNext v3 w) fun x14 w14 =>
  if x14 = 0 then (k102 w14) else
  (gd (cls v3 w14 = some 16) <|
  bd (fI_next v3 w14) fun x23 w23 =>
  gd (okc [7, 9] x23 w23 = true) <|
  gd (cls v2 w23 = some 15) <|
  bd (fL_iterator v2 w23) fun x37 w37 =>
  f_X1_event_l42 G (fun v1 v2 v3 v4 v5 w => f_X1_event_b87 G (fun v1 v2 v3 w => f_X1_event_l13 G k93 k102 F v1 v2 v3 w) k93  v1 v2 v3 v4 v5 w) G v1 v2 v3 x23 0 x37 w37)
noncomputable def f_X1_event_b93 (G : Nat) (v4 : Rf) (w : St) : Option ((Nat ⊕ Int32) × St) :=
  bd (dsp v4 w fun c95 => if c95 = 7 then (f_X10_key G v4 w) else if c95 = 9 then (f_X10_key G v4 w) else none) fun x95 w95 =>
  some ((Sum.inr x95), w95)
noncomputable def f_X1_event_b102 (G : Nat) (w : St) : Option ((Nat ⊕ Int32) × St) :=
  some (Sum.inl w.n, (enew 21 w))
noncomputable def f_X1_event (G : Nat) (a0 : Rf) (a1 : Int32) (w : St) : Option ((Nat ⊕ Int32) × St) :=
  gd (cls a0 w = some 0) <|
  bd (f_X1_net G a0 w) fun x1 w1 =>
  bo (getr [6] x1 0 w1) fun x4 =>
  gd (cls x4 w1 = some 15) <|
  bd (fL_iterator x4 w1) fun x9 w9 =>
  f_X1_event_l13 G (fun v4 w => f_X1_event_b93 G  v4 w) (fun w => f_X1_event_b102 G  w) G a1 x4 x9 w9
noncomputable def f_X1_checkState (G : Nat) (a0 : Int32) (w : St) : Option ((Nat ⊕ Unit) × St) :=
  if a0 = 0 then (some (Sum.inl w.n, (enew 22 w))) else
  (some ((Sum.inr (())), w))
noncomputable def f_X1_append_b28 (G : Nat) (v0 : Rf) (v1 : Int32) (s0 : Int32) (w : St) : Option ((Nat ⊕ Int32) × St) :=
  bx (f_X1_checkState G s0 w) fun _ w28 =>
  bo (getr [0] v0 3 w28) fun x32 =>
  gd (cls x32 w28 = some 18) <|
  bd (fB_appendC x32 v1 w28) fun x36 w36 =>
  bo (getr [0] v0 3 w36) fun x41 =>
  gd (cls x41 w36 = some 18) <|
  bd (fB_length x41 w36) fun x44 w44 =>
  some ((Sum.inr x44), w44)
noncomputable def f_X1_append (G : Nat) (a0 : Rf) (a1 : Int32) (w : St) : Option ((Nat ⊕ Int32) × St) :=
  bd (f_X1_isBetween G a1 32 126 w) fun x5 w5 =>
  bx (f_X1_check G x5 w5) fun _ w8 =>
  bo (getr [0] a0 3 w8) fun x12 =>
  gd (cls x12 w8 = some 18) <|
  bd (fB_length x12 w8) fun x15 w15 =>
  if 60 ≤ x15 then (f_X1_append_b28 G  a0 a1 0 w15) else
  (f_X1_append_b28 G  a0 a1 1 w15)
noncomputable def f_X1_does_b169 (G : Nat) (v0 : Rf) (v1 : Rf) (v2 : Rf) (v4 : Int32) (w : St) : Option ((Nat ⊕ Int32) × St) :=
  if v4 = 0 then (bo (iald v2 0 w) fun x211 =>
  bo (iald v2 1 w) fun x214 =>
  bo (geti [14] v1 2 w) fun x216 =>
  bo (iald v2 2 w) fun x221 =>
  gd (cls v0 w = some 0) <|
  bx (f_X1_late G v0 x211 x214 x216 x221 w) fun x222 w222 =>
  some ((Sum.inr x222), w222)) else
  (if v4 = 1 then (bo (iald v2 0 w) fun x229 =>
  bo (iald v2 1 w) fun x232 =>
  bo (iald v2 2 w) fun x235 =>
  bo (iald v2 3 w) fun x238 =>
  bo (iald v2 4 w) fun x241 =>
  bo (iald v2 5 w) fun x244 =>
  gd (cls v0 w = some 0) <|
  bx (f_X1_link G v0 x229 x232 x235 x238 x241 x244 w) fun x245 w245 =>
  some ((Sum.inr x245), w245)) else
  (if v4 = 2 then (bo (iald v2 0 w) fun x252 =>
  bo (iald v2 1 w) fun x255 =>
  gd (cls v0 w = some 0) <|
  bx (f_X1_limit G v0 x252 x255 w) fun x256 w256 =>
  some ((Sum.inr x256), w256)) else
  (if v4 = 3 then (bo (iald v2 0 w) fun x263 =>
  gd (cls v0 w = some 0) <|
  bx (f_X1_cut G v0 x263 w) fun x264 w264 =>
  some ((Sum.inr x264), w264)) else
  (if v4 = 4 then (bo (iald v2 0 w) fun x271 =>
  bo (iald v2 1 w) fun x274 =>
  gd (cls v0 w = some 0) <|
  bx (f_X1_turn G v0 x271 x274 w) fun x275 w275 =>
  some ((Sum.inr x275), w275)) else
  (if v4 = 5 then (bo (iald v2 0 w) fun x282 =>
  bo (iald v2 1 w) fun x285 =>
  bo (iald v2 2 w) fun x288 =>
  bo (iald v2 3 w) fun x291 =>
  bo (iald v2 4 w) fun x294 =>
  bo (iald v2 5 w) fun x297 =>
  gd (cls v0 w = some 0) <|
  bx (f_X1_leg G v0 x282 x285 x288 x291 x294 x297 w) fun x298 w298 =>
  some ((Sum.inr x298), w298)) else
  (bo (iald v2 0 w) fun x305 =>
  bo (iald v2 1 w) fun x308 =>
  gd (cls v0 w = some 0) <|
  bx (f_X1_coach G v0 x305 x308 w) fun x309 w309 =>
  some ((Sum.inr x309), w309)))))))
noncomputable def f_X1_does (G : Nat) (a0 : Rf) (a1 : Rf) (w : St) : Option ((Nat ⊕ Int32) × St) :=
  bo (getr [14] a1 1 w) fun x1 =>
  bo (getr [14] a1 0 w) fun x6 =>
  gd (cls x6 w = some 19) <|
  bd (fS_hashCode x6 w) fun x14 w14 =>
  if x14 = 98882 then (gd (cls x6 w14 = some 19) <|
  bd (fS_equals x6 ((some (w14.g 18))) w14) fun x128 w128 =>
  if x128 = 0 then (f_X1_does_b169 G  a0 a1 x1 ((-1)) w128) else
  (f_X1_does_b169 G  a0 a1 x1 3 w128)) else
  (if x14 = 107022 then (gd (cls x6 w14 = some 19) <|
  bd (fS_equals x6 ((some (w14.g 13))) w14) fun x160 w160 =>
  if x160 = 0 then (f_X1_does_b169 G  a0 a1 x1 ((-1)) w160) else
  (f_X1_does_b169 G  a0 a1 x1 5 w160)) else
  (if x14 = 3314342 then (gd (cls x6 w14 = some 19) <|
  bd (fS_equals x6 ((some (w14.g 12))) w14) fun x80 w80 =>
  if x80 = 0 then (f_X1_does_b169 G  a0 a1 x1 ((-1)) w80) else
  (f_X1_does_b169 G  a0 a1 x1 0 w80)) else
  (if x14 = 3321850 then (gd (cls x6 w14 = some 19) <|
  bd (fS_equals x6 ((some (w14.g 15))) w14) fun x96 w96 =>
  if x96 = 0 then (f_X1_does_b169 G  a0 a1 x1 ((-1)) w96) else
  (f_X1_does_b169 G  a0 a1 x1 1 w96)) else
  (if x14 = 3571837 then (gd (cls x6 w14 = some 19) <|
  bd (fS_equals x6 ((some (w14.g 16))) w14) fun x144 w144 =>
  if x144 = 0 then (f_X1_does_b169 G  a0 a1 x1 ((-1)) w144) else
  (f_X1_does_b169 G  a0 a1 x1 4 w144)) else
  (if x14 = 102976443 then (gd (cls x6 w14 = some 19) <|
  bd (fS_equals x6 ((some (w14.g 14))) w14) fun x112 w112 =>
  if x112 = 0 then (f_X1_does_b169 G  a0 a1 x1 ((-1)) w112) else
  (f_X1_does_b169 G  a0 a1 x1 2 w112)) else
  (f_X1_does_b169 G  a0 a1 x1 ((-1)) w14))))))
noncomputable def f_X1_doAll_l26 (G : Nat) (k61 : Rf → Rf → Int32 → St → Option ((Nat ⊕ Int32) × St)) (k69 : Rf → Rf → Int32 → Rf → St → Option ((Nat ⊕ Int32) × St)) : Nat → Rf → Rf → Int32 → Rf → St → Option ((Nat ⊕ Int32) × St)
  | 0, _, _, _, _, _ => none
  | F + 1, v0, v2, v3, v4, w =>
  gd (cls v4 w = some 16) <|
  bd (fI_hasNext v4 w) fun x28 w28 =>
  if x28 = 0 then (k61 v0 v2 v3 w28) else
  (gd (cls v4 w28 = some 16) <|
  bd (fI_next v4 w28) fun x38 w38 =>
  gd (okc [14] x38 w38 = true) <|
  gd (cls v0 w38 = some 0) <|
  bh (f_X1_does G v0 x38 w38) (fun q9 w51 => if cls (some q9) w51 = some 20 then (k69 v0 v2 v3 ((some q9)) w51) else none) fun x51 w51 =>
  f_X1_doAll_l26 G k61 k69 F v0 v2 (v3 + 1) v4 w51)
noncomputable def f_X1_doAll_b61 (G : Nat) (v0 : Rf) (v2 : Rf) (v3 : Int32) (w : St) : Option ((Nat ⊕ Int32) × St) :=
  bo (putz [0] v0 5 0 w) fun w63 =>
  bo (getr [0] v0 0 w63) fun x108 =>
  bo (putr [0] v0 0 v2 w63) fun w115 =>
  gd (cls v0 w115 = some 0) <|
  bd (f_X1_change G v0 w115) fun _ w119 =>
  bo (putr [0] v0 0 x108 w119) fun w125 =>
  some ((Sum.inr v3), w125)
noncomputable def f_X1_doAll_b97 (G : Nat) (v0 : Rf) (s0 : Rf) (w : St) : Option ((Nat ⊕ Int32) × St) :=
  bo (putz [0] v0 5 0 w) fun w101 =>
  gd (cls s0 w101 = some 20) (some (Sum.inl (rfq s0), w101))
noncomputable def f_X1_doAll_b69 (G : Nat) (v0 : Rf) (v2 : Rf) (v3 : Int32) (s0 : Rf) (w : St) : Option ((Nat ⊕ Int32) × St) :=
  bo (putr [0] v0 0 v2 w) fun w73 =>
  bd (nw 2 [.int 0, .int 0, .null] 3 w73) fun b77 w77 =>
  bo (getr [0] v0 7 w77) fun x85 =>
  bd (f_X4_init G b77 11 v3 x85 w77) fun _ w88 =>
  bo (putr [0] v0 7 ((some b77)) w88) fun w91 =>
  gd (cls s0 w91 = some 20) <|
  f_X1_doAll_b97 G  v0 ((some (rfq s0))) w91
noncomputable def f_X1_doAll (G : Nat) (a0 : Rf) (a1 : Rf) (w : St) : Option ((Nat ⊕ Int32) × St) :=
  bo (getr [0] a0 0 w) fun x1 =>
  gd (cls x1 w = some 1) <|
  bd (f_X2_copy G x1 w) fun x7 w7 =>
  bo (putr [0] a0 0 x7 w7) fun w10 =>
  bo (putz [0] a0 5 1 w10) fun w15 =>
  gd (cls a1 w15 = some 15) <|
  bd (fL_iterator a1 w15) fun x21 w21 =>
  f_X1_doAll_l26 G (fun v0 v2 v3 w => f_X1_doAll_b61 G  v0 v2 v3 w) (fun v0 v2 v3 s0 w => f_X1_doAll_b69 G  v0 v2 v3 s0 w) G a0 x1 0 x21 w21
noncomputable def f_X16_init (G : Nat) (a0 : Nat) (a1 : Rf) (w : St) : Option (Unit × St) :=
  bd (nw 15 [.int 0, .null, .int 0] 3 w) fun b5 w5 =>
  bd (fL_init b5 w5) fun _ w9 =>
  bo (putr [13] ((some a0)) 1 ((some b5)) w9) fun w12 =>
  bo (putr [13] ((some a0)) 0 a1 w12) fun w17 =>
  some ((()), w17)
noncomputable def f_X16_here (G : Nat) (a0 : Rf) (w : St) : Option (Int32 × St) :=
  bo (geti [13] a0 2 w) fun x1 =>
  bo (getr [13] a0 0 w) fun x5 =>
  gd (cls x5 w = some 19) <|
  bd (fS_length x5 w) fun x8 w8 =>
  if x8 ≤ x1 then (some (0, w8)) else
  (bo (getr [13] a0 0 w8) fun x15 =>
  bo (geti [13] a0 2 w8) fun x19 =>
  gd (cls x15 w8 = some 19) <|
  bd (fS_charAt x15 x19 w8) fun x22 w22 =>
  gd (0 ≤ x22 ∧ x22 ≤ 65535) (some (x22, w22)))
noncomputable def f_X16_isDigit (G : Nat) (a0 : Rf) (w : St) : Option (Int32 × St) :=
  gd (cls a0 w = some 13) <|
  bd (f_X16_here G a0 w) fun x1 w1 =>
  if x1 < 48 then (some (0, w1)) else
  (gd (cls a0 w1 = some 13) <|
  bd (f_X16_here G a0 w1) fun x10 w10 =>
  if 57 < x10 then (some (0, w10)) else
  (some (1, w10)))
noncomputable def f_X16_takes (G : Nat) (a0 : Rf) (a1 : Int32) (w : St) : Option (Int32 × St) :=
  bo (geti [13] a0 3 w) fun x1 =>
  if x1 = 0 then (gd (cls a0 w = some 13) <|
  bd (f_X16_here G a0 w) fun x8 w8 =>
  if x8 = a1 then (bo (geti [13] a0 2 w8) fun x19 =>
  bo (puti [13] a0 2 (x19 + 1) w8) fun w24 =>
  some (1, w24)) else
  (some (0, w8))) else
  (some (0, w))
noncomputable def f_X16_wants_b35 (G : Nat) (k2 : Rf → Rf → Int32 → St → Option (Unit × St)) (v0 : Rf) (v1 : Rf) (v2 : Int32) (s0 : Int32) (s1 : Rf) (w : St) : Option (Unit × St) :=
  bo (putz [13] s1 3 s0 w) fun w35 =>
  k2 v0 v1 (v2 + 1) w35
noncomputable def f_X16_wants_l2 (G : Nat) (k44 : St → Option (Unit × St)) : Nat → Rf → Rf → Int32 → St → Option (Unit × St)
  | 0, _, _, _, _ => none
  | F + 1, v0, v1, v2, w =>
  gd (cls v1 w = some 19) <|
  bd (fS_length v1 w) fun x4 w4 =>
  if x4 ≤ v2 then (k44 w4) else
  (bo (geti [13] v0 3 w4) fun x11 =>
  if x11 = 0 then (gd (cls v1 w4 = some 19) <|
  bd (fS_charAt v1 v2 w4) fun x21 w21 =>
  gd (cls v0 w21 = some 13) <|
  bd (f_X16_takes G v0 x21 w21) fun x24 w24 =>
  if x24 = 0 then (f_X16_wants_b35 G (fun v0 v1 v2 w => f_X16_wants_l2 G k44 F v0 v1 v2 w)  v0 v1 v2 1 v0 w24) else
  (f_X16_wants_b35 G (fun v0 v1 v2 w => f_X16_wants_l2 G k44 F v0 v1 v2 w)  v0 v1 v2 0 v0 w24)) else
  (k44 w4))
noncomputable def f_X16_wants_b44 (G : Nat) (w : St) : Option (Unit × St) :=
  some ((()), w)
noncomputable def f_X16_wants (G : Nat) (a0 : Rf) (a1 : Rf) (w : St) : Option (Unit × St) :=
  f_X16_wants_l2 G (fun w => f_X16_wants_b44 G  w) G a0 a1 0 w
noncomputable def f_X16_behindBlank_l31 (G : Nat) (k79 : Int32 → St → Option (Int32 × St)) : Nat → Rf → Int32 → Int32 → Int32 → St → Option (Int32 × St)
  | 0, _, _, _, _, _ => none
  | F + 1, v0, v1, v2, v3, w =>
  if v1 ≤ v3 then (k79 v2 w) else
  (gd (cls v0 w = some 13) <|
  bd (f_X16_isDigit G v0 w) fun x37 w37 =>
  if x37 = 0 then (k79 v2 w37) else
  (bo (geti [13] v0 3 w37) fun x44 =>
  if x44 = 0 then (gd (cls v0 w37 = some 13) <|
  bd (f_X16_here G v0 w37) fun x55 w55 =>
  bo (geti [13] v0 2 w55) fun x65 =>
  bo (puti [13] v0 2 (x65 + 1) w55) fun w70 =>
  f_X16_behindBlank_l31 G k79 F v0 v1 (((10 * v2) + x55) - 48) (v3 + 1) w70) else
  (k79 v2 w37)))
noncomputable def f_X16_behindBlank_b79 (G : Nat) (v2 : Int32) (w : St) : Option (Int32 × St) :=
  some (v2, w)
noncomputable def f_X16_behindBlank_b23 (G : Nat) (v0 : Rf) (v1 : Int32) (s0 : Int32) (s1 : Int32) (s2 : Rf) (w : St) : Option (Int32 × St) :=
  bo (putz [13] s2 3 (s1 ||| s0) w) fun w24 =>
  f_X16_behindBlank_l31 G (fun v2 w => f_X16_behindBlank_b79 G  v2 w) G v0 v1 0 0 w24
noncomputable def f_X16_behindBlank (G : Nat) (a0 : Rf) (a1 : Int32) (w : St) : Option (Int32 × St) :=
  gd (cls a0 w = some 13) <|
  bd (f_X16_wants G a0 ((some (w.g 10))) w) fun _ w3 =>
  bo (geti [13] a0 3 w3) fun x8 =>
  gd (cls a0 w3 = some 13) <|
  bd (f_X16_isDigit G a0 w3) fun x12 w12 =>
  if x12 = 0 then (f_X16_behindBlank_b23 G  a0 a1 1 x8 a0 w12) else
  (f_X16_behindBlank_b23 G  a0 a1 0 x8 a0 w12)
noncomputable def f_X16_wordWithL (G : Nat) (a0 : Rf) (w : St) : Option (Rf × St) :=
  gd (cls a0 w = some 13) <|
  bd (f_X16_here G a0 w) fun x1 w1 =>
  if x1 = 97 then (some (((some (w1.g 12))), w1)) else
  (if x1 = 101 then (some (((some (w1.g 13))), w1)) else
  (if x1 = 105 then (bo (geti [13] a0 2 w1) fun x47 =>
  bo (getr [13] a0 0 w1) fun x53 =>
  gd (cls x53 w1 = some 19) <|
  bd (fS_length x53 w1) fun x56 w56 =>
  if x56 ≤ (x47 + 1) then (some (((some (w56.g 15))), w56)) else
  (bo (getr [13] a0 0 w56) fun x63 =>
  bo (geti [13] a0 2 w56) fun x67 =>
  gd (cls x63 w56 = some 19) <|
  bd (fS_charAt x63 (x67 + 1) w56) fun x72 w72 =>
  if x72 = 109 then (some (((some (w72.g 14))), w72)) else
  (some (((some (w72.g 15))), w72)))) else
  (bo (putz [13] a0 3 1 w1) fun w90 =>
  some (((some (w90.g 11))), w90))))
noncomputable def f_X16_word (G : Nat) (a0 : Rf) (w : St) : Option (Rf × St) :=
  gd (cls a0 w = some 13) <|
  bd (f_X16_takes G a0 108 w) fun x3 w3 =>
  if x3 = 0 then (gd (cls a0 w3 = some 13) <|
  bd (f_X16_here G a0 w3) fun x38 w38 =>
  if x38 = 99 then (bo (geti [13] a0 2 w38) fun x72 =>
  bo (getr [13] a0 0 w38) fun x78 =>
  gd (cls x78 w38 = some 19) <|
  bd (fS_length x78 w38) fun x81 w81 =>
  if x81 ≤ (x72 + 1) then (some (((some (w81.g 18))), w81)) else
  (bo (getr [13] a0 0 w81) fun x88 =>
  bo (geti [13] a0 2 w81) fun x92 =>
  gd (cls x88 w81 = some 19) <|
  bd (fS_charAt x88 (x92 + 1) w81) fun x97 w97 =>
  if x97 = 111 then (some (((some (w97.g 17))), w97)) else
  (some (((some (w97.g 18))), w97)))) else
  (if x38 = 116 then (some (((some (w38.g 16))), w38)) else
  (bo (putz [13] a0 3 1 w38) fun w115 =>
  some (((some (w115.g 11))), w115)))) else
  (gd (cls a0 w3 = some 13) <|
  bd (f_X16_wordWithL G a0 w3) fun x10 w10 =>
  bo (geti [13] a0 2 w10) fun x16 =>
  bo (geti [13] a0 3 w10) fun x20 =>
  if x20 = 0 then (bo (puti [13] a0 2 (x16 - 1) w10) fun w32 =>
  some (x10, w32)) else
  (bo (puti [13] a0 2 (x16 - 0) w10) fun w32 =>
  some (x10, w32)))
noncomputable def f_X17_init (G : Nat) (a0 : Nat) (a1 : Rf) (w : St) : Option (Unit × St) :=
  bo (anew 3 (.int 0) 6 w) fun w7 =>
  bo (putr [14] ((some a0)) 1 ((some w.n)) w7) fun w9 =>
  bo (putr [14] ((some a0)) 0 a1 w9) fun w14 =>
  some ((()), w14)
noncomputable def f_X16_form_b172 (G : Nat) (v2 : Int32) (w : St) : Option (Rf × St) :=
  if v2 = 0 then (some (((some (w.g 19))), w)) else
  (if v2 = 1 then (some (((some (w.g 20))), w)) else
  (if v2 = 2 then (some (((some (w.g 21))), w)) else
  (if v2 = 3 then (some (((some (w.g 22))), w)) else
  (if v2 = 4 then (some (((some (w.g 23))), w)) else
  (if v2 = 5 then (some (((some (w.g 24))), w)) else
  (if v2 = 6 then (some (((some (w.g 25))), w)) else
  (some (((some (w.g 11))), w))))))))
noncomputable def f_X16_form (G : Nat) (a0 : Rf) (w : St) : Option (Rf × St) :=
  gd (cls a0 w = some 19) <|
  bd (fS_hashCode a0 w) fun x5 w5 =>
  if x5 = 98882 then (gd (cls a0 w5 = some 19) <|
  bd (fS_equals a0 ((some (w5.g 18))) w5) fun x121 w121 =>
  if x121 = 0 then (f_X16_form_b172 G  ((-1)) w121) else
  (f_X16_form_b172 G  3 w121)) else
  (if x5 = 107022 then (gd (cls a0 w5 = some 19) <|
  bd (fS_equals a0 ((some (w5.g 13))) w5) fun x149 w149 =>
  if x149 = 0 then (f_X16_form_b172 G  ((-1)) w149) else
  (f_X16_form_b172 G  5 w149)) else
  (if x5 = 3314342 then (gd (cls a0 w5 = some 19) <|
  bd (fS_equals a0 ((some (w5.g 12))) w5) fun x79 w79 =>
  if x79 = 0 then (f_X16_form_b172 G  ((-1)) w79) else
  (f_X16_form_b172 G  0 w79)) else
  (if x5 = 3321850 then (gd (cls a0 w5 = some 19) <|
  bd (fS_equals a0 ((some (w5.g 15))) w5) fun x93 w93 =>
  if x93 = 0 then (f_X16_form_b172 G  ((-1)) w93) else
  (f_X16_form_b172 G  1 w93)) else
  (if x5 = 3571837 then (gd (cls a0 w5 = some 19) <|
  bd (fS_equals a0 ((some (w5.g 16))) w5) fun x135 w135 =>
  if x135 = 0 then (f_X16_form_b172 G  ((-1)) w135) else
  (f_X16_form_b172 G  4 w135)) else
  (if x5 = 94831770 then (gd (cls a0 w5 = some 19) <|
  bd (fS_equals a0 ((some (w5.g 17))) w5) fun x163 w163 =>
  if x163 = 0 then (f_X16_form_b172 G  ((-1)) w163) else
  (f_X16_form_b172 G  6 w163)) else
  (if x5 = 102976443 then (gd (cls a0 w5 = some 19) <|
  bd (fS_equals a0 ((some (w5.g 14))) w5) fun x107 w107 =>
  if x107 = 0 then (f_X16_form_b172 G  ((-1)) w107) else
  (f_X16_form_b172 G  2 w107)) else
  (f_X16_form_b172 G  ((-1)) w5)))))))
noncomputable def f_X16_command_b120 (G : Nat) (k33 : Rf → Rf → Rf → Int32 → Int32 → St → Option (Unit × St)) (v0 : Rf) (v1 : Rf) (v2 : Rf) (v3 : Int32) (v4 : Int32) (w : St) : Option (Unit × St) :=
  k33 v0 v1 v2 v3 (v4 + 1) w
noncomputable def f_X16_command_b92 (G : Nat) (k33 : Rf → Rf → Rf → Int32 → Int32 → St → Option (Unit × St)) (v0 : Rf) (v1 : Rf) (v2 : Rf) (v3 : Int32) (v4 : Int32) (s0 : Int32) (s1 : Rf) (w : St) : Option (Unit × St) :=
  bo (putz [13] s1 3 s0 w) fun w92 =>
  f_X16_command_b120 G k33  v0 v1 v2 v3 v4 w92
noncomputable def f_X16_command_b91 (G : Nat) (k33 : Rf → Rf → Rf → Int32 → Int32 → St → Option (Unit × St)) (v0 : Rf) (v1 : Rf) (v2 : Rf) (v3 : Int32) (v4 : Int32) (s0 : Rf) (w : St) : Option (Unit × St) :=
  f_X16_command_b92 G k33  v0 v1 v2 v3 v4 0 s0 w
noncomputable def f_X16_command_l33 (G : Nat) (k126 : Rf → Rf → St → Option (Unit × St)) : Nat → Rf → Rf → Rf → Int32 → Int32 → St → Option (Unit × St)
  | 0, _, _, _, _, _, _ => none
  | F + 1, v0, v1, v2, v3, v4, w =>
  gd (cls v2 w = some 19) <|
  bd (fS_length v2 w) fun x36 w36 =>
  if x36 ≤ v4 then (k126 v0 v1 w36) else
  (bo (geti [13] v0 3 w36) fun x43 =>
  if x43 = 0 then (gd (cls v2 w36 = some 19) <|
  bd (fS_charAt v2 v4 w36) fun x52 w52 =>
  if x52 = 115 then (gd (cls v0 w52 = some 13) <|
  bd (f_X16_takes G v0 97 w52) fun x64 w64 =>
  bo (putz [14] v1 2 x64 w64) fun w67 =>
  bo (geti [14] v1 2 w67) fun x72 =>
  if x72 = 0 then (gd (cls v0 w67 = some 13) <|
  bd (f_X16_takes G v0 100 w67) fun x81 w81 =>
  if x81 = 0 then (f_X16_command_b92 G (fun v0 v1 v2 v3 v4 w => f_X16_command_l33 G k126 F v0 v1 v2 v3 v4 w)  v0 v1 v2 v3 v4 1 v0 w81) else
  (f_X16_command_b91 G (fun v0 v1 v2 v3 v4 w => f_X16_command_l33 G k126 F v0 v1 v2 v3 v4 w)  v0 v1 v2 v3 v4 v0 w81)) else
  (f_X16_command_b91 G (fun v0 v1 v2 v3 v4 w => f_X16_command_l33 G k126 F v0 v1 v2 v3 v4 w)  v0 v1 v2 v3 v4 v0 w67)) else
  (bo (getr [14] v1 1 w52) fun x99 =>
  gd (cls v2 w52 = some 19) <|
  bd (fS_charAt v2 v4 w52) fun x107 w107 =>
  gd (cls v0 w107 = some 13) <|
  bd (f_X16_behindBlank G v0 (x107 - 48) w107) fun x113 w113 =>
  bo (iast x99 v3 x113 w113) fun w116 =>
  f_X16_command_b120 G (fun v0 v1 v2 v3 v4 w => f_X16_command_l33 G k126 F v0 v1 v2 v3 v4 w)  v0 v1 v2 (v3 + 1) v4 w116)) else
  (k126 v0 v1 w36))
noncomputable def f_X16_command_b126 (G : Nat) (v0 : Rf) (v1 : Rf) (w : St) : Option (Unit × St) :=
  bo (getr [13] v0 1 w) fun x127 =>
  gd (cls x127 w = some 15) <|
  bd (fL_add x127 v1 w) fun x131 w131 =>
  some ((()), w131)
noncomputable def f_X16_command (G : Nat) (a0 : Rf) (w : St) : Option (Unit × St) :=
  bd (nw 14 [.null, .null, .int 0] 3 w) fun b0 w0 =>
  gd (cls a0 w0 = some 13) <|
  bd (f_X16_word G a0 w0) fun x5 w5 =>
  bd (f_X17_init G b0 x5 w5) fun _ w8 =>
  bo (getr [14] ((some b0)) 0 w8) fun x14 =>
  gd (cls a0 w8 = some 13) <|
  bd (f_X16_wants G a0 x14 w8) fun _ w17 =>
  bo (getr [14] ((some b0)) 0 w17) fun x21 =>
  bd (f_X16_form G x21 w17) fun x24 w24 =>
  f_X16_command_l33 G (fun v0 v1 w => f_X16_command_b126 G  v0 v1 w) G a0 ((some b0)) x24 0 0 w24
noncomputable def f_X16_fault_l0 (G : Nat) (k13 : Rf → St → Option (Int32 × St)) : Nat → Rf → St → Option (Int32 × St)
  | 0, _, _ => none
  | F + 1, v0, w =>
  gd (cls v0 w = some 13) <|
  bd (f_X16_command G v0 w) fun _ w1 =>
  gd (cls v0 w1 = some 13) <|
  bd (f_X16_takes G v0 59 w1) fun x7 w7 =>
  if x7 = 0 then (k13 v0 w7) else
  (f_X16_fault_l0 G k13 F v0 w7)
noncomputable def f_X16_fault_b37 (G : Nat) (v0 : Rf) (s0 : Int32) (s1 : Int32) (s2 : Rf) (w : St) : Option (Int32 × St) :=
  bo (putz [13] s2 3 (s1 ||| s0) w) fun w38 =>
  bo (geti [13] v0 3 w38) fun x42 =>
  if x42 = 0 then (some (((-1)), w38)) else
  (bo (geti [13] v0 2 w38) fun x49 =>
  some (x49, w38))
noncomputable def f_X16_fault_b13 (G : Nat) (v0 : Rf) (w : St) : Option (Int32 × St) :=
  bo (geti [13] v0 3 w) fun x15 =>
  bo (geti [13] v0 2 w) fun x19 =>
  bo (getr [13] v0 0 w) fun x23 =>
  gd (cls x23 w = some 19) <|
  bd (fS_length x23 w) fun x26 w26 =>
  if x26 ≤ x19 then (f_X16_fault_b37 G  v0 0 x15 v0 w26) else
  (f_X16_fault_b37 G  v0 1 x15 v0 w26)
noncomputable def f_X16_fault (G : Nat) (a0 : Rf) (w : St) : Option (Int32 × St) := f_X16_fault_l0 G (fun v0 w => f_X16_fault_b13 G  v0 w) G a0 w
noncomputable def f_X1_run_b44 (G : Nat) (v0 : Rf) (v1 : Rf) (s0 : Int32) (w : St) : Option ((Nat ⊕ Int32) × St) :=
  bx (f_X1_check G s0 w) fun _ w44 =>
  bo (getr [13] v1 1 w44) fun x49 =>
  gd (cls v0 w44 = some 0) <|
  bx (f_X1_doAll G v0 x49 w44) fun x52 w52 =>
  some ((Sum.inr x52), w52)
noncomputable def f_X1_run (G : Nat) (a0 : Rf) (w : St) : Option ((Nat ⊕ Int32) × St) :=
  bd (nw 13 [.null, .null, .int 0, .int 0] 4 w) fun b0 w0 =>
  bo (getr [0] a0 3 w0) fun x5 =>
  gd (cls x5 w0 = some 18) <|
  bd (fB_toString x5 w0) fun x8 w8 =>
  bd (f_X16_init G b0 x8 w8) fun _ w11 =>
  bo (getr [0] a0 3 w11) fun x16 =>
  gd (cls x16 w11 = some 18) <|
  bd (fB_setLength x16 0 w11) fun _ w20 =>
  gd (cls ((some b0)) w20 = some 13) <|
  bd (f_X16_fault G ((some b0)) w20) fun x25 w25 =>
  bo (puti [0] a0 6 x25 w25) fun w28 =>
  bo (geti [0] a0 6 w28) fun x32 =>
  if x32 = ((-1)) then (f_X1_run_b44 G  a0 ((some b0)) 1 w28) else
  (f_X1_run_b44 G  a0 ((some b0)) 0 w28)
noncomputable def f_X1_checkElement (G : Nat) (a0 : Int32) (w : St) : Option ((Nat ⊕ Unit) × St) :=
  if a0 = 0 then (some (Sum.inl w.n, (enew 21 w))) else
  (some ((Sum.inr (())), w))
noncomputable def f_X1_reason_b44 (G : Nat) (v2 : Int32) (v3 : Rf) (s0 : Int32) (w : St) : Option ((Nat ⊕ Int32) × St) :=
  bx (f_X1_checkElement G s0 w) fun _ w44 =>
  if v3 = none then (some ((Sum.inr 0), w44)) else
  (if v2 = 0 then (bo (geti [2] v3 0 w44) fun x67 =>
  some ((Sum.inr x67), w44)) else
  (bo (geti [2] v3 1 w44) fun x60 =>
  some ((Sum.inr x60), w44)))
noncomputable def f_X1_reason_b34 (G : Nat) (v2 : Int32) (s0 : Rf) (w : St) : Option ((Nat ⊕ Int32) × St) :=
  if s0 = none then (f_X1_reason_b44 G  v2 s0 0 w) else
  (f_X1_reason_b44 G  v2 s0 1 w)
noncomputable def f_X1_reason_b20 (G : Nat) (v0 : Rf) (v2 : Int32) (w : St) : Option ((Nat ⊕ Int32) × St) :=
  bo (getr [0] v0 7 w) fun x21 =>
  f_X1_reason_b34 G  v2 x21 w
noncomputable def f_X1_reason (G : Nat) (a0 : Rf) (a1 : Int32) (a2 : Int32) (w : St) : Option ((Nat ⊕ Int32) × St) :=
  bd (f_X1_isBetween G a1 0 1 w) fun x3 w3 =>
  bx (f_X1_check G x3 w3) fun _ w6 =>
  bo (getr [0] a0 7 w6) fun x10 =>
  if x10 = none then (f_X1_reason_b20 G  a0 a2 w6) else
  (if a1 = 0 then (f_X1_reason_b20 G  a0 a2 w6) else
  (bo (getr [0] a0 7 w6) fun x28 =>
  bo (getr [2] x28 2 w6) fun x31 =>
  f_X1_reason_b34 G  a2 x31 w6))
noncomputable def f_X1_writesEvent (G : Nat) (a0 : Rf) (a1 : Rf) (a2 : Int32) (a3 : Int32) (a4 : Rf) (a5 : Rf) (w : St) : Option (Unit × St) :=
  gd (cls a1 w = some 6) <|
  bd (f_X9_event G a1 a2 a3 a4 w) fun x5 w5 =>
  if x5 = none then (some ((()), w5)) else
  (bo (getr [0] a0 4 w5) fun x17 =>
  gd (cls x17 w5 = some 18) <|
  bd (fB_appendS x17 a5 w5) fun x22 w22 =>
  bo (geti [7, 9] x5 7 w22) fun x27 =>
  gd (cls x22 w22 = some 18) <|
  bd (fB_appendI x22 x27 w22) fun x30 w30 =>
  bd (dsp x5 w30 fun c36 => if c36 = 7 then (f_X10_late G x5 w30) else if c36 = 9 then (f_X10_late G x5 w30) else none) fun x36 w36 =>
  if x36 ≤ 0 then (some ((()), w36)) else
  (bo (getr [0] a0 4 w36) fun x43 =>
  gd (cls x43 w36 = some 18) <|
  bd (fB_appendC x43 43 w36) fun x48 w48 =>
  bd (dsp x5 w48 fun c53 => if c53 = 7 then (f_X10_late G x5 w48) else if c53 = 9 then (f_X10_late G x5 w48) else none) fun x53 w53 =>
  gd (cls x48 w53 = some 18) <|
  bd (fB_appendI x48 x53 w53) fun x56 w56 =>
  some ((()), w56)))
noncomputable def f_X1_tell_b52 (G : Nat) (k22 : Rf → Int32 → Rf → Rf → Int32 → St → Option ((Nat ⊕ Int32) × St)) (v0 : Rf) (v1 : Int32) (v2 : Rf) (v3 : Rf) (v4 : Int32) (s0 : Rf) (s1 : Rf) (w : St) : Option ((Nat ⊕ Int32) × St) :=
  gd (cls s1 w = some 18) <|
  bd (fB_appendS s1 s0 w) fun x52 w52 =>
  bo (getr [3] v2 0 w52) fun x56 =>
  gd (cls x56 w52 = some 15) <|
  bd (fL_get x56 v4 w52) fun x61 w61 =>
  gd (okc [4] x61 w61 = true) <|
  bo (geti [4] x61 0 w61) fun x67 =>
  gd (cls x52 w61 = some 18) <|
  bd (fB_appendI x52 x67 w61) fun x70 w70 =>
  gd (cls x70 w70 = some 18) <|
  bd (fB_appendC x70 64 w70) fun x75 w75 =>
  gd (cls v0 w75 = some 0) <|
  bd (f_X1_writesEvent G v0 v3 v1 v4 ((some (w75.g 1))) ((some (w75.g 11))) w75) fun _ w90 =>
  gd (cls v0 w90 = some 0) <|
  bd (f_X1_writesEvent G v0 v3 v1 v4 ((some (w90.g 2))) ((some (w90.g 26))) w90) fun _ w104 =>
  k22 v0 v1 v2 v3 (v4 + 1) w104
noncomputable def f_X1_tell_l22 (G : Nat) (k113 : Rf → St → Option ((Nat ⊕ Int32) × St)) : Nat → Rf → Int32 → Rf → Rf → Int32 → St → Option ((Nat ⊕ Int32) × St)
  | 0, _, _, _, _, _, _ => none
  | F + 1, v0, v1, v2, v3, v4, w =>
  bo (getr [3] v2 0 w) fun x25 =>
  gd (cls x25 w = some 15) <|
  bd (fL_size x25 w) fun x28 w28 =>
  if x28 ≤ v4 then (k113 v0 w28) else
  (bo (getr [0] v0 4 w28) fun x35 =>
  if v4 ≤ 0 then (f_X1_tell_b52 G (fun v0 v1 v2 v3 v4 w => f_X1_tell_l22 G k113 F v0 v1 v2 v3 v4 w)  v0 v1 v2 v3 v4 ((some (w28.g 11))) x35 w28) else
  (f_X1_tell_b52 G (fun v0 v1 v2 v3 v4 w => f_X1_tell_l22 G k113 F v0 v1 v2 v3 v4 w)  v0 v1 v2 v3 v4 ((some (w28.g 10))) x35 w28))
noncomputable def f_X1_tell_b113 (G : Nat) (v0 : Rf) (w : St) : Option ((Nat ⊕ Int32) × St) :=
  bo (getr [0] v0 4 w) fun x114 =>
  gd (cls x114 w = some 18) <|
  bd (fB_length x114 w) fun x117 w117 =>
  some ((Sum.inr x117), w117)
noncomputable def f_X1_tell (G : Nat) (a0 : Rf) (a1 : Int32) (w : St) : Option ((Nat ⊕ Int32) × St) :=
  gd (cls a0 w = some 0) <|
  bx (f_X1_coach0 G a0 a1 w) fun x2 w2 =>
  gd (cls a0 w2 = some 0) <|
  bd (f_X1_net G a0 w2) fun x7 w7 =>
  bo (getr [0] a0 4 w7) fun x12 =>
  gd (cls x12 w7 = some 18) <|
  bd (fB_setLength x12 0 w7) fun _ w16 =>
  f_X1_tell_l22 G (fun v0 w => f_X1_tell_b113 G  v0 w) G a0 a1 x2 x7 0 w16
abbrev V_X1_reaches (l : Launch) (D : Dn) (H0 : Heap) (w0 : St) (res : Option ((Nat ⊕ Int32) × St)) (pc : Nat) (ls : List (Nat × LV)) (st : List Value) (w : St) : Prop := V l D H0 RX1 "reaches" cX1_reaches 6 (some (.int)) [] 37 3149 (ocX rvI) w0 res pc ls st w
theorem t_X1_reaches_b98 {l : Launch} {D : Dn} {H0 : Heap} {w0 : St} (hl : l.stackTraces = false) (G : Nat) (k39 : Int32 → Rf → Rf → Int32 → Int32 → St → Option ((Nat ⊕ Int32) × St)) (h39 : ∀ v1 v2 v3 v4 v5 w, V_X1_reaches l D H0 w0 (k39 v1 v2 v3 v4 v5 w) 39 [(1, lI v1), (2, lR v2), (3, lR v3), (4, lI v4), (5, lI v5)] [] w) (v1 : Int32) (v2 : Rf) (v3 : Rf) (v5 : Int32) (s0 : Int32) (s1 : Int32) (w : St) : V_X1_reaches l D H0 w0 (f_X1_reaches_b98 G k39 v1 v2 v3 v5 s0 s1 w) 98 [(1, lI v1), (2, lR v2), (3, lR v3), (5, lI v5)] [.int s0, .int s1] w := by
  unfold f_X1_reaches_b98
  refine r_iadd 99 dX1_reaches_98 rfl ?_
  refine r_istore (ls2 := [(4, lI (s1 + s0)), (1, lI v1), (2, lR v2), (3, lR v3), (5, lI v5)]) 101 dX1_reaches_99 (by decide) rfl rfl ?_
  refine r_iinc (v := v5 + 1) (ls2 := [(5, lI (v5 + 1)), (4, lI (s1 + s0)), (1, lI v1), (2, lR v2), (3, lR v3)]) 104 4 dX1_reaches_101 rfl rfl (by decide) rfl rfl ?_
  refine r_goto 39 dX1_reaches_104 (by decide) ?_
  exact r_lsP [2, 3, 4, 1, 0] rfl (h39 v1 v2 v3 (s1 + s0) (v5 + 1) w)
theorem t_X1_reaches_b97 {l : Launch} {D : Dn} {H0 : Heap} {w0 : St} (hl : l.stackTraces = false) (G : Nat) (k39 : Int32 → Rf → Rf → Int32 → Int32 → St → Option ((Nat ⊕ Int32) × St)) (h39 : ∀ v1 v2 v3 v4 v5 w, V_X1_reaches l D H0 w0 (k39 v1 v2 v3 v4 v5 w) 39 [(1, lI v1), (2, lR v2), (3, lR v3), (4, lI v4), (5, lI v5)] [] w) (v1 : Int32) (v2 : Rf) (v3 : Rf) (v5 : Int32) (s0 : Int32) (w : St) : V_X1_reaches l D H0 w0 (f_X1_reaches_b97 G k39 v1 v2 v3 v5 s0 w) 97 [(1, lI v1), (2, lR v2), (3, lR v3), (5, lI v5)] [.int s0] w := by
  unfold f_X1_reaches_b97
  refine r_iconst (v := 0) 98 dX1_reaches_97 rfl rfl ?_
  exact r_lsP [0, 1, 2, 3] rfl (t_X1_reaches_b98 hl G k39 h39  v1 v2 v3 v5 0 s0 w)
theorem t_X1_reaches_l39 {l : Launch} {D : Dn} {H0 : Heap} {w0 : St} (hl : l.stackTraces = false) (G : Nat) (k107 : Int32 → St → Option ((Nat ⊕ Int32) × St)) (h107 : ∀ v4 w, V_X1_reaches l D H0 w0 (k107 v4 w) 107 [(4, lI v4)] [] w) : ∀ (F : Nat) (v1 : Int32) (v2 : Rf) (v3 : Rf) (v4 : Int32) (v5 : Int32) (w : St), V_X1_reaches l D H0 w0 (f_X1_reaches_l39 G k107 F v1 v2 v3 v4 v5 w) 39 [(1, lI v1), (2, lR v2), (3, lR v3), (4, lI v4), (5, lI v5)] [] w := by
  intro F
  induction F with
  | zero => intros; exact r_none
  | succ F ih =>
    intro v1 v2 v3 v4 v5 w
    unfold f_X1_reaches_l39
    refine r_iload 41 4 dX1_reaches_39 rfl rfl ?_
    refine r_aload_n 42 1 dX1_reaches_41 rfl rfl rfl ?_
    refine r_gd (fun hc42 => ?_)
    refine r_callV (n := 0) (as := []) (rest := [.int v5]) 45 15 (sL_size hl v2 w) hc42 rfl (lw_V q857 q303 q304 q104 q305) (by decide +kernel) (by decide) rfl rfl (cat2_i (cat2_nil (k := 0))) rfl dX1_reaches_42 rfl (fun x42 w42 => ?_)
    refine r_icmp_ge 107 48 dX1_reaches_45 (by decide) rfl ?_ ?_
    · exact r_lsP [3] rfl (h107 v4 w42)
    refine r_iload 50 3 dX1_reaches_48 rfl rfl ?_
    refine r_aload_n 51 1 dX1_reaches_50 rfl rfl rfl ?_
    refine r_iload 53 4 dX1_reaches_51 rfl rfl ?_
    refine r_gd (fun hc53 => ?_)
    refine r_callV (n := 1) (as := [lI v5]) (rest := [.int v4]) 56 15 (sL_get hl v2 v5 w42) hc53 rfl (lw_V q858 q311 q312 q104 q313) (by decide +kernel) (by decide) rfl rfl (cat2_i (cat2_nil (k := 0))) rfl dX1_reaches_53 rfl (fun x53 w53 => ?_)
    refine r_cast 59 (CA_cons (c0 := 7) rfl (Or.inl rfl) (CA_cons (c0 := 9) rfl (Or.inr q2711) (CA_nil))) q859 dX1_reaches_56 rfl ?_
    refine r_geti 62 gf_X1_334 dX1_reaches_59 rfl (fun x59 => ?_)
    refine r_iload_n 63 0 dX1_reaches_62 rfl rfl rfl ?_
    refine r_icmp_eq 97 66 dX1_reaches_63 (by decide) rfl ?_ ?_
    · exact r_lsP [0, 1, 2, 4] rfl (t_X1_reaches_b97 hl G (fun v1 v2 v3 v4 v5 w => f_X1_reaches_l39 G k107 F v1 v2 v3 v4 v5 w) (fun v1 v2 v3 v4 v5 w => ih v1 v2 v3 v4 v5 w)  v1 v2 v3 v5 v4 w53)
    refine r_aload_n 67 1 dX1_reaches_66 rfl rfl rfl ?_
    refine r_iload 69 4 dX1_reaches_67 rfl rfl ?_
    refine r_gd (fun hc69 => ?_)
    refine r_callV (n := 1) (as := [lI v5]) (rest := [.int v4]) 72 15 (sL_get hl v2 v5 w53) hc69 rfl (lw_V q858 q311 q312 q104 q313) (by decide +kernel) (by decide) rfl rfl (cat2_i (cat2_nil (k := 0))) rfl dX1_reaches_69 rfl (fun x69 w69 => ?_)
    refine r_cast 75 (CA_cons (c0 := 7) rfl (Or.inl rfl) (CA_cons (c0 := 9) rfl (Or.inr q2711) (CA_nil))) q859 dX1_reaches_72 rfl ?_
    refine r_geti 78 gf_X1_297 dX1_reaches_75 rfl (fun x75 => ?_)
    refine r_aload_n 79 2 dX1_reaches_78 rfl rfl rfl ?_
    refine r_iload 81 4 dX1_reaches_79 rfl rfl ?_
    refine r_gd (fun hc81 => ?_)
    refine r_callV (n := 1) (as := [lI v5]) (rest := [.int x75, .int v4]) 84 15 (sL_get hl v3 v5 w69) hc81 rfl (lw_V q858 q311 q312 q104 q313) (by decide +kernel) (by decide) rfl rfl (cat2_i (cat2_i (cat2_nil (k := 0)))) rfl dX1_reaches_81 rfl (fun x81 w81 => ?_)
    refine r_cast 87 (CA_cons (c0 := 7) rfl (Or.inl rfl) (CA_cons (c0 := 9) rfl (Or.inr q2711) (CA_nil))) q859 dX1_reaches_84 rfl ?_
    refine r_geti 90 gf_X1_297 dX1_reaches_87 rfl (fun x87 => ?_)
    refine r_icmp_eq 97 93 dX1_reaches_90 (by decide) rfl ?_ ?_
    · exact r_lsP [0, 1, 2, 4] rfl (t_X1_reaches_b97 hl G (fun v1 v2 v3 v4 v5 w => f_X1_reaches_l39 G k107 F v1 v2 v3 v4 v5 w) (fun v1 v2 v3 v4 v5 w => ih v1 v2 v3 v4 v5 w)  v1 v2 v3 v5 v4 w81)
    refine r_iconst (v := 1) 94 dX1_reaches_93 rfl rfl ?_
    refine r_goto 98 dX1_reaches_94 (by decide) ?_
    exact r_lsP [0, 1, 2, 4] rfl (t_X1_reaches_b98 hl G (fun v1 v2 v3 v4 v5 w => f_X1_reaches_l39 G k107 F v1 v2 v3 v4 v5 w) (fun v1 v2 v3 v4 v5 w => ih v1 v2 v3 v4 v5 w)  v1 v2 v3 v5 1 v4 w81)
theorem t_X1_reaches_b107 {l : Launch} {D : Dn} {H0 : Heap} {w0 : St} (hl : l.stackTraces = false) (G : Nat) (v4 : Int32) (w : St) : V_X1_reaches l D H0 w0 (f_X1_reaches_b107 G v4 w) 107 [(4, lI v4)] [] w := by
  unfold f_X1_reaches_b107
  refine r_iload 109 0 dX1_reaches_107 rfl rfl ?_
  exact r_iret rfl rfl dX1_reaches_109
theorem t_X1_reaches {l : Launch} {D : Dn} {H0 : Heap} {w0 : St} (hl : l.stackTraces = false) (G : Nat) (a0 : Rf) (a1 : Int32) (w : St) : V_X1_reaches l D H0 w0 (f_X1_reaches G a0 a1 w) 0 [(0, lR a0), (1, lI a1)] [] w := by
  unfold f_X1_reaches
  refine r_aload_n 1 0 dX1_reaches_0 rfl rfl rfl ?_
  refine r_iload_n 2 1 dX1_reaches_1 rfl rfl rfl ?_
  refine r_gd (fun hc2 => ?_)
  rw [bx_bh]
  refine r_callHV (n := 1) (as := [lI a1]) (rest := []) 5 0 (s_X1_coach0 hl G a0 a1 w) hc2 rfl (lw_V q1605 q1607 qs18 q100 q1608) (by decide +kernel) (by decide) rfl rfl (cat2_nil (k := 0)) rfl dX1_reaches_2 rfl (fun q9 w2 => r_pass (fun _ => rfl) rfl) (fun x2 w2 => ?_)
  refine r_pop_r 6 dX1_reaches_5 rfl ?_
  refine r_aload_n 7 0 dX1_reaches_6 rfl rfl rfl ?_
  refine r_gd (fun hc7 => ?_)
  refine r_callV (n := 0) (as := []) (rest := []) 10 0 (s_X1_net hl G a0 w2) hc7 rfl (lw_V q290 q292 qs0 q100 q293) (by decide +kernel) (by decide) rfl rfl (cat2_nil (k := 0)) rfl dX1_reaches_7 rfl (fun x7 w7 => ?_)
  refine r_getr 13 gf_X1_331 dX1_reaches_10 rfl (fun x10 => ?_)
  refine r_astore_n (ls2 := [(2, lR x10), (0, lR a0), (1, lI a1)]) 14 dX1_reaches_13 rfl (by decide) rfl rfl ?_
  refine r_nw (C := RX9) (T := TX9) (N := 3) (ty := tyX9) 17 6 rfl rfl in_X9 tyX9_ok q294 q295 q130 rfl (by decide) dX1_reaches_14 rfl (fun b14 w14 => ?_)
  refine r_dup_r 18 dX1_reaches_17 rfl ?_
  refine r_aload_n 19 1 dX1_reaches_18 rfl rfl rfl ?_
  refine r_getr 22 gf_X1_10 dX1_reaches_19 rfl (fun x19 => ?_)
  refine r_iload_n 23 2 dX1_reaches_22 rfl rfl rfl ?_
  refine r_callI (b := b14) (n := 2) (as := [lR x19, lI a1]) (rest := [rf ((some b14))]) 26 (s_X9_init hl G b14 x19 a1 w14) (lw_meth q298) q130 q296 q297 rfl (by decide +kernel) (by decide) rfl rfl (cat2_r (cat2_nil (k := 0))) rfl dX1_reaches_23 rfl (fun _ w23 => ?_)
  refine r_gd (fun hc26 => ?_)
  refine r_callV (n := 0) (as := []) (rest := []) 29 6 (s_X9_inTurn hl G ((some b14)) w23) hc26 rfl (lw_V q740 q741 q742 q130 q743) (by decide +kernel) (by decide) rfl rfl (cat2_nil (k := 0)) rfl dX1_reaches_26 rfl (fun x26 w26 => ?_)
  refine r_getr 32 gf_X1_331 dX1_reaches_29 rfl (fun x29 => ?_)
  refine r_astore_n (ls2 := [(3, lR x29), (2, lR x10), (0, lR a0), (1, lI a1)]) 33 dX1_reaches_32 rfl (by decide) rfl rfl ?_
  refine r_iconst (v := 0) 34 dX1_reaches_33 rfl rfl ?_
  refine r_istore (ls2 := [(4, lI 0), (3, lR x29), (2, lR x10), (0, lR a0), (1, lI a1)]) 36 dX1_reaches_34 (by decide) rfl rfl ?_
  refine r_iconst (v := 0) 37 dX1_reaches_36 rfl rfl ?_
  refine r_istore (ls2 := [(5, lI 0), (4, lI 0), (3, lR x29), (2, lR x10), (0, lR a0), (1, lI a1)]) 39 dX1_reaches_37 (by decide) rfl rfl ?_
  exact r_lsP [5, 3, 2, 1, 0] rfl (t_X1_reaches_l39 hl G (fun v4 w => f_X1_reaches_b107 G  v4 w) (fun v4 w => t_X1_reaches_b107 hl G  v4 w) G a1 x10 x29 0 0 w26)
theorem s_X1_reaches {l : Launch} {D : Dn} {H0 : Heap} (hl : l.stackTraces = false) (G : Nat) (a0 : Rf) (a1 : Int32) (w : St) : SimX l D H0 yX1_reaches (ws_ yX1_reaches cX1_reaches 6 (some (.int))) 37 3149 (ocX rvI) [lR a0, lI a1] w (f_X1_reaches G a0 a1 w) := SimX.ofV (y := yX1_reaches) (by decide) rfl (t_X1_reaches hl G a0 a1 w)
abbrev V_X9_with (l : Launch) (D : Dn) (H0 : Heap) (w0 : St) (res : Option (Rf × St)) (pc : Nat) (ls : List (Nat × LV)) (st : List Value) (w : St) : Prop := V l D H0 RX9 "with" cX9_with 5 (some (.object "CoachTimetable$Net")) [] 36 3129 (fun x => .inr (rvR x)) w0 res pc ls st w
theorem t_X9_with_b46 {l : Launch} {D : Dn} {H0 : Heap} {w0 : St} (hl : l.stackTraces = false) (G : Nat) (k8 : Rf → Int32 → Rf → St → Option (Rf × St)) (h8 : ∀ v0 v1 v2 w, V_X9_with l D H0 w0 (k8 v0 v1 v2 w) 8 [(0, lR v0), (1, lI v1), (2, lR v2)] [] w) (v0 : Rf) (v1 : Int32) (v2 : Rf) (w : St) : V_X9_with l D H0 w0 (f_X9_with_b46 G k8 v0 v1 v2 w) 46 [(0, lR v0), (1, lI v1), (2, lR v2)] [] w := by
  unfold f_X9_with_b46
  refine r_goto 8 dX9_with_46 (by decide) ?_
  exact r_lsP [0, 1, 2] rfl (h8 v0 v1 v2 w)
theorem t_X9_with_l8 {l : Launch} {D : Dn} {H0 : Heap} {w0 : St} (hl : l.stackTraces = false) (G : Nat) (k49 : Rf → St → Option (Rf × St)) (h49 : ∀ v0 w, V_X9_with l D H0 w0 (k49 v0 w) 49 [(0, lR v0)] [] w) : ∀ (F : Nat) (v0 : Rf) (v1 : Int32) (v2 : Rf) (w : St), V_X9_with l D H0 w0 (f_X9_with_l8 G k49 F v0 v1 v2 w) 8 [(0, lR v0), (1, lI v1), (2, lR v2)] [] w := by
  intro F
  induction F with
  | zero => intros; exact r_none
  | succ F ih =>
    intro v0 v1 v2 w
    unfold f_X9_with_l8
    refine r_aload_n 9 2 dX9_with_8 rfl rfl rfl ?_
    refine r_gd (fun hc9 => ?_)
    refine r_callF (x2 := ⟨"java/util/Iterator", "hasNext", "()Z"⟩) (n := 0) (as := []) (rest := []) 14 16 (sI_hasNext hl v2 w) hc9 rfl (lw_app (l4 q580 q584 q586 q116) (lw_meth q588)) (List.mem_of_getElem? (i := 0) rfl) (by decide +kernel) (by decide) rfl rfl (cat2_nil (k := 0)) rfl dX9_with_9 rfl (fun x9 w9 => ?_)
    refine r_if_eq 49 17 dX9_with_14 (by decide) rfl ?_ ?_
    · exact r_lsP [0] rfl (h49 v0 w9)
    refine r_aload_n 18 2 dX9_with_17 rfl rfl rfl ?_
    refine r_gd (fun hc18 => ?_)
    refine r_callF (x2 := ⟨"java/util/Iterator", "next", "()Ljava/lang/Object;"⟩) (n := 0) (as := []) (rest := []) 23 16 (sI_next hl v2 w9) hc18 rfl (lw_app (l4 q590 q593 q595 q116) (lw_meth q597)) (List.mem_of_getElem? (i := 1) rfl) (by decide +kernel) (by decide) rfl rfl (cat2_nil (k := 0)) rfl dX9_with_18 rfl (fun x18 w18 => ?_)
    refine r_cast 26 (CA_cons (c0 := 7) rfl (Or.inl rfl) (CA_cons (c0 := 9) rfl (Or.inr q2711) (CA_nil))) q326 dX9_with_23 rfl ?_
    refine r_astore_n (ls2 := [(3, lR x18), (0, lR v0), (1, lI v1), (2, lR v2)]) 27 dX9_with_26 rfl (by decide) rfl rfl ?_
    refine r_aload_n 28 0 dX9_with_27 rfl rfl rfl ?_
    refine r_inst 31 (is_ture) (ns_ture) q501 dX9_with_28 rfl (fun x28 => ?_)
    refine r_if_eq 46 34 dX9_with_31 (by decide) rfl ?_ ?_
    · exact r_lsP [1, 2, 3] rfl (t_X9_with_b46 hl G (fun v0 v1 v2 w => f_X9_with_l8 G k49 F v0 v1 v2 w) (fun v0 v1 v2 w => ih v0 v1 v2 w)  v0 v1 v2 w18)
    refine r_aload_n 35 0 dX9_with_34 rfl rfl rfl ?_
    refine r_cast 38 (CA_cons (c0 := 9) rfl (Or.inl rfl) (CA_nil)) q501 dX9_with_35 rfl ?_
    refine r_astore (ls2 := [(4, lR x18), (3, lR x18), (0, lR v0), (1, lI v1), (2, lR v2)]) 40 dX9_with_38 (by decide) rfl rfl ?_
    refine r_aload 42 0 dX9_with_40 rfl rfl ?_
    refine r_iload_n 43 3 dX9_with_42 rfl rfl rfl ?_
    refine r_puti 46 pf_X9_165 dX9_with_43 rfl (fun w43 => ?_)
    exact r_lsP [2, 3, 4] rfl (t_X9_with_b46 hl G (fun v0 v1 v2 w => f_X9_with_l8 G k49 F v0 v1 v2 w) (fun v0 v1 v2 w => ih v0 v1 v2 w)  v0 v1 v2 w43)
theorem t_X9_with_b49 {l : Launch} {D : Dn} {H0 : Heap} {w0 : St} (hl : l.stackTraces = false) (G : Nat) (v0 : Rf) (w : St) : V_X9_with l D H0 w0 (f_X9_with_b49 G v0 w) 49 [(0, lR v0)] [] w := by
  unfold f_X9_with_b49
  refine r_aload_n 50 0 dX9_with_49 rfl rfl rfl ?_
  refine r_gd (fun hc50 => ?_)
  refine r_callV (n := 0) (as := []) (rest := []) 53 6 (s_X9_inTurn hl G v0 w) hc50 rfl (lw_V q1749 q741 q742 q130 q743) (by decide +kernel) (by decide) rfl rfl (cat2_nil (k := 0)) rfl dX9_with_50 rfl (fun x50 w50 => ?_)
  exact r_aret rfl rfl (Or.inl ⟨_, rfl⟩) dX9_with_53
theorem t_X9_with {l : Launch} {D : Dn} {H0 : Heap} {w0 : St} (hl : l.stackTraces = false) (G : Nat) (a0 : Rf) (a1 : Int32) (w : St) : V_X9_with l D H0 w0 (f_X9_with G a0 a1 w) 0 [(0, lR a0), (1, lI a1)] [] w := by
  unfold f_X9_with
  refine r_aload_n 1 0 dX9_with_0 rfl rfl rfl ?_
  refine r_getr 4 gf_X9_12 dX9_with_1 rfl (fun x1 => ?_)
  refine r_gd (fun hc4 => ?_)
  refine r_callV (n := 0) (as := []) (rest := []) 7 15 (sL_iterator hl x1 w) hc4 rfl (lw_V q556 q557 q558 q104 q559) (by decide +kernel) (by decide) rfl rfl (cat2_nil (k := 0)) rfl dX9_with_4 rfl (fun x4 w4 => ?_)
  refine r_astore_n (ls2 := [(2, lR x4), (0, lR a0), (1, lI a1)]) 8 dX9_with_7 rfl (by decide) rfl rfl ?_
  exact r_lsP [1, 2, 0] rfl (t_X9_with_l8 hl G (fun v0 w => f_X9_with_b49 G  v0 w) (fun v0 w => t_X9_with_b49 hl G  v0 w) G a0 a1 x4 w4)
theorem s_X9_with {l : Launch} {D : Dn} {H0 : Heap} (hl : l.stackTraces = false) (G : Nat) (a0 : Rf) (a1 : Int32) (w : St) : SimN l D H0 yX9_with (ws_ yX9_with cX9_with 5 (some (.object "CoachTimetable$Net"))) 36 3129 rvR [lR a0, lI a1] w (f_X9_with G a0 a1 w) := SimX.N (SimX.ofV (y := yX9_with) (by decide) rfl (t_X9_with hl G a0 a1 w))
abbrev V_X1_netWith (l : Launch) (D : Dn) (H0 : Heap) (w0 : St) (res : Option ((Nat ⊕ Rf) × St)) (pc : Nat) (ls : List (Nat × LV)) (st : List Value) (w : St) : Prop := V l D H0 RX1 "netWith" cX1_netWith 2 (some (.object "CoachTimetable$Net")) [] 37 3153 (ocX rvR) w0 res pc ls st w
theorem t_X1_netWith {l : Launch} {D : Dn} {H0 : Heap} {w0 : St} (hl : l.stackTraces = false) (G : Nat) (a0 : Rf) (a1 : Int32) (w : St) : V_X1_netWith l D H0 w0 (f_X1_netWith G a0 a1 w) 0 [(0, lR a0), (1, lI a1)] [] w := by
  unfold f_X1_netWith
  refine r_iload_n 1 1 dX1_netWith_0 rfl rfl rfl ?_
  refine r_iconst (v := 0) 2 dX1_netWith_1 rfl rfl ?_
  refine r_bipush (v := 60) 4 dX1_netWith_2 rfl rfl ?_
  refine r_callS (n := 3) (as := [lI a1, lI 0, lI 60]) (rest := []) 7 (s_X1_isBetween hl G a1 0 60 w) (lw_S q1363 q1364 q100 q1365) (by decide +kernel) (by decide) rfl rfl (cat2_nil (k := 0)) rfl dX1_netWith_4 rfl (fun x4 w4 => ?_)
  rw [bx_bh]
  refine r_callHS (n := 1) (as := [lI x4]) (rest := []) 10 (s_X1_check hl G x4 w4) (lw_S q1627 q1628 q100 q1629) (by decide +kernel) (by decide) rfl rfl (cat2_nil (k := 0)) rfl dX1_netWith_7 rfl (fun q9 w7 => r_pass (fun _ => rfl) rfl) (fun _ w7 => ?_)
  refine r_nw (C := RX9) (T := TX9) (N := 3) (ty := tyX9) 13 6 rfl rfl in_X9 tyX9_ok q294 q295 q130 rfl (by decide) dX1_netWith_10 rfl (fun b10 w10 => ?_)
  refine r_dup_r 14 dX1_netWith_13 rfl ?_
  refine r_aload_n 15 0 dX1_netWith_14 rfl rfl rfl ?_
  refine r_getr 18 gf_X1_10 dX1_netWith_15 rfl (fun x15 => ?_)
  refine r_iconst (v := (-1)) 19 dX1_netWith_18 rfl rfl ?_
  refine r_callI (b := b10) (n := 2) (as := [lR x15, lI ((-1))]) (rest := [rf ((some b10))]) 22 (s_X9_init hl G b10 x15 ((-1)) w10) (lw_meth q298) q130 q296 q297 rfl (by decide +kernel) (by decide) rfl rfl (cat2_r (cat2_nil (k := 0))) rfl dX1_netWith_19 rfl (fun _ w19 => ?_)
  refine r_iload_n 23 1 dX1_netWith_22 rfl rfl rfl ?_
  refine r_gd (fun hc23 => ?_)
  refine r_callV (n := 1) (as := [lI a1]) (rest := []) 26 6 (s_X9_with hl G ((some b10)) a1 w19) hc23 rfl (lw_V q1745 q1746 q1747 q130 q1748) (by decide +kernel) (by decide) rfl rfl (cat2_nil (k := 0)) rfl dX1_netWith_23 rfl (fun x23 w23 => ?_)
  exact r_aret rfl rfl (Or.inl ⟨_, rfl⟩) dX1_netWith_26
theorem s_X1_netWith {l : Launch} {D : Dn} {H0 : Heap} (hl : l.stackTraces = false) (G : Nat) (a0 : Rf) (a1 : Int32) (w : St) : SimX l D H0 yX1_netWith (ws_ yX1_netWith cX1_netWith 2 (some (.object "CoachTimetable$Net"))) 37 3153 (ocX rvR) [lR a0, lI a1] w (f_X1_netWith G a0 a1 w) := SimX.ofV (y := yX1_netWith) (by decide) rfl (t_X1_netWith hl G a0 a1 w)
abbrev V_X1_totalWith (l : Launch) (D : Dn) (H0 : Heap) (w0 : St) (res : Option ((Nat ⊕ Int32) × St)) (pc : Nat) (ls : List (Nat × LV)) (st : List Value) (w : St) : Prop := V l D H0 RX1 "totalWith" cX1_totalWith 2 (some (.int)) [] 38 3174 (ocX rvI) w0 res pc ls st w
theorem t_X1_totalWith {l : Launch} {D : Dn} {H0 : Heap} {w0 : St} (hl : l.stackTraces = false) (G : Nat) (a0 : Rf) (a1 : Int32) (w : St) : V_X1_totalWith l D H0 w0 (f_X1_totalWith G a0 a1 w) 0 [(0, lR a0), (1, lI a1)] [] w := by
  unfold f_X1_totalWith
  refine r_aload_n 1 0 dX1_totalWith_0 rfl rfl rfl ?_
  refine r_iload_n 2 1 dX1_totalWith_1 rfl rfl rfl ?_
  refine r_gd (fun hc2 => ?_)
  rw [bx_bh]
  refine r_callHV (n := 1) (as := [lI a1]) (rest := []) 5 0 (s_X1_netWith hl G a0 a1 w) hc2 rfl (lw_V q1741 q1743 qs23 q100 q1744) (by decide +kernel) (by decide) rfl rfl (cat2_nil (k := 0)) rfl dX1_totalWith_2 rfl (fun q9 w2 => r_pass (fun _ => rfl) rfl) (fun x2 w2 => ?_)
  refine r_gd (fun hc5 => ?_)
  refine r_callV (n := 0) (as := []) (rest := []) 8 6 (s_X9_total hl G x2 w2) hc5 rfl (lw_V q838 q839 q840 q130 q841) (by decide +kernel) (by decide) rfl rfl (cat2_nil (k := 0)) rfl dX1_totalWith_5 rfl (fun x5 w5 => ?_)
  exact r_iret rfl rfl dX1_totalWith_8
theorem s_X1_totalWith {l : Launch} {D : Dn} {H0 : Heap} (hl : l.stackTraces = false) (G : Nat) (a0 : Rf) (a1 : Int32) (w : St) : SimX l D H0 yX1_totalWith (ws_ yX1_totalWith cX1_totalWith 2 (some (.int))) 38 3174 (ocX rvI) [lR a0, lI a1] w (f_X1_totalWith G a0 a1 w) := SimX.ofV (y := yX1_totalWith) (by decide) rfl (t_X1_totalWith hl G a0 a1 w)
abbrev V_X9_kept (l : Launch) (D : Dn) (H0 : Heap) (w0 : St) (res : Option (Int32 × St)) (pc : Nat) (ls : List (Nat × LV)) (st : List Value) (w : St) : Prop := V l D H0 RX9 "kept" cX9_kept 3 (some (.int)) [] 34 3092 (fun x => .inr (rvI x)) w0 res pc ls st w
theorem t_X9_kept_b32 {l : Launch} {D : Dn} {H0 : Heap} {w0 : St} (hl : l.stackTraces = false) (G : Nat) (k4 : Rf → Int32 → Int32 → St → Option (Int32 × St)) (h4 : ∀ v0 v1 v2 w, V_X9_kept l D H0 w0 (k4 v0 v1 v2 w) 4 [(0, lR v0), (1, lI v1), (2, lI v2)] [] w) (v0 : Rf) (v2 : Int32) (s0 : Int32) (s1 : Int32) (w : St) : V_X9_kept l D H0 w0 (f_X9_kept_b32 G k4 v0 v2 s0 s1 w) 32 [(0, lR v0), (2, lI v2)] [.int s0, .int s1] w := by
  unfold f_X9_kept_b32
  refine r_iadd 33 dX9_kept_32 rfl ?_
  refine r_istore_n (ls2 := [(1, lI (s1 + s0)), (0, lR v0), (2, lI v2)]) 34 dX9_kept_33 rfl (by decide) rfl rfl ?_
  refine r_iinc (v := v2 + 1) (ls2 := [(2, lI (v2 + 1)), (1, lI (s1 + s0)), (0, lR v0)]) 37 2 dX9_kept_34 rfl rfl (by decide) rfl rfl ?_
  refine r_goto 4 dX9_kept_37 (by decide) ?_
  exact r_lsP [2, 1, 0] rfl (h4 v0 (s1 + s0) (v2 + 1) w)
theorem t_X9_kept_l4 {l : Launch} {D : Dn} {H0 : Heap} {w0 : St} (hl : l.stackTraces = false) (G : Nat) (k40 : Int32 → St → Option (Int32 × St)) (h40 : ∀ v1 w, V_X9_kept l D H0 w0 (k40 v1 w) 40 [(1, lI v1)] [] w) : ∀ (F : Nat) (v0 : Rf) (v1 : Int32) (v2 : Int32) (w : St), V_X9_kept l D H0 w0 (f_X9_kept_l4 G k40 F v0 v1 v2 w) 4 [(0, lR v0), (1, lI v1), (2, lI v2)] [] w := by
  intro F
  induction F with
  | zero => intros; exact r_none
  | succ F ih =>
    intro v0 v1 v2 w
    unfold f_X9_kept_l4
    refine r_iload_n 5 2 dX9_kept_4 rfl rfl rfl ?_
    refine r_aload_n 6 0 dX9_kept_5 rfl rfl rfl ?_
    refine r_getr 9 gf_X9_18 dX9_kept_6 rfl (fun x6 => ?_)
    refine r_getr 12 gf_X9_42 dX9_kept_9 rfl (fun x9 => ?_)
    refine r_gd (fun hc12 => ?_)
    refine r_callV (n := 0) (as := []) (rest := [.int v2]) 15 15 (sL_size hl x9 w) hc12 rfl (lw_V q302 q303 q304 q104 q305) (by decide +kernel) (by decide) rfl rfl (cat2_i (cat2_nil (k := 0))) rfl dX9_kept_12 rfl (fun x12 w12 => ?_)
    refine r_icmp_ge 40 18 dX9_kept_15 (by decide) rfl ?_ ?_
    · exact r_lsP [1] rfl (h40 v1 w12)
    refine r_iload_n 19 1 dX9_kept_18 rfl rfl rfl ?_
    refine r_aload_n 20 0 dX9_kept_19 rfl rfl rfl ?_
    refine r_iload_n 21 2 dX9_kept_20 rfl rfl rfl ?_
    refine r_gd (fun hc21 => ?_)
    refine r_callV (n := 1) (as := [lI v2]) (rest := [.int v1]) 24 6 (s_X9_isKept hl G v0 v2 w12) hc21 rfl (lw_V q1194 q1181 q1182 q130 q1183) (by decide +kernel) (by decide) rfl rfl (cat2_i (cat2_nil (k := 0))) rfl dX9_kept_21 rfl (fun x21 w21 => ?_)
    refine r_if_eq 31 27 dX9_kept_24 (by decide) rfl ?_ ?_
    · refine r_iconst (v := 0) 32 dX9_kept_31 rfl rfl ?_
      exact r_lsP [0, 2] rfl (t_X9_kept_b32 hl G (fun v0 v1 v2 w => f_X9_kept_l4 G k40 F v0 v1 v2 w) (fun v0 v1 v2 w => ih v0 v1 v2 w)  v0 v2 0 v1 w21)
    refine r_iconst (v := 1) 28 dX9_kept_27 rfl rfl ?_
    refine r_goto 32 dX9_kept_28 (by decide) ?_
    exact r_lsP [0, 2] rfl (t_X9_kept_b32 hl G (fun v0 v1 v2 w => f_X9_kept_l4 G k40 F v0 v1 v2 w) (fun v0 v1 v2 w => ih v0 v1 v2 w)  v0 v2 1 v1 w21)
theorem t_X9_kept_b40 {l : Launch} {D : Dn} {H0 : Heap} {w0 : St} (hl : l.stackTraces = false) (G : Nat) (v1 : Int32) (w : St) : V_X9_kept l D H0 w0 (f_X9_kept_b40 G v1 w) 40 [(1, lI v1)] [] w := by
  unfold f_X9_kept_b40
  refine r_iload_n 41 0 dX9_kept_40 rfl rfl rfl ?_
  exact r_iret rfl rfl dX9_kept_41
theorem t_X9_kept {l : Launch} {D : Dn} {H0 : Heap} {w0 : St} (hl : l.stackTraces = false) (G : Nat) (a0 : Rf) (w : St) : V_X9_kept l D H0 w0 (f_X9_kept G a0 w) 0 [(0, lR a0)] [] w := by
  unfold f_X9_kept
  refine r_iconst (v := 0) 1 dX9_kept_0 rfl rfl ?_
  refine r_istore_n (ls2 := [(1, lI 0), (0, lR a0)]) 2 dX9_kept_1 rfl (by decide) rfl rfl ?_
  refine r_iconst (v := 0) 3 dX9_kept_2 rfl rfl ?_
  refine r_istore_n (ls2 := [(2, lI 0), (1, lI 0), (0, lR a0)]) 4 dX9_kept_3 rfl (by decide) rfl rfl ?_
  exact r_lsP [2, 1, 0] rfl (t_X9_kept_l4 hl G (fun v1 w => f_X9_kept_b40 G  v1 w) (fun v1 w => t_X9_kept_b40 hl G  v1 w) G a0 0 0 w)
theorem s_X9_kept {l : Launch} {D : Dn} {H0 : Heap} (hl : l.stackTraces = false) (G : Nat) (a0 : Rf) (w : St) : SimN l D H0 yX9_kept (ws_ yX9_kept cX9_kept 3 (some (.int))) 34 3092 rvI [lR a0] w (f_X9_kept G a0 w) := SimX.N (SimX.ofV (y := yX9_kept) (by decide) rfl (t_X9_kept hl G a0 w))
abbrev V_X1_missedWith (l : Launch) (D : Dn) (H0 : Heap) (w0 : St) (res : Option ((Nat ⊕ Int32) × St)) (pc : Nat) (ls : List (Nat × LV)) (st : List Value) (w : St) : Prop := V l D H0 RX1 "missedWith" cX1_missedWith 2 (some (.int)) [] 38 3174 (ocX rvI) w0 res pc ls st w
theorem t_X1_missedWith {l : Launch} {D : Dn} {H0 : Heap} {w0 : St} (hl : l.stackTraces = false) (G : Nat) (a0 : Rf) (a1 : Int32) (w : St) : V_X1_missedWith l D H0 w0 (f_X1_missedWith G a0 a1 w) 0 [(0, lR a0), (1, lI a1)] [] w := by
  unfold f_X1_missedWith
  refine r_aload_n 1 0 dX1_missedWith_0 rfl rfl rfl ?_
  refine r_getr 4 gf_X1_10 dX1_missedWith_1 rfl (fun x1 => ?_)
  refine r_getr 7 gf_X1_191 dX1_missedWith_4 rfl (fun x4 => ?_)
  refine r_gd (fun hc7 => ?_)
  refine r_callV (n := 0) (as := []) (rest := []) 10 15 (sL_size hl x4 w) hc7 rfl (lw_V q857 q303 q304 q104 q305) (by decide +kernel) (by decide) rfl rfl (cat2_nil (k := 0)) rfl dX1_missedWith_7 rfl (fun x7 w7 => ?_)
  refine r_aload_n 11 0 dX1_missedWith_10 rfl rfl rfl ?_
  refine r_iload_n 12 1 dX1_missedWith_11 rfl rfl rfl ?_
  refine r_gd (fun hc12 => ?_)
  rw [bx_bh]
  refine r_callHV (n := 1) (as := [lI a1]) (rest := [.int x7]) 15 0 (s_X1_netWith hl G a0 a1 w7) hc12 rfl (lw_V q1741 q1743 qs23 q100 q1744) (by decide +kernel) (by decide) rfl rfl (cat2_i (cat2_nil (k := 0))) rfl dX1_missedWith_12 rfl (fun q9 w12 => r_pass (fun _ => rfl) rfl) (fun x12 w12 => ?_)
  refine r_gd (fun hc15 => ?_)
  refine r_callV (n := 0) (as := []) (rest := [.int x7]) 18 6 (s_X9_kept hl G x12 w12) hc15 rfl (lw_V q1757 q1758 q1759 q130 q1760) (by decide +kernel) (by decide) rfl rfl (cat2_i (cat2_nil (k := 0))) rfl dX1_missedWith_15 rfl (fun x15 w15 => ?_)
  refine r_isub 19 dX1_missedWith_18 rfl ?_
  exact r_iret rfl rfl dX1_missedWith_19
theorem s_X1_missedWith {l : Launch} {D : Dn} {H0 : Heap} (hl : l.stackTraces = false) (G : Nat) (a0 : Rf) (a1 : Int32) (w : St) : SimX l D H0 yX1_missedWith (ws_ yX1_missedWith cX1_missedWith 2 (some (.int))) 38 3174 (ocX rvI) [lR a0, lI a1] w (f_X1_missedWith G a0 a1 w) := SimX.ofV (y := yX1_missedWith) (by decide) rfl (t_X1_missedWith hl G a0 a1 w)
abbrev V_X1_bestLimit (l : Launch) (D : Dn) (H0 : Heap) (w0 : St) (res : Option ((Nat ⊕ Int32) × St)) (pc : Nat) (ls : List (Nat × LV)) (st : List Value) (w : St) : Prop := V l D H0 RX1 "bestLimit" cX1_bestLimit 7 (some (.int)) [] 37 3153 (ocX rvI) w0 res pc ls st w
theorem t_X1_bestLimit_b89 {l : Launch} {D : Dn} {H0 : Heap} {w0 : St} (hl : l.stackTraces = false) (G : Nat) (k31 : Rf → Int32 → Int32 → Int32 → Rf → Int32 → St → Option ((Nat ⊕ Int32) × St)) (h31 : ∀ v0 v1 v2 v3 v4 v5 w, V_X1_bestLimit l D H0 w0 (k31 v0 v1 v2 v3 v4 v5 w) 31 [(0, lR v0), (1, lI v1), (2, lI v2), (3, lI v3), (4, lR v4), (5, lI v5)] [] w) (v0 : Rf) (v1 : Int32) (v2 : Int32) (v3 : Int32) (v4 : Rf) (v5 : Int32) (w : St) : V_X1_bestLimit l D H0 w0 (f_X1_bestLimit_b89 G k31 v0 v1 v2 v3 v4 v5 w) 89 [(0, lR v0), (1, lI v1), (2, lI v2), (3, lI v3), (4, lR v4), (5, lI v5)] [] w := by
  unfold f_X1_bestLimit_b89
  refine r_iinc (v := v5 + 1) (ls2 := [(5, lI (v5 + 1)), (0, lR v0), (1, lI v1), (2, lI v2), (3, lI v3), (4, lR v4)]) 92 5 dX1_bestLimit_89 rfl rfl (by decide) rfl rfl ?_
  refine r_goto 31 dX1_bestLimit_92 (by decide) ?_
  exact r_lsP [1, 2, 3, 4, 5, 0] rfl (h31 v0 v1 v2 v3 v4 (v5 + 1) w)
theorem t_X1_bestLimit_b83 {l : Launch} {D : Dn} {H0 : Heap} {w0 : St} (hl : l.stackTraces = false) (G : Nat) (k31 : Rf → Int32 → Int32 → Int32 → Rf → Int32 → St → Option ((Nat ⊕ Int32) × St)) (h31 : ∀ v0 v1 v2 v3 v4 v5 w, V_X1_bestLimit l D H0 w0 (k31 v0 v1 v2 v3 v4 v5 w) 31 [(0, lR v0), (1, lI v1), (2, lI v2), (3, lI v3), (4, lR v4), (5, lI v5)] [] w) (v0 : Rf) (v1 : Int32) (v4 : Rf) (v5 : Int32) (v6 : Int32) (w : St) : V_X1_bestLimit l D H0 w0 (f_X1_bestLimit_b83 G k31 v0 v1 v4 v5 v6 w) 83 [(0, lR v0), (1, lI v1), (4, lR v4), (5, lI v5), (6, lI v6)] [] w := by
  unfold f_X1_bestLimit_b83
  refine r_iload 85 3 dX1_bestLimit_83 rfl rfl ?_
  refine r_istore_n (ls2 := [(2, lI v5), (0, lR v0), (1, lI v1), (4, lR v4), (5, lI v5), (6, lI v6)]) 86 dX1_bestLimit_85 rfl (by decide) rfl rfl ?_
  refine r_iload 88 5 dX1_bestLimit_86 rfl rfl ?_
  refine r_istore_n (ls2 := [(3, lI v6), (2, lI v5), (0, lR v0), (1, lI v1), (4, lR v4), (5, lI v5), (6, lI v6)]) 89 dX1_bestLimit_88 rfl (by decide) rfl rfl ?_
  exact r_lsP [2, 3, 1, 0, 4, 5] rfl (t_X1_bestLimit_b89 hl G k31 h31  v0 v1 v5 v6 v4 v5 w)
theorem t_X1_bestLimit_l31 {l : Launch} {D : Dn} {H0 : Heap} {w0 : St} (hl : l.stackTraces = false) (G : Nat) (k95 : Int32 → St → Option ((Nat ⊕ Int32) × St)) (h95 : ∀ v2 w, V_X1_bestLimit l D H0 w0 (k95 v2 w) 95 [(2, lI v2)] [] w) : ∀ (F : Nat) (v0 : Rf) (v1 : Int32) (v2 : Int32) (v3 : Int32) (v4 : Rf) (v5 : Int32) (w : St), V_X1_bestLimit l D H0 w0 (f_X1_bestLimit_l31 G k95 F v0 v1 v2 v3 v4 v5 w) 31 [(0, lR v0), (1, lI v1), (2, lI v2), (3, lI v3), (4, lR v4), (5, lI v5)] [] w := by
  intro F
  induction F with
  | zero => intros; exact r_none
  | succ F ih =>
    intro v0 v1 v2 v3 v4 v5 w
    unfold f_X1_bestLimit_l31
    refine r_iload 33 5 dX1_bestLimit_31 rfl rfl ?_
    refine r_bipush (v := 60) 35 dX1_bestLimit_33 rfl rfl ?_
    refine r_icmp_gt 95 38 dX1_bestLimit_35 (by decide) rfl ?_ ?_
    · exact r_lsP [2] rfl (h95 v2 w)
    refine r_aload 40 4 dX1_bestLimit_38 rfl rfl ?_
    refine r_iload 42 5 dX1_bestLimit_40 rfl rfl ?_
    refine r_gd (fun hc42 => ?_)
    refine r_callV (n := 1) (as := [lI v5]) (rest := []) 45 6 (s_X9_with hl G v4 v5 w) hc42 rfl (lw_V q1745 q1746 q1747 q130 q1748) (by decide +kernel) (by decide) rfl rfl (cat2_nil (k := 0)) rfl dX1_bestLimit_42 rfl (fun x42 w42 => ?_)
    refine r_pop_r 46 dX1_bestLimit_45 rfl ?_
    refine r_aload 48 4 dX1_bestLimit_46 rfl rfl ?_
    refine r_gd (fun hc48 => ?_)
    refine r_callV (n := 0) (as := []) (rest := []) 51 6 (s_X9_total hl G v4 w42) hc48 rfl (lw_V q838 q839 q840 q130 q841) (by decide +kernel) (by decide) rfl rfl (cat2_nil (k := 0)) rfl dX1_bestLimit_48 rfl (fun x48 w48 => ?_)
    refine r_iload_n 52 1 dX1_bestLimit_51 rfl rfl rfl ?_
    refine r_aload_n 53 0 dX1_bestLimit_52 rfl rfl rfl ?_
    refine r_getr 56 gf_X1_10 dX1_bestLimit_53 rfl (fun x53 => ?_)
    refine r_getr 59 gf_X1_191 dX1_bestLimit_56 rfl (fun x56 => ?_)
    refine r_gd (fun hc59 => ?_)
    refine r_callV (n := 0) (as := []) (rest := [.int v1, .int x48]) 62 15 (sL_size hl x56 w48) hc59 rfl (lw_V q857 q303 q304 q104 q305) (by decide +kernel) (by decide) rfl rfl (cat2_i (cat2_i (cat2_nil (k := 0)))) rfl dX1_bestLimit_59 rfl (fun x59 w59 => ?_)
    refine r_aload 64 4 dX1_bestLimit_62 rfl rfl ?_
    refine r_gd (fun hc64 => ?_)
    refine r_callV (n := 0) (as := []) (rest := [.int x59, .int v1, .int x48]) 67 6 (s_X9_kept hl G v4 w59) hc64 rfl (lw_V q1757 q1758 q1759 q130 q1760) (by decide +kernel) (by decide) rfl rfl (cat2_i (cat2_i (cat2_i (cat2_nil (k := 0))))) rfl dX1_bestLimit_64 rfl (fun x64 w64 => ?_)
    refine r_isub 68 dX1_bestLimit_67 rfl ?_
    refine r_imul 69 dX1_bestLimit_68 rfl ?_
    refine r_iadd 70 dX1_bestLimit_69 rfl ?_
    refine r_istore (ls2 := [(6, lI (x48 + (v1 * (x59 - x64)))), (0, lR v0), (1, lI v1), (2, lI v2), (3, lI v3), (4, lR v4), (5, lI v5)]) 72 dX1_bestLimit_70 (by decide) rfl rfl ?_
    refine r_iload_n 73 3 dX1_bestLimit_72 rfl rfl rfl ?_
    refine r_iconst (v := (-1)) 74 dX1_bestLimit_73 rfl rfl ?_
    refine r_icmp_eq 83 77 dX1_bestLimit_74 (by decide) rfl ?_ ?_
    · exact r_lsP [1, 2, 5, 6, 0] rfl (t_X1_bestLimit_b83 hl G (fun v0 v1 v2 v3 v4 v5 w => f_X1_bestLimit_l31 G k95 F v0 v1 v2 v3 v4 v5 w) (fun v0 v1 v2 v3 v4 v5 w => ih v0 v1 v2 v3 v4 v5 w)  v0 v1 v4 v5 (x48 + (v1 * (x59 - x64))) w64)
    refine r_iload 79 0 dX1_bestLimit_77 rfl rfl ?_
    refine r_iload_n 80 4 dX1_bestLimit_79 rfl rfl rfl ?_
    refine r_icmp_ge 89 83 dX1_bestLimit_80 (by decide) rfl ?_ ?_
    · exact r_lsP [1, 2, 3, 4, 5, 6] rfl (t_X1_bestLimit_b89 hl G (fun v0 v1 v2 v3 v4 v5 w => f_X1_bestLimit_l31 G k95 F v0 v1 v2 v3 v4 v5 w) (fun v0 v1 v2 v3 v4 v5 w => ih v0 v1 v2 v3 v4 v5 w)  v0 v1 v2 v3 v4 v5 w64)
    exact r_lsP [1, 2, 5, 6, 0] rfl (t_X1_bestLimit_b83 hl G (fun v0 v1 v2 v3 v4 v5 w => f_X1_bestLimit_l31 G k95 F v0 v1 v2 v3 v4 v5 w) (fun v0 v1 v2 v3 v4 v5 w => ih v0 v1 v2 v3 v4 v5 w)  v0 v1 v4 v5 (x48 + (v1 * (x59 - x64))) w64)
theorem t_X1_bestLimit_b95 {l : Launch} {D : Dn} {H0 : Heap} {w0 : St} (hl : l.stackTraces = false) (G : Nat) (v2 : Int32) (w : St) : V_X1_bestLimit l D H0 w0 (f_X1_bestLimit_b95 G v2 w) 95 [(2, lI v2)] [] w := by
  unfold f_X1_bestLimit_b95
  refine r_iload_n 96 0 dX1_bestLimit_95 rfl rfl rfl ?_
  exact r_iret rfl rfl dX1_bestLimit_96
theorem t_X1_bestLimit {l : Launch} {D : Dn} {H0 : Heap} {w0 : St} (hl : l.stackTraces = false) (G : Nat) (a0 : Rf) (a1 : Int32) (w : St) : V_X1_bestLimit l D H0 w0 (f_X1_bestLimit G a0 a1 w) 0 [(0, lR a0), (1, lI a1)] [] w := by
  unfold f_X1_bestLimit
  refine r_iload_n 1 1 dX1_bestLimit_0 rfl rfl rfl ?_
  refine r_iconst (v := 0) 2 dX1_bestLimit_1 rfl rfl ?_
  refine r_bipush (v := 99) 4 dX1_bestLimit_2 rfl rfl ?_
  refine r_callS (n := 3) (as := [lI a1, lI 0, lI 99]) (rest := []) 7 (s_X1_isBetween hl G a1 0 99 w) (lw_S q1363 q1364 q100 q1365) (by decide +kernel) (by decide) rfl rfl (cat2_nil (k := 0)) rfl dX1_bestLimit_4 rfl (fun x4 w4 => ?_)
  rw [bx_bh]
  refine r_callHS (n := 1) (as := [lI x4]) (rest := []) 10 (s_X1_check hl G x4 w4) (lw_S q1627 q1628 q100 q1629) (by decide +kernel) (by decide) rfl rfl (cat2_nil (k := 0)) rfl dX1_bestLimit_7 rfl (fun q9 w7 => r_pass (fun _ => rfl) rfl) (fun _ w7 => ?_)
  refine r_iconst (v := (-1)) 11 dX1_bestLimit_10 rfl rfl ?_
  refine r_istore_n (ls2 := [(2, lI ((-1))), (0, lR a0), (1, lI a1)]) 12 dX1_bestLimit_11 rfl (by decide) rfl rfl ?_
  refine r_iconst (v := 0) 13 dX1_bestLimit_12 rfl rfl ?_
  refine r_istore_n (ls2 := [(3, lI 0), (2, lI ((-1))), (0, lR a0), (1, lI a1)]) 14 dX1_bestLimit_13 rfl (by decide) rfl rfl ?_
  refine r_nw (C := RX9) (T := TX9) (N := 3) (ty := tyX9) 17 6 rfl rfl in_X9 tyX9_ok q294 q295 q130 rfl (by decide) dX1_bestLimit_14 rfl (fun b14 w14 => ?_)
  refine r_dup_r 18 dX1_bestLimit_17 rfl ?_
  refine r_aload_n 19 2 dX1_bestLimit_18 rfl rfl rfl ?_
  refine r_getr 22 gf_X1_10 dX1_bestLimit_19 rfl (fun x19 => ?_)
  refine r_iconst (v := (-1)) 23 dX1_bestLimit_22 rfl rfl ?_
  refine r_callI (b := b14) (n := 2) (as := [lR x19, lI ((-1))]) (rest := [rf ((some b14))]) 26 (s_X9_init hl G b14 x19 ((-1)) w14) (lw_meth q298) q130 q296 q297 rfl (by decide +kernel) (by decide) rfl rfl (cat2_r (cat2_nil (k := 0))) rfl dX1_bestLimit_23 rfl (fun _ w23 => ?_)
  refine r_astore (ls2 := [(4, lR ((some b14))), (3, lI 0), (2, lI ((-1))), (0, lR a0), (1, lI a1)]) 28 dX1_bestLimit_26 (by decide) rfl rfl ?_
  refine r_iconst (v := 0) 29 dX1_bestLimit_28 rfl rfl ?_
  refine r_istore (ls2 := [(5, lI 0), (4, lR ((some b14))), (3, lI 0), (2, lI ((-1))), (0, lR a0), (1, lI a1)]) 31 dX1_bestLimit_29 (by decide) rfl rfl ?_
  exact r_lsP [4, 5, 3, 2, 1, 0] rfl (t_X1_bestLimit_l31 hl G (fun v2 w => f_X1_bestLimit_b95 G  v2 w) (fun v2 w => t_X1_bestLimit_b95 hl G  v2 w) G a0 a1 ((-1)) 0 ((some b14)) 0 w23)
theorem s_X1_bestLimit {l : Launch} {D : Dn} {H0 : Heap} (hl : l.stackTraces = false) (G : Nat) (a0 : Rf) (a1 : Int32) (w : St) : SimX l D H0 yX1_bestLimit (ws_ yX1_bestLimit cX1_bestLimit 7 (some (.int))) 37 3153 (ocX rvI) [lR a0, lI a1] w (f_X1_bestLimit G a0 a1 w) := SimX.ofV (y := yX1_bestLimit) (by decide) rfl (t_X1_bestLimit hl G a0 a1 w)
abbrev V_X1_isLater (l : Launch) (D : Dn) (H0 : Heap) (w0 : St) (res : Option (Int32 × St)) (pc : Nat) (ls : List (Nat × LV)) (st : List Value) (w : St) : Prop := V l D H0 RX1 "isLater" cX1_isLater 6 (some (.boolean)) [] 33 3068 (fun x => .inr (rvI x)) w0 res pc ls st w
theorem t_X1_isLater_b81 {l : Launch} {D : Dn} {H0 : Heap} {w0 : St} (hl : l.stackTraces = false) (G : Nat) (w : St) : V_X1_isLater l D H0 w0 (f_X1_isLater_b81 G  w) 81 [] [] w := by
  unfold f_X1_isLater_b81
  refine r_iconst (v := 1) 82 dX1_isLater_81 rfl rfl ?_
  refine r_goto 86 dX1_isLater_82 (by decide) ?_
  exact r_zret rfl rfl rfl dX1_isLater_86
theorem t_X1_isLater {l : Launch} {D : Dn} {H0 : Heap} {w0 : St} (hl : l.stackTraces = false) (G : Nat) (a0 : Rf) (a1 : Rf) (a2 : Int32) (a3 : Int32) (w : St) : V_X1_isLater l D H0 w0 (f_X1_isLater G a0 a1 a2 a3 w) 0 [(0, lR a0), (1, lR a1), (2, lI a2), (3, lI a3)] [] w := by
  unfold f_X1_isLater
  refine r_aload_n 1 1 dX1_isLater_0 rfl rfl rfl ?_
  refine r_iload_n 2 2 dX1_isLater_1 rfl rfl rfl ?_
  refine r_gd (fun hc2 => ?_)
  refine r_callV (n := 1) (as := [lI a2]) (rest := []) 5 6 (s_X9_lateAtEnd hl G a1 a2 w) hc2 rfl (lw_V q1639 q1640 q1641 q130 q1642) (by decide +kernel) (by decide) rfl rfl (cat2_nil (k := 0)) rfl dX1_isLater_2 rfl (fun x2 w2 => ?_)
  refine r_aload_n 6 1 dX1_isLater_5 rfl rfl rfl ?_
  refine r_iload_n 7 3 dX1_isLater_6 rfl rfl rfl ?_
  refine r_gd (fun hc7 => ?_)
  refine r_callV (n := 1) (as := [lI a3]) (rest := [.int x2]) 10 6 (s_X9_lateAtEnd hl G a1 a3 w2) hc7 rfl (lw_V q1639 q1640 q1641 q130 q1642) (by decide +kernel) (by decide) rfl rfl (cat2_i (cat2_nil (k := 0))) rfl dX1_isLater_7 rfl (fun x7 w7 => ?_)
  refine r_isub 11 dX1_isLater_10 rfl ?_
  refine r_istore (ls2 := [(4, lI (x2 - x7)), (0, lR a0), (1, lR a1), (2, lI a2), (3, lI a3)]) 13 dX1_isLater_11 (by decide) rfl rfl ?_
  refine r_iload 15 0 dX1_isLater_13 rfl rfl ?_
  refine r_if_eq 29 18 dX1_isLater_15 (by decide) rfl ?_ ?_
  · refine r_aload_n 30 1 dX1_isLater_29 rfl rfl rfl ?_
    refine r_getr 33 gf_X1_10 dX1_isLater_30 rfl (fun x30 => ?_)
    refine r_getr 36 gf_X1_118 dX1_isLater_33 rfl (fun x33 => ?_)
    refine r_iload_n 37 3 dX1_isLater_36 rfl rfl rfl ?_
    refine r_gd (fun hc37 => ?_)
    refine r_callV (n := 1) (as := [lI a2]) (rest := []) 40 15 (sL_get hl x33 a2 w7) hc37 rfl (lw_V q858 q311 q312 q104 q313) (by decide +kernel) (by decide) rfl rfl (cat2_nil (k := 0)) rfl dX1_isLater_37 rfl (fun x37 w37 => ?_)
    refine r_cast 43 (CA_cons (c0 := 3) rfl (Or.inl rfl) (CA_nil)) q1463 dX1_isLater_40 rfl ?_
    refine r_gd (fun hc43 => ?_)
    refine r_callV (n := 0) (as := []) (rest := []) 46 3 (s_X5_own hl G x37 w37) hc43 rfl (lw_V q1635 q1636 q1637 q118 q1638) (by decide +kernel) (by decide) rfl rfl (cat2_nil (k := 0)) rfl dX1_isLater_43 rfl (fun x43 w43 => ?_)
    refine r_aload_n 47 1 dX1_isLater_46 rfl rfl rfl ?_
    refine r_getr 50 gf_X1_10 dX1_isLater_47 rfl (fun x47 => ?_)
    refine r_getr 53 gf_X1_118 dX1_isLater_50 rfl (fun x50 => ?_)
    refine r_iload_n 54 4 dX1_isLater_53 rfl rfl rfl ?_
    refine r_gd (fun hc54 => ?_)
    refine r_callV (n := 1) (as := [lI a3]) (rest := [.int x43]) 57 15 (sL_get hl x50 a3 w43) hc54 rfl (lw_V q858 q311 q312 q104 q313) (by decide +kernel) (by decide) rfl rfl (cat2_i (cat2_nil (k := 0))) rfl dX1_isLater_54 rfl (fun x54 w54 => ?_)
    refine r_cast 60 (CA_cons (c0 := 3) rfl (Or.inl rfl) (CA_nil)) q1463 dX1_isLater_57 rfl ?_
    refine r_gd (fun hc60 => ?_)
    refine r_callV (n := 0) (as := []) (rest := [.int x43]) 63 3 (s_X5_own hl G x54 w54) hc60 rfl (lw_V q1635 q1636 q1637 q118 q1638) (by decide +kernel) (by decide) rfl rfl (cat2_i (cat2_nil (k := 0))) rfl dX1_isLater_60 rfl (fun x60 w60 => ?_)
    refine r_isub 64 dX1_isLater_63 rfl ?_
    refine r_istore (ls2 := [(5, lI (x43 - x60)), (4, lI (x2 - x7)), (0, lR a0), (1, lR a1), (2, lI a2), (3, lI a3)]) 66 dX1_isLater_64 (by decide) rfl rfl ?_
    refine r_iload 68 0 dX1_isLater_66 rfl rfl ?_
    refine r_if_gt 81 71 dX1_isLater_68 (by decide) rfl ?_ ?_
    · exact r_lsP [] rfl (t_X1_isLater_b81 hl G  w60)
    refine r_iload 73 0 dX1_isLater_71 rfl rfl ?_
    refine r_if_ne 85 76 dX1_isLater_73 (by decide) rfl ?_ ?_
    · refine r_iconst (v := 0) 86 dX1_isLater_85 rfl rfl ?_
      exact r_zret rfl rfl rfl dX1_isLater_86
    refine r_iload_n 77 4 dX1_isLater_76 rfl rfl rfl ?_
    refine r_iload_n 78 5 dX1_isLater_77 rfl rfl rfl ?_
    refine r_icmp_ge 85 81 dX1_isLater_78 (by decide) rfl ?_ ?_
    · refine r_iconst (v := 0) 86 dX1_isLater_85 rfl rfl ?_
      exact r_zret rfl rfl rfl dX1_isLater_86
    exact r_lsP [] rfl (t_X1_isLater_b81 hl G  w60)
  refine r_iload 20 0 dX1_isLater_18 rfl rfl ?_
  refine r_if_le 27 23 dX1_isLater_20 (by decide) rfl ?_ ?_
  · refine r_iconst (v := 0) 28 dX1_isLater_27 rfl rfl ?_
    exact r_zret rfl rfl rfl dX1_isLater_28
  refine r_iconst (v := 1) 24 dX1_isLater_23 rfl rfl ?_
  refine r_goto 28 dX1_isLater_24 (by decide) ?_
  exact r_zret rfl rfl rfl dX1_isLater_28
theorem s_X1_isLater {l : Launch} {D : Dn} {H0 : Heap} (hl : l.stackTraces = false) (G : Nat) (a0 : Rf) (a1 : Rf) (a2 : Int32) (a3 : Int32) (w : St) : SimN l D H0 yX1_isLater (ws_ yX1_isLater cX1_isLater 6 (some (.boolean))) 33 3068 rvI [lR a0, lR a1, lI a2, lI a3] w (f_X1_isLater G a0 a1 a2 a3 w) := SimX.N (SimX.ofV (y := yX1_isLater) (by decide) rfl (t_X1_isLater hl G a0 a1 a2 a3 w))
abbrev V_X1_ranked (l : Launch) (D : Dn) (H0 : Heap) (w0 : St) (res : Option ((Nat ⊕ Int32) × St)) (pc : Nat) (ls : List (Nat × LV)) (st : List Value) (w : St) : Prop := V l D H0 RX1 "ranked" cX1_ranked 6 (some (.int)) [] 37 3149 (ocX rvI) w0 res pc ls st w
theorem t_X1_ranked_b60 {l : Launch} {D : Dn} {H0 : Heap} {w0 : St} (hl : l.stackTraces = false) (G : Nat) (k27 : Rf → Int32 → Rf → Int32 → Int32 → Int32 → St → Option ((Nat ⊕ Int32) × St)) (h27 : ∀ v0 v1 v2 v3 v4 v5 w, V_X1_ranked l D H0 w0 (k27 v0 v1 v2 v3 v4 v5 w) 27 [(0, lR v0), (1, lI v1), (2, lR v2), (3, lI v3), (4, lI v4), (5, lI v5)] [] w) (v0 : Rf) (v1 : Int32) (v2 : Rf) (v3 : Int32) (v5 : Int32) (s0 : Int32) (s1 : Int32) (w : St) : V_X1_ranked l D H0 w0 (f_X1_ranked_b60 G k27 v0 v1 v2 v3 v5 s0 s1 w) 60 [(0, lR v0), (1, lI v1), (2, lR v2), (3, lI v3), (5, lI v5)] [.int s0, .int s1] w := by
  unfold f_X1_ranked_b60
  refine r_iadd 61 dX1_ranked_60 rfl ?_
  refine r_istore (ls2 := [(4, lI (s1 + s0)), (0, lR v0), (1, lI v1), (2, lR v2), (3, lI v3), (5, lI v5)]) 63 dX1_ranked_61 (by decide) rfl rfl ?_
  refine r_iinc (v := v5 + 1) (ls2 := [(5, lI (v5 + 1)), (4, lI (s1 + s0)), (0, lR v0), (1, lI v1), (2, lR v2), (3, lI v3)]) 66 5 dX1_ranked_63 rfl rfl (by decide) rfl rfl ?_
  refine r_goto 27 dX1_ranked_66 (by decide) ?_
  exact r_lsP [2, 3, 4, 5, 1, 0] rfl (h27 v0 v1 v2 v3 (s1 + s0) (v5 + 1) w)
theorem t_X1_ranked_l27 {l : Launch} {D : Dn} {H0 : Heap} {w0 : St} (hl : l.stackTraces = false) (G : Nat) (k69 : Rf → Int32 → Rf → Int32 → Int32 → St → Option ((Nat ⊕ Int32) × St)) (h69 : ∀ v0 v1 v2 v3 v4 w, V_X1_ranked l D H0 w0 (k69 v0 v1 v2 v3 v4 w) 69 [(0, lR v0), (1, lI v1), (2, lR v2), (3, lI v3), (4, lI v4)] [] w) : ∀ (F : Nat) (v0 : Rf) (v1 : Int32) (v2 : Rf) (v3 : Int32) (v4 : Int32) (v5 : Int32) (w : St), V_X1_ranked l D H0 w0 (f_X1_ranked_l27 G k69 F v0 v1 v2 v3 v4 v5 w) 27 [(0, lR v0), (1, lI v1), (2, lR v2), (3, lI v3), (4, lI v4), (5, lI v5)] [] w := by
  intro F
  induction F with
  | zero => intros; exact r_none
  | succ F ih =>
    intro v0 v1 v2 v3 v4 v5 w
    unfold f_X1_ranked_l27
    refine r_iload 29 5 dX1_ranked_27 rfl rfl ?_
    refine r_aload_n 30 0 dX1_ranked_29 rfl rfl rfl ?_
    refine r_getr 33 gf_X1_10 dX1_ranked_30 rfl (fun x30 => ?_)
    refine r_getr 36 gf_X1_118 dX1_ranked_33 rfl (fun x33 => ?_)
    refine r_gd (fun hc36 => ?_)
    refine r_callV (n := 0) (as := []) (rest := [.int v5]) 39 15 (sL_size hl x33 w) hc36 rfl (lw_V q857 q303 q304 q104 q305) (by decide +kernel) (by decide) rfl rfl (cat2_i (cat2_nil (k := 0))) rfl dX1_ranked_36 rfl (fun x36 w36 => ?_)
    refine r_icmp_ge 69 42 dX1_ranked_39 (by decide) rfl ?_ ?_
    · exact r_lsP [0, 1, 2, 3, 4] rfl (h69 v0 v1 v2 v3 v4 w36)
    refine r_iload 44 4 dX1_ranked_42 rfl rfl ?_
    refine r_aload_n 45 0 dX1_ranked_44 rfl rfl rfl ?_
    refine r_aload_n 46 2 dX1_ranked_45 rfl rfl rfl ?_
    refine r_iload 48 5 dX1_ranked_46 rfl rfl ?_
    refine r_iload_n 49 3 dX1_ranked_48 rfl rfl rfl ?_
    refine r_gd (fun hc49 => ?_)
    refine r_callV (n := 3) (as := [lR v2, lI v5, lI v3]) (rest := [.int v4]) 52 0 (s_X1_isLater hl G v0 v2 v5 v3 w36) hc49 rfl (lw_V q1775 q1777 qs24 q100 q1778) (by decide +kernel) (by decide) rfl rfl (cat2_i (cat2_nil (k := 0))) rfl dX1_ranked_49 rfl (fun x49 w49 => ?_)
    refine r_if_eq 59 55 dX1_ranked_52 (by decide) rfl ?_ ?_
    · refine r_iconst (v := 0) 60 dX1_ranked_59 rfl rfl ?_
      exact r_lsP [0, 1, 2, 3, 5] rfl (t_X1_ranked_b60 hl G (fun v0 v1 v2 v3 v4 v5 w => f_X1_ranked_l27 G k69 F v0 v1 v2 v3 v4 v5 w) (fun v0 v1 v2 v3 v4 v5 w => ih v0 v1 v2 v3 v4 v5 w)  v0 v1 v2 v3 v5 0 v4 w49)
    refine r_iconst (v := 1) 56 dX1_ranked_55 rfl rfl ?_
    refine r_goto 60 dX1_ranked_56 (by decide) ?_
    exact r_lsP [0, 1, 2, 3, 5] rfl (t_X1_ranked_b60 hl G (fun v0 v1 v2 v3 v4 v5 w => f_X1_ranked_l27 G k69 F v0 v1 v2 v3 v4 v5 w) (fun v0 v1 v2 v3 v4 v5 w => ih v0 v1 v2 v3 v4 v5 w)  v0 v1 v2 v3 v5 1 v4 w49)
theorem t_X1_ranked_b69 {l : Launch} {D : Dn} {H0 : Heap} {w0 : St} (hl : l.stackTraces = false) (G : Nat) (k7 : Rf → Int32 → Rf → Int32 → St → Option ((Nat ⊕ Int32) × St)) (h7 : ∀ v0 v1 v2 v3 w, V_X1_ranked l D H0 w0 (k7 v0 v1 v2 v3 w) 7 [(0, lR v0), (1, lI v1), (2, lR v2), (3, lI v3)] [] w) (k75 : Int32 → St → Option ((Nat ⊕ Int32) × St)) (h75 : ∀ v3 w, V_X1_ranked l D H0 w0 (k75 v3 w) 75 [(3, lI v3)] [] w) (v0 : Rf) (v1 : Int32) (v2 : Rf) (v3 : Int32) (v4 : Int32) (w : St) : V_X1_ranked l D H0 w0 (f_X1_ranked_b69 G k7 k75 v0 v1 v2 v3 v4 w) 69 [(0, lR v0), (1, lI v1), (2, lR v2), (3, lI v3), (4, lI v4)] [] w := by
  unfold f_X1_ranked_b69
  refine r_iload 71 4 dX1_ranked_69 rfl rfl ?_
  refine r_iload_n 72 1 dX1_ranked_71 rfl rfl rfl ?_
  refine r_icmp_ne 77 75 dX1_ranked_72 (by decide) rfl ?_ ?_
  · refine r_iinc (v := v3 + 1) (ls2 := [(3, lI (v3 + 1)), (0, lR v0), (1, lI v1), (2, lR v2), (4, lI v4)]) 80 3 dX1_ranked_77 rfl rfl (by decide) rfl rfl ?_
    refine r_goto 7 dX1_ranked_80 (by decide) ?_
    exact r_lsP [1, 2, 3, 0] rfl (h7 v0 v1 v2 (v3 + 1) w)
  exact r_lsP [3] rfl (h75 v3 w)
theorem t_X1_ranked_l7 {l : Launch} {D : Dn} {H0 : Heap} {w0 : St} (hl : l.stackTraces = false) (G : Nat) (k75 : Int32 → St → Option ((Nat ⊕ Int32) × St)) (h75 : ∀ v3 w, V_X1_ranked l D H0 w0 (k75 v3 w) 75 [(3, lI v3)] [] w) (k83 : St → Option ((Nat ⊕ Int32) × St)) (h83 : ∀ w, V_X1_ranked l D H0 w0 (k83 w) 83 [] [] w) : ∀ (F : Nat) (v0 : Rf) (v1 : Int32) (v2 : Rf) (v3 : Int32) (w : St), V_X1_ranked l D H0 w0 (f_X1_ranked_l7 G k75 k83 F v0 v1 v2 v3 w) 7 [(0, lR v0), (1, lI v1), (2, lR v2), (3, lI v3)] [] w := by
  intro F
  induction F with
  | zero => intros; exact r_none
  | succ F ih =>
    intro v0 v1 v2 v3 w
    unfold f_X1_ranked_l7
    refine r_iload_n 8 3 dX1_ranked_7 rfl rfl rfl ?_
    refine r_aload_n 9 0 dX1_ranked_8 rfl rfl rfl ?_
    refine r_getr 12 gf_X1_10 dX1_ranked_9 rfl (fun x9 => ?_)
    refine r_getr 15 gf_X1_118 dX1_ranked_12 rfl (fun x12 => ?_)
    refine r_gd (fun hc15 => ?_)
    refine r_callV (n := 0) (as := []) (rest := [.int v3]) 18 15 (sL_size hl x12 w) hc15 rfl (lw_V q857 q303 q304 q104 q305) (by decide +kernel) (by decide) rfl rfl (cat2_i (cat2_nil (k := 0))) rfl dX1_ranked_15 rfl (fun x15 w15 => ?_)
    refine r_icmp_ge 83 21 dX1_ranked_18 (by decide) rfl ?_ ?_
    · exact r_lsP [] rfl (h83 w15)
    refine r_iconst (v := 0) 22 dX1_ranked_21 rfl rfl ?_
    refine r_istore (ls2 := [(4, lI 0), (0, lR v0), (1, lI v1), (2, lR v2), (3, lI v3)]) 24 dX1_ranked_22 (by decide) rfl rfl ?_
    refine r_iconst (v := 0) 25 dX1_ranked_24 rfl rfl ?_
    refine r_istore (ls2 := [(5, lI 0), (4, lI 0), (0, lR v0), (1, lI v1), (2, lR v2), (3, lI v3)]) 27 dX1_ranked_25 (by decide) rfl rfl ?_
    exact r_lsP [2, 3, 4, 5, 1, 0] rfl (t_X1_ranked_l27 hl G (fun v0 v1 v2 v3 v4 w => f_X1_ranked_b69 G (fun v0 v1 v2 v3 w => f_X1_ranked_l7 G k75 k83 F v0 v1 v2 v3 w) k75  v0 v1 v2 v3 v4 w) (fun v0 v1 v2 v3 v4 w => t_X1_ranked_b69 hl G (fun v0 v1 v2 v3 w => f_X1_ranked_l7 G k75 k83 F v0 v1 v2 v3 w) (fun v0 v1 v2 v3 w => ih v0 v1 v2 v3 w) k75 h75  v0 v1 v2 v3 v4 w) G v0 v1 v2 v3 0 0 w15)
theorem t_X1_ranked_b75 {l : Launch} {D : Dn} {H0 : Heap} {w0 : St} (hl : l.stackTraces = false) (G : Nat) (v3 : Int32) (w : St) : V_X1_ranked l D H0 w0 (f_X1_ranked_b75 G v3 w) 75 [(3, lI v3)] [] w := by
  unfold f_X1_ranked_b75
  refine r_iload_n 76 0 dX1_ranked_75 rfl rfl rfl ?_
  exact r_iret rfl rfl dX1_ranked_76
theorem t_X1_ranked_b83 {l : Launch} {D : Dn} {H0 : Heap} {w0 : St} (hl : l.stackTraces = false) (G : Nat) (w : St) : V_X1_ranked l D H0 w0 (f_X1_ranked_b83 G  w) 83 [] [] w := by
  unfold f_X1_ranked_b83
  refine r_make 90 21 (names := exNm) hl (by rfl) (by decide) (by decide) exNm_ok q1711 q117 at_21 (by decide) (cat2_nil (k := 0)) dX1_ranked_83 dX1_ranked_86 dX1_ranked_87 rfl ?_
  exact r_athrow (isX_enew rfl (by decide)) dX1_ranked_90 (r_pass (fun _ => rfl) rfl)
theorem t_X1_ranked {l : Launch} {D : Dn} {H0 : Heap} {w0 : St} (hl : l.stackTraces = false) (G : Nat) (a0 : Rf) (a1 : Int32) (w : St) : V_X1_ranked l D H0 w0 (f_X1_ranked G a0 a1 w) 0 [(0, lR a0), (1, lI a1)] [] w := by
  unfold f_X1_ranked
  refine r_aload_n 1 0 dX1_ranked_0 rfl rfl rfl ?_
  refine r_gd (fun hc1 => ?_)
  refine r_callV (n := 0) (as := []) (rest := []) 4 0 (s_X1_net hl G a0 w) hc1 rfl (lw_V q290 q292 qs0 q100 q293) (by decide +kernel) (by decide) rfl rfl (cat2_nil (k := 0)) rfl dX1_ranked_1 rfl (fun x1 w1 => ?_)
  refine r_astore_n (ls2 := [(2, lR x1), (0, lR a0), (1, lI a1)]) 5 dX1_ranked_4 rfl (by decide) rfl rfl ?_
  refine r_iconst (v := 0) 6 dX1_ranked_5 rfl rfl ?_
  refine r_istore_n (ls2 := [(3, lI 0), (2, lR x1), (0, lR a0), (1, lI a1)]) 7 dX1_ranked_6 rfl (by decide) rfl rfl ?_
  exact r_lsP [2, 3, 1, 0] rfl (t_X1_ranked_l7 hl G (fun v3 w => f_X1_ranked_b75 G  v3 w) (fun v3 w => t_X1_ranked_b75 hl G  v3 w) (fun w => f_X1_ranked_b83 G  w) (fun w => t_X1_ranked_b83 hl G  w) G a0 a1 x1 0 w1)
theorem s_X1_ranked {l : Launch} {D : Dn} {H0 : Heap} (hl : l.stackTraces = false) (G : Nat) (a0 : Rf) (a1 : Int32) (w : St) : SimX l D H0 yX1_ranked (ws_ yX1_ranked cX1_ranked 6 (some (.int))) 37 3149 (ocX rvI) [lR a0, lI a1] w (f_X1_ranked G a0 a1 w) := SimX.ofV (y := yX1_ranked) (by decide) rfl (t_X1_ranked hl G a0 a1 w)
abbrev V_X1_isTighter (l : Launch) (D : Dn) (H0 : Heap) (w0 : St) (res : Option (Int32 × St)) (pc : Nat) (ls : List (Nat × LV)) (st : List Value) (w : St) : Prop := V l D H0 RX1 "isTighter" cX1_isTighter 6 (some (.boolean)) [] 33 3064 (fun x => .inr (rvI x)) w0 res pc ls st w
theorem t_X1_isTighter_b90 {l : Launch} {D : Dn} {H0 : Heap} {w0 : St} (hl : l.stackTraces = false) (G : Nat) (w : St) : V_X1_isTighter l D H0 w0 (f_X1_isTighter_b90 G  w) 90 [] [] w := by
  unfold f_X1_isTighter_b90
  refine r_iconst (v := 1) 91 dX1_isTighter_90 rfl rfl ?_
  refine r_goto 95 dX1_isTighter_91 (by decide) ?_
  exact r_zret rfl rfl rfl dX1_isTighter_95
theorem t_X1_isTighter {l : Launch} {D : Dn} {H0 : Heap} {w0 : St} (hl : l.stackTraces = false) (G : Nat) (a0 : Rf) (a1 : Int32) (a2 : Int32) (w : St) : V_X1_isTighter l D H0 w0 (f_X1_isTighter G a0 a1 a2 w) 0 [(0, lR a0), (1, lI a1), (2, lI a2)] [] w := by
  unfold f_X1_isTighter
  refine r_aload_n 1 0 dX1_isTighter_0 rfl rfl rfl ?_
  refine r_getr 4 gf_X1_10 dX1_isTighter_1 rfl (fun x1 => ?_)
  refine r_getr 7 gf_X1_191 dX1_isTighter_4 rfl (fun x4 => ?_)
  refine r_iload_n 8 1 dX1_isTighter_7 rfl rfl rfl ?_
  refine r_gd (fun hc8 => ?_)
  refine r_callV (n := 1) (as := [lI a1]) (rest := []) 11 15 (sL_get hl x4 a1 w) hc8 rfl (lw_V q858 q311 q312 q104 q313) (by decide +kernel) (by decide) rfl rfl (cat2_nil (k := 0)) rfl dX1_isTighter_8 rfl (fun x8 w8 => ?_)
  refine r_cast 14 (CA_cons (c0 := 5) rfl (Or.inl rfl) (CA_nil)) q1155 dX1_isTighter_11 rfl ?_
  refine r_astore_n (ls2 := [(3, lR x8), (0, lR a0), (1, lI a1), (2, lI a2)]) 15 dX1_isTighter_14 rfl (by decide) rfl rfl ?_
  refine r_aload_n 16 1 dX1_isTighter_15 rfl rfl rfl ?_
  refine r_getr 19 gf_X1_10 dX1_isTighter_16 rfl (fun x16 => ?_)
  refine r_getr 22 gf_X1_191 dX1_isTighter_19 rfl (fun x19 => ?_)
  refine r_iload_n 23 3 dX1_isTighter_22 rfl rfl rfl ?_
  refine r_gd (fun hc23 => ?_)
  refine r_callV (n := 1) (as := [lI a2]) (rest := []) 26 15 (sL_get hl x19 a2 w8) hc23 rfl (lw_V q858 q311 q312 q104 q313) (by decide +kernel) (by decide) rfl rfl (cat2_nil (k := 0)) rfl dX1_isTighter_23 rfl (fun x23 w23 => ?_)
  refine r_cast 29 (CA_cons (c0 := 5) rfl (Or.inl rfl) (CA_nil)) q1155 dX1_isTighter_26 rfl ?_
  refine r_astore (ls2 := [(4, lR x23), (3, lR x8), (0, lR a0), (1, lI a1), (2, lI a2)]) 31 dX1_isTighter_29 (by decide) rfl rfl ?_
  refine r_aload_n 32 2 dX1_isTighter_31 rfl rfl rfl ?_
  refine r_aload_n 33 1 dX1_isTighter_32 rfl rfl rfl ?_
  refine r_gd (fun hc33 => ?_)
  refine r_callV (n := 1) (as := [lR x8]) (rest := []) 36 0 (s_X1_spareOf hl G a0 x8 w23) hc33 rfl (lw_V q1699 q1701 qs22 q100 q1702) (by decide +kernel) (by decide) rfl rfl (cat2_nil (k := 0)) rfl dX1_isTighter_33 rfl (fun x33 w33 => ?_)
  refine r_aload_n 37 2 dX1_isTighter_36 rfl rfl rfl ?_
  refine r_aload 39 0 dX1_isTighter_37 rfl rfl ?_
  refine r_gd (fun hc39 => ?_)
  refine r_callV (n := 1) (as := [lR x23]) (rest := [.int x33]) 42 0 (s_X1_spareOf hl G a0 x23 w33) hc39 rfl (lw_V q1699 q1701 qs22 q100 q1702) (by decide +kernel) (by decide) rfl rfl (cat2_i (cat2_nil (k := 0))) rfl dX1_isTighter_39 rfl (fun x39 w39 => ?_)
  refine r_isub 43 dX1_isTighter_42 rfl ?_
  refine r_istore (ls2 := [(5, lI (x33 - x39)), (4, lR x23), (3, lR x8), (0, lR a0), (1, lI a1), (2, lI a2)]) 45 dX1_isTighter_43 (by decide) rfl rfl ?_
  refine r_iload 47 0 dX1_isTighter_45 rfl rfl ?_
  refine r_if_eq 61 50 dX1_isTighter_47 (by decide) rfl ?_ ?_
  · refine r_aload_n 62 2 dX1_isTighter_61 rfl rfl rfl ?_
    refine r_geti 65 gf_X1_211 dX1_isTighter_62 rfl (fun x62 => ?_)
    refine r_aload 67 1 dX1_isTighter_65 rfl rfl ?_
    refine r_geti 70 gf_X1_211 dX1_isTighter_67 rfl (fun x67 => ?_)
    refine r_icmp_lt 90 73 dX1_isTighter_70 (by decide) rfl ?_ ?_
    · exact r_lsP [] rfl (t_X1_isTighter_b90 hl G  w39)
    refine r_aload_n 74 2 dX1_isTighter_73 rfl rfl rfl ?_
    refine r_geti 77 gf_X1_211 dX1_isTighter_74 rfl (fun x74 => ?_)
    refine r_aload 79 1 dX1_isTighter_77 rfl rfl ?_
    refine r_geti 82 gf_X1_211 dX1_isTighter_79 rfl (fun x79 => ?_)
    refine r_icmp_ne 94 85 dX1_isTighter_82 (by decide) rfl ?_ ?_
    · refine r_iconst (v := 0) 95 dX1_isTighter_94 rfl rfl ?_
      exact r_zret rfl rfl rfl dX1_isTighter_95
    refine r_iload_n 86 4 dX1_isTighter_85 rfl rfl rfl ?_
    refine r_iload_n 87 5 dX1_isTighter_86 rfl rfl rfl ?_
    refine r_icmp_ge 94 90 dX1_isTighter_87 (by decide) rfl ?_ ?_
    · refine r_iconst (v := 0) 95 dX1_isTighter_94 rfl rfl ?_
      exact r_zret rfl rfl rfl dX1_isTighter_95
    exact r_lsP [] rfl (t_X1_isTighter_b90 hl G  w39)
  refine r_iload 52 0 dX1_isTighter_50 rfl rfl ?_
  refine r_if_ge 59 55 dX1_isTighter_52 (by decide) rfl ?_ ?_
  · refine r_iconst (v := 0) 60 dX1_isTighter_59 rfl rfl ?_
    exact r_zret rfl rfl rfl dX1_isTighter_60
  refine r_iconst (v := 1) 56 dX1_isTighter_55 rfl rfl ?_
  refine r_goto 60 dX1_isTighter_56 (by decide) ?_
  exact r_zret rfl rfl rfl dX1_isTighter_60
theorem s_X1_isTighter {l : Launch} {D : Dn} {H0 : Heap} (hl : l.stackTraces = false) (G : Nat) (a0 : Rf) (a1 : Int32) (a2 : Int32) (w : St) : SimN l D H0 yX1_isTighter (ws_ yX1_isTighter cX1_isTighter 6 (some (.boolean))) 33 3064 rvI [lR a0, lI a1, lI a2] w (f_X1_isTighter G a0 a1 a2 w) := SimX.N (SimX.ofV (y := yX1_isTighter) (by decide) rfl (t_X1_isTighter hl G a0 a1 a2 w))
abbrev V_X1_tightest (l : Launch) (D : Dn) (H0 : Heap) (w0 : St) (res : Option ((Nat ⊕ Int32) × St)) (pc : Nat) (ls : List (Nat × LV)) (st : List Value) (w : St) : Prop := V l D H0 RX1 "tightest" cX1_tightest 5 (some (.int)) [] 34 3089 (ocX rvI) w0 res pc ls st w
theorem t_X1_tightest_b52 {l : Launch} {D : Dn} {H0 : Heap} {w0 : St} (hl : l.stackTraces = false) (G : Nat) (k21 : Rf → Int32 → Int32 → Int32 → Int32 → St → Option ((Nat ⊕ Int32) × St)) (h21 : ∀ v0 v1 v2 v3 v4 w, V_X1_tightest l D H0 w0 (k21 v0 v1 v2 v3 v4 w) 21 [(0, lR v0), (1, lI v1), (2, lI v2), (3, lI v3), (4, lI v4)] [] w) (v0 : Rf) (v1 : Int32) (v2 : Int32) (v4 : Int32) (s0 : Int32) (s1 : Int32) (w : St) : V_X1_tightest l D H0 w0 (f_X1_tightest_b52 G k21 v0 v1 v2 v4 s0 s1 w) 52 [(0, lR v0), (1, lI v1), (2, lI v2), (4, lI v4)] [.int s0, .int s1] w := by
  unfold f_X1_tightest_b52
  refine r_iadd 53 dX1_tightest_52 rfl ?_
  refine r_istore_n (ls2 := [(3, lI (s1 + s0)), (0, lR v0), (1, lI v1), (2, lI v2), (4, lI v4)]) 54 dX1_tightest_53 rfl (by decide) rfl rfl ?_
  refine r_iinc (v := v4 + 1) (ls2 := [(4, lI (v4 + 1)), (3, lI (s1 + s0)), (0, lR v0), (1, lI v1), (2, lI v2)]) 57 4 dX1_tightest_54 rfl rfl (by decide) rfl rfl ?_
  refine r_goto 21 dX1_tightest_57 (by decide) ?_
  exact r_lsP [2, 3, 4, 1, 0] rfl (h21 v0 v1 v2 (s1 + s0) (v4 + 1) w)
theorem t_X1_tightest_l21 {l : Launch} {D : Dn} {H0 : Heap} {w0 : St} (hl : l.stackTraces = false) (G : Nat) (k60 : Rf → Int32 → Int32 → Int32 → St → Option ((Nat ⊕ Int32) × St)) (h60 : ∀ v0 v1 v2 v3 w, V_X1_tightest l D H0 w0 (k60 v0 v1 v2 v3 w) 60 [(0, lR v0), (1, lI v1), (2, lI v2), (3, lI v3)] [] w) : ∀ (F : Nat) (v0 : Rf) (v1 : Int32) (v2 : Int32) (v3 : Int32) (v4 : Int32) (w : St), V_X1_tightest l D H0 w0 (f_X1_tightest_l21 G k60 F v0 v1 v2 v3 v4 w) 21 [(0, lR v0), (1, lI v1), (2, lI v2), (3, lI v3), (4, lI v4)] [] w := by
  intro F
  induction F with
  | zero => intros; exact r_none
  | succ F ih =>
    intro v0 v1 v2 v3 v4 w
    unfold f_X1_tightest_l21
    refine r_iload 23 4 dX1_tightest_21 rfl rfl ?_
    refine r_aload_n 24 0 dX1_tightest_23 rfl rfl rfl ?_
    refine r_getr 27 gf_X1_10 dX1_tightest_24 rfl (fun x24 => ?_)
    refine r_getr 30 gf_X1_191 dX1_tightest_27 rfl (fun x27 => ?_)
    refine r_gd (fun hc30 => ?_)
    refine r_callV (n := 0) (as := []) (rest := [.int v4]) 33 15 (sL_size hl x27 w) hc30 rfl (lw_V q857 q303 q304 q104 q305) (by decide +kernel) (by decide) rfl rfl (cat2_i (cat2_nil (k := 0))) rfl dX1_tightest_30 rfl (fun x30 w30 => ?_)
    refine r_icmp_ge 60 36 dX1_tightest_33 (by decide) rfl ?_ ?_
    · exact r_lsP [0, 1, 2, 3] rfl (h60 v0 v1 v2 v3 w30)
    refine r_iload_n 37 3 dX1_tightest_36 rfl rfl rfl ?_
    refine r_aload_n 38 0 dX1_tightest_37 rfl rfl rfl ?_
    refine r_iload 40 4 dX1_tightest_38 rfl rfl ?_
    refine r_iload_n 41 2 dX1_tightest_40 rfl rfl rfl ?_
    refine r_gd (fun hc41 => ?_)
    refine r_callV (n := 2) (as := [lI v4, lI v2]) (rest := [.int v3]) 44 0 (s_X1_isTighter hl G v0 v4 v2 w30) hc41 rfl (lw_V q1786 q1788 qs25 q100 q1789) (by decide +kernel) (by decide) rfl rfl (cat2_i (cat2_nil (k := 0))) rfl dX1_tightest_41 rfl (fun x41 w41 => ?_)
    refine r_if_eq 51 47 dX1_tightest_44 (by decide) rfl ?_ ?_
    · refine r_iconst (v := 0) 52 dX1_tightest_51 rfl rfl ?_
      exact r_lsP [0, 1, 2, 4] rfl (t_X1_tightest_b52 hl G (fun v0 v1 v2 v3 v4 w => f_X1_tightest_l21 G k60 F v0 v1 v2 v3 v4 w) (fun v0 v1 v2 v3 v4 w => ih v0 v1 v2 v3 v4 w)  v0 v1 v2 v4 0 v3 w41)
    refine r_iconst (v := 1) 48 dX1_tightest_47 rfl rfl ?_
    refine r_goto 52 dX1_tightest_48 (by decide) ?_
    exact r_lsP [0, 1, 2, 4] rfl (t_X1_tightest_b52 hl G (fun v0 v1 v2 v3 v4 w => f_X1_tightest_l21 G k60 F v0 v1 v2 v3 v4 w) (fun v0 v1 v2 v3 v4 w => ih v0 v1 v2 v3 v4 w)  v0 v1 v2 v4 1 v3 w41)
theorem t_X1_tightest_b60 {l : Launch} {D : Dn} {H0 : Heap} {w0 : St} (hl : l.stackTraces = false) (G : Nat) (k2 : Rf → Int32 → Int32 → St → Option ((Nat ⊕ Int32) × St)) (h2 : ∀ v0 v1 v2 w, V_X1_tightest l D H0 w0 (k2 v0 v1 v2 w) 2 [(0, lR v0), (1, lI v1), (2, lI v2)] [] w) (k65 : Int32 → St → Option ((Nat ⊕ Int32) × St)) (h65 : ∀ v2 w, V_X1_tightest l D H0 w0 (k65 v2 w) 65 [(2, lI v2)] [] w) (v0 : Rf) (v1 : Int32) (v2 : Int32) (v3 : Int32) (w : St) : V_X1_tightest l D H0 w0 (f_X1_tightest_b60 G k2 k65 v0 v1 v2 v3 w) 60 [(0, lR v0), (1, lI v1), (2, lI v2), (3, lI v3)] [] w := by
  unfold f_X1_tightest_b60
  refine r_iload_n 61 3 dX1_tightest_60 rfl rfl rfl ?_
  refine r_iload_n 62 1 dX1_tightest_61 rfl rfl rfl ?_
  refine r_icmp_ne 67 65 dX1_tightest_62 (by decide) rfl ?_ ?_
  · refine r_iinc (v := v2 + 1) (ls2 := [(2, lI (v2 + 1)), (0, lR v0), (1, lI v1), (3, lI v3)]) 70 2 dX1_tightest_67 rfl rfl (by decide) rfl rfl ?_
    refine r_goto 2 dX1_tightest_70 (by decide) ?_
    exact r_lsP [1, 2, 0] rfl (h2 v0 v1 (v2 + 1) w)
  exact r_lsP [2] rfl (h65 v2 w)
theorem t_X1_tightest_l2 {l : Launch} {D : Dn} {H0 : Heap} {w0 : St} (hl : l.stackTraces = false) (G : Nat) (k65 : Int32 → St → Option ((Nat ⊕ Int32) × St)) (h65 : ∀ v2 w, V_X1_tightest l D H0 w0 (k65 v2 w) 65 [(2, lI v2)] [] w) (k73 : St → Option ((Nat ⊕ Int32) × St)) (h73 : ∀ w, V_X1_tightest l D H0 w0 (k73 w) 73 [] [] w) : ∀ (F : Nat) (v0 : Rf) (v1 : Int32) (v2 : Int32) (w : St), V_X1_tightest l D H0 w0 (f_X1_tightest_l2 G k65 k73 F v0 v1 v2 w) 2 [(0, lR v0), (1, lI v1), (2, lI v2)] [] w := by
  intro F
  induction F with
  | zero => intros; exact r_none
  | succ F ih =>
    intro v0 v1 v2 w
    unfold f_X1_tightest_l2
    refine r_iload_n 3 2 dX1_tightest_2 rfl rfl rfl ?_
    refine r_aload_n 4 0 dX1_tightest_3 rfl rfl rfl ?_
    refine r_getr 7 gf_X1_10 dX1_tightest_4 rfl (fun x4 => ?_)
    refine r_getr 10 gf_X1_191 dX1_tightest_7 rfl (fun x7 => ?_)
    refine r_gd (fun hc10 => ?_)
    refine r_callV (n := 0) (as := []) (rest := [.int v2]) 13 15 (sL_size hl x7 w) hc10 rfl (lw_V q857 q303 q304 q104 q305) (by decide +kernel) (by decide) rfl rfl (cat2_i (cat2_nil (k := 0))) rfl dX1_tightest_10 rfl (fun x10 w10 => ?_)
    refine r_icmp_ge 73 16 dX1_tightest_13 (by decide) rfl ?_ ?_
    · exact r_lsP [] rfl (h73 w10)
    refine r_iconst (v := 0) 17 dX1_tightest_16 rfl rfl ?_
    refine r_istore_n (ls2 := [(3, lI 0), (0, lR v0), (1, lI v1), (2, lI v2)]) 18 dX1_tightest_17 rfl (by decide) rfl rfl ?_
    refine r_iconst (v := 0) 19 dX1_tightest_18 rfl rfl ?_
    refine r_istore (ls2 := [(4, lI 0), (3, lI 0), (0, lR v0), (1, lI v1), (2, lI v2)]) 21 dX1_tightest_19 (by decide) rfl rfl ?_
    exact r_lsP [2, 3, 4, 1, 0] rfl (t_X1_tightest_l21 hl G (fun v0 v1 v2 v3 w => f_X1_tightest_b60 G (fun v0 v1 v2 w => f_X1_tightest_l2 G k65 k73 F v0 v1 v2 w) k65  v0 v1 v2 v3 w) (fun v0 v1 v2 v3 w => t_X1_tightest_b60 hl G (fun v0 v1 v2 w => f_X1_tightest_l2 G k65 k73 F v0 v1 v2 w) (fun v0 v1 v2 w => ih v0 v1 v2 w) k65 h65  v0 v1 v2 v3 w) G v0 v1 v2 0 0 w10)
theorem t_X1_tightest_b65 {l : Launch} {D : Dn} {H0 : Heap} {w0 : St} (hl : l.stackTraces = false) (G : Nat) (v2 : Int32) (w : St) : V_X1_tightest l D H0 w0 (f_X1_tightest_b65 G v2 w) 65 [(2, lI v2)] [] w := by
  unfold f_X1_tightest_b65
  refine r_iload_n 66 0 dX1_tightest_65 rfl rfl rfl ?_
  exact r_iret rfl rfl dX1_tightest_66
theorem t_X1_tightest_b73 {l : Launch} {D : Dn} {H0 : Heap} {w0 : St} (hl : l.stackTraces = false) (G : Nat) (w : St) : V_X1_tightest l D H0 w0 (f_X1_tightest_b73 G  w) 73 [] [] w := by
  unfold f_X1_tightest_b73
  refine r_make 80 21 (names := exNm) hl (by rfl) (by decide) (by decide) exNm_ok q1711 q117 at_21 (by decide) (cat2_nil (k := 0)) dX1_tightest_73 dX1_tightest_76 dX1_tightest_77 rfl ?_
  exact r_athrow (isX_enew rfl (by decide)) dX1_tightest_80 (r_pass (fun _ => rfl) rfl)
theorem t_X1_tightest {l : Launch} {D : Dn} {H0 : Heap} {w0 : St} (hl : l.stackTraces = false) (G : Nat) (a0 : Rf) (a1 : Int32) (w : St) : V_X1_tightest l D H0 w0 (f_X1_tightest G a0 a1 w) 0 [(0, lR a0), (1, lI a1)] [] w := by
  unfold f_X1_tightest
  refine r_iconst (v := 0) 1 dX1_tightest_0 rfl rfl ?_
  refine r_istore_n (ls2 := [(2, lI 0), (0, lR a0), (1, lI a1)]) 2 dX1_tightest_1 rfl (by decide) rfl rfl ?_
  exact r_lsP [1, 2, 0] rfl (t_X1_tightest_l2 hl G (fun v2 w => f_X1_tightest_b65 G  v2 w) (fun v2 w => t_X1_tightest_b65 hl G  v2 w) (fun w => f_X1_tightest_b73 G  w) (fun w => t_X1_tightest_b73 hl G  w) G a0 a1 0 w)
theorem s_X1_tightest {l : Launch} {D : Dn} {H0 : Heap} (hl : l.stackTraces = false) (G : Nat) (a0 : Rf) (a1 : Int32) (w : St) : SimX l D H0 yX1_tightest (ws_ yX1_tightest cX1_tightest 5 (some (.int))) 34 3089 (ocX rvI) [lR a0, lI a1] w (f_X1_tightest G a0 a1 w) := SimX.ofV (y := yX1_tightest) (by decide) rfl (t_X1_tightest hl G a0 a1 w)
abbrev V_X1_isBefore (l : Launch) (D : Dn) (H0 : Heap) (w0 : St) (res : Option (Int32 × St)) (pc : Nat) (ls : List (Nat × LV)) (st : List Value) (w : St) : Prop := V l D H0 RX1 "isBefore" cX1_isBefore 3 (some (.boolean)) [] 1 20 (fun x => .inr (rvI x)) w0 res pc ls st w
theorem t_X1_isBefore_b60 {l : Launch} {D : Dn} {H0 : Heap} {w0 : St} (hl : l.stackTraces = false) (G : Nat) (v0 : Rf) (v1 : Rf) (v2 : Int32) (s0 : Int32) (s1 : Int32) (w : St) : V_X1_isBefore l D H0 w0 (f_X1_isBefore_b60 G v0 v1 v2 s0 s1 w) 60 [(0, lR v0), (1, lR v1), (2, lI v2)] [.int s0, .int s1] w := by
  unfold f_X1_isBefore_b60
  refine r_icmp_eq 67 63 dX1_isBefore_60 (by decide) rfl ?_ ?_
  · refine r_aload_n 68 0 dX1_isBefore_67 rfl rfl rfl ?_
    refine r_share (st2 := fun x68 => [.int x68]) (pc2 := 71) (fun hk => ?_) (fun x68 w68 => ?_)
    · refine r_dsp (fun c68 hc68 => ?_)
      refine r_dif (fun he => ?_) (fun _ => ?_)
      · subst he
        exact r_callV (n := 0) (as := []) (rest := []) 71 7 (s_X10_key hl G v0 w) hc68 rfl (lw_V q1800 q748 q749 q131 q752) (by decide +kernel) (by decide) rfl rfl (cat2_nil (k := 0)) rfl dX1_isBefore_68 rfl hk
      refine r_dif (fun he => ?_) (fun _ => ?_)
      · subst he
        exact r_callU (x2 := ⟨"CoachTimetable$Event", "key", "()I"⟩) (owner := "CoachTimetable$Event") (n := 0) (as := []) (rest := []) 71 9 (s_X10_key hl G v0 w) hc68 rfl (lw_app (l5 q1800 q750 q751 q748 q131) (lw_meth q752)) rfl (by decide +kernel) (by decide) rfl rfl (cat2_nil (k := 0)) rfl dX1_isBefore_68 rfl hk
      exact r_bdn
    refine r_aload_n 72 1 dX1_isBefore_71 rfl rfl rfl ?_
    refine r_share (st2 := fun x72 => [.int x72, .int x68]) (pc2 := 75) (fun hk => ?_) (fun x72 w72 => ?_)
    · refine r_dsp (fun c72 hc72 => ?_)
      refine r_dif (fun he => ?_) (fun _ => ?_)
      · subst he
        exact r_callV (n := 0) (as := []) (rest := [.int x68]) 75 7 (s_X10_key hl G v1 w68) hc72 rfl (lw_V q1800 q748 q749 q131 q752) (by decide +kernel) (by decide) rfl rfl (cat2_i (cat2_nil (k := 0))) rfl dX1_isBefore_72 rfl hk
      refine r_dif (fun he => ?_) (fun _ => ?_)
      · subst he
        exact r_callU (x2 := ⟨"CoachTimetable$Event", "key", "()I"⟩) (owner := "CoachTimetable$Event") (n := 0) (as := []) (rest := [.int x68]) 75 9 (s_X10_key hl G v1 w68) hc72 rfl (lw_app (l5 q1800 q750 q751 q748 q131) (lw_meth q752)) rfl (by decide +kernel) (by decide) rfl rfl (cat2_i (cat2_nil (k := 0))) rfl dX1_isBefore_72 rfl hk
      exact r_bdn
    refine r_icmp_ge 82 78 dX1_isBefore_75 (by decide) rfl ?_ ?_
    · refine r_iconst (v := 0) 83 dX1_isBefore_82 rfl rfl ?_
      exact r_zret rfl rfl rfl dX1_isBefore_83
    refine r_iconst (v := 1) 79 dX1_isBefore_78 rfl rfl ?_
    refine r_goto 83 dX1_isBefore_79 (by decide) ?_
    exact r_zret rfl rfl rfl dX1_isBefore_83
  refine r_iload_n 64 2 dX1_isBefore_63 rfl rfl rfl ?_
  refine r_goto 83 dX1_isBefore_64 (by decide) ?_
  exact r_zretG rfl rfl dX1_isBefore_83
theorem t_X1_isBefore_b43 {l : Launch} {D : Dn} {H0 : Heap} {w0 : St} (hl : l.stackTraces = false) (G : Nat) (v0 : Rf) (v1 : Rf) (s0 : Int32) (w : St) : V_X1_isBefore l D H0 w0 (f_X1_isBefore_b43 G v0 v1 s0 w) 43 [(0, lR v0), (1, lR v1)] [.int s0] w := by
  unfold f_X1_isBefore_b43
  refine r_istore_n (ls2 := [(2, lI s0), (0, lR v0), (1, lR v1)]) 44 dX1_isBefore_43 rfl (by decide) rfl rfl ?_
  refine r_iload_n 45 0 dX1_isBefore_44 rfl rfl rfl ?_
  refine r_aload_n 46 2 dX1_isBefore_45 rfl rfl rfl ?_
  refine r_getr 49 gf_X1_356 dX1_isBefore_46 rfl (fun x46 => ?_)
  refine r_gets (v := rf ((some (w.g 1)))) 52 0 rfl q1502 dX1_isBefore_49 rfl ?_
  refine r_acmp_ne 59 55 dX1_isBefore_52 (by decide) rfl ?_ ?_
  · refine r_iconst (v := 0) 60 dX1_isBefore_59 rfl rfl ?_
    exact r_lsP [1, 2, 0] rfl (t_X1_isBefore_b60 hl G  v0 v1 s0 0 s0 w)
  refine r_iconst (v := 1) 56 dX1_isBefore_55 rfl rfl ?_
  refine r_goto 60 dX1_isBefore_56 (by decide) ?_
  exact r_lsP [1, 2, 0] rfl (t_X1_isBefore_b60 hl G  v0 v1 s0 1 s0 w)
theorem t_X1_isBefore {l : Launch} {D : Dn} {H0 : Heap} {w0 : St} (hl : l.stackTraces = false) (G : Nat) (a0 : Rf) (a1 : Rf) (w : St) : V_X1_isBefore l D H0 w0 (f_X1_isBefore G a0 a1 w) 0 [(0, lR a0), (1, lR a1)] [] w := by
  unfold f_X1_isBefore
  refine r_aload_n 1 0 dX1_isBefore_0 rfl rfl rfl ?_
  refine r_geti 4 gf_X1_297 dX1_isBefore_1 rfl (fun x1 => ?_)
  refine r_aload_n 5 1 dX1_isBefore_4 rfl rfl rfl ?_
  refine r_geti 8 gf_X1_297 dX1_isBefore_5 rfl (fun x5 => ?_)
  refine r_icmp_eq 28 11 dX1_isBefore_8 (by decide) rfl ?_ ?_
  · refine r_aload_n 29 0 dX1_isBefore_28 rfl rfl rfl ?_
    refine r_getr 32 gf_X1_356 dX1_isBefore_29 rfl (fun x29 => ?_)
    refine r_gets (v := rf ((some (w.g 1)))) 35 0 rfl q1502 dX1_isBefore_32 rfl ?_
    refine r_acmp_ne 42 38 dX1_isBefore_35 (by decide) rfl ?_ ?_
    · refine r_iconst (v := 0) 43 dX1_isBefore_42 rfl rfl ?_
      exact r_lsP [0, 1] rfl (t_X1_isBefore_b43 hl G  a0 a1 0 w)
    refine r_iconst (v := 1) 39 dX1_isBefore_38 rfl rfl ?_
    refine r_goto 43 dX1_isBefore_39 (by decide) ?_
    exact r_lsP [0, 1] rfl (t_X1_isBefore_b43 hl G  a0 a1 1 w)
  refine r_aload_n 12 0 dX1_isBefore_11 rfl rfl rfl ?_
  refine r_geti 15 gf_X1_297 dX1_isBefore_12 rfl (fun x12 => ?_)
  refine r_aload_n 16 1 dX1_isBefore_15 rfl rfl rfl ?_
  refine r_geti 19 gf_X1_297 dX1_isBefore_16 rfl (fun x16 => ?_)
  refine r_icmp_ge 26 22 dX1_isBefore_19 (by decide) rfl ?_ ?_
  · refine r_iconst (v := 0) 27 dX1_isBefore_26 rfl rfl ?_
    exact r_zret rfl rfl rfl dX1_isBefore_27
  refine r_iconst (v := 1) 23 dX1_isBefore_22 rfl rfl ?_
  refine r_goto 27 dX1_isBefore_23 (by decide) ?_
  exact r_zret rfl rfl rfl dX1_isBefore_27
theorem s_X1_isBefore {l : Launch} {D : Dn} {H0 : Heap} (hl : l.stackTraces = false) (G : Nat) (a0 : Rf) (a1 : Rf) (w : St) : SimN l D H0 yX1_isBefore (ws_ yX1_isBefore cX1_isBefore 3 (some (.boolean))) 1 20 rvI [lR a0, lR a1] w (f_X1_isBefore G a0 a1 w) := SimX.N (SimX.ofV (y := yX1_isBefore) (by decide) rfl (t_X1_isBefore hl G a0 a1 w))
abbrev V_X1_event (l : Launch) (D : Dn) (H0 : Heap) (w0 : St) (res : Option ((Nat ⊕ Int32) × St)) (pc : Nat) (ls : List (Nat × LV)) (st : List Value) (w : St) : Prop := V l D H0 RX1 "event" cX1_event 8 (some (.int)) [] 37 3149 (ocX rvI) w0 res pc ls st w
theorem t_X1_event_b81 {l : Launch} {D : Dn} {H0 : Heap} {w0 : St} (hl : l.stackTraces = false) (G : Nat) (k42 : Int32 → Rf → Rf → Rf → Int32 → Rf → St → Option ((Nat ⊕ Int32) × St)) (h42 : ∀ v1 v2 v3 v4 v5 v6 w, V_X1_event l D H0 w0 (k42 v1 v2 v3 v4 v5 v6 w) 42 [(1, lI v1), (2, lR v2), (3, lR v3), (4, lR v4), (5, lI v5), (6, lR v6)] [] w) (v1 : Int32) (v2 : Rf) (v3 : Rf) (v4 : Rf) (v6 : Rf) (s0 : Int32) (s1 : Int32) (w : St) : V_X1_event l D H0 w0 (f_X1_event_b81 G k42 v1 v2 v3 v4 v6 s0 s1 w) 81 [(1, lI v1), (2, lR v2), (3, lR v3), (4, lR v4), (6, lR v6)] [.int s0, .int s1] w := by
  unfold f_X1_event_b81
  refine r_iadd 82 dX1_event_81 rfl ?_
  refine r_istore (ls2 := [(5, lI (s1 + s0)), (1, lI v1), (2, lR v2), (3, lR v3), (4, lR v4), (6, lR v6)]) 84 dX1_event_82 (by decide) rfl rfl ?_
  refine r_goto 42 dX1_event_84 (by decide) ?_
  exact r_lsP [1, 2, 3, 4, 0, 5] rfl (h42 v1 v2 v3 v4 (s1 + s0) v6 w)
theorem t_X1_event_l42 {l : Launch} {D : Dn} {H0 : Heap} {w0 : St} (hl : l.stackTraces = false) (G : Nat) (k87 : Int32 → Rf → Rf → Rf → Int32 → St → Option ((Nat ⊕ Int32) × St)) (h87 : ∀ v1 v2 v3 v4 v5 w, V_X1_event l D H0 w0 (k87 v1 v2 v3 v4 v5 w) 87 [(1, lI v1), (2, lR v2), (3, lR v3), (4, lR v4), (5, lI v5)] [] w) : ∀ (F : Nat) (v1 : Int32) (v2 : Rf) (v3 : Rf) (v4 : Rf) (v5 : Int32) (v6 : Rf) (w : St), V_X1_event l D H0 w0 (f_X1_event_l42 G k87 F v1 v2 v3 v4 v5 v6 w) 42 [(1, lI v1), (2, lR v2), (3, lR v3), (4, lR v4), (5, lI v5), (6, lR v6)] [] w := by
  intro F
  induction F with
  | zero => intros; exact r_none
  | succ F ih =>
    intro v1 v2 v3 v4 v5 v6 w
    unfold f_X1_event_l42
    refine r_aload 44 5 dX1_event_42 rfl rfl ?_
    refine r_gd (fun hc44 => ?_)
    refine r_callF (x2 := ⟨"java/util/Iterator", "hasNext", "()Z"⟩) (n := 0) (as := []) (rest := []) 49 16 (sI_hasNext hl v6 w) hc44 rfl (lw_app (l4 q1653 q584 q586 q116) (lw_meth q588)) (List.mem_of_getElem? (i := 0) rfl) (by decide +kernel) (by decide) rfl rfl (cat2_nil (k := 0)) rfl dX1_event_44 rfl (fun x44 w44 => ?_)
    refine r_if_eq 87 52 dX1_event_49 (by decide) rfl ?_ ?_
    · exact r_lsP [0, 1, 2, 3, 4] rfl (h87 v1 v2 v3 v4 v5 w44)
    refine r_aload 54 5 dX1_event_52 rfl rfl ?_
    refine r_gd (fun hc54 => ?_)
    refine r_callF (x2 := ⟨"java/util/Iterator", "next", "()Ljava/lang/Object;"⟩) (n := 0) (as := []) (rest := []) 59 16 (sI_next hl v6 w44) hc54 rfl (lw_app (l4 q1655 q593 q595 q116) (lw_meth q597)) (List.mem_of_getElem? (i := 1) rfl) (by decide +kernel) (by decide) rfl rfl (cat2_nil (k := 0)) rfl dX1_event_54 rfl (fun x54 w54 => ?_)
    refine r_cast 62 (CA_cons (c0 := 7) rfl (Or.inl rfl) (CA_cons (c0 := 9) rfl (Or.inr q2711) (CA_nil))) q859 dX1_event_59 rfl ?_
    refine r_astore (ls2 := [(7, lR x54), (1, lI v1), (2, lR v2), (3, lR v3), (4, lR v4), (5, lI v5), (6, lR v6)]) 64 dX1_event_62 (by decide) rfl rfl ?_
    refine r_iload 66 5 dX1_event_64 rfl rfl ?_
    refine r_aload 68 0 dX1_event_66 rfl rfl ?_
    refine r_aload 70 4 dX1_event_68 rfl rfl ?_
    refine r_callS (n := 2) (as := [lR x54, lR v4]) (rest := [.int v5]) 73 (s_X1_isBefore hl G x54 v4 w54) (lw_S q1797 q1798 q100 q1799) (by decide +kernel) (by decide) rfl rfl (cat2_i (cat2_nil (k := 0))) rfl dX1_event_70 rfl (fun x70 w70 => ?_)
    refine r_if_eq 80 76 dX1_event_73 (by decide) rfl ?_ ?_
    · refine r_iconst (v := 0) 81 dX1_event_80 rfl rfl ?_
      exact r_lsP [1, 2, 3, 4, 6] rfl (t_X1_event_b81 hl G (fun v1 v2 v3 v4 v5 v6 w => f_X1_event_l42 G k87 F v1 v2 v3 v4 v5 v6 w) (fun v1 v2 v3 v4 v5 v6 w => ih v1 v2 v3 v4 v5 v6 w)  v1 v2 v3 v4 v6 0 v5 w70)
    refine r_iconst (v := 1) 77 dX1_event_76 rfl rfl ?_
    refine r_goto 81 dX1_event_77 (by decide) ?_
    exact r_lsP [1, 2, 3, 4, 6] rfl (t_X1_event_b81 hl G (fun v1 v2 v3 v4 v5 v6 w => f_X1_event_l42 G k87 F v1 v2 v3 v4 v5 v6 w) (fun v1 v2 v3 v4 v5 v6 w => ih v1 v2 v3 v4 v5 v6 w)  v1 v2 v3 v4 v6 1 v5 w70)
theorem t_X1_event_b87 {l : Launch} {D : Dn} {H0 : Heap} {w0 : St} (hl : l.stackTraces = false) (G : Nat) (k13 : Int32 → Rf → Rf → St → Option ((Nat ⊕ Int32) × St)) (h13 : ∀ v1 v2 v3 w, V_X1_event l D H0 w0 (k13 v1 v2 v3 w) 13 [(1, lI v1), (2, lR v2), (3, lR v3)] [] w) (k93 : Rf → St → Option ((Nat ⊕ Int32) × St)) (h93 : ∀ v4 w, V_X1_event l D H0 w0 (k93 v4 w) 93 [(4, lR v4)] [] w) (v1 : Int32) (v2 : Rf) (v3 : Rf) (v4 : Rf) (v5 : Int32) (w : St) : V_X1_event l D H0 w0 (f_X1_event_b87 G k13 k93 v1 v2 v3 v4 v5 w) 87 [(1, lI v1), (2, lR v2), (3, lR v3), (4, lR v4), (5, lI v5)] [] w := by
  unfold f_X1_event_b87
  refine r_iload 89 4 dX1_event_87 rfl rfl ?_
  refine r_iload_n 90 0 dX1_event_89 rfl rfl rfl ?_
  refine r_icmp_ne 99 93 dX1_event_90 (by decide) rfl ?_ ?_
  · refine r_goto 13 dX1_event_99 (by decide) ?_
    exact r_lsP [0, 1, 2] rfl (h13 v1 v2 v3 w)
  exact r_lsP [3] rfl (h93 v4 w)
theorem t_X1_event_l13 {l : Launch} {D : Dn} {H0 : Heap} {w0 : St} (hl : l.stackTraces = false) (G : Nat) (k93 : Rf → St → Option ((Nat ⊕ Int32) × St)) (h93 : ∀ v4 w, V_X1_event l D H0 w0 (k93 v4 w) 93 [(4, lR v4)] [] w) (k102 : St → Option ((Nat ⊕ Int32) × St)) (h102 : ∀ w, V_X1_event l D H0 w0 (k102 w) 102 [] [] w) : ∀ (F : Nat) (v1 : Int32) (v2 : Rf) (v3 : Rf) (w : St), V_X1_event l D H0 w0 (f_X1_event_l13 G k93 k102 F v1 v2 v3 w) 13 [(1, lI v1), (2, lR v2), (3, lR v3)] [] w := by
  intro F
  induction F with
  | zero => intros; exact r_none
  | succ F ih =>
    intro v1 v2 v3 w
    unfold f_X1_event_l13
    refine r_aload_n 14 2 dX1_event_13 rfl rfl rfl ?_
    refine r_gd (fun hc14 => ?_)
    refine r_callF (x2 := ⟨"java/util/Iterator", "hasNext", "()Z"⟩) (n := 0) (as := []) (rest := []) 19 16 (sI_hasNext hl v3 w) hc14 rfl (lw_app (l4 q1653 q584 q586 q116) (lw_meth q588)) (List.mem_of_getElem? (i := 0) rfl) (by decide +kernel) (by decide) rfl rfl (cat2_nil (k := 0)) rfl dX1_event_14 rfl (fun x14 w14 => ?_)
    refine r_if_eq 102 22 dX1_event_19 (by decide) rfl ?_ ?_
    · exact r_lsP [] rfl (h102 w14)
    refine r_aload_n 23 2 dX1_event_22 rfl rfl rfl ?_
    refine r_gd (fun hc23 => ?_)
    refine r_callF (x2 := ⟨"java/util/Iterator", "next", "()Ljava/lang/Object;"⟩) (n := 0) (as := []) (rest := []) 28 16 (sI_next hl v3 w14) hc23 rfl (lw_app (l4 q1655 q593 q595 q116) (lw_meth q597)) (List.mem_of_getElem? (i := 1) rfl) (by decide +kernel) (by decide) rfl rfl (cat2_nil (k := 0)) rfl dX1_event_23 rfl (fun x23 w23 => ?_)
    refine r_cast 31 (CA_cons (c0 := 7) rfl (Or.inl rfl) (CA_cons (c0 := 9) rfl (Or.inr q2711) (CA_nil))) q859 dX1_event_28 rfl ?_
    refine r_astore (ls2 := [(4, lR x23), (1, lI v1), (2, lR v2), (3, lR v3)]) 33 dX1_event_31 (by decide) rfl rfl ?_
    refine r_iconst (v := 0) 34 dX1_event_33 rfl rfl ?_
    refine r_istore (ls2 := [(5, lI 0), (4, lR x23), (1, lI v1), (2, lR v2), (3, lR v3)]) 36 dX1_event_34 (by decide) rfl rfl ?_
    refine r_aload_n 37 3 dX1_event_36 rfl rfl rfl ?_
    refine r_gd (fun hc37 => ?_)
    refine r_callV (n := 0) (as := []) (rest := []) 40 15 (sL_iterator hl v2 w23) hc37 rfl (lw_V q1651 q557 q558 q104 q559) (by decide +kernel) (by decide) rfl rfl (cat2_nil (k := 0)) rfl dX1_event_37 rfl (fun x37 w37 => ?_)
    refine r_astore (ls2 := [(6, lR x37), (5, lI 0), (4, lR x23), (1, lI v1), (2, lR v2), (3, lR v3)]) 42 dX1_event_40 (by decide) rfl rfl ?_
    exact r_lsP [3, 4, 5, 2, 1, 0] rfl (t_X1_event_l42 hl G (fun v1 v2 v3 v4 v5 w => f_X1_event_b87 G (fun v1 v2 v3 w => f_X1_event_l13 G k93 k102 F v1 v2 v3 w) k93  v1 v2 v3 v4 v5 w) (fun v1 v2 v3 v4 v5 w => t_X1_event_b87 hl G (fun v1 v2 v3 w => f_X1_event_l13 G k93 k102 F v1 v2 v3 w) (fun v1 v2 v3 w => ih v1 v2 v3 w) k93 h93  v1 v2 v3 v4 v5 w) G v1 v2 v3 x23 0 x37 w37)
theorem t_X1_event_b93 {l : Launch} {D : Dn} {H0 : Heap} {w0 : St} (hl : l.stackTraces = false) (G : Nat) (v4 : Rf) (w : St) : V_X1_event l D H0 w0 (f_X1_event_b93 G v4 w) 93 [(4, lR v4)] [] w := by
  unfold f_X1_event_b93
  refine r_aload 95 0 dX1_event_93 rfl rfl ?_
  refine r_share (st2 := fun x95 => [.int x95]) (pc2 := 98) (fun hk => ?_) (fun x95 w95 => ?_)
  · refine r_dsp (fun c95 hc95 => ?_)
    refine r_dif (fun he => ?_) (fun _ => ?_)
    · subst he
      exact r_callV (n := 0) (as := []) (rest := []) 98 7 (s_X10_key hl G v4 w) hc95 rfl (lw_V q1800 q748 q749 q131 q752) (by decide +kernel) (by decide) rfl rfl (cat2_nil (k := 0)) rfl dX1_event_95 rfl hk
    refine r_dif (fun he => ?_) (fun _ => ?_)
    · subst he
      exact r_callU (x2 := ⟨"CoachTimetable$Event", "key", "()I"⟩) (owner := "CoachTimetable$Event") (n := 0) (as := []) (rest := []) 98 9 (s_X10_key hl G v4 w) hc95 rfl (lw_app (l5 q1800 q750 q751 q748 q131) (lw_meth q752)) rfl (by decide +kernel) (by decide) rfl rfl (cat2_nil (k := 0)) rfl dX1_event_95 rfl hk
    exact r_bdn
  exact r_iret rfl rfl dX1_event_98
theorem t_X1_event_b102 {l : Launch} {D : Dn} {H0 : Heap} {w0 : St} (hl : l.stackTraces = false) (G : Nat) (w : St) : V_X1_event l D H0 w0 (f_X1_event_b102 G  w) 102 [] [] w := by
  unfold f_X1_event_b102
  refine r_make 109 21 (names := exNm) hl (by rfl) (by decide) (by decide) exNm_ok q1711 q117 at_21 (by decide) (cat2_nil (k := 0)) dX1_event_102 dX1_event_105 dX1_event_106 rfl ?_
  exact r_athrow (isX_enew rfl (by decide)) dX1_event_109 (r_pass (fun _ => rfl) rfl)
theorem t_X1_event {l : Launch} {D : Dn} {H0 : Heap} {w0 : St} (hl : l.stackTraces = false) (G : Nat) (a0 : Rf) (a1 : Int32) (w : St) : V_X1_event l D H0 w0 (f_X1_event G a0 a1 w) 0 [(0, lR a0), (1, lI a1)] [] w := by
  unfold f_X1_event
  refine r_aload_n 1 0 dX1_event_0 rfl rfl rfl ?_
  refine r_gd (fun hc1 => ?_)
  refine r_callV (n := 0) (as := []) (rest := []) 4 0 (s_X1_net hl G a0 w) hc1 rfl (lw_V q290 q292 qs0 q100 q293) (by decide +kernel) (by decide) rfl rfl (cat2_nil (k := 0)) rfl dX1_event_1 rfl (fun x1 w1 => ?_)
  refine r_getr 7 gf_X1_331 dX1_event_4 rfl (fun x4 => ?_)
  refine r_astore_n (ls2 := [(2, lR x4), (0, lR a0), (1, lI a1)]) 8 dX1_event_7 rfl (by decide) rfl rfl ?_
  refine r_aload_n 9 0 dX1_event_8 rfl rfl rfl ?_
  refine r_gd (fun hc9 => ?_)
  refine r_callV (n := 0) (as := []) (rest := []) 12 15 (sL_iterator hl x4 w1) hc9 rfl (lw_V q1651 q557 q558 q104 q559) (by decide +kernel) (by decide) rfl rfl (cat2_nil (k := 0)) rfl dX1_event_9 rfl (fun x9 w9 => ?_)
  refine r_astore_n (ls2 := [(3, lR x9), (2, lR x4), (0, lR a0), (1, lI a1)]) 13 dX1_event_12 rfl (by decide) rfl rfl ?_
  exact r_lsP [3, 1, 0] rfl (t_X1_event_l13 hl G (fun v4 w => f_X1_event_b93 G  v4 w) (fun v4 w => t_X1_event_b93 hl G  v4 w) (fun w => f_X1_event_b102 G  w) (fun w => t_X1_event_b102 hl G  w) G a1 x4 x9 w9)
theorem s_X1_event {l : Launch} {D : Dn} {H0 : Heap} (hl : l.stackTraces = false) (G : Nat) (a0 : Rf) (a1 : Int32) (w : St) : SimX l D H0 yX1_event (ws_ yX1_event cX1_event 8 (some (.int))) 37 3149 (ocX rvI) [lR a0, lI a1] w (f_X1_event G a0 a1 w) := SimX.ofV (y := yX1_event) (by decide) rfl (t_X1_event hl G a0 a1 w)
abbrev V_X1_checkState (l : Launch) (D : Dn) (H0 : Heap) (w0 : St) (res : Option ((Nat ⊕ Unit) × St)) (pc : Nat) (ls : List (Nat × LV)) (st : List Value) (w : St) : Prop := V l D H0 RX1 "checkState" cX1_checkState 1 none [] 6 81 (ocX rvU) w0 res pc ls st w
theorem t_X1_checkState {l : Launch} {D : Dn} {H0 : Heap} {w0 : St} (hl : l.stackTraces = false) (G : Nat) (a0 : Int32) (w : St) : V_X1_checkState l D H0 w0 (f_X1_checkState G a0 w) 0 [(0, lI a0)] [] w := by
  unfold f_X1_checkState
  refine r_iload_n 1 0 dX1_checkState_0 rfl rfl rfl ?_
  refine r_if_ne 12 4 dX1_checkState_1 (by decide) rfl ?_ ?_
  · exact r_vret rfl rfl dX1_checkState_12
  refine r_make 11 22 (names := exNm) hl (by rfl) (by decide) (by decide) exNm_ok q1812 q125 at_22 (by decide) (cat2_nil (k := 0)) dX1_checkState_4 dX1_checkState_7 dX1_checkState_8 rfl ?_
  exact r_athrow (isX_enew rfl (by decide)) dX1_checkState_11 (r_pass (fun _ => rfl) rfl)
theorem s_X1_checkState {l : Launch} {D : Dn} {H0 : Heap} (hl : l.stackTraces = false) (G : Nat) (a0 : Int32) (w : St) : SimX l D H0 yX1_checkState (ws_ yX1_checkState cX1_checkState 1 none) 6 81 (ocX rvU) [lI a0] w (f_X1_checkState G a0 w) := SimX.ofV (y := yX1_checkState) (by decide) rfl (t_X1_checkState hl G a0 w)
abbrev V_X1_append (l : Launch) (D : Dn) (H0 : Heap) (w0 : St) (res : Option ((Nat ⊕ Int32) × St)) (pc : Nat) (ls : List (Nat × LV)) (st : List Value) (w : St) : Prop := V l D H0 RX1 "append" cX1_append 2 (some (.int)) [] 31 3021 (ocX rvI) w0 res pc ls st w
theorem t_X1_append_b28 {l : Launch} {D : Dn} {H0 : Heap} {w0 : St} (hl : l.stackTraces = false) (G : Nat) (v0 : Rf) (v1 : Int32) (s0 : Int32) (w : St) : V_X1_append l D H0 w0 (f_X1_append_b28 G v0 v1 s0 w) 28 [(0, lR v0), (1, lI v1)] [.int s0] w := by
  unfold f_X1_append_b28
  rw [bx_bh]
  refine r_callHS (n := 1) (as := [lI s0]) (rest := []) 31 (s_X1_checkState hl G s0 w) (lw_S q1809 q1810 q100 q1811) (by decide +kernel) (by decide) rfl rfl (cat2_nil (k := 0)) rfl dX1_append_28 rfl (fun q9 w28 => r_pass (fun _ => rfl) rfl) (fun _ w28 => ?_)
  refine r_aload_n 32 0 dX1_append_31 rfl rfl rfl ?_
  refine r_getr 35 gf_X1_26 dX1_append_32 rfl (fun x32 => ?_)
  refine r_iload_n 36 1 dX1_append_35 rfl rfl rfl ?_
  refine r_gd (fun hc36 => ?_)
  refine r_callV (n := 1) (as := [lI v1]) (rest := []) 39 18 (sB_appendC hl x32 v1 w28) hc36 rfl (lw_V q1160 q1161 q1162 q107 q1163) (by decide +kernel) (by decide) rfl rfl (cat2_nil (k := 0)) rfl dX1_append_36 rfl (fun x36 w36 => ?_)
  refine r_pop_r 40 dX1_append_39 rfl ?_
  refine r_aload_n 41 0 dX1_append_40 rfl rfl rfl ?_
  refine r_getr 44 gf_X1_26 dX1_append_41 rfl (fun x41 => ?_)
  refine r_gd (fun hc44 => ?_)
  refine r_callV (n := 0) (as := []) (rest := []) 47 18 (sB_length hl x41 w36) hc44 rfl (lw_V q1203 q1036 q2706 q107 q1037) (by decide +kernel) (by decide) rfl rfl (cat2_nil (k := 0)) rfl dX1_append_44 rfl (fun x44 w44 => ?_)
  exact r_iret rfl rfl dX1_append_47
theorem t_X1_append {l : Launch} {D : Dn} {H0 : Heap} {w0 : St} (hl : l.stackTraces = false) (G : Nat) (a0 : Rf) (a1 : Int32) (w : St) : V_X1_append l D H0 w0 (f_X1_append G a0 a1 w) 0 [(0, lR a0), (1, lI a1)] [] w := by
  unfold f_X1_append
  refine r_iload_n 1 1 dX1_append_0 rfl rfl rfl ?_
  refine r_bipush (v := 32) 3 dX1_append_1 rfl rfl ?_
  refine r_bipush (v := 126) 5 dX1_append_3 rfl rfl ?_
  refine r_callS (n := 3) (as := [lI a1, lI 32, lI 126]) (rest := []) 8 (s_X1_isBetween hl G a1 32 126 w) (lw_S q1363 q1364 q100 q1365) (by decide +kernel) (by decide) rfl rfl (cat2_nil (k := 0)) rfl dX1_append_5 rfl (fun x5 w5 => ?_)
  rw [bx_bh]
  refine r_callHS (n := 1) (as := [lI x5]) (rest := []) 11 (s_X1_check hl G x5 w5) (lw_S q1627 q1628 q100 q1629) (by decide +kernel) (by decide) rfl rfl (cat2_nil (k := 0)) rfl dX1_append_8 rfl (fun q9 w8 => r_pass (fun _ => rfl) rfl) (fun _ w8 => ?_)
  refine r_aload_n 12 0 dX1_append_11 rfl rfl rfl ?_
  refine r_getr 15 gf_X1_26 dX1_append_12 rfl (fun x12 => ?_)
  refine r_gd (fun hc15 => ?_)
  refine r_callV (n := 0) (as := []) (rest := []) 18 18 (sB_length hl x12 w8) hc15 rfl (lw_V q1203 q1036 q2706 q107 q1037) (by decide +kernel) (by decide) rfl rfl (cat2_nil (k := 0)) rfl dX1_append_15 rfl (fun x15 w15 => ?_)
  refine r_bipush (v := 60) 20 dX1_append_18 rfl rfl ?_
  refine r_icmp_ge 27 23 dX1_append_20 (by decide) rfl ?_ ?_
  · refine r_iconst (v := 0) 28 dX1_append_27 rfl rfl ?_
    exact r_lsP [0, 1] rfl (t_X1_append_b28 hl G  a0 a1 0 w15)
  refine r_iconst (v := 1) 24 dX1_append_23 rfl rfl ?_
  refine r_goto 28 dX1_append_24 (by decide) ?_
  exact r_lsP [0, 1] rfl (t_X1_append_b28 hl G  a0 a1 1 w15)
theorem s_X1_append {l : Launch} {D : Dn} {H0 : Heap} (hl : l.stackTraces = false) (G : Nat) (a0 : Rf) (a1 : Int32) (w : St) : SimX l D H0 yX1_append (ws_ yX1_append cX1_append 2 (some (.int))) 31 3021 (ocX rvI) [lR a0, lI a1] w (f_X1_append G a0 a1 w) := SimX.ofV (y := yX1_append) (by decide) rfl (t_X1_append hl G a0 a1 w)
abbrev V_X1_does (l : Launch) (D : Dn) (H0 : Heap) (w0 : St) (res : Option ((Nat ⊕ Int32) × St)) (pc : Nat) (ls : List (Nat × LV)) (st : List Value) (w : St) : Prop := V l D H0 RX1 "does" cX1_does 5 (some (.int)) [] 38 3174 (ocX rvI) w0 res pc ls st w
theorem t_X1_does_b169 {l : Launch} {D : Dn} {H0 : Heap} {w0 : St} (hl : l.stackTraces = false) (G : Nat) (v0 : Rf) (v1 : Rf) (v2 : Rf) (v4 : Int32) (w : St) : V_X1_does l D H0 w0 (f_X1_does_b169 G v0 v1 v2 v4 w) 169 [(0, lR v0), (1, lR v1), (2, lR v2), (4, lI v4)] [] w := by
  unfold f_X1_does_b169
  refine r_iload 171 3 dX1_does_169 rfl rfl ?_
  refine r_if (fun hs => ?_) (fun hs0 => ?_)
  · refine r_tswIn 208 dX1_does_171 (z := 0) (by rw [hs]; rfl) (by decide) (by decide) rfl (by decide) ?_
    refine r_aload_n 209 0 dX1_does_208 rfl rfl rfl ?_
    refine r_aload_n 210 2 dX1_does_209 rfl rfl rfl ?_
    refine r_iconst (v := 0) 211 dX1_does_210 rfl rfl ?_
    refine r_iald 212 dX1_does_211 rfl (fun x211 => ?_)
    refine r_aload_n 213 2 dX1_does_212 rfl rfl rfl ?_
    refine r_iconst (v := 1) 214 dX1_does_213 rfl rfl ?_
    refine r_iald 215 dX1_does_214 rfl (fun x214 => ?_)
    refine r_aload_n 216 1 dX1_does_215 rfl rfl rfl ?_
    refine r_geti 219 gf_X1_392 dX1_does_216 rfl (fun x216 => ?_)
    refine r_aload_n 220 2 dX1_does_219 rfl rfl rfl ?_
    refine r_iconst (v := 2) 221 dX1_does_220 rfl rfl ?_
    refine r_iald 222 dX1_does_221 rfl (fun x221 => ?_)
    refine r_gd (fun hc222 => ?_)
    rw [bx_bh]
    refine r_callHV (n := 4) (as := [lI x211, lI x214, lI x216, lI x221]) (rest := []) 225 0 (s_X1_late hl G v0 x211 x214 x216 x221 w) hc222 rfl (lw_V q2023 q1575 q1576 q100 q1577) (by decide +kernel) (by decide) rfl rfl (cat2_nil (k := 0)) rfl dX1_does_222 rfl (fun q9 w222 => r_pass (fun _ => rfl) rfl) (fun x222 w222 => ?_)
    exact r_iret rfl rfl dX1_does_225
  refine r_if (fun hs => ?_) (fun hs1 => ?_)
  · refine r_tswIn 226 dX1_does_171 (z := 1) (by rw [hs]; rfl) (by decide) (by decide) rfl (by decide) ?_
    refine r_aload_n 227 0 dX1_does_226 rfl rfl rfl ?_
    refine r_aload_n 228 2 dX1_does_227 rfl rfl rfl ?_
    refine r_iconst (v := 0) 229 dX1_does_228 rfl rfl ?_
    refine r_iald 230 dX1_does_229 rfl (fun x229 => ?_)
    refine r_aload_n 231 2 dX1_does_230 rfl rfl rfl ?_
    refine r_iconst (v := 1) 232 dX1_does_231 rfl rfl ?_
    refine r_iald 233 dX1_does_232 rfl (fun x232 => ?_)
    refine r_aload_n 234 2 dX1_does_233 rfl rfl rfl ?_
    refine r_iconst (v := 2) 235 dX1_does_234 rfl rfl ?_
    refine r_iald 236 dX1_does_235 rfl (fun x235 => ?_)
    refine r_aload_n 237 2 dX1_does_236 rfl rfl rfl ?_
    refine r_iconst (v := 3) 238 dX1_does_237 rfl rfl ?_
    refine r_iald 239 dX1_does_238 rfl (fun x238 => ?_)
    refine r_aload_n 240 2 dX1_does_239 rfl rfl rfl ?_
    refine r_iconst (v := 4) 241 dX1_does_240 rfl rfl ?_
    refine r_iald 242 dX1_does_241 rfl (fun x241 => ?_)
    refine r_aload_n 243 2 dX1_does_242 rfl rfl rfl ?_
    refine r_iconst (v := 5) 244 dX1_does_243 rfl rfl ?_
    refine r_iald 245 dX1_does_244 rfl (fun x244 => ?_)
    refine r_gd (fun hc245 => ?_)
    rw [bx_bh]
    refine r_callHV (n := 6) (as := [lI x229, lI x232, lI x235, lI x238, lI x241, lI x244]) (rest := []) 248 0 (s_X1_link hl G v0 x229 x232 x235 x238 x241 x244 w) hc245 rfl (lw_V q2024 q1540 q1541 q100 q1542) (by decide +kernel) (by decide) rfl rfl (cat2_nil (k := 0)) rfl dX1_does_245 rfl (fun q9 w245 => r_pass (fun _ => rfl) rfl) (fun x245 w245 => ?_)
    exact r_iret rfl rfl dX1_does_248
  refine r_if (fun hs => ?_) (fun hs2 => ?_)
  · refine r_tswIn 249 dX1_does_171 (z := 2) (by rw [hs]; rfl) (by decide) (by decide) rfl (by decide) ?_
    refine r_aload_n 250 0 dX1_does_249 rfl rfl rfl ?_
    refine r_aload_n 251 2 dX1_does_250 rfl rfl rfl ?_
    refine r_iconst (v := 0) 252 dX1_does_251 rfl rfl ?_
    refine r_iald 253 dX1_does_252 rfl (fun x252 => ?_)
    refine r_aload_n 254 2 dX1_does_253 rfl rfl rfl ?_
    refine r_iconst (v := 1) 255 dX1_does_254 rfl rfl ?_
    refine r_iald 256 dX1_does_255 rfl (fun x255 => ?_)
    refine r_gd (fun hc256 => ?_)
    rw [bx_bh]
    refine r_callHV (n := 2) (as := [lI x252, lI x255]) (rest := []) 259 0 (s_X1_limit hl G v0 x252 x255 w) hc256 rfl (lw_V q2025 q1568 q1569 q100 q1570) (by decide +kernel) (by decide) rfl rfl (cat2_nil (k := 0)) rfl dX1_does_256 rfl (fun q9 w256 => r_pass (fun _ => rfl) rfl) (fun x256 w256 => ?_)
    exact r_iret rfl rfl dX1_does_259
  refine r_if (fun hs => ?_) (fun hs3 => ?_)
  · refine r_tswIn 260 dX1_does_171 (z := 3) (by rw [hs]; rfl) (by decide) (by decide) rfl (by decide) ?_
    refine r_aload_n 261 0 dX1_does_260 rfl rfl rfl ?_
    refine r_aload_n 262 2 dX1_does_261 rfl rfl rfl ?_
    refine r_iconst (v := 0) 263 dX1_does_262 rfl rfl ?_
    refine r_iald 264 dX1_does_263 rfl (fun x263 => ?_)
    refine r_gd (fun hc264 => ?_)
    rw [bx_bh]
    refine r_callHV (n := 1) (as := [lI x263]) (rest := []) 267 0 (s_X1_cut hl G v0 x263 w) hc264 rfl (lw_V q2026 q1548 q1549 q100 q1550) (by decide +kernel) (by decide) rfl rfl (cat2_nil (k := 0)) rfl dX1_does_264 rfl (fun q9 w264 => r_pass (fun _ => rfl) rfl) (fun x264 w264 => ?_)
    exact r_iret rfl rfl dX1_does_267
  refine r_if (fun hs => ?_) (fun hs4 => ?_)
  · refine r_tswIn 268 dX1_does_171 (z := 4) (by rw [hs]; rfl) (by decide) (by decide) rfl (by decide) ?_
    refine r_aload_n 269 0 dX1_does_268 rfl rfl rfl ?_
    refine r_aload_n 270 2 dX1_does_269 rfl rfl rfl ?_
    refine r_iconst (v := 0) 271 dX1_does_270 rfl rfl ?_
    refine r_iald 272 dX1_does_271 rfl (fun x271 => ?_)
    refine r_aload_n 273 2 dX1_does_272 rfl rfl rfl ?_
    refine r_iconst (v := 1) 274 dX1_does_273 rfl rfl ?_
    refine r_iald 275 dX1_does_274 rfl (fun x274 => ?_)
    refine r_gd (fun hc275 => ?_)
    rw [bx_bh]
    refine r_callHV (n := 2) (as := [lI x271, lI x274]) (rest := []) 278 0 (s_X1_turn hl G v0 x271 x274 w) hc275 rfl (lw_V q2027 q1495 q1496 q100 q1497) (by decide +kernel) (by decide) rfl rfl (cat2_nil (k := 0)) rfl dX1_does_275 rfl (fun q9 w275 => r_pass (fun _ => rfl) rfl) (fun x275 w275 => ?_)
    exact r_iret rfl rfl dX1_does_278
  refine r_if (fun hs => ?_) (fun hs5 => ?_)
  · refine r_tswIn 279 dX1_does_171 (z := 5) (by rw [hs]; rfl) (by decide) (by decide) rfl (by decide) ?_
    refine r_aload_n 280 0 dX1_does_279 rfl rfl rfl ?_
    refine r_aload_n 281 2 dX1_does_280 rfl rfl rfl ?_
    refine r_iconst (v := 0) 282 dX1_does_281 rfl rfl ?_
    refine r_iald 283 dX1_does_282 rfl (fun x282 => ?_)
    refine r_aload_n 284 2 dX1_does_283 rfl rfl rfl ?_
    refine r_iconst (v := 1) 285 dX1_does_284 rfl rfl ?_
    refine r_iald 286 dX1_does_285 rfl (fun x285 => ?_)
    refine r_aload_n 287 2 dX1_does_286 rfl rfl rfl ?_
    refine r_iconst (v := 2) 288 dX1_does_287 rfl rfl ?_
    refine r_iald 289 dX1_does_288 rfl (fun x288 => ?_)
    refine r_aload_n 290 2 dX1_does_289 rfl rfl rfl ?_
    refine r_iconst (v := 3) 291 dX1_does_290 rfl rfl ?_
    refine r_iald 292 dX1_does_291 rfl (fun x291 => ?_)
    refine r_aload_n 293 2 dX1_does_292 rfl rfl rfl ?_
    refine r_iconst (v := 4) 294 dX1_does_293 rfl rfl ?_
    refine r_iald 295 dX1_does_294 rfl (fun x294 => ?_)
    refine r_aload_n 296 2 dX1_does_295 rfl rfl rfl ?_
    refine r_iconst (v := 5) 297 dX1_does_296 rfl rfl ?_
    refine r_iald 298 dX1_does_297 rfl (fun x297 => ?_)
    refine r_gd (fun hc298 => ?_)
    rw [bx_bh]
    refine r_callHV (n := 6) (as := [lI x282, lI x285, lI x288, lI x291, lI x294, lI x297]) (rest := []) 301 0 (s_X1_leg hl G v0 x282 x285 x288 x291 x294 x297 w) hc298 rfl (lw_V q2028 q1472 q1473 q100 q1474) (by decide +kernel) (by decide) rfl rfl (cat2_nil (k := 0)) rfl dX1_does_298 rfl (fun q9 w298 => r_pass (fun _ => rfl) rfl) (fun x298 w298 => ?_)
    exact r_iret rfl rfl dX1_does_301
  have hs0 := neI hs0 (z := 0) rfl
  have hs1 := neI hs1 (z := 1) rfl
  have hs2 := neI hs2 (z := 2) rfl
  have hs3 := neI hs3 (z := 3) rfl
  have hs4 := neI hs4 (z := 4) rfl
  have hs5 := neI hs5 (z := 5) rfl
  refine r_tswOut 302 dX1_does_171 (by omega) (by decide) ?_
  refine r_aload_n 303 0 dX1_does_302 rfl rfl rfl ?_
  refine r_aload_n 304 2 dX1_does_303 rfl rfl rfl ?_
  refine r_iconst (v := 0) 305 dX1_does_304 rfl rfl ?_
  refine r_iald 306 dX1_does_305 rfl (fun x305 => ?_)
  refine r_aload_n 307 2 dX1_does_306 rfl rfl rfl ?_
  refine r_iconst (v := 1) 308 dX1_does_307 rfl rfl ?_
  refine r_iald 309 dX1_does_308 rfl (fun x308 => ?_)
  refine r_gd (fun hc309 => ?_)
  rw [bx_bh]
  refine r_callHV (n := 2) (as := [lI x305, lI x308]) (rest := []) 312 0 (s_X1_coach hl G v0 x305 x308 w) hc309 rfl (lw_V q2029 q1356 q1357 q100 q1358) (by decide +kernel) (by decide) rfl rfl (cat2_nil (k := 0)) rfl dX1_does_309 rfl (fun q9 w309 => r_pass (fun _ => rfl) rfl) (fun x309 w309 => ?_)
  exact r_iret rfl rfl dX1_does_312
theorem t_X1_does {l : Launch} {D : Dn} {H0 : Heap} {w0 : St} (hl : l.stackTraces = false) (G : Nat) (a0 : Rf) (a1 : Rf) (w : St) : V_X1_does l D H0 w0 (f_X1_does G a0 a1 w) 0 [(0, lR a0), (1, lR a1)] [] w := by
  unfold f_X1_does
  refine r_aload_n 1 1 dX1_does_0 rfl rfl rfl ?_
  refine r_getr 4 gf_X1_366 dX1_does_1 rfl (fun x1 => ?_)
  refine r_astore_n (ls2 := [(2, lR x1), (0, lR a0), (1, lR a1)]) 5 dX1_does_4 rfl (by decide) rfl rfl ?_
  refine r_aload_n 6 2 dX1_does_5 rfl rfl rfl ?_
  refine r_getr 9 gf_X1_372 dX1_does_6 rfl (fun x6 => ?_)
  refine r_astore_n (ls2 := [(3, lR x6), (2, lR x1), (0, lR a0), (1, lR a1)]) 10 dX1_does_9 rfl (by decide) rfl rfl ?_
  refine r_iconst (v := (-1)) 11 dX1_does_10 rfl rfl ?_
  refine r_istore (ls2 := [(4, lI ((-1))), (3, lR x6), (2, lR x1), (0, lR a0), (1, lR a1)]) 13 dX1_does_11 (by decide) rfl rfl ?_
  refine r_aload_n 14 1 dX1_does_13 rfl rfl rfl ?_
  refine r_gd (fun hc14 => ?_)
  refine r_callV (n := 0) (as := []) (rest := []) 17 19 (sS_hashCode hl x6 w) hc14 rfl (lw_V q2015 q1925 q1926 q108 q1927) (by decide +kernel) (by decide) rfl rfl (cat2_nil (k := 0)) rfl dX1_does_14 rfl (fun x14 w14 => ?_)
  refine r_if (fun hs => ?_) (fun hs0 => ?_)
  · refine r_lsw (off := 107) 124 dX1_does_17 (by decide) (by rw [hs]; rfl) (by decide) ?_
    refine r_aload_n 125 1 dX1_does_124 rfl rfl rfl ?_
    refine r_ldcSW 128 16 rfl dX1_does_125 rfl ?_
    refine r_gd (fun hc128 => ?_)
    refine r_callV (n := 1) (as := [lR ((some (w14.g 18)))]) (rest := []) 131 19 (sS_equals hl x6 ((some (w14.g 18))) w14) hc128 rfl (lw_V q2017 q1982 q1983 q108 q1984) (by decide +kernel) (by decide) rfl rfl (cat2_nil (k := 0)) rfl dX1_does_128 rfl (fun x128 w128 => ?_)
    refine r_if_eq 169 134 dX1_does_131 (by decide) rfl ?_ ?_
    · exact r_lsP [3, 4, 2, 0] rfl (t_X1_does_b169 hl G  a0 a1 x1 ((-1)) w128)
    refine r_iconst (v := 3) 135 dX1_does_134 rfl rfl ?_
    refine r_istore (ls2 := [(4, lI 3), (3, lR x6), (2, lR x1), (0, lR a0), (1, lR a1)]) 137 dX1_does_135 (by decide) rfl rfl ?_
    refine r_goto 169 dX1_does_137 (by decide) ?_
    exact r_lsP [3, 4, 2, 0] rfl (t_X1_does_b169 hl G  a0 a1 x1 3 w128)
  refine r_if (fun hs => ?_) (fun hs1 => ?_)
  · refine r_lsw (off := 139) 156 dX1_does_17 (by decide) (by rw [hs]; rfl) (by decide) ?_
    refine r_aload_n 157 1 dX1_does_156 rfl rfl rfl ?_
    refine r_ldcSW 160 7 rfl dX1_does_157 rfl ?_
    refine r_gd (fun hc160 => ?_)
    refine r_callV (n := 1) (as := [lR ((some (w14.g 13)))]) (rest := []) 163 19 (sS_equals hl x6 ((some (w14.g 13))) w14) hc160 rfl (lw_V q2017 q1982 q1983 q108 q1984) (by decide +kernel) (by decide) rfl rfl (cat2_nil (k := 0)) rfl dX1_does_160 rfl (fun x160 w160 => ?_)
    refine r_if_eq 169 166 dX1_does_163 (by decide) rfl ?_ ?_
    · exact r_lsP [3, 4, 2, 0] rfl (t_X1_does_b169 hl G  a0 a1 x1 ((-1)) w160)
    refine r_iconst (v := 5) 167 dX1_does_166 rfl rfl ?_
    refine r_istore (ls2 := [(4, lI 5), (3, lR x6), (2, lR x1), (0, lR a0), (1, lR a1)]) 169 dX1_does_167 (by decide) rfl rfl ?_
    exact r_lsP [3, 4, 2, 0] rfl (t_X1_does_b169 hl G  a0 a1 x1 5 w160)
  refine r_if (fun hs => ?_) (fun hs2 => ?_)
  · refine r_lsw (off := 59) 76 dX1_does_17 (by decide) (by rw [hs]; rfl) (by decide) ?_
    refine r_aload_n 77 1 dX1_does_76 rfl rfl rfl ?_
    refine r_ldcSW 80 5 rfl dX1_does_77 rfl ?_
    refine r_gd (fun hc80 => ?_)
    refine r_callV (n := 1) (as := [lR ((some (w14.g 12)))]) (rest := []) 83 19 (sS_equals hl x6 ((some (w14.g 12))) w14) hc80 rfl (lw_V q2017 q1982 q1983 q108 q1984) (by decide +kernel) (by decide) rfl rfl (cat2_nil (k := 0)) rfl dX1_does_80 rfl (fun x80 w80 => ?_)
    refine r_if_eq 169 86 dX1_does_83 (by decide) rfl ?_ ?_
    · exact r_lsP [3, 4, 2, 0] rfl (t_X1_does_b169 hl G  a0 a1 x1 ((-1)) w80)
    refine r_iconst (v := 0) 87 dX1_does_86 rfl rfl ?_
    refine r_istore (ls2 := [(4, lI 0), (3, lR x6), (2, lR x1), (0, lR a0), (1, lR a1)]) 89 dX1_does_87 (by decide) rfl rfl ?_
    refine r_goto 169 dX1_does_89 (by decide) ?_
    exact r_lsP [3, 4, 2, 0] rfl (t_X1_does_b169 hl G  a0 a1 x1 0 w80)
  refine r_if (fun hs => ?_) (fun hs3 => ?_)
  · refine r_lsw (off := 75) 92 dX1_does_17 (by decide) (by rw [hs]; rfl) (by decide) ?_
    refine r_aload_n 93 1 dX1_does_92 rfl rfl rfl ?_
    refine r_ldcSW 96 11 rfl dX1_does_93 rfl ?_
    refine r_gd (fun hc96 => ?_)
    refine r_callV (n := 1) (as := [lR ((some (w14.g 15)))]) (rest := []) 99 19 (sS_equals hl x6 ((some (w14.g 15))) w14) hc96 rfl (lw_V q2017 q1982 q1983 q108 q1984) (by decide +kernel) (by decide) rfl rfl (cat2_nil (k := 0)) rfl dX1_does_96 rfl (fun x96 w96 => ?_)
    refine r_if_eq 169 102 dX1_does_99 (by decide) rfl ?_ ?_
    · exact r_lsP [3, 4, 2, 0] rfl (t_X1_does_b169 hl G  a0 a1 x1 ((-1)) w96)
    refine r_iconst (v := 1) 103 dX1_does_102 rfl rfl ?_
    refine r_istore (ls2 := [(4, lI 1), (3, lR x6), (2, lR x1), (0, lR a0), (1, lR a1)]) 105 dX1_does_103 (by decide) rfl rfl ?_
    refine r_goto 169 dX1_does_105 (by decide) ?_
    exact r_lsP [3, 4, 2, 0] rfl (t_X1_does_b169 hl G  a0 a1 x1 1 w96)
  refine r_if (fun hs => ?_) (fun hs4 => ?_)
  · refine r_lsw (off := 123) 140 dX1_does_17 (by decide) (by rw [hs]; rfl) (by decide) ?_
    refine r_aload_n 141 1 dX1_does_140 rfl rfl rfl ?_
    refine r_ldcSW 144 13 rfl dX1_does_141 rfl ?_
    refine r_gd (fun hc144 => ?_)
    refine r_callV (n := 1) (as := [lR ((some (w14.g 16)))]) (rest := []) 147 19 (sS_equals hl x6 ((some (w14.g 16))) w14) hc144 rfl (lw_V q2017 q1982 q1983 q108 q1984) (by decide +kernel) (by decide) rfl rfl (cat2_nil (k := 0)) rfl dX1_does_144 rfl (fun x144 w144 => ?_)
    refine r_if_eq 169 150 dX1_does_147 (by decide) rfl ?_ ?_
    · exact r_lsP [3, 4, 2, 0] rfl (t_X1_does_b169 hl G  a0 a1 x1 ((-1)) w144)
    refine r_iconst (v := 4) 151 dX1_does_150 rfl rfl ?_
    refine r_istore (ls2 := [(4, lI 4), (3, lR x6), (2, lR x1), (0, lR a0), (1, lR a1)]) 153 dX1_does_151 (by decide) rfl rfl ?_
    refine r_goto 169 dX1_does_153 (by decide) ?_
    exact r_lsP [3, 4, 2, 0] rfl (t_X1_does_b169 hl G  a0 a1 x1 4 w144)
  refine r_if (fun hs => ?_) (fun hs5 => ?_)
  · refine r_lsw (off := 91) 108 dX1_does_17 (by decide) (by rw [hs]; rfl) (by decide) ?_
    refine r_aload_n 109 1 dX1_does_108 rfl rfl rfl ?_
    refine r_ldcSW 112 9 rfl dX1_does_109 rfl ?_
    refine r_gd (fun hc112 => ?_)
    refine r_callV (n := 1) (as := [lR ((some (w14.g 14)))]) (rest := []) 115 19 (sS_equals hl x6 ((some (w14.g 14))) w14) hc112 rfl (lw_V q2017 q1982 q1983 q108 q1984) (by decide +kernel) (by decide) rfl rfl (cat2_nil (k := 0)) rfl dX1_does_112 rfl (fun x112 w112 => ?_)
    refine r_if_eq 169 118 dX1_does_115 (by decide) rfl ?_ ?_
    · exact r_lsP [3, 4, 2, 0] rfl (t_X1_does_b169 hl G  a0 a1 x1 ((-1)) w112)
    refine r_iconst (v := 2) 119 dX1_does_118 rfl rfl ?_
    refine r_istore (ls2 := [(4, lI 2), (3, lR x6), (2, lR x1), (0, lR a0), (1, lR a1)]) 121 dX1_does_119 (by decide) rfl rfl ?_
    refine r_goto 169 dX1_does_121 (by decide) ?_
    exact r_lsP [3, 4, 2, 0] rfl (t_X1_does_b169 hl G  a0 a1 x1 2 w112)
  have hs0 := neI hs0 (z := 98882) rfl
  have hs1 := neI hs1 (z := 107022) rfl
  have hs2 := neI hs2 (z := 3314342) rfl
  have hs3 := neI hs3 (z := 3321850) rfl
  have hs4 := neI hs4 (z := 3571837) rfl
  have hs5 := neI hs5 (z := 102976443) rfl
  refine r_lsw (off := 152) 169 dX1_does_17 (by decide) (lsC hs0 (lsC hs1 (lsC hs2 (lsC hs3 (lsC hs4 (lsC hs5 (rfl))))))) (by decide) ?_
  exact r_lsP [3, 4, 2, 0] rfl (t_X1_does_b169 hl G  a0 a1 x1 ((-1)) w14)
theorem s_X1_does {l : Launch} {D : Dn} {H0 : Heap} (hl : l.stackTraces = false) (G : Nat) (a0 : Rf) (a1 : Rf) (w : St) : SimX l D H0 yX1_does (ws_ yX1_does cX1_does 5 (some (.int))) 38 3174 (ocX rvI) [lR a0, lR a1] w (f_X1_does G a0 a1 w) := SimX.ofV (y := yX1_does) (by decide) rfl (t_X1_does hl G a0 a1 w)
abbrev V_X1_doAll (l : Launch) (D : Dn) (H0 : Heap) (w0 : St) (res : Option ((Nat ⊕ Int32) × St)) (pc : Nat) (ls : List (Nat × LV)) (st : List Value) (w : St) : Prop := V l D H0 RX1 "doAll" cX1_doAll 7 (some (.int)) [(20, 61, 69, 46), (20, 61, 97, 0), (69, 99, 97, 0)] 39 3198 (ocX rvI) w0 res pc ls st w
theorem t_X1_doAll_l26 {l : Launch} {D : Dn} {H0 : Heap} {w0 : St} (hl : l.stackTraces = false) (G : Nat) (k61 : Rf → Rf → Int32 → St → Option ((Nat ⊕ Int32) × St)) (h61 : ∀ v0 v2 v3 w, V_X1_doAll l D H0 w0 (k61 v0 v2 v3 w) 61 [(0, lR v0), (2, lR v2), (3, lI v3)] [] w) (k69 : Rf → Rf → Int32 → Rf → St → Option ((Nat ⊕ Int32) × St)) (h69 : ∀ v0 v2 v3 s0 w, V_X1_doAll l D H0 w0 (k69 v0 v2 v3 s0 w) 69 [(0, lR v0), (2, lR v2), (3, lI v3)] [rf s0] w) : ∀ (F : Nat) (v0 : Rf) (v2 : Rf) (v3 : Int32) (v4 : Rf) (w : St), V_X1_doAll l D H0 w0 (f_X1_doAll_l26 G k61 k69 F v0 v2 v3 v4 w) 26 [(0, lR v0), (2, lR v2), (3, lI v3), (4, lR v4)] [] w := by
  intro F
  induction F with
  | zero => intros; exact r_none
  | succ F ih =>
    intro v0 v2 v3 v4 w
    unfold f_X1_doAll_l26
    refine r_aload 28 3 dX1_doAll_26 rfl rfl ?_
    refine r_gd (fun hc28 => ?_)
    refine r_callF (x2 := ⟨"java/util/Iterator", "hasNext", "()Z"⟩) (n := 0) (as := []) (rest := []) 33 16 (sI_hasNext hl v4 w) hc28 rfl (lw_app (l4 q1653 q584 q586 q116) (lw_meth q588)) (List.mem_of_getElem? (i := 0) rfl) (by decide +kernel) (by decide) rfl rfl (cat2_nil (k := 0)) rfl dX1_doAll_28 rfl (fun x28 w28 => ?_)
    refine r_if_eq 61 36 dX1_doAll_33 (by decide) rfl ?_ ?_
    · exact r_lsP [0, 1, 2] rfl (h61 v0 v2 v3 w28)
    refine r_aload 38 3 dX1_doAll_36 rfl rfl ?_
    refine r_gd (fun hc38 => ?_)
    refine r_callF (x2 := ⟨"java/util/Iterator", "next", "()Ljava/lang/Object;"⟩) (n := 0) (as := []) (rest := []) 43 16 (sI_next hl v4 w28) hc38 rfl (lw_app (l4 q1655 q593 q595 q116) (lw_meth q597)) (List.mem_of_getElem? (i := 1) rfl) (by decide +kernel) (by decide) rfl rfl (cat2_nil (k := 0)) rfl dX1_doAll_38 rfl (fun x38 w38 => ?_)
    refine r_cast 46 (CA_cons (c0 := 14) rfl (Or.inl rfl) (CA_nil)) q2010 dX1_doAll_43 rfl ?_
    refine r_astore (ls2 := [(5, lR x38), (0, lR v0), (2, lR v2), (3, lI v3), (4, lR v4)]) 48 dX1_doAll_46 (by decide) rfl rfl ?_
    refine r_aload_n 49 1 dX1_doAll_48 rfl rfl rfl ?_
    refine r_aload 51 0 dX1_doAll_49 rfl rfl ?_
    refine r_gd (fun hc51 => ?_)
    refine r_callHV (n := 1) (as := [lR x38]) (rest := []) 54 0 (s_X1_does hl G v0 x38 w38) hc51 rfl (lw_V q2011 q2013 qs35 q100 q2014) (by decide +kernel) (by decide) rfl rfl (cat2_nil (k := 0)) rfl dX1_doAll_51 rfl (fun q9 w51 => ?_) (fun x51 w51 => ?_)
    · refine r_vif (fun he => ?_) (fun _ => ?_)
      · refine r_catch (ci := 20) 0 he rfl rfl (al_nil) rfl (by decide) q1389 q1391 ?_
        exact r_lsP [1, 2, 3] rfl (h69 v0 v2 v3 ((some q9)) w51)
      exact r_tnone
    refine r_pop_i 55 dX1_doAll_54 rfl ?_
    refine r_iinc (v := v3 + 1) (ls2 := [(3, lI (v3 + 1)), (5, lR x38), (0, lR v0), (2, lR v2), (4, lR v4)]) 58 3 dX1_doAll_55 rfl rfl (by decide) rfl rfl ?_
    refine r_goto 26 dX1_doAll_58 (by decide) ?_
    exact r_lsP [2, 3, 0, 4] rfl (ih v0 v2 (v3 + 1) v4 w51)
theorem t_X1_doAll_b61 {l : Launch} {D : Dn} {H0 : Heap} {w0 : St} (hl : l.stackTraces = false) (G : Nat) (v0 : Rf) (v2 : Rf) (v3 : Int32) (w : St) : V_X1_doAll l D H0 w0 (f_X1_doAll_b61 G v0 v2 v3 w) 61 [(0, lR v0), (2, lR v2), (3, lI v3)] [] w := by
  unfold f_X1_doAll_b61
  refine r_aload_n 62 0 dX1_doAll_61 rfl rfl rfl ?_
  refine r_iconst (v := 0) 63 dX1_doAll_62 rfl rfl ?_
  refine r_putz 66 pf_X1_82 dX1_doAll_63 rfl (fun w63 => ?_)
  refine r_goto 107 dX1_doAll_66 (by decide) ?_
  refine r_aload_n 108 0 dX1_doAll_107 rfl rfl rfl ?_
  refine r_getr 111 gf_X1_10 dX1_doAll_108 rfl (fun x108 => ?_)
  refine r_astore (ls2 := [(4, lR x108), (0, lR v0), (2, lR v2), (3, lI v3)]) 113 dX1_doAll_111 (by decide) rfl rfl ?_
  refine r_aload_n 114 1 dX1_doAll_113 rfl rfl rfl ?_
  refine r_aload_n 115 2 dX1_doAll_114 rfl rfl rfl ?_
  refine r_putr 118 pf_X1_10 (Or.inl ⟨_, rfl⟩) dX1_doAll_115 rfl (fun w115 => ?_)
  refine r_aload_n 119 1 dX1_doAll_118 rfl rfl rfl ?_
  refine r_gd (fun hc119 => ?_)
  refine r_callV (n := 0) (as := []) (rest := []) 122 0 (s_X1_change hl G v0 w115) hc119 rfl (lw_V q1404 q1406 qs10 q100 q1407) (by decide +kernel) (by decide) rfl rfl (cat2_nil (k := 0)) rfl dX1_doAll_119 rfl (fun _ w119 => ?_)
  refine r_aload_n 123 1 dX1_doAll_122 rfl rfl rfl ?_
  refine r_aload 125 0 dX1_doAll_123 rfl rfl ?_
  refine r_putr 128 pf_X1_10 (Or.inl ⟨_, rfl⟩) dX1_doAll_125 rfl (fun w125 => ?_)
  refine r_iload_n 129 3 dX1_doAll_128 rfl rfl rfl ?_
  exact r_iret rfl rfl dX1_doAll_129
theorem t_X1_doAll_b97 {l : Launch} {D : Dn} {H0 : Heap} {w0 : St} (hl : l.stackTraces = false) (G : Nat) (v0 : Rf) (s0 : Rf) (w : St) : V_X1_doAll l D H0 w0 (f_X1_doAll_b97 G v0 s0 w) 97 [(0, lR v0)] [rf s0] w := by
  unfold f_X1_doAll_b97
  refine r_astore (ls2 := [(6, lR s0), (0, lR v0)]) 99 dX1_doAll_97 (by decide) rfl rfl ?_
  refine r_aload_n 100 1 dX1_doAll_99 rfl rfl rfl ?_
  refine r_iconst (v := 0) 101 dX1_doAll_100 rfl rfl ?_
  refine r_putz 104 pf_X1_82 dX1_doAll_101 rfl (fun w101 => ?_)
  refine r_aload 106 0 dX1_doAll_104 rfl rfl ?_
  refine r_gd (fun hc => ?_)
  exact r_athrowC 20 hc rfl rfl dX1_doAll_106 (r_pass (fun _ => rfl) rfl)
theorem t_X1_doAll_b69 {l : Launch} {D : Dn} {H0 : Heap} {w0 : St} (hl : l.stackTraces = false) (G : Nat) (v0 : Rf) (v2 : Rf) (v3 : Int32) (s0 : Rf) (w : St) : V_X1_doAll l D H0 w0 (f_X1_doAll_b69 G v0 v2 v3 s0 w) 69 [(0, lR v0), (2, lR v2), (3, lI v3)] [rf s0] w := by
  unfold f_X1_doAll_b69
  refine r_astore (ls2 := [(4, lR s0), (0, lR v0), (2, lR v2), (3, lI v3)]) 71 dX1_doAll_69 (by decide) rfl rfl ?_
  refine r_aload_n 72 1 dX1_doAll_71 rfl rfl rfl ?_
  refine r_aload_n 73 2 dX1_doAll_72 rfl rfl rfl ?_
  refine r_putr 76 pf_X1_10 (Or.inl ⟨_, rfl⟩) dX1_doAll_73 rfl (fun w73 => ?_)
  refine r_aload_n 77 1 dX1_doAll_76 rfl rfl rfl ?_
  refine r_nw (C := RX4) (T := TX4) (N := 3) (ty := tyX4) 80 2 rfl rfl in_X4 tyX4_ok q1370 q1371 q111 rfl (by decide) dX1_doAll_77 rfl (fun b77 w77 => ?_)
  refine r_dup_r 81 dX1_doAll_80 rfl ?_
  refine r_bipush (v := 11) 83 dX1_doAll_81 rfl rfl ?_
  refine r_iload_n 84 3 dX1_doAll_83 rfl rfl rfl ?_
  refine r_aload_n 85 1 dX1_doAll_84 rfl rfl rfl ?_
  refine r_getr 88 gf_X1_42 dX1_doAll_85 rfl (fun x85 => ?_)
  refine r_callI (b := b77) (n := 3) (as := [lI 11, lI v3, lR x85]) (rest := [rf ((some b77)), rf v0]) 91 (s_X4_init hl G b77 11 v3 x85 w77) (lw_meth q1374) q111 q1372 q1373 rfl (by decide +kernel) (by decide) rfl rfl (cat2_r (cat2_r (cat2_nil (k := 0)))) rfl dX1_doAll_88 rfl (fun _ w88 => ?_)
  refine r_putr 94 pf_X1_42 (Or.inl ⟨_, rfl⟩) dX1_doAll_91 rfl (fun w91 => ?_)
  refine r_aload 96 0 dX1_doAll_94 rfl rfl ?_
  refine r_gd (fun hc => ?_)
  refine r_athrowC 20 hc rfl rfl dX1_doAll_96 ?_
  refine r_catchAny 2 rfl (al_cons (rfl) (al_cons (rfl) (al_nil))) rfl rfl ?_
  exact r_lsP [1] rfl (t_X1_doAll_b97 hl G  v0 ((some (rfq s0))) w91)
theorem t_X1_doAll {l : Launch} {D : Dn} {H0 : Heap} {w0 : St} (hl : l.stackTraces = false) (G : Nat) (a0 : Rf) (a1 : Rf) (w : St) : V_X1_doAll l D H0 w0 (f_X1_doAll G a0 a1 w) 0 [(0, lR a0), (1, lR a1)] [] w := by
  unfold f_X1_doAll
  refine r_aload_n 1 0 dX1_doAll_0 rfl rfl rfl ?_
  refine r_getr 4 gf_X1_10 dX1_doAll_1 rfl (fun x1 => ?_)
  refine r_astore_n (ls2 := [(2, lR x1), (0, lR a0), (1, lR a1)]) 5 dX1_doAll_4 rfl (by decide) rfl rfl ?_
  refine r_aload_n 6 1 dX1_doAll_5 rfl rfl rfl ?_
  refine r_aload_n 7 0 dX1_doAll_6 rfl rfl rfl ?_
  refine r_gd (fun hc7 => ?_)
  refine r_callV (n := 0) (as := []) (rest := [rf a0]) 10 1 (s_X2_copy hl G x1 w) hc7 rfl (lw_V q1208 q1209 q1210 q101 q1211) (by decide +kernel) (by decide) rfl rfl (cat2_r (cat2_nil (k := 0))) rfl dX1_doAll_7 rfl (fun x7 w7 => ?_)
  refine r_putr 13 pf_X1_10 (Or.inl ⟨_, rfl⟩) dX1_doAll_10 rfl (fun w10 => ?_)
  refine r_aload_n 14 1 dX1_doAll_13 rfl rfl rfl ?_
  refine r_iconst (v := 1) 15 dX1_doAll_14 rfl rfl ?_
  refine r_putz 18 pf_X1_82 dX1_doAll_15 rfl (fun w15 => ?_)
  refine r_iconst (v := 0) 19 dX1_doAll_18 rfl rfl ?_
  refine r_istore_n (ls2 := [(3, lI 0), (2, lR x1), (0, lR a0), (1, lR a1)]) 20 dX1_doAll_19 rfl (by decide) rfl rfl ?_
  refine r_aload_n 21 3 dX1_doAll_20 rfl rfl rfl ?_
  refine r_gd (fun hc21 => ?_)
  refine r_callV (n := 0) (as := []) (rest := []) 24 15 (sL_iterator hl a1 w15) hc21 rfl (lw_V q1651 q557 q558 q104 q559) (by decide +kernel) (by decide) rfl rfl (cat2_nil (k := 0)) rfl dX1_doAll_21 rfl (fun x21 w21 => ?_)
  refine r_astore (ls2 := [(4, lR x21), (3, lI 0), (2, lR x1), (0, lR a0), (1, lR a1)]) 26 dX1_doAll_24 (by decide) rfl rfl ?_
  exact r_lsP [3, 2, 1, 0] rfl (t_X1_doAll_l26 hl G (fun v0 v2 v3 w => f_X1_doAll_b61 G  v0 v2 v3 w) (fun v0 v2 v3 w => t_X1_doAll_b61 hl G  v0 v2 v3 w) (fun v0 v2 v3 s0 w => f_X1_doAll_b69 G  v0 v2 v3 s0 w) (fun v0 v2 v3 s0 w => t_X1_doAll_b69 hl G  v0 v2 v3 s0 w) G a0 x1 0 x21 w21)
theorem s_X1_doAll {l : Launch} {D : Dn} {H0 : Heap} (hl : l.stackTraces = false) (G : Nat) (a0 : Rf) (a1 : Rf) (w : St) : SimX l D H0 yX1_doAll (wsW_ yX1_doAll cX1_doAll 7 (some (.int)) [(20, 61, 69, 46), (20, 61, 97, 0), (69, 99, 97, 0)]) 39 3198 (ocX rvI) [lR a0, lR a1] w (f_X1_doAll G a0 a1 w) := SimX.ofVH (y := yX1_doAll) (by decide) rfl (t_X1_doAll hl G a0 a1 w)
abbrev V_X16_init (l : Launch) (D : Dn) (H0 : Heap) (w0 : St) (res : Option (Unit × St)) (pc : Nat) (ls : List (Nat × LV)) (st : List Value) (w : St) : Prop := V l D H0 RX16 "<init>" cX16_init 2 none [] 31 3020 (fun x => .inr (rvU x)) w0 res pc ls st w
theorem t_X16_init {l : Launch} {D : Dn} {H0 : Heap} {w0 : St} (hl : l.stackTraces = false) (G : Nat) (a0 : Nat) (a1 : Rf) (w : St) : V_X16_init l D H0 w0 (f_X16_init G a0 a1 w) 0 [(0, lR ((some a0))), (1, lR a1)] [] w := by
  unfold f_X16_init
  refine r_aload_n 1 0 dX16_init_0 rfl rfl rfl ?_
  refine r_objInit 4 q1830 q154 q155 (by decide) (cat2_nil (k := 0)) rfl dX16_init_1 rfl ?_
  refine r_aload_n 5 0 dX16_init_4 rfl rfl rfl ?_
  refine r_nw (C := RJ2) (T := TJ2) (N := 3) (ty := tyJ2) 8 15 rfl rfl in_J2 tyJ2_ok q1831 q163 q104 rfl (by decide) dX16_init_5 rfl (fun b5 w5 => ?_)
  refine r_dup_r 9 dX16_init_8 rfl ?_
  refine r_callI (b := b5) (n := 0) (as := []) (rest := [rf ((some b5)), rf ((some a0))]) 12 (sL_init hl b5 w5) (lw_meth q166) q104 q1832 q165 rfl (by decide +kernel) (by decide) rfl rfl (cat2_r (cat2_r (cat2_nil (k := 0)))) rfl dX16_init_9 rfl (fun _ w9 => ?_)
  refine r_putr 15 pf_X16_12 (Or.inl ⟨_, rfl⟩) dX16_init_12 rfl (fun w12 => ?_)
  refine r_aload_n 16 0 dX16_init_15 rfl rfl rfl ?_
  refine r_aload_n 17 1 dX16_init_16 rfl rfl rfl ?_
  refine r_putr 20 pf_X16_18 (Or.inl ⟨_, rfl⟩) dX16_init_17 rfl (fun w17 => ?_)
  exact r_vret rfl rfl dX16_init_20
theorem s_X16_init {l : Launch} {D : Dn} {H0 : Heap} (hl : l.stackTraces = false) (G : Nat) (a0 : Nat) (a1 : Rf) (w : St) : SimN l D H0 yX16_init (ws_ yX16_init cX16_init 2 none) 31 3020 rvU [lR (some a0), lR a1] w (f_X16_init G a0 a1 w) := SimX.N (SimX.ofV (y := yX16_init) (by decide) rfl (t_X16_init hl G a0 a1 w))
abbrev V_X16_here (l : Launch) (D : Dn) (H0 : Heap) (w0 : St) (res : Option (Int32 × St)) (pc : Nat) (ls : List (Nat × LV)) (st : List Value) (w : St) : Prop := V l D H0 RX16 "here" cX16_here 1 (some (.char)) [] 31 3021 (fun x => .inr (rvI x)) w0 res pc ls st w
theorem t_X16_here {l : Launch} {D : Dn} {H0 : Heap} {w0 : St} (hl : l.stackTraces = false) (G : Nat) (a0 : Rf) (w : St) : V_X16_here l D H0 w0 (f_X16_here G a0 w) 0 [(0, lR a0)] [] w := by
  unfold f_X16_here
  refine r_aload_n 1 0 dX16_here_0 rfl rfl rfl ?_
  refine r_geti 4 gf_X16_22 dX16_here_1 rfl (fun x1 => ?_)
  refine r_aload_n 5 0 dX16_here_4 rfl rfl rfl ?_
  refine r_getr 8 gf_X16_18 dX16_here_5 rfl (fun x5 => ?_)
  refine r_gd (fun hc8 => ?_)
  refine r_callV (n := 0) (as := []) (rest := [.int x1]) 11 19 (sS_length hl x5 w) hc8 rfl (lw_V q1869 q947 q948 q108 q949) (by decide +kernel) (by decide) rfl rfl (cat2_i (cat2_nil (k := 0))) rfl dX16_here_8 rfl (fun x8 w8 => ?_)
  refine r_icmp_ge 28 14 dX16_here_11 (by decide) rfl ?_ ?_
  · refine r_iconst (v := 0) 29 dX16_here_28 rfl rfl ?_
    exact r_zret rfl rfl rfl dX16_here_29
  refine r_aload_n 15 0 dX16_here_14 rfl rfl rfl ?_
  refine r_getr 18 gf_X16_18 dX16_here_15 rfl (fun x15 => ?_)
  refine r_aload_n 19 0 dX16_here_18 rfl rfl rfl ?_
  refine r_geti 22 gf_X16_22 dX16_here_19 rfl (fun x19 => ?_)
  refine r_gd (fun hc22 => ?_)
  refine r_callV (n := 1) (as := [lI x19]) (rest := []) 25 19 (sS_charAt hl x15 x19 w8) hc22 rfl (lw_V q1870 q1871 q1872 q108 q1873) (by decide +kernel) (by decide) rfl rfl (cat2_nil (k := 0)) rfl dX16_here_22 rfl (fun x22 w22 => ?_)
  refine r_goto 29 dX16_here_25 (by decide) ?_
  exact r_cretG rfl rfl dX16_here_29
theorem s_X16_here {l : Launch} {D : Dn} {H0 : Heap} (hl : l.stackTraces = false) (G : Nat) (a0 : Rf) (w : St) : SimN l D H0 yX16_here (ws_ yX16_here cX16_here 1 (some (.char))) 31 3021 rvI [lR a0] w (f_X16_here G a0 w) := SimX.N (SimX.ofV (y := yX16_here) (by decide) rfl (t_X16_here hl G a0 w))
abbrev V_X16_isDigit (l : Launch) (D : Dn) (H0 : Heap) (w0 : St) (res : Option (Int32 × St)) (pc : Nat) (ls : List (Nat × LV)) (st : List Value) (w : St) : Prop := V l D H0 RX16 "isDigit" cX16_isDigit 1 (some (.boolean)) [] 32 3041 (fun x => .inr (rvI x)) w0 res pc ls st w
theorem t_X16_isDigit {l : Launch} {D : Dn} {H0 : Heap} {w0 : St} (hl : l.stackTraces = false) (G : Nat) (a0 : Rf) (w : St) : V_X16_isDigit l D H0 w0 (f_X16_isDigit G a0 w) 0 [(0, lR a0)] [] w := by
  unfold f_X16_isDigit
  refine r_aload_n 1 0 dX16_isDigit_0 rfl rfl rfl ?_
  refine r_gd (fun hc1 => ?_)
  refine r_callV (n := 0) (as := []) (rest := []) 4 13 (s_X16_here hl G a0 w) hc1 rfl (lw_V q1865 q1867 qs29 q144 q1868) (by decide +kernel) (by decide) rfl rfl (cat2_nil (k := 0)) rfl dX16_isDigit_1 rfl (fun x1 w1 => ?_)
  refine r_bipush (v := 48) 6 dX16_isDigit_4 rfl rfl ?_
  refine r_icmp_lt 22 9 dX16_isDigit_6 (by decide) rfl ?_ ?_
  · refine r_iconst (v := 0) 23 dX16_isDigit_22 rfl rfl ?_
    exact r_zret rfl rfl rfl dX16_isDigit_23
  refine r_aload_n 10 0 dX16_isDigit_9 rfl rfl rfl ?_
  refine r_gd (fun hc10 => ?_)
  refine r_callV (n := 0) (as := []) (rest := []) 13 13 (s_X16_here hl G a0 w1) hc10 rfl (lw_V q1865 q1867 qs29 q144 q1868) (by decide +kernel) (by decide) rfl rfl (cat2_nil (k := 0)) rfl dX16_isDigit_10 rfl (fun x10 w10 => ?_)
  refine r_bipush (v := 57) 15 dX16_isDigit_13 rfl rfl ?_
  refine r_icmp_gt 22 18 dX16_isDigit_15 (by decide) rfl ?_ ?_
  · refine r_iconst (v := 0) 23 dX16_isDigit_22 rfl rfl ?_
    exact r_zret rfl rfl rfl dX16_isDigit_23
  refine r_iconst (v := 1) 19 dX16_isDigit_18 rfl rfl ?_
  refine r_goto 23 dX16_isDigit_19 (by decide) ?_
  exact r_zret rfl rfl rfl dX16_isDigit_23
theorem s_X16_isDigit {l : Launch} {D : Dn} {H0 : Heap} (hl : l.stackTraces = false) (G : Nat) (a0 : Rf) (w : St) : SimN l D H0 yX16_isDigit (ws_ yX16_isDigit cX16_isDigit 1 (some (.boolean))) 32 3041 rvI [lR a0] w (f_X16_isDigit G a0 w) := SimX.N (SimX.ofV (y := yX16_isDigit) (by decide) rfl (t_X16_isDigit hl G a0 w))
abbrev V_X16_takes (l : Launch) (D : Dn) (H0 : Heap) (w0 : St) (res : Option (Int32 × St)) (pc : Nat) (ls : List (Nat × LV)) (st : List Value) (w : St) : Prop := V l D H0 RX16 "takes" cX16_takes 2 (some (.boolean)) [] 32 3041 (fun x => .inr (rvI x)) w0 res pc ls st w
theorem t_X16_takes {l : Launch} {D : Dn} {H0 : Heap} {w0 : St} (hl : l.stackTraces = false) (G : Nat) (a0 : Rf) (a1 : Int32) (w : St) : V_X16_takes l D H0 w0 (f_X16_takes G a0 a1 w) 0 [(0, lR a0), (1, lI a1)] [] w := by
  unfold f_X16_takes
  refine r_aload_n 1 0 dX16_takes_0 rfl rfl rfl ?_
  refine r_geti 4 gf_X16_36 dX16_takes_1 rfl (fun x1 => ?_)
  refine r_if_ne 15 7 dX16_takes_4 (by decide) rfl ?_ ?_
  · refine r_iconst (v := 0) 16 dX16_takes_15 rfl rfl ?_
    exact r_zret rfl rfl rfl dX16_takes_16
  refine r_aload_n 8 0 dX16_takes_7 rfl rfl rfl ?_
  refine r_gd (fun hc8 => ?_)
  refine r_callV (n := 0) (as := []) (rest := []) 11 13 (s_X16_here hl G a0 w) hc8 rfl (lw_V q1865 q1867 qs29 q144 q1868) (by decide +kernel) (by decide) rfl rfl (cat2_nil (k := 0)) rfl dX16_takes_8 rfl (fun x8 w8 => ?_)
  refine r_iload_n 12 1 dX16_takes_11 rfl rfl rfl ?_
  refine r_icmp_eq 17 15 dX16_takes_12 (by decide) rfl ?_ ?_
  · refine r_aload_n 18 0 dX16_takes_17 rfl rfl rfl ?_
    refine r_dup_r 19 dX16_takes_18 rfl ?_
    refine r_geti 22 gf_X16_22 dX16_takes_19 rfl (fun x19 => ?_)
    refine r_iconst (v := 1) 23 dX16_takes_22 rfl rfl ?_
    refine r_iadd 24 dX16_takes_23 rfl ?_
    refine r_puti 27 pf_X16_22 dX16_takes_24 rfl (fun w24 => ?_)
    refine r_iconst (v := 1) 28 dX16_takes_27 rfl rfl ?_
    exact r_zret rfl rfl rfl dX16_takes_28
  refine r_iconst (v := 0) 16 dX16_takes_15 rfl rfl ?_
  exact r_zret rfl rfl rfl dX16_takes_16
theorem s_X16_takes {l : Launch} {D : Dn} {H0 : Heap} (hl : l.stackTraces = false) (G : Nat) (a0 : Rf) (a1 : Int32) (w : St) : SimN l D H0 yX16_takes (ws_ yX16_takes cX16_takes 2 (some (.boolean))) 32 3041 rvI [lR a0, lI a1] w (f_X16_takes G a0 a1 w) := SimX.N (SimX.ofV (y := yX16_takes) (by decide) rfl (t_X16_takes hl G a0 a1 w))
abbrev V_X16_wants (l : Launch) (D : Dn) (H0 : Heap) (w0 : St) (res : Option (Unit × St)) (pc : Nat) (ls : List (Nat × LV)) (st : List Value) (w : St) : Prop := V l D H0 RX16 "wants" cX16_wants 3 none [] 33 3062 (fun x => .inr (rvU x)) w0 res pc ls st w
theorem t_X16_wants_b35 {l : Launch} {D : Dn} {H0 : Heap} {w0 : St} (hl : l.stackTraces = false) (G : Nat) (k2 : Rf → Rf → Int32 → St → Option (Unit × St)) (h2 : ∀ v0 v1 v2 w, V_X16_wants l D H0 w0 (k2 v0 v1 v2 w) 2 [(0, lR v0), (1, lR v1), (2, lI v2)] [] w) (v0 : Rf) (v1 : Rf) (v2 : Int32) (s0 : Int32) (s1 : Rf) (w : St) : V_X16_wants l D H0 w0 (f_X16_wants_b35 G k2 v0 v1 v2 s0 s1 w) 35 [(0, lR v0), (1, lR v1), (2, lI v2)] [.int s0, rf s1] w := by
  unfold f_X16_wants_b35
  refine r_putz 38 pf_X16_36 dX16_wants_35 rfl (fun w35 => ?_)
  refine r_iinc (v := v2 + 1) (ls2 := [(2, lI (v2 + 1)), (0, lR v0), (1, lR v1)]) 41 2 dX16_wants_38 rfl rfl (by decide) rfl rfl ?_
  refine r_goto 2 dX16_wants_41 (by decide) ?_
  exact r_lsP [1, 2, 0] rfl (h2 v0 v1 (v2 + 1) w35)
theorem t_X16_wants_l2 {l : Launch} {D : Dn} {H0 : Heap} {w0 : St} (hl : l.stackTraces = false) (G : Nat) (k44 : St → Option (Unit × St)) (h44 : ∀ w, V_X16_wants l D H0 w0 (k44 w) 44 [] [] w) : ∀ (F : Nat) (v0 : Rf) (v1 : Rf) (v2 : Int32) (w : St), V_X16_wants l D H0 w0 (f_X16_wants_l2 G k44 F v0 v1 v2 w) 2 [(0, lR v0), (1, lR v1), (2, lI v2)] [] w := by
  intro F
  induction F with
  | zero => intros; exact r_none
  | succ F ih =>
    intro v0 v1 v2 w
    unfold f_X16_wants_l2
    refine r_iload_n 3 2 dX16_wants_2 rfl rfl rfl ?_
    refine r_aload_n 4 1 dX16_wants_3 rfl rfl rfl ?_
    refine r_gd (fun hc4 => ?_)
    refine r_callV (n := 0) (as := []) (rest := [.int v2]) 7 19 (sS_length hl v1 w) hc4 rfl (lw_V q1869 q947 q948 q108 q949) (by decide +kernel) (by decide) rfl rfl (cat2_i (cat2_nil (k := 0))) rfl dX16_wants_4 rfl (fun x4 w4 => ?_)
    refine r_icmp_ge 44 10 dX16_wants_7 (by decide) rfl ?_ ?_
    · exact r_lsP [] rfl (h44 w4)
    refine r_aload_n 11 0 dX16_wants_10 rfl rfl rfl ?_
    refine r_geti 14 gf_X16_36 dX16_wants_11 rfl (fun x11 => ?_)
    refine r_if_ne 44 17 dX16_wants_14 (by decide) rfl ?_ ?_
    · exact r_lsP [] rfl (h44 w4)
    refine r_aload_n 18 0 dX16_wants_17 rfl rfl rfl ?_
    refine r_aload_n 19 0 dX16_wants_18 rfl rfl rfl ?_
    refine r_aload_n 20 1 dX16_wants_19 rfl rfl rfl ?_
    refine r_iload_n 21 2 dX16_wants_20 rfl rfl rfl ?_
    refine r_gd (fun hc21 => ?_)
    refine r_callV (n := 1) (as := [lI v2]) (rest := [rf v0, rf v0]) 24 19 (sS_charAt hl v1 v2 w4) hc21 rfl (lw_V q1870 q1871 q1872 q108 q1873) (by decide +kernel) (by decide) rfl rfl (cat2_r (cat2_r (cat2_nil (k := 0)))) rfl dX16_wants_21 rfl (fun x21 w21 => ?_)
    refine r_gd (fun hc24 => ?_)
    refine r_callV (n := 1) (as := [lI x21]) (rest := [rf v0]) 27 13 (s_X16_takes hl G v0 x21 w21) hc24 rfl (lw_V q1861 q1863 qs28 q144 q1864) (by decide +kernel) (by decide) rfl rfl (cat2_r (cat2_nil (k := 0))) rfl dX16_wants_24 rfl (fun x24 w24 => ?_)
    refine r_if_ne 34 30 dX16_wants_27 (by decide) rfl ?_ ?_
    · refine r_iconst (v := 0) 35 dX16_wants_34 rfl rfl ?_
      exact r_lsP [0, 1, 2] rfl (t_X16_wants_b35 hl G (fun v0 v1 v2 w => f_X16_wants_l2 G k44 F v0 v1 v2 w) (fun v0 v1 v2 w => ih v0 v1 v2 w)  v0 v1 v2 0 v0 w24)
    refine r_iconst (v := 1) 31 dX16_wants_30 rfl rfl ?_
    refine r_goto 35 dX16_wants_31 (by decide) ?_
    exact r_lsP [0, 1, 2] rfl (t_X16_wants_b35 hl G (fun v0 v1 v2 w => f_X16_wants_l2 G k44 F v0 v1 v2 w) (fun v0 v1 v2 w => ih v0 v1 v2 w)  v0 v1 v2 1 v0 w24)
theorem t_X16_wants_b44 {l : Launch} {D : Dn} {H0 : Heap} {w0 : St} (hl : l.stackTraces = false) (G : Nat) (w : St) : V_X16_wants l D H0 w0 (f_X16_wants_b44 G  w) 44 [] [] w := by
  unfold f_X16_wants_b44
  exact r_vret rfl rfl dX16_wants_44
theorem t_X16_wants {l : Launch} {D : Dn} {H0 : Heap} {w0 : St} (hl : l.stackTraces = false) (G : Nat) (a0 : Rf) (a1 : Rf) (w : St) : V_X16_wants l D H0 w0 (f_X16_wants G a0 a1 w) 0 [(0, lR a0), (1, lR a1)] [] w := by
  unfold f_X16_wants
  refine r_iconst (v := 0) 1 dX16_wants_0 rfl rfl ?_
  refine r_istore_n (ls2 := [(2, lI 0), (0, lR a0), (1, lR a1)]) 2 dX16_wants_1 rfl (by decide) rfl rfl ?_
  exact r_lsP [1, 2, 0] rfl (t_X16_wants_l2 hl G (fun w => f_X16_wants_b44 G  w) (fun w => t_X16_wants_b44 hl G  w) G a0 a1 0 w)
theorem s_X16_wants {l : Launch} {D : Dn} {H0 : Heap} (hl : l.stackTraces = false) (G : Nat) (a0 : Rf) (a1 : Rf) (w : St) : SimN l D H0 yX16_wants (ws_ yX16_wants cX16_wants 3 none) 33 3062 rvU [lR a0, lR a1] w (f_X16_wants G a0 a1 w) := SimX.N (SimX.ofV (y := yX16_wants) (by decide) rfl (t_X16_wants hl G a0 a1 w))
abbrev V_X16_behindBlank (l : Launch) (D : Dn) (H0 : Heap) (w0 : St) (res : Option (Int32 × St)) (pc : Nat) (ls : List (Nat × LV)) (st : List Value) (w : St) : Prop := V l D H0 RX16 "behindBlank" cX16_behindBlank 4 (some (.int)) [] 34 3084 (fun x => .inr (rvI x)) w0 res pc ls st w
theorem t_X16_behindBlank_l31 {l : Launch} {D : Dn} {H0 : Heap} {w0 : St} (hl : l.stackTraces = false) (G : Nat) (k79 : Int32 → St → Option (Int32 × St)) (h79 : ∀ v2 w, V_X16_behindBlank l D H0 w0 (k79 v2 w) 79 [(2, lI v2)] [] w) : ∀ (F : Nat) (v0 : Rf) (v1 : Int32) (v2 : Int32) (v3 : Int32) (w : St), V_X16_behindBlank l D H0 w0 (f_X16_behindBlank_l31 G k79 F v0 v1 v2 v3 w) 31 [(0, lR v0), (1, lI v1), (2, lI v2), (3, lI v3)] [] w := by
  intro F
  induction F with
  | zero => intros; exact r_none
  | succ F ih =>
    intro v0 v1 v2 v3 w
    unfold f_X16_behindBlank_l31
    refine r_iload_n 32 3 dX16_behindBlank_31 rfl rfl rfl ?_
    refine r_iload_n 33 1 dX16_behindBlank_32 rfl rfl rfl ?_
    refine r_icmp_ge 79 36 dX16_behindBlank_33 (by decide) rfl ?_ ?_
    · exact r_lsP [2] rfl (h79 v2 w)
    refine r_aload_n 37 0 dX16_behindBlank_36 rfl rfl rfl ?_
    refine r_gd (fun hc37 => ?_)
    refine r_callV (n := 0) (as := []) (rest := []) 40 13 (s_X16_isDigit hl G v0 w) hc37 rfl (lw_V q2001 q2003 qs33 q144 q2004) (by decide +kernel) (by decide) rfl rfl (cat2_nil (k := 0)) rfl dX16_behindBlank_37 rfl (fun x37 w37 => ?_)
    refine r_if_eq 79 43 dX16_behindBlank_40 (by decide) rfl ?_ ?_
    · exact r_lsP [2] rfl (h79 v2 w37)
    refine r_aload_n 44 0 dX16_behindBlank_43 rfl rfl rfl ?_
    refine r_geti 47 gf_X16_36 dX16_behindBlank_44 rfl (fun x44 => ?_)
    refine r_if_ne 79 50 dX16_behindBlank_47 (by decide) rfl ?_ ?_
    · exact r_lsP [2] rfl (h79 v2 w37)
    refine r_bipush (v := 10) 52 dX16_behindBlank_50 rfl rfl ?_
    refine r_iload_n 53 2 dX16_behindBlank_52 rfl rfl rfl ?_
    refine r_imul 54 dX16_behindBlank_53 rfl ?_
    refine r_aload_n 55 0 dX16_behindBlank_54 rfl rfl rfl ?_
    refine r_gd (fun hc55 => ?_)
    refine r_callV (n := 0) (as := []) (rest := [.int (10 * v2)]) 58 13 (s_X16_here hl G v0 w37) hc55 rfl (lw_V q1865 q1867 qs29 q144 q1868) (by decide +kernel) (by decide) rfl rfl (cat2_i (cat2_nil (k := 0))) rfl dX16_behindBlank_55 rfl (fun x55 w55 => ?_)
    refine r_iadd 59 dX16_behindBlank_58 rfl ?_
    refine r_bipush (v := 48) 61 dX16_behindBlank_59 rfl rfl ?_
    refine r_isub 62 dX16_behindBlank_61 rfl ?_
    refine r_istore_n (ls2 := [(2, lI (((10 * v2) + x55) - 48)), (0, lR v0), (1, lI v1), (3, lI v3)]) 63 dX16_behindBlank_62 rfl (by decide) rfl rfl ?_
    refine r_aload_n 64 1 dX16_behindBlank_63 rfl rfl rfl ?_
    refine r_dup_r 65 dX16_behindBlank_64 rfl ?_
    refine r_geti 68 gf_X16_22 dX16_behindBlank_65 rfl (fun x65 => ?_)
    refine r_iconst (v := 1) 69 dX16_behindBlank_68 rfl rfl ?_
    refine r_iadd 70 dX16_behindBlank_69 rfl ?_
    refine r_puti 73 pf_X16_22 dX16_behindBlank_70 rfl (fun w70 => ?_)
    refine r_iinc (v := v3 + 1) (ls2 := [(3, lI (v3 + 1)), (2, lI (((10 * v2) + x55) - 48)), (0, lR v0), (1, lI v1)]) 76 3 dX16_behindBlank_73 rfl rfl (by decide) rfl rfl ?_
    refine r_goto 31 dX16_behindBlank_76 (by decide) ?_
    exact r_lsP [2, 3, 1, 0] rfl (ih v0 v1 (((10 * v2) + x55) - 48) (v3 + 1) w70)
theorem t_X16_behindBlank_b79 {l : Launch} {D : Dn} {H0 : Heap} {w0 : St} (hl : l.stackTraces = false) (G : Nat) (v2 : Int32) (w : St) : V_X16_behindBlank l D H0 w0 (f_X16_behindBlank_b79 G v2 w) 79 [(2, lI v2)] [] w := by
  unfold f_X16_behindBlank_b79
  refine r_iload_n 80 0 dX16_behindBlank_79 rfl rfl rfl ?_
  exact r_iret rfl rfl dX16_behindBlank_80
theorem t_X16_behindBlank_b23 {l : Launch} {D : Dn} {H0 : Heap} {w0 : St} (hl : l.stackTraces = false) (G : Nat) (v0 : Rf) (v1 : Int32) (s0 : Int32) (s1 : Int32) (s2 : Rf) (w : St) : V_X16_behindBlank l D H0 w0 (f_X16_behindBlank_b23 G v0 v1 s0 s1 s2 w) 23 [(0, lR v0), (1, lI v1)] [.int s0, .int s1, rf s2] w := by
  unfold f_X16_behindBlank_b23
  refine r_ior 24 dX16_behindBlank_23 rfl ?_
  refine r_putz 27 pf_X16_36 dX16_behindBlank_24 rfl (fun w24 => ?_)
  refine r_iconst (v := 0) 28 dX16_behindBlank_27 rfl rfl ?_
  refine r_istore_n (ls2 := [(2, lI 0), (0, lR v0), (1, lI v1)]) 29 dX16_behindBlank_28 rfl (by decide) rfl rfl ?_
  refine r_iconst (v := 0) 30 dX16_behindBlank_29 rfl rfl ?_
  refine r_istore_n (ls2 := [(3, lI 0), (2, lI 0), (0, lR v0), (1, lI v1)]) 31 dX16_behindBlank_30 rfl (by decide) rfl rfl ?_
  exact r_lsP [2, 3, 1, 0] rfl (t_X16_behindBlank_l31 hl G (fun v2 w => f_X16_behindBlank_b79 G  v2 w) (fun v2 w => t_X16_behindBlank_b79 hl G  v2 w) G v0 v1 0 0 w24)
theorem t_X16_behindBlank {l : Launch} {D : Dn} {H0 : Heap} {w0 : St} (hl : l.stackTraces = false) (G : Nat) (a0 : Rf) (a1 : Int32) (w : St) : V_X16_behindBlank l D H0 w0 (f_X16_behindBlank G a0 a1 w) 0 [(0, lR a0), (1, lI a1)] [] w := by
  unfold f_X16_behindBlank
  refine r_aload_n 1 0 dX16_behindBlank_0 rfl rfl rfl ?_
  refine r_ldcS 3 1 rfl dX16_behindBlank_1 rfl ?_
  refine r_gd (fun hc3 => ?_)
  refine r_callV (n := 1) (as := [lR ((some (w.g 10)))]) (rest := []) 6 13 (s_X16_wants hl G a0 ((some (w.g 10))) w) hc3 rfl (lw_V q1917 q1919 qs31 q144 q1920) (by decide +kernel) (by decide) rfl rfl (cat2_nil (k := 0)) rfl dX16_behindBlank_3 rfl (fun _ w3 => ?_)
  refine r_aload_n 7 0 dX16_behindBlank_6 rfl rfl rfl ?_
  refine r_dup_r 8 dX16_behindBlank_7 rfl ?_
  refine r_geti 11 gf_X16_36 dX16_behindBlank_8 rfl (fun x8 => ?_)
  refine r_aload_n 12 0 dX16_behindBlank_11 rfl rfl rfl ?_
  refine r_gd (fun hc12 => ?_)
  refine r_callV (n := 0) (as := []) (rest := [.int x8, rf a0]) 15 13 (s_X16_isDigit hl G a0 w3) hc12 rfl (lw_V q2001 q2003 qs33 q144 q2004) (by decide +kernel) (by decide) rfl rfl (cat2_i (cat2_r (cat2_nil (k := 0)))) rfl dX16_behindBlank_12 rfl (fun x12 w12 => ?_)
  refine r_if_ne 22 18 dX16_behindBlank_15 (by decide) rfl ?_ ?_
  · refine r_iconst (v := 0) 23 dX16_behindBlank_22 rfl rfl ?_
    exact r_lsP [0, 1] rfl (t_X16_behindBlank_b23 hl G  a0 a1 0 x8 a0 w12)
  refine r_iconst (v := 1) 19 dX16_behindBlank_18 rfl rfl ?_
  refine r_goto 23 dX16_behindBlank_19 (by decide) ?_
  exact r_lsP [0, 1] rfl (t_X16_behindBlank_b23 hl G  a0 a1 1 x8 a0 w12)
theorem s_X16_behindBlank {l : Launch} {D : Dn} {H0 : Heap} (hl : l.stackTraces = false) (G : Nat) (a0 : Rf) (a1 : Int32) (w : St) : SimN l D H0 yX16_behindBlank (ws_ yX16_behindBlank cX16_behindBlank 4 (some (.int))) 34 3084 rvI [lR a0, lI a1] w (f_X16_behindBlank G a0 a1 w) := SimX.N (SimX.ofV (y := yX16_behindBlank) (by decide) rfl (t_X16_behindBlank hl G a0 a1 w))
abbrev V_X16_wordWithL (l : Launch) (D : Dn) (H0 : Heap) (w0 : St) (res : Option (Rf × St)) (pc : Nat) (ls : List (Nat × LV)) (st : List Value) (w : St) : Prop := V l D H0 RX16 "wordWithL" cX16_wordWithL 1 (some (.object "java/lang/String")) [] 32 3041 (fun x => .inr (rvR x)) w0 res pc ls st w
theorem t_X16_wordWithL {l : Launch} {D : Dn} {H0 : Heap} {w0 : St} (hl : l.stackTraces = false) (G : Nat) (a0 : Rf) (w : St) : V_X16_wordWithL l D H0 w0 (f_X16_wordWithL G a0 w) 0 [(0, lR a0)] [] w := by
  unfold f_X16_wordWithL
  refine r_aload_n 1 0 dX16_wordWithL_0 rfl rfl rfl ?_
  refine r_gd (fun hc1 => ?_)
  refine r_callV (n := 0) (as := []) (rest := []) 4 13 (s_X16_here hl G a0 w) hc1 rfl (lw_V q1865 q1867 qs29 q144 q1868) (by decide +kernel) (by decide) rfl rfl (cat2_nil (k := 0)) rfl dX16_wordWithL_1 rfl (fun x1 w1 => ?_)
  refine r_if (fun hs => ?_) (fun hs0 => ?_)
  · refine r_lsw (off := 36) 40 dX16_wordWithL_4 (by decide) (by rw [hs]; rfl) (by decide) ?_
    refine r_ldcS 42 4 rfl dX16_wordWithL_40 rfl ?_
    exact r_aret rfl rfl (Or.inl ⟨_, rfl⟩) dX16_wordWithL_42
  refine r_if (fun hs => ?_) (fun hs1 => ?_)
  · refine r_lsw (off := 39) 43 dX16_wordWithL_4 (by decide) (by rw [hs]; rfl) (by decide) ?_
    refine r_ldcS 45 6 rfl dX16_wordWithL_43 rfl ?_
    exact r_aret rfl rfl (Or.inl ⟨_, rfl⟩) dX16_wordWithL_45
  refine r_if (fun hs => ?_) (fun hs2 => ?_)
  · refine r_lsw (off := 42) 46 dX16_wordWithL_4 (by decide) (by rw [hs]; rfl) (by decide) ?_
    refine r_aload_n 47 0 dX16_wordWithL_46 rfl rfl rfl ?_
    refine r_geti 50 gf_X16_22 dX16_wordWithL_47 rfl (fun x47 => ?_)
    refine r_iconst (v := 1) 51 dX16_wordWithL_50 rfl rfl ?_
    refine r_iadd 52 dX16_wordWithL_51 rfl ?_
    refine r_aload_n 53 0 dX16_wordWithL_52 rfl rfl rfl ?_
    refine r_getr 56 gf_X16_18 dX16_wordWithL_53 rfl (fun x53 => ?_)
    refine r_gd (fun hc56 => ?_)
    refine r_callV (n := 0) (as := []) (rest := [.int (x47 + 1)]) 59 19 (sS_length hl x53 w1) hc56 rfl (lw_V q1869 q947 q948 q108 q949) (by decide +kernel) (by decide) rfl rfl (cat2_i (cat2_nil (k := 0))) rfl dX16_wordWithL_56 rfl (fun x56 w56 => ?_)
    refine r_icmp_ge 85 62 dX16_wordWithL_59 (by decide) rfl ?_ ?_
    · refine r_ldcS 87 10 rfl dX16_wordWithL_85 rfl ?_
      exact r_aret rfl rfl (Or.inl ⟨_, rfl⟩) dX16_wordWithL_87
    refine r_aload_n 63 0 dX16_wordWithL_62 rfl rfl rfl ?_
    refine r_getr 66 gf_X16_18 dX16_wordWithL_63 rfl (fun x63 => ?_)
    refine r_aload_n 67 0 dX16_wordWithL_66 rfl rfl rfl ?_
    refine r_geti 70 gf_X16_22 dX16_wordWithL_67 rfl (fun x67 => ?_)
    refine r_iconst (v := 1) 71 dX16_wordWithL_70 rfl rfl ?_
    refine r_iadd 72 dX16_wordWithL_71 rfl ?_
    refine r_gd (fun hc72 => ?_)
    refine r_callV (n := 1) (as := [lI (x67 + 1)]) (rest := []) 75 19 (sS_charAt hl x63 (x67 + 1) w56) hc72 rfl (lw_V q1870 q1871 q1872 q108 q1873) (by decide +kernel) (by decide) rfl rfl (cat2_nil (k := 0)) rfl dX16_wordWithL_72 rfl (fun x72 w72 => ?_)
    refine r_bipush (v := 109) 77 dX16_wordWithL_75 rfl rfl ?_
    refine r_icmp_ne 85 80 dX16_wordWithL_77 (by decide) rfl ?_ ?_
    · refine r_ldcS 87 10 rfl dX16_wordWithL_85 rfl ?_
      exact r_aret rfl rfl (Or.inl ⟨_, rfl⟩) dX16_wordWithL_87
    refine r_ldcS 82 8 rfl dX16_wordWithL_80 rfl ?_
    refine r_goto 87 dX16_wordWithL_82 (by decide) ?_
    exact r_aret rfl rfl (Or.inl ⟨_, rfl⟩) dX16_wordWithL_87
  have hs0 := neI hs0 (z := 97) rfl
  have hs1 := neI hs1 (z := 101) rfl
  have hs2 := neI hs2 (z := 105) rfl
  refine r_lsw (off := 84) 88 dX16_wordWithL_4 (by decide) (lsC hs0 (lsC hs1 (lsC hs2 (rfl)))) (by decide) ?_
  refine r_aload_n 89 0 dX16_wordWithL_88 rfl rfl rfl ?_
  refine r_iconst (v := 1) 90 dX16_wordWithL_89 rfl rfl ?_
  refine r_putz 93 pf_X16_36 dX16_wordWithL_90 rfl (fun w90 => ?_)
  refine r_ldcS 95 3 rfl dX16_wordWithL_93 rfl ?_
  exact r_aret rfl rfl (Or.inl ⟨_, rfl⟩) dX16_wordWithL_95
theorem s_X16_wordWithL {l : Launch} {D : Dn} {H0 : Heap} (hl : l.stackTraces = false) (G : Nat) (a0 : Rf) (w : St) : SimN l D H0 yX16_wordWithL (ws_ yX16_wordWithL cX16_wordWithL 1 (some (.object "java/lang/String"))) 32 3041 rvR [lR a0] w (f_X16_wordWithL G a0 w) := SimX.N (SimX.ofV (y := yX16_wordWithL) (by decide) rfl (t_X16_wordWithL hl G a0 w))
abbrev V_X16_word (l : Launch) (D : Dn) (H0 : Heap) (w0 : St) (res : Option (Rf × St)) (pc : Nat) (ls : List (Nat × LV)) (st : List Value) (w : St) : Prop := V l D H0 RX16 "word" cX16_word 2 (some (.object "java/lang/String")) [] 33 3062 (fun x => .inr (rvR x)) w0 res pc ls st w
theorem t_X16_word {l : Launch} {D : Dn} {H0 : Heap} {w0 : St} (hl : l.stackTraces = false) (G : Nat) (a0 : Rf) (w : St) : V_X16_word l D H0 w0 (f_X16_word G a0 w) 0 [(0, lR a0)] [] w := by
  unfold f_X16_word
  refine r_aload_n 1 0 dX16_word_0 rfl rfl rfl ?_
  refine r_bipush (v := 108) 3 dX16_word_1 rfl rfl ?_
  refine r_gd (fun hc3 => ?_)
  refine r_callV (n := 1) (as := [lI 108]) (rest := []) 6 13 (s_X16_takes hl G a0 108 w) hc3 rfl (lw_V q1861 q1863 qs28 q144 q1864) (by decide +kernel) (by decide) rfl rfl (cat2_nil (k := 0)) rfl dX16_word_3 rfl (fun x3 w3 => ?_)
  refine r_if_eq 37 9 dX16_word_6 (by decide) rfl ?_ ?_
  · refine r_aload_n 38 0 dX16_word_37 rfl rfl rfl ?_
    refine r_gd (fun hc38 => ?_)
    refine r_callV (n := 0) (as := []) (rest := []) 41 13 (s_X16_here hl G a0 w3) hc38 rfl (lw_V q1865 q1867 qs29 q144 q1868) (by decide +kernel) (by decide) rfl rfl (cat2_nil (k := 0)) rfl dX16_word_38 rfl (fun x38 w38 => ?_)
    refine r_if (fun hs => ?_) (fun hs0 => ?_)
    · refine r_lsw (off := 30) 71 dX16_word_41 (by decide) (by rw [hs]; rfl) (by decide) ?_
      refine r_aload_n 72 0 dX16_word_71 rfl rfl rfl ?_
      refine r_geti 75 gf_X16_22 dX16_word_72 rfl (fun x72 => ?_)
      refine r_iconst (v := 1) 76 dX16_word_75 rfl rfl ?_
      refine r_iadd 77 dX16_word_76 rfl ?_
      refine r_aload_n 78 0 dX16_word_77 rfl rfl rfl ?_
      refine r_getr 81 gf_X16_18 dX16_word_78 rfl (fun x78 => ?_)
      refine r_gd (fun hc81 => ?_)
      refine r_callV (n := 0) (as := []) (rest := [.int (x72 + 1)]) 84 19 (sS_length hl x78 w38) hc81 rfl (lw_V q1869 q947 q948 q108 q949) (by decide +kernel) (by decide) rfl rfl (cat2_i (cat2_nil (k := 0))) rfl dX16_word_81 rfl (fun x81 w81 => ?_)
      refine r_icmp_ge 110 87 dX16_word_84 (by decide) rfl ?_ ?_
      · refine r_ldcS 112 15 rfl dX16_word_110 rfl ?_
        exact r_aret rfl rfl (Or.inl ⟨_, rfl⟩) dX16_word_112
      refine r_aload_n 88 0 dX16_word_87 rfl rfl rfl ?_
      refine r_getr 91 gf_X16_18 dX16_word_88 rfl (fun x88 => ?_)
      refine r_aload_n 92 0 dX16_word_91 rfl rfl rfl ?_
      refine r_geti 95 gf_X16_22 dX16_word_92 rfl (fun x92 => ?_)
      refine r_iconst (v := 1) 96 dX16_word_95 rfl rfl ?_
      refine r_iadd 97 dX16_word_96 rfl ?_
      refine r_gd (fun hc97 => ?_)
      refine r_callV (n := 1) (as := [lI (x92 + 1)]) (rest := []) 100 19 (sS_charAt hl x88 (x92 + 1) w81) hc97 rfl (lw_V q1870 q1871 q1872 q108 q1873) (by decide +kernel) (by decide) rfl rfl (cat2_nil (k := 0)) rfl dX16_word_97 rfl (fun x97 w97 => ?_)
      refine r_bipush (v := 111) 102 dX16_word_100 rfl rfl ?_
      refine r_icmp_ne 110 105 dX16_word_102 (by decide) rfl ?_ ?_
      · refine r_ldcS 112 15 rfl dX16_word_110 rfl ?_
        exact r_aret rfl rfl (Or.inl ⟨_, rfl⟩) dX16_word_112
      refine r_ldcS 107 14 rfl dX16_word_105 rfl ?_
      refine r_goto 112 dX16_word_107 (by decide) ?_
      exact r_aret rfl rfl (Or.inl ⟨_, rfl⟩) dX16_word_112
    refine r_if (fun hs => ?_) (fun hs1 => ?_)
    · refine r_lsw (off := 27) 68 dX16_word_41 (by decide) (by rw [hs]; rfl) (by decide) ?_
      refine r_ldcS 70 12 rfl dX16_word_68 rfl ?_
      exact r_aret rfl rfl (Or.inl ⟨_, rfl⟩) dX16_word_70
    have hs0 := neI hs0 (z := 99) rfl
    have hs1 := neI hs1 (z := 116) rfl
    refine r_lsw (off := 72) 113 dX16_word_41 (by decide) (lsC hs0 (lsC hs1 (rfl))) (by decide) ?_
    refine r_aload_n 114 0 dX16_word_113 rfl rfl rfl ?_
    refine r_iconst (v := 1) 115 dX16_word_114 rfl rfl ?_
    refine r_putz 118 pf_X16_36 dX16_word_115 rfl (fun w115 => ?_)
    refine r_ldcS 120 3 rfl dX16_word_118 rfl ?_
    exact r_aret rfl rfl (Or.inl ⟨_, rfl⟩) dX16_word_120
  refine r_aload_n 10 0 dX16_word_9 rfl rfl rfl ?_
  refine r_gd (fun hc10 => ?_)
  refine r_callV (n := 0) (as := []) (rest := []) 13 13 (s_X16_wordWithL hl G a0 w3) hc10 rfl (lw_V q1885 q1887 qs30 q144 q1888) (by decide +kernel) (by decide) rfl rfl (cat2_nil (k := 0)) rfl dX16_word_10 rfl (fun x10 w10 => ?_)
  refine r_astore_n (ls2 := [(1, lR x10), (0, lR a0)]) 14 dX16_word_13 rfl (by decide) rfl rfl ?_
  refine r_aload_n 15 1 dX16_word_14 rfl rfl rfl ?_
  refine r_dup_r 16 dX16_word_15 rfl ?_
  refine r_geti 19 gf_X16_22 dX16_word_16 rfl (fun x16 => ?_)
  refine r_aload_n 20 1 dX16_word_19 rfl rfl rfl ?_
  refine r_geti 23 gf_X16_36 dX16_word_20 rfl (fun x20 => ?_)
  refine r_if_eq 30 26 dX16_word_23 (by decide) rfl ?_ ?_
  · refine r_iconst (v := 1) 31 dX16_word_30 rfl rfl ?_
    refine r_isub 32 dX16_word_31 rfl ?_
    refine r_puti 35 pf_X16_22 dX16_word_32 rfl (fun w32 => ?_)
    refine r_aload_n 36 0 dX16_word_35 rfl rfl rfl ?_
    exact r_aret rfl rfl (Or.inl ⟨_, rfl⟩) dX16_word_36
  refine r_iconst (v := 0) 27 dX16_word_26 rfl rfl ?_
  refine r_goto 31 dX16_word_27 (by decide) ?_
  refine r_isub 32 dX16_word_31 rfl ?_
  refine r_puti 35 pf_X16_22 dX16_word_32 rfl (fun w32 => ?_)
  refine r_aload_n 36 0 dX16_word_35 rfl rfl rfl ?_
  exact r_aret rfl rfl (Or.inl ⟨_, rfl⟩) dX16_word_36
theorem s_X16_word {l : Launch} {D : Dn} {H0 : Heap} (hl : l.stackTraces = false) (G : Nat) (a0 : Rf) (w : St) : SimN l D H0 yX16_word (ws_ yX16_word cX16_word 2 (some (.object "java/lang/String"))) 33 3062 rvR [lR a0] w (f_X16_word G a0 w) := SimX.N (SimX.ofV (y := yX16_word) (by decide) rfl (t_X16_word hl G a0 w))
abbrev V_X17_init (l : Launch) (D : Dn) (H0 : Heap) (w0 : St) (res : Option (Unit × St)) (pc : Nat) (ls : List (Nat × LV)) (st : List Value) (w : St) : Prop := V l D H0 RX17 "<init>" cX17_init 2 none [] 1 20 (fun x => .inr (rvU x)) w0 res pc ls st w
theorem t_X17_init {l : Launch} {D : Dn} {H0 : Heap} {w0 : St} (hl : l.stackTraces = false) (G : Nat) (a0 : Nat) (a1 : Rf) (w : St) : V_X17_init l D H0 w0 (f_X17_init G a0 a1 w) 0 [(0, lR ((some a0))), (1, lR a1)] [] w := by
  unfold f_X17_init
  refine r_aload_n 1 0 dX17_init_0 rfl rfl rfl ?_
  refine r_objInit 4 q1900 q154 q155 (by decide) (cat2_nil (k := 0)) rfl dX17_init_1 rfl ?_
  refine r_aload_n 5 0 dX17_init_4 rfl rfl rfl ?_
  refine r_bipush (v := 6) 7 dX17_init_5 rfl rfl ?_
  refine r_newa (atype := .int) 9 3 rfl rfl rfl q1916 dX17_init_7 rfl (fun w7 => ?_)
  refine r_putr 12 pf_X17_7 (Or.inr ⟨_, rfl⟩) dX17_init_9 rfl (fun w9 => ?_)
  refine r_aload_n 13 0 dX17_init_12 rfl rfl rfl ?_
  refine r_aload_n 14 1 dX17_init_13 rfl rfl rfl ?_
  refine r_putr 17 pf_X17_13 (Or.inl ⟨_, rfl⟩) dX17_init_14 rfl (fun w14 => ?_)
  exact r_vret rfl rfl dX17_init_17
theorem s_X17_init {l : Launch} {D : Dn} {H0 : Heap} (hl : l.stackTraces = false) (G : Nat) (a0 : Nat) (a1 : Rf) (w : St) : SimN l D H0 yX17_init (ws_ yX17_init cX17_init 2 none) 1 20 rvU [lR (some a0), lR a1] w (f_X17_init G a0 a1 w) := SimX.N (SimX.ofV (y := yX17_init) (by decide) rfl (t_X17_init hl G a0 a1 w))
abbrev V_X16_form (l : Launch) (D : Dn) (H0 : Heap) (w0 : St) (res : Option (Rf × St)) (pc : Nat) (ls : List (Nat × LV)) (st : List Value) (w : St) : Prop := V l D H0 RX16 "form" cX16_form 3 (some (.object "java/lang/String")) [] 31 3022 (fun x => .inr (rvR x)) w0 res pc ls st w
theorem t_X16_form_b172 {l : Launch} {D : Dn} {H0 : Heap} {w0 : St} (hl : l.stackTraces = false) (G : Nat) (v2 : Int32) (w : St) : V_X16_form l D H0 w0 (f_X16_form_b172 G v2 w) 172 [(2, lI v2)] [] w := by
  unfold f_X16_form_b172
  refine r_iload_n 173 0 dX16_form_172 rfl rfl rfl ?_
  refine r_if (fun hs => ?_) (fun hs0 => ?_)
  · refine r_tswIn 216 dX16_form_173 (z := 0) (by rw [hs]; rfl) (by decide) (by decide) rfl (by decide) ?_
    refine r_ldcS 218 17 rfl dX16_form_216 rfl ?_
    exact r_aret rfl rfl (Or.inl ⟨_, rfl⟩) dX16_form_218
  refine r_if (fun hs => ?_) (fun hs1 => ?_)
  · refine r_tswIn 219 dX16_form_173 (z := 1) (by rw [hs]; rfl) (by decide) (by decide) rfl (by decide) ?_
    refine r_ldcS 221 18 rfl dX16_form_219 rfl ?_
    exact r_aret rfl rfl (Or.inl ⟨_, rfl⟩) dX16_form_221
  refine r_if (fun hs => ?_) (fun hs2 => ?_)
  · refine r_tswIn 222 dX16_form_173 (z := 2) (by rw [hs]; rfl) (by decide) (by decide) rfl (by decide) ?_
    refine r_ldcS 224 19 rfl dX16_form_222 rfl ?_
    exact r_aret rfl rfl (Or.inl ⟨_, rfl⟩) dX16_form_224
  refine r_if (fun hs => ?_) (fun hs3 => ?_)
  · refine r_tswIn 225 dX16_form_173 (z := 3) (by rw [hs]; rfl) (by decide) (by decide) rfl (by decide) ?_
    refine r_ldcS 227 20 rfl dX16_form_225 rfl ?_
    exact r_aret rfl rfl (Or.inl ⟨_, rfl⟩) dX16_form_227
  refine r_if (fun hs => ?_) (fun hs4 => ?_)
  · refine r_tswIn 228 dX16_form_173 (z := 4) (by rw [hs]; rfl) (by decide) (by decide) rfl (by decide) ?_
    refine r_ldcS 230 21 rfl dX16_form_228 rfl ?_
    exact r_aret rfl rfl (Or.inl ⟨_, rfl⟩) dX16_form_230
  refine r_if (fun hs => ?_) (fun hs5 => ?_)
  · refine r_tswIn 231 dX16_form_173 (z := 5) (by rw [hs]; rfl) (by decide) (by decide) rfl (by decide) ?_
    refine r_ldcS 233 22 rfl dX16_form_231 rfl ?_
    exact r_aret rfl rfl (Or.inl ⟨_, rfl⟩) dX16_form_233
  refine r_if (fun hs => ?_) (fun hs6 => ?_)
  · refine r_tswIn 234 dX16_form_173 (z := 6) (by rw [hs]; rfl) (by decide) (by decide) rfl (by decide) ?_
    refine r_ldcS 236 23 rfl dX16_form_234 rfl ?_
    exact r_aret rfl rfl (Or.inl ⟨_, rfl⟩) dX16_form_236
  have hs0 := neI hs0 (z := 0) rfl
  have hs1 := neI hs1 (z := 1) rfl
  have hs2 := neI hs2 (z := 2) rfl
  have hs3 := neI hs3 (z := 3) rfl
  have hs4 := neI hs4 (z := 4) rfl
  have hs5 := neI hs5 (z := 5) rfl
  have hs6 := neI hs6 (z := 6) rfl
  refine r_tswOut 237 dX16_form_173 (by omega) (by decide) ?_
  refine r_ldcS 239 3 rfl dX16_form_237 rfl ?_
  exact r_aret rfl rfl (Or.inl ⟨_, rfl⟩) dX16_form_239
theorem t_X16_form {l : Launch} {D : Dn} {H0 : Heap} {w0 : St} (hl : l.stackTraces = false) (G : Nat) (a0 : Rf) (w : St) : V_X16_form l D H0 w0 (f_X16_form G a0 w) 0 [(0, lR a0)] [] w := by
  unfold f_X16_form
  refine r_aload_n 1 0 dX16_form_0 rfl rfl rfl ?_
  refine r_astore_n (ls2 := [(1, lR a0), (0, lR a0)]) 2 dX16_form_1 rfl (by decide) rfl rfl ?_
  refine r_iconst (v := (-1)) 3 dX16_form_2 rfl rfl ?_
  refine r_istore_n (ls2 := [(2, lI ((-1))), (1, lR a0), (0, lR a0)]) 4 dX16_form_3 rfl (by decide) rfl rfl ?_
  refine r_aload_n 5 1 dX16_form_4 rfl rfl rfl ?_
  refine r_gd (fun hc5 => ?_)
  refine r_callV (n := 0) (as := []) (rest := []) 8 19 (sS_hashCode hl a0 w) hc5 rfl (lw_V q1924 q1925 q1926 q108 q1927) (by decide +kernel) (by decide) rfl rfl (cat2_nil (k := 0)) rfl dX16_form_5 rfl (fun x5 w5 => ?_)
  refine r_if (fun hs => ?_) (fun hs0 => ?_)
  · refine r_lsw (off := 110) 118 dX16_form_8 (by decide) (by rw [hs]; rfl) (by decide) ?_
    refine r_aload_n 119 1 dX16_form_118 rfl rfl rfl ?_
    refine r_ldcS 121 15 rfl dX16_form_119 rfl ?_
    refine r_gd (fun hc121 => ?_)
    refine r_callV (n := 1) (as := [lR ((some (w5.g 18)))]) (rest := []) 124 19 (sS_equals hl a0 ((some (w5.g 18))) w5) hc121 rfl (lw_V q1981 q1982 q1983 q108 q1984) (by decide +kernel) (by decide) rfl rfl (cat2_nil (k := 0)) rfl dX16_form_121 rfl (fun x121 w121 => ?_)
    refine r_if_eq 172 127 dX16_form_124 (by decide) rfl ?_ ?_
    · exact r_lsP [0] rfl (t_X16_form_b172 hl G  ((-1)) w121)
    refine r_iconst (v := 3) 128 dX16_form_127 rfl rfl ?_
    refine r_istore_n (ls2 := [(2, lI 3), (1, lR a0), (0, lR a0)]) 129 dX16_form_128 rfl (by decide) rfl rfl ?_
    refine r_goto 172 dX16_form_129 (by decide) ?_
    exact r_lsP [0] rfl (t_X16_form_b172 hl G  3 w121)
  refine r_if (fun hs => ?_) (fun hs1 => ?_)
  · refine r_lsw (off := 138) 146 dX16_form_8 (by decide) (by rw [hs]; rfl) (by decide) ?_
    refine r_aload_n 147 1 dX16_form_146 rfl rfl rfl ?_
    refine r_ldcS 149 6 rfl dX16_form_147 rfl ?_
    refine r_gd (fun hc149 => ?_)
    refine r_callV (n := 1) (as := [lR ((some (w5.g 13)))]) (rest := []) 152 19 (sS_equals hl a0 ((some (w5.g 13))) w5) hc149 rfl (lw_V q1981 q1982 q1983 q108 q1984) (by decide +kernel) (by decide) rfl rfl (cat2_nil (k := 0)) rfl dX16_form_149 rfl (fun x149 w149 => ?_)
    refine r_if_eq 172 155 dX16_form_152 (by decide) rfl ?_ ?_
    · exact r_lsP [0] rfl (t_X16_form_b172 hl G  ((-1)) w149)
    refine r_iconst (v := 5) 156 dX16_form_155 rfl rfl ?_
    refine r_istore_n (ls2 := [(2, lI 5), (1, lR a0), (0, lR a0)]) 157 dX16_form_156 rfl (by decide) rfl rfl ?_
    refine r_goto 172 dX16_form_157 (by decide) ?_
    exact r_lsP [0] rfl (t_X16_form_b172 hl G  5 w149)
  refine r_if (fun hs => ?_) (fun hs2 => ?_)
  · refine r_lsw (off := 68) 76 dX16_form_8 (by decide) (by rw [hs]; rfl) (by decide) ?_
    refine r_aload_n 77 1 dX16_form_76 rfl rfl rfl ?_
    refine r_ldcS 79 4 rfl dX16_form_77 rfl ?_
    refine r_gd (fun hc79 => ?_)
    refine r_callV (n := 1) (as := [lR ((some (w5.g 12)))]) (rest := []) 82 19 (sS_equals hl a0 ((some (w5.g 12))) w5) hc79 rfl (lw_V q1981 q1982 q1983 q108 q1984) (by decide +kernel) (by decide) rfl rfl (cat2_nil (k := 0)) rfl dX16_form_79 rfl (fun x79 w79 => ?_)
    refine r_if_eq 172 85 dX16_form_82 (by decide) rfl ?_ ?_
    · exact r_lsP [0] rfl (t_X16_form_b172 hl G  ((-1)) w79)
    refine r_iconst (v := 0) 86 dX16_form_85 rfl rfl ?_
    refine r_istore_n (ls2 := [(2, lI 0), (1, lR a0), (0, lR a0)]) 87 dX16_form_86 rfl (by decide) rfl rfl ?_
    refine r_goto 172 dX16_form_87 (by decide) ?_
    exact r_lsP [0] rfl (t_X16_form_b172 hl G  0 w79)
  refine r_if (fun hs => ?_) (fun hs3 => ?_)
  · refine r_lsw (off := 82) 90 dX16_form_8 (by decide) (by rw [hs]; rfl) (by decide) ?_
    refine r_aload_n 91 1 dX16_form_90 rfl rfl rfl ?_
    refine r_ldcS 93 10 rfl dX16_form_91 rfl ?_
    refine r_gd (fun hc93 => ?_)
    refine r_callV (n := 1) (as := [lR ((some (w5.g 15)))]) (rest := []) 96 19 (sS_equals hl a0 ((some (w5.g 15))) w5) hc93 rfl (lw_V q1981 q1982 q1983 q108 q1984) (by decide +kernel) (by decide) rfl rfl (cat2_nil (k := 0)) rfl dX16_form_93 rfl (fun x93 w93 => ?_)
    refine r_if_eq 172 99 dX16_form_96 (by decide) rfl ?_ ?_
    · exact r_lsP [0] rfl (t_X16_form_b172 hl G  ((-1)) w93)
    refine r_iconst (v := 1) 100 dX16_form_99 rfl rfl ?_
    refine r_istore_n (ls2 := [(2, lI 1), (1, lR a0), (0, lR a0)]) 101 dX16_form_100 rfl (by decide) rfl rfl ?_
    refine r_goto 172 dX16_form_101 (by decide) ?_
    exact r_lsP [0] rfl (t_X16_form_b172 hl G  1 w93)
  refine r_if (fun hs => ?_) (fun hs4 => ?_)
  · refine r_lsw (off := 124) 132 dX16_form_8 (by decide) (by rw [hs]; rfl) (by decide) ?_
    refine r_aload_n 133 1 dX16_form_132 rfl rfl rfl ?_
    refine r_ldcS 135 12 rfl dX16_form_133 rfl ?_
    refine r_gd (fun hc135 => ?_)
    refine r_callV (n := 1) (as := [lR ((some (w5.g 16)))]) (rest := []) 138 19 (sS_equals hl a0 ((some (w5.g 16))) w5) hc135 rfl (lw_V q1981 q1982 q1983 q108 q1984) (by decide +kernel) (by decide) rfl rfl (cat2_nil (k := 0)) rfl dX16_form_135 rfl (fun x135 w135 => ?_)
    refine r_if_eq 172 141 dX16_form_138 (by decide) rfl ?_ ?_
    · exact r_lsP [0] rfl (t_X16_form_b172 hl G  ((-1)) w135)
    refine r_iconst (v := 4) 142 dX16_form_141 rfl rfl ?_
    refine r_istore_n (ls2 := [(2, lI 4), (1, lR a0), (0, lR a0)]) 143 dX16_form_142 rfl (by decide) rfl rfl ?_
    refine r_goto 172 dX16_form_143 (by decide) ?_
    exact r_lsP [0] rfl (t_X16_form_b172 hl G  4 w135)
  refine r_if (fun hs => ?_) (fun hs5 => ?_)
  · refine r_lsw (off := 152) 160 dX16_form_8 (by decide) (by rw [hs]; rfl) (by decide) ?_
    refine r_aload_n 161 1 dX16_form_160 rfl rfl rfl ?_
    refine r_ldcS 163 14 rfl dX16_form_161 rfl ?_
    refine r_gd (fun hc163 => ?_)
    refine r_callV (n := 1) (as := [lR ((some (w5.g 17)))]) (rest := []) 166 19 (sS_equals hl a0 ((some (w5.g 17))) w5) hc163 rfl (lw_V q1981 q1982 q1983 q108 q1984) (by decide +kernel) (by decide) rfl rfl (cat2_nil (k := 0)) rfl dX16_form_163 rfl (fun x163 w163 => ?_)
    refine r_if_eq 172 169 dX16_form_166 (by decide) rfl ?_ ?_
    · exact r_lsP [0] rfl (t_X16_form_b172 hl G  ((-1)) w163)
    refine r_bipush (v := 6) 171 dX16_form_169 rfl rfl ?_
    refine r_istore_n (ls2 := [(2, lI 6), (1, lR a0), (0, lR a0)]) 172 dX16_form_171 rfl (by decide) rfl rfl ?_
    exact r_lsP [0] rfl (t_X16_form_b172 hl G  6 w163)
  refine r_if (fun hs => ?_) (fun hs6 => ?_)
  · refine r_lsw (off := 96) 104 dX16_form_8 (by decide) (by rw [hs]; rfl) (by decide) ?_
    refine r_aload_n 105 1 dX16_form_104 rfl rfl rfl ?_
    refine r_ldcS 107 8 rfl dX16_form_105 rfl ?_
    refine r_gd (fun hc107 => ?_)
    refine r_callV (n := 1) (as := [lR ((some (w5.g 14)))]) (rest := []) 110 19 (sS_equals hl a0 ((some (w5.g 14))) w5) hc107 rfl (lw_V q1981 q1982 q1983 q108 q1984) (by decide +kernel) (by decide) rfl rfl (cat2_nil (k := 0)) rfl dX16_form_107 rfl (fun x107 w107 => ?_)
    refine r_if_eq 172 113 dX16_form_110 (by decide) rfl ?_ ?_
    · exact r_lsP [0] rfl (t_X16_form_b172 hl G  ((-1)) w107)
    refine r_iconst (v := 2) 114 dX16_form_113 rfl rfl ?_
    refine r_istore_n (ls2 := [(2, lI 2), (1, lR a0), (0, lR a0)]) 115 dX16_form_114 rfl (by decide) rfl rfl ?_
    refine r_goto 172 dX16_form_115 (by decide) ?_
    exact r_lsP [0] rfl (t_X16_form_b172 hl G  2 w107)
  have hs0 := neI hs0 (z := 98882) rfl
  have hs1 := neI hs1 (z := 107022) rfl
  have hs2 := neI hs2 (z := 3314342) rfl
  have hs3 := neI hs3 (z := 3321850) rfl
  have hs4 := neI hs4 (z := 3571837) rfl
  have hs5 := neI hs5 (z := 94831770) rfl
  have hs6 := neI hs6 (z := 102976443) rfl
  refine r_lsw (off := 164) 172 dX16_form_8 (by decide) (lsC hs0 (lsC hs1 (lsC hs2 (lsC hs3 (lsC hs4 (lsC hs5 (lsC hs6 (rfl)))))))) (by decide) ?_
  exact r_lsP [0] rfl (t_X16_form_b172 hl G  ((-1)) w5)
theorem s_X16_form {l : Launch} {D : Dn} {H0 : Heap} (hl : l.stackTraces = false) (G : Nat) (a0 : Rf) (w : St) : SimN l D H0 yX16_form (ws_ yX16_form cX16_form 3 (some (.object "java/lang/String"))) 31 3022 rvR [lR a0] w (f_X16_form G a0 w) := SimX.N (SimX.ofV (y := yX16_form) (by decide) rfl (t_X16_form hl G a0 w))
abbrev V_X16_command (l : Launch) (D : Dn) (H0 : Heap) (w0 : St) (res : Option (Unit × St)) (pc : Nat) (ls : List (Nat × LV)) (st : List Value) (w : St) : Prop := V l D H0 RX16 "command" cX16_command 5 none [] 35 3107 (fun x => .inr (rvU x)) w0 res pc ls st w
theorem t_X16_command_b120 {l : Launch} {D : Dn} {H0 : Heap} {w0 : St} (hl : l.stackTraces = false) (G : Nat) (k33 : Rf → Rf → Rf → Int32 → Int32 → St → Option (Unit × St)) (h33 : ∀ v0 v1 v2 v3 v4 w, V_X16_command l D H0 w0 (k33 v0 v1 v2 v3 v4 w) 33 [(0, lR v0), (1, lR v1), (2, lR v2), (3, lI v3), (4, lI v4)] [] w) (v0 : Rf) (v1 : Rf) (v2 : Rf) (v3 : Int32) (v4 : Int32) (w : St) : V_X16_command l D H0 w0 (f_X16_command_b120 G k33 v0 v1 v2 v3 v4 w) 120 [(0, lR v0), (1, lR v1), (2, lR v2), (3, lI v3), (4, lI v4)] [] w := by
  unfold f_X16_command_b120
  refine r_iinc (v := v4 + 1) (ls2 := [(4, lI (v4 + 1)), (0, lR v0), (1, lR v1), (2, lR v2), (3, lI v3)]) 123 4 dX16_command_120 rfl rfl (by decide) rfl rfl ?_
  refine r_goto 33 dX16_command_123 (by decide) ?_
  exact r_lsP [1, 2, 3, 4, 0] rfl (h33 v0 v1 v2 v3 (v4 + 1) w)
theorem t_X16_command_b92 {l : Launch} {D : Dn} {H0 : Heap} {w0 : St} (hl : l.stackTraces = false) (G : Nat) (k33 : Rf → Rf → Rf → Int32 → Int32 → St → Option (Unit × St)) (h33 : ∀ v0 v1 v2 v3 v4 w, V_X16_command l D H0 w0 (k33 v0 v1 v2 v3 v4 w) 33 [(0, lR v0), (1, lR v1), (2, lR v2), (3, lI v3), (4, lI v4)] [] w) (v0 : Rf) (v1 : Rf) (v2 : Rf) (v3 : Int32) (v4 : Int32) (s0 : Int32) (s1 : Rf) (w : St) : V_X16_command l D H0 w0 (f_X16_command_b92 G k33 v0 v1 v2 v3 v4 s0 s1 w) 92 [(0, lR v0), (1, lR v1), (2, lR v2), (3, lI v3), (4, lI v4)] [.int s0, rf s1] w := by
  unfold f_X16_command_b92
  refine r_putz 95 pf_X16_36 dX16_command_92 rfl (fun w92 => ?_)
  refine r_goto 120 dX16_command_95 (by decide) ?_
  exact r_lsP [0, 1, 2, 3, 4] rfl (t_X16_command_b120 hl G k33 h33  v0 v1 v2 v3 v4 w92)
theorem t_X16_command_b91 {l : Launch} {D : Dn} {H0 : Heap} {w0 : St} (hl : l.stackTraces = false) (G : Nat) (k33 : Rf → Rf → Rf → Int32 → Int32 → St → Option (Unit × St)) (h33 : ∀ v0 v1 v2 v3 v4 w, V_X16_command l D H0 w0 (k33 v0 v1 v2 v3 v4 w) 33 [(0, lR v0), (1, lR v1), (2, lR v2), (3, lI v3), (4, lI v4)] [] w) (v0 : Rf) (v1 : Rf) (v2 : Rf) (v3 : Int32) (v4 : Int32) (s0 : Rf) (w : St) : V_X16_command l D H0 w0 (f_X16_command_b91 G k33 v0 v1 v2 v3 v4 s0 w) 91 [(0, lR v0), (1, lR v1), (2, lR v2), (3, lI v3), (4, lI v4)] [rf s0] w := by
  unfold f_X16_command_b91
  refine r_iconst (v := 0) 92 dX16_command_91 rfl rfl ?_
  exact r_lsP [0, 1, 2, 3, 4] rfl (t_X16_command_b92 hl G k33 h33  v0 v1 v2 v3 v4 0 s0 w)
theorem t_X16_command_l33 {l : Launch} {D : Dn} {H0 : Heap} {w0 : St} (hl : l.stackTraces = false) (G : Nat) (k126 : Rf → Rf → St → Option (Unit × St)) (h126 : ∀ v0 v1 w, V_X16_command l D H0 w0 (k126 v0 v1 w) 126 [(0, lR v0), (1, lR v1)] [] w) : ∀ (F : Nat) (v0 : Rf) (v1 : Rf) (v2 : Rf) (v3 : Int32) (v4 : Int32) (w : St), V_X16_command l D H0 w0 (f_X16_command_l33 G k126 F v0 v1 v2 v3 v4 w) 33 [(0, lR v0), (1, lR v1), (2, lR v2), (3, lI v3), (4, lI v4)] [] w := by
  intro F
  induction F with
  | zero => intros; exact r_none
  | succ F ih =>
    intro v0 v1 v2 v3 v4 w
    unfold f_X16_command_l33
    refine r_iload 35 4 dX16_command_33 rfl rfl ?_
    refine r_aload_n 36 2 dX16_command_35 rfl rfl rfl ?_
    refine r_gd (fun hc36 => ?_)
    refine r_callV (n := 0) (as := []) (rest := [.int v4]) 39 19 (sS_length hl v2 w) hc36 rfl (lw_V q1869 q947 q948 q108 q949) (by decide +kernel) (by decide) rfl rfl (cat2_i (cat2_nil (k := 0))) rfl dX16_command_36 rfl (fun x36 w36 => ?_)
    refine r_icmp_ge 126 42 dX16_command_39 (by decide) rfl ?_ ?_
    · exact r_lsP [0, 1] rfl (h126 v0 v1 w36)
    refine r_aload_n 43 0 dX16_command_42 rfl rfl rfl ?_
    refine r_geti 46 gf_X16_36 dX16_command_43 rfl (fun x43 => ?_)
    refine r_if_ne 126 49 dX16_command_46 (by decide) rfl ?_ ?_
    · exact r_lsP [0, 1] rfl (h126 v0 v1 w36)
    refine r_aload_n 50 2 dX16_command_49 rfl rfl rfl ?_
    refine r_iload 52 4 dX16_command_50 rfl rfl ?_
    refine r_gd (fun hc52 => ?_)
    refine r_callV (n := 1) (as := [lI v4]) (rest := []) 55 19 (sS_charAt hl v2 v4 w36) hc52 rfl (lw_V q1870 q1871 q1872 q108 q1873) (by decide +kernel) (by decide) rfl rfl (cat2_nil (k := 0)) rfl dX16_command_52 rfl (fun x52 w52 => ?_)
    refine r_bipush (v := 115) 57 dX16_command_55 rfl rfl ?_
    refine r_icmp_ne 98 60 dX16_command_57 (by decide) rfl ?_ ?_
    · refine r_aload_n 99 1 dX16_command_98 rfl rfl rfl ?_
      refine r_getr 102 gf_X16_115 dX16_command_99 rfl (fun x99 => ?_)
      refine r_iload_n 103 3 dX16_command_102 rfl rfl rfl ?_
      refine r_aload_n 104 0 dX16_command_103 rfl rfl rfl ?_
      refine r_aload_n 105 2 dX16_command_104 rfl rfl rfl ?_
      refine r_iload 107 4 dX16_command_105 rfl rfl ?_
      refine r_gd (fun hc107 => ?_)
      refine r_callV (n := 1) (as := [lI v4]) (rest := [rf v0, .int v3, rf x99]) 110 19 (sS_charAt hl v2 v4 w52) hc107 rfl (lw_V q1870 q1871 q1872 q108 q1873) (by decide +kernel) (by decide) rfl rfl (cat2_r (cat2_i (cat2_r (cat2_nil (k := 0))))) rfl dX16_command_107 rfl (fun x107 w107 => ?_)
      refine r_bipush (v := 48) 112 dX16_command_110 rfl rfl ?_
      refine r_isub 113 dX16_command_112 rfl ?_
      refine r_gd (fun hc113 => ?_)
      refine r_callV (n := 1) (as := [lI (x107 - 48)]) (rest := [.int v3, rf x99]) 116 13 (s_X16_behindBlank hl G v0 (x107 - 48) w107) hc113 rfl (lw_V q1996 q1998 qs32 q144 q1999) (by decide +kernel) (by decide) rfl rfl (cat2_i (cat2_r (cat2_nil (k := 0)))) rfl dX16_command_113 rfl (fun x113 w113 => ?_)
      refine r_iast 117 dX16_command_116 rfl (fun w116 => ?_)
      refine r_iinc (v := v3 + 1) (ls2 := [(3, lI (v3 + 1)), (0, lR v0), (1, lR v1), (2, lR v2), (4, lI v4)]) 120 3 dX16_command_117 rfl rfl (by decide) rfl rfl ?_
      exact r_lsP [1, 2, 3, 0, 4] rfl (t_X16_command_b120 hl G (fun v0 v1 v2 v3 v4 w => f_X16_command_l33 G k126 F v0 v1 v2 v3 v4 w) (fun v0 v1 v2 v3 v4 w => ih v0 v1 v2 v3 v4 w)  v0 v1 v2 (v3 + 1) v4 w116)
    refine r_aload_n 61 1 dX16_command_60 rfl rfl rfl ?_
    refine r_aload_n 62 0 dX16_command_61 rfl rfl rfl ?_
    refine r_bipush (v := 97) 64 dX16_command_62 rfl rfl ?_
    refine r_gd (fun hc64 => ?_)
    refine r_callV (n := 1) (as := [lI 97]) (rest := [rf v1]) 67 13 (s_X16_takes hl G v0 97 w52) hc64 rfl (lw_V q1861 q1863 qs28 q144 q1864) (by decide +kernel) (by decide) rfl rfl (cat2_r (cat2_nil (k := 0))) rfl dX16_command_64 rfl (fun x64 w64 => ?_)
    refine r_putz 70 pf_X16_112 dX16_command_67 rfl (fun w67 => ?_)
    refine r_aload_n 71 0 dX16_command_70 rfl rfl rfl ?_
    refine r_aload_n 72 1 dX16_command_71 rfl rfl rfl ?_
    refine r_geti 75 gf_X16_112 dX16_command_72 rfl (fun x72 => ?_)
    refine r_if_ne 91 78 dX16_command_75 (by decide) rfl ?_ ?_
    · exact r_lsP [0, 1, 2, 3, 4] rfl (t_X16_command_b91 hl G (fun v0 v1 v2 v3 v4 w => f_X16_command_l33 G k126 F v0 v1 v2 v3 v4 w) (fun v0 v1 v2 v3 v4 w => ih v0 v1 v2 v3 v4 w)  v0 v1 v2 v3 v4 v0 w67)
    refine r_aload_n 79 0 dX16_command_78 rfl rfl rfl ?_
    refine r_bipush (v := 100) 81 dX16_command_79 rfl rfl ?_
    refine r_gd (fun hc81 => ?_)
    refine r_callV (n := 1) (as := [lI 100]) (rest := [rf v0]) 84 13 (s_X16_takes hl G v0 100 w67) hc81 rfl (lw_V q1861 q1863 qs28 q144 q1864) (by decide +kernel) (by decide) rfl rfl (cat2_r (cat2_nil (k := 0))) rfl dX16_command_81 rfl (fun x81 w81 => ?_)
    refine r_if_ne 91 87 dX16_command_84 (by decide) rfl ?_ ?_
    · exact r_lsP [0, 1, 2, 3, 4] rfl (t_X16_command_b91 hl G (fun v0 v1 v2 v3 v4 w => f_X16_command_l33 G k126 F v0 v1 v2 v3 v4 w) (fun v0 v1 v2 v3 v4 w => ih v0 v1 v2 v3 v4 w)  v0 v1 v2 v3 v4 v0 w81)
    refine r_iconst (v := 1) 88 dX16_command_87 rfl rfl ?_
    refine r_goto 92 dX16_command_88 (by decide) ?_
    exact r_lsP [0, 1, 2, 3, 4] rfl (t_X16_command_b92 hl G (fun v0 v1 v2 v3 v4 w => f_X16_command_l33 G k126 F v0 v1 v2 v3 v4 w) (fun v0 v1 v2 v3 v4 w => ih v0 v1 v2 v3 v4 w)  v0 v1 v2 v3 v4 1 v0 w81)
theorem t_X16_command_b126 {l : Launch} {D : Dn} {H0 : Heap} {w0 : St} (hl : l.stackTraces = false) (G : Nat) (v0 : Rf) (v1 : Rf) (w : St) : V_X16_command l D H0 w0 (f_X16_command_b126 G v0 v1 w) 126 [(0, lR v0), (1, lR v1)] [] w := by
  unfold f_X16_command_b126
  refine r_aload_n 127 0 dX16_command_126 rfl rfl rfl ?_
  refine r_getr 130 gf_X16_12 dX16_command_127 rfl (fun x127 => ?_)
  refine r_aload_n 131 1 dX16_command_130 rfl rfl rfl ?_
  refine r_gd (fun hc131 => ?_)
  refine r_callV (n := 1) (as := [lR v1]) (rest := []) 134 15 (sL_add hl x127 v1 w) hc131 rfl (lw_V q2005 q422 q423 q104 q424) (by decide +kernel) (by decide) rfl rfl (cat2_nil (k := 0)) rfl dX16_command_131 rfl (fun x131 w131 => ?_)
  refine r_pop_i 135 dX16_command_134 rfl ?_
  exact r_vret rfl rfl dX16_command_135
theorem t_X16_command {l : Launch} {D : Dn} {H0 : Heap} {w0 : St} (hl : l.stackTraces = false) (G : Nat) (a0 : Rf) (w : St) : V_X16_command l D H0 w0 (f_X16_command G a0 w) 0 [(0, lR a0)] [] w := by
  unfold f_X16_command
  refine r_nw (C := RX17) (T := TX17) (N := 3) (ty := tyX17) 3 14 rfl rfl in_X17 tyX17_ok q1855 q1856 q146 rfl (by decide) dX16_command_0 rfl (fun b0 w0 => ?_)
  refine r_dup_r 4 dX16_command_3 rfl ?_
  refine r_aload_n 5 0 dX16_command_4 rfl rfl rfl ?_
  refine r_gd (fun hc5 => ?_)
  refine r_callV (n := 0) (as := []) (rest := [rf ((some b0)), rf ((some b0))]) 8 13 (s_X16_word hl G a0 w0) hc5 rfl (lw_V q1857 q1859 qs27 q144 q1860) (by decide +kernel) (by decide) rfl rfl (cat2_r (cat2_r (cat2_nil (k := 0)))) rfl dX16_command_5 rfl (fun x5 w5 => ?_)
  refine r_callI (b := b0) (n := 1) (as := [lR x5]) (rest := [rf ((some b0))]) 11 (s_X17_init hl G b0 x5 w5) (lw_meth q1899) q146 q1897 q1898 rfl (by decide +kernel) (by decide) rfl rfl (cat2_r (cat2_nil (k := 0))) rfl dX16_command_8 rfl (fun _ w8 => ?_)
  refine r_astore_n (ls2 := [(1, lR ((some b0))), (0, lR a0)]) 12 dX16_command_11 rfl (by decide) rfl rfl ?_
  refine r_aload_n 13 1 dX16_command_12 rfl rfl rfl ?_
  refine r_aload_n 14 0 dX16_command_13 rfl rfl rfl ?_
  refine r_getr 17 gf_X16_106 dX16_command_14 rfl (fun x14 => ?_)
  refine r_gd (fun hc17 => ?_)
  refine r_callV (n := 1) (as := [lR x14]) (rest := []) 20 13 (s_X16_wants hl G a0 x14 w8) hc17 rfl (lw_V q1917 q1919 qs31 q144 q1920) (by decide +kernel) (by decide) rfl rfl (cat2_nil (k := 0)) rfl dX16_command_17 rfl (fun _ w17 => ?_)
  refine r_aload_n 21 0 dX16_command_20 rfl rfl rfl ?_
  refine r_getr 24 gf_X16_106 dX16_command_21 rfl (fun x21 => ?_)
  refine r_callS (n := 1) (as := [lR x21]) (rest := []) 27 (s_X16_form hl G x21 w17) (lw_S q1921 q1922 q144 q1923) (by decide +kernel) (by decide) rfl rfl (cat2_nil (k := 0)) rfl dX16_command_24 rfl (fun x24 w24 => ?_)
  refine r_astore_n (ls2 := [(2, lR x24), (1, lR ((some b0))), (0, lR a0)]) 28 dX16_command_27 rfl (by decide) rfl rfl ?_
  refine r_iconst (v := 0) 29 dX16_command_28 rfl rfl ?_
  refine r_istore_n (ls2 := [(3, lI 0), (2, lR x24), (1, lR ((some b0))), (0, lR a0)]) 30 dX16_command_29 rfl (by decide) rfl rfl ?_
  refine r_iconst (v := 0) 31 dX16_command_30 rfl rfl ?_
  refine r_istore (ls2 := [(4, lI 0), (3, lI 0), (2, lR x24), (1, lR ((some b0))), (0, lR a0)]) 33 dX16_command_31 (by decide) rfl rfl ?_
  exact r_lsP [4, 3, 2, 1, 0] rfl (t_X16_command_l33 hl G (fun v0 v1 w => f_X16_command_b126 G  v0 v1 w) (fun v0 v1 w => t_X16_command_b126 hl G  v0 v1 w) G a0 ((some b0)) x24 0 0 w24)
theorem s_X16_command {l : Launch} {D : Dn} {H0 : Heap} (hl : l.stackTraces = false) (G : Nat) (a0 : Rf) (w : St) : SimN l D H0 yX16_command (ws_ yX16_command cX16_command 5 none) 35 3107 rvU [lR a0] w (f_X16_command G a0 w) := SimX.N (SimX.ofV (y := yX16_command) (by decide) rfl (t_X16_command hl G a0 w))
abbrev V_X16_fault (l : Launch) (D : Dn) (H0 : Heap) (w0 : St) (res : Option (Int32 × St)) (pc : Nat) (ls : List (Nat × LV)) (st : List Value) (w : St) : Prop := V l D H0 RX16 "fault" cX16_fault 1 (some (.int)) [] 36 3131 (fun x => .inr (rvI x)) w0 res pc ls st w
theorem t_X16_fault_l0 {l : Launch} {D : Dn} {H0 : Heap} {w0 : St} (hl : l.stackTraces = false) (G : Nat) (k13 : Rf → St → Option (Int32 × St)) (h13 : ∀ v0 w, V_X16_fault l D H0 w0 (k13 v0 w) 13 [(0, lR v0)] [] w) : ∀ (F : Nat) (v0 : Rf) (w : St), V_X16_fault l D H0 w0 (f_X16_fault_l0 G k13 F v0 w) 0 [(0, lR v0)] [] w := by
  intro F
  induction F with
  | zero => intros; exact r_none
  | succ F ih =>
    intro v0 w
    unfold f_X16_fault_l0
    refine r_aload_n 1 0 dX16_fault_0 rfl rfl rfl ?_
    refine r_gd (fun hc1 => ?_)
    refine r_callV (n := 0) (as := []) (rest := []) 4 13 (s_X16_command hl G v0 w) hc1 rfl (lw_V q1851 q1853 qs26 q144 q1854) (by decide +kernel) (by decide) rfl rfl (cat2_nil (k := 0)) rfl dX16_fault_1 rfl (fun _ w1 => ?_)
    refine r_aload_n 5 0 dX16_fault_4 rfl rfl rfl ?_
    refine r_bipush (v := 59) 7 dX16_fault_5 rfl rfl ?_
    refine r_gd (fun hc7 => ?_)
    refine r_callV (n := 1) (as := [lI 59]) (rest := []) 10 13 (s_X16_takes hl G v0 59 w1) hc7 rfl (lw_V q1861 q1863 qs28 q144 q1864) (by decide +kernel) (by decide) rfl rfl (cat2_nil (k := 0)) rfl dX16_fault_7 rfl (fun x7 w7 => ?_)
    refine r_if_ne 0 13 dX16_fault_10 (by decide) rfl ?_ ?_
    · exact r_lsP [0] rfl (ih v0 w7)
    exact r_lsP [0] rfl (h13 v0 w7)
theorem t_X16_fault_b37 {l : Launch} {D : Dn} {H0 : Heap} {w0 : St} (hl : l.stackTraces = false) (G : Nat) (v0 : Rf) (s0 : Int32) (s1 : Int32) (s2 : Rf) (w : St) : V_X16_fault l D H0 w0 (f_X16_fault_b37 G v0 s0 s1 s2 w) 37 [(0, lR v0)] [.int s0, .int s1, rf s2] w := by
  unfold f_X16_fault_b37
  refine r_ior 38 dX16_fault_37 rfl ?_
  refine r_putz 41 pf_X16_36 dX16_fault_38 rfl (fun w38 => ?_)
  refine r_aload_n 42 0 dX16_fault_41 rfl rfl rfl ?_
  refine r_geti 45 gf_X16_36 dX16_fault_42 rfl (fun x42 => ?_)
  refine r_if_eq 55 48 dX16_fault_45 (by decide) rfl ?_ ?_
  · refine r_iconst (v := (-1)) 56 dX16_fault_55 rfl rfl ?_
    exact r_iret rfl rfl dX16_fault_56
  refine r_aload_n 49 0 dX16_fault_48 rfl rfl rfl ?_
  refine r_geti 52 gf_X16_22 dX16_fault_49 rfl (fun x49 => ?_)
  refine r_goto 56 dX16_fault_52 (by decide) ?_
  exact r_iret rfl rfl dX16_fault_56
theorem t_X16_fault_b13 {l : Launch} {D : Dn} {H0 : Heap} {w0 : St} (hl : l.stackTraces = false) (G : Nat) (v0 : Rf) (w : St) : V_X16_fault l D H0 w0 (f_X16_fault_b13 G v0 w) 13 [(0, lR v0)] [] w := by
  unfold f_X16_fault_b13
  refine r_aload_n 14 0 dX16_fault_13 rfl rfl rfl ?_
  refine r_dup_r 15 dX16_fault_14 rfl ?_
  refine r_geti 18 gf_X16_36 dX16_fault_15 rfl (fun x15 => ?_)
  refine r_aload_n 19 0 dX16_fault_18 rfl rfl rfl ?_
  refine r_geti 22 gf_X16_22 dX16_fault_19 rfl (fun x19 => ?_)
  refine r_aload_n 23 0 dX16_fault_22 rfl rfl rfl ?_
  refine r_getr 26 gf_X16_18 dX16_fault_23 rfl (fun x23 => ?_)
  refine r_gd (fun hc26 => ?_)
  refine r_callV (n := 0) (as := []) (rest := [.int x19, .int x15, rf v0]) 29 19 (sS_length hl x23 w) hc26 rfl (lw_V q1869 q947 q948 q108 q949) (by decide +kernel) (by decide) rfl rfl (cat2_i (cat2_i (cat2_r (cat2_nil (k := 0))))) rfl dX16_fault_26 rfl (fun x26 w26 => ?_)
  refine r_icmp_ge 36 32 dX16_fault_29 (by decide) rfl ?_ ?_
  · refine r_iconst (v := 0) 37 dX16_fault_36 rfl rfl ?_
    exact r_lsP [0] rfl (t_X16_fault_b37 hl G  v0 0 x15 v0 w26)
  refine r_iconst (v := 1) 33 dX16_fault_32 rfl rfl ?_
  refine r_goto 37 dX16_fault_33 (by decide) ?_
  exact r_lsP [0] rfl (t_X16_fault_b37 hl G  v0 1 x15 v0 w26)
theorem t_X16_fault {l : Launch} {D : Dn} {H0 : Heap} {w0 : St} (hl : l.stackTraces = false) (G : Nat) (a0 : Rf) (w : St) : V_X16_fault l D H0 w0 (f_X16_fault G a0 w) 0 [(0, lR a0)] [] w := r_lsP [0] rfl (t_X16_fault_l0 hl G (fun v0 w => f_X16_fault_b13 G  v0 w) (fun v0 w => t_X16_fault_b13 hl G  v0 w) G a0 w)
theorem s_X16_fault {l : Launch} {D : Dn} {H0 : Heap} (hl : l.stackTraces = false) (G : Nat) (a0 : Rf) (w : St) : SimN l D H0 yX16_fault (ws_ yX16_fault cX16_fault 1 (some (.int))) 36 3131 rvI [lR a0] w (f_X16_fault G a0 w) := SimX.N (SimX.ofV (y := yX16_fault) (by decide) rfl (t_X16_fault hl G a0 w))
abbrev V_X1_run (l : Launch) (D : Dn) (H0 : Heap) (w0 : St) (res : Option ((Nat ⊕ Int32) × St)) (pc : Nat) (ls : List (Nat × LV)) (st : List Value) (w : St) : Prop := V l D H0 RX1 "run" cX1_run 2 (some (.int)) [] 40 3224 (ocX rvI) w0 res pc ls st w
theorem t_X1_run_b44 {l : Launch} {D : Dn} {H0 : Heap} {w0 : St} (hl : l.stackTraces = false) (G : Nat) (v0 : Rf) (v1 : Rf) (s0 : Int32) (w : St) : V_X1_run l D H0 w0 (f_X1_run_b44 G v0 v1 s0 w) 44 [(0, lR v0), (1, lR v1)] [.int s0] w := by
  unfold f_X1_run_b44
  rw [bx_bh]
  refine r_callHS (n := 1) (as := [lI s0]) (rest := []) 47 (s_X1_check hl G s0 w) (lw_S q1627 q1628 q100 q1629) (by decide +kernel) (by decide) rfl rfl (cat2_nil (k := 0)) rfl dX1_run_44 rfl (fun q9 w44 => r_pass (fun _ => rfl) rfl) (fun _ w44 => ?_)
  refine r_aload_n 48 0 dX1_run_47 rfl rfl rfl ?_
  refine r_aload_n 49 1 dX1_run_48 rfl rfl rfl ?_
  refine r_getr 52 gf_X1_441 dX1_run_49 rfl (fun x49 => ?_)
  refine r_gd (fun hc52 => ?_)
  rw [bx_bh]
  refine r_callHVX (n := 1) (as := [lR x49]) (rest := []) 55 0 (s_X1_doAll hl G v0 x49 w44) hc52 rfl (lw_VW q2006 q2008 qs34 q100 q2009) (by decide +kernel) (by decide) rfl rfl (cat2_nil (k := 0)) rfl dX1_run_52 rfl (fun q9 w52 => r_pass (fun _ => rfl) rfl) (fun x52 w52 => ?_)
  exact r_iret rfl rfl dX1_run_55
theorem t_X1_run {l : Launch} {D : Dn} {H0 : Heap} {w0 : St} (hl : l.stackTraces = false) (G : Nat) (a0 : Rf) (w : St) : V_X1_run l D H0 w0 (f_X1_run G a0 w) 0 [(0, lR a0)] [] w := by
  unfold f_X1_run
  refine r_nw (C := RX16) (T := TX16) (N := 4) (ty := tyX16) 3 13 rfl rfl in_X16 tyX16_ok q1824 q1825 q144 rfl (by decide) dX1_run_0 rfl (fun b0 w0 => ?_)
  refine r_dup_r 4 dX1_run_3 rfl ?_
  refine r_aload_n 5 0 dX1_run_4 rfl rfl rfl ?_
  refine r_getr 8 gf_X1_26 dX1_run_5 rfl (fun x5 => ?_)
  refine r_gd (fun hc8 => ?_)
  refine r_callV (n := 0) (as := []) (rest := [rf ((some b0)), rf ((some b0))]) 11 18 (sB_toString hl x5 w0) hc8 rfl (lw_V q1826 q1015 q1016 q107 q1017) (by decide +kernel) (by decide) rfl rfl (cat2_r (cat2_r (cat2_nil (k := 0)))) rfl dX1_run_8 rfl (fun x8 w8 => ?_)
  refine r_callI (b := b0) (n := 1) (as := [lR x8]) (rest := [rf ((some b0))]) 14 (s_X16_init hl G b0 x8 w8) (lw_meth q1829) q144 q1827 q1828 rfl (by decide +kernel) (by decide) rfl rfl (cat2_r (cat2_nil (k := 0))) rfl dX1_run_11 rfl (fun _ w11 => ?_)
  refine r_astore_n (ls2 := [(1, lR ((some b0))), (0, lR a0)]) 15 dX1_run_14 rfl (by decide) rfl rfl ?_
  refine r_aload_n 16 1 dX1_run_15 rfl rfl rfl ?_
  refine r_getr 19 gf_X1_26 dX1_run_16 rfl (fun x16 => ?_)
  refine r_iconst (v := 0) 20 dX1_run_19 rfl rfl ?_
  refine r_gd (fun hc20 => ?_)
  refine r_callV (n := 1) (as := [lI 0]) (rest := []) 23 18 (sB_setLength hl x16 0 w11) hc20 rfl (lw_V q869 q870 q871 q107 q872) (by decide +kernel) (by decide) rfl rfl (cat2_nil (k := 0)) rfl dX1_run_20 rfl (fun _ w20 => ?_)
  refine r_aload_n 24 1 dX1_run_23 rfl rfl rfl ?_
  refine r_aload_n 25 0 dX1_run_24 rfl rfl rfl ?_
  refine r_gd (fun hc25 => ?_)
  refine r_callV (n := 0) (as := []) (rest := [rf a0]) 28 13 (s_X16_fault hl G ((some b0)) w20) hc25 rfl (lw_V q1847 q1848 q1849 q144 q1850) (by decide +kernel) (by decide) rfl rfl (cat2_r (cat2_nil (k := 0))) rfl dX1_run_25 rfl (fun x25 w25 => ?_)
  refine r_puti 31 pf_X1_33 dX1_run_28 rfl (fun w28 => ?_)
  refine r_aload_n 32 1 dX1_run_31 rfl rfl rfl ?_
  refine r_geti 35 gf_X1_33 dX1_run_32 rfl (fun x32 => ?_)
  refine r_iconst (v := (-1)) 36 dX1_run_35 rfl rfl ?_
  refine r_icmp_ne 43 39 dX1_run_36 (by decide) rfl ?_ ?_
  · refine r_iconst (v := 0) 44 dX1_run_43 rfl rfl ?_
    exact r_lsP [1, 0] rfl (t_X1_run_b44 hl G  a0 ((some b0)) 0 w28)
  refine r_iconst (v := 1) 40 dX1_run_39 rfl rfl ?_
  refine r_goto 44 dX1_run_40 (by decide) ?_
  exact r_lsP [1, 0] rfl (t_X1_run_b44 hl G  a0 ((some b0)) 1 w28)
theorem s_X1_run {l : Launch} {D : Dn} {H0 : Heap} (hl : l.stackTraces = false) (G : Nat) (a0 : Rf) (w : St) : SimX l D H0 yX1_run (ws_ yX1_run cX1_run 2 (some (.int))) 40 3224 (ocX rvI) [lR a0] w (f_X1_run G a0 w) := SimX.ofV (y := yX1_run) (by decide) rfl (t_X1_run hl G a0 w)
abbrev V_X1_checkElement (l : Launch) (D : Dn) (H0 : Heap) (w0 : St) (res : Option ((Nat ⊕ Unit) × St)) (pc : Nat) (ls : List (Nat × LV)) (st : List Value) (w : St) : Prop := V l D H0 RX1 "checkElement" cX1_checkElement 1 none [] 6 81 (ocX rvU) w0 res pc ls st w
theorem t_X1_checkElement {l : Launch} {D : Dn} {H0 : Heap} {w0 : St} (hl : l.stackTraces = false) (G : Nat) (a0 : Int32) (w : St) : V_X1_checkElement l D H0 w0 (f_X1_checkElement G a0 w) 0 [(0, lI a0)] [] w := by
  unfold f_X1_checkElement
  refine r_iload_n 1 0 dX1_checkElement_0 rfl rfl rfl ?_
  refine r_if_ne 12 4 dX1_checkElement_1 (by decide) rfl ?_ ?_
  · exact r_vret rfl rfl dX1_checkElement_12
  refine r_make 11 21 (names := exNm) hl (by rfl) (by decide) (by decide) exNm_ok q1711 q117 at_21 (by decide) (cat2_nil (k := 0)) dX1_checkElement_4 dX1_checkElement_7 dX1_checkElement_8 rfl ?_
  exact r_athrow (isX_enew rfl (by decide)) dX1_checkElement_11 (r_pass (fun _ => rfl) rfl)
theorem s_X1_checkElement {l : Launch} {D : Dn} {H0 : Heap} (hl : l.stackTraces = false) (G : Nat) (a0 : Int32) (w : St) : SimX l D H0 yX1_checkElement (ws_ yX1_checkElement cX1_checkElement 1 none) 6 81 (ocX rvU) [lI a0] w (f_X1_checkElement G a0 w) := SimX.ofV (y := yX1_checkElement) (by decide) rfl (t_X1_checkElement hl G a0 w)
abbrev V_X1_reason (l : Launch) (D : Dn) (H0 : Heap) (w0 : St) (res : Option ((Nat ⊕ Int32) × St)) (pc : Nat) (ls : List (Nat × LV)) (st : List Value) (w : St) : Prop := V l D H0 RX1 "reason" cX1_reason 4 (some (.int)) [] 7 101 (ocX rvI) w0 res pc ls st w
theorem t_X1_reason_b44 {l : Launch} {D : Dn} {H0 : Heap} {w0 : St} (hl : l.stackTraces = false) (G : Nat) (v2 : Int32) (v3 : Rf) (s0 : Int32) (w : St) : V_X1_reason l D H0 w0 (f_X1_reason_b44 G v2 v3 s0 w) 44 [(2, lI v2), (3, lR v3)] [.int s0] w := by
  unfold f_X1_reason_b44
  rw [bx_bh]
  refine r_callHS (n := 1) (as := [lI s0]) (rest := []) 47 (s_X1_checkElement hl G s0 w) (lw_S q2037 q2038 q100 q2039) (by decide +kernel) (by decide) rfl rfl (cat2_nil (k := 0)) rfl dX1_reason_44 rfl (fun q9 w44 => r_pass (fun _ => rfl) rfl) (fun _ w44 => ?_)
  refine r_aload_n 48 1 dX1_reason_47 rfl rfl rfl ?_
  refine r_ifnonnull 55 51 dX1_reason_48 (by decide) rfl ?_ ?_
  · refine r_iload_n 56 0 dX1_reason_55 rfl rfl rfl ?_
    refine r_if_eq 66 59 dX1_reason_56 (by decide) rfl ?_ ?_
    · refine r_aload_n 67 1 dX1_reason_66 rfl rfl rfl ?_
      refine r_geti 70 gf_X1_456 dX1_reason_67 rfl (fun x67 => ?_)
      exact r_iret rfl rfl dX1_reason_70
    refine r_aload_n 60 1 dX1_reason_59 rfl rfl rfl ?_
    refine r_geti 63 gf_X1_453 dX1_reason_60 rfl (fun x60 => ?_)
    refine r_goto 70 dX1_reason_63 (by decide) ?_
    exact r_iret rfl rfl dX1_reason_70
  refine r_iconst (v := 0) 52 dX1_reason_51 rfl rfl ?_
  refine r_goto 70 dX1_reason_52 (by decide) ?_
  exact r_iret rfl rfl dX1_reason_70
theorem t_X1_reason_b34 {l : Launch} {D : Dn} {H0 : Heap} {w0 : St} (hl : l.stackTraces = false) (G : Nat) (v2 : Int32) (s0 : Rf) (w : St) : V_X1_reason l D H0 w0 (f_X1_reason_b34 G v2 s0 w) 34 [(2, lI v2)] [rf s0] w := by
  unfold f_X1_reason_b34
  refine r_astore_n (ls2 := [(3, lR s0), (2, lI v2)]) 35 dX1_reason_34 rfl (by decide) rfl rfl ?_
  refine r_aload_n 36 0 dX1_reason_35 rfl rfl rfl ?_
  refine r_ifnull 43 39 dX1_reason_36 (by decide) rfl ?_ ?_
  · refine r_iconst (v := 0) 44 dX1_reason_43 rfl rfl ?_
    exact r_lsP [1, 0] rfl (t_X1_reason_b44 hl G  v2 s0 0 w)
  refine r_iconst (v := 1) 40 dX1_reason_39 rfl rfl ?_
  refine r_goto 44 dX1_reason_40 (by decide) ?_
  exact r_lsP [1, 0] rfl (t_X1_reason_b44 hl G  v2 s0 1 w)
theorem t_X1_reason_b20 {l : Launch} {D : Dn} {H0 : Heap} {w0 : St} (hl : l.stackTraces = false) (G : Nat) (v0 : Rf) (v2 : Int32) (w : St) : V_X1_reason l D H0 w0 (f_X1_reason_b20 G v0 v2 w) 20 [(0, lR v0), (2, lI v2)] [] w := by
  unfold f_X1_reason_b20
  refine r_aload_n 21 0 dX1_reason_20 rfl rfl rfl ?_
  refine r_getr 24 gf_X1_42 dX1_reason_21 rfl (fun x21 => ?_)
  refine r_goto 34 dX1_reason_24 (by decide) ?_
  exact r_lsP [1] rfl (t_X1_reason_b34 hl G  v2 x21 w)
theorem t_X1_reason {l : Launch} {D : Dn} {H0 : Heap} {w0 : St} (hl : l.stackTraces = false) (G : Nat) (a0 : Rf) (a1 : Int32) (a2 : Int32) (w : St) : V_X1_reason l D H0 w0 (f_X1_reason G a0 a1 a2 w) 0 [(0, lR a0), (1, lI a1), (2, lI a2)] [] w := by
  unfold f_X1_reason
  refine r_iload_n 1 1 dX1_reason_0 rfl rfl rfl ?_
  refine r_iconst (v := 0) 2 dX1_reason_1 rfl rfl ?_
  refine r_iconst (v := 1) 3 dX1_reason_2 rfl rfl ?_
  refine r_callS (n := 3) (as := [lI a1, lI 0, lI 1]) (rest := []) 6 (s_X1_isBetween hl G a1 0 1 w) (lw_S q1363 q1364 q100 q1365) (by decide +kernel) (by decide) rfl rfl (cat2_nil (k := 0)) rfl dX1_reason_3 rfl (fun x3 w3 => ?_)
  rw [bx_bh]
  refine r_callHS (n := 1) (as := [lI x3]) (rest := []) 9 (s_X1_check hl G x3 w3) (lw_S q1627 q1628 q100 q1629) (by decide +kernel) (by decide) rfl rfl (cat2_nil (k := 0)) rfl dX1_reason_6 rfl (fun q9 w6 => r_pass (fun _ => rfl) rfl) (fun _ w6 => ?_)
  refine r_aload_n 10 0 dX1_reason_9 rfl rfl rfl ?_
  refine r_getr 13 gf_X1_42 dX1_reason_10 rfl (fun x10 => ?_)
  refine r_ifnull 20 16 dX1_reason_13 (by decide) rfl ?_ ?_
  · exact r_lsP [0, 2] rfl (t_X1_reason_b20 hl G  a0 a2 w6)
  refine r_iload_n 17 1 dX1_reason_16 rfl rfl rfl ?_
  refine r_if_ne 27 20 dX1_reason_17 (by decide) rfl ?_ ?_
  · refine r_aload_n 28 0 dX1_reason_27 rfl rfl rfl ?_
    refine r_getr 31 gf_X1_42 dX1_reason_28 rfl (fun x28 => ?_)
    refine r_getr 34 gf_X1_448 dX1_reason_31 rfl (fun x31 => ?_)
    exact r_lsP [2] rfl (t_X1_reason_b34 hl G  a2 x31 w6)
  exact r_lsP [0, 2] rfl (t_X1_reason_b20 hl G  a0 a2 w6)
theorem s_X1_reason {l : Launch} {D : Dn} {H0 : Heap} (hl : l.stackTraces = false) (G : Nat) (a0 : Rf) (a1 : Int32) (a2 : Int32) (w : St) : SimX l D H0 yX1_reason (ws_ yX1_reason cX1_reason 4 (some (.int))) 7 101 (ocX rvI) [lR a0, lI a1, lI a2] w (f_X1_reason G a0 a1 a2 w) := SimX.ofV (y := yX1_reason) (by decide) rfl (t_X1_reason hl G a0 a1 a2 w)
abbrev V_X1_writesEvent (l : Launch) (D : Dn) (H0 : Heap) (w0 : St) (res : Option (Unit × St)) (pc : Nat) (ls : List (Nat × LV)) (st : List Value) (w : St) : Prop := V l D H0 RX1 "writesEvent" cX1_writesEvent 7 none [] 32 3047 (fun x => .inr (rvU x)) w0 res pc ls st w
theorem t_X1_writesEvent {l : Launch} {D : Dn} {H0 : Heap} {w0 : St} (hl : l.stackTraces = false) (G : Nat) (a0 : Rf) (a1 : Rf) (a2 : Int32) (a3 : Int32) (a4 : Rf) (a5 : Rf) (w : St) : V_X1_writesEvent l D H0 w0 (f_X1_writesEvent G a0 a1 a2 a3 a4 a5 w) 0 [(0, lR a0), (1, lR a1), (2, lI a2), (3, lI a3), (4, lR a4), (5, lR a5)] [] w := by
  unfold f_X1_writesEvent
  refine r_aload_n 1 1 dX1_writesEvent_0 rfl rfl rfl ?_
  refine r_iload_n 2 2 dX1_writesEvent_1 rfl rfl rfl ?_
  refine r_iload_n 3 3 dX1_writesEvent_2 rfl rfl rfl ?_
  refine r_aload 5 4 dX1_writesEvent_3 rfl rfl ?_
  refine r_gd (fun hc5 => ?_)
  refine r_callV (n := 3) (as := [lI a2, lI a3, lR a4]) (rest := []) 8 6 (s_X9_event hl G a1 a2 a3 a4 w) hc5 rfl (lw_V q1593 q553 q554 q130 q555) (by decide +kernel) (by decide) rfl rfl (cat2_nil (k := 0)) rfl dX1_writesEvent_5 rfl (fun x5 w5 => ?_)
  refine r_astore (ls2 := [(6, lR x5), (0, lR a0), (1, lR a1), (2, lI a2), (3, lI a3), (4, lR a4), (5, lR a5)]) 10 dX1_writesEvent_8 (by decide) rfl rfl ?_
  refine r_aload 12 0 dX1_writesEvent_10 rfl rfl ?_
  refine r_ifnonnull 16 15 dX1_writesEvent_12 (by decide) rfl ?_ ?_
  · refine r_aload_n 17 1 dX1_writesEvent_16 rfl rfl rfl ?_
    refine r_getr 20 gf_X1_30 dX1_writesEvent_17 rfl (fun x17 => ?_)
    refine r_aload 22 6 dX1_writesEvent_20 rfl rfl ?_
    refine r_gd (fun hc22 => ?_)
    refine r_callV (n := 1) (as := [lR a5]) (rest := []) 25 18 (sB_appendS hl x17 a5 w5) hc22 rfl (lw_V q1158 q885 q886 q107 q887) (by decide +kernel) (by decide) rfl rfl (cat2_nil (k := 0)) rfl dX1_writesEvent_22 rfl (fun x22 w22 => ?_)
    refine r_aload 27 0 dX1_writesEvent_25 rfl rfl ?_
    refine r_geti 30 gf_X1_297 dX1_writesEvent_27 rfl (fun x27 => ?_)
    refine r_gd (fun hc30 => ?_)
    refine r_callV (n := 1) (as := [lI x27]) (rest := []) 33 18 (sB_appendI hl x22 x27 w22) hc30 rfl (lw_V q1159 q990 q991 q107 q992) (by decide +kernel) (by decide) rfl rfl (cat2_nil (k := 0)) rfl dX1_writesEvent_30 rfl (fun x30 w30 => ?_)
    refine r_pop_r 34 dX1_writesEvent_33 rfl ?_
    refine r_aload 36 0 dX1_writesEvent_34 rfl rfl ?_
    refine r_share (st2 := fun x36 => [.int x36]) (pc2 := 39) (fun hk => ?_) (fun x36 w36 => ?_)
    · refine r_dsp (fun c36 hc36 => ?_)
      refine r_dif (fun he => ?_) (fun _ => ?_)
      · subst he
        exact r_callV (n := 0) (as := []) (rest := []) 39 7 (s_X10_late hl G x5 w30) hc36 rfl (lw_V q860 q843 q844 q131 q847) (by decide +kernel) (by decide) rfl rfl (cat2_nil (k := 0)) rfl dX1_writesEvent_36 rfl hk
      refine r_dif (fun he => ?_) (fun _ => ?_)
      · subst he
        exact r_callU (x2 := ⟨"CoachTimetable$Event", "late", "()I"⟩) (owner := "CoachTimetable$Event") (n := 0) (as := []) (rest := []) 39 9 (s_X10_late hl G x5 w30) hc36 rfl (lw_app (l5 q860 q845 q846 q843 q131) (lw_meth q847)) rfl (by decide +kernel) (by decide) rfl rfl (cat2_nil (k := 0)) rfl dX1_writesEvent_36 rfl hk
      exact r_bdn
    refine r_if_le 60 42 dX1_writesEvent_39 (by decide) rfl ?_ ?_
    · exact r_vret rfl rfl dX1_writesEvent_60
    refine r_aload_n 43 1 dX1_writesEvent_42 rfl rfl rfl ?_
    refine r_getr 46 gf_X1_30 dX1_writesEvent_43 rfl (fun x43 => ?_)
    refine r_bipush (v := 43) 48 dX1_writesEvent_46 rfl rfl ?_
    refine r_gd (fun hc48 => ?_)
    refine r_callV (n := 1) (as := [lI 43]) (rest := []) 51 18 (sB_appendC hl x43 43 w36) hc48 rfl (lw_V q1160 q1161 q1162 q107 q1163) (by decide +kernel) (by decide) rfl rfl (cat2_nil (k := 0)) rfl dX1_writesEvent_48 rfl (fun x48 w48 => ?_)
    refine r_aload 53 0 dX1_writesEvent_51 rfl rfl ?_
    refine r_share (st2 := fun x53 => [.int x53, rf x48]) (pc2 := 56) (fun hk => ?_) (fun x53 w53 => ?_)
    · refine r_dsp (fun c53 hc53 => ?_)
      refine r_dif (fun he => ?_) (fun _ => ?_)
      · subst he
        exact r_callV (n := 0) (as := []) (rest := [rf x48]) 56 7 (s_X10_late hl G x5 w48) hc53 rfl (lw_V q860 q843 q844 q131 q847) (by decide +kernel) (by decide) rfl rfl (cat2_r (cat2_nil (k := 0))) rfl dX1_writesEvent_53 rfl hk
      refine r_dif (fun he => ?_) (fun _ => ?_)
      · subst he
        exact r_callU (x2 := ⟨"CoachTimetable$Event", "late", "()I"⟩) (owner := "CoachTimetable$Event") (n := 0) (as := []) (rest := [rf x48]) 56 9 (s_X10_late hl G x5 w48) hc53 rfl (lw_app (l5 q860 q845 q846 q843 q131) (lw_meth q847)) rfl (by decide +kernel) (by decide) rfl rfl (cat2_r (cat2_nil (k := 0))) rfl dX1_writesEvent_53 rfl hk
      exact r_bdn
    refine r_gd (fun hc56 => ?_)
    refine r_callV (n := 1) (as := [lI x53]) (rest := []) 59 18 (sB_appendI hl x48 x53 w53) hc56 rfl (lw_V q1159 q990 q991 q107 q992) (by decide +kernel) (by decide) rfl rfl (cat2_nil (k := 0)) rfl dX1_writesEvent_56 rfl (fun x56 w56 => ?_)
    refine r_pop_r 60 dX1_writesEvent_59 rfl ?_
    exact r_vret rfl rfl dX1_writesEvent_60
  exact r_vret rfl rfl dX1_writesEvent_15
theorem s_X1_writesEvent {l : Launch} {D : Dn} {H0 : Heap} (hl : l.stackTraces = false) (G : Nat) (a0 : Rf) (a1 : Rf) (a2 : Int32) (a3 : Int32) (a4 : Rf) (a5 : Rf) (w : St) : SimN l D H0 yX1_writesEvent (ws_ yX1_writesEvent cX1_writesEvent 7 none) 32 3047 rvU [lR a0, lR a1, lI a2, lI a3, lR a4, lR a5] w (f_X1_writesEvent G a0 a1 a2 a3 a4 a5 w) := SimX.N (SimX.ofV (y := yX1_writesEvent) (by decide) rfl (t_X1_writesEvent hl G a0 a1 a2 a3 a4 a5 w))
abbrev V_X1_tell (l : Launch) (D : Dn) (H0 : Heap) (w0 : St) (res : Option ((Nat ⊕ Int32) × St)) (pc : Nat) (ls : List (Nat × LV)) (st : List Value) (w : St) : Prop := V l D H0 RX1 "tell" cX1_tell 5 (some (.int)) [] 37 3149 (ocX rvI) w0 res pc ls st w
theorem t_X1_tell_b52 {l : Launch} {D : Dn} {H0 : Heap} {w0 : St} (hl : l.stackTraces = false) (G : Nat) (k22 : Rf → Int32 → Rf → Rf → Int32 → St → Option ((Nat ⊕ Int32) × St)) (h22 : ∀ v0 v1 v2 v3 v4 w, V_X1_tell l D H0 w0 (k22 v0 v1 v2 v3 v4 w) 22 [(0, lR v0), (1, lI v1), (2, lR v2), (3, lR v3), (4, lI v4)] [] w) (v0 : Rf) (v1 : Int32) (v2 : Rf) (v3 : Rf) (v4 : Int32) (s0 : Rf) (s1 : Rf) (w : St) : V_X1_tell l D H0 w0 (f_X1_tell_b52 G k22 v0 v1 v2 v3 v4 s0 s1 w) 52 [(0, lR v0), (1, lI v1), (2, lR v2), (3, lR v3), (4, lI v4)] [rf s0, rf s1] w := by
  unfold f_X1_tell_b52
  refine r_gd (fun hc52 => ?_)
  refine r_callV (n := 1) (as := [lR s0]) (rest := []) 55 18 (sB_appendS hl s1 s0 w) hc52 rfl (lw_V q1158 q885 q886 q107 q887) (by decide +kernel) (by decide) rfl rfl (cat2_nil (k := 0)) rfl dX1_tell_52 rfl (fun x52 w52 => ?_)
  refine r_aload_n 56 2 dX1_tell_55 rfl rfl rfl ?_
  refine r_getr 59 gf_X1_131 dX1_tell_56 rfl (fun x56 => ?_)
  refine r_iload 61 4 dX1_tell_59 rfl rfl ?_
  refine r_gd (fun hc61 => ?_)
  refine r_callV (n := 1) (as := [lI v4]) (rest := [rf x52]) 64 15 (sL_get hl x56 v4 w52) hc61 rfl (lw_V q858 q311 q312 q104 q313) (by decide +kernel) (by decide) rfl rfl (cat2_r (cat2_nil (k := 0))) rfl dX1_tell_61 rfl (fun x61 w61 => ?_)
  refine r_cast 67 (CA_cons (c0 := 4) rfl (Or.inl rfl) (CA_nil)) q1465 dX1_tell_64 rfl ?_
  refine r_geti 70 gf_X1_161 dX1_tell_67 rfl (fun x67 => ?_)
  refine r_gd (fun hc70 => ?_)
  refine r_callV (n := 1) (as := [lI x67]) (rest := []) 73 18 (sB_appendI hl x52 x67 w61) hc70 rfl (lw_V q1159 q990 q991 q107 q992) (by decide +kernel) (by decide) rfl rfl (cat2_nil (k := 0)) rfl dX1_tell_70 rfl (fun x70 w70 => ?_)
  refine r_bipush (v := 64) 75 dX1_tell_73 rfl rfl ?_
  refine r_gd (fun hc75 => ?_)
  refine r_callV (n := 1) (as := [lI 64]) (rest := []) 78 18 (sB_appendC hl x70 64 w70) hc75 rfl (lw_V q1160 q1161 q1162 q107 q1163) (by decide +kernel) (by decide) rfl rfl (cat2_nil (k := 0)) rfl dX1_tell_75 rfl (fun x75 w75 => ?_)
  refine r_pop_r 79 dX1_tell_78 rfl ?_
  refine r_aload_n 80 0 dX1_tell_79 rfl rfl rfl ?_
  refine r_aload_n 81 3 dX1_tell_80 rfl rfl rfl ?_
  refine r_iload_n 82 1 dX1_tell_81 rfl rfl rfl ?_
  refine r_iload 84 4 dX1_tell_82 rfl rfl ?_
  refine r_gets (v := rf ((some (w75.g 1)))) 87 0 rfl q1502 dX1_tell_84 rfl ?_
  refine r_ldcSW 90 2 rfl dX1_tell_87 rfl ?_
  refine r_gd (fun hc90 => ?_)
  refine r_callV (n := 5) (as := [lR v3, lI v1, lI v4, lR ((some (w75.g 1))), lR ((some (w75.g 11)))]) (rest := []) 93 0 (s_X1_writesEvent hl G v0 v3 v1 v4 ((some (w75.g 1))) ((some (w75.g 11))) w75) hc90 rfl (lw_V q2047 q2049 qs36 q100 q2050) (by decide +kernel) (by decide) rfl rfl (cat2_nil (k := 0)) rfl dX1_tell_90 rfl (fun _ w90 => ?_)
  refine r_aload_n 94 0 dX1_tell_93 rfl rfl rfl ?_
  refine r_aload_n 95 3 dX1_tell_94 rfl rfl rfl ?_
  refine r_iload_n 96 1 dX1_tell_95 rfl rfl rfl ?_
  refine r_iload 98 4 dX1_tell_96 rfl rfl ?_
  refine r_gets (v := rf ((some (w90.g 2)))) 101 1 rfl q1526 dX1_tell_98 rfl ?_
  refine r_ldcSW 104 24 rfl dX1_tell_101 rfl ?_
  refine r_gd (fun hc104 => ?_)
  refine r_callV (n := 5) (as := [lR v3, lI v1, lI v4, lR ((some (w90.g 2))), lR ((some (w90.g 26)))]) (rest := []) 107 0 (s_X1_writesEvent hl G v0 v3 v1 v4 ((some (w90.g 2))) ((some (w90.g 26))) w90) hc104 rfl (lw_V q2047 q2049 qs36 q100 q2050) (by decide +kernel) (by decide) rfl rfl (cat2_nil (k := 0)) rfl dX1_tell_104 rfl (fun _ w104 => ?_)
  refine r_iinc (v := v4 + 1) (ls2 := [(4, lI (v4 + 1)), (0, lR v0), (1, lI v1), (2, lR v2), (3, lR v3)]) 110 4 dX1_tell_107 rfl rfl (by decide) rfl rfl ?_
  refine r_goto 22 dX1_tell_110 (by decide) ?_
  exact r_lsP [1, 2, 3, 4, 0] rfl (h22 v0 v1 v2 v3 (v4 + 1) w104)
theorem t_X1_tell_l22 {l : Launch} {D : Dn} {H0 : Heap} {w0 : St} (hl : l.stackTraces = false) (G : Nat) (k113 : Rf → St → Option ((Nat ⊕ Int32) × St)) (h113 : ∀ v0 w, V_X1_tell l D H0 w0 (k113 v0 w) 113 [(0, lR v0)] [] w) : ∀ (F : Nat) (v0 : Rf) (v1 : Int32) (v2 : Rf) (v3 : Rf) (v4 : Int32) (w : St), V_X1_tell l D H0 w0 (f_X1_tell_l22 G k113 F v0 v1 v2 v3 v4 w) 22 [(0, lR v0), (1, lI v1), (2, lR v2), (3, lR v3), (4, lI v4)] [] w := by
  intro F
  induction F with
  | zero => intros; exact r_none
  | succ F ih =>
    intro v0 v1 v2 v3 v4 w
    unfold f_X1_tell_l22
    refine r_iload 24 4 dX1_tell_22 rfl rfl ?_
    refine r_aload_n 25 2 dX1_tell_24 rfl rfl rfl ?_
    refine r_getr 28 gf_X1_131 dX1_tell_25 rfl (fun x25 => ?_)
    refine r_gd (fun hc28 => ?_)
    refine r_callV (n := 0) (as := []) (rest := [.int v4]) 31 15 (sL_size hl x25 w) hc28 rfl (lw_V q857 q303 q304 q104 q305) (by decide +kernel) (by decide) rfl rfl (cat2_i (cat2_nil (k := 0))) rfl dX1_tell_28 rfl (fun x28 w28 => ?_)
    refine r_icmp_ge 113 34 dX1_tell_31 (by decide) rfl ?_ ?_
    · exact r_lsP [0] rfl (h113 v0 w28)
    refine r_aload_n 35 0 dX1_tell_34 rfl rfl rfl ?_
    refine r_getr 38 gf_X1_30 dX1_tell_35 rfl (fun x35 => ?_)
    refine r_iload 40 4 dX1_tell_38 rfl rfl ?_
    refine r_if_le 49 43 dX1_tell_40 (by decide) rfl ?_ ?_
    · refine r_ldcSW 52 2 rfl dX1_tell_49 rfl ?_
      exact r_lsP [0, 1, 2, 3, 4] rfl (t_X1_tell_b52 hl G (fun v0 v1 v2 v3 v4 w => f_X1_tell_l22 G k113 F v0 v1 v2 v3 v4 w) (fun v0 v1 v2 v3 v4 w => ih v0 v1 v2 v3 v4 w)  v0 v1 v2 v3 v4 ((some (w28.g 11))) x35 w28)
    refine r_ldcSW 46 0 rfl dX1_tell_43 rfl ?_
    refine r_goto 52 dX1_tell_46 (by decide) ?_
    exact r_lsP [0, 1, 2, 3, 4] rfl (t_X1_tell_b52 hl G (fun v0 v1 v2 v3 v4 w => f_X1_tell_l22 G k113 F v0 v1 v2 v3 v4 w) (fun v0 v1 v2 v3 v4 w => ih v0 v1 v2 v3 v4 w)  v0 v1 v2 v3 v4 ((some (w28.g 10))) x35 w28)
theorem t_X1_tell_b113 {l : Launch} {D : Dn} {H0 : Heap} {w0 : St} (hl : l.stackTraces = false) (G : Nat) (v0 : Rf) (w : St) : V_X1_tell l D H0 w0 (f_X1_tell_b113 G v0 w) 113 [(0, lR v0)] [] w := by
  unfold f_X1_tell_b113
  refine r_aload_n 114 0 dX1_tell_113 rfl rfl rfl ?_
  refine r_getr 117 gf_X1_30 dX1_tell_114 rfl (fun x114 => ?_)
  refine r_gd (fun hc117 => ?_)
  refine r_callV (n := 0) (as := []) (rest := []) 120 18 (sB_length hl x114 w) hc117 rfl (lw_V q1203 q1036 q2706 q107 q1037) (by decide +kernel) (by decide) rfl rfl (cat2_nil (k := 0)) rfl dX1_tell_117 rfl (fun x117 w117 => ?_)
  exact r_iret rfl rfl dX1_tell_120
theorem t_X1_tell {l : Launch} {D : Dn} {H0 : Heap} {w0 : St} (hl : l.stackTraces = false) (G : Nat) (a0 : Rf) (a1 : Int32) (w : St) : V_X1_tell l D H0 w0 (f_X1_tell G a0 a1 w) 0 [(0, lR a0), (1, lI a1)] [] w := by
  unfold f_X1_tell
  refine r_aload_n 1 0 dX1_tell_0 rfl rfl rfl ?_
  refine r_iload_n 2 1 dX1_tell_1 rfl rfl rfl ?_
  refine r_gd (fun hc2 => ?_)
  rw [bx_bh]
  refine r_callHV (n := 1) (as := [lI a1]) (rest := []) 5 0 (s_X1_coach0 hl G a0 a1 w) hc2 rfl (lw_V q1605 q1607 qs18 q100 q1608) (by decide +kernel) (by decide) rfl rfl (cat2_nil (k := 0)) rfl dX1_tell_2 rfl (fun q9 w2 => r_pass (fun _ => rfl) rfl) (fun x2 w2 => ?_)
  refine r_astore_n (ls2 := [(2, lR x2), (0, lR a0), (1, lI a1)]) 6 dX1_tell_5 rfl (by decide) rfl rfl ?_
  refine r_aload_n 7 1 dX1_tell_6 rfl rfl rfl ?_
  refine r_gd (fun hc7 => ?_)
  refine r_callV (n := 0) (as := []) (rest := []) 10 0 (s_X1_net hl G a0 w2) hc7 rfl (lw_V q290 q292 qs0 q100 q293) (by decide +kernel) (by decide) rfl rfl (cat2_nil (k := 0)) rfl dX1_tell_7 rfl (fun x7 w7 => ?_)
  refine r_astore_n (ls2 := [(3, lR x7), (2, lR x2), (0, lR a0), (1, lI a1)]) 11 dX1_tell_10 rfl (by decide) rfl rfl ?_
  refine r_aload_n 12 2 dX1_tell_11 rfl rfl rfl ?_
  refine r_getr 15 gf_X1_30 dX1_tell_12 rfl (fun x12 => ?_)
  refine r_iconst (v := 0) 16 dX1_tell_15 rfl rfl ?_
  refine r_gd (fun hc16 => ?_)
  refine r_callV (n := 1) (as := [lI 0]) (rest := []) 19 18 (sB_setLength hl x12 0 w7) hc16 rfl (lw_V q869 q870 q871 q107 q872) (by decide +kernel) (by decide) rfl rfl (cat2_nil (k := 0)) rfl dX1_tell_16 rfl (fun _ w16 => ?_)
  refine r_iconst (v := 0) 20 dX1_tell_19 rfl rfl ?_
  refine r_istore (ls2 := [(4, lI 0), (3, lR x7), (2, lR x2), (0, lR a0), (1, lI a1)]) 22 dX1_tell_20 (by decide) rfl rfl ?_
  exact r_lsP [3, 4, 2, 1, 0] rfl (t_X1_tell_l22 hl G (fun v0 w => f_X1_tell_b113 G  v0 w) (fun v0 w => t_X1_tell_b113 hl G  v0 w) G a0 a1 x2 x7 0 w16)
theorem s_X1_tell {l : Launch} {D : Dn} {H0 : Heap} (hl : l.stackTraces = false) (G : Nat) (a0 : Rf) (a1 : Int32) (w : St) : SimX l D H0 yX1_tell (ws_ yX1_tell cX1_tell 5 (some (.int))) 37 3149 (ocX rvI) [lR a0, lI a1] w (f_X1_tell G a0 a1 w) := SimX.ofV (y := yX1_tell) (by decide) rfl (t_X1_tell hl G a0 a1 w)
