set_option maxRecDepth 100000
set_option maxHeartbeats 4000000
theorem gf_X3_16 : GF RX3 16 [26] 2 := GF1 (C := RX3) (T := TX3) (N := 34) (ci := 26) rfl in_X3 (by decide) (Or.inl q2171) (Or.inl rfl)
theorem gf_X3_22 : GF RX3 22 [26] 10 := GF1 (C := RX3) (T := TX3) (N := 34) (ci := 26) rfl in_X3 (by decide) (Or.inl q2179) (Or.inl rfl)
theorem gf_X3_26 : GF RX3 26 [26] 11 := GF1 (C := RX3) (T := TX3) (N := 34) (ci := 26) rfl in_X3 (by decide) (Or.inl q2180) (Or.inl rfl)
theorem gf_X3_268 : GF RX3 268 [26] 12 := GF1 (C := RX3) (T := TX3) (N := 34) (ci := 26) rfl in_X3 (by decide) (Or.inl q2181) (Or.inl rfl)
theorem gf_X3_271 : GF RX3 271 [26] 29 := GF1 (C := RX3) (T := TX3) (N := 34) (ci := 26) rfl in_X3 (by decide) (Or.inl q2198) (Or.inl rfl)
theorem gf_X3_274 : GF RX3 274 [26] 30 := GF1 (C := RX3) (T := TX3) (N := 34) (ci := 26) rfl in_X3 (by decide) (Or.inl q2199) (Or.inl rfl)
theorem gf_X3_277 : GF RX3 277 [26] 31 := GF1 (C := RX3) (T := TX3) (N := 34) (ci := 26) rfl in_X3 (by decide) (Or.inl q2200) (Or.inl rfl)
theorem gf_X3_298 : GF RX3 298 [26] 28 := GF1 (C := RX3) (T := TX3) (N := 34) (ci := 26) rfl in_X3 (by decide) (Or.inl q2197) (Or.inl rfl)
theorem gf_X3_319 : GF RX3 319 [26] 9 := GF1 (C := RX3) (T := TX3) (N := 34) (ci := 26) rfl in_X3 (by decide) (Or.inl q2178) (Or.inl rfl)
theorem gf_X3_322 : GF RX3 322 [26] 33 := GF1 (C := RX3) (T := TX3) (N := 34) (ci := 26) rfl in_X3 (by decide) (Or.inl q2202) (Or.inl rfl)
theorem gf_X3_344 : GF RX3 344 [26] 3 := GF1 (C := RX3) (T := TX3) (N := 34) (ci := 26) rfl in_X3 (by decide) (Or.inl q2172) (Or.inl rfl)
theorem gf_X3_50 : GF RX3 50 [26] 23 := GF1 (C := RX3) (T := TX3) (N := 34) (ci := 26) rfl in_X3 (by decide) (Or.inl q2192) (Or.inl rfl)
theorem gf_X3_54 : GF RX3 54 [26] 24 := GF1 (C := RX3) (T := TX3) (N := 34) (ci := 26) rfl in_X3 (by decide) (Or.inl q2193) (Or.inl rfl)
theorem gf_X3_57 : GF RX3 57 [26] 25 := GF1 (C := RX3) (T := TX3) (N := 34) (ci := 26) rfl in_X3 (by decide) (Or.inl q2194) (Or.inl rfl)
theorem gf_X3_60 : GF RX3 60 [26] 26 := GF1 (C := RX3) (T := TX3) (N := 34) (ci := 26) rfl in_X3 (by decide) (Or.inl q2195) (Or.inl rfl)
theorem gf_X3_63 : GF RX3 63 [26] 27 := GF1 (C := RX3) (T := TX3) (N := 34) (ci := 26) rfl in_X3 (by decide) (Or.inl q2196) (Or.inl rfl)
theorem gf_X3_66 : GF RX3 66 [26] 32 := GF1 (C := RX3) (T := TX3) (N := 34) (ci := 26) rfl in_X3 (by decide) (Or.inl q2201) (Or.inl rfl)
theorem gf_X3_72 : GF RX3 72 [26] 6 := GF1 (C := RX3) (T := TX3) (N := 34) (ci := 26) rfl in_X3 (by decide) (Or.inl q2175) (Or.inl rfl)
theorem gf_X3_75 : GF RX3 75 [26] 7 := GF1 (C := RX3) (T := TX3) (N := 34) (ci := 26) rfl in_X3 (by decide) (Or.inl q2176) (Or.inl rfl)
theorem gf_X3_78 : GF RX3 78 [26] 8 := GF1 (C := RX3) (T := TX3) (N := 34) (ci := 26) rfl in_X3 (by decide) (Or.inl q2177) (Or.inl rfl)
theorem pf_X3_22 {nm9 : String} : PF RX3 nm9 22 [26] 10 (.int) := PF1 (C := RX3) (T := TX3) (N := 34) (ci := 26) rfl in_X3 tyX3_ok nmX3 (by decide) rfl (Or.inl rfl) (Or.inl q2179) (Or.inl rfl)
theorem pf_X3_268 {nm9 : String} : PF RX3 nm9 268 [26] 12 (.int) := PF1 (C := RX3) (T := TX3) (N := 34) (ci := 26) rfl in_X3 tyX3_ok nmX3 (by decide) rfl (Or.inl rfl) (Or.inl q2181) (Or.inl rfl)
theorem pf_X3_271 {nm9 : String} : PF RX3 nm9 271 [26] 29 (.int) := PF1 (C := RX3) (T := TX3) (N := 34) (ci := 26) rfl in_X3 tyX3_ok nmX3 (by decide) rfl (Or.inl rfl) (Or.inl q2198) (Or.inl rfl)
theorem pf_X3_274 {nm9 : String} : PF RX3 nm9 274 [26] 30 (.int) := PF1 (C := RX3) (T := TX3) (N := 34) (ci := 26) rfl in_X3 tyX3_ok nmX3 (by decide) rfl (Or.inl rfl) (Or.inl q2199) (Or.inl rfl)
theorem pf_X3_277 {nm9 : String} : PF RX3 nm9 277 [26] 31 (.boolean) := PF1 (C := RX3) (T := TX3) (N := 34) (ci := 26) rfl in_X3 tyX3_ok nmX3 (by decide) rfl (Or.inl rfl) (Or.inl q2200) (Or.inl rfl)
theorem pf_X3_298 {nm9 : String} : PF RX3 nm9 298 [26] 28 (.int) := PF1 (C := RX3) (T := TX3) (N := 34) (ci := 26) rfl in_X3 tyX3_ok nmX3 (by decide) rfl (Or.inl rfl) (Or.inl q2197) (Or.inl rfl)
theorem pf_X3_319 {nm9 : String} : PF RX3 nm9 319 [26] 9 (.int) := PF1 (C := RX3) (T := TX3) (N := 34) (ci := 26) rfl in_X3 tyX3_ok nmX3 (by decide) rfl (Or.inl rfl) (Or.inl q2178) (Or.inl rfl)
theorem pf_X3_322 {nm9 : String} : PF RX3 nm9 322 [26] 33 (.int) := PF1 (C := RX3) (T := TX3) (N := 34) (ci := 26) rfl in_X3 tyX3_ok nmX3 (by decide) rfl (Or.inl rfl) (Or.inl q2202) (Or.inl rfl)
theorem pf_X3_344 {nm9 : String} : PF RX3 nm9 344 [26] 3 (.boolean) := PF1 (C := RX3) (T := TX3) (N := 34) (ci := 26) rfl in_X3 tyX3_ok nmX3 (by decide) rfl (Or.inl rfl) (Or.inl q2172) (Or.inl rfl)
noncomputable def f_X3_isTold_b61 (G : Nat) (k15 : Rf → Int32 → Int32 → St → Option (Int32 × St)) (v0 : Rf) (v2 : Int32) (s0 : Int32) (w : St) : Option (Int32 × St) :=
  k15 v0 s0 (v2 + 1) w
noncomputable def f_X3_isTold_b56 (G : Nat) (k15 : Rf → Int32 → Int32 → St → Option (Int32 × St)) (v0 : Rf) (v2 : Int32) (w : St) : Option (Int32 × St) :=
  f_X3_isTold_b61 G k15  v0 v2 1 w
noncomputable def f_X3_isTold_b60 (G : Nat) (k15 : Rf → Int32 → Int32 → St → Option (Int32 × St)) (v0 : Rf) (v2 : Int32) (w : St) : Option (Int32 × St) :=
  f_X3_isTold_b61 G k15  v0 v2 0 w
noncomputable def f_X3_isTold_l15 (G : Nat) (k68 : Int32 → St → Option (Int32 × St)) : Nat → Rf → Int32 → Int32 → St → Option (Int32 × St)
  | 0, _, _, _, _ => none
  | F + 1, v0, v1, v2, w =>
  bo (getr [26] v0 22 w) fun x17 =>
  bo (alen x17 w) fun x20 =>
  if x20 ≤ v2 then (k68 v1 w) else
  (if v1 = 0 then (f_X3_isTold_b60 G (fun v0 v1 v2 w => f_X3_isTold_l15 G k68 F v0 v1 v2 w)  v0 v2 w) else
  (gd (cls v0 w = some 26) <|
  bd (f_X3_hasEvent G v0 v2 w) fun x30 w30 =>
  if x30 = 0 then (f_X3_isTold_b56 G (fun v0 v1 v2 w => f_X3_isTold_l15 G k68 F v0 v1 v2 w)  v0 v2 w30) else
  (gd (cls v0 w30 = some 26) <|
  bd (f_X3_lateOf G v0 (v2 / 12) ((v2 / 2) - (v2 / 2) / 6 * 6) (v2 - v2 / 2 * 2) w30) fun x50 w50 =>
  if x50 < 0 then (f_X3_isTold_b60 G (fun v0 v1 v2 w => f_X3_isTold_l15 G k68 F v0 v1 v2 w)  v0 v2 w50) else
  (f_X3_isTold_b56 G (fun v0 v1 v2 w => f_X3_isTold_l15 G k68 F v0 v1 v2 w)  v0 v2 w50))))
noncomputable def f_X3_isTold_b68 (G : Nat) (v1 : Int32) (w : St) : Option (Int32 × St) :=
  gd (v1 = 0 ∨ v1 = 1) (some (v1, w))
noncomputable def f_X3_isTold (G : Nat) (a0 : Rf) (w : St) : Option (Int32 × St) :=
  bo (puti [26] a0 13 0 w) fun w2 =>
  gd (cls a0 w2 = some 26) <|
  bd (f_X3_laysMinutes G a0 ((-1)) ((-1)) w2) fun _ w8 =>
  f_X3_isTold_l15 G (fun v1 w => f_X3_isTold_b68 G  v1 w) G a0 1 0 w8
noncomputable def f_X3_append (G : Nat) (a0 : Rf) (a1 : Int32) (w : St) : Option (Int32 × St) :=
  bo (puti [26] a0 13 0 w) fun w2 =>
  bd (f_X3_in G a1.toInt64 32 126 w2) fun x13 w13 =>
  if x13 = 0 then (gd (cls a0 w13 = some 26) <|
  bd (f_X3_throwing G a0 1 w13) fun x21 w21 =>
  some (x21, w21)) else
  (bo (geti [26] a0 12 w13) fun x26 =>
  if x26 = 60 then (gd (cls a0 w13 = some 26) <|
  bd (f_X3_throwing G a0 2 w13) fun x36 w36 =>
  some (x36, w36)) else
  (bo (getr [26] a0 11 w13) fun x41 =>
  bo (geti [26] a0 12 w13) fun x45 =>
  bo (iast x41 x45 a1 w13) fun w49 =>
  bo (geti [26] a0 12 w49) fun x52 =>
  bo (puti [26] a0 12 (x52 + 1) w49) fun w57 =>
  bo (geti [26] a0 12 w57) fun x61 =>
  some (x61, w57)))
noncomputable def f_X3_here (G : Nat) (a0 : Rf) (w : St) : Option (Int32 × St) :=
  bo (geti [26] a0 29 w) fun x1 =>
  bo (geti [26] a0 30 w) fun x5 =>
  if x5 ≤ x1 then (some (((-1)), w)) else
  (bo (getr [26] a0 11 w) fun x12 =>
  bo (geti [26] a0 29 w) fun x16 =>
  bo (iald x12 x16 w) fun x19 =>
  some (x19, w))
noncomputable def f_X3_expects_b21 (G : Nat) (v0 : Rf) (s0 : Int32) (s1 : Rf) (w : St) : Option (Unit × St) :=
  bo (putz [26] s1 31 s0 w) fun w21 =>
  bo (geti [26] v0 29 w21) fun x26 =>
  bo (geti [26] v0 31 w21) fun x30 =>
  if x30 = 0 then (bo (puti [26] v0 29 (x26 + 1) w21) fun w42 =>
  some ((()), w42)) else
  (bo (puti [26] v0 29 (x26 + 0) w21) fun w42 =>
  some ((()), w42))
noncomputable def f_X3_expects_b16 (G : Nat) (v0 : Rf) (s0 : Rf) (w : St) : Option (Unit × St) :=
  f_X3_expects_b21 G  v0 1 s0 w
noncomputable def f_X3_expects (G : Nat) (a0 : Rf) (a1 : Int32) (w : St) : Option (Unit × St) :=
  bo (geti [26] a0 31 w) fun x2 =>
  if x2 = 0 then (gd (cls a0 w = some 26) <|
  bd (f_X3_here G a0 w) fun x9 w9 =>
  if x9 = a1 then (f_X3_expects_b21 G  a0 0 a0 w9) else
  (f_X3_expects_b16 G  a0 a0 w9)) else
  (f_X3_expects_b16 G  a0 a0 w)
noncomputable def f_X3_likeness_l18 (G : Nat) (k69 : Int32 → St → Option (Int32 × St)) : Nat → Rf → Int32 → Int32 → Int32 → St → Option (Int32 × St)
  | 0, _, _, _, _, _ => none
  | F + 1, v0, v1, v2, v3, w =>
  if v3 ≤ v2 then (k69 v2 w) else
  (bo (geti [26] v0 29 w) fun x24 =>
  bo (geti [26] v0 30 w) fun x30 =>
  if x30 ≤ (x24 + v2) then (k69 v2 w) else
  (bo (getr [26] v0 11 w) fun x37 =>
  bo (geti [26] v0 29 w) fun x41 =>
  bo (iald x37 (x41 + v2) w) fun x46 =>
  bo (getr [26] v0 23 w) fun x48 =>
  bo (getr [26] v0 24 w) fun x52 =>
  bo (iald x52 v1 w) fun x56 =>
  bo (cald x48 (x56 + v2) w) fun x59 =>
  if x46 = x59 then (f_X3_likeness_l18 G k69 F v0 v1 (v2 + 1) v3 w) else
  (k69 v2 w)))
noncomputable def f_X3_likeness_b69 (G : Nat) (v2 : Int32) (w : St) : Option (Int32 × St) :=
  some (v2, w)
noncomputable def f_X3_likeness (G : Nat) (a0 : Rf) (a1 : Int32) (w : St) : Option (Int32 × St) :=
  bo (getr [26] a0 24 w) fun x3 =>
  bo (iald x3 (a1 + 1) w) fun x9 =>
  bo (getr [26] a0 24 w) fun x11 =>
  bo (iald x11 a1 w) fun x15 =>
  f_X3_likeness_l18 G (fun v2 w => f_X3_likeness_b69 G  v2 w) G a0 a1 0 (x9 - x15) w
noncomputable def f_X3_digit_b51 (G : Nat) (v0 : Rf) (s0 : Int32) (w : St) : Option (Int32 × St) :=
  bo (geti [26] v0 29 w) fun x54 =>
  bo (geti [26] v0 31 w) fun x58 =>
  if x58 = 0 then (bo (puti [26] v0 29 (x54 + 1) w) fun w70 =>
  some (s0, w70)) else
  (bo (puti [26] v0 29 (x54 + 0) w) fun w70 =>
  some (s0, w70))
noncomputable def f_X3_digit_b30 (G : Nat) (v0 : Rf) (s0 : Int32) (s1 : Rf) (w : St) : Option (Int32 × St) :=
  bo (putz [26] s1 31 s0 w) fun w30 =>
  bo (geti [26] v0 31 w30) fun x34 =>
  if x34 = 0 then (gd (cls v0 w30 = some 26) <|
  bd (f_X3_here G v0 w30) fun x45 w45 =>
  f_X3_digit_b51 G  v0 (x45 - 48) w45) else
  (f_X3_digit_b51 G  v0 0 w30)
noncomputable def f_X3_digit_b25 (G : Nat) (v0 : Rf) (s0 : Rf) (w : St) : Option (Int32 × St) :=
  f_X3_digit_b30 G  v0 1 s0 w
noncomputable def f_X3_digit (G : Nat) (a0 : Rf) (w : St) : Option (Int32 × St) :=
  bo (geti [26] a0 31 w) fun x2 =>
  if x2 = 0 then (gd (cls a0 w = some 26) <|
  bd (f_X3_here G a0 w) fun x9 w9 =>
  bd (f_X3_in G x9.toInt64 48 57 w9) fun x19 w19 =>
  if x19 = 0 then (f_X3_digit_b25 G  a0 a0 w19) else
  (f_X3_digit_b30 G  a0 0 a0 w19)) else
  (f_X3_digit_b25 G  a0 a0 w)
noncomputable def f_X3_digitBehind (G : Nat) (a0 : Rf) (w : St) : Option (Int32 × St) :=
  gd (cls a0 w = some 26) <|
  bd (f_X3_expects G a0 32 w) fun _ w3 =>
  gd (cls a0 w3 = some 26) <|
  bd (f_X3_digit G a0 w3) fun x7 w7 =>
  some (x7, w7)
noncomputable def f_X3_numberBehind_l7 (G : Nat) (k52 : Int32 → St → Option (Int32 × St)) : Nat → Rf → Int32 → Int32 → St → Option (Int32 × St)
  | 0, _, _, _, _ => none
  | F + 1, v0, v1, v2, w =>
  if 3 ≤ v2 then (k52 v1 w) else
  (bo (geti [26] v0 31 w) fun x13 =>
  if x13 = 0 then (gd (cls v0 w = some 26) <|
  bd (f_X3_here G v0 w) fun x20 w20 =>
  bd (f_X3_in G x20.toInt64 48 57 w20) fun x30 w30 =>
  if x30 = 0 then (k52 v1 w30) else
  (gd (cls v0 w30 = some 26) <|
  bd (f_X3_digit G v0 w30) fun x41 w41 =>
  f_X3_numberBehind_l7 G k52 F v0 ((10 * v1) + x41) (v2 + 1) w41)) else
  (k52 v1 w))
noncomputable def f_X3_numberBehind_b52 (G : Nat) (v1 : Int32) (w : St) : Option (Int32 × St) :=
  some (v1, w)
noncomputable def f_X3_numberBehind (G : Nat) (a0 : Rf) (w : St) : Option (Int32 × St) :=
  gd (cls a0 w = some 26) <|
  bd (f_X3_digitBehind G a0 w) fun x1 w1 =>
  f_X3_numberBehind_l7 G (fun v1 w => f_X3_numberBehind_b52 G  v1 w) G a0 x1 1 w1
noncomputable def f_X3_sortHere_b55 (G : Nat) (v0 : Rf) (s0 : Int32) (w : St) : Option (Int32 × St) :=
  bo (geti [26] v0 29 w) fun x58 =>
  bo (geti [26] v0 31 w) fun x62 =>
  if x62 = 0 then (bo (puti [26] v0 29 (x58 + 1) w) fun w74 =>
  some (s0, w74)) else
  (bo (puti [26] v0 29 (x58 + 0) w) fun w74 =>
  some (s0, w74))
noncomputable def f_X3_sortHere_b54 (G : Nat) (v0 : Rf) (w : St) : Option (Int32 × St) :=
  f_X3_sortHere_b55 G  v0 0 w
noncomputable def f_X3_sortHere_b31 (G : Nat) (v0 : Rf) (s0 : Int32) (s1 : Rf) (w : St) : Option (Int32 × St) :=
  bo (putz [26] s1 31 s0 w) fun w31 =>
  bo (geti [26] v0 31 w31) fun x35 =>
  if x35 = 0 then (gd (cls v0 w31 = some 26) <|
  bd (f_X3_here G v0 w31) fun x42 w42 =>
  if x42 = 100 then (f_X3_sortHere_b55 G  v0 1 w42) else
  (f_X3_sortHere_b54 G  v0 w42)) else
  (f_X3_sortHere_b54 G  v0 w31)
noncomputable def f_X3_sortHere_b26 (G : Nat) (v0 : Rf) (s0 : Rf) (w : St) : Option (Int32 × St) :=
  f_X3_sortHere_b31 G  v0 1 s0 w
noncomputable def f_X3_sortHere_b30 (G : Nat) (v0 : Rf) (s0 : Rf) (w : St) : Option (Int32 × St) :=
  f_X3_sortHere_b31 G  v0 0 s0 w
noncomputable def f_X3_sortHere (G : Nat) (a0 : Rf) (w : St) : Option (Int32 × St) :=
  bo (geti [26] a0 31 w) fun x2 =>
  if x2 = 0 then (gd (cls a0 w = some 26) <|
  bd (f_X3_here G a0 w) fun x9 w9 =>
  if x9 = 97 then (f_X3_sortHere_b30 G  a0 a0 w9) else
  (gd (cls a0 w9 = some 26) <|
  bd (f_X3_here G a0 w9) fun x18 w18 =>
  if x18 = 100 then (f_X3_sortHere_b30 G  a0 a0 w18) else
  (f_X3_sortHere_b26 G  a0 a0 w18))) else
  (f_X3_sortHere_b26 G  a0 a0 w)
noncomputable def f_X3_readOrder_b36 (G : Nat) (k12 : Rf → Int32 → Int32 → Int32 → St → Option (Unit × St)) (v0 : Rf) (v1 : Int32) (v3 : Int32) (s0 : Int32) (w : St) : Option (Unit × St) :=
  k12 v0 v1 s0 (v3 + 1) w
noncomputable def f_X3_readOrder_l12 (G : Nat) (k43 : Rf → Int32 → Int32 → St → Option (Unit × St)) : Nat → Rf → Int32 → Int32 → Int32 → St → Option (Unit × St)
  | 0, _, _, _, _, _ => none
  | F + 1, v0, v1, v2, v3, w =>
  if 7 ≤ v3 then (k43 v0 v1 v2 w) else
  (gd (cls v0 w = some 26) <|
  bd (f_X3_likeness G v0 v3 w) fun x20 w20 =>
  gd (cls v0 w20 = some 26) <|
  bd (f_X3_likeness G v0 v2 w20) fun x25 w25 =>
  if x20 ≤ x25 then (f_X3_readOrder_b36 G (fun v0 v1 v2 v3 w => f_X3_readOrder_l12 G k43 F v0 v1 v2 v3 w)  v0 v1 v3 v2 w25) else
  (f_X3_readOrder_b36 G (fun v0 v1 v2 v3 w => f_X3_readOrder_l12 G k43 F v0 v1 v2 v3 w)  v0 v1 v3 v3 w25))
noncomputable def f_X3_readOrder_l115 (G : Nat) (k147 : Rf → Int32 → Int32 → St → Option (Unit × St)) : Nat → Rf → Int32 → Int32 → Int32 → St → Option (Unit × St)
  | 0, _, _, _, _, _ => none
  | F + 1, v0, v1, v2, v4, w =>
  bo (getr [26] v0 25 w) fun x118 =>
  bo (iald x118 v2 w) fun x122 =>
  if x122 ≤ v4 then (k147 v0 v1 v2 w) else
  (bo (getr [26] v0 27 w) fun x127 =>
  gd (cls v0 w = some 26) <|
  bd (f_X3_digitBehind G v0 w) fun x137 w137 =>
  bo (iast x127 ((v1 + 1) + v4) x137 w137) fun w140 =>
  f_X3_readOrder_l115 G k147 F v0 v1 v2 (v4 + 1) w140)
noncomputable def f_X3_readOrder_l171 (G : Nat) (k210 : St → Option (Unit × St)) : Nat → Rf → Int32 → Int32 → Int32 → St → Option (Unit × St)
  | 0, _, _, _, _, _ => none
  | F + 1, v0, v1, v2, v4, w =>
  bo (getr [26] v0 26 w) fun x174 =>
  bo (iald x174 v2 w) fun x178 =>
  if x178 ≤ v4 then (k210 w) else
  (bo (getr [26] v0 27 w) fun x183 =>
  bo (getr [26] v0 25 w) fun x190 =>
  bo (iald x190 v2 w) fun x194 =>
  gd (cls v0 w = some 26) <|
  bd (f_X3_numberBehind G v0 w) fun x200 w200 =>
  bo (iast x183 (((v1 + 1) + x194) + v4) x200 w200) fun w203 =>
  f_X3_readOrder_l171 G k210 F v0 v1 v2 (v4 + 1) w203)
noncomputable def f_X3_readOrder_b210 (G : Nat) (w : St) : Option (Unit × St) :=
  some ((()), w)
noncomputable def f_X3_readOrder_b167 (G : Nat) (v0 : Rf) (v1 : Int32) (v2 : Int32) (s0 : Int32) (s1 : Int32) (s2 : Rf) (w : St) : Option (Unit × St) :=
  bo (iast s2 s1 s0 w) fun w167 =>
  f_X3_readOrder_l171 G (fun w => f_X3_readOrder_b210 G  w) G v0 v1 v2 0 w167
noncomputable def f_X3_readOrder_b147 (G : Nat) (v0 : Rf) (v1 : Int32) (v2 : Int32) (w : St) : Option (Unit × St) :=
  bo (getr [26] v0 27 w) fun x148 =>
  if v2 = 0 then (gd (cls v0 w = some 26) <|
  bd (f_X3_sortHere G v0 w) fun x160 w160 =>
  f_X3_readOrder_b167 G  v0 v1 v2 x160 (v1 + 7) x148 w160) else
  (f_X3_readOrder_b167 G  v0 v1 v2 0 (v1 + 7) x148 w)
noncomputable def f_X3_readOrder_b84 (G : Nat) (v0 : Rf) (v1 : Int32) (v2 : Int32) (s0 : Int32) (s1 : Rf) (w : St) : Option (Unit × St) :=
  bo (putz [26] s1 31 s0 w) fun w84 =>
  bo (geti [26] v0 31 w84) fun x88 =>
  if x88 = 0 then (bo (getr [26] v0 27 w84) fun x96 =>
  bo (iast x96 v1 v2 w84) fun w101 =>
  bo (geti [26] v0 28 w101) fun x104 =>
  bo (puti [26] v0 28 (x104 + 1) w101) fun w109 =>
  f_X3_readOrder_l115 G (fun v0 v1 v2 w => f_X3_readOrder_b147 G  v0 v1 v2 w) G v0 v1 v2 0 w109) else
  (some ((()), w84))
noncomputable def f_X3_readOrder_b43 (G : Nat) (v0 : Rf) (v1 : Int32) (v2 : Int32) (w : St) : Option (Unit × St) :=
  gd (cls v0 w = some 26) <|
  bd (f_X3_likeness G v0 v2 w) fun x45 w45 =>
  bo (geti [26] v0 29 w45) fun x51 =>
  bo (puti [26] v0 29 (x51 + x45) w45) fun w56 =>
  bo (getr [26] v0 24 w56) fun x62 =>
  bo (iald x62 (v2 + 1) w56) fun x68 =>
  bo (getr [26] v0 24 w56) fun x70 =>
  bo (iald x70 v2 w56) fun x74 =>
  if (x68 - x74) ≤ x45 then (f_X3_readOrder_b84 G  v0 v1 v2 0 v0 w56) else
  (f_X3_readOrder_b84 G  v0 v1 v2 1 v0 w56)
noncomputable def f_X3_readOrder (G : Nat) (a0 : Rf) (w : St) : Option (Unit × St) :=
  bo (geti [26] a0 28 w) fun x3 =>
  f_X3_readOrder_l12 G (fun v0 v1 v2 w => f_X3_readOrder_b43 G  v0 v1 v2 w) G a0 (8 * x3) 0 1 w
noncomputable def f_X3_does_l94 (G : Nat) (k125 : Rf → St → Option (Unit × St)) : Nat → Rf → Int32 → Int32 → St → Option (Unit × St)
  | 0, _, _, _, _ => none
  | F + 1, v0, v1, v4, w =>
  if 6 ≤ v4 then (k125 v0 w) else
  (bo (getr [26] v0 17 w) fun x102 =>
  bo (getr [26] v0 27 w) fun x108 =>
  bo (iald x108 ((v1 + 1) + v4) w) fun x117 =>
  bo (iast x102 v4 x117 w) fun w118 =>
  f_X3_does_l94 G k125 F v0 v1 (v4 + 1) w118)
noncomputable def f_X3_does_b125 (G : Nat) (v0 : Rf) (w : St) : Option (Unit × St) :=
  gd (cls v0 w = some 26) <|
  bd (f_X3_linkIt G v0 w) fun x126 w126 =>
  some ((()), w126)
noncomputable def f_X3_does_l165 (G : Nat) (k195 : Rf → Int32 → St → Option (Unit × St)) : Nat → Rf → Int32 → Int32 → Int32 → St → Option (Unit × St)
  | 0, _, _, _, _, _ => none
  | F + 1, v0, v1, v2, v4, w =>
  if 5 ≤ v4 then (k195 v0 v2 w) else
  (bo (getr [26] v0 14 w) fun x172 =>
  bo (getr [26] v0 27 w) fun x178 =>
  bo (iald x178 ((v1 + 2) + v4) w) fun x187 =>
  bo (iast x172 v4 x187 w) fun w188 =>
  f_X3_does_l165 G k195 F v0 v1 v2 (v4 + 1) w188)
noncomputable def f_X3_does_b195 (G : Nat) (v0 : Rf) (v2 : Int32) (w : St) : Option (Unit × St) :=
  gd (cls v0 w = some 26) <|
  bd (f_X3_legIt G v0 v2 w) fun x197 w197 =>
  some ((()), w197)
noncomputable def f_X3_does (G : Nat) (a0 : Rf) (a1 : Int32) (w : St) : Option (Unit × St) :=
  bo (getr [26] a0 27 w) fun x1 =>
  bo (iald x1 (a1 + 1) w) fun x7 =>
  bo (getr [26] a0 27 w) fun x10 =>
  bo (iald x10 (a1 + 2) w) fun x16 =>
  bo (getr [26] a0 27 w) fun x19 =>
  bo (iald x19 a1 w) fun x23 =>
  if x23 = 0 then (bo (getr [26] a0 27 w) fun x68 =>
  bo (iald x68 (a1 + 7) w) fun x75 =>
  bo (getr [26] a0 27 w) fun x77 =>
  bo (iald x77 (a1 + 3) w) fun x83 =>
  gd (cls a0 w = some 26) <|
  bd (f_X3_lateIt G a0 x7 x16 x75 x83 w) fun x84 w84 =>
  some ((()), w84)) else
  (if x23 = 1 then (f_X3_does_l94 G (fun v0 w => f_X3_does_b125 G  v0 w) G a0 a1 0 w) else
  (if x23 = 2 then (gd (cls a0 w = some 26) <|
  bd (f_X3_limitIt G a0 x7 x16 w) fun x136 w136 =>
  some ((()), w136)) else
  (if x23 = 3 then (gd (cls a0 w = some 26) <|
  bd (f_X3_cutIt G a0 x7 w) fun x145 w145 =>
  some ((()), w145)) else
  (if x23 = 4 then (gd (cls a0 w = some 26) <|
  bd (f_X3_turnIt G a0 x7 x16 w) fun x155 w155 =>
  some ((()), w155)) else
  (if x23 = 5 then (f_X3_does_l165 G (fun v0 v2 w => f_X3_does_b195 G  v0 v2 w) G a0 a1 x7 0 w) else
  (gd (cls a0 w = some 26) <|
  bd (f_X3_coachIt G a0 x7 x16 w) fun x207 w207 =>
  some ((()), w207)))))))
noncomputable def f_X3_refusedBy (G : Nat) (a0 : Rf) (a1 : Int32) (w : St) : Option (Int32 × St) :=
  bo (geti [26] a0 6 w) fun x1 =>
  bo (geti [26] a0 7 w) fun x6 =>
  gd (cls a0 w = some 26) <|
  bd (f_X3_refuse G a0 11 a1 w) fun x14 w14 =>
  bo (puti [26] a0 8 x1 w14) fun w20 =>
  bo (puti [26] a0 9 x6 w20) fun w25 =>
  gd (cls a0 w25 = some 26) <|
  bd (f_X3_throwing G a0 2 w25) fun x30 w30 =>
  some (x30, w30)
noncomputable def f_X3_run_b88 (G : Nat) (k34 : Rf → Int32 → St → Option (Int32 × St)) (v0 : Rf) (s0 : Int32) (w : St) : Option (Int32 × St) :=
  k34 v0 s0 w
noncomputable def f_X3_run_b65 (G : Nat) (k34 : Rf → Int32 → St → Option (Int32 × St)) (v0 : Rf) (s0 : Int32) (w : St) : Option (Int32 × St) :=
  if s0 = 0 then (k34 v0 s0 w) else
  (gd (cls v0 w = some 26) <|
  bd (f_X3_expects G v0 59 w) fun _ w73 =>
  bo (geti [26] v0 31 w73) fun x77 =>
  if x77 = 0 then (f_X3_run_b88 G k34  v0 1 w73) else
  (f_X3_run_b88 G k34  v0 0 w73))
noncomputable def f_X3_run_b64 (G : Nat) (k34 : Rf → Int32 → St → Option (Int32 × St)) (v0 : Rf) (w : St) : Option (Int32 × St) :=
  f_X3_run_b65 G k34  v0 0 w
noncomputable def f_X3_run_l34 (G : Nat) (k92 : Rf → St → Option (Int32 × St)) : Nat → Rf → Int32 → St → Option (Int32 × St)
  | 0, _, _, _ => none
  | F + 1, v0, v1, w =>
  if v1 = 0 then (k92 v0 w) else
  (gd (cls v0 w = some 26) <|
  bd (f_X3_readOrder G v0 w) fun _ w39 =>
  bo (geti [26] v0 31 w39) fun x43 =>
  if x43 = 0 then (bo (geti [26] v0 29 w39) fun x50 =>
  bo (geti [26] v0 30 w39) fun x54 =>
  if x54 ≤ x50 then (f_X3_run_b64 G (fun v0 v1 w => f_X3_run_l34 G k92 F v0 v1 w)  v0 w39) else
  (f_X3_run_b65 G (fun v0 v1 w => f_X3_run_l34 G k92 F v0 v1 w)  v0 1 w39)) else
  (f_X3_run_b64 G (fun v0 v1 w => f_X3_run_l34 G k92 F v0 v1 w)  v0 w39))
noncomputable def f_X3_run_l126 (G : Nat) (k149 : Rf → Int32 → St → Option (Int32 × St)) (k188 : Rf → St → Option (Int32 × St)) : Nat → Rf → Int32 → St → Option (Int32 × St)
  | 0, _, _, _ => none
  | F + 1, v0, v2, w =>
  bo (geti [26] v0 28 w) fun x128 =>
  if x128 ≤ v2 then (k188 v0 w) else
  (gd (cls v0 w = some 26) <|
  bd (f_X3_does G v0 (8 * v2) w) fun _ w139 =>
  bo (geti [26] v0 13 w139) fun x143 =>
  if x143 ≤ 0 then (f_X3_run_l126 G k149 k188 F v0 (v2 + 1) w139) else
  (k149 v0 v2 w139))
noncomputable def f_X3_run_l151 (G : Nat) (k176 : Rf → Int32 → St → Option (Int32 × St)) : Nat → Rf → Int32 → Int32 → St → Option (Int32 × St)
  | 0, _, _, _, _ => none
  | F + 1, v0, v2, v3, w =>
  if 412 ≤ v3 then (k176 v0 v2 w) else
  (bo (getr [26] v0 0 w) fun x159 =>
  bo (getr [26] v0 1 w) fun x164 =>
  bo (iald x164 v3 w) fun x168 =>
  bo (iast x159 v3 x168 w) fun w169 =>
  f_X3_run_l151 G k176 F v0 v2 (v3 + 1) w169)
noncomputable def f_X3_run_b176 (G : Nat) (v0 : Rf) (v2 : Int32) (w : St) : Option (Int32 × St) :=
  gd (cls v0 w = some 26) <|
  bd (f_X3_refusedBy G v0 v2 w) fun x178 w178 =>
  some (x178, w178)
noncomputable def f_X3_run_b149 (G : Nat) (v0 : Rf) (v2 : Int32) (w : St) : Option (Int32 × St) :=
  f_X3_run_l151 G (fun v0 v2 w => f_X3_run_b176 G  v0 v2 w) G v0 v2 0 w
noncomputable def f_X3_run_b188 (G : Nat) (v0 : Rf) (w : St) : Option (Int32 × St) :=
  bo (geti [26] v0 28 w) fun x190 =>
  gd (cls v0 w = some 26) <|
  bd (f_X3_changed G v0 x190 w) fun x193 w193 =>
  some (x193, w193)
noncomputable def f_X3_run_b108 (G : Nat) (v0 : Rf) (s0 : Int32) (s1 : Rf) (w : St) : Option (Int32 × St) :=
  bo (puti [26] s1 10 s0 w) fun w108 =>
  bo (geti [26] v0 31 w108) fun x112 =>
  if x112 = 0 then (f_X3_run_l126 G (fun v0 v2 w => f_X3_run_b149 G  v0 v2 w) (fun v0 w => f_X3_run_b188 G  v0 w) G v0 0 w108) else
  (gd (cls v0 w108 = some 26) <|
  bd (f_X3_throwing G v0 1 w108) fun x120 w120 =>
  some (x120, w120))
noncomputable def f_X3_run_b92 (G : Nat) (v0 : Rf) (w : St) : Option (Int32 × St) :=
  bo (geti [26] v0 31 w) fun x94 =>
  if x94 = 0 then (f_X3_run_b108 G  v0 ((-1)) v0 w) else
  (bo (geti [26] v0 29 w) fun x101 =>
  f_X3_run_b108 G  v0 x101 v0 w)
noncomputable def f_X3_run (G : Nat) (a0 : Rf) (w : St) : Option (Int32 × St) :=
  gd (cls a0 w = some 26) <|
  bd (f_X3_starts G a0 w) fun _ w1 =>
  bo (geti [26] a0 12 w1) fun x6 =>
  bo (puti [26] a0 30 x6 w1) fun w9 =>
  bo (puti [26] a0 12 0 w9) fun w14 =>
  bo (puti [26] a0 29 0 w14) fun w19 =>
  bo (puti [26] a0 28 0 w19) fun w24 =>
  bo (putz [26] a0 31 0 w24) fun w29 =>
  f_X3_run_l34 G (fun v0 w => f_X3_run_b92 G  v0 w) G a0 1 w29
noncomputable def f_X3_faultPosition (G : Nat) (a0 : Rf) (w : St) : Option (Int32 × St) :=
  bo (puti [26] a0 13 0 w) fun w2 =>
  bo (geti [26] a0 10 w2) fun x6 =>
  some (x6, w2)
noncomputable def f_X3_reason_b40 (G : Nat) (v0 : Rf) (w : St) : Option (Int32 × St) :=
  gd (cls v0 w = some 26) <|
  bd (f_X3_throwing G v0 2 w) fun x42 w42 =>
  some (x42, w42)
noncomputable def f_X3_reason_b46 (G : Nat) (v0 : Rf) (v1 : Int32) (v2 : Int32) (w : St) : Option (Int32 × St) :=
  if v1 = 1 then (if v2 = 0 then (bo (geti [26] v0 8 w) fun x63 =>
  some (x63, w)) else
  (bo (geti [26] v0 9 w) fun x56 =>
  some (x56, w))) else
  (if v2 = 0 then (bo (geti [26] v0 6 w) fun x79 =>
  some (x79, w)) else
  (bo (geti [26] v0 7 w) fun x72 =>
  some (x72, w)))
noncomputable def f_X3_reason (G : Nat) (a0 : Rf) (a1 : Int32) (a2 : Int32) (w : St) : Option (Int32 × St) :=
  bo (puti [26] a0 13 0 w) fun w2 =>
  bd (f_X3_in G a1.toInt64 0 1 w2) fun x9 w9 =>
  if x9 = 0 then (gd (cls a0 w9 = some 26) <|
  bd (f_X3_throwing G a0 1 w9) fun x17 w17 =>
  some (x17, w17)) else
  (bo (geti [26] a0 6 w9) fun x22 =>
  if x22 = 0 then (f_X3_reason_b40 G  a0 w9) else
  (if a1 = 1 then (bo (geti [26] a0 8 w9) fun x34 =>
  if x34 = 0 then (f_X3_reason_b40 G  a0 w9) else
  (f_X3_reason_b46 G  a0 a1 a2 w9)) else
  (f_X3_reason_b46 G  a0 a1 a2 w9)))
noncomputable def f_X3_sign (G : Nat) (a0 : Rf) (a1 : Int32) (w : St) : Option (Unit × St) :=
  bo (getr [26] a0 32 w) fun x1 =>
  bo (geti [26] a0 33 w) fun x5 =>
  bo (iast x1 x5 a1 w) fun w9 =>
  bo (geti [26] a0 33 w9) fun x12 =>
  bo (puti [26] a0 33 (x12 + 1) w9) fun w17 =>
  some ((()), w17)
noncomputable def f_X3_writesNumber_l2 (G : Nat) (k18 : Rf → Int32 → Int32 → St → Option (Unit × St)) : Nat → Rf → Int32 → Int32 → St → Option (Unit × St)
  | 0, _, _, _, _ => none
  | F + 1, v0, v1, v2, w =>
  gd (v2 ≠ 0) <|
  if (v1 / v2) ≤ 9 then (k18 v0 v1 v2 w) else
  (f_X3_writesNumber_l2 G k18 F v0 v1 (v2 * 10) w)
noncomputable def f_X3_writesNumber_l20 (G : Nat) (k45 : St → Option (Unit × St)) : Nat → Rf → Int32 → Int32 → St → Option (Unit × St)
  | 0, _, _, _, _ => none
  | F + 1, v0, v1, v3, w =>
  if v3 ≤ 0 then (k45 w) else
  (gd (v3 ≠ 0) <|
  gd (cls v0 w = some 26) <|
  bd (f_X3_sign G v0 (48 + ((v1 / v3) - (v1 / v3) / 10 * 10)) w) fun _ w34 =>
  f_X3_writesNumber_l20 G k45 F v0 v1 (v3 / 10) w34)
noncomputable def f_X3_writesNumber_b45 (G : Nat) (w : St) : Option (Unit × St) :=
  some ((()), w)
noncomputable def f_X3_writesNumber_b18 (G : Nat) (v0 : Rf) (v1 : Int32) (v2 : Int32) (w : St) : Option (Unit × St) :=
  f_X3_writesNumber_l20 G (fun w => f_X3_writesNumber_b45 G  w) G v0 v1 v2 w
noncomputable def f_X3_writesNumber (G : Nat) (a0 : Rf) (a1 : Int32) (w : St) : Option (Unit × St) :=
  f_X3_writesNumber_l2 G (fun v0 v1 v2 w => f_X3_writesNumber_b18 G  v0 v1 v2 w) G a0 a1 1 w
noncomputable def f_X3_writesEvent (G : Nat) (a0 : Rf) (a1 : Int32) (a2 : Int32) (a3 : Int32) (w : St) : Option (Unit × St) :=
  gd (cls a0 w = some 26) <|
  bd (f_X3_minuteOf G a0 a1 a2 a3 w) fun x5 w5 =>
  gd (cls a0 w5 = some 26) <|
  bd (f_X3_writesNumber G a0 x5 w5) fun _ w8 =>
  gd (cls a0 w8 = some 26) <|
  bd (f_X3_lateOf G a0 a1 a2 a3 w8) fun x15 w15 =>
  if x15 ≤ 0 then (some ((()), w15)) else
  (gd (cls a0 w15 = some 26) <|
  bd (f_X3_sign G a0 43 w15) fun _ w24 =>
  gd (cls a0 w24 = some 26) <|
  bd (f_X3_lateOf G a0 a1 a2 a3 w24) fun x32 w32 =>
  gd (cls a0 w32 = some 26) <|
  bd (f_X3_writesNumber G a0 x32 w32) fun _ w35 =>
  some ((()), w35))
noncomputable def f_X3_tell_b113 (G : Nat) (k32 : Rf → Int32 → Int32 → St → Option (Int32 × St)) (v0 : Rf) (v1 : Int32) (v2 : Int32) (w : St) : Option (Int32 × St) :=
  k32 v0 v1 (v2 + 1) w
noncomputable def f_X3_tell_b90 (G : Nat) (k32 : Rf → Int32 → Int32 → St → Option (Int32 × St)) (v0 : Rf) (v1 : Int32) (v2 : Int32) (w : St) : Option (Int32 × St) :=
  gd (cls v0 w = some 26) <|
  bd (f_X3_isEvent G v0 v1 v2 1 w) fun x94 w94 =>
  if x94 = 0 then (f_X3_tell_b113 G k32  v0 v1 v2 w94) else
  (gd (cls v0 w94 = some 26) <|
  bd (f_X3_sign G v0 45 w94) fun _ w103 =>
  gd (cls v0 w103 = some 26) <|
  bd (f_X3_writesEvent G v0 v1 v2 1 w103) fun _ w110 =>
  f_X3_tell_b113 G k32  v0 v1 v2 w110)
noncomputable def f_X3_tell_b51 (G : Nat) (k32 : Rf → Int32 → Int32 → St → Option (Int32 × St)) (v0 : Rf) (v1 : Int32) (v2 : Int32) (w : St) : Option (Int32 × St) :=
  bo (getr [26] v0 0 w) fun x53 =>
  bd (f_X3_ofStop G v1 v2 w) fun x58 w58 =>
  bo (iald x53 (x58 + 0) w58) fun x63 =>
  gd (cls v0 w58 = some 26) <|
  bd (f_X3_writesNumber G v0 x63 w58) fun _ w64 =>
  gd (cls v0 w64 = some 26) <|
  bd (f_X3_sign G v0 64 w64) fun _ w70 =>
  gd (cls v0 w70 = some 26) <|
  bd (f_X3_isEvent G v0 v1 v2 0 w70) fun x77 w77 =>
  if x77 = 0 then (f_X3_tell_b90 G k32  v0 v1 v2 w77) else
  (gd (cls v0 w77 = some 26) <|
  bd (f_X3_writesEvent G v0 v1 v2 0 w77) fun _ w87 =>
  f_X3_tell_b90 G k32  v0 v1 v2 w87)
noncomputable def f_X3_tell_l32 (G : Nat) (k119 : Rf → St → Option (Int32 × St)) : Nat → Rf → Int32 → Int32 → St → Option (Int32 × St)
  | 0, _, _, _, _ => none
  | F + 1, v0, v1, v2, w =>
  gd (cls v0 w = some 26) <|
  bd (f_X3_stops G v0 v1 w) fun x35 w35 =>
  if x35 ≤ v2 then (k119 v0 w35) else
  (if v2 ≤ 0 then (f_X3_tell_b51 G (fun v0 v1 v2 w => f_X3_tell_l32 G k119 F v0 v1 v2 w)  v0 v1 v2 w35) else
  (gd (cls v0 w35 = some 26) <|
  bd (f_X3_sign G v0 32 w35) fun _ w48 =>
  f_X3_tell_b51 G (fun v0 v1 v2 w => f_X3_tell_l32 G k119 F v0 v1 v2 w)  v0 v1 v2 w48))
noncomputable def f_X3_tell_b119 (G : Nat) (v0 : Rf) (w : St) : Option (Int32 × St) :=
  bo (geti [26] v0 33 w) fun x120 =>
  some (x120, w)
noncomputable def f_X3_tell (G : Nat) (a0 : Rf) (a1 : Int32) (w : St) : Option (Int32 × St) :=
  bo (puti [26] a0 13 0 w) fun w2 =>
  gd (cls a0 w2 = some 26) <|
  bd (f_X3_isCoach G a0 a1 w2) fun x7 w7 =>
  if x7 = 0 then (gd (cls a0 w7 = some 26) <|
  bd (f_X3_throwing G a0 1 w7) fun x15 w15 =>
  some (x15, w15)) else
  (gd (cls a0 w7 = some 26) <|
  bd (f_X3_laysMinutes G a0 ((-1)) ((-1)) w7) fun _ w22 =>
  bo (puti [26] a0 33 0 w22) fun w27 =>
  f_X3_tell_l32 G (fun v0 w => f_X3_tell_b119 G  v0 w) G a0 a1 0 w27)
noncomputable def f_X3_tellLinks_b147 (G : Nat) (k18 : Rf → Int32 → St → Option (Int32 × St)) (v0 : Rf) (v1 : Int32) (w : St) : Option (Int32 × St) :=
  k18 v0 (v1 + 1) w
noncomputable def f_X3_tellLinks_b43 (G : Nat) (k18 : Rf → Int32 → St → Option (Int32 × St)) (v0 : Rf) (v1 : Int32) (v2 : Int32) (w : St) : Option (Int32 × St) :=
  bo (getr [26] v0 0 w) fun x45 =>
  bo (iald x45 v2 w) fun x49 =>
  gd (cls v0 w = some 26) <|
  bd (f_X3_writesNumber G v0 x49 w) fun _ w50 =>
  gd (cls v0 w50 = some 26) <|
  bd (f_X3_sign G v0 46 w50) fun _ w56 =>
  bo (getr [26] v0 0 w56) fun x61 =>
  bo (iald x61 (v2 + 1) w56) fun x67 =>
  gd (cls v0 w56 = some 26) <|
  bd (f_X3_writesNumber G v0 x67 w56) fun _ w68 =>
  gd (cls v0 w68 = some 26) <|
  bd (f_X3_sign G v0 62 w68) fun _ w74 =>
  bo (getr [26] v0 0 w74) fun x79 =>
  bo (iald x79 (v2 + 2) w74) fun x85 =>
  gd (cls v0 w74 = some 26) <|
  bd (f_X3_writesNumber G v0 x85 w74) fun _ w86 =>
  gd (cls v0 w86 = some 26) <|
  bd (f_X3_sign G v0 46 w86) fun _ w92 =>
  bo (getr [26] v0 0 w92) fun x97 =>
  bo (iald x97 (v2 + 3) w92) fun x103 =>
  gd (cls v0 w92 = some 26) <|
  bd (f_X3_writesNumber G v0 x103 w92) fun _ w104 =>
  gd (cls v0 w104 = some 26) <|
  bd (f_X3_isKept G v0 v1 w104) fun x109 w109 =>
  if x109 = 0 then (gd (cls v0 w109 = some 26) <|
  bd (f_X3_sign G v0 33 w109) fun _ w118 =>
  f_X3_tellLinks_b147 G k18  v0 v1 w118) else
  (gd (cls v0 w109 = some 26) <|
  bd (f_X3_waitsOf G v0 v1 w109) fun x126 w126 =>
  if x126 ≤ 0 then (f_X3_tellLinks_b147 G k18  v0 v1 w126) else
  (gd (cls v0 w126 = some 26) <|
  bd (f_X3_sign G v0 119 w126) fun _ w135 =>
  gd (cls v0 w135 = some 26) <|
  bd (f_X3_waitsOf G v0 v1 w135) fun x141 w141 =>
  gd (cls v0 w141 = some 26) <|
  bd (f_X3_writesNumber G v0 x141 w141) fun _ w144 =>
  f_X3_tellLinks_b147 G k18  v0 v1 w144))
noncomputable def f_X3_tellLinks_l18 (G : Nat) (k153 : Rf → St → Option (Int32 × St)) : Nat → Rf → Int32 → St → Option (Int32 × St)
  | 0, _, _, _ => none
  | F + 1, v0, v1, w =>
  bo (getr [26] v0 0 w) fun x20 =>
  bo (iald x20 1 w) fun x24 =>
  if x24 ≤ v1 then (k153 v0 w) else
  (bd (f_X3_ofLink G v1 w) fun x29 w29 =>
  if v1 ≤ 0 then (f_X3_tellLinks_b43 G (fun v0 v1 w => f_X3_tellLinks_l18 G k153 F v0 v1 w)  v0 v1 x29 w29) else
  (gd (cls v0 w29 = some 26) <|
  bd (f_X3_sign G v0 32 w29) fun _ w40 =>
  f_X3_tellLinks_b43 G (fun v0 v1 w => f_X3_tellLinks_l18 G k153 F v0 v1 w)  v0 v1 x29 w40))
noncomputable def f_X3_tellLinks_b153 (G : Nat) (v0 : Rf) (w : St) : Option (Int32 × St) :=
  bo (geti [26] v0 33 w) fun x154 =>
  some (x154, w)
noncomputable def f_X3_tellLinks (G : Nat) (a0 : Rf) (w : St) : Option (Int32 × St) :=
  bo (puti [26] a0 13 0 w) fun w2 =>
  gd (cls a0 w2 = some 26) <|
  bd (f_X3_laysMinutes G a0 ((-1)) ((-1)) w2) fun _ w8 =>
  bo (puti [26] a0 33 0 w8) fun w13 =>
  f_X3_tellLinks_l18 G (fun v0 w => f_X3_tellLinks_b153 G  v0 w) G a0 0 w13
noncomputable def f_X3_character (G : Nat) (a0 : Rf) (a1 : Int32) (w : St) : Option (Int32 × St) :=
  bo (puti [26] a0 13 0 w) fun w2 =>
  bo (geti [26] a0 33 w2) fun x9 =>
  bd (f_X3_in G a1.toInt64 0 ((x9 - 1).toInt64) w2) fun x15 w15 =>
  if x15 = 0 then (gd (cls a0 w15 = some 26) <|
  bd (f_X3_throwing G a0 1 w15) fun x33 w33 =>
  gd (0 ≤ ((x33.toUInt32 % 65536).toInt32) ∧ ((x33.toUInt32 % 65536).toInt32) ≤ 65535) (some (((x33.toUInt32 % 65536).toInt32), w33))) else
  (bo (getr [26] a0 32 w15) fun x22 =>
  bo (iald x22 a1 w15) fun x26 =>
  gd (0 ≤ ((x26.toUInt32 % 65536).toInt32) ∧ ((x26.toUInt32 % 65536).toInt32) ≤ 65535) (some (((x26.toUInt32 % 65536).toInt32), w15)))
noncomputable def f_X3_ofEvents_b76 (G : Nat) (k10 : Rf → Int32 → Int32 → Int32 → Int32 → Int32 → St → Option (Int32 × St)) (v0 : Rf) (v1 : Int32) (v2 : Int32) (v3 : Int32) (v4 : Int32) (v5 : Int32) (w : St) : Option (Int32 × St) :=
  k10 v0 v1 v2 v3 v4 (v5 + 1) w
noncomputable def f_X3_ofEvents_b65 (G : Nat) (k10 : Rf → Int32 → Int32 → Int32 → Int32 → Int32 → St → Option (Int32 × St)) (v0 : Rf) (v1 : Int32) (v2 : Int32) (v4 : Int32) (v5 : Int32) (v6 : Int32) (s0 : Int32) (s1 : Int32) (w : St) : Option (Int32 × St) :=
  bd (f_J15_max G v4 v6 w) fun x71 w71 =>
  f_X3_ofEvents_b76 G k10  v0 v1 v2 (s1 + s0) x71 v5 w71
noncomputable def f_X3_ofEvents_l10 (G : Nat) (k82 : Int32 → Int32 → Int32 → Int32 → St → Option (Int32 × St)) : Nat → Rf → Int32 → Int32 → Int32 → Int32 → Int32 → St → Option (Int32 × St)
  | 0, _, _, _, _, _, _, _ => none
  | F + 1, v0, v1, v2, v3, v4, v5, w =>
  bo (getr [26] v0 22 w) fun x13 =>
  bo (alen x13 w) fun x16 =>
  if x16 ≤ v5 then (k82 v1 v2 v3 v4 w) else
  (gd (cls v0 w = some 26) <|
  bd (f_X3_hasEvent G v0 v5 w) fun x23 w23 =>
  if x23 = 0 then (f_X3_ofEvents_b76 G (fun v0 v1 v2 v3 v4 v5 w => f_X3_ofEvents_l10 G k82 F v0 v1 v2 v3 v4 v5 w)  v0 v1 v2 v3 v4 v5 w23) else
  (gd (cls v0 w23 = some 26) <|
  bd (f_X3_lateOf G v0 (v5 / 12) ((v5 / 2) - (v5 / 2) / 6 * 6) (v5 - v5 / 2 * 2) w23) fun x46 w46 =>
  if x46 ≤ 0 then (f_X3_ofEvents_b65 G (fun v0 v1 v2 v3 v4 v5 w => f_X3_ofEvents_l10 G k82 F v0 v1 v2 v3 v4 v5 w)  v0 v1 (v2 + 1) v4 v5 x46 0 v3 w46) else
  (f_X3_ofEvents_b65 G (fun v0 v1 v2 v3 v4 v5 w => f_X3_ofEvents_l10 G k82 F v0 v1 v2 v3 v4 v5 w)  v0 v1 (v2 + 1) v4 v5 x46 1 v3 w46)))
noncomputable def f_X3_ofEvents_b82 (G : Nat) (v1 : Int32) (v2 : Int32) (v3 : Int32) (v4 : Int32) (w : St) : Option (Int32 × St) :=
  if v1 = 0 then (some (v2, w)) else
  (if v1 = 1 then (some (v3, w)) else
  (some (v4, w)))
noncomputable def f_X3_ofEvents (G : Nat) (a0 : Rf) (a1 : Int32) (w : St) : Option (Int32 × St) :=
  f_X3_ofEvents_l10 G (fun v1 v2 v3 v4 w => f_X3_ofEvents_b82 G  v1 v2 v3 v4 w) G a0 a1 0 0 0 0 w
noncomputable def f_X3_turns_b29 (G : Nat) (k4 : Rf → Int32 → Int32 → St → Option (Int32 × St)) (v0 : Rf) (v2 : Int32) (s0 : Int32) (s1 : Int32) (w : St) : Option (Int32 × St) :=
  k4 v0 (s1 + s0) (v2 + 1) w
noncomputable def f_X3_turns_l4 (G : Nat) (k37 : Int32 → St → Option (Int32 × St)) : Nat → Rf → Int32 → Int32 → St → Option (Int32 × St)
  | 0, _, _, _, _ => none
  | F + 1, v0, v1, v2, w =>
  bo (getr [26] v0 0 w) fun x6 =>
  bo (iald x6 0 w) fun x10 =>
  if x10 ≤ v2 then (k37 v1 w) else
  (gd (cls v0 w = some 26) <|
  bd (f_X3_into G v0 v2 w) fun x17 w17 =>
  if x17 = ((-1)) then (f_X3_turns_b29 G (fun v0 v1 v2 w => f_X3_turns_l4 G k37 F v0 v1 v2 w)  v0 v2 0 v1 w17) else
  (f_X3_turns_b29 G (fun v0 v1 v2 w => f_X3_turns_l4 G k37 F v0 v1 v2 w)  v0 v2 1 v1 w17))
noncomputable def f_X3_turns_b37 (G : Nat) (v1 : Int32) (w : St) : Option (Int32 × St) :=
  some (v1, w)
noncomputable def f_X3_turns (G : Nat) (a0 : Rf) (w : St) : Option (Int32 × St) :=
  f_X3_turns_l4 G (fun v1 w => f_X3_turns_b37 G  v1 w) G a0 0 0 w
noncomputable def f_X3_ownOfAll_l4 (G : Nat) (k28 : Int32 → St → Option (Int32 × St)) : Nat → Rf → Int32 → Int32 → St → Option (Int32 × St)
  | 0, _, _, _, _ => none
  | F + 1, v0, v1, v2, w =>
  bo (getr [26] v0 0 w) fun x6 =>
  bo (iald x6 0 w) fun x10 =>
  if x10 ≤ v2 then (k28 v1 w) else
  (gd (cls v0 w = some 26) <|
  bd (f_X3_ownAll G v0 v2 w) fun x17 w17 =>
  f_X3_ownOfAll_l4 G k28 F v0 (v1 + x17) (v2 + 1) w17)
noncomputable def f_X3_ownOfAll_b28 (G : Nat) (v1 : Int32) (w : St) : Option (Int32 × St) :=
  some (v1, w)
noncomputable def f_X3_ownOfAll (G : Nat) (a0 : Rf) (w : St) : Option (Int32 × St) :=
  f_X3_ownOfAll_l4 G (fun v1 w => f_X3_ownOfAll_b28 G  v1 w) G a0 0 0 w
noncomputable def f_X3_account (G : Nat) (a0 : Rf) (a1 : Int32) (w : St) : Option (Int32 × St) :=
  bo (puti [26] a0 13 0 w) fun w2 =>
  gd (cls a0 w2 = some 26) <|
  bd (f_X3_laysMinutes G a0 ((-1)) ((-1)) w2) fun _ w8 =>
  if a1 = 0 then (bo (getr [26] a0 0 w8) fun x77 =>
  bo (iald x77 0 w8) fun x81 =>
  some (x81, w8)) else
  (if a1 = 1 then (gd (cls a0 w8 = some 26) <|
  bd (f_X3_ofEvents G a0 0 w8) fun x85 w85 =>
  some (x85, w85)) else
  (if a1 = 2 then (bo (getr [26] a0 0 w8) fun x90 =>
  bo (iald x90 1 w8) fun x94 =>
  some (x94, w8)) else
  (if a1 = 3 then (bo (getr [26] a0 0 w8) fun x97 =>
  bo (iald x97 1 w8) fun x101 =>
  gd (cls a0 w8 = some 26) <|
  bd (f_X3_missedOnes G a0 w8) fun x103 w103 =>
  some ((x101 - x103), w103)) else
  (if a1 = 4 then (gd (cls a0 w8 = some 26) <|
  bd (f_X3_turns G a0 w8) fun x109 w109 =>
  some (x109, w109)) else
  (if a1 = 5 then (gd (cls a0 w8 = some 26) <|
  bd (f_X3_ofEvents G a0 1 w8) fun x115 w115 =>
  some (x115, w115)) else
  (if a1 = 6 then (gd (cls a0 w8 = some 26) <|
  bd (f_X3_ownOfAll G a0 w8) fun x120 w120 =>
  some (x120, w120)) else
  (if a1 = 7 then (gd (cls a0 w8 = some 26) <|
  bd (f_X3_ofEvents G a0 2 w8) fun x126 w126 =>
  some (x126, w126)) else
  (if a1 = 8 then (bo (getr [26] a0 0 w8) fun x131 =>
  bo (iald x131 2 w8) fun x135 =>
  some (x135, w8)) else
  (if a1 = 9 then (bo (getr [26] a0 0 w8) fun x138 =>
  bo (iald x138 3 w8) fun x142 =>
  some (x142, w8)) else
  (if a1 = 10 then (bo (geti [26] a0 12 w8) fun x145 =>
  some (x145, w8)) else
  (if a1 = 11 then (bo (geti [26] a0 5 w8) fun x150 =>
  some (x150, w8)) else
  (gd (cls a0 w8 = some 26) <|
  bd (f_X3_throwing G a0 1 w8) fun x156 w156 =>
  some (x156, w156)))))))))))))
noncomputable def f_X3_meanLate (G : Nat) (a0 : Rf) (w : St) : Option (UInt64 × St) :=
  bo (puti [26] a0 13 0 w) fun w2 =>
  gd (cls a0 w2 = some 26) <|
  bd (f_X3_laysMinutes G a0 ((-1)) ((-1)) w2) fun _ w8 =>
  gd (cls a0 w8 = some 26) <|
  bd (f_X3_ofEvents G a0 0 w8) fun x13 w13 =>
  if x13 = 0 then (gd (cls a0 w13 = some 26) <|
  bd (f_X3_throwing G a0 1 w13) fun x23 w23 =>
  some (FP.dconst0, w23)) else
  (gd (cls a0 w13 = some 26) <|
  bd (f_X3_lateAll G a0 ((-1)) w13) fun x31 w31 =>
  gdC (vf_n64 (FP.ddiv (FP.i2d x31) (FP.i2d x13))) <|
  some ((FP.ddiv (FP.i2d x31) (FP.i2d x13)), w31))
noncomputable def f_X3_keptShare (G : Nat) (a0 : Rf) (w : St) : Option (UInt32 × St) :=
  bo (puti [26] a0 13 0 w) fun w2 =>
  gd (cls a0 w2 = some 26) <|
  bd (f_X3_laysMinutes G a0 ((-1)) ((-1)) w2) fun _ w8 =>
  bo (getr [26] a0 0 w8) fun x12 =>
  bo (iald x12 1 w8) fun x16 =>
  if x16 = 0 then (gd (cls a0 w8 = some 26) <|
  bd (f_X3_throwing G a0 1 w8) fun x22 w22 =>
  some (FP.fconst0, w22)) else
  (bo (getr [26] a0 0 w8) fun x29 =>
  bo (iald x29 1 w8) fun x33 =>
  gd (cls a0 w8 = some 26) <|
  bd (f_X3_missedOnes G a0 w8) fun x35 w35 =>
  bo (getr [26] a0 0 w35) fun x41 =>
  bo (iald x41 1 w35) fun x45 =>
  gdC (vf_n32 (FP.fdiv (FP.i2f (x33 - x35)) (FP.i2f x45))) <|
  some ((FP.fdiv (FP.i2f (x33 - x35)) (FP.i2f x45)), w35))
noncomputable def f_X3_undo_l30 (G : Nat) (k64 : Rf → St → Option (Int32 × St)) : Nat → Rf → Int32 → St → Option (Int32 × St)
  | 0, _, _, _ => none
  | F + 1, v0, v1, w =>
  if 412 ≤ v1 then (k64 v0 w) else
  (bo (getr [26] v0 0 w) fun x38 =>
  bo (getr [26] v0 4 w) fun x43 =>
  bo (geti [26] v0 5 w) fun x50 =>
  bo (iald x43 ((412 * x50) + v1) w) fun x56 =>
  bo (iast x38 v1 x56 w) fun w57 =>
  f_X3_undo_l30 G k64 F v0 (v1 + 1) w57)
noncomputable def f_X3_undo_b64 (G : Nat) (v0 : Rf) (w : St) : Option (Int32 × St) :=
  bo (geti [26] v0 5 w) fun x65 =>
  some (x65, w)
noncomputable def f_X3_undo (G : Nat) (a0 : Rf) (w : St) : Option (Int32 × St) :=
  bo (puti [26] a0 13 0 w) fun w2 =>
  bo (geti [26] a0 5 w2) fun x6 =>
  if x6 = 0 then (gd (cls a0 w2 = some 26) <|
  bd (f_X3_throwing G a0 1 w2) fun x14 w14 =>
  some (x14, w14)) else
  (bo (geti [26] a0 5 w2) fun x20 =>
  bo (puti [26] a0 5 (x20 - 1) w2) fun w25 =>
  f_X3_undo_l30 G (fun v0 w => f_X3_undo_b64 G  v0 w) G a0 0 w25)
noncomputable def f_X3_save_l7 (G : Nat) (k32 : Rf → St → Option (Int32 × St)) : Nat → Rf → Int32 → St → Option (Int32 × St)
  | 0, _, _, _ => none
  | F + 1, v0, v1, w =>
  if 412 ≤ v1 then (k32 v0 w) else
  (bo (getr [26] v0 2 w) fun x15 =>
  bo (getr [26] v0 0 w) fun x20 =>
  bo (iald x20 v1 w) fun x24 =>
  bo (iast x15 v1 x24 w) fun w25 =>
  f_X3_save_l7 G k32 F v0 (v1 + 1) w25)
noncomputable def f_X3_save_b32 (G : Nat) (v0 : Rf) (w : St) : Option (Int32 × St) :=
  bo (putz [26] v0 3 1 w) fun w34 =>
  bo (getr [26] v0 0 w34) fun x38 =>
  bo (iald x38 0 w34) fun x42 =>
  some (x42, w34)
noncomputable def f_X3_save (G : Nat) (a0 : Rf) (w : St) : Option (Int32 × St) :=
  bo (puti [26] a0 13 0 w) fun w2 =>
  f_X3_save_l7 G (fun v0 w => f_X3_save_b32 G  v0 w) G a0 0 w2
noncomputable def f_X3_restore_l20 (G : Nat) (k45 : Rf → St → Option (Int32 × St)) : Nat → Rf → Int32 → St → Option (Int32 × St)
  | 0, _, _, _ => none
  | F + 1, v0, v1, w =>
  if 412 ≤ v1 then (k45 v0 w) else
  (bo (getr [26] v0 0 w) fun x28 =>
  bo (getr [26] v0 2 w) fun x33 =>
  bo (iald x33 v1 w) fun x37 =>
  bo (iast x28 v1 x37 w) fun w38 =>
  f_X3_restore_l20 G k45 F v0 (v1 + 1) w38)
noncomputable def f_X3_restore_b45 (G : Nat) (v0 : Rf) (w : St) : Option (Int32 × St) :=
  bo (puti [26] v0 5 0 w) fun w47 =>
  bo (getr [26] v0 0 w47) fun x51 =>
  bo (iald x51 0 w47) fun x55 =>
  some (x55, w47)
noncomputable def f_X3_restore (G : Nat) (a0 : Rf) (w : St) : Option (Int32 × St) :=
  bo (puti [26] a0 13 0 w) fun w2 =>
  bo (geti [26] a0 3 w2) fun x6 =>
  if x6 = 0 then (gd (cls a0 w2 = some 26) <|
  bd (f_X3_throwing G a0 1 w2) fun x14 w14 =>
  some (x14, w14)) else
  (f_X3_restore_l20 G (fun v0 w => f_X3_restore_b45 G  v0 w) G a0 0 w2)
abbrev V_X3_isTold (l : Launch) (D : Dn) (H0 : Heap) (w0 : St) (res : Option (Int32 × St)) (pc : Nat) (ls : List (Nat × LV)) (st : List Value) (w : St) : Prop := V l D H0 RX3 "isTold" cX3_isTold 3 (some (.boolean)) [] 7 163 (fun x => .inr (rvI x)) w0 res pc ls st w
theorem t_X3_isTold_b61 {l : Launch} {D : Dn} {H0 : Heap} {w0 : St} (hl : l.stackTraces = false) (G : Nat) (k15 : Rf → Int32 → Int32 → St → Option (Int32 × St)) (h15 : ∀ v0 v1 v2 w, V_X3_isTold l D H0 w0 (k15 v0 v1 v2 w) 15 [(0, lR v0), (1, lI v1), (2, lI v2)] [] w) (v0 : Rf) (v2 : Int32) (s0 : Int32) (w : St) : V_X3_isTold l D H0 w0 (f_X3_isTold_b61 G k15 v0 v2 s0 w) 61 [(0, lR v0), (2, lI v2)] [.int s0] w := by
  unfold f_X3_isTold_b61
  refine r_istore_n (ls2 := [(1, lI s0), (0, lR v0), (2, lI v2)]) 62 dX3_isTold_61 rfl (by decide) rfl rfl ?_
  refine r_iinc (v := v2 + 1) (ls2 := [(2, lI (v2 + 1)), (1, lI s0), (0, lR v0)]) 65 2 dX3_isTold_62 rfl rfl (by decide) rfl rfl ?_
  refine r_goto 15 dX3_isTold_65 (by decide) ?_
  exact r_lsP [2, 1, 0] rfl (h15 v0 s0 (v2 + 1) w)
theorem t_X3_isTold_b56 {l : Launch} {D : Dn} {H0 : Heap} {w0 : St} (hl : l.stackTraces = false) (G : Nat) (k15 : Rf → Int32 → Int32 → St → Option (Int32 × St)) (h15 : ∀ v0 v1 v2 w, V_X3_isTold l D H0 w0 (k15 v0 v1 v2 w) 15 [(0, lR v0), (1, lI v1), (2, lI v2)] [] w) (v0 : Rf) (v2 : Int32) (w : St) : V_X3_isTold l D H0 w0 (f_X3_isTold_b56 G k15 v0 v2 w) 56 [(0, lR v0), (2, lI v2)] [] w := by
  unfold f_X3_isTold_b56
  refine r_iconst (v := 1) 57 dX3_isTold_56 rfl rfl ?_
  refine r_goto 61 dX3_isTold_57 (by decide) ?_
  exact r_lsP [0, 1] rfl (t_X3_isTold_b61 hl G k15 h15  v0 v2 1 w)
theorem t_X3_isTold_b60 {l : Launch} {D : Dn} {H0 : Heap} {w0 : St} (hl : l.stackTraces = false) (G : Nat) (k15 : Rf → Int32 → Int32 → St → Option (Int32 × St)) (h15 : ∀ v0 v1 v2 w, V_X3_isTold l D H0 w0 (k15 v0 v1 v2 w) 15 [(0, lR v0), (1, lI v1), (2, lI v2)] [] w) (v0 : Rf) (v2 : Int32) (w : St) : V_X3_isTold l D H0 w0 (f_X3_isTold_b60 G k15 v0 v2 w) 60 [(0, lR v0), (2, lI v2)] [] w := by
  unfold f_X3_isTold_b60
  refine r_iconst (v := 0) 61 dX3_isTold_60 rfl rfl ?_
  exact r_lsP [0, 1] rfl (t_X3_isTold_b61 hl G k15 h15  v0 v2 0 w)
theorem t_X3_isTold_l15 {l : Launch} {D : Dn} {H0 : Heap} {w0 : St} (hl : l.stackTraces = false) (G : Nat) (k68 : Int32 → St → Option (Int32 × St)) (h68 : ∀ v1 w, V_X3_isTold l D H0 w0 (k68 v1 w) 68 [(1, lI v1)] [] w) : ∀ (F : Nat) (v0 : Rf) (v1 : Int32) (v2 : Int32) (w : St), V_X3_isTold l D H0 w0 (f_X3_isTold_l15 G k68 F v0 v1 v2 w) 15 [(0, lR v0), (1, lI v1), (2, lI v2)] [] w := by
  intro F
  induction F with
  | zero => intros; exact r_none
  | succ F ih =>
    intro v0 v1 v2 w
    unfold f_X3_isTold_l15
    refine r_iload_n 16 2 dX3_isTold_15 rfl rfl rfl ?_
    refine r_aload_n 17 0 dX3_isTold_16 rfl rfl rfl ?_
    refine r_getr 20 gf_X3_47 dX3_isTold_17 rfl (fun x17 => ?_)
    refine r_alen 21 dX3_isTold_20 rfl (fun x20 => ?_)
    refine r_icmp_ge 68 24 dX3_isTold_21 (by decide) rfl ?_ ?_
    · exact r_lsP [1] rfl (h68 v1 w)
    refine r_iload_n 25 1 dX3_isTold_24 rfl rfl rfl ?_
    refine r_if_eq 60 28 dX3_isTold_25 (by decide) rfl ?_ ?_
    · exact r_lsP [0, 2] rfl (t_X3_isTold_b60 hl G (fun v0 v1 v2 w => f_X3_isTold_l15 G k68 F v0 v1 v2 w) (fun v0 v1 v2 w => ih v0 v1 v2 w)  v0 v2 w)
    refine r_aload_n 29 0 dX3_isTold_28 rfl rfl rfl ?_
    refine r_iload_n 30 2 dX3_isTold_29 rfl rfl rfl ?_
    refine r_gd (fun hc30 => ?_)
    refine r_callV (n := 1) (as := [lI v2]) (rest := []) 33 26 (s_X3_hasEvent hl G v0 v2 w) hc30 rfl (lw_V q2565 q2567 qs82 q110 q2568) (by decide +kernel) (by decide) rfl rfl (cat2_nil (k := 0)) rfl dX3_isTold_30 rfl (fun x30 w30 => ?_)
    refine r_if_eq 56 36 dX3_isTold_33 (by decide) rfl ?_ ?_
    · exact r_lsP [0, 2] rfl (t_X3_isTold_b56 hl G (fun v0 v1 v2 w => f_X3_isTold_l15 G k68 F v0 v1 v2 w) (fun v0 v1 v2 w => ih v0 v1 v2 w)  v0 v2 w30)
    refine r_aload_n 37 0 dX3_isTold_36 rfl rfl rfl ?_
    refine r_iload_n 38 2 dX3_isTold_37 rfl rfl rfl ?_
    refine r_bipush (v := 12) 40 dX3_isTold_38 rfl rfl ?_
    refine r_idiv 41 dX3_isTold_40 (by decide) rfl ?_
    refine r_iload_n 42 2 dX3_isTold_41 rfl rfl rfl ?_
    refine r_iconst (v := 2) 43 dX3_isTold_42 rfl rfl ?_
    refine r_idiv 44 dX3_isTold_43 (by decide) rfl ?_
    refine r_bipush (v := 6) 46 dX3_isTold_44 rfl rfl ?_
    refine r_irem 47 dX3_isTold_46 (by decide) rfl ?_
    refine r_iload_n 48 2 dX3_isTold_47 rfl rfl rfl ?_
    refine r_iconst (v := 2) 49 dX3_isTold_48 rfl rfl ?_
    refine r_irem 50 dX3_isTold_49 (by decide) rfl ?_
    refine r_gd (fun hc50 => ?_)
    refine r_callV (n := 3) (as := [lI (v2 / 12), lI ((v2 / 2) - (v2 / 2) / 6 * 6), lI (v2 - v2 / 2 * 2)]) (rest := []) 53 26 (s_X3_lateOf hl G v0 (v2 / 12) ((v2 / 2) - (v2 / 2) / 6 * 6) (v2 - v2 / 2 * 2) w30) hc50 rfl (lw_V q2450 q2452 qs71 q110 q2453) (by decide +kernel) (by decide) rfl rfl (cat2_nil (k := 0)) rfl dX3_isTold_50 rfl (fun x50 w50 => ?_)
    refine r_if_lt 60 56 dX3_isTold_53 (by decide) rfl ?_ ?_
    · exact r_lsP [0, 2] rfl (t_X3_isTold_b60 hl G (fun v0 v1 v2 w => f_X3_isTold_l15 G k68 F v0 v1 v2 w) (fun v0 v1 v2 w => ih v0 v1 v2 w)  v0 v2 w50)
    exact r_lsP [0, 2] rfl (t_X3_isTold_b56 hl G (fun v0 v1 v2 w => f_X3_isTold_l15 G k68 F v0 v1 v2 w) (fun v0 v1 v2 w => ih v0 v1 v2 w)  v0 v2 w50)
theorem t_X3_isTold_b68 {l : Launch} {D : Dn} {H0 : Heap} {w0 : St} (hl : l.stackTraces = false) (G : Nat) (v1 : Int32) (w : St) : V_X3_isTold l D H0 w0 (f_X3_isTold_b68 G v1 w) 68 [(1, lI v1)] [] w := by
  unfold f_X3_isTold_b68
  refine r_iload_n 69 0 dX3_isTold_68 rfl rfl rfl ?_
  exact r_zretG rfl rfl dX3_isTold_69
theorem t_X3_isTold {l : Launch} {D : Dn} {H0 : Heap} {w0 : St} (hl : l.stackTraces = false) (G : Nat) (a0 : Rf) (w : St) : V_X3_isTold l D H0 w0 (f_X3_isTold G a0 w) 0 [(0, lR a0)] [] w := by
  unfold f_X3_isTold
  refine r_aload_n 1 0 dX3_isTold_0 rfl rfl rfl ?_
  refine r_iconst (v := 0) 2 dX3_isTold_1 rfl rfl ?_
  refine r_puti 5 pf_X3_69 dX3_isTold_2 rfl (fun w2 => ?_)
  refine r_aload_n 6 0 dX3_isTold_5 rfl rfl rfl ?_
  refine r_iconst (v := (-1)) 7 dX3_isTold_6 rfl rfl ?_
  refine r_iconst (v := (-1)) 8 dX3_isTold_7 rfl rfl ?_
  refine r_gd (fun hc8 => ?_)
  refine r_callV (n := 2) (as := [lI ((-1)), lI ((-1))]) (rest := []) 11 26 (s_X3_laysMinutes hl G a0 ((-1)) ((-1)) w2) hc8 rfl (lw_V q2390 q2392 qs57 q110 q2393) (by decide +kernel) (by decide) rfl rfl (cat2_nil (k := 0)) rfl dX3_isTold_8 rfl (fun _ w8 => ?_)
  refine r_iconst (v := 1) 12 dX3_isTold_11 rfl rfl ?_
  refine r_istore_n (ls2 := [(1, lI 1), (0, lR a0)]) 13 dX3_isTold_12 rfl (by decide) rfl rfl ?_
  refine r_iconst (v := 0) 14 dX3_isTold_13 rfl rfl ?_
  refine r_istore_n (ls2 := [(2, lI 0), (1, lI 1), (0, lR a0)]) 15 dX3_isTold_14 rfl (by decide) rfl rfl ?_
  exact r_lsP [2, 1, 0] rfl (t_X3_isTold_l15 hl G (fun v1 w => f_X3_isTold_b68 G  v1 w) (fun v1 w => t_X3_isTold_b68 hl G  v1 w) G a0 1 0 w8)
theorem s_X3_isTold {l : Launch} {D : Dn} {H0 : Heap} (hl : l.stackTraces = false) (G : Nat) (a0 : Rf) (w : St) : SimN l D H0 yX3_isTold (ws_ yX3_isTold cX3_isTold 3 (some (.boolean))) 7 163 rvI [lR a0] w (f_X3_isTold G a0 w) := SimX.N (SimX.ofV (y := yX3_isTold) (by decide) rfl (t_X3_isTold hl G a0 w))
abbrev V_X3_append (l : Launch) (D : Dn) (H0 : Heap) (w0 : St) (res : Option (Int32 × St)) (pc : Nat) (ls : List (Nat × LV)) (st : List Value) (w : St) : Prop := V l D H0 RX3 "append" cX3_append 2 (some (.int)) [] 1 25 (fun x => .inr (rvI x)) w0 res pc ls st w
theorem t_X3_append {l : Launch} {D : Dn} {H0 : Heap} {w0 : St} (hl : l.stackTraces = false) (G : Nat) (a0 : Rf) (a1 : Int32) (w : St) : V_X3_append l D H0 w0 (f_X3_append G a0 a1 w) 0 [(0, lR a0), (1, lI a1)] [] w := by
  unfold f_X3_append
  refine r_aload_n 1 0 dX3_append_0 rfl rfl rfl ?_
  refine r_iconst (v := 0) 2 dX3_append_1 rfl rfl ?_
  refine r_puti 5 pf_X3_69 dX3_append_2 rfl (fun w2 => ?_)
  refine r_iload_n 6 1 dX3_append_5 rfl rfl rfl ?_
  refine r_i2l 7 dX3_append_6 rfl ?_
  refine r_ldc2J 10 q2577 dX3_append_7 rfl ?_
  refine r_ldc2J 13 q2578 dX3_append_10 rfl ?_
  refine r_callS (n := 3) (as := [lJ a1.toInt64, lJ 32, lJ 126]) (rest := []) 16 (s_X3_in hl G a1.toInt64 32 126 w2) (lw_S q2290 q2291 q110 q2292) (by decide +kernel) (by decide) rfl rfl (cat2_nil (k := 0)) rfl dX3_append_13 rfl (fun x13 w13 => ?_)
  refine r_if_ne 25 19 dX3_append_16 (by decide) rfl ?_ ?_
  · refine r_aload_n 26 0 dX3_append_25 rfl rfl rfl ?_
    refine r_geti 29 gf_X3_268 dX3_append_26 rfl (fun x26 => ?_)
    refine r_bipush (v := 60) 31 dX3_append_29 rfl rfl ?_
    refine r_icmp_ne 40 34 dX3_append_31 (by decide) rfl ?_ ?_
    · refine r_aload_n 41 0 dX3_append_40 rfl rfl rfl ?_
      refine r_getr 44 gf_X3_26 dX3_append_41 rfl (fun x41 => ?_)
      refine r_aload_n 45 0 dX3_append_44 rfl rfl rfl ?_
      refine r_geti 48 gf_X3_268 dX3_append_45 rfl (fun x45 => ?_)
      refine r_iload_n 49 1 dX3_append_48 rfl rfl rfl ?_
      refine r_iast 50 dX3_append_49 rfl (fun w49 => ?_)
      refine r_aload_n 51 0 dX3_append_50 rfl rfl rfl ?_
      refine r_dup_r 52 dX3_append_51 rfl ?_
      refine r_geti 55 gf_X3_268 dX3_append_52 rfl (fun x52 => ?_)
      refine r_iconst (v := 1) 56 dX3_append_55 rfl rfl ?_
      refine r_iadd 57 dX3_append_56 rfl ?_
      refine r_puti 60 pf_X3_268 dX3_append_57 rfl (fun w57 => ?_)
      refine r_aload_n 61 0 dX3_append_60 rfl rfl rfl ?_
      refine r_geti 64 gf_X3_268 dX3_append_61 rfl (fun x61 => ?_)
      exact r_iret rfl rfl dX3_append_64
    refine r_aload_n 35 0 dX3_append_34 rfl rfl rfl ?_
    refine r_iconst (v := 2) 36 dX3_append_35 rfl rfl ?_
    refine r_gd (fun hc36 => ?_)
    refine r_callV (n := 1) (as := [lI 2]) (rest := []) 39 26 (s_X3_throwing hl G a0 2 w13) hc36 rfl (lw_V q2298 q2300 qs42 q110 q2301) (by decide +kernel) (by decide) rfl rfl (cat2_nil (k := 0)) rfl dX3_append_36 rfl (fun x36 w36 => ?_)
    exact r_iret rfl rfl dX3_append_39
  refine r_aload_n 20 0 dX3_append_19 rfl rfl rfl ?_
  refine r_iconst (v := 1) 21 dX3_append_20 rfl rfl ?_
  refine r_gd (fun hc21 => ?_)
  refine r_callV (n := 1) (as := [lI 1]) (rest := []) 24 26 (s_X3_throwing hl G a0 1 w13) hc21 rfl (lw_V q2298 q2300 qs42 q110 q2301) (by decide +kernel) (by decide) rfl rfl (cat2_nil (k := 0)) rfl dX3_append_21 rfl (fun x21 w21 => ?_)
  exact r_iret rfl rfl dX3_append_24
theorem s_X3_append {l : Launch} {D : Dn} {H0 : Heap} (hl : l.stackTraces = false) (G : Nat) (a0 : Rf) (a1 : Int32) (w : St) : SimN l D H0 yX3_append (ws_ yX3_append cX3_append 2 (some (.int))) 1 25 rvI [lR a0, lI a1] w (f_X3_append G a0 a1 w) := SimX.N (SimX.ofV (y := yX3_append) (by decide) rfl (t_X3_append hl G a0 a1 w))
abbrev V_X3_here (l : Launch) (D : Dn) (H0 : Heap) (w0 : St) (res : Option (Int32 × St)) (pc : Nat) (ls : List (Nat × LV)) (st : List Value) (w : St) : Prop := V l D H0 RX3 "here" cX3_here 1 (some (.int)) [] 0 0 (fun x => .inr (rvI x)) w0 res pc ls st w
theorem t_X3_here {l : Launch} {D : Dn} {H0 : Heap} {w0 : St} (hl : l.stackTraces = false) (G : Nat) (a0 : Rf) (w : St) : V_X3_here l D H0 w0 (f_X3_here G a0 w) 0 [(0, lR a0)] [] w := by
  unfold f_X3_here
  refine r_aload_n 1 0 dX3_here_0 rfl rfl rfl ?_
  refine r_geti 4 gf_X3_271 dX3_here_1 rfl (fun x1 => ?_)
  refine r_aload_n 5 0 dX3_here_4 rfl rfl rfl ?_
  refine r_geti 8 gf_X3_274 dX3_here_5 rfl (fun x5 => ?_)
  refine r_icmp_ge 23 11 dX3_here_8 (by decide) rfl ?_ ?_
  · refine r_iconst (v := (-1)) 24 dX3_here_23 rfl rfl ?_
    exact r_iret rfl rfl dX3_here_24
  refine r_aload_n 12 0 dX3_here_11 rfl rfl rfl ?_
  refine r_getr 15 gf_X3_26 dX3_here_12 rfl (fun x12 => ?_)
  refine r_aload_n 16 0 dX3_here_15 rfl rfl rfl ?_
  refine r_geti 19 gf_X3_271 dX3_here_16 rfl (fun x16 => ?_)
  refine r_iald 20 dX3_here_19 rfl (fun x19 => ?_)
  refine r_goto 24 dX3_here_20 (by decide) ?_
  exact r_iret rfl rfl dX3_here_24
theorem s_X3_here {l : Launch} {D : Dn} {H0 : Heap} (hl : l.stackTraces = false) (G : Nat) (a0 : Rf) (w : St) : SimN l D H0 yX3_here (ws_ yX3_here cX3_here 1 (some (.int))) 0 0 rvI [lR a0] w (f_X3_here G a0 w) := SimX.N (SimX.ofV (y := yX3_here) (by decide) rfl (t_X3_here hl G a0 w))
abbrev V_X3_expects (l : Launch) (D : Dn) (H0 : Heap) (w0 : St) (res : Option (Unit × St)) (pc : Nat) (ls : List (Nat × LV)) (st : List Value) (w : St) : Prop := V l D H0 RX3 "expects" cX3_expects 2 none [] 1 20 (fun x => .inr (rvU x)) w0 res pc ls st w
theorem t_X3_expects_b21 {l : Launch} {D : Dn} {H0 : Heap} {w0 : St} (hl : l.stackTraces = false) (G : Nat) (v0 : Rf) (s0 : Int32) (s1 : Rf) (w : St) : V_X3_expects l D H0 w0 (f_X3_expects_b21 G v0 s0 s1 w) 21 [(0, lR v0)] [.int s0, rf s1] w := by
  unfold f_X3_expects_b21
  refine r_putz 24 pf_X3_277 dX3_expects_21 rfl (fun w21 => ?_)
  refine r_aload_n 25 0 dX3_expects_24 rfl rfl rfl ?_
  refine r_dup_r 26 dX3_expects_25 rfl ?_
  refine r_geti 29 gf_X3_271 dX3_expects_26 rfl (fun x26 => ?_)
  refine r_aload_n 30 0 dX3_expects_29 rfl rfl rfl ?_
  refine r_geti 33 gf_X3_277 dX3_expects_30 rfl (fun x30 => ?_)
  refine r_if_eq 40 36 dX3_expects_33 (by decide) rfl ?_ ?_
  · refine r_iconst (v := 1) 41 dX3_expects_40 rfl rfl ?_
    refine r_iadd 42 dX3_expects_41 rfl ?_
    refine r_puti 45 pf_X3_271 dX3_expects_42 rfl (fun w42 => ?_)
    exact r_vret rfl rfl dX3_expects_45
  refine r_iconst (v := 0) 37 dX3_expects_36 rfl rfl ?_
  refine r_goto 41 dX3_expects_37 (by decide) ?_
  refine r_iadd 42 dX3_expects_41 rfl ?_
  refine r_puti 45 pf_X3_271 dX3_expects_42 rfl (fun w42 => ?_)
  exact r_vret rfl rfl dX3_expects_45
theorem t_X3_expects_b16 {l : Launch} {D : Dn} {H0 : Heap} {w0 : St} (hl : l.stackTraces = false) (G : Nat) (v0 : Rf) (s0 : Rf) (w : St) : V_X3_expects l D H0 w0 (f_X3_expects_b16 G v0 s0 w) 16 [(0, lR v0)] [rf s0] w := by
  unfold f_X3_expects_b16
  refine r_iconst (v := 1) 17 dX3_expects_16 rfl rfl ?_
  refine r_goto 21 dX3_expects_17 (by decide) ?_
  exact r_lsP [0] rfl (t_X3_expects_b21 hl G  v0 1 s0 w)
theorem t_X3_expects {l : Launch} {D : Dn} {H0 : Heap} {w0 : St} (hl : l.stackTraces = false) (G : Nat) (a0 : Rf) (a1 : Int32) (w : St) : V_X3_expects l D H0 w0 (f_X3_expects G a0 a1 w) 0 [(0, lR a0), (1, lI a1)] [] w := by
  unfold f_X3_expects
  refine r_aload_n 1 0 dX3_expects_0 rfl rfl rfl ?_
  refine r_aload_n 2 0 dX3_expects_1 rfl rfl rfl ?_
  refine r_geti 5 gf_X3_277 dX3_expects_2 rfl (fun x2 => ?_)
  refine r_if_ne 16 8 dX3_expects_5 (by decide) rfl ?_ ?_
  · exact r_lsP [0] rfl (t_X3_expects_b16 hl G  a0 a0 w)
  refine r_aload_n 9 0 dX3_expects_8 rfl rfl rfl ?_
  refine r_gd (fun hc9 => ?_)
  refine r_callV (n := 0) (as := []) (rest := [rf a0]) 12 26 (s_X3_here hl G a0 w) hc9 rfl (lw_V q2599 q2601 qs87 q110 q2602) (by decide +kernel) (by decide) rfl rfl (cat2_r (cat2_nil (k := 0))) rfl dX3_expects_9 rfl (fun x9 w9 => ?_)
  refine r_iload_n 13 1 dX3_expects_12 rfl rfl rfl ?_
  refine r_icmp_eq 20 16 dX3_expects_13 (by decide) rfl ?_ ?_
  · refine r_iconst (v := 0) 21 dX3_expects_20 rfl rfl ?_
    exact r_lsP [0] rfl (t_X3_expects_b21 hl G  a0 0 a0 w9)
  exact r_lsP [0] rfl (t_X3_expects_b16 hl G  a0 a0 w9)
theorem s_X3_expects {l : Launch} {D : Dn} {H0 : Heap} (hl : l.stackTraces = false) (G : Nat) (a0 : Rf) (a1 : Int32) (w : St) : SimN l D H0 yX3_expects (ws_ yX3_expects cX3_expects 2 none) 1 20 rvU [lR a0, lI a1] w (f_X3_expects G a0 a1 w) := SimX.N (SimX.ofV (y := yX3_expects) (by decide) rfl (t_X3_expects hl G a0 a1 w))
abbrev V_X3_likeness (l : Launch) (D : Dn) (H0 : Heap) (w0 : St) (res : Option (Int32 × St)) (pc : Nat) (ls : List (Nat × LV)) (st : List Value) (w : St) : Prop := V l D H0 RX3 "likeness" cX3_likeness 4 (some (.int)) [] 0 0 (fun x => .inr (rvI x)) w0 res pc ls st w
theorem t_X3_likeness_l18 {l : Launch} {D : Dn} {H0 : Heap} {w0 : St} (hl : l.stackTraces = false) (G : Nat) (k69 : Int32 → St → Option (Int32 × St)) (h69 : ∀ v2 w, V_X3_likeness l D H0 w0 (k69 v2 w) 69 [(2, lI v2)] [] w) : ∀ (F : Nat) (v0 : Rf) (v1 : Int32) (v2 : Int32) (v3 : Int32) (w : St), V_X3_likeness l D H0 w0 (f_X3_likeness_l18 G k69 F v0 v1 v2 v3 w) 18 [(0, lR v0), (1, lI v1), (2, lI v2), (3, lI v3)] [] w := by
  intro F
  induction F with
  | zero => intros; exact r_none
  | succ F ih =>
    intro v0 v1 v2 v3 w
    unfold f_X3_likeness_l18
    refine r_iload_n 19 2 dX3_likeness_18 rfl rfl rfl ?_
    refine r_iload_n 20 3 dX3_likeness_19 rfl rfl rfl ?_
    refine r_icmp_ge 69 23 dX3_likeness_20 (by decide) rfl ?_ ?_
    · exact r_lsP [2] rfl (h69 v2 w)
    refine r_aload_n 24 0 dX3_likeness_23 rfl rfl rfl ?_
    refine r_geti 27 gf_X3_271 dX3_likeness_24 rfl (fun x24 => ?_)
    refine r_iload_n 28 2 dX3_likeness_27 rfl rfl rfl ?_
    refine r_iadd 29 dX3_likeness_28 rfl ?_
    refine r_aload_n 30 0 dX3_likeness_29 rfl rfl rfl ?_
    refine r_geti 33 gf_X3_274 dX3_likeness_30 rfl (fun x30 => ?_)
    refine r_icmp_ge 69 36 dX3_likeness_33 (by decide) rfl ?_ ?_
    · exact r_lsP [2] rfl (h69 v2 w)
    refine r_aload_n 37 0 dX3_likeness_36 rfl rfl rfl ?_
    refine r_getr 40 gf_X3_26 dX3_likeness_37 rfl (fun x37 => ?_)
    refine r_aload_n 41 0 dX3_likeness_40 rfl rfl rfl ?_
    refine r_geti 44 gf_X3_271 dX3_likeness_41 rfl (fun x41 => ?_)
    refine r_iload_n 45 2 dX3_likeness_44 rfl rfl rfl ?_
    refine r_iadd 46 dX3_likeness_45 rfl ?_
    refine r_iald 47 dX3_likeness_46 rfl (fun x46 => ?_)
    refine r_aload_n 48 0 dX3_likeness_47 rfl rfl rfl ?_
    refine r_getr 51 gf_X3_50 dX3_likeness_48 rfl (fun x48 => ?_)
    refine r_aload_n 52 0 dX3_likeness_51 rfl rfl rfl ?_
    refine r_getr 55 gf_X3_54 dX3_likeness_52 rfl (fun x52 => ?_)
    refine r_iload_n 56 1 dX3_likeness_55 rfl rfl rfl ?_
    refine r_iald 57 dX3_likeness_56 rfl (fun x56 => ?_)
    refine r_iload_n 58 2 dX3_likeness_57 rfl rfl rfl ?_
    refine r_iadd 59 dX3_likeness_58 rfl ?_
    refine r_cald 60 dX3_likeness_59 rfl (fun x59 => ?_)
    refine r_icmp_ne 69 63 dX3_likeness_60 (by decide) rfl ?_ ?_
    · exact r_lsP [2] rfl (h69 v2 w)
    refine r_iinc (v := v2 + 1) (ls2 := [(2, lI (v2 + 1)), (0, lR v0), (1, lI v1), (3, lI v3)]) 66 2 dX3_likeness_63 rfl rfl (by decide) rfl rfl ?_
    refine r_goto 18 dX3_likeness_66 (by decide) ?_
    exact r_lsP [1, 2, 0, 3] rfl (ih v0 v1 (v2 + 1) v3 w)
theorem t_X3_likeness_b69 {l : Launch} {D : Dn} {H0 : Heap} {w0 : St} (hl : l.stackTraces = false) (G : Nat) (v2 : Int32) (w : St) : V_X3_likeness l D H0 w0 (f_X3_likeness_b69 G v2 w) 69 [(2, lI v2)] [] w := by
  unfold f_X3_likeness_b69
  refine r_iload_n 70 0 dX3_likeness_69 rfl rfl rfl ?_
  exact r_iret rfl rfl dX3_likeness_70
theorem t_X3_likeness {l : Launch} {D : Dn} {H0 : Heap} {w0 : St} (hl : l.stackTraces = false) (G : Nat) (a0 : Rf) (a1 : Int32) (w : St) : V_X3_likeness l D H0 w0 (f_X3_likeness G a0 a1 w) 0 [(0, lR a0), (1, lI a1)] [] w := by
  unfold f_X3_likeness
  refine r_iconst (v := 0) 1 dX3_likeness_0 rfl rfl ?_
  refine r_istore_n (ls2 := [(2, lI 0), (0, lR a0), (1, lI a1)]) 2 dX3_likeness_1 rfl (by decide) rfl rfl ?_
  refine r_aload_n 3 1 dX3_likeness_2 rfl rfl rfl ?_
  refine r_getr 6 gf_X3_54 dX3_likeness_3 rfl (fun x3 => ?_)
  refine r_iload_n 7 2 dX3_likeness_6 rfl rfl rfl ?_
  refine r_iconst (v := 1) 8 dX3_likeness_7 rfl rfl ?_
  refine r_iadd 9 dX3_likeness_8 rfl ?_
  refine r_iald 10 dX3_likeness_9 rfl (fun x9 => ?_)
  refine r_aload_n 11 1 dX3_likeness_10 rfl rfl rfl ?_
  refine r_getr 14 gf_X3_54 dX3_likeness_11 rfl (fun x11 => ?_)
  refine r_iload_n 15 2 dX3_likeness_14 rfl rfl rfl ?_
  refine r_iald 16 dX3_likeness_15 rfl (fun x15 => ?_)
  refine r_isub 17 dX3_likeness_16 rfl ?_
  refine r_istore_n (ls2 := [(3, lI (x9 - x15)), (2, lI 0), (0, lR a0), (1, lI a1)]) 18 dX3_likeness_17 rfl (by decide) rfl rfl ?_
  exact r_lsP [2, 3, 1, 0] rfl (t_X3_likeness_l18 hl G (fun v2 w => f_X3_likeness_b69 G  v2 w) (fun v2 w => t_X3_likeness_b69 hl G  v2 w) G a0 a1 0 (x9 - x15) w)
theorem s_X3_likeness {l : Launch} {D : Dn} {H0 : Heap} (hl : l.stackTraces = false) (G : Nat) (a0 : Rf) (a1 : Int32) (w : St) : SimN l D H0 yX3_likeness (ws_ yX3_likeness cX3_likeness 4 (some (.int))) 0 0 rvI [lR a0, lI a1] w (f_X3_likeness G a0 a1 w) := SimX.N (SimX.ofV (y := yX3_likeness) (by decide) rfl (t_X3_likeness hl G a0 a1 w))
abbrev V_X3_digit (l : Launch) (D : Dn) (H0 : Heap) (w0 : St) (res : Option (Int32 × St)) (pc : Nat) (ls : List (Nat × LV)) (st : List Value) (w : St) : Prop := V l D H0 RX3 "digit" cX3_digit 2 (some (.int)) [] 1 25 (fun x => .inr (rvI x)) w0 res pc ls st w
theorem t_X3_digit_b51 {l : Launch} {D : Dn} {H0 : Heap} {w0 : St} (hl : l.stackTraces = false) (G : Nat) (v0 : Rf) (s0 : Int32) (w : St) : V_X3_digit l D H0 w0 (f_X3_digit_b51 G v0 s0 w) 51 [(0, lR v0)] [.int s0] w := by
  unfold f_X3_digit_b51
  refine r_istore_n (ls2 := [(1, lI s0), (0, lR v0)]) 52 dX3_digit_51 rfl (by decide) rfl rfl ?_
  refine r_aload_n 53 1 dX3_digit_52 rfl rfl rfl ?_
  refine r_dup_r 54 dX3_digit_53 rfl ?_
  refine r_geti 57 gf_X3_271 dX3_digit_54 rfl (fun x54 => ?_)
  refine r_aload_n 58 1 dX3_digit_57 rfl rfl rfl ?_
  refine r_geti 61 gf_X3_277 dX3_digit_58 rfl (fun x58 => ?_)
  refine r_if_eq 68 64 dX3_digit_61 (by decide) rfl ?_ ?_
  · refine r_iconst (v := 1) 69 dX3_digit_68 rfl rfl ?_
    refine r_iadd 70 dX3_digit_69 rfl ?_
    refine r_puti 73 pf_X3_271 dX3_digit_70 rfl (fun w70 => ?_)
    refine r_iload_n 74 0 dX3_digit_73 rfl rfl rfl ?_
    exact r_iret rfl rfl dX3_digit_74
  refine r_iconst (v := 0) 65 dX3_digit_64 rfl rfl ?_
  refine r_goto 69 dX3_digit_65 (by decide) ?_
  refine r_iadd 70 dX3_digit_69 rfl ?_
  refine r_puti 73 pf_X3_271 dX3_digit_70 rfl (fun w70 => ?_)
  refine r_iload_n 74 0 dX3_digit_73 rfl rfl rfl ?_
  exact r_iret rfl rfl dX3_digit_74
theorem t_X3_digit_b30 {l : Launch} {D : Dn} {H0 : Heap} {w0 : St} (hl : l.stackTraces = false) (G : Nat) (v0 : Rf) (s0 : Int32) (s1 : Rf) (w : St) : V_X3_digit l D H0 w0 (f_X3_digit_b30 G v0 s0 s1 w) 30 [(0, lR v0)] [.int s0, rf s1] w := by
  unfold f_X3_digit_b30
  refine r_putz 33 pf_X3_277 dX3_digit_30 rfl (fun w30 => ?_)
  refine r_aload_n 34 0 dX3_digit_33 rfl rfl rfl ?_
  refine r_geti 37 gf_X3_277 dX3_digit_34 rfl (fun x34 => ?_)
  refine r_if_eq 44 40 dX3_digit_37 (by decide) rfl ?_ ?_
  · refine r_aload_n 45 0 dX3_digit_44 rfl rfl rfl ?_
    refine r_gd (fun hc45 => ?_)
    refine r_callV (n := 0) (as := []) (rest := []) 48 26 (s_X3_here hl G v0 w30) hc45 rfl (lw_V q2599 q2601 qs87 q110 q2602) (by decide +kernel) (by decide) rfl rfl (cat2_nil (k := 0)) rfl dX3_digit_45 rfl (fun x45 w45 => ?_)
    refine r_bipush (v := 48) 50 dX3_digit_48 rfl rfl ?_
    refine r_isub 51 dX3_digit_50 rfl ?_
    exact r_lsP [0] rfl (t_X3_digit_b51 hl G  v0 (x45 - 48) w45)
  refine r_iconst (v := 0) 41 dX3_digit_40 rfl rfl ?_
  refine r_goto 51 dX3_digit_41 (by decide) ?_
  exact r_lsP [0] rfl (t_X3_digit_b51 hl G  v0 0 w30)
theorem t_X3_digit_b25 {l : Launch} {D : Dn} {H0 : Heap} {w0 : St} (hl : l.stackTraces = false) (G : Nat) (v0 : Rf) (s0 : Rf) (w : St) : V_X3_digit l D H0 w0 (f_X3_digit_b25 G v0 s0 w) 25 [(0, lR v0)] [rf s0] w := by
  unfold f_X3_digit_b25
  refine r_iconst (v := 1) 26 dX3_digit_25 rfl rfl ?_
  refine r_goto 30 dX3_digit_26 (by decide) ?_
  exact r_lsP [0] rfl (t_X3_digit_b30 hl G  v0 1 s0 w)
theorem t_X3_digit {l : Launch} {D : Dn} {H0 : Heap} {w0 : St} (hl : l.stackTraces = false) (G : Nat) (a0 : Rf) (w : St) : V_X3_digit l D H0 w0 (f_X3_digit G a0 w) 0 [(0, lR a0)] [] w := by
  unfold f_X3_digit
  refine r_aload_n 1 0 dX3_digit_0 rfl rfl rfl ?_
  refine r_aload_n 2 0 dX3_digit_1 rfl rfl rfl ?_
  refine r_geti 5 gf_X3_277 dX3_digit_2 rfl (fun x2 => ?_)
  refine r_if_ne 25 8 dX3_digit_5 (by decide) rfl ?_ ?_
  · exact r_lsP [0] rfl (t_X3_digit_b25 hl G  a0 a0 w)
  refine r_aload_n 9 0 dX3_digit_8 rfl rfl rfl ?_
  refine r_gd (fun hc9 => ?_)
  refine r_callV (n := 0) (as := []) (rest := [rf a0]) 12 26 (s_X3_here hl G a0 w) hc9 rfl (lw_V q2599 q2601 qs87 q110 q2602) (by decide +kernel) (by decide) rfl rfl (cat2_r (cat2_nil (k := 0))) rfl dX3_digit_9 rfl (fun x9 w9 => ?_)
  refine r_i2l 13 dX3_digit_12 rfl ?_
  refine r_ldc2J 16 q2607 dX3_digit_13 rfl ?_
  refine r_ldc2J 19 q2608 dX3_digit_16 rfl ?_
  refine r_callS (n := 3) (as := [lJ x9.toInt64, lJ 48, lJ 57]) (rest := [rf a0]) 22 (s_X3_in hl G x9.toInt64 48 57 w9) (lw_S q2290 q2291 q110 q2292) (by decide +kernel) (by decide) rfl rfl (cat2_r (cat2_nil (k := 0))) rfl dX3_digit_19 rfl (fun x19 w19 => ?_)
  refine r_if_ne 29 25 dX3_digit_22 (by decide) rfl ?_ ?_
  · refine r_iconst (v := 0) 30 dX3_digit_29 rfl rfl ?_
    exact r_lsP [0] rfl (t_X3_digit_b30 hl G  a0 0 a0 w19)
  exact r_lsP [0] rfl (t_X3_digit_b25 hl G  a0 a0 w19)
theorem s_X3_digit {l : Launch} {D : Dn} {H0 : Heap} (hl : l.stackTraces = false) (G : Nat) (a0 : Rf) (w : St) : SimN l D H0 yX3_digit (ws_ yX3_digit cX3_digit 2 (some (.int))) 1 25 rvI [lR a0] w (f_X3_digit G a0 w) := SimX.N (SimX.ofV (y := yX3_digit) (by decide) rfl (t_X3_digit hl G a0 w))
abbrev V_X3_digitBehind (l : Launch) (D : Dn) (H0 : Heap) (w0 : St) (res : Option (Int32 × St)) (pc : Nat) (ls : List (Nat × LV)) (st : List Value) (w : St) : Prop := V l D H0 RX3 "digitBehind" cX3_digitBehind 1 (some (.int)) [] 2 46 (fun x => .inr (rvI x)) w0 res pc ls st w
theorem t_X3_digitBehind {l : Launch} {D : Dn} {H0 : Heap} {w0 : St} (hl : l.stackTraces = false) (G : Nat) (a0 : Rf) (w : St) : V_X3_digitBehind l D H0 w0 (f_X3_digitBehind G a0 w) 0 [(0, lR a0)] [] w := by
  unfold f_X3_digitBehind
  refine r_aload_n 1 0 dX3_digitBehind_0 rfl rfl rfl ?_
  refine r_bipush (v := 32) 3 dX3_digitBehind_1 rfl rfl ?_
  refine r_gd (fun hc3 => ?_)
  refine r_callV (n := 1) (as := [lI 32]) (rest := []) 6 26 (s_X3_expects hl G a0 32 w) hc3 rfl (lw_V q2595 q2597 qs86 q110 q2598) (by decide +kernel) (by decide) rfl rfl (cat2_nil (k := 0)) rfl dX3_digitBehind_3 rfl (fun _ w3 => ?_)
  refine r_aload_n 7 0 dX3_digitBehind_6 rfl rfl rfl ?_
  refine r_gd (fun hc7 => ?_)
  refine r_callV (n := 0) (as := []) (rest := []) 10 26 (s_X3_digit hl G a0 w3) hc7 rfl (lw_V q2603 q2605 qs88 q110 q2606) (by decide +kernel) (by decide) rfl rfl (cat2_nil (k := 0)) rfl dX3_digitBehind_7 rfl (fun x7 w7 => ?_)
  exact r_iret rfl rfl dX3_digitBehind_10
theorem s_X3_digitBehind {l : Launch} {D : Dn} {H0 : Heap} (hl : l.stackTraces = false) (G : Nat) (a0 : Rf) (w : St) : SimN l D H0 yX3_digitBehind (ws_ yX3_digitBehind cX3_digitBehind 1 (some (.int))) 2 46 rvI [lR a0] w (f_X3_digitBehind G a0 w) := SimX.N (SimX.ofV (y := yX3_digitBehind) (by decide) rfl (t_X3_digitBehind hl G a0 w))
abbrev V_X3_numberBehind (l : Launch) (D : Dn) (H0 : Heap) (w0 : St) (res : Option (Int32 × St)) (pc : Nat) (ls : List (Nat × LV)) (st : List Value) (w : St) : Prop := V l D H0 RX3 "numberBehind" cX3_numberBehind 3 (some (.int)) [] 3 66 (fun x => .inr (rvI x)) w0 res pc ls st w
theorem t_X3_numberBehind_l7 {l : Launch} {D : Dn} {H0 : Heap} {w0 : St} (hl : l.stackTraces = false) (G : Nat) (k52 : Int32 → St → Option (Int32 × St)) (h52 : ∀ v1 w, V_X3_numberBehind l D H0 w0 (k52 v1 w) 52 [(1, lI v1)] [] w) : ∀ (F : Nat) (v0 : Rf) (v1 : Int32) (v2 : Int32) (w : St), V_X3_numberBehind l D H0 w0 (f_X3_numberBehind_l7 G k52 F v0 v1 v2 w) 7 [(0, lR v0), (1, lI v1), (2, lI v2)] [] w := by
  intro F
  induction F with
  | zero => intros; exact r_none
  | succ F ih =>
    intro v0 v1 v2 w
    unfold f_X3_numberBehind_l7
    refine r_iload_n 8 2 dX3_numberBehind_7 rfl rfl rfl ?_
    refine r_iconst (v := 3) 9 dX3_numberBehind_8 rfl rfl ?_
    refine r_icmp_ge 52 12 dX3_numberBehind_9 (by decide) rfl ?_ ?_
    · exact r_lsP [1] rfl (h52 v1 w)
    refine r_aload_n 13 0 dX3_numberBehind_12 rfl rfl rfl ?_
    refine r_geti 16 gf_X3_277 dX3_numberBehind_13 rfl (fun x13 => ?_)
    refine r_if_ne 52 19 dX3_numberBehind_16 (by decide) rfl ?_ ?_
    · exact r_lsP [1] rfl (h52 v1 w)
    refine r_aload_n 20 0 dX3_numberBehind_19 rfl rfl rfl ?_
    refine r_gd (fun hc20 => ?_)
    refine r_callV (n := 0) (as := []) (rest := []) 23 26 (s_X3_here hl G v0 w) hc20 rfl (lw_V q2599 q2601 qs87 q110 q2602) (by decide +kernel) (by decide) rfl rfl (cat2_nil (k := 0)) rfl dX3_numberBehind_20 rfl (fun x20 w20 => ?_)
    refine r_i2l 24 dX3_numberBehind_23 rfl ?_
    refine r_ldc2J 27 q2607 dX3_numberBehind_24 rfl ?_
    refine r_ldc2J 30 q2608 dX3_numberBehind_27 rfl ?_
    refine r_callS (n := 3) (as := [lJ x20.toInt64, lJ 48, lJ 57]) (rest := []) 33 (s_X3_in hl G x20.toInt64 48 57 w20) (lw_S q2290 q2291 q110 q2292) (by decide +kernel) (by decide) rfl rfl (cat2_nil (k := 0)) rfl dX3_numberBehind_30 rfl (fun x30 w30 => ?_)
    refine r_if_eq 52 36 dX3_numberBehind_33 (by decide) rfl ?_ ?_
    · exact r_lsP [1] rfl (h52 v1 w30)
    refine r_bipush (v := 10) 38 dX3_numberBehind_36 rfl rfl ?_
    refine r_iload_n 39 1 dX3_numberBehind_38 rfl rfl rfl ?_
    refine r_imul 40 dX3_numberBehind_39 rfl ?_
    refine r_aload_n 41 0 dX3_numberBehind_40 rfl rfl rfl ?_
    refine r_gd (fun hc41 => ?_)
    refine r_callV (n := 0) (as := []) (rest := [.int (10 * v1)]) 44 26 (s_X3_digit hl G v0 w30) hc41 rfl (lw_V q2603 q2605 qs88 q110 q2606) (by decide +kernel) (by decide) rfl rfl (cat2_i (cat2_nil (k := 0))) rfl dX3_numberBehind_41 rfl (fun x41 w41 => ?_)
    refine r_iadd 45 dX3_numberBehind_44 rfl ?_
    refine r_istore_n (ls2 := [(1, lI ((10 * v1) + x41)), (0, lR v0), (2, lI v2)]) 46 dX3_numberBehind_45 rfl (by decide) rfl rfl ?_
    refine r_iinc (v := v2 + 1) (ls2 := [(2, lI (v2 + 1)), (1, lI ((10 * v1) + x41)), (0, lR v0)]) 49 2 dX3_numberBehind_46 rfl rfl (by decide) rfl rfl ?_
    refine r_goto 7 dX3_numberBehind_49 (by decide) ?_
    exact r_lsP [2, 1, 0] rfl (ih v0 ((10 * v1) + x41) (v2 + 1) w41)
theorem t_X3_numberBehind_b52 {l : Launch} {D : Dn} {H0 : Heap} {w0 : St} (hl : l.stackTraces = false) (G : Nat) (v1 : Int32) (w : St) : V_X3_numberBehind l D H0 w0 (f_X3_numberBehind_b52 G v1 w) 52 [(1, lI v1)] [] w := by
  unfold f_X3_numberBehind_b52
  refine r_iload_n 53 0 dX3_numberBehind_52 rfl rfl rfl ?_
  exact r_iret rfl rfl dX3_numberBehind_53
theorem t_X3_numberBehind {l : Launch} {D : Dn} {H0 : Heap} {w0 : St} (hl : l.stackTraces = false) (G : Nat) (a0 : Rf) (w : St) : V_X3_numberBehind l D H0 w0 (f_X3_numberBehind G a0 w) 0 [(0, lR a0)] [] w := by
  unfold f_X3_numberBehind
  refine r_aload_n 1 0 dX3_numberBehind_0 rfl rfl rfl ?_
  refine r_gd (fun hc1 => ?_)
  refine r_callV (n := 0) (as := []) (rest := []) 4 26 (s_X3_digitBehind hl G a0 w) hc1 rfl (lw_V q2591 q2593 qs85 q110 q2594) (by decide +kernel) (by decide) rfl rfl (cat2_nil (k := 0)) rfl dX3_numberBehind_1 rfl (fun x1 w1 => ?_)
  refine r_istore_n (ls2 := [(1, lI x1), (0, lR a0)]) 5 dX3_numberBehind_4 rfl (by decide) rfl rfl ?_
  refine r_iconst (v := 1) 6 dX3_numberBehind_5 rfl rfl ?_
  refine r_istore_n (ls2 := [(2, lI 1), (1, lI x1), (0, lR a0)]) 7 dX3_numberBehind_6 rfl (by decide) rfl rfl ?_
  exact r_lsP [2, 1, 0] rfl (t_X3_numberBehind_l7 hl G (fun v1 w => f_X3_numberBehind_b52 G  v1 w) (fun v1 w => t_X3_numberBehind_b52 hl G  v1 w) G a0 x1 1 w1)
theorem s_X3_numberBehind {l : Launch} {D : Dn} {H0 : Heap} (hl : l.stackTraces = false) (G : Nat) (a0 : Rf) (w : St) : SimN l D H0 yX3_numberBehind (ws_ yX3_numberBehind cX3_numberBehind 3 (some (.int))) 3 66 rvI [lR a0] w (f_X3_numberBehind G a0 w) := SimX.N (SimX.ofV (y := yX3_numberBehind) (by decide) rfl (t_X3_numberBehind hl G a0 w))
abbrev V_X3_sortHere (l : Launch) (D : Dn) (H0 : Heap) (w0 : St) (res : Option (Int32 × St)) (pc : Nat) (ls : List (Nat × LV)) (st : List Value) (w : St) : Prop := V l D H0 RX3 "sortHere" cX3_sortHere 2 (some (.int)) [] 1 20 (fun x => .inr (rvI x)) w0 res pc ls st w
theorem t_X3_sortHere_b55 {l : Launch} {D : Dn} {H0 : Heap} {w0 : St} (hl : l.stackTraces = false) (G : Nat) (v0 : Rf) (s0 : Int32) (w : St) : V_X3_sortHere l D H0 w0 (f_X3_sortHere_b55 G v0 s0 w) 55 [(0, lR v0)] [.int s0] w := by
  unfold f_X3_sortHere_b55
  refine r_istore_n (ls2 := [(1, lI s0), (0, lR v0)]) 56 dX3_sortHere_55 rfl (by decide) rfl rfl ?_
  refine r_aload_n 57 1 dX3_sortHere_56 rfl rfl rfl ?_
  refine r_dup_r 58 dX3_sortHere_57 rfl ?_
  refine r_geti 61 gf_X3_271 dX3_sortHere_58 rfl (fun x58 => ?_)
  refine r_aload_n 62 1 dX3_sortHere_61 rfl rfl rfl ?_
  refine r_geti 65 gf_X3_277 dX3_sortHere_62 rfl (fun x62 => ?_)
  refine r_if_eq 72 68 dX3_sortHere_65 (by decide) rfl ?_ ?_
  · refine r_iconst (v := 1) 73 dX3_sortHere_72 rfl rfl ?_
    refine r_iadd 74 dX3_sortHere_73 rfl ?_
    refine r_puti 77 pf_X3_271 dX3_sortHere_74 rfl (fun w74 => ?_)
    refine r_iload_n 78 0 dX3_sortHere_77 rfl rfl rfl ?_
    exact r_iret rfl rfl dX3_sortHere_78
  refine r_iconst (v := 0) 69 dX3_sortHere_68 rfl rfl ?_
  refine r_goto 73 dX3_sortHere_69 (by decide) ?_
  refine r_iadd 74 dX3_sortHere_73 rfl ?_
  refine r_puti 77 pf_X3_271 dX3_sortHere_74 rfl (fun w74 => ?_)
  refine r_iload_n 78 0 dX3_sortHere_77 rfl rfl rfl ?_
  exact r_iret rfl rfl dX3_sortHere_78
theorem t_X3_sortHere_b54 {l : Launch} {D : Dn} {H0 : Heap} {w0 : St} (hl : l.stackTraces = false) (G : Nat) (v0 : Rf) (w : St) : V_X3_sortHere l D H0 w0 (f_X3_sortHere_b54 G v0 w) 54 [(0, lR v0)] [] w := by
  unfold f_X3_sortHere_b54
  refine r_iconst (v := 0) 55 dX3_sortHere_54 rfl rfl ?_
  exact r_lsP [0] rfl (t_X3_sortHere_b55 hl G  v0 0 w)
theorem t_X3_sortHere_b31 {l : Launch} {D : Dn} {H0 : Heap} {w0 : St} (hl : l.stackTraces = false) (G : Nat) (v0 : Rf) (s0 : Int32) (s1 : Rf) (w : St) : V_X3_sortHere l D H0 w0 (f_X3_sortHere_b31 G v0 s0 s1 w) 31 [(0, lR v0)] [.int s0, rf s1] w := by
  unfold f_X3_sortHere_b31
  refine r_putz 34 pf_X3_277 dX3_sortHere_31 rfl (fun w31 => ?_)
  refine r_aload_n 35 0 dX3_sortHere_34 rfl rfl rfl ?_
  refine r_geti 38 gf_X3_277 dX3_sortHere_35 rfl (fun x35 => ?_)
  refine r_if_ne 54 41 dX3_sortHere_38 (by decide) rfl ?_ ?_
  · exact r_lsP [0] rfl (t_X3_sortHere_b54 hl G  v0 w31)
  refine r_aload_n 42 0 dX3_sortHere_41 rfl rfl rfl ?_
  refine r_gd (fun hc42 => ?_)
  refine r_callV (n := 0) (as := []) (rest := []) 45 26 (s_X3_here hl G v0 w31) hc42 rfl (lw_V q2599 q2601 qs87 q110 q2602) (by decide +kernel) (by decide) rfl rfl (cat2_nil (k := 0)) rfl dX3_sortHere_42 rfl (fun x42 w42 => ?_)
  refine r_bipush (v := 100) 47 dX3_sortHere_45 rfl rfl ?_
  refine r_icmp_ne 54 50 dX3_sortHere_47 (by decide) rfl ?_ ?_
  · exact r_lsP [0] rfl (t_X3_sortHere_b54 hl G  v0 w42)
  refine r_iconst (v := 1) 51 dX3_sortHere_50 rfl rfl ?_
  refine r_goto 55 dX3_sortHere_51 (by decide) ?_
  exact r_lsP [0] rfl (t_X3_sortHere_b55 hl G  v0 1 w42)
theorem t_X3_sortHere_b26 {l : Launch} {D : Dn} {H0 : Heap} {w0 : St} (hl : l.stackTraces = false) (G : Nat) (v0 : Rf) (s0 : Rf) (w : St) : V_X3_sortHere l D H0 w0 (f_X3_sortHere_b26 G v0 s0 w) 26 [(0, lR v0)] [rf s0] w := by
  unfold f_X3_sortHere_b26
  refine r_iconst (v := 1) 27 dX3_sortHere_26 rfl rfl ?_
  refine r_goto 31 dX3_sortHere_27 (by decide) ?_
  exact r_lsP [0] rfl (t_X3_sortHere_b31 hl G  v0 1 s0 w)
theorem t_X3_sortHere_b30 {l : Launch} {D : Dn} {H0 : Heap} {w0 : St} (hl : l.stackTraces = false) (G : Nat) (v0 : Rf) (s0 : Rf) (w : St) : V_X3_sortHere l D H0 w0 (f_X3_sortHere_b30 G v0 s0 w) 30 [(0, lR v0)] [rf s0] w := by
  unfold f_X3_sortHere_b30
  refine r_iconst (v := 0) 31 dX3_sortHere_30 rfl rfl ?_
  exact r_lsP [0] rfl (t_X3_sortHere_b31 hl G  v0 0 s0 w)
theorem t_X3_sortHere {l : Launch} {D : Dn} {H0 : Heap} {w0 : St} (hl : l.stackTraces = false) (G : Nat) (a0 : Rf) (w : St) : V_X3_sortHere l D H0 w0 (f_X3_sortHere G a0 w) 0 [(0, lR a0)] [] w := by
  unfold f_X3_sortHere
  refine r_aload_n 1 0 dX3_sortHere_0 rfl rfl rfl ?_
  refine r_aload_n 2 0 dX3_sortHere_1 rfl rfl rfl ?_
  refine r_geti 5 gf_X3_277 dX3_sortHere_2 rfl (fun x2 => ?_)
  refine r_if_ne 26 8 dX3_sortHere_5 (by decide) rfl ?_ ?_
  · exact r_lsP [0] rfl (t_X3_sortHere_b26 hl G  a0 a0 w)
  refine r_aload_n 9 0 dX3_sortHere_8 rfl rfl rfl ?_
  refine r_gd (fun hc9 => ?_)
  refine r_callV (n := 0) (as := []) (rest := [rf a0]) 12 26 (s_X3_here hl G a0 w) hc9 rfl (lw_V q2599 q2601 qs87 q110 q2602) (by decide +kernel) (by decide) rfl rfl (cat2_r (cat2_nil (k := 0))) rfl dX3_sortHere_9 rfl (fun x9 w9 => ?_)
  refine r_bipush (v := 97) 14 dX3_sortHere_12 rfl rfl ?_
  refine r_icmp_eq 30 17 dX3_sortHere_14 (by decide) rfl ?_ ?_
  · exact r_lsP [0] rfl (t_X3_sortHere_b30 hl G  a0 a0 w9)
  refine r_aload_n 18 0 dX3_sortHere_17 rfl rfl rfl ?_
  refine r_gd (fun hc18 => ?_)
  refine r_callV (n := 0) (as := []) (rest := [rf a0]) 21 26 (s_X3_here hl G a0 w9) hc18 rfl (lw_V q2599 q2601 qs87 q110 q2602) (by decide +kernel) (by decide) rfl rfl (cat2_r (cat2_nil (k := 0))) rfl dX3_sortHere_18 rfl (fun x18 w18 => ?_)
  refine r_bipush (v := 100) 23 dX3_sortHere_21 rfl rfl ?_
  refine r_icmp_eq 30 26 dX3_sortHere_23 (by decide) rfl ?_ ?_
  · exact r_lsP [0] rfl (t_X3_sortHere_b30 hl G  a0 a0 w18)
  exact r_lsP [0] rfl (t_X3_sortHere_b26 hl G  a0 a0 w18)
theorem s_X3_sortHere {l : Launch} {D : Dn} {H0 : Heap} (hl : l.stackTraces = false) (G : Nat) (a0 : Rf) (w : St) : SimN l D H0 yX3_sortHere (ws_ yX3_sortHere cX3_sortHere 2 (some (.int))) 1 20 rvI [lR a0] w (f_X3_sortHere G a0 w) := SimX.N (SimX.ofV (y := yX3_sortHere) (by decide) rfl (t_X3_sortHere hl G a0 w))
abbrev V_X3_readOrder (l : Launch) (D : Dn) (H0 : Heap) (w0 : St) (res : Option (Unit × St)) (pc : Nat) (ls : List (Nat × LV)) (st : List Value) (w : St) : Prop := V l D H0 RX3 "readOrder" cX3_readOrder 5 none [] 4 88 (fun x => .inr (rvU x)) w0 res pc ls st w
theorem t_X3_readOrder_b36 {l : Launch} {D : Dn} {H0 : Heap} {w0 : St} (hl : l.stackTraces = false) (G : Nat) (k12 : Rf → Int32 → Int32 → Int32 → St → Option (Unit × St)) (h12 : ∀ v0 v1 v2 v3 w, V_X3_readOrder l D H0 w0 (k12 v0 v1 v2 v3 w) 12 [(0, lR v0), (1, lI v1), (2, lI v2), (3, lI v3)] [] w) (v0 : Rf) (v1 : Int32) (v3 : Int32) (s0 : Int32) (w : St) : V_X3_readOrder l D H0 w0 (f_X3_readOrder_b36 G k12 v0 v1 v3 s0 w) 36 [(0, lR v0), (1, lI v1), (3, lI v3)] [.int s0] w := by
  unfold f_X3_readOrder_b36
  refine r_istore_n (ls2 := [(2, lI s0), (0, lR v0), (1, lI v1), (3, lI v3)]) 37 dX3_readOrder_36 rfl (by decide) rfl rfl ?_
  refine r_iinc (v := v3 + 1) (ls2 := [(3, lI (v3 + 1)), (2, lI s0), (0, lR v0), (1, lI v1)]) 40 3 dX3_readOrder_37 rfl rfl (by decide) rfl rfl ?_
  refine r_goto 12 dX3_readOrder_40 (by decide) ?_
  exact r_lsP [2, 3, 1, 0] rfl (h12 v0 v1 s0 (v3 + 1) w)
theorem t_X3_readOrder_l12 {l : Launch} {D : Dn} {H0 : Heap} {w0 : St} (hl : l.stackTraces = false) (G : Nat) (k43 : Rf → Int32 → Int32 → St → Option (Unit × St)) (h43 : ∀ v0 v1 v2 w, V_X3_readOrder l D H0 w0 (k43 v0 v1 v2 w) 43 [(0, lR v0), (1, lI v1), (2, lI v2)] [] w) : ∀ (F : Nat) (v0 : Rf) (v1 : Int32) (v2 : Int32) (v3 : Int32) (w : St), V_X3_readOrder l D H0 w0 (f_X3_readOrder_l12 G k43 F v0 v1 v2 v3 w) 12 [(0, lR v0), (1, lI v1), (2, lI v2), (3, lI v3)] [] w := by
  intro F
  induction F with
  | zero => intros; exact r_none
  | succ F ih =>
    intro v0 v1 v2 v3 w
    unfold f_X3_readOrder_l12
    refine r_iload_n 13 3 dX3_readOrder_12 rfl rfl rfl ?_
    refine r_bipush (v := 7) 15 dX3_readOrder_13 rfl rfl ?_
    refine r_icmp_ge 43 18 dX3_readOrder_15 (by decide) rfl ?_ ?_
    · exact r_lsP [0, 1, 2] rfl (h43 v0 v1 v2 w)
    refine r_aload_n 19 0 dX3_readOrder_18 rfl rfl rfl ?_
    refine r_iload_n 20 3 dX3_readOrder_19 rfl rfl rfl ?_
    refine r_gd (fun hc20 => ?_)
    refine r_callV (n := 1) (as := [lI v3]) (rest := []) 23 26 (s_X3_likeness hl G v0 v3 w) hc20 rfl (lw_V q2587 q2589 qs84 q110 q2590) (by decide +kernel) (by decide) rfl rfl (cat2_nil (k := 0)) rfl dX3_readOrder_20 rfl (fun x20 w20 => ?_)
    refine r_aload_n 24 0 dX3_readOrder_23 rfl rfl rfl ?_
    refine r_iload_n 25 2 dX3_readOrder_24 rfl rfl rfl ?_
    refine r_gd (fun hc25 => ?_)
    refine r_callV (n := 1) (as := [lI v2]) (rest := [.int x20]) 28 26 (s_X3_likeness hl G v0 v2 w20) hc25 rfl (lw_V q2587 q2589 qs84 q110 q2590) (by decide +kernel) (by decide) rfl rfl (cat2_i (cat2_nil (k := 0))) rfl dX3_readOrder_25 rfl (fun x25 w25 => ?_)
    refine r_icmp_le 35 31 dX3_readOrder_28 (by decide) rfl ?_ ?_
    · refine r_iload_n 36 2 dX3_readOrder_35 rfl rfl rfl ?_
      exact r_lsP [0, 1, 3] rfl (t_X3_readOrder_b36 hl G (fun v0 v1 v2 v3 w => f_X3_readOrder_l12 G k43 F v0 v1 v2 v3 w) (fun v0 v1 v2 v3 w => ih v0 v1 v2 v3 w)  v0 v1 v3 v2 w25)
    refine r_iload_n 32 3 dX3_readOrder_31 rfl rfl rfl ?_
    refine r_goto 36 dX3_readOrder_32 (by decide) ?_
    exact r_lsP [0, 1, 3] rfl (t_X3_readOrder_b36 hl G (fun v0 v1 v2 v3 w => f_X3_readOrder_l12 G k43 F v0 v1 v2 v3 w) (fun v0 v1 v2 v3 w => ih v0 v1 v2 v3 w)  v0 v1 v3 v3 w25)
theorem t_X3_readOrder_l115 {l : Launch} {D : Dn} {H0 : Heap} {w0 : St} (hl : l.stackTraces = false) (G : Nat) (k147 : Rf → Int32 → Int32 → St → Option (Unit × St)) (h147 : ∀ v0 v1 v2 w, V_X3_readOrder l D H0 w0 (k147 v0 v1 v2 w) 147 [(0, lR v0), (1, lI v1), (2, lI v2)] [] w) : ∀ (F : Nat) (v0 : Rf) (v1 : Int32) (v2 : Int32) (v4 : Int32) (w : St), V_X3_readOrder l D H0 w0 (f_X3_readOrder_l115 G k147 F v0 v1 v2 v4 w) 115 [(0, lR v0), (1, lI v1), (2, lI v2), (4, lI v4)] [] w := by
  intro F
  induction F with
  | zero => intros; exact r_none
  | succ F ih =>
    intro v0 v1 v2 v4 w
    unfold f_X3_readOrder_l115
    refine r_iload 117 3 dX3_readOrder_115 rfl rfl ?_
    refine r_aload_n 118 0 dX3_readOrder_117 rfl rfl rfl ?_
    refine r_getr 121 gf_X3_57 dX3_readOrder_118 rfl (fun x118 => ?_)
    refine r_iload_n 122 2 dX3_readOrder_121 rfl rfl rfl ?_
    refine r_iald 123 dX3_readOrder_122 rfl (fun x122 => ?_)
    refine r_icmp_ge 147 126 dX3_readOrder_123 (by decide) rfl ?_ ?_
    · exact r_lsP [0, 1, 2] rfl (h147 v0 v1 v2 w)
    refine r_aload_n 127 0 dX3_readOrder_126 rfl rfl rfl ?_
    refine r_getr 130 gf_X3_63 dX3_readOrder_127 rfl (fun x127 => ?_)
    refine r_iload_n 131 1 dX3_readOrder_130 rfl rfl rfl ?_
    refine r_iconst (v := 1) 132 dX3_readOrder_131 rfl rfl ?_
    refine r_iadd 133 dX3_readOrder_132 rfl ?_
    refine r_iload 135 3 dX3_readOrder_133 rfl rfl ?_
    refine r_iadd 136 dX3_readOrder_135 rfl ?_
    refine r_aload_n 137 0 dX3_readOrder_136 rfl rfl rfl ?_
    refine r_gd (fun hc137 => ?_)
    refine r_callV (n := 0) (as := []) (rest := [.int ((v1 + 1) + v4), rf x127]) 140 26 (s_X3_digitBehind hl G v0 w) hc137 rfl (lw_V q2591 q2593 qs85 q110 q2594) (by decide +kernel) (by decide) rfl rfl (cat2_i (cat2_r (cat2_nil (k := 0)))) rfl dX3_readOrder_137 rfl (fun x137 w137 => ?_)
    refine r_iast 141 dX3_readOrder_140 rfl (fun w140 => ?_)
    refine r_iinc (v := v4 + 1) (ls2 := [(4, lI (v4 + 1)), (0, lR v0), (1, lI v1), (2, lI v2)]) 144 3 dX3_readOrder_141 rfl rfl (by decide) rfl rfl ?_
    refine r_goto 115 dX3_readOrder_144 (by decide) ?_
    exact r_lsP [1, 2, 3, 0] rfl (ih v0 v1 v2 (v4 + 1) w140)
theorem t_X3_readOrder_l171 {l : Launch} {D : Dn} {H0 : Heap} {w0 : St} (hl : l.stackTraces = false) (G : Nat) (k210 : St → Option (Unit × St)) (h210 : ∀ w, V_X3_readOrder l D H0 w0 (k210 w) 210 [] [] w) : ∀ (F : Nat) (v0 : Rf) (v1 : Int32) (v2 : Int32) (v4 : Int32) (w : St), V_X3_readOrder l D H0 w0 (f_X3_readOrder_l171 G k210 F v0 v1 v2 v4 w) 171 [(0, lR v0), (1, lI v1), (2, lI v2), (4, lI v4)] [] w := by
  intro F
  induction F with
  | zero => intros; exact r_none
  | succ F ih =>
    intro v0 v1 v2 v4 w
    unfold f_X3_readOrder_l171
    refine r_iload 173 3 dX3_readOrder_171 rfl rfl ?_
    refine r_aload_n 174 0 dX3_readOrder_173 rfl rfl rfl ?_
    refine r_getr 177 gf_X3_60 dX3_readOrder_174 rfl (fun x174 => ?_)
    refine r_iload_n 178 2 dX3_readOrder_177 rfl rfl rfl ?_
    refine r_iald 179 dX3_readOrder_178 rfl (fun x178 => ?_)
    refine r_icmp_ge 210 182 dX3_readOrder_179 (by decide) rfl ?_ ?_
    · exact r_lsP [] rfl (h210 w)
    refine r_aload_n 183 0 dX3_readOrder_182 rfl rfl rfl ?_
    refine r_getr 186 gf_X3_63 dX3_readOrder_183 rfl (fun x183 => ?_)
    refine r_iload_n 187 1 dX3_readOrder_186 rfl rfl rfl ?_
    refine r_iconst (v := 1) 188 dX3_readOrder_187 rfl rfl ?_
    refine r_iadd 189 dX3_readOrder_188 rfl ?_
    refine r_aload_n 190 0 dX3_readOrder_189 rfl rfl rfl ?_
    refine r_getr 193 gf_X3_57 dX3_readOrder_190 rfl (fun x190 => ?_)
    refine r_iload_n 194 2 dX3_readOrder_193 rfl rfl rfl ?_
    refine r_iald 195 dX3_readOrder_194 rfl (fun x194 => ?_)
    refine r_iadd 196 dX3_readOrder_195 rfl ?_
    refine r_iload 198 3 dX3_readOrder_196 rfl rfl ?_
    refine r_iadd 199 dX3_readOrder_198 rfl ?_
    refine r_aload_n 200 0 dX3_readOrder_199 rfl rfl rfl ?_
    refine r_gd (fun hc200 => ?_)
    refine r_callV (n := 0) (as := []) (rest := [.int (((v1 + 1) + x194) + v4), rf x183]) 203 26 (s_X3_numberBehind hl G v0 w) hc200 rfl (lw_V q2613 q2615 qs90 q110 q2616) (by decide +kernel) (by decide) rfl rfl (cat2_i (cat2_r (cat2_nil (k := 0)))) rfl dX3_readOrder_200 rfl (fun x200 w200 => ?_)
    refine r_iast 204 dX3_readOrder_203 rfl (fun w203 => ?_)
    refine r_iinc (v := v4 + 1) (ls2 := [(4, lI (v4 + 1)), (0, lR v0), (1, lI v1), (2, lI v2)]) 207 3 dX3_readOrder_204 rfl rfl (by decide) rfl rfl ?_
    refine r_goto 171 dX3_readOrder_207 (by decide) ?_
    exact r_lsP [1, 2, 3, 0] rfl (ih v0 v1 v2 (v4 + 1) w203)
theorem t_X3_readOrder_b210 {l : Launch} {D : Dn} {H0 : Heap} {w0 : St} (hl : l.stackTraces = false) (G : Nat) (w : St) : V_X3_readOrder l D H0 w0 (f_X3_readOrder_b210 G  w) 210 [] [] w := by
  unfold f_X3_readOrder_b210
  exact r_vret rfl rfl dX3_readOrder_210
theorem t_X3_readOrder_b167 {l : Launch} {D : Dn} {H0 : Heap} {w0 : St} (hl : l.stackTraces = false) (G : Nat) (v0 : Rf) (v1 : Int32) (v2 : Int32) (s0 : Int32) (s1 : Int32) (s2 : Rf) (w : St) : V_X3_readOrder l D H0 w0 (f_X3_readOrder_b167 G v0 v1 v2 s0 s1 s2 w) 167 [(0, lR v0), (1, lI v1), (2, lI v2)] [.int s0, .int s1, rf s2] w := by
  unfold f_X3_readOrder_b167
  refine r_iast 168 dX3_readOrder_167 rfl (fun w167 => ?_)
  refine r_iconst (v := 0) 169 dX3_readOrder_168 rfl rfl ?_
  refine r_istore (ls2 := [(4, lI 0), (0, lR v0), (1, lI v1), (2, lI v2)]) 171 dX3_readOrder_169 (by decide) rfl rfl ?_
  exact r_lsP [1, 2, 3, 0] rfl (t_X3_readOrder_l171 hl G (fun w => f_X3_readOrder_b210 G  w) (fun w => t_X3_readOrder_b210 hl G  w) G v0 v1 v2 0 w167)
theorem t_X3_readOrder_b147 {l : Launch} {D : Dn} {H0 : Heap} {w0 : St} (hl : l.stackTraces = false) (G : Nat) (v0 : Rf) (v1 : Int32) (v2 : Int32) (w : St) : V_X3_readOrder l D H0 w0 (f_X3_readOrder_b147 G v0 v1 v2 w) 147 [(0, lR v0), (1, lI v1), (2, lI v2)] [] w := by
  unfold f_X3_readOrder_b147
  refine r_aload_n 148 0 dX3_readOrder_147 rfl rfl rfl ?_
  refine r_getr 151 gf_X3_63 dX3_readOrder_148 rfl (fun x148 => ?_)
  refine r_iload_n 152 1 dX3_readOrder_151 rfl rfl rfl ?_
  refine r_bipush (v := 7) 154 dX3_readOrder_152 rfl rfl ?_
  refine r_iadd 155 dX3_readOrder_154 rfl ?_
  refine r_iload_n 156 2 dX3_readOrder_155 rfl rfl rfl ?_
  refine r_if_ne 166 159 dX3_readOrder_156 (by decide) rfl ?_ ?_
  · refine r_iconst (v := 0) 167 dX3_readOrder_166 rfl rfl ?_
    exact r_lsP [0, 1, 2] rfl (t_X3_readOrder_b167 hl G  v0 v1 v2 0 (v1 + 7) x148 w)
  refine r_aload_n 160 0 dX3_readOrder_159 rfl rfl rfl ?_
  refine r_gd (fun hc160 => ?_)
  refine r_callV (n := 0) (as := []) (rest := [.int (v1 + 7), rf x148]) 163 26 (s_X3_sortHere hl G v0 w) hc160 rfl (lw_V q2609 q2611 qs89 q110 q2612) (by decide +kernel) (by decide) rfl rfl (cat2_i (cat2_r (cat2_nil (k := 0)))) rfl dX3_readOrder_160 rfl (fun x160 w160 => ?_)
  refine r_goto 167 dX3_readOrder_163 (by decide) ?_
  exact r_lsP [0, 1, 2] rfl (t_X3_readOrder_b167 hl G  v0 v1 v2 x160 (v1 + 7) x148 w160)
theorem t_X3_readOrder_b84 {l : Launch} {D : Dn} {H0 : Heap} {w0 : St} (hl : l.stackTraces = false) (G : Nat) (v0 : Rf) (v1 : Int32) (v2 : Int32) (s0 : Int32) (s1 : Rf) (w : St) : V_X3_readOrder l D H0 w0 (f_X3_readOrder_b84 G v0 v1 v2 s0 s1 w) 84 [(0, lR v0), (1, lI v1), (2, lI v2)] [.int s0, rf s1] w := by
  unfold f_X3_readOrder_b84
  refine r_putz 87 pf_X3_277 dX3_readOrder_84 rfl (fun w84 => ?_)
  refine r_aload_n 88 0 dX3_readOrder_87 rfl rfl rfl ?_
  refine r_geti 91 gf_X3_277 dX3_readOrder_88 rfl (fun x88 => ?_)
  refine r_if_eq 95 94 dX3_readOrder_91 (by decide) rfl ?_ ?_
  · refine r_aload_n 96 0 dX3_readOrder_95 rfl rfl rfl ?_
    refine r_getr 99 gf_X3_63 dX3_readOrder_96 rfl (fun x96 => ?_)
    refine r_iload_n 100 1 dX3_readOrder_99 rfl rfl rfl ?_
    refine r_iload_n 101 2 dX3_readOrder_100 rfl rfl rfl ?_
    refine r_iast 102 dX3_readOrder_101 rfl (fun w101 => ?_)
    refine r_aload_n 103 0 dX3_readOrder_102 rfl rfl rfl ?_
    refine r_dup_r 104 dX3_readOrder_103 rfl ?_
    refine r_geti 107 gf_X3_298 dX3_readOrder_104 rfl (fun x104 => ?_)
    refine r_iconst (v := 1) 108 dX3_readOrder_107 rfl rfl ?_
    refine r_iadd 109 dX3_readOrder_108 rfl ?_
    refine r_puti 112 pf_X3_298 dX3_readOrder_109 rfl (fun w109 => ?_)
    refine r_iconst (v := 0) 113 dX3_readOrder_112 rfl rfl ?_
    refine r_istore (ls2 := [(4, lI 0), (0, lR v0), (1, lI v1), (2, lI v2)]) 115 dX3_readOrder_113 (by decide) rfl rfl ?_
    exact r_lsP [1, 2, 3, 0] rfl (t_X3_readOrder_l115 hl G (fun v0 v1 v2 w => f_X3_readOrder_b147 G  v0 v1 v2 w) (fun v0 v1 v2 w => t_X3_readOrder_b147 hl G  v0 v1 v2 w) G v0 v1 v2 0 w109)
  exact r_vret rfl rfl dX3_readOrder_94
theorem t_X3_readOrder_b43 {l : Launch} {D : Dn} {H0 : Heap} {w0 : St} (hl : l.stackTraces = false) (G : Nat) (v0 : Rf) (v1 : Int32) (v2 : Int32) (w : St) : V_X3_readOrder l D H0 w0 (f_X3_readOrder_b43 G v0 v1 v2 w) 43 [(0, lR v0), (1, lI v1), (2, lI v2)] [] w := by
  unfold f_X3_readOrder_b43
  refine r_aload_n 44 0 dX3_readOrder_43 rfl rfl rfl ?_
  refine r_iload_n 45 2 dX3_readOrder_44 rfl rfl rfl ?_
  refine r_gd (fun hc45 => ?_)
  refine r_callV (n := 1) (as := [lI v2]) (rest := []) 48 26 (s_X3_likeness hl G v0 v2 w) hc45 rfl (lw_V q2587 q2589 qs84 q110 q2590) (by decide +kernel) (by decide) rfl rfl (cat2_nil (k := 0)) rfl dX3_readOrder_45 rfl (fun x45 w45 => ?_)
  refine r_istore_n (ls2 := [(3, lI x45), (0, lR v0), (1, lI v1), (2, lI v2)]) 49 dX3_readOrder_48 rfl (by decide) rfl rfl ?_
  refine r_aload_n 50 1 dX3_readOrder_49 rfl rfl rfl ?_
  refine r_dup_r 51 dX3_readOrder_50 rfl ?_
  refine r_geti 54 gf_X3_271 dX3_readOrder_51 rfl (fun x51 => ?_)
  refine r_iload_n 55 0 dX3_readOrder_54 rfl rfl rfl ?_
  refine r_iadd 56 dX3_readOrder_55 rfl ?_
  refine r_puti 59 pf_X3_271 dX3_readOrder_56 rfl (fun w56 => ?_)
  refine r_aload_n 60 1 dX3_readOrder_59 rfl rfl rfl ?_
  refine r_iload_n 61 0 dX3_readOrder_60 rfl rfl rfl ?_
  refine r_aload_n 62 1 dX3_readOrder_61 rfl rfl rfl ?_
  refine r_getr 65 gf_X3_54 dX3_readOrder_62 rfl (fun x62 => ?_)
  refine r_iload_n 66 3 dX3_readOrder_65 rfl rfl rfl ?_
  refine r_iconst (v := 1) 67 dX3_readOrder_66 rfl rfl ?_
  refine r_iadd 68 dX3_readOrder_67 rfl ?_
  refine r_iald 69 dX3_readOrder_68 rfl (fun x68 => ?_)
  refine r_aload_n 70 1 dX3_readOrder_69 rfl rfl rfl ?_
  refine r_getr 73 gf_X3_54 dX3_readOrder_70 rfl (fun x70 => ?_)
  refine r_iload_n 74 3 dX3_readOrder_73 rfl rfl rfl ?_
  refine r_iald 75 dX3_readOrder_74 rfl (fun x74 => ?_)
  refine r_isub 76 dX3_readOrder_75 rfl ?_
  refine r_icmp_ge 83 79 dX3_readOrder_76 (by decide) rfl ?_ ?_
  · refine r_iconst (v := 0) 84 dX3_readOrder_83 rfl rfl ?_
    exact r_lsP [1, 2, 3] rfl (t_X3_readOrder_b84 hl G  v0 v1 v2 0 v0 w56)
  refine r_iconst (v := 1) 80 dX3_readOrder_79 rfl rfl ?_
  refine r_goto 84 dX3_readOrder_80 (by decide) ?_
  exact r_lsP [1, 2, 3] rfl (t_X3_readOrder_b84 hl G  v0 v1 v2 1 v0 w56)
theorem t_X3_readOrder {l : Launch} {D : Dn} {H0 : Heap} {w0 : St} (hl : l.stackTraces = false) (G : Nat) (a0 : Rf) (w : St) : V_X3_readOrder l D H0 w0 (f_X3_readOrder G a0 w) 0 [(0, lR a0)] [] w := by
  unfold f_X3_readOrder
  refine r_bipush (v := 8) 2 dX3_readOrder_0 rfl rfl ?_
  refine r_aload_n 3 0 dX3_readOrder_2 rfl rfl rfl ?_
  refine r_geti 6 gf_X3_298 dX3_readOrder_3 rfl (fun x3 => ?_)
  refine r_imul 7 dX3_readOrder_6 rfl ?_
  refine r_istore_n (ls2 := [(1, lI (8 * x3)), (0, lR a0)]) 8 dX3_readOrder_7 rfl (by decide) rfl rfl ?_
  refine r_iconst (v := 0) 9 dX3_readOrder_8 rfl rfl ?_
  refine r_istore_n (ls2 := [(2, lI 0), (1, lI (8 * x3)), (0, lR a0)]) 10 dX3_readOrder_9 rfl (by decide) rfl rfl ?_
  refine r_iconst (v := 1) 11 dX3_readOrder_10 rfl rfl ?_
  refine r_istore_n (ls2 := [(3, lI 1), (2, lI 0), (1, lI (8 * x3)), (0, lR a0)]) 12 dX3_readOrder_11 rfl (by decide) rfl rfl ?_
  exact r_lsP [3, 2, 1, 0] rfl (t_X3_readOrder_l12 hl G (fun v0 v1 v2 w => f_X3_readOrder_b43 G  v0 v1 v2 w) (fun v0 v1 v2 w => t_X3_readOrder_b43 hl G  v0 v1 v2 w) G a0 (8 * x3) 0 1 w)
theorem s_X3_readOrder {l : Launch} {D : Dn} {H0 : Heap} (hl : l.stackTraces = false) (G : Nat) (a0 : Rf) (w : St) : SimN l D H0 yX3_readOrder (ws_ yX3_readOrder cX3_readOrder 5 none) 4 88 rvU [lR a0] w (f_X3_readOrder G a0 w) := SimX.N (SimX.ofV (y := yX3_readOrder) (by decide) rfl (t_X3_readOrder hl G a0 w))
abbrev V_X3_does (l : Launch) (D : Dn) (H0 : Heap) (w0 : St) (res : Option (Unit × St)) (pc : Nat) (ls : List (Nat × LV)) (st : List Value) (w : St) : Prop := V l D H0 RX3 "does" cX3_does 5 none [] 8 188 (fun x => .inr (rvU x)) w0 res pc ls st w
theorem t_X3_does_l94 {l : Launch} {D : Dn} {H0 : Heap} {w0 : St} (hl : l.stackTraces = false) (G : Nat) (k125 : Rf → St → Option (Unit × St)) (h125 : ∀ v0 w, V_X3_does l D H0 w0 (k125 v0 w) 125 [(0, lR v0)] [] w) : ∀ (F : Nat) (v0 : Rf) (v1 : Int32) (v4 : Int32) (w : St), V_X3_does l D H0 w0 (f_X3_does_l94 G k125 F v0 v1 v4 w) 94 [(0, lR v0), (1, lI v1), (4, lI v4)] [] w := by
  intro F
  induction F with
  | zero => intros; exact r_none
  | succ F ih =>
    intro v0 v1 v4 w
    unfold f_X3_does_l94
    refine r_iload 96 2 dX3_does_94 rfl rfl ?_
    refine r_bipush (v := 6) 98 dX3_does_96 rfl rfl ?_
    refine r_icmp_ge 125 101 dX3_does_98 (by decide) rfl ?_ ?_
    · exact r_lsP [0] rfl (h125 v0 w)
    refine r_aload_n 102 0 dX3_does_101 rfl rfl rfl ?_
    refine r_getr 105 gf_X3_38 dX3_does_102 rfl (fun x102 => ?_)
    refine r_iload 107 2 dX3_does_105 rfl rfl ?_
    refine r_aload_n 108 0 dX3_does_107 rfl rfl rfl ?_
    refine r_getr 111 gf_X3_63 dX3_does_108 rfl (fun x108 => ?_)
    refine r_iload_n 112 1 dX3_does_111 rfl rfl rfl ?_
    refine r_iconst (v := 1) 113 dX3_does_112 rfl rfl ?_
    refine r_iadd 114 dX3_does_113 rfl ?_
    refine r_iload 116 2 dX3_does_114 rfl rfl ?_
    refine r_iadd 117 dX3_does_116 rfl ?_
    refine r_iald 118 dX3_does_117 rfl (fun x117 => ?_)
    refine r_iast 119 dX3_does_118 rfl (fun w118 => ?_)
    refine r_iinc (v := v4 + 1) (ls2 := [(4, lI (v4 + 1)), (0, lR v0), (1, lI v1)]) 122 2 dX3_does_119 rfl rfl (by decide) rfl rfl ?_
    refine r_goto 94 dX3_does_122 (by decide) ?_
    exact r_lsP [1, 2, 0] rfl (ih v0 v1 (v4 + 1) w118)
theorem t_X3_does_b125 {l : Launch} {D : Dn} {H0 : Heap} {w0 : St} (hl : l.stackTraces = false) (G : Nat) (v0 : Rf) (w : St) : V_X3_does l D H0 w0 (f_X3_does_b125 G v0 w) 125 [(0, lR v0)] [] w := by
  unfold f_X3_does_b125
  refine r_aload_n 126 0 dX3_does_125 rfl rfl rfl ?_
  refine r_gd (fun hc126 => ?_)
  refine r_callV (n := 0) (as := []) (rest := []) 129 26 (s_X3_linkIt hl G v0 w) hc126 rfl (lw_V q2349 q2351 qs51 q110 q2352) (by decide +kernel) (by decide) rfl rfl (cat2_nil (k := 0)) rfl dX3_does_126 rfl (fun x126 w126 => ?_)
  refine r_pop_i 130 dX3_does_129 rfl ?_
  refine r_goto 211 dX3_does_130 (by decide) ?_
  exact r_vret rfl rfl dX3_does_211
theorem t_X3_does_l165 {l : Launch} {D : Dn} {H0 : Heap} {w0 : St} (hl : l.stackTraces = false) (G : Nat) (k195 : Rf → Int32 → St → Option (Unit × St)) (h195 : ∀ v0 v2 w, V_X3_does l D H0 w0 (k195 v0 v2 w) 195 [(0, lR v0), (2, lI v2)] [] w) : ∀ (F : Nat) (v0 : Rf) (v1 : Int32) (v2 : Int32) (v4 : Int32) (w : St), V_X3_does l D H0 w0 (f_X3_does_l165 G k195 F v0 v1 v2 v4 w) 165 [(0, lR v0), (1, lI v1), (2, lI v2), (4, lI v4)] [] w := by
  intro F
  induction F with
  | zero => intros; exact r_none
  | succ F ih =>
    intro v0 v1 v2 v4 w
    unfold f_X3_does_l165
    refine r_iload 167 3 dX3_does_165 rfl rfl ?_
    refine r_iconst (v := 5) 168 dX3_does_167 rfl rfl ?_
    refine r_icmp_ge 195 171 dX3_does_168 (by decide) rfl ?_ ?_
    · exact r_lsP [0, 2] rfl (h195 v0 v2 w)
    refine r_aload_n 172 0 dX3_does_171 rfl rfl rfl ?_
    refine r_getr 175 gf_X3_29 dX3_does_172 rfl (fun x172 => ?_)
    refine r_iload 177 3 dX3_does_175 rfl rfl ?_
    refine r_aload_n 178 0 dX3_does_177 rfl rfl rfl ?_
    refine r_getr 181 gf_X3_63 dX3_does_178 rfl (fun x178 => ?_)
    refine r_iload_n 182 1 dX3_does_181 rfl rfl rfl ?_
    refine r_iconst (v := 2) 183 dX3_does_182 rfl rfl ?_
    refine r_iadd 184 dX3_does_183 rfl ?_
    refine r_iload 186 3 dX3_does_184 rfl rfl ?_
    refine r_iadd 187 dX3_does_186 rfl ?_
    refine r_iald 188 dX3_does_187 rfl (fun x187 => ?_)
    refine r_iast 189 dX3_does_188 rfl (fun w188 => ?_)
    refine r_iinc (v := v4 + 1) (ls2 := [(4, lI (v4 + 1)), (0, lR v0), (1, lI v1), (2, lI v2)]) 192 3 dX3_does_189 rfl rfl (by decide) rfl rfl ?_
    refine r_goto 165 dX3_does_192 (by decide) ?_
    exact r_lsP [1, 2, 3, 0] rfl (ih v0 v1 v2 (v4 + 1) w188)
theorem t_X3_does_b195 {l : Launch} {D : Dn} {H0 : Heap} {w0 : St} (hl : l.stackTraces = false) (G : Nat) (v0 : Rf) (v2 : Int32) (w : St) : V_X3_does l D H0 w0 (f_X3_does_b195 G v0 v2 w) 195 [(0, lR v0), (2, lI v2)] [] w := by
  unfold f_X3_does_b195
  refine r_aload_n 196 0 dX3_does_195 rfl rfl rfl ?_
  refine r_iload_n 197 1 dX3_does_196 rfl rfl rfl ?_
  refine r_gd (fun hc197 => ?_)
  refine r_callV (n := 1) (as := [lI v2]) (rest := []) 200 26 (s_X3_legIt hl G v0 v2 w) hc197 rfl (lw_V q2313 q2315 qs44 q110 q2316) (by decide +kernel) (by decide) rfl rfl (cat2_nil (k := 0)) rfl dX3_does_197 rfl (fun x197 w197 => ?_)
  refine r_pop_i 201 dX3_does_200 rfl ?_
  refine r_goto 211 dX3_does_201 (by decide) ?_
  exact r_vret rfl rfl dX3_does_211
theorem t_X3_does {l : Launch} {D : Dn} {H0 : Heap} {w0 : St} (hl : l.stackTraces = false) (G : Nat) (a0 : Rf) (a1 : Int32) (w : St) : V_X3_does l D H0 w0 (f_X3_does G a0 a1 w) 0 [(0, lR a0), (1, lI a1)] [] w := by
  unfold f_X3_does
  refine r_aload_n 1 0 dX3_does_0 rfl rfl rfl ?_
  refine r_getr 4 gf_X3_63 dX3_does_1 rfl (fun x1 => ?_)
  refine r_iload_n 5 1 dX3_does_4 rfl rfl rfl ?_
  refine r_iconst (v := 1) 6 dX3_does_5 rfl rfl ?_
  refine r_iadd 7 dX3_does_6 rfl ?_
  refine r_iald 8 dX3_does_7 rfl (fun x7 => ?_)
  refine r_istore_n (ls2 := [(2, lI x7), (0, lR a0), (1, lI a1)]) 9 dX3_does_8 rfl (by decide) rfl rfl ?_
  refine r_aload_n 10 1 dX3_does_9 rfl rfl rfl ?_
  refine r_getr 13 gf_X3_63 dX3_does_10 rfl (fun x10 => ?_)
  refine r_iload_n 14 2 dX3_does_13 rfl rfl rfl ?_
  refine r_iconst (v := 2) 15 dX3_does_14 rfl rfl ?_
  refine r_iadd 16 dX3_does_15 rfl ?_
  refine r_iald 17 dX3_does_16 rfl (fun x16 => ?_)
  refine r_istore_n (ls2 := [(3, lI x16), (2, lI x7), (0, lR a0), (1, lI a1)]) 18 dX3_does_17 rfl (by decide) rfl rfl ?_
  refine r_aload_n 19 2 dX3_does_18 rfl rfl rfl ?_
  refine r_getr 22 gf_X3_63 dX3_does_19 rfl (fun x19 => ?_)
  refine r_iload_n 23 3 dX3_does_22 rfl rfl rfl ?_
  refine r_iald 24 dX3_does_23 rfl (fun x23 => ?_)
  refine r_if (fun hs => ?_) (fun hs0 => ?_)
  · refine r_tswIn 64 dX3_does_24 (z := 0) (by rw [hs]; rfl) (by decide) (by decide) rfl (by decide) ?_
    refine r_aload_n 65 2 dX3_does_64 rfl rfl rfl ?_
    refine r_iload_n 66 1 dX3_does_65 rfl rfl rfl ?_
    refine r_iload_n 67 0 dX3_does_66 rfl rfl rfl ?_
    refine r_aload_n 68 2 dX3_does_67 rfl rfl rfl ?_
    refine r_getr 71 gf_X3_63 dX3_does_68 rfl (fun x68 => ?_)
    refine r_iload_n 72 3 dX3_does_71 rfl rfl rfl ?_
    refine r_bipush (v := 7) 74 dX3_does_72 rfl rfl ?_
    refine r_iadd 75 dX3_does_74 rfl ?_
    refine r_iald 76 dX3_does_75 rfl (fun x75 => ?_)
    refine r_aload_n 77 2 dX3_does_76 rfl rfl rfl ?_
    refine r_getr 80 gf_X3_63 dX3_does_77 rfl (fun x77 => ?_)
    refine r_iload_n 81 3 dX3_does_80 rfl rfl rfl ?_
    refine r_iconst (v := 3) 82 dX3_does_81 rfl rfl ?_
    refine r_iadd 83 dX3_does_82 rfl ?_
    refine r_iald 84 dX3_does_83 rfl (fun x83 => ?_)
    refine r_gd (fun hc84 => ?_)
    refine r_callV (n := 4) (as := [lI x7, lI x16, lI x75, lI x83]) (rest := []) 87 26 (s_X3_lateIt hl G a0 x7 x16 x75 x83 w) hc84 rfl (lw_V q2385 q2387 qs56 q110 q2388) (by decide +kernel) (by decide) rfl rfl (cat2_nil (k := 0)) rfl dX3_does_84 rfl (fun x84 w84 => ?_)
    refine r_pop_i 88 dX3_does_87 rfl ?_
    refine r_goto 211 dX3_does_88 (by decide) ?_
    exact r_vret rfl rfl dX3_does_211
  refine r_if (fun hs => ?_) (fun hs1 => ?_)
  · refine r_tswIn 91 dX3_does_24 (z := 1) (by rw [hs]; rfl) (by decide) (by decide) rfl (by decide) ?_
    refine r_iconst (v := 0) 92 dX3_does_91 rfl rfl ?_
    refine r_istore (ls2 := [(4, lI 0), (3, lI x16), (2, lI x7), (0, lR a0), (1, lI a1)]) 94 dX3_does_92 (by decide) rfl rfl ?_
    exact r_lsP [3, 4, 0] rfl (t_X3_does_l94 hl G (fun v0 w => f_X3_does_b125 G  v0 w) (fun v0 w => t_X3_does_b125 hl G  v0 w) G a0 a1 0 w)
  refine r_if (fun hs => ?_) (fun hs2 => ?_)
  · refine r_tswIn 133 dX3_does_24 (z := 2) (by rw [hs]; rfl) (by decide) (by decide) rfl (by decide) ?_
    refine r_aload_n 134 2 dX3_does_133 rfl rfl rfl ?_
    refine r_iload_n 135 1 dX3_does_134 rfl rfl rfl ?_
    refine r_iload_n 136 0 dX3_does_135 rfl rfl rfl ?_
    refine r_gd (fun hc136 => ?_)
    refine r_callV (n := 2) (as := [lI x7, lI x16]) (rest := []) 139 26 (s_X3_limitIt hl G a0 x7 x16 w) hc136 rfl (lw_V q2377 q2379 qs55 q110 q2380) (by decide +kernel) (by decide) rfl rfl (cat2_nil (k := 0)) rfl dX3_does_136 rfl (fun x136 w136 => ?_)
    refine r_pop_i 140 dX3_does_139 rfl ?_
    refine r_goto 211 dX3_does_140 (by decide) ?_
    exact r_vret rfl rfl dX3_does_211
  refine r_if (fun hs => ?_) (fun hs3 => ?_)
  · refine r_tswIn 143 dX3_does_24 (z := 3) (by rw [hs]; rfl) (by decide) (by decide) rfl (by decide) ?_
    refine r_aload_n 144 2 dX3_does_143 rfl rfl rfl ?_
    refine r_iload_n 145 1 dX3_does_144 rfl rfl rfl ?_
    refine r_gd (fun hc145 => ?_)
    refine r_callV (n := 1) (as := [lI x7]) (rest := []) 148 26 (s_X3_cutIt hl G a0 x7 w) hc145 rfl (lw_V q2365 q2367 qs53 q110 q2368) (by decide +kernel) (by decide) rfl rfl (cat2_nil (k := 0)) rfl dX3_does_145 rfl (fun x145 w145 => ?_)
    refine r_pop_i 149 dX3_does_148 rfl ?_
    refine r_goto 211 dX3_does_149 (by decide) ?_
    exact r_vret rfl rfl dX3_does_211
  refine r_if (fun hs => ?_) (fun hs4 => ?_)
  · refine r_tswIn 152 dX3_does_24 (z := 4) (by rw [hs]; rfl) (by decide) (by decide) rfl (by decide) ?_
    refine r_aload_n 153 2 dX3_does_152 rfl rfl rfl ?_
    refine r_iload_n 154 1 dX3_does_153 rfl rfl rfl ?_
    refine r_iload_n 155 0 dX3_does_154 rfl rfl rfl ?_
    refine r_gd (fun hc155 => ?_)
    refine r_callV (n := 2) (as := [lI x7, lI x16]) (rest := []) 158 26 (s_X3_turnIt hl G a0 x7 x16 w) hc155 rfl (lw_V q2337 q2339 qs49 q110 q2340) (by decide +kernel) (by decide) rfl rfl (cat2_nil (k := 0)) rfl dX3_does_155 rfl (fun x155 w155 => ?_)
    refine r_pop_i 159 dX3_does_158 rfl ?_
    refine r_goto 211 dX3_does_159 (by decide) ?_
    exact r_vret rfl rfl dX3_does_211
  refine r_if (fun hs => ?_) (fun hs5 => ?_)
  · refine r_tswIn 162 dX3_does_24 (z := 5) (by rw [hs]; rfl) (by decide) (by decide) rfl (by decide) ?_
    refine r_iconst (v := 0) 163 dX3_does_162 rfl rfl ?_
    refine r_istore (ls2 := [(4, lI 0), (3, lI x16), (2, lI x7), (0, lR a0), (1, lI a1)]) 165 dX3_does_163 (by decide) rfl rfl ?_
    exact r_lsP [3, 4, 2, 0] rfl (t_X3_does_l165 hl G (fun v0 v2 w => f_X3_does_b195 G  v0 v2 w) (fun v0 v2 w => t_X3_does_b195 hl G  v0 v2 w) G a0 a1 x7 0 w)
  have hs0 := neI hs0 (z := 0) rfl
  have hs1 := neI hs1 (z := 1) rfl
  have hs2 := neI hs2 (z := 2) rfl
  have hs3 := neI hs3 (z := 3) rfl
  have hs4 := neI hs4 (z := 4) rfl
  have hs5 := neI hs5 (z := 5) rfl
  refine r_tswOut 204 dX3_does_24 (by omega) (by decide) ?_
  refine r_aload_n 205 2 dX3_does_204 rfl rfl rfl ?_
  refine r_iload_n 206 1 dX3_does_205 rfl rfl rfl ?_
  refine r_iload_n 207 0 dX3_does_206 rfl rfl rfl ?_
  refine r_gd (fun hc207 => ?_)
  refine r_callV (n := 2) (as := [lI x7, lI x16]) (rest := []) 210 26 (s_X3_coachIt hl G a0 x7 x16 w) hc207 rfl (lw_V q2285 q2287 qs40 q110 q2288) (by decide +kernel) (by decide) rfl rfl (cat2_nil (k := 0)) rfl dX3_does_207 rfl (fun x207 w207 => ?_)
  refine r_pop_i 211 dX3_does_210 rfl ?_
  exact r_vret rfl rfl dX3_does_211
theorem s_X3_does {l : Launch} {D : Dn} {H0 : Heap} (hl : l.stackTraces = false) (G : Nat) (a0 : Rf) (a1 : Int32) (w : St) : SimN l D H0 yX3_does (ws_ yX3_does cX3_does 5 none) 8 188 rvU [lR a0, lI a1] w (f_X3_does G a0 a1 w) := SimX.N (SimX.ofV (y := yX3_does) (by decide) rfl (t_X3_does hl G a0 a1 w))
abbrev V_X3_refusedBy (l : Launch) (D : Dn) (H0 : Heap) (w0 : St) (res : Option (Int32 × St)) (pc : Nat) (ls : List (Nat × LV)) (st : List Value) (w : St) : Prop := V l D H0 RX3 "refusedBy" cX3_refusedBy 4 (some (.int)) [] 2 43 (fun x => .inr (rvI x)) w0 res pc ls st w
theorem t_X3_refusedBy {l : Launch} {D : Dn} {H0 : Heap} {w0 : St} (hl : l.stackTraces = false) (G : Nat) (a0 : Rf) (a1 : Int32) (w : St) : V_X3_refusedBy l D H0 w0 (f_X3_refusedBy G a0 a1 w) 0 [(0, lR a0), (1, lI a1)] [] w := by
  unfold f_X3_refusedBy
  refine r_aload_n 1 0 dX3_refusedBy_0 rfl rfl rfl ?_
  refine r_geti 4 gf_X3_72 dX3_refusedBy_1 rfl (fun x1 => ?_)
  refine r_istore_n (ls2 := [(2, lI x1), (0, lR a0), (1, lI a1)]) 5 dX3_refusedBy_4 rfl (by decide) rfl rfl ?_
  refine r_aload_n 6 1 dX3_refusedBy_5 rfl rfl rfl ?_
  refine r_geti 9 gf_X3_75 dX3_refusedBy_6 rfl (fun x6 => ?_)
  refine r_istore_n (ls2 := [(3, lI x6), (2, lI x1), (0, lR a0), (1, lI a1)]) 10 dX3_refusedBy_9 rfl (by decide) rfl rfl ?_
  refine r_aload_n 11 2 dX3_refusedBy_10 rfl rfl rfl ?_
  refine r_bipush (v := 11) 13 dX3_refusedBy_11 rfl rfl ?_
  refine r_iload_n 14 3 dX3_refusedBy_13 rfl rfl rfl ?_
  refine r_gd (fun hc14 => ?_)
  refine r_callV (n := 2) (as := [lI 11, lI a1]) (rest := []) 17 26 (s_X3_refuse hl G a0 11 a1 w) hc14 rfl (lw_V q2294 q2296 qs41 q110 q2297) (by decide +kernel) (by decide) rfl rfl (cat2_nil (k := 0)) rfl dX3_refusedBy_14 rfl (fun x14 w14 => ?_)
  refine r_pop_i 18 dX3_refusedBy_17 rfl ?_
  refine r_aload_n 19 2 dX3_refusedBy_18 rfl rfl rfl ?_
  refine r_iload_n 20 1 dX3_refusedBy_19 rfl rfl rfl ?_
  refine r_puti 23 pf_X3_78 dX3_refusedBy_20 rfl (fun w20 => ?_)
  refine r_aload_n 24 2 dX3_refusedBy_23 rfl rfl rfl ?_
  refine r_iload_n 25 0 dX3_refusedBy_24 rfl rfl rfl ?_
  refine r_puti 28 pf_X3_319 dX3_refusedBy_25 rfl (fun w25 => ?_)
  refine r_aload_n 29 2 dX3_refusedBy_28 rfl rfl rfl ?_
  refine r_iconst (v := 2) 30 dX3_refusedBy_29 rfl rfl ?_
  refine r_gd (fun hc30 => ?_)
  refine r_callV (n := 1) (as := [lI 2]) (rest := []) 33 26 (s_X3_throwing hl G a0 2 w25) hc30 rfl (lw_V q2298 q2300 qs42 q110 q2301) (by decide +kernel) (by decide) rfl rfl (cat2_nil (k := 0)) rfl dX3_refusedBy_30 rfl (fun x30 w30 => ?_)
  exact r_iret rfl rfl dX3_refusedBy_33
theorem s_X3_refusedBy {l : Launch} {D : Dn} {H0 : Heap} (hl : l.stackTraces = false) (G : Nat) (a0 : Rf) (a1 : Int32) (w : St) : SimN l D H0 yX3_refusedBy (ws_ yX3_refusedBy cX3_refusedBy 4 (some (.int))) 2 43 rvI [lR a0, lI a1] w (f_X3_refusedBy G a0 a1 w) := SimX.N (SimX.ofV (y := yX3_refusedBy) (by decide) rfl (t_X3_refusedBy hl G a0 a1 w))
abbrev V_X3_run (l : Launch) (D : Dn) (H0 : Heap) (w0 : St) (res : Option (Int32 × St)) (pc : Nat) (ls : List (Nat × LV)) (st : List Value) (w : St) : Prop := V l D H0 RX3 "run" cX3_run 4 (some (.int)) [] 9 212 (fun x => .inr (rvI x)) w0 res pc ls st w
theorem t_X3_run_b88 {l : Launch} {D : Dn} {H0 : Heap} {w0 : St} (hl : l.stackTraces = false) (G : Nat) (k34 : Rf → Int32 → St → Option (Int32 × St)) (h34 : ∀ v0 v1 w, V_X3_run l D H0 w0 (k34 v0 v1 w) 34 [(0, lR v0), (1, lI v1)] [] w) (v0 : Rf) (s0 : Int32) (w : St) : V_X3_run l D H0 w0 (f_X3_run_b88 G k34 v0 s0 w) 88 [(0, lR v0)] [.int s0] w := by
  unfold f_X3_run_b88
  refine r_istore_n (ls2 := [(1, lI s0), (0, lR v0)]) 89 dX3_run_88 rfl (by decide) rfl rfl ?_
  refine r_goto 34 dX3_run_89 (by decide) ?_
  exact r_lsP [1, 0] rfl (h34 v0 s0 w)
theorem t_X3_run_b65 {l : Launch} {D : Dn} {H0 : Heap} {w0 : St} (hl : l.stackTraces = false) (G : Nat) (k34 : Rf → Int32 → St → Option (Int32 × St)) (h34 : ∀ v0 v1 w, V_X3_run l D H0 w0 (k34 v0 v1 w) 34 [(0, lR v0), (1, lI v1)] [] w) (v0 : Rf) (s0 : Int32) (w : St) : V_X3_run l D H0 w0 (f_X3_run_b65 G k34 v0 s0 w) 65 [(0, lR v0)] [.int s0] w := by
  unfold f_X3_run_b65
  refine r_istore_n (ls2 := [(1, lI s0), (0, lR v0)]) 66 dX3_run_65 rfl (by decide) rfl rfl ?_
  refine r_iload_n 67 0 dX3_run_66 rfl rfl rfl ?_
  refine r_if_eq 34 70 dX3_run_67 (by decide) rfl ?_ ?_
  · exact r_lsP [1, 0] rfl (h34 v0 s0 w)
  refine r_aload_n 71 1 dX3_run_70 rfl rfl rfl ?_
  refine r_bipush (v := 59) 73 dX3_run_71 rfl rfl ?_
  refine r_gd (fun hc73 => ?_)
  refine r_callV (n := 1) (as := [lI 59]) (rest := []) 76 26 (s_X3_expects hl G v0 59 w) hc73 rfl (lw_V q2595 q2597 qs86 q110 q2598) (by decide +kernel) (by decide) rfl rfl (cat2_nil (k := 0)) rfl dX3_run_73 rfl (fun _ w73 => ?_)
  refine r_aload_n 77 1 dX3_run_76 rfl rfl rfl ?_
  refine r_geti 80 gf_X3_277 dX3_run_77 rfl (fun x77 => ?_)
  refine r_if_ne 87 83 dX3_run_80 (by decide) rfl ?_ ?_
  · refine r_iconst (v := 0) 88 dX3_run_87 rfl rfl ?_
    exact r_lsP [1] rfl (t_X3_run_b88 hl G k34 h34  v0 0 w73)
  refine r_iconst (v := 1) 84 dX3_run_83 rfl rfl ?_
  refine r_goto 88 dX3_run_84 (by decide) ?_
  exact r_lsP [1] rfl (t_X3_run_b88 hl G k34 h34  v0 1 w73)
theorem t_X3_run_b64 {l : Launch} {D : Dn} {H0 : Heap} {w0 : St} (hl : l.stackTraces = false) (G : Nat) (k34 : Rf → Int32 → St → Option (Int32 × St)) (h34 : ∀ v0 v1 w, V_X3_run l D H0 w0 (k34 v0 v1 w) 34 [(0, lR v0), (1, lI v1)] [] w) (v0 : Rf) (w : St) : V_X3_run l D H0 w0 (f_X3_run_b64 G k34 v0 w) 64 [(0, lR v0)] [] w := by
  unfold f_X3_run_b64
  refine r_iconst (v := 0) 65 dX3_run_64 rfl rfl ?_
  exact r_lsP [0] rfl (t_X3_run_b65 hl G k34 h34  v0 0 w)
theorem t_X3_run_l34 {l : Launch} {D : Dn} {H0 : Heap} {w0 : St} (hl : l.stackTraces = false) (G : Nat) (k92 : Rf → St → Option (Int32 × St)) (h92 : ∀ v0 w, V_X3_run l D H0 w0 (k92 v0 w) 92 [(0, lR v0)] [] w) : ∀ (F : Nat) (v0 : Rf) (v1 : Int32) (w : St), V_X3_run l D H0 w0 (f_X3_run_l34 G k92 F v0 v1 w) 34 [(0, lR v0), (1, lI v1)] [] w := by
  intro F
  induction F with
  | zero => intros; exact r_none
  | succ F ih =>
    intro v0 v1 w
    unfold f_X3_run_l34
    refine r_iload_n 35 1 dX3_run_34 rfl rfl rfl ?_
    refine r_if_eq 92 38 dX3_run_35 (by decide) rfl ?_ ?_
    · exact r_lsP [0] rfl (h92 v0 w)
    refine r_aload_n 39 0 dX3_run_38 rfl rfl rfl ?_
    refine r_gd (fun hc39 => ?_)
    refine r_callV (n := 0) (as := []) (rest := []) 42 26 (s_X3_readOrder hl G v0 w) hc39 rfl (lw_V q2583 q2585 qs83 q110 q2586) (by decide +kernel) (by decide) rfl rfl (cat2_nil (k := 0)) rfl dX3_run_39 rfl (fun _ w39 => ?_)
    refine r_aload_n 43 0 dX3_run_42 rfl rfl rfl ?_
    refine r_geti 46 gf_X3_277 dX3_run_43 rfl (fun x43 => ?_)
    refine r_if_ne 64 49 dX3_run_46 (by decide) rfl ?_ ?_
    · exact r_lsP [0] rfl (t_X3_run_b64 hl G (fun v0 v1 w => f_X3_run_l34 G k92 F v0 v1 w) (fun v0 v1 w => ih v0 v1 w)  v0 w39)
    refine r_aload_n 50 0 dX3_run_49 rfl rfl rfl ?_
    refine r_geti 53 gf_X3_271 dX3_run_50 rfl (fun x50 => ?_)
    refine r_aload_n 54 0 dX3_run_53 rfl rfl rfl ?_
    refine r_geti 57 gf_X3_274 dX3_run_54 rfl (fun x54 => ?_)
    refine r_icmp_ge 64 60 dX3_run_57 (by decide) rfl ?_ ?_
    · exact r_lsP [0] rfl (t_X3_run_b64 hl G (fun v0 v1 w => f_X3_run_l34 G k92 F v0 v1 w) (fun v0 v1 w => ih v0 v1 w)  v0 w39)
    refine r_iconst (v := 1) 61 dX3_run_60 rfl rfl ?_
    refine r_goto 65 dX3_run_61 (by decide) ?_
    exact r_lsP [0] rfl (t_X3_run_b65 hl G (fun v0 v1 w => f_X3_run_l34 G k92 F v0 v1 w) (fun v0 v1 w => ih v0 v1 w)  v0 1 w39)
theorem t_X3_run_l126 {l : Launch} {D : Dn} {H0 : Heap} {w0 : St} (hl : l.stackTraces = false) (G : Nat) (k149 : Rf → Int32 → St → Option (Int32 × St)) (h149 : ∀ v0 v2 w, V_X3_run l D H0 w0 (k149 v0 v2 w) 149 [(0, lR v0), (2, lI v2)] [] w) (k188 : Rf → St → Option (Int32 × St)) (h188 : ∀ v0 w, V_X3_run l D H0 w0 (k188 v0 w) 188 [(0, lR v0)] [] w) : ∀ (F : Nat) (v0 : Rf) (v2 : Int32) (w : St), V_X3_run l D H0 w0 (f_X3_run_l126 G k149 k188 F v0 v2 w) 126 [(0, lR v0), (2, lI v2)] [] w := by
  intro F
  induction F with
  | zero => intros; exact r_none
  | succ F ih =>
    intro v0 v2 w
    unfold f_X3_run_l126
    refine r_iload_n 127 1 dX3_run_126 rfl rfl rfl ?_
    refine r_aload_n 128 0 dX3_run_127 rfl rfl rfl ?_
    refine r_geti 131 gf_X3_298 dX3_run_128 rfl (fun x128 => ?_)
    refine r_icmp_ge 188 134 dX3_run_131 (by decide) rfl ?_ ?_
    · exact r_lsP [0] rfl (h188 v0 w)
    refine r_aload_n 135 0 dX3_run_134 rfl rfl rfl ?_
    refine r_bipush (v := 8) 137 dX3_run_135 rfl rfl ?_
    refine r_iload_n 138 1 dX3_run_137 rfl rfl rfl ?_
    refine r_imul 139 dX3_run_138 rfl ?_
    refine r_gd (fun hc139 => ?_)
    refine r_callV (n := 1) (as := [lI (8 * v2)]) (rest := []) 142 26 (s_X3_does hl G v0 (8 * v2) w) hc139 rfl (lw_V q2617 q2619 qs91 q110 q2620) (by decide +kernel) (by decide) rfl rfl (cat2_nil (k := 0)) rfl dX3_run_139 rfl (fun _ w139 => ?_)
    refine r_aload_n 143 0 dX3_run_142 rfl rfl rfl ?_
    refine r_geti 146 gf_X3_69 dX3_run_143 rfl (fun x143 => ?_)
    refine r_if_le 182 149 dX3_run_146 (by decide) rfl ?_ ?_
    · refine r_iinc (v := v2 + 1) (ls2 := [(2, lI (v2 + 1)), (0, lR v0)]) 185 1 dX3_run_182 rfl rfl (by decide) rfl rfl ?_
      refine r_goto 126 dX3_run_185 (by decide) ?_
      exact r_lsP [1, 0] rfl (ih v0 (v2 + 1) w139)
    exact r_lsP [0, 1] rfl (h149 v0 v2 w139)
theorem t_X3_run_l151 {l : Launch} {D : Dn} {H0 : Heap} {w0 : St} (hl : l.stackTraces = false) (G : Nat) (k176 : Rf → Int32 → St → Option (Int32 × St)) (h176 : ∀ v0 v2 w, V_X3_run l D H0 w0 (k176 v0 v2 w) 176 [(0, lR v0), (2, lI v2)] [] w) : ∀ (F : Nat) (v0 : Rf) (v2 : Int32) (v3 : Int32) (w : St), V_X3_run l D H0 w0 (f_X3_run_l151 G k176 F v0 v2 v3 w) 151 [(0, lR v0), (2, lI v2), (3, lI v3)] [] w := by
  intro F
  induction F with
  | zero => intros; exact r_none
  | succ F ih =>
    intro v0 v2 v3 w
    unfold f_X3_run_l151
    refine r_iload_n 152 2 dX3_run_151 rfl rfl rfl ?_
    refine r_sipush (v := 412) 155 dX3_run_152 rfl rfl ?_
    refine r_icmp_ge 176 158 dX3_run_155 (by decide) rfl ?_ ?_
    · exact r_lsP [0, 1] rfl (h176 v0 v2 w)
    refine r_aload_n 159 0 dX3_run_158 rfl rfl rfl ?_
    refine r_getr 162 gf_X3_9 dX3_run_159 rfl (fun x159 => ?_)
    refine r_iload_n 163 2 dX3_run_162 rfl rfl rfl ?_
    refine r_aload_n 164 0 dX3_run_163 rfl rfl rfl ?_
    refine r_getr 167 gf_X3_13 dX3_run_164 rfl (fun x164 => ?_)
    refine r_iload_n 168 2 dX3_run_167 rfl rfl rfl ?_
    refine r_iald 169 dX3_run_168 rfl (fun x168 => ?_)
    refine r_iast 170 dX3_run_169 rfl (fun w169 => ?_)
    refine r_iinc (v := v3 + 1) (ls2 := [(3, lI (v3 + 1)), (0, lR v0), (2, lI v2)]) 173 2 dX3_run_170 rfl rfl (by decide) rfl rfl ?_
    refine r_goto 151 dX3_run_173 (by decide) ?_
    exact r_lsP [1, 2, 0] rfl (ih v0 v2 (v3 + 1) w169)
theorem t_X3_run_b176 {l : Launch} {D : Dn} {H0 : Heap} {w0 : St} (hl : l.stackTraces = false) (G : Nat) (v0 : Rf) (v2 : Int32) (w : St) : V_X3_run l D H0 w0 (f_X3_run_b176 G v0 v2 w) 176 [(0, lR v0), (2, lI v2)] [] w := by
  unfold f_X3_run_b176
  refine r_aload_n 177 0 dX3_run_176 rfl rfl rfl ?_
  refine r_iload_n 178 1 dX3_run_177 rfl rfl rfl ?_
  refine r_gd (fun hc178 => ?_)
  refine r_callV (n := 1) (as := [lI v2]) (rest := []) 181 26 (s_X3_refusedBy hl G v0 v2 w) hc178 rfl (lw_V q2621 q2623 qs92 q110 q2624) (by decide +kernel) (by decide) rfl rfl (cat2_nil (k := 0)) rfl dX3_run_178 rfl (fun x178 w178 => ?_)
  exact r_iret rfl rfl dX3_run_181
theorem t_X3_run_b149 {l : Launch} {D : Dn} {H0 : Heap} {w0 : St} (hl : l.stackTraces = false) (G : Nat) (v0 : Rf) (v2 : Int32) (w : St) : V_X3_run l D H0 w0 (f_X3_run_b149 G v0 v2 w) 149 [(0, lR v0), (2, lI v2)] [] w := by
  unfold f_X3_run_b149
  refine r_iconst (v := 0) 150 dX3_run_149 rfl rfl ?_
  refine r_istore_n (ls2 := [(3, lI 0), (0, lR v0), (2, lI v2)]) 151 dX3_run_150 rfl (by decide) rfl rfl ?_
  exact r_lsP [1, 2, 0] rfl (t_X3_run_l151 hl G (fun v0 v2 w => f_X3_run_b176 G  v0 v2 w) (fun v0 v2 w => t_X3_run_b176 hl G  v0 v2 w) G v0 v2 0 w)
theorem t_X3_run_b188 {l : Launch} {D : Dn} {H0 : Heap} {w0 : St} (hl : l.stackTraces = false) (G : Nat) (v0 : Rf) (w : St) : V_X3_run l D H0 w0 (f_X3_run_b188 G v0 w) 188 [(0, lR v0)] [] w := by
  unfold f_X3_run_b188
  refine r_aload_n 189 0 dX3_run_188 rfl rfl rfl ?_
  refine r_aload_n 190 0 dX3_run_189 rfl rfl rfl ?_
  refine r_geti 193 gf_X3_298 dX3_run_190 rfl (fun x190 => ?_)
  refine r_gd (fun hc193 => ?_)
  refine r_callV (n := 1) (as := [lI x190]) (rest := []) 196 26 (s_X3_changed hl G v0 x190 w) hc193 rfl (lw_V q2305 q2307 qs43 q110 q2308) (by decide +kernel) (by decide) rfl rfl (cat2_nil (k := 0)) rfl dX3_run_193 rfl (fun x193 w193 => ?_)
  exact r_iret rfl rfl dX3_run_196
theorem t_X3_run_b108 {l : Launch} {D : Dn} {H0 : Heap} {w0 : St} (hl : l.stackTraces = false) (G : Nat) (v0 : Rf) (s0 : Int32) (s1 : Rf) (w : St) : V_X3_run l D H0 w0 (f_X3_run_b108 G v0 s0 s1 w) 108 [(0, lR v0)] [.int s0, rf s1] w := by
  unfold f_X3_run_b108
  refine r_puti 111 pf_X3_22 dX3_run_108 rfl (fun w108 => ?_)
  refine r_aload_n 112 0 dX3_run_111 rfl rfl rfl ?_
  refine r_geti 115 gf_X3_277 dX3_run_112 rfl (fun x112 => ?_)
  refine r_if_eq 124 118 dX3_run_115 (by decide) rfl ?_ ?_
  · refine r_iconst (v := 0) 125 dX3_run_124 rfl rfl ?_
    refine r_istore_n (ls2 := [(2, lI 0), (0, lR v0)]) 126 dX3_run_125 rfl (by decide) rfl rfl ?_
    exact r_lsP [1, 0] rfl (t_X3_run_l126 hl G (fun v0 v2 w => f_X3_run_b149 G  v0 v2 w) (fun v0 v2 w => t_X3_run_b149 hl G  v0 v2 w) (fun v0 w => f_X3_run_b188 G  v0 w) (fun v0 w => t_X3_run_b188 hl G  v0 w) G v0 0 w108)
  refine r_aload_n 119 0 dX3_run_118 rfl rfl rfl ?_
  refine r_iconst (v := 1) 120 dX3_run_119 rfl rfl ?_
  refine r_gd (fun hc120 => ?_)
  refine r_callV (n := 1) (as := [lI 1]) (rest := []) 123 26 (s_X3_throwing hl G v0 1 w108) hc120 rfl (lw_V q2298 q2300 qs42 q110 q2301) (by decide +kernel) (by decide) rfl rfl (cat2_nil (k := 0)) rfl dX3_run_120 rfl (fun x120 w120 => ?_)
  exact r_iret rfl rfl dX3_run_123
theorem t_X3_run_b92 {l : Launch} {D : Dn} {H0 : Heap} {w0 : St} (hl : l.stackTraces = false) (G : Nat) (v0 : Rf) (w : St) : V_X3_run l D H0 w0 (f_X3_run_b92 G v0 w) 92 [(0, lR v0)] [] w := by
  unfold f_X3_run_b92
  refine r_aload_n 93 0 dX3_run_92 rfl rfl rfl ?_
  refine r_aload_n 94 0 dX3_run_93 rfl rfl rfl ?_
  refine r_geti 97 gf_X3_277 dX3_run_94 rfl (fun x94 => ?_)
  refine r_if_eq 107 100 dX3_run_97 (by decide) rfl ?_ ?_
  · refine r_iconst (v := (-1)) 108 dX3_run_107 rfl rfl ?_
    exact r_lsP [0] rfl (t_X3_run_b108 hl G  v0 ((-1)) v0 w)
  refine r_aload_n 101 0 dX3_run_100 rfl rfl rfl ?_
  refine r_geti 104 gf_X3_271 dX3_run_101 rfl (fun x101 => ?_)
  refine r_goto 108 dX3_run_104 (by decide) ?_
  exact r_lsP [0] rfl (t_X3_run_b108 hl G  v0 x101 v0 w)
theorem t_X3_run {l : Launch} {D : Dn} {H0 : Heap} {w0 : St} (hl : l.stackTraces = false) (G : Nat) (a0 : Rf) (w : St) : V_X3_run l D H0 w0 (f_X3_run G a0 w) 0 [(0, lR a0)] [] w := by
  unfold f_X3_run
  refine r_aload_n 1 0 dX3_run_0 rfl rfl rfl ?_
  refine r_gd (fun hc1 => ?_)
  refine r_callV (n := 0) (as := []) (rest := []) 4 26 (s_X3_starts hl G a0 w) hc1 rfl (lw_V q2281 q2283 qs39 q110 q2284) (by decide +kernel) (by decide) rfl rfl (cat2_nil (k := 0)) rfl dX3_run_1 rfl (fun _ w1 => ?_)
  refine r_aload_n 5 0 dX3_run_4 rfl rfl rfl ?_
  refine r_aload_n 6 0 dX3_run_5 rfl rfl rfl ?_
  refine r_geti 9 gf_X3_268 dX3_run_6 rfl (fun x6 => ?_)
  refine r_puti 12 pf_X3_274 dX3_run_9 rfl (fun w9 => ?_)
  refine r_aload_n 13 0 dX3_run_12 rfl rfl rfl ?_
  refine r_iconst (v := 0) 14 dX3_run_13 rfl rfl ?_
  refine r_puti 17 pf_X3_268 dX3_run_14 rfl (fun w14 => ?_)
  refine r_aload_n 18 0 dX3_run_17 rfl rfl rfl ?_
  refine r_iconst (v := 0) 19 dX3_run_18 rfl rfl ?_
  refine r_puti 22 pf_X3_271 dX3_run_19 rfl (fun w19 => ?_)
  refine r_aload_n 23 0 dX3_run_22 rfl rfl rfl ?_
  refine r_iconst (v := 0) 24 dX3_run_23 rfl rfl ?_
  refine r_puti 27 pf_X3_298 dX3_run_24 rfl (fun w24 => ?_)
  refine r_aload_n 28 0 dX3_run_27 rfl rfl rfl ?_
  refine r_iconst (v := 0) 29 dX3_run_28 rfl rfl ?_
  refine r_putz 32 pf_X3_277 dX3_run_29 rfl (fun w29 => ?_)
  refine r_iconst (v := 1) 33 dX3_run_32 rfl rfl ?_
  refine r_istore_n (ls2 := [(1, lI 1), (0, lR a0)]) 34 dX3_run_33 rfl (by decide) rfl rfl ?_
  exact r_lsP [1, 0] rfl (t_X3_run_l34 hl G (fun v0 w => f_X3_run_b92 G  v0 w) (fun v0 w => t_X3_run_b92 hl G  v0 w) G a0 1 w29)
theorem s_X3_run {l : Launch} {D : Dn} {H0 : Heap} (hl : l.stackTraces = false) (G : Nat) (a0 : Rf) (w : St) : SimN l D H0 yX3_run (ws_ yX3_run cX3_run 4 (some (.int))) 9 212 rvI [lR a0] w (f_X3_run G a0 w) := SimX.N (SimX.ofV (y := yX3_run) (by decide) rfl (t_X3_run hl G a0 w))
abbrev V_X3_faultPosition (l : Launch) (D : Dn) (H0 : Heap) (w0 : St) (res : Option (Int32 × St)) (pc : Nat) (ls : List (Nat × LV)) (st : List Value) (w : St) : Prop := V l D H0 RX3 "faultPosition" cX3_faultPosition 1 (some (.int)) [] 0 0 (fun x => .inr (rvI x)) w0 res pc ls st w
theorem t_X3_faultPosition {l : Launch} {D : Dn} {H0 : Heap} {w0 : St} (hl : l.stackTraces = false) (G : Nat) (a0 : Rf) (w : St) : V_X3_faultPosition l D H0 w0 (f_X3_faultPosition G a0 w) 0 [(0, lR a0)] [] w := by
  unfold f_X3_faultPosition
  refine r_aload_n 1 0 dX3_faultPosition_0 rfl rfl rfl ?_
  refine r_iconst (v := 0) 2 dX3_faultPosition_1 rfl rfl ?_
  refine r_puti 5 pf_X3_69 dX3_faultPosition_2 rfl (fun w2 => ?_)
  refine r_aload_n 6 0 dX3_faultPosition_5 rfl rfl rfl ?_
  refine r_geti 9 gf_X3_22 dX3_faultPosition_6 rfl (fun x6 => ?_)
  exact r_iret rfl rfl dX3_faultPosition_9
theorem s_X3_faultPosition {l : Launch} {D : Dn} {H0 : Heap} (hl : l.stackTraces = false) (G : Nat) (a0 : Rf) (w : St) : SimN l D H0 yX3_faultPosition (ws_ yX3_faultPosition cX3_faultPosition 1 (some (.int))) 0 0 rvI [lR a0] w (f_X3_faultPosition G a0 w) := SimX.N (SimX.ofV (y := yX3_faultPosition) (by decide) rfl (t_X3_faultPosition hl G a0 w))
abbrev V_X3_reason (l : Launch) (D : Dn) (H0 : Heap) (w0 : St) (res : Option (Int32 × St)) (pc : Nat) (ls : List (Nat × LV)) (st : List Value) (w : St) : Prop := V l D H0 RX3 "reason" cX3_reason 3 (some (.int)) [] 1 25 (fun x => .inr (rvI x)) w0 res pc ls st w
theorem t_X3_reason_b40 {l : Launch} {D : Dn} {H0 : Heap} {w0 : St} (hl : l.stackTraces = false) (G : Nat) (v0 : Rf) (w : St) : V_X3_reason l D H0 w0 (f_X3_reason_b40 G v0 w) 40 [(0, lR v0)] [] w := by
  unfold f_X3_reason_b40
  refine r_aload_n 41 0 dX3_reason_40 rfl rfl rfl ?_
  refine r_iconst (v := 2) 42 dX3_reason_41 rfl rfl ?_
  refine r_gd (fun hc42 => ?_)
  refine r_callV (n := 1) (as := [lI 2]) (rest := []) 45 26 (s_X3_throwing hl G v0 2 w) hc42 rfl (lw_V q2298 q2300 qs42 q110 q2301) (by decide +kernel) (by decide) rfl rfl (cat2_nil (k := 0)) rfl dX3_reason_42 rfl (fun x42 w42 => ?_)
  exact r_iret rfl rfl dX3_reason_45
theorem t_X3_reason_b46 {l : Launch} {D : Dn} {H0 : Heap} {w0 : St} (hl : l.stackTraces = false) (G : Nat) (v0 : Rf) (v1 : Int32) (v2 : Int32) (w : St) : V_X3_reason l D H0 w0 (f_X3_reason_b46 G v0 v1 v2 w) 46 [(0, lR v0), (1, lI v1), (2, lI v2)] [] w := by
  unfold f_X3_reason_b46
  refine r_iload_n 47 1 dX3_reason_46 rfl rfl rfl ?_
  refine r_iconst (v := 1) 48 dX3_reason_47 rfl rfl ?_
  refine r_icmp_ne 67 51 dX3_reason_48 (by decide) rfl ?_ ?_
  · refine r_iload_n 68 2 dX3_reason_67 rfl rfl rfl ?_
    refine r_if_eq 78 71 dX3_reason_68 (by decide) rfl ?_ ?_
    · refine r_aload_n 79 0 dX3_reason_78 rfl rfl rfl ?_
      refine r_geti 82 gf_X3_72 dX3_reason_79 rfl (fun x79 => ?_)
      exact r_iret rfl rfl dX3_reason_82
    refine r_aload_n 72 0 dX3_reason_71 rfl rfl rfl ?_
    refine r_geti 75 gf_X3_75 dX3_reason_72 rfl (fun x72 => ?_)
    refine r_goto 82 dX3_reason_75 (by decide) ?_
    exact r_iret rfl rfl dX3_reason_82
  refine r_iload_n 52 2 dX3_reason_51 rfl rfl rfl ?_
  refine r_if_eq 62 55 dX3_reason_52 (by decide) rfl ?_ ?_
  · refine r_aload_n 63 0 dX3_reason_62 rfl rfl rfl ?_
    refine r_geti 66 gf_X3_78 dX3_reason_63 rfl (fun x63 => ?_)
    exact r_iret rfl rfl dX3_reason_66
  refine r_aload_n 56 0 dX3_reason_55 rfl rfl rfl ?_
  refine r_geti 59 gf_X3_319 dX3_reason_56 rfl (fun x56 => ?_)
  refine r_goto 66 dX3_reason_59 (by decide) ?_
  exact r_iret rfl rfl dX3_reason_66
theorem t_X3_reason {l : Launch} {D : Dn} {H0 : Heap} {w0 : St} (hl : l.stackTraces = false) (G : Nat) (a0 : Rf) (a1 : Int32) (a2 : Int32) (w : St) : V_X3_reason l D H0 w0 (f_X3_reason G a0 a1 a2 w) 0 [(0, lR a0), (1, lI a1), (2, lI a2)] [] w := by
  unfold f_X3_reason
  refine r_aload_n 1 0 dX3_reason_0 rfl rfl rfl ?_
  refine r_iconst (v := 0) 2 dX3_reason_1 rfl rfl ?_
  refine r_puti 5 pf_X3_69 dX3_reason_2 rfl (fun w2 => ?_)
  refine r_iload_n 6 1 dX3_reason_5 rfl rfl rfl ?_
  refine r_i2l 7 dX3_reason_6 rfl ?_
  refine r_lconst (v := 0) 8 dX3_reason_7 rfl rfl ?_
  refine r_lconst (v := 1) 9 dX3_reason_8 rfl rfl ?_
  refine r_callS (n := 3) (as := [lJ a1.toInt64, lJ 0, lJ 1]) (rest := []) 12 (s_X3_in hl G a1.toInt64 0 1 w2) (lw_S q2290 q2291 q110 q2292) (by decide +kernel) (by decide) rfl rfl (cat2_nil (k := 0)) rfl dX3_reason_9 rfl (fun x9 w9 => ?_)
  refine r_if_ne 21 15 dX3_reason_12 (by decide) rfl ?_ ?_
  · refine r_aload_n 22 0 dX3_reason_21 rfl rfl rfl ?_
    refine r_geti 25 gf_X3_72 dX3_reason_22 rfl (fun x22 => ?_)
    refine r_if_eq 40 28 dX3_reason_25 (by decide) rfl ?_ ?_
    · exact r_lsP [0] rfl (t_X3_reason_b40 hl G  a0 w9)
    refine r_iload_n 29 1 dX3_reason_28 rfl rfl rfl ?_
    refine r_iconst (v := 1) 30 dX3_reason_29 rfl rfl ?_
    refine r_icmp_ne 46 33 dX3_reason_30 (by decide) rfl ?_ ?_
    · exact r_lsP [0, 1, 2] rfl (t_X3_reason_b46 hl G  a0 a1 a2 w9)
    refine r_aload_n 34 0 dX3_reason_33 rfl rfl rfl ?_
    refine r_geti 37 gf_X3_78 dX3_reason_34 rfl (fun x34 => ?_)
    refine r_if_ne 46 40 dX3_reason_37 (by decide) rfl ?_ ?_
    · exact r_lsP [0, 1, 2] rfl (t_X3_reason_b46 hl G  a0 a1 a2 w9)
    exact r_lsP [0] rfl (t_X3_reason_b40 hl G  a0 w9)
  refine r_aload_n 16 0 dX3_reason_15 rfl rfl rfl ?_
  refine r_iconst (v := 1) 17 dX3_reason_16 rfl rfl ?_
  refine r_gd (fun hc17 => ?_)
  refine r_callV (n := 1) (as := [lI 1]) (rest := []) 20 26 (s_X3_throwing hl G a0 1 w9) hc17 rfl (lw_V q2298 q2300 qs42 q110 q2301) (by decide +kernel) (by decide) rfl rfl (cat2_nil (k := 0)) rfl dX3_reason_17 rfl (fun x17 w17 => ?_)
  exact r_iret rfl rfl dX3_reason_20
theorem s_X3_reason {l : Launch} {D : Dn} {H0 : Heap} (hl : l.stackTraces = false) (G : Nat) (a0 : Rf) (a1 : Int32) (a2 : Int32) (w : St) : SimN l D H0 yX3_reason (ws_ yX3_reason cX3_reason 3 (some (.int))) 1 25 rvI [lR a0, lI a1, lI a2] w (f_X3_reason G a0 a1 a2 w) := SimX.N (SimX.ofV (y := yX3_reason) (by decide) rfl (t_X3_reason hl G a0 a1 a2 w))
abbrev V_X3_sign (l : Launch) (D : Dn) (H0 : Heap) (w0 : St) (res : Option (Unit × St)) (pc : Nat) (ls : List (Nat × LV)) (st : List Value) (w : St) : Prop := V l D H0 RX3 "sign" cX3_sign 2 none [] 0 0 (fun x => .inr (rvU x)) w0 res pc ls st w
theorem t_X3_sign {l : Launch} {D : Dn} {H0 : Heap} {w0 : St} (hl : l.stackTraces = false) (G : Nat) (a0 : Rf) (a1 : Int32) (w : St) : V_X3_sign l D H0 w0 (f_X3_sign G a0 a1 w) 0 [(0, lR a0), (1, lI a1)] [] w := by
  unfold f_X3_sign
  refine r_aload_n 1 0 dX3_sign_0 rfl rfl rfl ?_
  refine r_getr 4 gf_X3_66 dX3_sign_1 rfl (fun x1 => ?_)
  refine r_aload_n 5 0 dX3_sign_4 rfl rfl rfl ?_
  refine r_geti 8 gf_X3_322 dX3_sign_5 rfl (fun x5 => ?_)
  refine r_iload_n 9 1 dX3_sign_8 rfl rfl rfl ?_
  refine r_iast 10 dX3_sign_9 rfl (fun w9 => ?_)
  refine r_aload_n 11 0 dX3_sign_10 rfl rfl rfl ?_
  refine r_dup_r 12 dX3_sign_11 rfl ?_
  refine r_geti 15 gf_X3_322 dX3_sign_12 rfl (fun x12 => ?_)
  refine r_iconst (v := 1) 16 dX3_sign_15 rfl rfl ?_
  refine r_iadd 17 dX3_sign_16 rfl ?_
  refine r_puti 20 pf_X3_322 dX3_sign_17 rfl (fun w17 => ?_)
  exact r_vret rfl rfl dX3_sign_20
theorem s_X3_sign {l : Launch} {D : Dn} {H0 : Heap} (hl : l.stackTraces = false) (G : Nat) (a0 : Rf) (a1 : Int32) (w : St) : SimN l D H0 yX3_sign (ws_ yX3_sign cX3_sign 2 none) 0 0 rvU [lR a0, lI a1] w (f_X3_sign G a0 a1 w) := SimX.N (SimX.ofV (y := yX3_sign) (by decide) rfl (t_X3_sign hl G a0 a1 w))
abbrev V_X3_writesNumber (l : Launch) (D : Dn) (H0 : Heap) (w0 : St) (res : Option (Unit × St)) (pc : Nat) (ls : List (Nat × LV)) (st : List Value) (w : St) : Prop := V l D H0 RX3 "writesNumber" cX3_writesNumber 4 none [] 1 21 (fun x => .inr (rvU x)) w0 res pc ls st w
theorem t_X3_writesNumber_l2 {l : Launch} {D : Dn} {H0 : Heap} {w0 : St} (hl : l.stackTraces = false) (G : Nat) (k18 : Rf → Int32 → Int32 → St → Option (Unit × St)) (h18 : ∀ v0 v1 v2 w, V_X3_writesNumber l D H0 w0 (k18 v0 v1 v2 w) 18 [(0, lR v0), (1, lI v1), (2, lI v2)] [] w) : ∀ (F : Nat) (v0 : Rf) (v1 : Int32) (v2 : Int32) (w : St), V_X3_writesNumber l D H0 w0 (f_X3_writesNumber_l2 G k18 F v0 v1 v2 w) 2 [(0, lR v0), (1, lI v1), (2, lI v2)] [] w := by
  intro F
  induction F with
  | zero => intros; exact r_none
  | succ F ih =>
    intro v0 v1 v2 w
    unfold f_X3_writesNumber_l2
    refine r_iload_n 3 1 dX3_writesNumber_2 rfl rfl rfl ?_
    refine r_iload_n 4 2 dX3_writesNumber_3 rfl rfl rfl ?_
    refine r_gd (fun hz4 => ?_)
    refine r_idiv 5 dX3_writesNumber_4 hz4 rfl ?_
    refine r_bipush (v := 9) 7 dX3_writesNumber_5 rfl rfl ?_
    refine r_icmp_le 18 10 dX3_writesNumber_7 (by decide) rfl ?_ ?_
    · exact r_lsP [0, 1, 2] rfl (h18 v0 v1 v2 w)
    refine r_iload_n 11 2 dX3_writesNumber_10 rfl rfl rfl ?_
    refine r_bipush (v := 10) 13 dX3_writesNumber_11 rfl rfl ?_
    refine r_imul 14 dX3_writesNumber_13 rfl ?_
    refine r_istore_n (ls2 := [(2, lI (v2 * 10)), (0, lR v0), (1, lI v1)]) 15 dX3_writesNumber_14 rfl (by decide) rfl rfl ?_
    refine r_goto 2 dX3_writesNumber_15 (by decide) ?_
    exact r_lsP [1, 2, 0] rfl (ih v0 v1 (v2 * 10) w)
theorem t_X3_writesNumber_l20 {l : Launch} {D : Dn} {H0 : Heap} {w0 : St} (hl : l.stackTraces = false) (G : Nat) (k45 : St → Option (Unit × St)) (h45 : ∀ w, V_X3_writesNumber l D H0 w0 (k45 w) 45 [] [] w) : ∀ (F : Nat) (v0 : Rf) (v1 : Int32) (v3 : Int32) (w : St), V_X3_writesNumber l D H0 w0 (f_X3_writesNumber_l20 G k45 F v0 v1 v3 w) 20 [(0, lR v0), (1, lI v1), (3, lI v3)] [] w := by
  intro F
  induction F with
  | zero => intros; exact r_none
  | succ F ih =>
    intro v0 v1 v3 w
    unfold f_X3_writesNumber_l20
    refine r_iload_n 21 2 dX3_writesNumber_20 rfl rfl rfl ?_
    refine r_if_le 45 24 dX3_writesNumber_21 (by decide) rfl ?_ ?_
    · exact r_lsP [] rfl (h45 w)
    refine r_aload_n 25 0 dX3_writesNumber_24 rfl rfl rfl ?_
    refine r_bipush (v := 48) 27 dX3_writesNumber_25 rfl rfl ?_
    refine r_iload_n 28 1 dX3_writesNumber_27 rfl rfl rfl ?_
    refine r_iload_n 29 2 dX3_writesNumber_28 rfl rfl rfl ?_
    refine r_gd (fun hz29 => ?_)
    refine r_idiv 30 dX3_writesNumber_29 hz29 rfl ?_
    refine r_bipush (v := 10) 32 dX3_writesNumber_30 rfl rfl ?_
    refine r_irem 33 dX3_writesNumber_32 (by decide) rfl ?_
    refine r_iadd 34 dX3_writesNumber_33 rfl ?_
    refine r_gd (fun hc34 => ?_)
    refine r_callV (n := 1) (as := [lI (48 + ((v1 / v3) - (v1 / v3) / 10 * 10))]) (rest := []) 37 26 (s_X3_sign hl G v0 (48 + ((v1 / v3) - (v1 / v3) / 10 * 10)) w) hc34 rfl (lw_V q2637 q2639 qs93 q110 q2640) (by decide +kernel) (by decide) rfl rfl (cat2_nil (k := 0)) rfl dX3_writesNumber_34 rfl (fun _ w34 => ?_)
    refine r_iload_n 38 2 dX3_writesNumber_37 rfl rfl rfl ?_
    refine r_bipush (v := 10) 40 dX3_writesNumber_38 rfl rfl ?_
    refine r_idiv 41 dX3_writesNumber_40 (by decide) rfl ?_
    refine r_istore_n (ls2 := [(3, lI (v3 / 10)), (0, lR v0), (1, lI v1)]) 42 dX3_writesNumber_41 rfl (by decide) rfl rfl ?_
    refine r_goto 20 dX3_writesNumber_42 (by decide) ?_
    exact r_lsP [1, 2, 0] rfl (ih v0 v1 (v3 / 10) w34)
theorem t_X3_writesNumber_b45 {l : Launch} {D : Dn} {H0 : Heap} {w0 : St} (hl : l.stackTraces = false) (G : Nat) (w : St) : V_X3_writesNumber l D H0 w0 (f_X3_writesNumber_b45 G  w) 45 [] [] w := by
  unfold f_X3_writesNumber_b45
  exact r_vret rfl rfl dX3_writesNumber_45
theorem t_X3_writesNumber_b18 {l : Launch} {D : Dn} {H0 : Heap} {w0 : St} (hl : l.stackTraces = false) (G : Nat) (v0 : Rf) (v1 : Int32) (v2 : Int32) (w : St) : V_X3_writesNumber l D H0 w0 (f_X3_writesNumber_b18 G v0 v1 v2 w) 18 [(0, lR v0), (1, lI v1), (2, lI v2)] [] w := by
  unfold f_X3_writesNumber_b18
  refine r_iload_n 19 2 dX3_writesNumber_18 rfl rfl rfl ?_
  refine r_istore_n (ls2 := [(3, lI v2), (0, lR v0), (1, lI v1), (2, lI v2)]) 20 dX3_writesNumber_19 rfl (by decide) rfl rfl ?_
  exact r_lsP [1, 2, 0] rfl (t_X3_writesNumber_l20 hl G (fun w => f_X3_writesNumber_b45 G  w) (fun w => t_X3_writesNumber_b45 hl G  w) G v0 v1 v2 w)
theorem t_X3_writesNumber {l : Launch} {D : Dn} {H0 : Heap} {w0 : St} (hl : l.stackTraces = false) (G : Nat) (a0 : Rf) (a1 : Int32) (w : St) : V_X3_writesNumber l D H0 w0 (f_X3_writesNumber G a0 a1 w) 0 [(0, lR a0), (1, lI a1)] [] w := by
  unfold f_X3_writesNumber
  refine r_iconst (v := 1) 1 dX3_writesNumber_0 rfl rfl ?_
  refine r_istore_n (ls2 := [(2, lI 1), (0, lR a0), (1, lI a1)]) 2 dX3_writesNumber_1 rfl (by decide) rfl rfl ?_
  exact r_lsP [1, 2, 0] rfl (t_X3_writesNumber_l2 hl G (fun v0 v1 v2 w => f_X3_writesNumber_b18 G  v0 v1 v2 w) (fun v0 v1 v2 w => t_X3_writesNumber_b18 hl G  v0 v1 v2 w) G a0 a1 1 w)
theorem s_X3_writesNumber {l : Launch} {D : Dn} {H0 : Heap} (hl : l.stackTraces = false) (G : Nat) (a0 : Rf) (a1 : Int32) (w : St) : SimN l D H0 yX3_writesNumber (ws_ yX3_writesNumber cX3_writesNumber 4 none) 1 21 rvU [lR a0, lI a1] w (f_X3_writesNumber G a0 a1 w) := SimX.N (SimX.ofV (y := yX3_writesNumber) (by decide) rfl (t_X3_writesNumber hl G a0 a1 w))
abbrev V_X3_writesEvent (l : Launch) (D : Dn) (H0 : Heap) (w0 : St) (res : Option (Unit × St)) (pc : Nat) (ls : List (Nat × LV)) (st : List Value) (w : St) : Prop := V l D H0 RX3 "writesEvent" cX3_writesEvent 4 none [] 3 68 (fun x => .inr (rvU x)) w0 res pc ls st w
theorem t_X3_writesEvent {l : Launch} {D : Dn} {H0 : Heap} {w0 : St} (hl : l.stackTraces = false) (G : Nat) (a0 : Rf) (a1 : Int32) (a2 : Int32) (a3 : Int32) (w : St) : V_X3_writesEvent l D H0 w0 (f_X3_writesEvent G a0 a1 a2 a3 w) 0 [(0, lR a0), (1, lI a1), (2, lI a2), (3, lI a3)] [] w := by
  unfold f_X3_writesEvent
  refine r_aload_n 1 0 dX3_writesEvent_0 rfl rfl rfl ?_
  refine r_aload_n 2 0 dX3_writesEvent_1 rfl rfl rfl ?_
  refine r_iload_n 3 1 dX3_writesEvent_2 rfl rfl rfl ?_
  refine r_iload_n 4 2 dX3_writesEvent_3 rfl rfl rfl ?_
  refine r_iload_n 5 3 dX3_writesEvent_4 rfl rfl rfl ?_
  refine r_gd (fun hc5 => ?_)
  refine r_callV (n := 3) (as := [lI a1, lI a2, lI a3]) (rest := [rf a0]) 8 26 (s_X3_minuteOf hl G a0 a1 a2 a3 w) hc5 rfl (lw_V q2405 q2407 qs60 q110 q2408) (by decide +kernel) (by decide) rfl rfl (cat2_r (cat2_nil (k := 0))) rfl dX3_writesEvent_5 rfl (fun x5 w5 => ?_)
  refine r_gd (fun hc8 => ?_)
  refine r_callV (n := 1) (as := [lI x5]) (rest := []) 11 26 (s_X3_writesNumber hl G a0 x5 w5) hc8 rfl (lw_V q2641 q2643 qs94 q110 q2644) (by decide +kernel) (by decide) rfl rfl (cat2_nil (k := 0)) rfl dX3_writesEvent_8 rfl (fun _ w8 => ?_)
  refine r_aload_n 12 0 dX3_writesEvent_11 rfl rfl rfl ?_
  refine r_iload_n 13 1 dX3_writesEvent_12 rfl rfl rfl ?_
  refine r_iload_n 14 2 dX3_writesEvent_13 rfl rfl rfl ?_
  refine r_iload_n 15 3 dX3_writesEvent_14 rfl rfl rfl ?_
  refine r_gd (fun hc15 => ?_)
  refine r_callV (n := 3) (as := [lI a1, lI a2, lI a3]) (rest := []) 18 26 (s_X3_lateOf hl G a0 a1 a2 a3 w8) hc15 rfl (lw_V q2450 q2452 qs71 q110 q2453) (by decide +kernel) (by decide) rfl rfl (cat2_nil (k := 0)) rfl dX3_writesEvent_15 rfl (fun x15 w15 => ?_)
  refine r_if_le 38 21 dX3_writesEvent_18 (by decide) rfl ?_ ?_
  · exact r_vret rfl rfl dX3_writesEvent_38
  refine r_aload_n 22 0 dX3_writesEvent_21 rfl rfl rfl ?_
  refine r_bipush (v := 43) 24 dX3_writesEvent_22 rfl rfl ?_
  refine r_gd (fun hc24 => ?_)
  refine r_callV (n := 1) (as := [lI 43]) (rest := []) 27 26 (s_X3_sign hl G a0 43 w15) hc24 rfl (lw_V q2637 q2639 qs93 q110 q2640) (by decide +kernel) (by decide) rfl rfl (cat2_nil (k := 0)) rfl dX3_writesEvent_24 rfl (fun _ w24 => ?_)
  refine r_aload_n 28 0 dX3_writesEvent_27 rfl rfl rfl ?_
  refine r_aload_n 29 0 dX3_writesEvent_28 rfl rfl rfl ?_
  refine r_iload_n 30 1 dX3_writesEvent_29 rfl rfl rfl ?_
  refine r_iload_n 31 2 dX3_writesEvent_30 rfl rfl rfl ?_
  refine r_iload_n 32 3 dX3_writesEvent_31 rfl rfl rfl ?_
  refine r_gd (fun hc32 => ?_)
  refine r_callV (n := 3) (as := [lI a1, lI a2, lI a3]) (rest := [rf a0]) 35 26 (s_X3_lateOf hl G a0 a1 a2 a3 w24) hc32 rfl (lw_V q2450 q2452 qs71 q110 q2453) (by decide +kernel) (by decide) rfl rfl (cat2_r (cat2_nil (k := 0))) rfl dX3_writesEvent_32 rfl (fun x32 w32 => ?_)
  refine r_gd (fun hc35 => ?_)
  refine r_callV (n := 1) (as := [lI x32]) (rest := []) 38 26 (s_X3_writesNumber hl G a0 x32 w32) hc35 rfl (lw_V q2641 q2643 qs94 q110 q2644) (by decide +kernel) (by decide) rfl rfl (cat2_nil (k := 0)) rfl dX3_writesEvent_35 rfl (fun _ w35 => ?_)
  exact r_vret rfl rfl dX3_writesEvent_38
theorem s_X3_writesEvent {l : Launch} {D : Dn} {H0 : Heap} (hl : l.stackTraces = false) (G : Nat) (a0 : Rf) (a1 : Int32) (a2 : Int32) (a3 : Int32) (w : St) : SimN l D H0 yX3_writesEvent (ws_ yX3_writesEvent cX3_writesEvent 4 none) 3 68 rvU [lR a0, lI a1, lI a2, lI a3] w (f_X3_writesEvent G a0 a1 a2 a3 w) := SimX.N (SimX.ofV (y := yX3_writesEvent) (by decide) rfl (t_X3_writesEvent hl G a0 a1 a2 a3 w))
abbrev V_X3_tell (l : Launch) (D : Dn) (H0 : Heap) (w0 : St) (res : Option (Int32 × St)) (pc : Nat) (ls : List (Nat × LV)) (st : List Value) (w : St) : Prop := V l D H0 RX3 "tell" cX3_tell 3 (some (.int)) [] 7 163 (fun x => .inr (rvI x)) w0 res pc ls st w
theorem t_X3_tell_b113 {l : Launch} {D : Dn} {H0 : Heap} {w0 : St} (hl : l.stackTraces = false) (G : Nat) (k32 : Rf → Int32 → Int32 → St → Option (Int32 × St)) (h32 : ∀ v0 v1 v2 w, V_X3_tell l D H0 w0 (k32 v0 v1 v2 w) 32 [(0, lR v0), (1, lI v1), (2, lI v2)] [] w) (v0 : Rf) (v1 : Int32) (v2 : Int32) (w : St) : V_X3_tell l D H0 w0 (f_X3_tell_b113 G k32 v0 v1 v2 w) 113 [(0, lR v0), (1, lI v1), (2, lI v2)] [] w := by
  unfold f_X3_tell_b113
  refine r_iinc (v := v2 + 1) (ls2 := [(2, lI (v2 + 1)), (0, lR v0), (1, lI v1)]) 116 2 dX3_tell_113 rfl rfl (by decide) rfl rfl ?_
  refine r_goto 32 dX3_tell_116 (by decide) ?_
  exact r_lsP [1, 2, 0] rfl (h32 v0 v1 (v2 + 1) w)
theorem t_X3_tell_b90 {l : Launch} {D : Dn} {H0 : Heap} {w0 : St} (hl : l.stackTraces = false) (G : Nat) (k32 : Rf → Int32 → Int32 → St → Option (Int32 × St)) (h32 : ∀ v0 v1 v2 w, V_X3_tell l D H0 w0 (k32 v0 v1 v2 w) 32 [(0, lR v0), (1, lI v1), (2, lI v2)] [] w) (v0 : Rf) (v1 : Int32) (v2 : Int32) (w : St) : V_X3_tell l D H0 w0 (f_X3_tell_b90 G k32 v0 v1 v2 w) 90 [(0, lR v0), (1, lI v1), (2, lI v2)] [] w := by
  unfold f_X3_tell_b90
  refine r_aload_n 91 0 dX3_tell_90 rfl rfl rfl ?_
  refine r_iload_n 92 1 dX3_tell_91 rfl rfl rfl ?_
  refine r_iload_n 93 2 dX3_tell_92 rfl rfl rfl ?_
  refine r_iconst (v := 1) 94 dX3_tell_93 rfl rfl ?_
  refine r_gd (fun hc94 => ?_)
  refine r_callV (n := 3) (as := [lI v1, lI v2, lI 1]) (rest := []) 97 26 (s_X3_isEvent hl G v0 v1 v2 1 w) hc94 rfl (lw_V q2353 q2355 qs52 q110 q2356) (by decide +kernel) (by decide) rfl rfl (cat2_nil (k := 0)) rfl dX3_tell_94 rfl (fun x94 w94 => ?_)
  refine r_if_eq 113 100 dX3_tell_97 (by decide) rfl ?_ ?_
  · exact r_lsP [0, 1, 2] rfl (t_X3_tell_b113 hl G k32 h32  v0 v1 v2 w94)
  refine r_aload_n 101 0 dX3_tell_100 rfl rfl rfl ?_
  refine r_bipush (v := 45) 103 dX3_tell_101 rfl rfl ?_
  refine r_gd (fun hc103 => ?_)
  refine r_callV (n := 1) (as := [lI 45]) (rest := []) 106 26 (s_X3_sign hl G v0 45 w94) hc103 rfl (lw_V q2637 q2639 qs93 q110 q2640) (by decide +kernel) (by decide) rfl rfl (cat2_nil (k := 0)) rfl dX3_tell_103 rfl (fun _ w103 => ?_)
  refine r_aload_n 107 0 dX3_tell_106 rfl rfl rfl ?_
  refine r_iload_n 108 1 dX3_tell_107 rfl rfl rfl ?_
  refine r_iload_n 109 2 dX3_tell_108 rfl rfl rfl ?_
  refine r_iconst (v := 1) 110 dX3_tell_109 rfl rfl ?_
  refine r_gd (fun hc110 => ?_)
  refine r_callV (n := 3) (as := [lI v1, lI v2, lI 1]) (rest := []) 113 26 (s_X3_writesEvent hl G v0 v1 v2 1 w103) hc110 rfl (lw_V q2645 q2647 qs95 q110 q2648) (by decide +kernel) (by decide) rfl rfl (cat2_nil (k := 0)) rfl dX3_tell_110 rfl (fun _ w110 => ?_)
  exact r_lsP [0, 1, 2] rfl (t_X3_tell_b113 hl G k32 h32  v0 v1 v2 w110)
theorem t_X3_tell_b51 {l : Launch} {D : Dn} {H0 : Heap} {w0 : St} (hl : l.stackTraces = false) (G : Nat) (k32 : Rf → Int32 → Int32 → St → Option (Int32 × St)) (h32 : ∀ v0 v1 v2 w, V_X3_tell l D H0 w0 (k32 v0 v1 v2 w) 32 [(0, lR v0), (1, lI v1), (2, lI v2)] [] w) (v0 : Rf) (v1 : Int32) (v2 : Int32) (w : St) : V_X3_tell l D H0 w0 (f_X3_tell_b51 G k32 v0 v1 v2 w) 51 [(0, lR v0), (1, lI v1), (2, lI v2)] [] w := by
  unfold f_X3_tell_b51
  refine r_aload_n 52 0 dX3_tell_51 rfl rfl rfl ?_
  refine r_aload_n 53 0 dX3_tell_52 rfl rfl rfl ?_
  refine r_getr 56 gf_X3_9 dX3_tell_53 rfl (fun x53 => ?_)
  refine r_iload_n 57 1 dX3_tell_56 rfl rfl rfl ?_
  refine r_iload_n 58 2 dX3_tell_57 rfl rfl rfl ?_
  refine r_callS (n := 2) (as := [lI v1, lI v2]) (rest := [rf x53, rf v0]) 61 (s_X3_ofStop hl G v1 v2 w) (lw_S q2302 q2303 q110 q2304) (by decide +kernel) (by decide) rfl rfl (cat2_r (cat2_r (cat2_nil (k := 0)))) rfl dX3_tell_58 rfl (fun x58 w58 => ?_)
  refine r_iconst (v := 0) 62 dX3_tell_61 rfl rfl ?_
  refine r_iadd 63 dX3_tell_62 rfl ?_
  refine r_iald 64 dX3_tell_63 rfl (fun x63 => ?_)
  refine r_gd (fun hc64 => ?_)
  refine r_callV (n := 1) (as := [lI x63]) (rest := []) 67 26 (s_X3_writesNumber hl G v0 x63 w58) hc64 rfl (lw_V q2641 q2643 qs94 q110 q2644) (by decide +kernel) (by decide) rfl rfl (cat2_nil (k := 0)) rfl dX3_tell_64 rfl (fun _ w64 => ?_)
  refine r_aload_n 68 0 dX3_tell_67 rfl rfl rfl ?_
  refine r_bipush (v := 64) 70 dX3_tell_68 rfl rfl ?_
  refine r_gd (fun hc70 => ?_)
  refine r_callV (n := 1) (as := [lI 64]) (rest := []) 73 26 (s_X3_sign hl G v0 64 w64) hc70 rfl (lw_V q2637 q2639 qs93 q110 q2640) (by decide +kernel) (by decide) rfl rfl (cat2_nil (k := 0)) rfl dX3_tell_70 rfl (fun _ w70 => ?_)
  refine r_aload_n 74 0 dX3_tell_73 rfl rfl rfl ?_
  refine r_iload_n 75 1 dX3_tell_74 rfl rfl rfl ?_
  refine r_iload_n 76 2 dX3_tell_75 rfl rfl rfl ?_
  refine r_iconst (v := 0) 77 dX3_tell_76 rfl rfl ?_
  refine r_gd (fun hc77 => ?_)
  refine r_callV (n := 3) (as := [lI v1, lI v2, lI 0]) (rest := []) 80 26 (s_X3_isEvent hl G v0 v1 v2 0 w70) hc77 rfl (lw_V q2353 q2355 qs52 q110 q2356) (by decide +kernel) (by decide) rfl rfl (cat2_nil (k := 0)) rfl dX3_tell_77 rfl (fun x77 w77 => ?_)
  refine r_if_eq 90 83 dX3_tell_80 (by decide) rfl ?_ ?_
  · exact r_lsP [0, 1, 2] rfl (t_X3_tell_b90 hl G k32 h32  v0 v1 v2 w77)
  refine r_aload_n 84 0 dX3_tell_83 rfl rfl rfl ?_
  refine r_iload_n 85 1 dX3_tell_84 rfl rfl rfl ?_
  refine r_iload_n 86 2 dX3_tell_85 rfl rfl rfl ?_
  refine r_iconst (v := 0) 87 dX3_tell_86 rfl rfl ?_
  refine r_gd (fun hc87 => ?_)
  refine r_callV (n := 3) (as := [lI v1, lI v2, lI 0]) (rest := []) 90 26 (s_X3_writesEvent hl G v0 v1 v2 0 w77) hc87 rfl (lw_V q2645 q2647 qs95 q110 q2648) (by decide +kernel) (by decide) rfl rfl (cat2_nil (k := 0)) rfl dX3_tell_87 rfl (fun _ w87 => ?_)
  exact r_lsP [0, 1, 2] rfl (t_X3_tell_b90 hl G k32 h32  v0 v1 v2 w87)
theorem t_X3_tell_l32 {l : Launch} {D : Dn} {H0 : Heap} {w0 : St} (hl : l.stackTraces = false) (G : Nat) (k119 : Rf → St → Option (Int32 × St)) (h119 : ∀ v0 w, V_X3_tell l D H0 w0 (k119 v0 w) 119 [(0, lR v0)] [] w) : ∀ (F : Nat) (v0 : Rf) (v1 : Int32) (v2 : Int32) (w : St), V_X3_tell l D H0 w0 (f_X3_tell_l32 G k119 F v0 v1 v2 w) 32 [(0, lR v0), (1, lI v1), (2, lI v2)] [] w := by
  intro F
  induction F with
  | zero => intros; exact r_none
  | succ F ih =>
    intro v0 v1 v2 w
    unfold f_X3_tell_l32
    refine r_iload_n 33 2 dX3_tell_32 rfl rfl rfl ?_
    refine r_aload_n 34 0 dX3_tell_33 rfl rfl rfl ?_
    refine r_iload_n 35 1 dX3_tell_34 rfl rfl rfl ?_
    refine r_gd (fun hc35 => ?_)
    refine r_callV (n := 1) (as := [lI v1]) (rest := [.int v2]) 38 26 (s_X3_stops hl G v0 v1 w) hc35 rfl (lw_V q2325 q2327 qs47 q110 q2328) (by decide +kernel) (by decide) rfl rfl (cat2_i (cat2_nil (k := 0))) rfl dX3_tell_35 rfl (fun x35 w35 => ?_)
    refine r_icmp_ge 119 41 dX3_tell_38 (by decide) rfl ?_ ?_
    · exact r_lsP [0] rfl (h119 v0 w35)
    refine r_iload_n 42 2 dX3_tell_41 rfl rfl rfl ?_
    refine r_if_le 51 45 dX3_tell_42 (by decide) rfl ?_ ?_
    · exact r_lsP [0, 1, 2] rfl (t_X3_tell_b51 hl G (fun v0 v1 v2 w => f_X3_tell_l32 G k119 F v0 v1 v2 w) (fun v0 v1 v2 w => ih v0 v1 v2 w)  v0 v1 v2 w35)
    refine r_aload_n 46 0 dX3_tell_45 rfl rfl rfl ?_
    refine r_bipush (v := 32) 48 dX3_tell_46 rfl rfl ?_
    refine r_gd (fun hc48 => ?_)
    refine r_callV (n := 1) (as := [lI 32]) (rest := []) 51 26 (s_X3_sign hl G v0 32 w35) hc48 rfl (lw_V q2637 q2639 qs93 q110 q2640) (by decide +kernel) (by decide) rfl rfl (cat2_nil (k := 0)) rfl dX3_tell_48 rfl (fun _ w48 => ?_)
    exact r_lsP [0, 1, 2] rfl (t_X3_tell_b51 hl G (fun v0 v1 v2 w => f_X3_tell_l32 G k119 F v0 v1 v2 w) (fun v0 v1 v2 w => ih v0 v1 v2 w)  v0 v1 v2 w48)
theorem t_X3_tell_b119 {l : Launch} {D : Dn} {H0 : Heap} {w0 : St} (hl : l.stackTraces = false) (G : Nat) (v0 : Rf) (w : St) : V_X3_tell l D H0 w0 (f_X3_tell_b119 G v0 w) 119 [(0, lR v0)] [] w := by
  unfold f_X3_tell_b119
  refine r_aload_n 120 0 dX3_tell_119 rfl rfl rfl ?_
  refine r_geti 123 gf_X3_322 dX3_tell_120 rfl (fun x120 => ?_)
  exact r_iret rfl rfl dX3_tell_123
theorem t_X3_tell {l : Launch} {D : Dn} {H0 : Heap} {w0 : St} (hl : l.stackTraces = false) (G : Nat) (a0 : Rf) (a1 : Int32) (w : St) : V_X3_tell l D H0 w0 (f_X3_tell G a0 a1 w) 0 [(0, lR a0), (1, lI a1)] [] w := by
  unfold f_X3_tell
  refine r_aload_n 1 0 dX3_tell_0 rfl rfl rfl ?_
  refine r_iconst (v := 0) 2 dX3_tell_1 rfl rfl ?_
  refine r_puti 5 pf_X3_69 dX3_tell_2 rfl (fun w2 => ?_)
  refine r_aload_n 6 0 dX3_tell_5 rfl rfl rfl ?_
  refine r_iload_n 7 1 dX3_tell_6 rfl rfl rfl ?_
  refine r_gd (fun hc7 => ?_)
  refine r_callV (n := 1) (as := [lI a1]) (rest := []) 10 26 (s_X3_isCoach hl G a0 a1 w2) hc7 rfl (lw_V q2317 q2319 qs45 q110 q2320) (by decide +kernel) (by decide) rfl rfl (cat2_nil (k := 0)) rfl dX3_tell_7 rfl (fun x7 w7 => ?_)
  refine r_if_ne 19 13 dX3_tell_10 (by decide) rfl ?_ ?_
  · refine r_aload_n 20 0 dX3_tell_19 rfl rfl rfl ?_
    refine r_iconst (v := (-1)) 21 dX3_tell_20 rfl rfl ?_
    refine r_iconst (v := (-1)) 22 dX3_tell_21 rfl rfl ?_
    refine r_gd (fun hc22 => ?_)
    refine r_callV (n := 2) (as := [lI ((-1)), lI ((-1))]) (rest := []) 25 26 (s_X3_laysMinutes hl G a0 ((-1)) ((-1)) w7) hc22 rfl (lw_V q2390 q2392 qs57 q110 q2393) (by decide +kernel) (by decide) rfl rfl (cat2_nil (k := 0)) rfl dX3_tell_22 rfl (fun _ w22 => ?_)
    refine r_aload_n 26 0 dX3_tell_25 rfl rfl rfl ?_
    refine r_iconst (v := 0) 27 dX3_tell_26 rfl rfl ?_
    refine r_puti 30 pf_X3_322 dX3_tell_27 rfl (fun w27 => ?_)
    refine r_iconst (v := 0) 31 dX3_tell_30 rfl rfl ?_
    refine r_istore_n (ls2 := [(2, lI 0), (0, lR a0), (1, lI a1)]) 32 dX3_tell_31 rfl (by decide) rfl rfl ?_
    exact r_lsP [1, 2, 0] rfl (t_X3_tell_l32 hl G (fun v0 w => f_X3_tell_b119 G  v0 w) (fun v0 w => t_X3_tell_b119 hl G  v0 w) G a0 a1 0 w27)
  refine r_aload_n 14 0 dX3_tell_13 rfl rfl rfl ?_
  refine r_iconst (v := 1) 15 dX3_tell_14 rfl rfl ?_
  refine r_gd (fun hc15 => ?_)
  refine r_callV (n := 1) (as := [lI 1]) (rest := []) 18 26 (s_X3_throwing hl G a0 1 w7) hc15 rfl (lw_V q2298 q2300 qs42 q110 q2301) (by decide +kernel) (by decide) rfl rfl (cat2_nil (k := 0)) rfl dX3_tell_15 rfl (fun x15 w15 => ?_)
  exact r_iret rfl rfl dX3_tell_18
theorem s_X3_tell {l : Launch} {D : Dn} {H0 : Heap} (hl : l.stackTraces = false) (G : Nat) (a0 : Rf) (a1 : Int32) (w : St) : SimN l D H0 yX3_tell (ws_ yX3_tell cX3_tell 3 (some (.int))) 7 163 rvI [lR a0, lI a1] w (f_X3_tell G a0 a1 w) := SimX.N (SimX.ofV (y := yX3_tell) (by decide) rfl (t_X3_tell hl G a0 a1 w))
abbrev V_X3_tellLinks (l : Launch) (D : Dn) (H0 : Heap) (w0 : St) (res : Option (Int32 × St)) (pc : Nat) (ls : List (Nat × LV)) (st : List Value) (w : St) : Prop := V l D H0 RX3 "tellLinks" cX3_tellLinks 3 (some (.int)) [] 7 163 (fun x => .inr (rvI x)) w0 res pc ls st w
theorem t_X3_tellLinks_b147 {l : Launch} {D : Dn} {H0 : Heap} {w0 : St} (hl : l.stackTraces = false) (G : Nat) (k18 : Rf → Int32 → St → Option (Int32 × St)) (h18 : ∀ v0 v1 w, V_X3_tellLinks l D H0 w0 (k18 v0 v1 w) 18 [(0, lR v0), (1, lI v1)] [] w) (v0 : Rf) (v1 : Int32) (w : St) : V_X3_tellLinks l D H0 w0 (f_X3_tellLinks_b147 G k18 v0 v1 w) 147 [(0, lR v0), (1, lI v1)] [] w := by
  unfold f_X3_tellLinks_b147
  refine r_iinc (v := v1 + 1) (ls2 := [(1, lI (v1 + 1)), (0, lR v0)]) 150 1 dX3_tellLinks_147 rfl rfl (by decide) rfl rfl ?_
  refine r_goto 18 dX3_tellLinks_150 (by decide) ?_
  exact r_lsP [1, 0] rfl (h18 v0 (v1 + 1) w)
theorem t_X3_tellLinks_b43 {l : Launch} {D : Dn} {H0 : Heap} {w0 : St} (hl : l.stackTraces = false) (G : Nat) (k18 : Rf → Int32 → St → Option (Int32 × St)) (h18 : ∀ v0 v1 w, V_X3_tellLinks l D H0 w0 (k18 v0 v1 w) 18 [(0, lR v0), (1, lI v1)] [] w) (v0 : Rf) (v1 : Int32) (v2 : Int32) (w : St) : V_X3_tellLinks l D H0 w0 (f_X3_tellLinks_b43 G k18 v0 v1 v2 w) 43 [(0, lR v0), (1, lI v1), (2, lI v2)] [] w := by
  unfold f_X3_tellLinks_b43
  refine r_aload_n 44 0 dX3_tellLinks_43 rfl rfl rfl ?_
  refine r_aload_n 45 0 dX3_tellLinks_44 rfl rfl rfl ?_
  refine r_getr 48 gf_X3_9 dX3_tellLinks_45 rfl (fun x45 => ?_)
  refine r_iload_n 49 2 dX3_tellLinks_48 rfl rfl rfl ?_
  refine r_iald 50 dX3_tellLinks_49 rfl (fun x49 => ?_)
  refine r_gd (fun hc50 => ?_)
  refine r_callV (n := 1) (as := [lI x49]) (rest := []) 53 26 (s_X3_writesNumber hl G v0 x49 w) hc50 rfl (lw_V q2641 q2643 qs94 q110 q2644) (by decide +kernel) (by decide) rfl rfl (cat2_nil (k := 0)) rfl dX3_tellLinks_50 rfl (fun _ w50 => ?_)
  refine r_aload_n 54 0 dX3_tellLinks_53 rfl rfl rfl ?_
  refine r_bipush (v := 46) 56 dX3_tellLinks_54 rfl rfl ?_
  refine r_gd (fun hc56 => ?_)
  refine r_callV (n := 1) (as := [lI 46]) (rest := []) 59 26 (s_X3_sign hl G v0 46 w50) hc56 rfl (lw_V q2637 q2639 qs93 q110 q2640) (by decide +kernel) (by decide) rfl rfl (cat2_nil (k := 0)) rfl dX3_tellLinks_56 rfl (fun _ w56 => ?_)
  refine r_aload_n 60 0 dX3_tellLinks_59 rfl rfl rfl ?_
  refine r_aload_n 61 0 dX3_tellLinks_60 rfl rfl rfl ?_
  refine r_getr 64 gf_X3_9 dX3_tellLinks_61 rfl (fun x61 => ?_)
  refine r_iload_n 65 2 dX3_tellLinks_64 rfl rfl rfl ?_
  refine r_iconst (v := 1) 66 dX3_tellLinks_65 rfl rfl ?_
  refine r_iadd 67 dX3_tellLinks_66 rfl ?_
  refine r_iald 68 dX3_tellLinks_67 rfl (fun x67 => ?_)
  refine r_gd (fun hc68 => ?_)
  refine r_callV (n := 1) (as := [lI x67]) (rest := []) 71 26 (s_X3_writesNumber hl G v0 x67 w56) hc68 rfl (lw_V q2641 q2643 qs94 q110 q2644) (by decide +kernel) (by decide) rfl rfl (cat2_nil (k := 0)) rfl dX3_tellLinks_68 rfl (fun _ w68 => ?_)
  refine r_aload_n 72 0 dX3_tellLinks_71 rfl rfl rfl ?_
  refine r_bipush (v := 62) 74 dX3_tellLinks_72 rfl rfl ?_
  refine r_gd (fun hc74 => ?_)
  refine r_callV (n := 1) (as := [lI 62]) (rest := []) 77 26 (s_X3_sign hl G v0 62 w68) hc74 rfl (lw_V q2637 q2639 qs93 q110 q2640) (by decide +kernel) (by decide) rfl rfl (cat2_nil (k := 0)) rfl dX3_tellLinks_74 rfl (fun _ w74 => ?_)
  refine r_aload_n 78 0 dX3_tellLinks_77 rfl rfl rfl ?_
  refine r_aload_n 79 0 dX3_tellLinks_78 rfl rfl rfl ?_
  refine r_getr 82 gf_X3_9 dX3_tellLinks_79 rfl (fun x79 => ?_)
  refine r_iload_n 83 2 dX3_tellLinks_82 rfl rfl rfl ?_
  refine r_iconst (v := 2) 84 dX3_tellLinks_83 rfl rfl ?_
  refine r_iadd 85 dX3_tellLinks_84 rfl ?_
  refine r_iald 86 dX3_tellLinks_85 rfl (fun x85 => ?_)
  refine r_gd (fun hc86 => ?_)
  refine r_callV (n := 1) (as := [lI x85]) (rest := []) 89 26 (s_X3_writesNumber hl G v0 x85 w74) hc86 rfl (lw_V q2641 q2643 qs94 q110 q2644) (by decide +kernel) (by decide) rfl rfl (cat2_nil (k := 0)) rfl dX3_tellLinks_86 rfl (fun _ w86 => ?_)
  refine r_aload_n 90 0 dX3_tellLinks_89 rfl rfl rfl ?_
  refine r_bipush (v := 46) 92 dX3_tellLinks_90 rfl rfl ?_
  refine r_gd (fun hc92 => ?_)
  refine r_callV (n := 1) (as := [lI 46]) (rest := []) 95 26 (s_X3_sign hl G v0 46 w86) hc92 rfl (lw_V q2637 q2639 qs93 q110 q2640) (by decide +kernel) (by decide) rfl rfl (cat2_nil (k := 0)) rfl dX3_tellLinks_92 rfl (fun _ w92 => ?_)
  refine r_aload_n 96 0 dX3_tellLinks_95 rfl rfl rfl ?_
  refine r_aload_n 97 0 dX3_tellLinks_96 rfl rfl rfl ?_
  refine r_getr 100 gf_X3_9 dX3_tellLinks_97 rfl (fun x97 => ?_)
  refine r_iload_n 101 2 dX3_tellLinks_100 rfl rfl rfl ?_
  refine r_iconst (v := 3) 102 dX3_tellLinks_101 rfl rfl ?_
  refine r_iadd 103 dX3_tellLinks_102 rfl ?_
  refine r_iald 104 dX3_tellLinks_103 rfl (fun x103 => ?_)
  refine r_gd (fun hc104 => ?_)
  refine r_callV (n := 1) (as := [lI x103]) (rest := []) 107 26 (s_X3_writesNumber hl G v0 x103 w92) hc104 rfl (lw_V q2641 q2643 qs94 q110 q2644) (by decide +kernel) (by decide) rfl rfl (cat2_nil (k := 0)) rfl dX3_tellLinks_104 rfl (fun _ w104 => ?_)
  refine r_aload_n 108 0 dX3_tellLinks_107 rfl rfl rfl ?_
  refine r_iload_n 109 1 dX3_tellLinks_108 rfl rfl rfl ?_
  refine r_gd (fun hc109 => ?_)
  refine r_callV (n := 1) (as := [lI v1]) (rest := []) 112 26 (s_X3_isKept hl G v0 v1 w104) hc109 rfl (lw_V q2430 q2432 qs66 q110 q2433) (by decide +kernel) (by decide) rfl rfl (cat2_nil (k := 0)) rfl dX3_tellLinks_109 rfl (fun x109 w109 => ?_)
  refine r_if_ne 124 115 dX3_tellLinks_112 (by decide) rfl ?_ ?_
  · refine r_aload_n 125 0 dX3_tellLinks_124 rfl rfl rfl ?_
    refine r_iload_n 126 1 dX3_tellLinks_125 rfl rfl rfl ?_
    refine r_gd (fun hc126 => ?_)
    refine r_callV (n := 1) (as := [lI v1]) (rest := []) 129 26 (s_X3_waitsOf hl G v0 v1 w109) hc126 rfl (lw_V q2504 q2506 qs78 q110 q2507) (by decide +kernel) (by decide) rfl rfl (cat2_nil (k := 0)) rfl dX3_tellLinks_126 rfl (fun x126 w126 => ?_)
    refine r_if_le 147 132 dX3_tellLinks_129 (by decide) rfl ?_ ?_
    · exact r_lsP [0, 1] rfl (t_X3_tellLinks_b147 hl G k18 h18  v0 v1 w126)
    refine r_aload_n 133 0 dX3_tellLinks_132 rfl rfl rfl ?_
    refine r_bipush (v := 119) 135 dX3_tellLinks_133 rfl rfl ?_
    refine r_gd (fun hc135 => ?_)
    refine r_callV (n := 1) (as := [lI 119]) (rest := []) 138 26 (s_X3_sign hl G v0 119 w126) hc135 rfl (lw_V q2637 q2639 qs93 q110 q2640) (by decide +kernel) (by decide) rfl rfl (cat2_nil (k := 0)) rfl dX3_tellLinks_135 rfl (fun _ w135 => ?_)
    refine r_aload_n 139 0 dX3_tellLinks_138 rfl rfl rfl ?_
    refine r_aload_n 140 0 dX3_tellLinks_139 rfl rfl rfl ?_
    refine r_iload_n 141 1 dX3_tellLinks_140 rfl rfl rfl ?_
    refine r_gd (fun hc141 => ?_)
    refine r_callV (n := 1) (as := [lI v1]) (rest := [rf v0]) 144 26 (s_X3_waitsOf hl G v0 v1 w135) hc141 rfl (lw_V q2504 q2506 qs78 q110 q2507) (by decide +kernel) (by decide) rfl rfl (cat2_r (cat2_nil (k := 0))) rfl dX3_tellLinks_141 rfl (fun x141 w141 => ?_)
    refine r_gd (fun hc144 => ?_)
    refine r_callV (n := 1) (as := [lI x141]) (rest := []) 147 26 (s_X3_writesNumber hl G v0 x141 w141) hc144 rfl (lw_V q2641 q2643 qs94 q110 q2644) (by decide +kernel) (by decide) rfl rfl (cat2_nil (k := 0)) rfl dX3_tellLinks_144 rfl (fun _ w144 => ?_)
    exact r_lsP [0, 1] rfl (t_X3_tellLinks_b147 hl G k18 h18  v0 v1 w144)
  refine r_aload_n 116 0 dX3_tellLinks_115 rfl rfl rfl ?_
  refine r_bipush (v := 33) 118 dX3_tellLinks_116 rfl rfl ?_
  refine r_gd (fun hc118 => ?_)
  refine r_callV (n := 1) (as := [lI 33]) (rest := []) 121 26 (s_X3_sign hl G v0 33 w109) hc118 rfl (lw_V q2637 q2639 qs93 q110 q2640) (by decide +kernel) (by decide) rfl rfl (cat2_nil (k := 0)) rfl dX3_tellLinks_118 rfl (fun _ w118 => ?_)
  refine r_goto 147 dX3_tellLinks_121 (by decide) ?_
  exact r_lsP [0, 1] rfl (t_X3_tellLinks_b147 hl G k18 h18  v0 v1 w118)
theorem t_X3_tellLinks_l18 {l : Launch} {D : Dn} {H0 : Heap} {w0 : St} (hl : l.stackTraces = false) (G : Nat) (k153 : Rf → St → Option (Int32 × St)) (h153 : ∀ v0 w, V_X3_tellLinks l D H0 w0 (k153 v0 w) 153 [(0, lR v0)] [] w) : ∀ (F : Nat) (v0 : Rf) (v1 : Int32) (w : St), V_X3_tellLinks l D H0 w0 (f_X3_tellLinks_l18 G k153 F v0 v1 w) 18 [(0, lR v0), (1, lI v1)] [] w := by
  intro F
  induction F with
  | zero => intros; exact r_none
  | succ F ih =>
    intro v0 v1 w
    unfold f_X3_tellLinks_l18
    refine r_iload_n 19 1 dX3_tellLinks_18 rfl rfl rfl ?_
    refine r_aload_n 20 0 dX3_tellLinks_19 rfl rfl rfl ?_
    refine r_getr 23 gf_X3_9 dX3_tellLinks_20 rfl (fun x20 => ?_)
    refine r_iconst (v := 1) 24 dX3_tellLinks_23 rfl rfl ?_
    refine r_iald 25 dX3_tellLinks_24 rfl (fun x24 => ?_)
    refine r_icmp_ge 153 28 dX3_tellLinks_25 (by decide) rfl ?_ ?_
    · exact r_lsP [0] rfl (h153 v0 w)
    refine r_iload_n 29 1 dX3_tellLinks_28 rfl rfl rfl ?_
    refine r_callS (n := 1) (as := [lI v1]) (rest := []) 32 (s_X3_ofLink hl G v1 w) (lw_S q2358 q2359 q110 q2360) (by decide +kernel) (by decide) rfl rfl (cat2_nil (k := 0)) rfl dX3_tellLinks_29 rfl (fun x29 w29 => ?_)
    refine r_istore_n (ls2 := [(2, lI x29), (0, lR v0), (1, lI v1)]) 33 dX3_tellLinks_32 rfl (by decide) rfl rfl ?_
    refine r_iload_n 34 2 dX3_tellLinks_33 rfl rfl rfl ?_
    refine r_if_le 43 37 dX3_tellLinks_34 (by decide) rfl ?_ ?_
    · exact r_lsP [1, 2, 0] rfl (t_X3_tellLinks_b43 hl G (fun v0 v1 w => f_X3_tellLinks_l18 G k153 F v0 v1 w) (fun v0 v1 w => ih v0 v1 w)  v0 v1 x29 w29)
    refine r_aload_n 38 1 dX3_tellLinks_37 rfl rfl rfl ?_
    refine r_bipush (v := 32) 40 dX3_tellLinks_38 rfl rfl ?_
    refine r_gd (fun hc40 => ?_)
    refine r_callV (n := 1) (as := [lI 32]) (rest := []) 43 26 (s_X3_sign hl G v0 32 w29) hc40 rfl (lw_V q2637 q2639 qs93 q110 q2640) (by decide +kernel) (by decide) rfl rfl (cat2_nil (k := 0)) rfl dX3_tellLinks_40 rfl (fun _ w40 => ?_)
    exact r_lsP [1, 2, 0] rfl (t_X3_tellLinks_b43 hl G (fun v0 v1 w => f_X3_tellLinks_l18 G k153 F v0 v1 w) (fun v0 v1 w => ih v0 v1 w)  v0 v1 x29 w40)
theorem t_X3_tellLinks_b153 {l : Launch} {D : Dn} {H0 : Heap} {w0 : St} (hl : l.stackTraces = false) (G : Nat) (v0 : Rf) (w : St) : V_X3_tellLinks l D H0 w0 (f_X3_tellLinks_b153 G v0 w) 153 [(0, lR v0)] [] w := by
  unfold f_X3_tellLinks_b153
  refine r_aload_n 154 0 dX3_tellLinks_153 rfl rfl rfl ?_
  refine r_geti 157 gf_X3_322 dX3_tellLinks_154 rfl (fun x154 => ?_)
  exact r_iret rfl rfl dX3_tellLinks_157
theorem t_X3_tellLinks {l : Launch} {D : Dn} {H0 : Heap} {w0 : St} (hl : l.stackTraces = false) (G : Nat) (a0 : Rf) (w : St) : V_X3_tellLinks l D H0 w0 (f_X3_tellLinks G a0 w) 0 [(0, lR a0)] [] w := by
  unfold f_X3_tellLinks
  refine r_aload_n 1 0 dX3_tellLinks_0 rfl rfl rfl ?_
  refine r_iconst (v := 0) 2 dX3_tellLinks_1 rfl rfl ?_
  refine r_puti 5 pf_X3_69 dX3_tellLinks_2 rfl (fun w2 => ?_)
  refine r_aload_n 6 0 dX3_tellLinks_5 rfl rfl rfl ?_
  refine r_iconst (v := (-1)) 7 dX3_tellLinks_6 rfl rfl ?_
  refine r_iconst (v := (-1)) 8 dX3_tellLinks_7 rfl rfl ?_
  refine r_gd (fun hc8 => ?_)
  refine r_callV (n := 2) (as := [lI ((-1)), lI ((-1))]) (rest := []) 11 26 (s_X3_laysMinutes hl G a0 ((-1)) ((-1)) w2) hc8 rfl (lw_V q2390 q2392 qs57 q110 q2393) (by decide +kernel) (by decide) rfl rfl (cat2_nil (k := 0)) rfl dX3_tellLinks_8 rfl (fun _ w8 => ?_)
  refine r_aload_n 12 0 dX3_tellLinks_11 rfl rfl rfl ?_
  refine r_iconst (v := 0) 13 dX3_tellLinks_12 rfl rfl ?_
  refine r_puti 16 pf_X3_322 dX3_tellLinks_13 rfl (fun w13 => ?_)
  refine r_iconst (v := 0) 17 dX3_tellLinks_16 rfl rfl ?_
  refine r_istore_n (ls2 := [(1, lI 0), (0, lR a0)]) 18 dX3_tellLinks_17 rfl (by decide) rfl rfl ?_
  exact r_lsP [1, 0] rfl (t_X3_tellLinks_l18 hl G (fun v0 w => f_X3_tellLinks_b153 G  v0 w) (fun v0 w => t_X3_tellLinks_b153 hl G  v0 w) G a0 0 w13)
theorem s_X3_tellLinks {l : Launch} {D : Dn} {H0 : Heap} (hl : l.stackTraces = false) (G : Nat) (a0 : Rf) (w : St) : SimN l D H0 yX3_tellLinks (ws_ yX3_tellLinks cX3_tellLinks 3 (some (.int))) 7 163 rvI [lR a0] w (f_X3_tellLinks G a0 w) := SimX.N (SimX.ofV (y := yX3_tellLinks) (by decide) rfl (t_X3_tellLinks hl G a0 w))
abbrev V_X3_character (l : Launch) (D : Dn) (H0 : Heap) (w0 : St) (res : Option (Int32 × St)) (pc : Nat) (ls : List (Nat × LV)) (st : List Value) (w : St) : Prop := V l D H0 RX3 "character" cX3_character 2 (some (.char)) [] 1 25 (fun x => .inr (rvI x)) w0 res pc ls st w
theorem t_X3_character {l : Launch} {D : Dn} {H0 : Heap} {w0 : St} (hl : l.stackTraces = false) (G : Nat) (a0 : Rf) (a1 : Int32) (w : St) : V_X3_character l D H0 w0 (f_X3_character G a0 a1 w) 0 [(0, lR a0), (1, lI a1)] [] w := by
  unfold f_X3_character
  refine r_aload_n 1 0 dX3_character_0 rfl rfl rfl ?_
  refine r_iconst (v := 0) 2 dX3_character_1 rfl rfl ?_
  refine r_puti 5 pf_X3_69 dX3_character_2 rfl (fun w2 => ?_)
  refine r_iload_n 6 1 dX3_character_5 rfl rfl rfl ?_
  refine r_i2l 7 dX3_character_6 rfl ?_
  refine r_lconst (v := 0) 8 dX3_character_7 rfl rfl ?_
  refine r_aload_n 9 0 dX3_character_8 rfl rfl rfl ?_
  refine r_geti 12 gf_X3_322 dX3_character_9 rfl (fun x9 => ?_)
  refine r_iconst (v := 1) 13 dX3_character_12 rfl rfl ?_
  refine r_isub 14 dX3_character_13 rfl ?_
  refine r_i2l 15 dX3_character_14 rfl ?_
  refine r_callS (n := 3) (as := [lJ a1.toInt64, lJ 0, lJ ((x9 - 1).toInt64)]) (rest := []) 18 (s_X3_in hl G a1.toInt64 0 ((x9 - 1).toInt64) w2) (lw_S q2290 q2291 q110 q2292) (by decide +kernel) (by decide) rfl rfl (cat2_nil (k := 0)) rfl dX3_character_15 rfl (fun x15 w15 => ?_)
  refine r_if_eq 31 21 dX3_character_18 (by decide) rfl ?_ ?_
  · refine r_aload_n 32 0 dX3_character_31 rfl rfl rfl ?_
    refine r_iconst (v := 1) 33 dX3_character_32 rfl rfl ?_
    refine r_gd (fun hc33 => ?_)
    refine r_callV (n := 1) (as := [lI 1]) (rest := []) 36 26 (s_X3_throwing hl G a0 1 w15) hc33 rfl (lw_V q2298 q2300 qs42 q110 q2301) (by decide +kernel) (by decide) rfl rfl (cat2_nil (k := 0)) rfl dX3_character_33 rfl (fun x33 w33 => ?_)
    refine r_i2c 37 dX3_character_36 rfl ?_
    exact r_cretG rfl rfl dX3_character_37
  refine r_aload_n 22 0 dX3_character_21 rfl rfl rfl ?_
  refine r_getr 25 gf_X3_66 dX3_character_22 rfl (fun x22 => ?_)
  refine r_iload_n 26 1 dX3_character_25 rfl rfl rfl ?_
  refine r_iald 27 dX3_character_26 rfl (fun x26 => ?_)
  refine r_i2c 28 dX3_character_27 rfl ?_
  refine r_goto 37 dX3_character_28 (by decide) ?_
  exact r_cretG rfl rfl dX3_character_37
theorem s_X3_character {l : Launch} {D : Dn} {H0 : Heap} (hl : l.stackTraces = false) (G : Nat) (a0 : Rf) (a1 : Int32) (w : St) : SimN l D H0 yX3_character (ws_ yX3_character cX3_character 2 (some (.char))) 1 25 rvI [lR a0, lI a1] w (f_X3_character G a0 a1 w) := SimX.N (SimX.ofV (y := yX3_character) (by decide) rfl (t_X3_character hl G a0 a1 w))
abbrev V_X3_ofEvents (l : Launch) (D : Dn) (H0 : Heap) (w0 : St) (res : Option (Int32 × St)) (pc : Nat) (ls : List (Nat × LV)) (st : List Value) (w : St) : Prop := V l D H0 RX3 "ofEvents" cX3_ofEvents 7 (some (.int)) [] 3 69 (fun x => .inr (rvI x)) w0 res pc ls st w
theorem t_X3_ofEvents_b76 {l : Launch} {D : Dn} {H0 : Heap} {w0 : St} (hl : l.stackTraces = false) (G : Nat) (k10 : Rf → Int32 → Int32 → Int32 → Int32 → Int32 → St → Option (Int32 × St)) (h10 : ∀ v0 v1 v2 v3 v4 v5 w, V_X3_ofEvents l D H0 w0 (k10 v0 v1 v2 v3 v4 v5 w) 10 [(0, lR v0), (1, lI v1), (2, lI v2), (3, lI v3), (4, lI v4), (5, lI v5)] [] w) (v0 : Rf) (v1 : Int32) (v2 : Int32) (v3 : Int32) (v4 : Int32) (v5 : Int32) (w : St) : V_X3_ofEvents l D H0 w0 (f_X3_ofEvents_b76 G k10 v0 v1 v2 v3 v4 v5 w) 76 [(0, lR v0), (1, lI v1), (2, lI v2), (3, lI v3), (4, lI v4), (5, lI v5)] [] w := by
  unfold f_X3_ofEvents_b76
  refine r_iinc (v := v5 + 1) (ls2 := [(5, lI (v5 + 1)), (0, lR v0), (1, lI v1), (2, lI v2), (3, lI v3), (4, lI v4)]) 79 5 dX3_ofEvents_76 rfl rfl (by decide) rfl rfl ?_
  refine r_goto 10 dX3_ofEvents_79 (by decide) ?_
  exact r_lsP [1, 2, 3, 4, 5, 0] rfl (h10 v0 v1 v2 v3 v4 (v5 + 1) w)
theorem t_X3_ofEvents_b65 {l : Launch} {D : Dn} {H0 : Heap} {w0 : St} (hl : l.stackTraces = false) (G : Nat) (k10 : Rf → Int32 → Int32 → Int32 → Int32 → Int32 → St → Option (Int32 × St)) (h10 : ∀ v0 v1 v2 v3 v4 v5 w, V_X3_ofEvents l D H0 w0 (k10 v0 v1 v2 v3 v4 v5 w) 10 [(0, lR v0), (1, lI v1), (2, lI v2), (3, lI v3), (4, lI v4), (5, lI v5)] [] w) (v0 : Rf) (v1 : Int32) (v2 : Int32) (v4 : Int32) (v5 : Int32) (v6 : Int32) (s0 : Int32) (s1 : Int32) (w : St) : V_X3_ofEvents l D H0 w0 (f_X3_ofEvents_b65 G k10 v0 v1 v2 v4 v5 v6 s0 s1 w) 65 [(0, lR v0), (1, lI v1), (2, lI v2), (4, lI v4), (5, lI v5), (6, lI v6)] [.int s0, .int s1] w := by
  unfold f_X3_ofEvents_b65
  refine r_iadd 66 dX3_ofEvents_65 rfl ?_
  refine r_istore_n (ls2 := [(3, lI (s1 + s0)), (0, lR v0), (1, lI v1), (2, lI v2), (4, lI v4), (5, lI v5), (6, lI v6)]) 67 dX3_ofEvents_66 rfl (by decide) rfl rfl ?_
  refine r_iload 69 4 dX3_ofEvents_67 rfl rfl ?_
  refine r_iload 71 6 dX3_ofEvents_69 rfl rfl ?_
  refine r_callS (n := 2) (as := [lI v4, lI v6]) (rest := []) 74 (s_J15_max hl G v4 v6 w) (lw_S q2409 q441 q121 q442) (by decide +kernel) (by decide) rfl rfl (cat2_nil (k := 0)) rfl dX3_ofEvents_71 rfl (fun x71 w71 => ?_)
  refine r_istore (ls2 := [(4, lI x71), (3, lI (s1 + s0)), (0, lR v0), (1, lI v1), (2, lI v2), (5, lI v5), (6, lI v6)]) 76 dX3_ofEvents_74 (by decide) rfl rfl ?_
  exact r_lsP [2, 3, 4, 1, 0, 5] rfl (t_X3_ofEvents_b76 hl G k10 h10  v0 v1 v2 (s1 + s0) x71 v5 w71)
theorem t_X3_ofEvents_l10 {l : Launch} {D : Dn} {H0 : Heap} {w0 : St} (hl : l.stackTraces = false) (G : Nat) (k82 : Int32 → Int32 → Int32 → Int32 → St → Option (Int32 × St)) (h82 : ∀ v1 v2 v3 v4 w, V_X3_ofEvents l D H0 w0 (k82 v1 v2 v3 v4 w) 82 [(1, lI v1), (2, lI v2), (3, lI v3), (4, lI v4)] [] w) : ∀ (F : Nat) (v0 : Rf) (v1 : Int32) (v2 : Int32) (v3 : Int32) (v4 : Int32) (v5 : Int32) (w : St), V_X3_ofEvents l D H0 w0 (f_X3_ofEvents_l10 G k82 F v0 v1 v2 v3 v4 v5 w) 10 [(0, lR v0), (1, lI v1), (2, lI v2), (3, lI v3), (4, lI v4), (5, lI v5)] [] w := by
  intro F
  induction F with
  | zero => intros; exact r_none
  | succ F ih =>
    intro v0 v1 v2 v3 v4 v5 w
    unfold f_X3_ofEvents_l10
    refine r_iload 12 5 dX3_ofEvents_10 rfl rfl ?_
    refine r_aload_n 13 0 dX3_ofEvents_12 rfl rfl rfl ?_
    refine r_getr 16 gf_X3_47 dX3_ofEvents_13 rfl (fun x13 => ?_)
    refine r_alen 17 dX3_ofEvents_16 rfl (fun x16 => ?_)
    refine r_icmp_ge 82 20 dX3_ofEvents_17 (by decide) rfl ?_ ?_
    · exact r_lsP [1, 2, 3, 4] rfl (h82 v1 v2 v3 v4 w)
    refine r_aload_n 21 0 dX3_ofEvents_20 rfl rfl rfl ?_
    refine r_iload 23 5 dX3_ofEvents_21 rfl rfl ?_
    refine r_gd (fun hc23 => ?_)
    refine r_callV (n := 1) (as := [lI v5]) (rest := []) 26 26 (s_X3_hasEvent hl G v0 v5 w) hc23 rfl (lw_V q2565 q2567 qs82 q110 q2568) (by decide +kernel) (by decide) rfl rfl (cat2_nil (k := 0)) rfl dX3_ofEvents_23 rfl (fun x23 w23 => ?_)
    refine r_if_eq 76 29 dX3_ofEvents_26 (by decide) rfl ?_ ?_
    · exact r_lsP [0, 1, 2, 3, 4, 5] rfl (t_X3_ofEvents_b76 hl G (fun v0 v1 v2 v3 v4 v5 w => f_X3_ofEvents_l10 G k82 F v0 v1 v2 v3 v4 v5 w) (fun v0 v1 v2 v3 v4 v5 w => ih v0 v1 v2 v3 v4 v5 w)  v0 v1 v2 v3 v4 v5 w23)
    refine r_aload_n 30 0 dX3_ofEvents_29 rfl rfl rfl ?_
    refine r_iload 32 5 dX3_ofEvents_30 rfl rfl ?_
    refine r_bipush (v := 12) 34 dX3_ofEvents_32 rfl rfl ?_
    refine r_idiv 35 dX3_ofEvents_34 (by decide) rfl ?_
    refine r_iload 37 5 dX3_ofEvents_35 rfl rfl ?_
    refine r_iconst (v := 2) 38 dX3_ofEvents_37 rfl rfl ?_
    refine r_idiv 39 dX3_ofEvents_38 (by decide) rfl ?_
    refine r_bipush (v := 6) 41 dX3_ofEvents_39 rfl rfl ?_
    refine r_irem 42 dX3_ofEvents_41 (by decide) rfl ?_
    refine r_iload 44 5 dX3_ofEvents_42 rfl rfl ?_
    refine r_iconst (v := 2) 45 dX3_ofEvents_44 rfl rfl ?_
    refine r_irem 46 dX3_ofEvents_45 (by decide) rfl ?_
    refine r_gd (fun hc46 => ?_)
    refine r_callV (n := 3) (as := [lI (v5 / 12), lI ((v5 / 2) - (v5 / 2) / 6 * 6), lI (v5 - v5 / 2 * 2)]) (rest := []) 49 26 (s_X3_lateOf hl G v0 (v5 / 12) ((v5 / 2) - (v5 / 2) / 6 * 6) (v5 - v5 / 2 * 2) w23) hc46 rfl (lw_V q2450 q2452 qs71 q110 q2453) (by decide +kernel) (by decide) rfl rfl (cat2_nil (k := 0)) rfl dX3_ofEvents_46 rfl (fun x46 w46 => ?_)
    refine r_istore (ls2 := [(6, lI x46), (0, lR v0), (1, lI v1), (2, lI v2), (3, lI v3), (4, lI v4), (5, lI v5)]) 51 dX3_ofEvents_49 (by decide) rfl rfl ?_
    refine r_iinc (v := v2 + 1) (ls2 := [(2, lI (v2 + 1)), (6, lI x46), (0, lR v0), (1, lI v1), (3, lI v3), (4, lI v4), (5, lI v5)]) 54 3 dX3_ofEvents_51 rfl rfl (by decide) rfl rfl ?_
    refine r_iload_n 55 4 dX3_ofEvents_54 rfl rfl rfl ?_
    refine r_iload 57 1 dX3_ofEvents_55 rfl rfl ?_
    refine r_if_le 64 60 dX3_ofEvents_57 (by decide) rfl ?_ ?_
    · refine r_iconst (v := 0) 65 dX3_ofEvents_64 rfl rfl ?_
      exact r_lsP [2, 3, 0, 5, 6, 1] rfl (t_X3_ofEvents_b65 hl G (fun v0 v1 v2 v3 v4 v5 w => f_X3_ofEvents_l10 G k82 F v0 v1 v2 v3 v4 v5 w) (fun v0 v1 v2 v3 v4 v5 w => ih v0 v1 v2 v3 v4 v5 w)  v0 v1 (v2 + 1) v4 v5 x46 0 v3 w46)
    refine r_iconst (v := 1) 61 dX3_ofEvents_60 rfl rfl ?_
    refine r_goto 65 dX3_ofEvents_61 (by decide) ?_
    exact r_lsP [2, 3, 0, 5, 6, 1] rfl (t_X3_ofEvents_b65 hl G (fun v0 v1 v2 v3 v4 v5 w => f_X3_ofEvents_l10 G k82 F v0 v1 v2 v3 v4 v5 w) (fun v0 v1 v2 v3 v4 v5 w => ih v0 v1 v2 v3 v4 v5 w)  v0 v1 (v2 + 1) v4 v5 x46 1 v3 w46)
theorem t_X3_ofEvents_b82 {l : Launch} {D : Dn} {H0 : Heap} {w0 : St} (hl : l.stackTraces = false) (G : Nat) (v1 : Int32) (v2 : Int32) (v3 : Int32) (v4 : Int32) (w : St) : V_X3_ofEvents l D H0 w0 (f_X3_ofEvents_b82 G v1 v2 v3 v4 w) 82 [(1, lI v1), (2, lI v2), (3, lI v3), (4, lI v4)] [] w := by
  unfold f_X3_ofEvents_b82
  refine r_iload_n 83 0 dX3_ofEvents_82 rfl rfl rfl ?_
  refine r_if_ne 90 86 dX3_ofEvents_83 (by decide) rfl ?_ ?_
  · refine r_iload_n 91 0 dX3_ofEvents_90 rfl rfl rfl ?_
    refine r_iconst (v := 1) 92 dX3_ofEvents_91 rfl rfl ?_
    refine r_icmp_ne 99 95 dX3_ofEvents_92 (by decide) rfl ?_ ?_
    · refine r_iload 101 3 dX3_ofEvents_99 rfl rfl ?_
      exact r_iret rfl rfl dX3_ofEvents_101
    refine r_iload_n 96 2 dX3_ofEvents_95 rfl rfl rfl ?_
    refine r_goto 101 dX3_ofEvents_96 (by decide) ?_
    exact r_iret rfl rfl dX3_ofEvents_101
  refine r_iload_n 87 1 dX3_ofEvents_86 rfl rfl rfl ?_
  refine r_goto 101 dX3_ofEvents_87 (by decide) ?_
  exact r_iret rfl rfl dX3_ofEvents_101
theorem t_X3_ofEvents {l : Launch} {D : Dn} {H0 : Heap} {w0 : St} (hl : l.stackTraces = false) (G : Nat) (a0 : Rf) (a1 : Int32) (w : St) : V_X3_ofEvents l D H0 w0 (f_X3_ofEvents G a0 a1 w) 0 [(0, lR a0), (1, lI a1)] [] w := by
  unfold f_X3_ofEvents
  refine r_iconst (v := 0) 1 dX3_ofEvents_0 rfl rfl ?_
  refine r_istore_n (ls2 := [(2, lI 0), (0, lR a0), (1, lI a1)]) 2 dX3_ofEvents_1 rfl (by decide) rfl rfl ?_
  refine r_iconst (v := 0) 3 dX3_ofEvents_2 rfl rfl ?_
  refine r_istore_n (ls2 := [(3, lI 0), (2, lI 0), (0, lR a0), (1, lI a1)]) 4 dX3_ofEvents_3 rfl (by decide) rfl rfl ?_
  refine r_iconst (v := 0) 5 dX3_ofEvents_4 rfl rfl ?_
  refine r_istore (ls2 := [(4, lI 0), (3, lI 0), (2, lI 0), (0, lR a0), (1, lI a1)]) 7 dX3_ofEvents_5 (by decide) rfl rfl ?_
  refine r_iconst (v := 0) 8 dX3_ofEvents_7 rfl rfl ?_
  refine r_istore (ls2 := [(5, lI 0), (4, lI 0), (3, lI 0), (2, lI 0), (0, lR a0), (1, lI a1)]) 10 dX3_ofEvents_8 (by decide) rfl rfl ?_
  exact r_lsP [4, 5, 3, 2, 1, 0] rfl (t_X3_ofEvents_l10 hl G (fun v1 v2 v3 v4 w => f_X3_ofEvents_b82 G  v1 v2 v3 v4 w) (fun v1 v2 v3 v4 w => t_X3_ofEvents_b82 hl G  v1 v2 v3 v4 w) G a0 a1 0 0 0 0 w)
theorem s_X3_ofEvents {l : Launch} {D : Dn} {H0 : Heap} (hl : l.stackTraces = false) (G : Nat) (a0 : Rf) (a1 : Int32) (w : St) : SimN l D H0 yX3_ofEvents (ws_ yX3_ofEvents cX3_ofEvents 7 (some (.int))) 3 69 rvI [lR a0, lI a1] w (f_X3_ofEvents G a0 a1 w) := SimX.N (SimX.ofV (y := yX3_ofEvents) (by decide) rfl (t_X3_ofEvents hl G a0 a1 w))
abbrev V_X3_turns (l : Launch) (D : Dn) (H0 : Heap) (w0 : St) (res : Option (Int32 × St)) (pc : Nat) (ls : List (Nat × LV)) (st : List Value) (w : St) : Prop := V l D H0 RX3 "turns" cX3_turns 3 (some (.int)) [] 1 21 (fun x => .inr (rvI x)) w0 res pc ls st w
theorem t_X3_turns_b29 {l : Launch} {D : Dn} {H0 : Heap} {w0 : St} (hl : l.stackTraces = false) (G : Nat) (k4 : Rf → Int32 → Int32 → St → Option (Int32 × St)) (h4 : ∀ v0 v1 v2 w, V_X3_turns l D H0 w0 (k4 v0 v1 v2 w) 4 [(0, lR v0), (1, lI v1), (2, lI v2)] [] w) (v0 : Rf) (v2 : Int32) (s0 : Int32) (s1 : Int32) (w : St) : V_X3_turns l D H0 w0 (f_X3_turns_b29 G k4 v0 v2 s0 s1 w) 29 [(0, lR v0), (2, lI v2)] [.int s0, .int s1] w := by
  unfold f_X3_turns_b29
  refine r_iadd 30 dX3_turns_29 rfl ?_
  refine r_istore_n (ls2 := [(1, lI (s1 + s0)), (0, lR v0), (2, lI v2)]) 31 dX3_turns_30 rfl (by decide) rfl rfl ?_
  refine r_iinc (v := v2 + 1) (ls2 := [(2, lI (v2 + 1)), (1, lI (s1 + s0)), (0, lR v0)]) 34 2 dX3_turns_31 rfl rfl (by decide) rfl rfl ?_
  refine r_goto 4 dX3_turns_34 (by decide) ?_
  exact r_lsP [2, 1, 0] rfl (h4 v0 (s1 + s0) (v2 + 1) w)
theorem t_X3_turns_l4 {l : Launch} {D : Dn} {H0 : Heap} {w0 : St} (hl : l.stackTraces = false) (G : Nat) (k37 : Int32 → St → Option (Int32 × St)) (h37 : ∀ v1 w, V_X3_turns l D H0 w0 (k37 v1 w) 37 [(1, lI v1)] [] w) : ∀ (F : Nat) (v0 : Rf) (v1 : Int32) (v2 : Int32) (w : St), V_X3_turns l D H0 w0 (f_X3_turns_l4 G k37 F v0 v1 v2 w) 4 [(0, lR v0), (1, lI v1), (2, lI v2)] [] w := by
  intro F
  induction F with
  | zero => intros; exact r_none
  | succ F ih =>
    intro v0 v1 v2 w
    unfold f_X3_turns_l4
    refine r_iload_n 5 2 dX3_turns_4 rfl rfl rfl ?_
    refine r_aload_n 6 0 dX3_turns_5 rfl rfl rfl ?_
    refine r_getr 9 gf_X3_9 dX3_turns_6 rfl (fun x6 => ?_)
    refine r_iconst (v := 0) 10 dX3_turns_9 rfl rfl ?_
    refine r_iald 11 dX3_turns_10 rfl (fun x10 => ?_)
    refine r_icmp_ge 37 14 dX3_turns_11 (by decide) rfl ?_ ?_
    · exact r_lsP [1] rfl (h37 v1 w)
    refine r_iload_n 15 1 dX3_turns_14 rfl rfl rfl ?_
    refine r_aload_n 16 0 dX3_turns_15 rfl rfl rfl ?_
    refine r_iload_n 17 2 dX3_turns_16 rfl rfl rfl ?_
    refine r_gd (fun hc17 => ?_)
    refine r_callV (n := 1) (as := [lI v2]) (rest := [.int v1]) 20 26 (s_X3_into hl G v0 v2 w) hc17 rfl (lw_V q2321 q2323 qs46 q110 q2324) (by decide +kernel) (by decide) rfl rfl (cat2_i (cat2_nil (k := 0))) rfl dX3_turns_17 rfl (fun x17 w17 => ?_)
    refine r_iconst (v := (-1)) 21 dX3_turns_20 rfl rfl ?_
    refine r_icmp_ne 28 24 dX3_turns_21 (by decide) rfl ?_ ?_
    · refine r_iconst (v := 1) 29 dX3_turns_28 rfl rfl ?_
      exact r_lsP [0, 2] rfl (t_X3_turns_b29 hl G (fun v0 v1 v2 w => f_X3_turns_l4 G k37 F v0 v1 v2 w) (fun v0 v1 v2 w => ih v0 v1 v2 w)  v0 v2 1 v1 w17)
    refine r_iconst (v := 0) 25 dX3_turns_24 rfl rfl ?_
    refine r_goto 29 dX3_turns_25 (by decide) ?_
    exact r_lsP [0, 2] rfl (t_X3_turns_b29 hl G (fun v0 v1 v2 w => f_X3_turns_l4 G k37 F v0 v1 v2 w) (fun v0 v1 v2 w => ih v0 v1 v2 w)  v0 v2 0 v1 w17)
theorem t_X3_turns_b37 {l : Launch} {D : Dn} {H0 : Heap} {w0 : St} (hl : l.stackTraces = false) (G : Nat) (v1 : Int32) (w : St) : V_X3_turns l D H0 w0 (f_X3_turns_b37 G v1 w) 37 [(1, lI v1)] [] w := by
  unfold f_X3_turns_b37
  refine r_iload_n 38 0 dX3_turns_37 rfl rfl rfl ?_
  exact r_iret rfl rfl dX3_turns_38
theorem t_X3_turns {l : Launch} {D : Dn} {H0 : Heap} {w0 : St} (hl : l.stackTraces = false) (G : Nat) (a0 : Rf) (w : St) : V_X3_turns l D H0 w0 (f_X3_turns G a0 w) 0 [(0, lR a0)] [] w := by
  unfold f_X3_turns
  refine r_iconst (v := 0) 1 dX3_turns_0 rfl rfl ?_
  refine r_istore_n (ls2 := [(1, lI 0), (0, lR a0)]) 2 dX3_turns_1 rfl (by decide) rfl rfl ?_
  refine r_iconst (v := 0) 3 dX3_turns_2 rfl rfl ?_
  refine r_istore_n (ls2 := [(2, lI 0), (1, lI 0), (0, lR a0)]) 4 dX3_turns_3 rfl (by decide) rfl rfl ?_
  exact r_lsP [2, 1, 0] rfl (t_X3_turns_l4 hl G (fun v1 w => f_X3_turns_b37 G  v1 w) (fun v1 w => t_X3_turns_b37 hl G  v1 w) G a0 0 0 w)
theorem s_X3_turns {l : Launch} {D : Dn} {H0 : Heap} (hl : l.stackTraces = false) (G : Nat) (a0 : Rf) (w : St) : SimN l D H0 yX3_turns (ws_ yX3_turns cX3_turns 3 (some (.int))) 1 21 rvI [lR a0] w (f_X3_turns G a0 w) := SimX.N (SimX.ofV (y := yX3_turns) (by decide) rfl (t_X3_turns hl G a0 w))
abbrev V_X3_ownOfAll (l : Launch) (D : Dn) (H0 : Heap) (w0 : St) (res : Option (Int32 × St)) (pc : Nat) (ls : List (Nat × LV)) (st : List Value) (w : St) : Prop := V l D H0 RX3 "ownOfAll" cX3_ownOfAll 3 (some (.int)) [] 3 67 (fun x => .inr (rvI x)) w0 res pc ls st w
theorem t_X3_ownOfAll_l4 {l : Launch} {D : Dn} {H0 : Heap} {w0 : St} (hl : l.stackTraces = false) (G : Nat) (k28 : Int32 → St → Option (Int32 × St)) (h28 : ∀ v1 w, V_X3_ownOfAll l D H0 w0 (k28 v1 w) 28 [(1, lI v1)] [] w) : ∀ (F : Nat) (v0 : Rf) (v1 : Int32) (v2 : Int32) (w : St), V_X3_ownOfAll l D H0 w0 (f_X3_ownOfAll_l4 G k28 F v0 v1 v2 w) 4 [(0, lR v0), (1, lI v1), (2, lI v2)] [] w := by
  intro F
  induction F with
  | zero => intros; exact r_none
  | succ F ih =>
    intro v0 v1 v2 w
    unfold f_X3_ownOfAll_l4
    refine r_iload_n 5 2 dX3_ownOfAll_4 rfl rfl rfl ?_
    refine r_aload_n 6 0 dX3_ownOfAll_5 rfl rfl rfl ?_
    refine r_getr 9 gf_X3_9 dX3_ownOfAll_6 rfl (fun x6 => ?_)
    refine r_iconst (v := 0) 10 dX3_ownOfAll_9 rfl rfl ?_
    refine r_iald 11 dX3_ownOfAll_10 rfl (fun x10 => ?_)
    refine r_icmp_ge 28 14 dX3_ownOfAll_11 (by decide) rfl ?_ ?_
    · exact r_lsP [1] rfl (h28 v1 w)
    refine r_iload_n 15 1 dX3_ownOfAll_14 rfl rfl rfl ?_
    refine r_aload_n 16 0 dX3_ownOfAll_15 rfl rfl rfl ?_
    refine r_iload_n 17 2 dX3_ownOfAll_16 rfl rfl rfl ?_
    refine r_gd (fun hc17 => ?_)
    refine r_callV (n := 1) (as := [lI v2]) (rest := [.int v1]) 20 26 (s_X3_ownAll hl G v0 v2 w) hc17 rfl (lw_V q2458 q2460 qs72 q110 q2461) (by decide +kernel) (by decide) rfl rfl (cat2_i (cat2_nil (k := 0))) rfl dX3_ownOfAll_17 rfl (fun x17 w17 => ?_)
    refine r_iadd 21 dX3_ownOfAll_20 rfl ?_
    refine r_istore_n (ls2 := [(1, lI (v1 + x17)), (0, lR v0), (2, lI v2)]) 22 dX3_ownOfAll_21 rfl (by decide) rfl rfl ?_
    refine r_iinc (v := v2 + 1) (ls2 := [(2, lI (v2 + 1)), (1, lI (v1 + x17)), (0, lR v0)]) 25 2 dX3_ownOfAll_22 rfl rfl (by decide) rfl rfl ?_
    refine r_goto 4 dX3_ownOfAll_25 (by decide) ?_
    exact r_lsP [2, 1, 0] rfl (ih v0 (v1 + x17) (v2 + 1) w17)
theorem t_X3_ownOfAll_b28 {l : Launch} {D : Dn} {H0 : Heap} {w0 : St} (hl : l.stackTraces = false) (G : Nat) (v1 : Int32) (w : St) : V_X3_ownOfAll l D H0 w0 (f_X3_ownOfAll_b28 G v1 w) 28 [(1, lI v1)] [] w := by
  unfold f_X3_ownOfAll_b28
  refine r_iload_n 29 0 dX3_ownOfAll_28 rfl rfl rfl ?_
  exact r_iret rfl rfl dX3_ownOfAll_29
theorem t_X3_ownOfAll {l : Launch} {D : Dn} {H0 : Heap} {w0 : St} (hl : l.stackTraces = false) (G : Nat) (a0 : Rf) (w : St) : V_X3_ownOfAll l D H0 w0 (f_X3_ownOfAll G a0 w) 0 [(0, lR a0)] [] w := by
  unfold f_X3_ownOfAll
  refine r_iconst (v := 0) 1 dX3_ownOfAll_0 rfl rfl ?_
  refine r_istore_n (ls2 := [(1, lI 0), (0, lR a0)]) 2 dX3_ownOfAll_1 rfl (by decide) rfl rfl ?_
  refine r_iconst (v := 0) 3 dX3_ownOfAll_2 rfl rfl ?_
  refine r_istore_n (ls2 := [(2, lI 0), (1, lI 0), (0, lR a0)]) 4 dX3_ownOfAll_3 rfl (by decide) rfl rfl ?_
  exact r_lsP [2, 1, 0] rfl (t_X3_ownOfAll_l4 hl G (fun v1 w => f_X3_ownOfAll_b28 G  v1 w) (fun v1 w => t_X3_ownOfAll_b28 hl G  v1 w) G a0 0 0 w)
theorem s_X3_ownOfAll {l : Launch} {D : Dn} {H0 : Heap} (hl : l.stackTraces = false) (G : Nat) (a0 : Rf) (w : St) : SimN l D H0 yX3_ownOfAll (ws_ yX3_ownOfAll cX3_ownOfAll 3 (some (.int))) 3 67 rvI [lR a0] w (f_X3_ownOfAll G a0 w) := SimX.N (SimX.ofV (y := yX3_ownOfAll) (by decide) rfl (t_X3_ownOfAll hl G a0 w))
abbrev V_X3_account (l : Launch) (D : Dn) (H0 : Heap) (w0 : St) (res : Option (Int32 × St)) (pc : Nat) (ls : List (Nat × LV)) (st : List Value) (w : St) : Prop := V l D H0 RX3 "account" cX3_account 2 (some (.int)) [] 7 163 (fun x => .inr (rvI x)) w0 res pc ls st w
theorem t_X3_account {l : Launch} {D : Dn} {H0 : Heap} {w0 : St} (hl : l.stackTraces = false) (G : Nat) (a0 : Rf) (a1 : Int32) (w : St) : V_X3_account l D H0 w0 (f_X3_account G a0 a1 w) 0 [(0, lR a0), (1, lI a1)] [] w := by
  unfold f_X3_account
  refine r_aload_n 1 0 dX3_account_0 rfl rfl rfl ?_
  refine r_iconst (v := 0) 2 dX3_account_1 rfl rfl ?_
  refine r_puti 5 pf_X3_69 dX3_account_2 rfl (fun w2 => ?_)
  refine r_aload_n 6 0 dX3_account_5 rfl rfl rfl ?_
  refine r_iconst (v := (-1)) 7 dX3_account_6 rfl rfl ?_
  refine r_iconst (v := (-1)) 8 dX3_account_7 rfl rfl ?_
  refine r_gd (fun hc8 => ?_)
  refine r_callV (n := 2) (as := [lI ((-1)), lI ((-1))]) (rest := []) 11 26 (s_X3_laysMinutes hl G a0 ((-1)) ((-1)) w2) hc8 rfl (lw_V q2390 q2392 qs57 q110 q2393) (by decide +kernel) (by decide) rfl rfl (cat2_nil (k := 0)) rfl dX3_account_8 rfl (fun _ w8 => ?_)
  refine r_iload_n 12 1 dX3_account_11 rfl rfl rfl ?_
  refine r_if (fun hs => ?_) (fun hs0 => ?_)
  · refine r_tswIn 76 dX3_account_12 (z := 0) (by rw [hs]; rfl) (by decide) (by decide) rfl (by decide) ?_
    refine r_aload_n 77 0 dX3_account_76 rfl rfl rfl ?_
    refine r_getr 80 gf_X3_9 dX3_account_77 rfl (fun x77 => ?_)
    refine r_iconst (v := 0) 81 dX3_account_80 rfl rfl ?_
    refine r_iald 82 dX3_account_81 rfl (fun x81 => ?_)
    exact r_iret rfl rfl dX3_account_82
  refine r_if (fun hs => ?_) (fun hs1 => ?_)
  · refine r_tswIn 83 dX3_account_12 (z := 1) (by rw [hs]; rfl) (by decide) (by decide) rfl (by decide) ?_
    refine r_aload_n 84 0 dX3_account_83 rfl rfl rfl ?_
    refine r_iconst (v := 0) 85 dX3_account_84 rfl rfl ?_
    refine r_gd (fun hc85 => ?_)
    refine r_callV (n := 1) (as := [lI 0]) (rest := []) 88 26 (s_X3_ofEvents hl G a0 0 w8) hc85 rfl (lw_V q2661 q2663 qs96 q110 q2664) (by decide +kernel) (by decide) rfl rfl (cat2_nil (k := 0)) rfl dX3_account_85 rfl (fun x85 w85 => ?_)
    exact r_iret rfl rfl dX3_account_88
  refine r_if (fun hs => ?_) (fun hs2 => ?_)
  · refine r_tswIn 89 dX3_account_12 (z := 2) (by rw [hs]; rfl) (by decide) (by decide) rfl (by decide) ?_
    refine r_aload_n 90 0 dX3_account_89 rfl rfl rfl ?_
    refine r_getr 93 gf_X3_9 dX3_account_90 rfl (fun x90 => ?_)
    refine r_iconst (v := 1) 94 dX3_account_93 rfl rfl ?_
    refine r_iald 95 dX3_account_94 rfl (fun x94 => ?_)
    exact r_iret rfl rfl dX3_account_95
  refine r_if (fun hs => ?_) (fun hs3 => ?_)
  · refine r_tswIn 96 dX3_account_12 (z := 3) (by rw [hs]; rfl) (by decide) (by decide) rfl (by decide) ?_
    refine r_aload_n 97 0 dX3_account_96 rfl rfl rfl ?_
    refine r_getr 100 gf_X3_9 dX3_account_97 rfl (fun x97 => ?_)
    refine r_iconst (v := 1) 101 dX3_account_100 rfl rfl ?_
    refine r_iald 102 dX3_account_101 rfl (fun x101 => ?_)
    refine r_aload_n 103 0 dX3_account_102 rfl rfl rfl ?_
    refine r_gd (fun hc103 => ?_)
    refine r_callV (n := 0) (as := []) (rest := [.int x101]) 106 26 (s_X3_missedOnes hl G a0 w8) hc103 rfl (lw_V q2544 q2546 qs81 q110 q2547) (by decide +kernel) (by decide) rfl rfl (cat2_i (cat2_nil (k := 0))) rfl dX3_account_103 rfl (fun x103 w103 => ?_)
    refine r_isub 107 dX3_account_106 rfl ?_
    exact r_iret rfl rfl dX3_account_107
  refine r_if (fun hs => ?_) (fun hs4 => ?_)
  · refine r_tswIn 108 dX3_account_12 (z := 4) (by rw [hs]; rfl) (by decide) (by decide) rfl (by decide) ?_
    refine r_aload_n 109 0 dX3_account_108 rfl rfl rfl ?_
    refine r_gd (fun hc109 => ?_)
    refine r_callV (n := 0) (as := []) (rest := []) 112 26 (s_X3_turns hl G a0 w8) hc109 rfl (lw_V q2665 q2667 qs97 q110 q2668) (by decide +kernel) (by decide) rfl rfl (cat2_nil (k := 0)) rfl dX3_account_109 rfl (fun x109 w109 => ?_)
    exact r_iret rfl rfl dX3_account_112
  refine r_if (fun hs => ?_) (fun hs5 => ?_)
  · refine r_tswIn 113 dX3_account_12 (z := 5) (by rw [hs]; rfl) (by decide) (by decide) rfl (by decide) ?_
    refine r_aload_n 114 0 dX3_account_113 rfl rfl rfl ?_
    refine r_iconst (v := 1) 115 dX3_account_114 rfl rfl ?_
    refine r_gd (fun hc115 => ?_)
    refine r_callV (n := 1) (as := [lI 1]) (rest := []) 118 26 (s_X3_ofEvents hl G a0 1 w8) hc115 rfl (lw_V q2661 q2663 qs96 q110 q2664) (by decide +kernel) (by decide) rfl rfl (cat2_nil (k := 0)) rfl dX3_account_115 rfl (fun x115 w115 => ?_)
    exact r_iret rfl rfl dX3_account_118
  refine r_if (fun hs => ?_) (fun hs6 => ?_)
  · refine r_tswIn 119 dX3_account_12 (z := 6) (by rw [hs]; rfl) (by decide) (by decide) rfl (by decide) ?_
    refine r_aload_n 120 0 dX3_account_119 rfl rfl rfl ?_
    refine r_gd (fun hc120 => ?_)
    refine r_callV (n := 0) (as := []) (rest := []) 123 26 (s_X3_ownOfAll hl G a0 w8) hc120 rfl (lw_V q2669 q2671 qs98 q110 q2672) (by decide +kernel) (by decide) rfl rfl (cat2_nil (k := 0)) rfl dX3_account_120 rfl (fun x120 w120 => ?_)
    exact r_iret rfl rfl dX3_account_123
  refine r_if (fun hs => ?_) (fun hs7 => ?_)
  · refine r_tswIn 124 dX3_account_12 (z := 7) (by rw [hs]; rfl) (by decide) (by decide) rfl (by decide) ?_
    refine r_aload_n 125 0 dX3_account_124 rfl rfl rfl ?_
    refine r_iconst (v := 2) 126 dX3_account_125 rfl rfl ?_
    refine r_gd (fun hc126 => ?_)
    refine r_callV (n := 1) (as := [lI 2]) (rest := []) 129 26 (s_X3_ofEvents hl G a0 2 w8) hc126 rfl (lw_V q2661 q2663 qs96 q110 q2664) (by decide +kernel) (by decide) rfl rfl (cat2_nil (k := 0)) rfl dX3_account_126 rfl (fun x126 w126 => ?_)
    exact r_iret rfl rfl dX3_account_129
  refine r_if (fun hs => ?_) (fun hs8 => ?_)
  · refine r_tswIn 130 dX3_account_12 (z := 8) (by rw [hs]; rfl) (by decide) (by decide) rfl (by decide) ?_
    refine r_aload_n 131 0 dX3_account_130 rfl rfl rfl ?_
    refine r_getr 134 gf_X3_9 dX3_account_131 rfl (fun x131 => ?_)
    refine r_iconst (v := 2) 135 dX3_account_134 rfl rfl ?_
    refine r_iald 136 dX3_account_135 rfl (fun x135 => ?_)
    exact r_iret rfl rfl dX3_account_136
  refine r_if (fun hs => ?_) (fun hs9 => ?_)
  · refine r_tswIn 137 dX3_account_12 (z := 9) (by rw [hs]; rfl) (by decide) (by decide) rfl (by decide) ?_
    refine r_aload_n 138 0 dX3_account_137 rfl rfl rfl ?_
    refine r_getr 141 gf_X3_9 dX3_account_138 rfl (fun x138 => ?_)
    refine r_iconst (v := 3) 142 dX3_account_141 rfl rfl ?_
    refine r_iald 143 dX3_account_142 rfl (fun x142 => ?_)
    exact r_iret rfl rfl dX3_account_143
  refine r_if (fun hs => ?_) (fun hs10 => ?_)
  · refine r_tswIn 144 dX3_account_12 (z := 10) (by rw [hs]; rfl) (by decide) (by decide) rfl (by decide) ?_
    refine r_aload_n 145 0 dX3_account_144 rfl rfl rfl ?_
    refine r_geti 148 gf_X3_268 dX3_account_145 rfl (fun x145 => ?_)
    exact r_iret rfl rfl dX3_account_148
  refine r_if (fun hs => ?_) (fun hs11 => ?_)
  · refine r_tswIn 149 dX3_account_12 (z := 11) (by rw [hs]; rfl) (by decide) (by decide) rfl (by decide) ?_
    refine r_aload_n 150 0 dX3_account_149 rfl rfl rfl ?_
    refine r_geti 153 gf_X3_85 dX3_account_150 rfl (fun x150 => ?_)
    exact r_iret rfl rfl dX3_account_153
  have hs0 := neI hs0 (z := 0) rfl
  have hs1 := neI hs1 (z := 1) rfl
  have hs2 := neI hs2 (z := 2) rfl
  have hs3 := neI hs3 (z := 3) rfl
  have hs4 := neI hs4 (z := 4) rfl
  have hs5 := neI hs5 (z := 5) rfl
  have hs6 := neI hs6 (z := 6) rfl
  have hs7 := neI hs7 (z := 7) rfl
  have hs8 := neI hs8 (z := 8) rfl
  have hs9 := neI hs9 (z := 9) rfl
  have hs10 := neI hs10 (z := 10) rfl
  have hs11 := neI hs11 (z := 11) rfl
  refine r_tswOut 154 dX3_account_12 (by omega) (by decide) ?_
  refine r_aload_n 155 0 dX3_account_154 rfl rfl rfl ?_
  refine r_iconst (v := 1) 156 dX3_account_155 rfl rfl ?_
  refine r_gd (fun hc156 => ?_)
  refine r_callV (n := 1) (as := [lI 1]) (rest := []) 159 26 (s_X3_throwing hl G a0 1 w8) hc156 rfl (lw_V q2298 q2300 qs42 q110 q2301) (by decide +kernel) (by decide) rfl rfl (cat2_nil (k := 0)) rfl dX3_account_156 rfl (fun x156 w156 => ?_)
  exact r_iret rfl rfl dX3_account_159
theorem s_X3_account {l : Launch} {D : Dn} {H0 : Heap} (hl : l.stackTraces = false) (G : Nat) (a0 : Rf) (a1 : Int32) (w : St) : SimN l D H0 yX3_account (ws_ yX3_account cX3_account 2 (some (.int))) 7 163 rvI [lR a0, lI a1] w (f_X3_account G a0 a1 w) := SimX.N (SimX.ofV (y := yX3_account) (by decide) rfl (t_X3_account hl G a0 a1 w))
abbrev V_X3_meanLate (l : Launch) (D : Dn) (H0 : Heap) (w0 : St) (res : Option (UInt64 × St)) (pc : Nat) (ls : List (Nat × LV)) (st : List Value) (w : St) : Prop := V l D H0 RX3 "meanLate" cX3_meanLate 2 (some (.double)) [] 7 163 (fun x => .inr (rvD x)) w0 res pc ls st w
theorem t_X3_meanLate {l : Launch} {D : Dn} {H0 : Heap} {w0 : St} (hl : l.stackTraces = false) (G : Nat) (a0 : Rf) (w : St) : V_X3_meanLate l D H0 w0 (f_X3_meanLate G a0 w) 0 [(0, lR a0)] [] w := by
  unfold f_X3_meanLate
  refine r_aload_n 1 0 dX3_meanLate_0 rfl rfl rfl ?_
  refine r_iconst (v := 0) 2 dX3_meanLate_1 rfl rfl ?_
  refine r_puti 5 pf_X3_69 dX3_meanLate_2 rfl (fun w2 => ?_)
  refine r_aload_n 6 0 dX3_meanLate_5 rfl rfl rfl ?_
  refine r_iconst (v := (-1)) 7 dX3_meanLate_6 rfl rfl ?_
  refine r_iconst (v := (-1)) 8 dX3_meanLate_7 rfl rfl ?_
  refine r_gd (fun hc8 => ?_)
  refine r_callV (n := 2) (as := [lI ((-1)), lI ((-1))]) (rest := []) 11 26 (s_X3_laysMinutes hl G a0 ((-1)) ((-1)) w2) hc8 rfl (lw_V q2390 q2392 qs57 q110 q2393) (by decide +kernel) (by decide) rfl rfl (cat2_nil (k := 0)) rfl dX3_meanLate_8 rfl (fun _ w8 => ?_)
  refine r_aload_n 12 0 dX3_meanLate_11 rfl rfl rfl ?_
  refine r_iconst (v := 0) 13 dX3_meanLate_12 rfl rfl ?_
  refine r_gd (fun hc13 => ?_)
  refine r_callV (n := 1) (as := [lI 0]) (rest := []) 16 26 (s_X3_ofEvents hl G a0 0 w8) hc13 rfl (lw_V q2661 q2663 qs96 q110 q2664) (by decide +kernel) (by decide) rfl rfl (cat2_nil (k := 0)) rfl dX3_meanLate_13 rfl (fun x13 w13 => ?_)
  refine r_istore_n (ls2 := [(1, lI x13), (0, lR a0)]) 17 dX3_meanLate_16 rfl (by decide) rfl rfl ?_
  refine r_iload_n 18 0 dX3_meanLate_17 rfl rfl rfl ?_
  refine r_if_ne 29 21 dX3_meanLate_18 (by decide) rfl ?_ ?_
  · refine r_aload_n 30 1 dX3_meanLate_29 rfl rfl rfl ?_
    refine r_iconst (v := (-1)) 31 dX3_meanLate_30 rfl rfl ?_
    refine r_gd (fun hc31 => ?_)
    refine r_callV (n := 1) (as := [lI ((-1))]) (rest := []) 34 26 (s_X3_lateAll hl G a0 ((-1)) w13) hc31 rfl (lw_V q2524 q2526 qs80 q110 q2527) (by decide +kernel) (by decide) rfl rfl (cat2_nil (k := 0)) rfl dX3_meanLate_31 rfl (fun x31 w31 => ?_)
    refine r_i2d 35 dX3_meanLate_34 rfl ?_
    refine r_iload_n 36 0 dX3_meanLate_35 rfl rfl rfl ?_
    refine r_i2d 37 dX3_meanLate_36 rfl ?_
    refine r_gdC (fun hz37 => ?_)
    refine r_ddiv 38 dX3_meanLate_37 hz37 rfl ?_
    exact r_dret rfl rfl dX3_meanLate_38
  refine r_aload_n 22 1 dX3_meanLate_21 rfl rfl rfl ?_
  refine r_iconst (v := 1) 23 dX3_meanLate_22 rfl rfl ?_
  refine r_gd (fun hc23 => ?_)
  refine r_callV (n := 1) (as := [lI 1]) (rest := []) 26 26 (s_X3_throwing hl G a0 1 w13) hc23 rfl (lw_V q2298 q2300 qs42 q110 q2301) (by decide +kernel) (by decide) rfl rfl (cat2_nil (k := 0)) rfl dX3_meanLate_23 rfl (fun x23 w23 => ?_)
  refine r_pop_i 27 dX3_meanLate_26 rfl ?_
  refine r_dconst0 28 dX3_meanLate_27 rfl ?_
  exact r_dret rfl rfl dX3_meanLate_28
theorem s_X3_meanLate {l : Launch} {D : Dn} {H0 : Heap} (hl : l.stackTraces = false) (G : Nat) (a0 : Rf) (w : St) : SimN l D H0 yX3_meanLate (ws_ yX3_meanLate cX3_meanLate 2 (some (.double))) 7 163 rvD [lR a0] w (f_X3_meanLate G a0 w) := SimX.N (SimX.ofV (y := yX3_meanLate) (by decide) rfl (t_X3_meanLate hl G a0 w))
abbrev V_X3_keptShare (l : Launch) (D : Dn) (H0 : Heap) (w0 : St) (res : Option (UInt32 × St)) (pc : Nat) (ls : List (Nat × LV)) (st : List Value) (w : St) : Prop := V l D H0 RX3 "keptShare" cX3_keptShare 1 (some (.float)) [] 7 163 (fun x => .inr (rvF x)) w0 res pc ls st w
theorem t_X3_keptShare {l : Launch} {D : Dn} {H0 : Heap} {w0 : St} (hl : l.stackTraces = false) (G : Nat) (a0 : Rf) (w : St) : V_X3_keptShare l D H0 w0 (f_X3_keptShare G a0 w) 0 [(0, lR a0)] [] w := by
  unfold f_X3_keptShare
  refine r_aload_n 1 0 dX3_keptShare_0 rfl rfl rfl ?_
  refine r_iconst (v := 0) 2 dX3_keptShare_1 rfl rfl ?_
  refine r_puti 5 pf_X3_69 dX3_keptShare_2 rfl (fun w2 => ?_)
  refine r_aload_n 6 0 dX3_keptShare_5 rfl rfl rfl ?_
  refine r_iconst (v := (-1)) 7 dX3_keptShare_6 rfl rfl ?_
  refine r_iconst (v := (-1)) 8 dX3_keptShare_7 rfl rfl ?_
  refine r_gd (fun hc8 => ?_)
  refine r_callV (n := 2) (as := [lI ((-1)), lI ((-1))]) (rest := []) 11 26 (s_X3_laysMinutes hl G a0 ((-1)) ((-1)) w2) hc8 rfl (lw_V q2390 q2392 qs57 q110 q2393) (by decide +kernel) (by decide) rfl rfl (cat2_nil (k := 0)) rfl dX3_keptShare_8 rfl (fun _ w8 => ?_)
  refine r_aload_n 12 0 dX3_keptShare_11 rfl rfl rfl ?_
  refine r_getr 15 gf_X3_9 dX3_keptShare_12 rfl (fun x12 => ?_)
  refine r_iconst (v := 1) 16 dX3_keptShare_15 rfl rfl ?_
  refine r_iald 17 dX3_keptShare_16 rfl (fun x16 => ?_)
  refine r_if_ne 28 20 dX3_keptShare_17 (by decide) rfl ?_ ?_
  · refine r_aload_n 29 0 dX3_keptShare_28 rfl rfl rfl ?_
    refine r_getr 32 gf_X3_9 dX3_keptShare_29 rfl (fun x29 => ?_)
    refine r_iconst (v := 1) 33 dX3_keptShare_32 rfl rfl ?_
    refine r_iald 34 dX3_keptShare_33 rfl (fun x33 => ?_)
    refine r_aload_n 35 0 dX3_keptShare_34 rfl rfl rfl ?_
    refine r_gd (fun hc35 => ?_)
    refine r_callV (n := 0) (as := []) (rest := [.int x33]) 38 26 (s_X3_missedOnes hl G a0 w8) hc35 rfl (lw_V q2544 q2546 qs81 q110 q2547) (by decide +kernel) (by decide) rfl rfl (cat2_i (cat2_nil (k := 0))) rfl dX3_keptShare_35 rfl (fun x35 w35 => ?_)
    refine r_isub 39 dX3_keptShare_38 rfl ?_
    refine r_i2f 40 dX3_keptShare_39 rfl ?_
    refine r_aload_n 41 0 dX3_keptShare_40 rfl rfl rfl ?_
    refine r_getr 44 gf_X3_9 dX3_keptShare_41 rfl (fun x41 => ?_)
    refine r_iconst (v := 1) 45 dX3_keptShare_44 rfl rfl ?_
    refine r_iald 46 dX3_keptShare_45 rfl (fun x45 => ?_)
    refine r_i2f 47 dX3_keptShare_46 rfl ?_
    refine r_gdC (fun hz47 => ?_)
    refine r_fdiv 48 dX3_keptShare_47 hz47 rfl ?_
    exact r_fret rfl rfl dX3_keptShare_48
  refine r_aload_n 21 0 dX3_keptShare_20 rfl rfl rfl ?_
  refine r_iconst (v := 1) 22 dX3_keptShare_21 rfl rfl ?_
  refine r_gd (fun hc22 => ?_)
  refine r_callV (n := 1) (as := [lI 1]) (rest := []) 25 26 (s_X3_throwing hl G a0 1 w8) hc22 rfl (lw_V q2298 q2300 qs42 q110 q2301) (by decide +kernel) (by decide) rfl rfl (cat2_nil (k := 0)) rfl dX3_keptShare_22 rfl (fun x22 w22 => ?_)
  refine r_pop_i 26 dX3_keptShare_25 rfl ?_
  refine r_fconst0 27 dX3_keptShare_26 rfl ?_
  exact r_fret rfl rfl dX3_keptShare_27
theorem s_X3_keptShare {l : Launch} {D : Dn} {H0 : Heap} (hl : l.stackTraces = false) (G : Nat) (a0 : Rf) (w : St) : SimN l D H0 yX3_keptShare (ws_ yX3_keptShare cX3_keptShare 1 (some (.float))) 7 163 rvF [lR a0] w (f_X3_keptShare G a0 w) := SimX.N (SimX.ofV (y := yX3_keptShare) (by decide) rfl (t_X3_keptShare hl G a0 w))
abbrev V_X3_undo (l : Launch) (D : Dn) (H0 : Heap) (w0 : St) (res : Option (Int32 × St)) (pc : Nat) (ls : List (Nat × LV)) (st : List Value) (w : St) : Prop := V l D H0 RX3 "undo" cX3_undo 2 (some (.int)) [] 1 21 (fun x => .inr (rvI x)) w0 res pc ls st w
theorem t_X3_undo_l30 {l : Launch} {D : Dn} {H0 : Heap} {w0 : St} (hl : l.stackTraces = false) (G : Nat) (k64 : Rf → St → Option (Int32 × St)) (h64 : ∀ v0 w, V_X3_undo l D H0 w0 (k64 v0 w) 64 [(0, lR v0)] [] w) : ∀ (F : Nat) (v0 : Rf) (v1 : Int32) (w : St), V_X3_undo l D H0 w0 (f_X3_undo_l30 G k64 F v0 v1 w) 30 [(0, lR v0), (1, lI v1)] [] w := by
  intro F
  induction F with
  | zero => intros; exact r_none
  | succ F ih =>
    intro v0 v1 w
    unfold f_X3_undo_l30
    refine r_iload_n 31 1 dX3_undo_30 rfl rfl rfl ?_
    refine r_sipush (v := 412) 34 dX3_undo_31 rfl rfl ?_
    refine r_icmp_ge 64 37 dX3_undo_34 (by decide) rfl ?_ ?_
    · exact r_lsP [0] rfl (h64 v0 w)
    refine r_aload_n 38 0 dX3_undo_37 rfl rfl rfl ?_
    refine r_getr 41 gf_X3_9 dX3_undo_38 rfl (fun x38 => ?_)
    refine r_iload_n 42 1 dX3_undo_41 rfl rfl rfl ?_
    refine r_aload_n 43 0 dX3_undo_42 rfl rfl rfl ?_
    refine r_getr 46 gf_X3_19 dX3_undo_43 rfl (fun x43 => ?_)
    refine r_sipush (v := 412) 49 dX3_undo_46 rfl rfl ?_
    refine r_aload_n 50 0 dX3_undo_49 rfl rfl rfl ?_
    refine r_geti 53 gf_X3_85 dX3_undo_50 rfl (fun x50 => ?_)
    refine r_imul 54 dX3_undo_53 rfl ?_
    refine r_iload_n 55 1 dX3_undo_54 rfl rfl rfl ?_
    refine r_iadd 56 dX3_undo_55 rfl ?_
    refine r_iald 57 dX3_undo_56 rfl (fun x56 => ?_)
    refine r_iast 58 dX3_undo_57 rfl (fun w57 => ?_)
    refine r_iinc (v := v1 + 1) (ls2 := [(1, lI (v1 + 1)), (0, lR v0)]) 61 1 dX3_undo_58 rfl rfl (by decide) rfl rfl ?_
    refine r_goto 30 dX3_undo_61 (by decide) ?_
    exact r_lsP [1, 0] rfl (ih v0 (v1 + 1) w57)
theorem t_X3_undo_b64 {l : Launch} {D : Dn} {H0 : Heap} {w0 : St} (hl : l.stackTraces = false) (G : Nat) (v0 : Rf) (w : St) : V_X3_undo l D H0 w0 (f_X3_undo_b64 G v0 w) 64 [(0, lR v0)] [] w := by
  unfold f_X3_undo_b64
  refine r_aload_n 65 0 dX3_undo_64 rfl rfl rfl ?_
  refine r_geti 68 gf_X3_85 dX3_undo_65 rfl (fun x65 => ?_)
  exact r_iret rfl rfl dX3_undo_68
theorem t_X3_undo {l : Launch} {D : Dn} {H0 : Heap} {w0 : St} (hl : l.stackTraces = false) (G : Nat) (a0 : Rf) (w : St) : V_X3_undo l D H0 w0 (f_X3_undo G a0 w) 0 [(0, lR a0)] [] w := by
  unfold f_X3_undo
  refine r_aload_n 1 0 dX3_undo_0 rfl rfl rfl ?_
  refine r_iconst (v := 0) 2 dX3_undo_1 rfl rfl ?_
  refine r_puti 5 pf_X3_69 dX3_undo_2 rfl (fun w2 => ?_)
  refine r_aload_n 6 0 dX3_undo_5 rfl rfl rfl ?_
  refine r_geti 9 gf_X3_85 dX3_undo_6 rfl (fun x6 => ?_)
  refine r_if_ne 18 12 dX3_undo_9 (by decide) rfl ?_ ?_
  · refine r_aload_n 19 0 dX3_undo_18 rfl rfl rfl ?_
    refine r_dup_r 20 dX3_undo_19 rfl ?_
    refine r_geti 23 gf_X3_85 dX3_undo_20 rfl (fun x20 => ?_)
    refine r_iconst (v := 1) 24 dX3_undo_23 rfl rfl ?_
    refine r_isub 25 dX3_undo_24 rfl ?_
    refine r_puti 28 pf_X3_85 dX3_undo_25 rfl (fun w25 => ?_)
    refine r_iconst (v := 0) 29 dX3_undo_28 rfl rfl ?_
    refine r_istore_n (ls2 := [(1, lI 0), (0, lR a0)]) 30 dX3_undo_29 rfl (by decide) rfl rfl ?_
    exact r_lsP [1, 0] rfl (t_X3_undo_l30 hl G (fun v0 w => f_X3_undo_b64 G  v0 w) (fun v0 w => t_X3_undo_b64 hl G  v0 w) G a0 0 w25)
  refine r_aload_n 13 0 dX3_undo_12 rfl rfl rfl ?_
  refine r_iconst (v := 1) 14 dX3_undo_13 rfl rfl ?_
  refine r_gd (fun hc14 => ?_)
  refine r_callV (n := 1) (as := [lI 1]) (rest := []) 17 26 (s_X3_throwing hl G a0 1 w2) hc14 rfl (lw_V q2298 q2300 qs42 q110 q2301) (by decide +kernel) (by decide) rfl rfl (cat2_nil (k := 0)) rfl dX3_undo_14 rfl (fun x14 w14 => ?_)
  exact r_iret rfl rfl dX3_undo_17
theorem s_X3_undo {l : Launch} {D : Dn} {H0 : Heap} (hl : l.stackTraces = false) (G : Nat) (a0 : Rf) (w : St) : SimN l D H0 yX3_undo (ws_ yX3_undo cX3_undo 2 (some (.int))) 1 21 rvI [lR a0] w (f_X3_undo G a0 w) := SimX.N (SimX.ofV (y := yX3_undo) (by decide) rfl (t_X3_undo hl G a0 w))
abbrev V_X3_save (l : Launch) (D : Dn) (H0 : Heap) (w0 : St) (res : Option (Int32 × St)) (pc : Nat) (ls : List (Nat × LV)) (st : List Value) (w : St) : Prop := V l D H0 RX3 "save" cX3_save 2 (some (.int)) [] 0 0 (fun x => .inr (rvI x)) w0 res pc ls st w
theorem t_X3_save_l7 {l : Launch} {D : Dn} {H0 : Heap} {w0 : St} (hl : l.stackTraces = false) (G : Nat) (k32 : Rf → St → Option (Int32 × St)) (h32 : ∀ v0 w, V_X3_save l D H0 w0 (k32 v0 w) 32 [(0, lR v0)] [] w) : ∀ (F : Nat) (v0 : Rf) (v1 : Int32) (w : St), V_X3_save l D H0 w0 (f_X3_save_l7 G k32 F v0 v1 w) 7 [(0, lR v0), (1, lI v1)] [] w := by
  intro F
  induction F with
  | zero => intros; exact r_none
  | succ F ih =>
    intro v0 v1 w
    unfold f_X3_save_l7
    refine r_iload_n 8 1 dX3_save_7 rfl rfl rfl ?_
    refine r_sipush (v := 412) 11 dX3_save_8 rfl rfl ?_
    refine r_icmp_ge 32 14 dX3_save_11 (by decide) rfl ?_ ?_
    · exact r_lsP [0] rfl (h32 v0 w)
    refine r_aload_n 15 0 dX3_save_14 rfl rfl rfl ?_
    refine r_getr 18 gf_X3_16 dX3_save_15 rfl (fun x15 => ?_)
    refine r_iload_n 19 1 dX3_save_18 rfl rfl rfl ?_
    refine r_aload_n 20 0 dX3_save_19 rfl rfl rfl ?_
    refine r_getr 23 gf_X3_9 dX3_save_20 rfl (fun x20 => ?_)
    refine r_iload_n 24 1 dX3_save_23 rfl rfl rfl ?_
    refine r_iald 25 dX3_save_24 rfl (fun x24 => ?_)
    refine r_iast 26 dX3_save_25 rfl (fun w25 => ?_)
    refine r_iinc (v := v1 + 1) (ls2 := [(1, lI (v1 + 1)), (0, lR v0)]) 29 1 dX3_save_26 rfl rfl (by decide) rfl rfl ?_
    refine r_goto 7 dX3_save_29 (by decide) ?_
    exact r_lsP [1, 0] rfl (ih v0 (v1 + 1) w25)
theorem t_X3_save_b32 {l : Launch} {D : Dn} {H0 : Heap} {w0 : St} (hl : l.stackTraces = false) (G : Nat) (v0 : Rf) (w : St) : V_X3_save l D H0 w0 (f_X3_save_b32 G v0 w) 32 [(0, lR v0)] [] w := by
  unfold f_X3_save_b32
  refine r_aload_n 33 0 dX3_save_32 rfl rfl rfl ?_
  refine r_iconst (v := 1) 34 dX3_save_33 rfl rfl ?_
  refine r_putz 37 pf_X3_344 dX3_save_34 rfl (fun w34 => ?_)
  refine r_aload_n 38 0 dX3_save_37 rfl rfl rfl ?_
  refine r_getr 41 gf_X3_9 dX3_save_38 rfl (fun x38 => ?_)
  refine r_iconst (v := 0) 42 dX3_save_41 rfl rfl ?_
  refine r_iald 43 dX3_save_42 rfl (fun x42 => ?_)
  exact r_iret rfl rfl dX3_save_43
theorem t_X3_save {l : Launch} {D : Dn} {H0 : Heap} {w0 : St} (hl : l.stackTraces = false) (G : Nat) (a0 : Rf) (w : St) : V_X3_save l D H0 w0 (f_X3_save G a0 w) 0 [(0, lR a0)] [] w := by
  unfold f_X3_save
  refine r_aload_n 1 0 dX3_save_0 rfl rfl rfl ?_
  refine r_iconst (v := 0) 2 dX3_save_1 rfl rfl ?_
  refine r_puti 5 pf_X3_69 dX3_save_2 rfl (fun w2 => ?_)
  refine r_iconst (v := 0) 6 dX3_save_5 rfl rfl ?_
  refine r_istore_n (ls2 := [(1, lI 0), (0, lR a0)]) 7 dX3_save_6 rfl (by decide) rfl rfl ?_
  exact r_lsP [1, 0] rfl (t_X3_save_l7 hl G (fun v0 w => f_X3_save_b32 G  v0 w) (fun v0 w => t_X3_save_b32 hl G  v0 w) G a0 0 w2)
theorem s_X3_save {l : Launch} {D : Dn} {H0 : Heap} (hl : l.stackTraces = false) (G : Nat) (a0 : Rf) (w : St) : SimN l D H0 yX3_save (ws_ yX3_save cX3_save 2 (some (.int))) 0 0 rvI [lR a0] w (f_X3_save G a0 w) := SimX.N (SimX.ofV (y := yX3_save) (by decide) rfl (t_X3_save hl G a0 w))
abbrev V_X3_restore (l : Launch) (D : Dn) (H0 : Heap) (w0 : St) (res : Option (Int32 × St)) (pc : Nat) (ls : List (Nat × LV)) (st : List Value) (w : St) : Prop := V l D H0 RX3 "restore" cX3_restore 2 (some (.int)) [] 1 21 (fun x => .inr (rvI x)) w0 res pc ls st w
theorem t_X3_restore_l20 {l : Launch} {D : Dn} {H0 : Heap} {w0 : St} (hl : l.stackTraces = false) (G : Nat) (k45 : Rf → St → Option (Int32 × St)) (h45 : ∀ v0 w, V_X3_restore l D H0 w0 (k45 v0 w) 45 [(0, lR v0)] [] w) : ∀ (F : Nat) (v0 : Rf) (v1 : Int32) (w : St), V_X3_restore l D H0 w0 (f_X3_restore_l20 G k45 F v0 v1 w) 20 [(0, lR v0), (1, lI v1)] [] w := by
  intro F
  induction F with
  | zero => intros; exact r_none
  | succ F ih =>
    intro v0 v1 w
    unfold f_X3_restore_l20
    refine r_iload_n 21 1 dX3_restore_20 rfl rfl rfl ?_
    refine r_sipush (v := 412) 24 dX3_restore_21 rfl rfl ?_
    refine r_icmp_ge 45 27 dX3_restore_24 (by decide) rfl ?_ ?_
    · exact r_lsP [0] rfl (h45 v0 w)
    refine r_aload_n 28 0 dX3_restore_27 rfl rfl rfl ?_
    refine r_getr 31 gf_X3_9 dX3_restore_28 rfl (fun x28 => ?_)
    refine r_iload_n 32 1 dX3_restore_31 rfl rfl rfl ?_
    refine r_aload_n 33 0 dX3_restore_32 rfl rfl rfl ?_
    refine r_getr 36 gf_X3_16 dX3_restore_33 rfl (fun x33 => ?_)
    refine r_iload_n 37 1 dX3_restore_36 rfl rfl rfl ?_
    refine r_iald 38 dX3_restore_37 rfl (fun x37 => ?_)
    refine r_iast 39 dX3_restore_38 rfl (fun w38 => ?_)
    refine r_iinc (v := v1 + 1) (ls2 := [(1, lI (v1 + 1)), (0, lR v0)]) 42 1 dX3_restore_39 rfl rfl (by decide) rfl rfl ?_
    refine r_goto 20 dX3_restore_42 (by decide) ?_
    exact r_lsP [1, 0] rfl (ih v0 (v1 + 1) w38)
theorem t_X3_restore_b45 {l : Launch} {D : Dn} {H0 : Heap} {w0 : St} (hl : l.stackTraces = false) (G : Nat) (v0 : Rf) (w : St) : V_X3_restore l D H0 w0 (f_X3_restore_b45 G v0 w) 45 [(0, lR v0)] [] w := by
  unfold f_X3_restore_b45
  refine r_aload_n 46 0 dX3_restore_45 rfl rfl rfl ?_
  refine r_iconst (v := 0) 47 dX3_restore_46 rfl rfl ?_
  refine r_puti 50 pf_X3_85 dX3_restore_47 rfl (fun w47 => ?_)
  refine r_aload_n 51 0 dX3_restore_50 rfl rfl rfl ?_
  refine r_getr 54 gf_X3_9 dX3_restore_51 rfl (fun x51 => ?_)
  refine r_iconst (v := 0) 55 dX3_restore_54 rfl rfl ?_
  refine r_iald 56 dX3_restore_55 rfl (fun x55 => ?_)
  exact r_iret rfl rfl dX3_restore_56
theorem t_X3_restore {l : Launch} {D : Dn} {H0 : Heap} {w0 : St} (hl : l.stackTraces = false) (G : Nat) (a0 : Rf) (w : St) : V_X3_restore l D H0 w0 (f_X3_restore G a0 w) 0 [(0, lR a0)] [] w := by
  unfold f_X3_restore
  refine r_aload_n 1 0 dX3_restore_0 rfl rfl rfl ?_
  refine r_iconst (v := 0) 2 dX3_restore_1 rfl rfl ?_
  refine r_puti 5 pf_X3_69 dX3_restore_2 rfl (fun w2 => ?_)
  refine r_aload_n 6 0 dX3_restore_5 rfl rfl rfl ?_
  refine r_geti 9 gf_X3_344 dX3_restore_6 rfl (fun x6 => ?_)
  refine r_if_ne 18 12 dX3_restore_9 (by decide) rfl ?_ ?_
  · refine r_iconst (v := 0) 19 dX3_restore_18 rfl rfl ?_
    refine r_istore_n (ls2 := [(1, lI 0), (0, lR a0)]) 20 dX3_restore_19 rfl (by decide) rfl rfl ?_
    exact r_lsP [1, 0] rfl (t_X3_restore_l20 hl G (fun v0 w => f_X3_restore_b45 G  v0 w) (fun v0 w => t_X3_restore_b45 hl G  v0 w) G a0 0 w2)
  refine r_aload_n 13 0 dX3_restore_12 rfl rfl rfl ?_
  refine r_iconst (v := 1) 14 dX3_restore_13 rfl rfl ?_
  refine r_gd (fun hc14 => ?_)
  refine r_callV (n := 1) (as := [lI 1]) (rest := []) 17 26 (s_X3_throwing hl G a0 1 w2) hc14 rfl (lw_V q2298 q2300 qs42 q110 q2301) (by decide +kernel) (by decide) rfl rfl (cat2_nil (k := 0)) rfl dX3_restore_14 rfl (fun x14 w14 => ?_)
  exact r_iret rfl rfl dX3_restore_17
theorem s_X3_restore {l : Launch} {D : Dn} {H0 : Heap} (hl : l.stackTraces = false) (G : Nat) (a0 : Rf) (w : St) : SimN l D H0 yX3_restore (ws_ yX3_restore cX3_restore 2 (some (.int))) 1 21 rvI [lR a0] w (f_X3_restore G a0 w) := SimX.N (SimX.ofV (y := yX3_restore) (by decide) rfl (t_X3_restore hl G a0 w))
