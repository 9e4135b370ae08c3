set_option maxRecDepth 100000
set_option maxHeartbeats 4000000
theorem gf_X3_44 : GF RX3 44 [26] 19 := GF1 (C := RX3) (T := TX3) (N := 34) (ci := 26) rfl in_X3 (by decide) (Or.inl q2188) (Or.inl rfl)
theorem gf_X3_47 : GF RX3 47 [26] 22 := GF1 (C := RX3) (T := TX3) (N := 34) (ci := 26) rfl in_X3 (by decide) (Or.inl q2191) (Or.inl rfl)
theorem pf_X3_176 {nm9 : String} : PF RX3 nm9 176 [26] 21 (.int) := PF1 (C := RX3) (T := TX3) (N := 34) (ci := 26) rfl in_X3 tyX3_ok nmX3 (by decide) rfl (Or.inl rfl) (Or.inl q2190) (Or.inl rfl)
theorem pf_X3_182 {nm9 : String} : PF RX3 nm9 182 [26] 20 (.int) := PF1 (C := RX3) (T := TX3) (N := 34) (ci := 26) rfl in_X3 tyX3_ok nmX3 (by decide) rfl (Or.inl rfl) (Or.inl q2189) (Or.inl rfl)
noncomputable def f_X3_byLeg (G : Nat) (a0 : Rf) (a1 : Int32) (a2 : Int32) (w : St) : Option (Int32 × St) :=
  gd (cls a0 w = some 26) <|
  bd (f_X3_minuteOf G a0 a1 (a2 - 1) 1 w) fun x6 w6 =>
  bo (getr [26] a0 0 w6) fun x10 =>
  bd (f_X3_ofStop G a1 a2 w6) fun x15 w15 =>
  bo (iald x10 (x15 + 1) w15) fun x20 =>
  some ((x6 + x20), w15)
noncomputable def f_X3_arrivalBase (G : Nat) (a0 : Rf) (a1 : Int32) (a2 : Int32) (w : St) : Option (Int32 × St) :=
  gd (cls a0 w = some 26) <|
  bd (f_X3_planned G a0 a1 a2 0 w) fun x4 w4 =>
  gd (cls a0 w4 = some 26) <|
  bd (f_X3_byLeg G a0 a1 a2 w4) fun x10 w10 =>
  bd (f_J15_max G x4 x10 w10) fun x13 w13 =>
  some (x13, w13)
noncomputable def f_X3_laysMinutes_l25 (G : Nat) (k81 : Rf → Int32 → St → Option (Unit × St)) : Nat → Rf → Int32 → Int32 → St → Option (Unit × St)
  | 0, _, _, _, _ => none
  | F + 1, v0, v3, v4, w =>
  gd (cls v0 w = some 26) <|
  bd (f_X3_stops G v0 v3 w) fun x29 w29 =>
  if x29 ≤ v4 then (k81 v0 v3 w29) else
  (bo (getr [26] v0 18 w29) fun x36 =>
  bd (f_X3_ofEvent G v3 v4 0 w29) fun x43 w43 =>
  gd (cls v0 w43 = some 26) <|
  bd (f_X3_planned G v0 v3 v4 0 w43) fun x51 w51 =>
  bo (iast x36 x43 x51 w51) fun w54 =>
  bo (getr [26] v0 18 w54) fun x56 =>
  bd (f_X3_ofEvent G v3 v4 1 w54) fun x63 w63 =>
  gd (cls v0 w63 = some 26) <|
  bd (f_X3_planned G v0 v3 v4 1 w63) fun x71 w71 =>
  bo (iast x56 x63 x71 w71) fun w74 =>
  f_X3_laysMinutes_l25 G k81 F v0 v3 (v4 + 1) w74)
noncomputable def f_X3_laysMinutes_b81 (G : Nat) (k12 : Rf → Int32 → St → Option (Unit × St)) (v0 : Rf) (v3 : Int32) (w : St) : Option (Unit × St) :=
  k12 v0 (v3 + 1) w
noncomputable def f_X3_laysMinutes_l12 (G : Nat) (k87 : Rf → St → Option (Unit × St)) : Nat → Rf → Int32 → St → Option (Unit × St)
  | 0, _, _, _ => none
  | F + 1, v0, v3, w =>
  bo (getr [26] v0 0 w) fun x14 =>
  bo (iald x14 0 w) fun x18 =>
  if x18 ≤ v3 then (k87 v0 w) else
  (f_X3_laysMinutes_l25 G (fun v0 v3 w => f_X3_laysMinutes_b81 G (fun v0 v3 w => f_X3_laysMinutes_l12 G k87 F v0 v3 w)  v0 v3 w) G v0 v3 0 w)
noncomputable def f_X3_laysMinutes_b234 (G : Nat) (k98 : Rf → Int32 → Int32 → St → Option (Unit × St)) (v0 : Rf) (v3 : Int32) (v4 : Int32) (w : St) : Option (Unit × St) :=
  k98 v0 v3 (v4 + 1) w
noncomputable def f_X3_laysMinutes_b224 (G : Nat) (k98 : Rf → Int32 → Int32 → St → Option (Unit × St)) (v0 : Rf) (v4 : Int32) (v7 : Int32) (s0 : Int32) (w : St) : Option (Unit × St) :=
  bo (getr [26] v0 18 w) fun x226 =>
  bo (iast x226 v4 v7 w) fun w233 =>
  f_X3_laysMinutes_b234 G k98  v0 s0 v4 w233
noncomputable def f_X3_laysMinutes_b219 (G : Nat) (k98 : Rf → Int32 → Int32 → St → Option (Unit × St)) (v0 : Rf) (v4 : Int32) (v7 : Int32) (w : St) : Option (Unit × St) :=
  f_X3_laysMinutes_b224 G k98  v0 v4 v7 1 w
noncomputable def f_X3_laysMinutes_b180 (G : Nat) (k98 : Rf → Int32 → Int32 → St → Option (Unit × St)) (v0 : Rf) (v3 : Int32) (v4 : Int32) (v5 : Int32) (v6 : Int32) (s0 : Int32) (s1 : Int32) (s2 : Rf) (w : St) : Option (Unit × St) :=
  bo (iast s2 s1 s0 w) fun w180 =>
  bo (getr [26] v0 19 w180) fun x182 =>
  bo (iald x182 v4 w180) fun x187 =>
  gd (cls v0 w180 = some 26) <|
  bd (f_X3_ownOf G v0 v5 v6 (v4 - v4 / 2 * 2) w180) fun x197 w197 =>
  if v3 = 0 then (bo (getr [26] v0 18 w197) fun x210 =>
  bo (iald x210 v4 w197) fun x215 =>
  if (x187 + x197) = x215 then (f_X3_laysMinutes_b224 G k98  v0 v4 (x187 + x197) 0 w197) else
  (f_X3_laysMinutes_b219 G k98  v0 v4 (x187 + x197) w197)) else
  (f_X3_laysMinutes_b219 G k98  v0 v4 (x187 + x197) w197)
noncomputable def f_X3_laysMinutes_l98 (G : Nat) (k240 : Rf → Int32 → St → Option (Unit × St)) : Nat → Rf → Int32 → Int32 → St → Option (Unit × St)
  | 0, _, _, _, _ => none
  | F + 1, v0, v3, v4, w =>
  if 72 ≤ v4 then (k240 v0 v3 w) else
  (nmv ((v4 / 2) - (v4 / 2) / 6 * 6) fun x119 =>
  bo (getr [26] v0 0 w) fun x124 =>
  bo (iald x124 0 w) fun x128 =>
  if x128 ≤ (v4 / 12) then (f_X3_laysMinutes_b234 G (fun v0 v3 v4 w => f_X3_laysMinutes_l98 G k240 F v0 v3 v4 w)  v0 v3 v4 w) else
  (gd (cls v0 w = some 26) <|
  bd (f_X3_isEvent G v0 (v4 / 12) x119 (v4 - v4 / 2 * 2) w) fun x141 w141 =>
  if x141 = 0 then (f_X3_laysMinutes_b234 G (fun v0 v3 v4 w => f_X3_laysMinutes_l98 G k240 F v0 v3 v4 w)  v0 v3 v4 w141) else
  (bo (getr [26] v0 19 w141) fun x148 =>
  if (v4 - v4 / 2 * 2) = 0 then (gd (cls v0 w141 = some 26) <|
  bd (f_X3_arrivalBase G v0 (v4 / 12) x119 w141) fun x165 w165 =>
  f_X3_laysMinutes_b180 G (fun v0 v3 v4 w => f_X3_laysMinutes_l98 G k240 F v0 v3 v4 w)  v0 v3 v4 (v4 / 12) x119 x165 v4 x148 w165) else
  (gd (cls v0 w141 = some 26) <|
  bd (f_X3_departureBase G v0 (v4 / 12) x119 ((-1)) w141) fun x177 w177 =>
  f_X3_laysMinutes_b180 G (fun v0 v3 v4 w => f_X3_laysMinutes_l98 G k240 F v0 v3 v4 w)  v0 v3 v4 (v4 / 12) x119 x177 v4 x148 w177))))
noncomputable def f_X3_laysMinutes_b240 (G : Nat) (k89 : Rf → Int32 → St → Option (Unit × St)) (v0 : Rf) (v3 : Int32) (w : St) : Option (Unit × St) :=
  k89 v0 v3 w
noncomputable def f_X3_laysMinutes_l89 (G : Nat) (k243 : St → Option (Unit × St)) : Nat → Rf → Int32 → St → Option (Unit × St)
  | 0, _, _, _ => none
  | F + 1, v0, v3, w =>
  if v3 = 0 then (k243 w) else
  (f_X3_laysMinutes_l98 G (fun v0 v3 w => f_X3_laysMinutes_b240 G (fun v0 v3 w => f_X3_laysMinutes_l89 G k243 F v0 v3 w)  v0 v3 w) G v0 0 0 w)
noncomputable def f_X3_laysMinutes_b243 (G : Nat) (w : St) : Option (Unit × St) :=
  some ((()), w)
noncomputable def f_X3_laysMinutes_b87 (G : Nat) (v0 : Rf) (w : St) : Option (Unit × St) :=
  f_X3_laysMinutes_l89 G (fun w => f_X3_laysMinutes_b243 G  w) G v0 1 w
noncomputable def f_X3_laysMinutes (G : Nat) (a0 : Rf) (a1 : Int32) (a2 : Int32) (w : St) : Option (Unit × St) :=
  bo (puti [26] a0 20 a1 w) fun w2 =>
  bo (puti [26] a0 21 a2 w2) fun w7 =>
  f_X3_laysMinutes_l12 G (fun v0 w => f_X3_laysMinutes_b87 G  v0 w) G a0 0 w7
noncomputable def f_X3_lateOf (G : Nat) (a0 : Rf) (a1 : Int32) (a2 : Int32) (a3 : Int32) (w : St) : Option (Int32 × St) :=
  gd (cls a0 w = some 26) <|
  bd (f_X3_minuteOf G a0 a1 a2 a3 w) fun x4 w4 =>
  gd (cls a0 w4 = some 26) <|
  bd (f_X3_planned G a0 a1 a2 a3 w4) fun x11 w11 =>
  some ((x4 - x11), w11)
noncomputable def f_X3_lateIt (G : Nat) (a0 : Rf) (a1 : Int32) (a2 : Int32) (a3 : Int32) (a4 : Int32) (w : St) : Option (Int32 × St) :=
  gd (cls a0 w = some 26) <|
  bd (f_X3_isCoach G a0 a1 w) fun x2 w2 =>
  if x2 = 0 then (gd (cls a0 w2 = some 26) <|
  bd (f_X3_refuse G a0 3 a1 w2) fun x11 w11 =>
  some (x11, w11)) else
  (gd (cls a0 w2 = some 26) <|
  bd (f_X3_isEvent G a0 a1 a2 a3 w2) fun x19 w19 =>
  if x19 = 0 then (gd (cls a0 w19 = some 26) <|
  bd (f_X3_refuse G a0 4 a2 w19) fun x28 w28 =>
  some (x28, w28)) else
  (bd (f_X3_in G a4.toInt64 0 120 w19) fun x39 w39 =>
  if x39 = 0 then (gd (cls a0 w39 = some 26) <|
  bd (f_X3_refuse G a0 1 a4 w39) fun x49 w49 =>
  some (x49, w49)) else
  (bd (f_X3_ofStop G a1 a2 w39) fun x55 w55 =>
  bo (getr [26] a0 0 w55) fun x65 =>
  bo (iald x65 ((x55 + 5) + a3) w55) fun x70 =>
  if x70 = a4 then (gd (cls a0 w55 = some 26) <|
  bd (f_X3_refuse G a0 10 a4 w55) fun x81 w81 =>
  some (x81, w81)) else
  (bo (getr [26] a0 0 w55) fun x86 =>
  bo (iast x86 ((x55 + 5) + a3) a4 w55) fun w93 =>
  gd (cls a0 w93 = some 26) <|
  bd (f_X3_laysMinutes G a0 ((-1)) ((-1)) w93) fun _ w97 =>
  gd (cls a0 w97 = some 26) <|
  bd (f_X3_lateOf G a0 a1 a2 a3 w97) fun x104 w104 =>
  some (x104, w104)))))
noncomputable def f_X3_late_b17 (G : Nat) (v4 : Int32) (s0 : Int32) (s1 : Int32) (s2 : Int32) (s3 : Rf) (s4 : Rf) (w : St) : Option (Int32 × St) :=
  gd (cls s3 w = some 26) <|
  bd (f_X3_lateIt G s3 s2 s1 s0 v4 w) fun x19 w19 =>
  gd (cls s4 w19 = some 26) <|
  bd (f_X3_changed G s4 x19 w19) fun x22 w22 =>
  some (x22, w22)
noncomputable def f_X3_late (G : Nat) (a0 : Rf) (a1 : Int32) (a2 : Int32) (a3 : Int32) (a4 : Int32) (w : St) : Option (Int32 × St) :=
  gd (cls a0 w = some 26) <|
  bd (f_X3_starts G a0 w) fun _ w1 =>
  if a3 = 0 then (f_X3_late_b17 G  a4 1 a2 a1 a0 a0 w1) else
  (f_X3_late_b17 G  a4 0 a2 a1 a0 a0 w1)
noncomputable def f_X3_ownAll_l4 (G : Nat) (k37 : Int32 → St → Option (Int32 × St)) : Nat → Rf → Int32 → Int32 → Int32 → St → Option (Int32 × St)
  | 0, _, _, _, _, _ => none
  | F + 1, v0, v1, v2, v3, w =>
  gd (cls v0 w = some 26) <|
  bd (f_X3_stops G v0 v1 w) fun x7 w7 =>
  if x7 ≤ v3 then (k37 v2 w7) else
  (gd (cls v0 w7 = some 26) <|
  bd (f_X3_own G v0 v1 v3 0 w7) fun x18 w18 =>
  gd (cls v0 w18 = some 26) <|
  bd (f_X3_own G v0 v1 v3 1 w18) fun x25 w25 =>
  f_X3_ownAll_l4 G k37 F v0 v1 (v2 + (x18 + x25)) (v3 + 1) w25)
noncomputable def f_X3_ownAll_b37 (G : Nat) (v2 : Int32) (w : St) : Option (Int32 × St) :=
  some (v2, w)
noncomputable def f_X3_ownAll (G : Nat) (a0 : Rf) (a1 : Int32) (w : St) : Option (Int32 × St) :=
  f_X3_ownAll_l4 G (fun v2 w => f_X3_ownAll_b37 G  v2 w) G a0 a1 0 0 w
noncomputable def f_X3_lastLate (G : Nat) (a0 : Rf) (a1 : Int32) (w : St) : Option (Int32 × St) :=
  gd (cls a0 w = some 26) <|
  bd (f_X3_stops G a0 a1 w) fun x2 w2 =>
  if x2 = 1 then (some (0, w2)) else
  (gd (cls a0 w2 = some 26) <|
  bd (f_X3_stops G a0 a1 w2) fun x17 w17 =>
  gd (cls a0 w17 = some 26) <|
  bd (f_X3_lateOf G a0 a1 (x17 - 1) 0 w17) fun x23 w23 =>
  some (x23, w23))
noncomputable def f_X3_linksOf_b38 (G : Nat) (k5 : Rf → Int32 → Int32 → Int32 → Int32 → St → Option (Int32 × St)) (v0 : Rf) (v1 : Int32) (v2 : Int32) (v4 : Int32) (s0 : Int32) (s1 : Int32) (w : St) : Option (Int32 × St) :=
  k5 v0 v1 v2 (s1 + s0) (v4 + 1) w
noncomputable def f_X3_linksOf_l5 (G : Nat) (k46 : Int32 → St → Option (Int32 × St)) : Nat → Rf → Int32 → Int32 → Int32 → Int32 → St → Option (Int32 × St)
  | 0, _, _, _, _, _, _ => none
  | F + 1, v0, v1, v2, v3, v4, w =>
  bo (getr [26] v0 0 w) fun x8 =>
  bo (iald x8 1 w) fun x12 =>
  if x12 ≤ v4 then (k46 v3 w) else
  (bo (getr [26] v0 0 w) fun x18 =>
  bd (f_X3_ofLink G v4 w) fun x23 w23 =>
  bo (iald x18 (x23 + v2) w23) fun x28 =>
  if x28 = v1 then (f_X3_linksOf_b38 G (fun v0 v1 v2 v3 v4 w => f_X3_linksOf_l5 G k46 F v0 v1 v2 v3 v4 w)  v0 v1 v2 v4 1 v3 w23) else
  (f_X3_linksOf_b38 G (fun v0 v1 v2 v3 v4 w => f_X3_linksOf_l5 G k46 F v0 v1 v2 v3 v4 w)  v0 v1 v2 v4 0 v3 w23))
noncomputable def f_X3_linksOf_b46 (G : Nat) (v3 : Int32) (w : St) : Option (Int32 × St) :=
  some (v3, w)
noncomputable def f_X3_linksOf (G : Nat) (a0 : Rf) (a1 : Int32) (a2 : Int32) (w : St) : Option (Int32 × St) :=
  f_X3_linksOf_l5 G (fun v3 w => f_X3_linksOf_b46 G  v3 w) G a0 a1 a2 0 0 w
noncomputable def f_X3_coachOf (G : Nat) (a0 : Rf) (a1 : Int32) (a2 : Int32) (w : St) : Option (Int32 × St) :=
  bo (puti [26] a0 13 0 w) fun w2 =>
  gd (cls a0 w2 = some 26) <|
  bd (f_X3_isCoach G a0 a1 w2) fun x7 w7 =>
  if x7 = 0 then (gd (cls a0 w7 = some 26) <|
  bd (f_X3_throwing G a0 1 w7) fun x15 w15 =>
  some (x15, w15)) else
  (gd (cls a0 w7 = some 26) <|
  bd (f_X3_laysMinutes G a0 ((-1)) ((-1)) w7) fun _ w22 =>
  if a2 = 0 then (gd (cls a0 w22 = some 26) <|
  bd (f_X3_stops G a0 a1 w22) fun x70 w70 =>
  some (x70, w70)) else
  (if a2 = 1 then (gd (cls a0 w22 = some 26) <|
  bd (f_X3_ownAll G a0 a1 w22) fun x76 w76 =>
  some (x76, w76)) else
  (if a2 = 2 then (gd (cls a0 w22 = some 26) <|
  bd (f_X3_lastLate G a0 a1 w22) fun x82 w82 =>
  some (x82, w82)) else
  (if a2 = 3 then (gd (cls a0 w22 = some 26) <|
  bd (f_X3_into G a0 a1 w22) fun x88 w88 =>
  some (x88, w88)) else
  (if a2 = 4 then (gd (cls a0 w22 = some 26) <|
  bd (f_X3_turnsInto G a0 a1 w22) fun x94 w94 =>
  some (x94, w94)) else
  (if a2 = 5 then (gd (cls a0 w22 = some 26) <|
  bd (f_X3_linksOf G a0 a1 0 w22) fun x101 w101 =>
  some (x101, w101)) else
  (if a2 = 6 then (gd (cls a0 w22 = some 26) <|
  bd (f_X3_linksOf G a0 a1 2 w22) fun x108 w108 =>
  some (x108, w108)) else
  (gd (cls a0 w22 = some 26) <|
  bd (f_X3_throwing G a0 2 w22) fun x114 w114 =>
  some (x114, w114)))))))))
noncomputable def f_X3_stopOf_b30 (G : Nat) (v0 : Rf) (w : St) : Option (Int32 × St) :=
  gd (cls v0 w = some 26) <|
  bd (f_X3_throwing G v0 1 w) fun x32 w32 =>
  some (x32, w32)
noncomputable def f_X3_stopOf (G : Nat) (a0 : Rf) (a1 : Int32) (a2 : Int32) (a3 : Int32) (w : St) : Option (Int32 × St) :=
  bo (puti [26] a0 13 0 w) fun w2 =>
  gd (cls a0 w2 = some 26) <|
  bd (f_X3_isCoach G a0 a1 w2) fun x7 w7 =>
  if x7 = 0 then (f_X3_stopOf_b30 G  a0 w7) else
  (gd (cls a0 w7 = some 26) <|
  bd (f_X3_stops G a0 a1 w7) fun x18 w18 =>
  bd (f_X3_in G a2.toInt64 0 ((x18 - 1).toInt64) w18) fun x24 w24 =>
  if x24 = 0 then (f_X3_stopOf_b30 G  a0 w24) else
  (bd (f_X3_in G a3.toInt64 0 4 w24) fun x42 w42 =>
  if x42 = 0 then (gd (cls a0 w42 = some 26) <|
  bd (f_X3_throwing G a0 2 w42) fun x65 w65 =>
  some (x65, w65)) else
  (bo (getr [26] a0 0 w42) fun x49 =>
  bd (f_X3_ofStop G a1 a2 w42) fun x54 w54 =>
  bo (iald x49 (x54 + a3) w54) fun x59 =>
  some (x59, w54))))
noncomputable def f_X3_isOne_b24 (G : Nat) (v0 : Rf) (s0 : Int32) (s1 : Rf) (w : St) : Option (Int32 × St) :=
  bo (puti [26] s1 13 s0 w) fun w24 =>
  bo (geti [26] v0 13 w24) fun x28 =>
  if x28 = 0 then (some (1, w24)) else
  (some (0, w24))
noncomputable def f_X3_isOne_b23 (G : Nat) (v0 : Rf) (s0 : Rf) (w : St) : Option (Int32 × St) :=
  f_X3_isOne_b24 G  v0 1 s0 w
noncomputable def f_X3_isOne (G : Nat) (a0 : Rf) (a1 : Int32) (a2 : Int32) (a3 : Int32) (w : St) : Option (Int32 × St) :=
  gd (cls a0 w = some 26) <|
  bd (f_X3_isCoach G a0 a1 w) fun x3 w3 =>
  if x3 = 0 then (f_X3_isOne_b23 G  a0 a0 w3) else
  (gd (cls a0 w3 = some 26) <|
  bd (f_X3_isEvent G a0 a1 a2 a3 w3) fun x13 w13 =>
  if x13 = 0 then (f_X3_isOne_b23 G  a0 a0 w13) else
  (f_X3_isOne_b24 G  a0 0 a0 w13))
noncomputable def f_X3_cause (G : Nat) (a0 : Rf) (a1 : Int32) (a2 : Int32) (a3 : Int32) (w : St) : Option (Int32 × St) :=
  bo (getr [26] a0 19 w) fun x1 =>
  bd (f_X3_ofEvent G a1 a2 a3 w) fun x7 w7 =>
  bo (iald x1 x7 w7) fun x10 =>
  gd (cls a0 w7 = some 26) <|
  bd (f_X3_planned G a0 a1 a2 a3 w7) fun x19 w19 =>
  if x10 = x19 then (some (0, w19)) else
  (if a3 = 0 then (some (1, w19)) else
  (gd (cls a0 w19 = some 26) <|
  bd (f_X3_byStay G a0 a1 a2 w19) fun x36 w36 =>
  if x10 = x36 then (some (1, w36)) else
  (gd (cls a0 w36 = some 26) <|
  bd (f_X3_byTurn G a0 a1 a2 w36) fun x49 w49 =>
  if x10 = x49 then (some (2, w49)) else
  (some (3, w49)))))
noncomputable def f_X3_causeLink_b51 (G : Nat) (k2 : Rf → Int32 → Int32 → Int32 → St → Option (Int32 × St)) (v0 : Rf) (v1 : Int32) (v2 : Int32) (v3 : Int32) (w : St) : Option (Int32 × St) :=
  k2 v0 v1 v2 (v3 + 1) w
noncomputable def f_X3_causeLink_l2 (G : Nat) (k49 : Int32 → St → Option (Int32 × St)) (k57 : St → Option (Int32 × St)) : Nat → Rf → Int32 → Int32 → Int32 → St → Option (Int32 × St)
  | 0, _, _, _, _, _ => none
  | F + 1, v0, v1, v2, v3, w =>
  bo (getr [26] v0 0 w) fun x4 =>
  bo (iald x4 1 w) fun x8 =>
  if x8 ≤ v3 then (k57 w) else
  (gd (cls v0 w = some 26) <|
  bd (f_X3_isTo G v0 v3 v1 v2 w) fun x16 w16 =>
  if x16 = 0 then (f_X3_causeLink_b51 G (fun v0 v1 v2 v3 w => f_X3_causeLink_l2 G k49 k57 F v0 v1 v2 v3 w)  v0 v1 v2 v3 w16) else
  (gd (cls v0 w16 = some 26) <|
  bd (f_X3_isKept G v0 v3 w16) fun x24 w24 =>
  if x24 = 0 then (f_X3_causeLink_b51 G (fun v0 v1 v2 v3 w => f_X3_causeLink_l2 G k49 k57 F v0 v1 v2 v3 w)  v0 v1 v2 v3 w24) else
  (gd (cls v0 w24 = some 26) <|
  bd (f_X3_byLink G v0 v3 w24) fun x32 w32 =>
  bo (getr [26] v0 19 w32) fun x36 =>
  bd (f_X3_ofEvent G v1 v2 1 w32) fun x42 w42 =>
  bo (iald x36 x42 w42) fun x45 =>
  if x32 = x45 then (k49 v3 w42) else
  (f_X3_causeLink_b51 G (fun v0 v1 v2 v3 w => f_X3_causeLink_l2 G k49 k57 F v0 v1 v2 v3 w)  v0 v1 v2 v3 w42))))
noncomputable def f_X3_causeLink_b49 (G : Nat) (v3 : Int32) (w : St) : Option (Int32 × St) :=
  some (v3, w)
noncomputable def f_X3_causeLink_b57 (G : Nat) (w : St) : Option (Int32 × St) :=
  some (((-1)), w)
noncomputable def f_X3_causeLink (G : Nat) (a0 : Rf) (a1 : Int32) (a2 : Int32) (w : St) : Option (Int32 × St) :=
  f_X3_causeLink_l2 G (fun v3 w => f_X3_causeLink_b49 G  v3 w) (fun w => f_X3_causeLink_b57 G  w) G a0 a1 a2 0 w
noncomputable def f_X3_eventOf_b9 (G : Nat) (v0 : Rf) (v1 : Int32) (v2 : Int32) (v4 : Int32) (s0 : Int32) (w : St) : Option (Int32 × St) :=
  gd (cls v0 w = some 26) <|
  bd (f_X3_isOne G v0 v1 v2 s0 w) fun x16 w16 =>
  if x16 = 0 then (some (((-1)), w16)) else
  (gd (cls v0 w16 = some 26) <|
  bd (f_X3_laysMinutes G v0 ((-1)) ((-1)) w16) fun _ w27 =>
  if v4 = 0 then (gd (cls v0 w27 = some 26) <|
  bd (f_X3_planned G v0 v1 v2 s0 w27) fun x77 w77 =>
  some (x77, w77)) else
  (if v4 = 1 then (gd (cls v0 w27 = some 26) <|
  bd (f_X3_minuteOf G v0 v1 v2 s0 w27) fun x86 w86 =>
  some (x86, w86)) else
  (if v4 = 2 then (gd (cls v0 w27 = some 26) <|
  bd (f_X3_lateOf G v0 v1 v2 s0 w27) fun x95 w95 =>
  some (x95, w95)) else
  (if v4 = 3 then (gd (cls v0 w27 = some 26) <|
  bd (f_X3_own G v0 v1 v2 s0 w27) fun x104 w104 =>
  some (x104, w104)) else
  (if v4 = 4 then (gd (cls v0 w27 = some 26) <|
  bd (f_X3_cause G v0 v1 v2 s0 w27) fun x113 w113 =>
  some (x113, w113)) else
  (if v4 = 5 then (gd (cls v0 w27 = some 26) <|
  bd (f_X3_cause G v0 v1 v2 s0 w27) fun x122 w122 =>
  if x122 = 3 then (gd (cls v0 w122 = some 26) <|
  bd (f_X3_causeLink G v0 v1 v2 w122) fun x132 w132 =>
  some (x132, w132)) else
  (some (((-1)), w122))) else
  (gd (cls v0 w27 = some 26) <|
  bd (f_X3_throwing G v0 2 w27) fun x142 w142 =>
  some (x142, w142))))))))
noncomputable def f_X3_eventOf (G : Nat) (a0 : Rf) (a1 : Int32) (a2 : Int32) (a3 : Int32) (a4 : Int32) (w : St) : Option (Int32 × St) :=
  if a3 = 0 then (f_X3_eventOf_b9 G  a0 a1 a2 a4 1 w) else
  (f_X3_eventOf_b9 G  a0 a1 a2 a4 0 w)
noncomputable def f_X3_minute_b9 (G : Nat) (v0 : Rf) (v1 : Int32) (v2 : Int32) (s0 : Int32) (w : St) : Option (Int32 × St) :=
  gd (cls v0 w = some 26) <|
  bd (f_X3_isOne G v0 v1 v2 s0 w) fun x16 w16 =>
  if x16 = 0 then (some (((-1)), w16)) else
  (gd (cls v0 w16 = some 26) <|
  bd (f_X3_laysMinutes G v0 ((-1)) ((-1)) w16) fun _ w27 =>
  gd (cls v0 w27 = some 26) <|
  bd (f_X3_minuteOf G v0 v1 v2 s0 w27) fun x35 w35 =>
  some (x35, w35))
noncomputable def f_X3_minute (G : Nat) (a0 : Rf) (a1 : Int32) (a2 : Int32) (a3 : Int32) (w : St) : Option (Int32 × St) :=
  if a3 = 0 then (f_X3_minute_b9 G  a0 a1 a2 1 w) else
  (f_X3_minute_b9 G  a0 a1 a2 0 w)
noncomputable def f_X3_minuteAgain (G : Nat) (a0 : Rf) (a1 : Int32) (a2 : Int32) (a3 : Int32) (w : St) : Option (Int32 × St) :=
  gd (cls a0 w = some 26) <|
  bd (f_X3_minute G a0 a1 a2 a3 w) fun x4 w4 =>
  some (x4, w4)
noncomputable def f_X3_waitsOf (G : Nat) (a0 : Rf) (a1 : Int32) (w : St) : Option (Int32 × St) :=
  bo (getr [26] a0 0 w) fun x1 =>
  bd (f_X3_ofLink G a1 w) fun x5 w5 =>
  bo (iald x1 (x5 + 2) w5) fun x10 =>
  bo (getr [26] a0 0 w5) fun x13 =>
  bd (f_X3_ofLink G a1 w5) fun x17 w17 =>
  bo (iald x13 (x17 + 3) w17) fun x22 =>
  gd (cls a0 w17 = some 26) <|
  bd (f_X3_isKept G a0 a1 w17) fun x26 w26 =>
  if x26 = 0 then (some (0, w26)) else
  (gd (cls a0 w26 = some 26) <|
  bd (f_X3_departureBase G a0 x10 x22 ((-1)) w26) fun x36 w36 =>
  gd (cls a0 w36 = some 26) <|
  bd (f_X3_departureBase G a0 x10 x22 a1 w36) fun x43 w43 =>
  some ((x36 - x43), w43))
noncomputable def f_X3_spareOf (G : Nat) (a0 : Rf) (a1 : Int32) (w : St) : Option (Int32 × St) :=
  bd (f_X3_ofLink G a1 w) fun x1 w1 =>
  bo (getr [26] a0 0 w1) fun x7 =>
  bo (iald x7 (x1 + 2) w1) fun x13 =>
  bo (getr [26] a0 0 w1) fun x15 =>
  bo (iald x15 (x1 + 3) w1) fun x21 =>
  gd (cls a0 w1 = some 26) <|
  bd (f_X3_planned G a0 x13 x21 1 w1) fun x23 w23 =>
  bo (getr [26] a0 0 w23) fun x28 =>
  bo (iald x28 x1 w23) fun x32 =>
  bo (getr [26] a0 0 w23) fun x34 =>
  bo (iald x34 (x1 + 1) w23) fun x40 =>
  gd (cls a0 w23 = some 26) <|
  bd (f_X3_planned G a0 x32 x40 0 w23) fun x42 w42 =>
  bo (getr [26] a0 0 w42) fun x47 =>
  bo (iald x47 (x1 + 4) w42) fun x53 =>
  some (((x23 - x42) - x53), w42)
noncomputable def f_X3_linkOf (G : Nat) (a0 : Rf) (a1 : Int32) (a2 : Int32) (w : St) : Option (Int32 × St) :=
  bo (puti [26] a0 13 0 w) fun w2 =>
  gd (cls a0 w2 = some 26) <|
  bd (f_X3_isLink G a0 a1 w2) fun x7 w7 =>
  if x7 = 0 then (gd (cls a0 w7 = some 26) <|
  bd (f_X3_throwing G a0 1 w7) fun x15 w15 =>
  some (x15, w15)) else
  (gd (cls a0 w7 = some 26) <|
  bd (f_X3_laysMinutes G a0 ((-1)) ((-1)) w7) fun _ w22 =>
  if a2 = 0 then (bo (getr [26] a0 0 w22) fun x77 =>
  bd (f_X3_ofLink G a1 w22) fun x81 w81 =>
  bo (iald x77 (x81 + a2) w81) fun x86 =>
  some (x86, w81)) else
  (if a2 = 1 then (bo (getr [26] a0 0 w22) fun x77 =>
  bd (f_X3_ofLink G a1 w22) fun x81 w81 =>
  bo (iald x77 (x81 + a2) w81) fun x86 =>
  some (x86, w81)) else
  (if a2 = 2 then (bo (getr [26] a0 0 w22) fun x77 =>
  bd (f_X3_ofLink G a1 w22) fun x81 w81 =>
  bo (iald x77 (x81 + a2) w81) fun x86 =>
  some (x86, w81)) else
  (if a2 = 3 then (bo (getr [26] a0 0 w22) fun x77 =>
  bd (f_X3_ofLink G a1 w22) fun x81 w81 =>
  bo (iald x77 (x81 + a2) w81) fun x86 =>
  some (x86, w81)) else
  (if a2 = 4 then (bo (getr [26] a0 0 w22) fun x77 =>
  bd (f_X3_ofLink G a1 w22) fun x81 w81 =>
  bo (iald x77 (x81 + a2) w81) fun x86 =>
  some (x86, w81)) else
  (if a2 = 5 then (bo (getr [26] a0 0 w22) fun x77 =>
  bd (f_X3_ofLink G a1 w22) fun x81 w81 =>
  bo (iald x77 (x81 + a2) w81) fun x86 =>
  some (x86, w81)) else
  (if a2 = 6 then (gd (cls a0 w22 = some 26) <|
  bd (f_X3_isKept G a0 a1 w22) fun x90 w90 =>
  if x90 = 0 then (some (0, w90)) else
  (some (1, w90))) else
  (if a2 = 7 then (gd (cls a0 w22 = some 26) <|
  bd (f_X3_waitsOf G a0 a1 w22) fun x104 w104 =>
  some (x104, w104)) else
  (if a2 = 8 then (gd (cls a0 w22 = some 26) <|
  bd (f_X3_spareOf G a0 a1 w22) fun x110 w110 =>
  some (x110, w110)) else
  (gd (cls a0 w22 = some 26) <|
  bd (f_X3_throwing G a0 2 w22) fun x116 w116 =>
  some (x116, w116)))))))))))
noncomputable def f_X3_missed_b43 (G : Nat) (k15 : Rf → Int32 → Int32 → Int32 → St → Option (Int32 × St)) (v0 : Rf) (v1 : Int32) (v2 : Int32) (v3 : Int32) (w : St) : Option (Int32 × St) :=
  k15 v0 v1 v2 (v3 + 1) w
noncomputable def f_X3_missed_l15 (G : Nat) (k38 : Int32 → St → Option (Int32 × St)) (k49 : Rf → St → Option (Int32 × St)) : Nat → Rf → Int32 → Int32 → Int32 → St → Option (Int32 × St)
  | 0, _, _, _, _, _ => none
  | F + 1, v0, v1, v2, v3, w =>
  bo (getr [26] v0 0 w) fun x17 =>
  bo (iald x17 1 w) fun x21 =>
  if x21 ≤ v3 then (k49 v0 w) else
  (gd (cls v0 w = some 26) <|
  bd (f_X3_isKept G v0 v3 w) fun x27 w27 =>
  if x27 = 0 then (if v2 = v1 then (k38 v3 w27) else
  (f_X3_missed_b43 G (fun v0 v1 v2 v3 w => f_X3_missed_l15 G k38 k49 F v0 v1 v2 v3 w)  v0 v1 (v2 + 1) v3 w27)) else
  (f_X3_missed_b43 G (fun v0 v1 v2 v3 w => f_X3_missed_l15 G k38 k49 F v0 v1 v2 v3 w)  v0 v1 v2 v3 w27))
noncomputable def f_X3_missed_b38 (G : Nat) (v3 : Int32) (w : St) : Option (Int32 × St) :=
  some (v3, w)
noncomputable def f_X3_missed_b49 (G : Nat) (v0 : Rf) (w : St) : Option (Int32 × St) :=
  gd (cls v0 w = some 26) <|
  bd (f_X3_throwing G v0 1 w) fun x51 w51 =>
  some (x51, w51)
noncomputable def f_X3_missed (G : Nat) (a0 : Rf) (a1 : Int32) (w : St) : Option (Int32 × St) :=
  bo (puti [26] a0 13 0 w) fun w2 =>
  gd (cls a0 w2 = some 26) <|
  bd (f_X3_laysMinutes G a0 ((-1)) ((-1)) w2) fun _ w8 =>
  f_X3_missed_l15 G (fun v3 w => f_X3_missed_b38 G  v3 w) (fun v0 w => f_X3_missed_b49 G  v0 w) G a0 a1 0 0 w8
noncomputable def f_X3_waits_b64 (G : Nat) (k29 : Rf → Int32 → Int32 → Int32 → St → Option (Int32 × St)) (v0 : Rf) (v1 : Int32) (v3 : Int32) (s0 : Int32) (s1 : Int32) (w : St) : Option (Int32 × St) :=
  k29 v0 v1 (s1 + s0) (v3 + 1) w
noncomputable def f_X3_waits_l29 (G : Nat) (k72 : Int32 → St → Option (Int32 × St)) : Nat → Rf → Int32 → Int32 → Int32 → St → Option (Int32 × St)
  | 0, _, _, _, _, _ => none
  | F + 1, v0, v1, v2, v3, w =>
  bo (getr [26] v0 0 w) fun x31 =>
  bo (iald x31 1 w) fun x35 =>
  if x35 ≤ v3 then (k72 v2 w) else
  (bo (getr [26] v0 0 w) fun x41 =>
  bd (f_X3_ofLink G v3 w) fun x45 w45 =>
  bo (iald x41 (x45 + 2) w45) fun x50 =>
  if x50 = v1 then (gd (cls v0 w45 = some 26) <|
  bd (f_X3_waitsOf G v0 v3 w45) fun x57 w57 =>
  f_X3_waits_b64 G (fun v0 v1 v2 v3 w => f_X3_waits_l29 G k72 F v0 v1 v2 v3 w)  v0 v1 v3 x57 v2 w57) else
  (f_X3_waits_b64 G (fun v0 v1 v2 v3 w => f_X3_waits_l29 G k72 F v0 v1 v2 v3 w)  v0 v1 v3 0 v2 w45))
noncomputable def f_X3_waits_b72 (G : Nat) (v2 : Int32) (w : St) : Option (Int32 × St) :=
  some (v2, w)
noncomputable def f_X3_waits (G : Nat) (a0 : Rf) (a1 : Int32) (w : St) : Option (Int32 × St) :=
  bo (puti [26] a0 13 0 w) fun w2 =>
  gd (cls a0 w2 = some 26) <|
  bd (f_X3_isCoach G a0 a1 w2) fun x7 w7 =>
  if x7 = 0 then (gd (cls a0 w7 = some 26) <|
  bd (f_X3_throwing G a0 1 w7) fun x15 w15 =>
  some (x15, w15)) else
  (gd (cls a0 w7 = some 26) <|
  bd (f_X3_laysMinutes G a0 ((-1)) ((-1)) w7) fun _ w22 =>
  f_X3_waits_l29 G (fun v2 w => f_X3_waits_b72 G  v2 w) G a0 a1 0 0 w22)
noncomputable def f_X3_lateAll_b83 (G : Nat) (k4 : Rf → Int32 → Int32 → Int32 → St → Option (Int32 × St)) (v0 : Rf) (v1 : Int32) (v3 : Int32) (s0 : Int32) (s1 : Int32) (w : St) : Option (Int32 × St) :=
  k4 v0 v1 (s1 + s0) (v3 + 1) w
noncomputable def f_X3_lateAll_b56 (G : Nat) (k4 : Rf → Int32 → Int32 → Int32 → St → Option (Int32 × St)) (v0 : Rf) (v1 : Int32) (v2 : Int32) (v3 : Int32) (v4 : Int32) (s0 : Int32) (w : St) : Option (Int32 × St) :=
  if s0 = 0 then (f_X3_lateAll_b83 G k4  v0 v1 v3 0 v2 w) else
  (gd (cls v0 w = some 26) <|
  bd (f_X3_lateOf G v0 v4 ((v3 / 2) - (v3 / 2) / 6 * 6) (v3 - v3 / 2 * 2) w) fun x76 w76 =>
  f_X3_lateAll_b83 G k4  v0 v1 v3 x76 v2 w76)
noncomputable def f_X3_lateAll_b55 (G : Nat) (k4 : Rf → Int32 → Int32 → Int32 → St → Option (Int32 × St)) (v0 : Rf) (v1 : Int32) (v2 : Int32) (v3 : Int32) (v4 : Int32) (w : St) : Option (Int32 × St) :=
  f_X3_lateAll_b56 G k4  v0 v1 v2 v3 v4 0 w
noncomputable def f_X3_lateAll_l4 (G : Nat) (k91 : Int32 → St → Option (Int32 × St)) : Nat → Rf → Int32 → Int32 → Int32 → St → Option (Int32 × St)
  | 0, _, _, _, _, _ => none
  | F + 1, v0, v1, v2, v3, w =>
  if 72 ≤ v3 then (k91 v2 w) else
  (bo (getr [26] v0 0 w) fun x19 =>
  bo (iald x19 0 w) fun x23 =>
  if x23 ≤ (v3 / 12) then (f_X3_lateAll_b55 G (fun v0 v1 v2 v3 w => f_X3_lateAll_l4 G k91 F v0 v1 v2 v3 w)  v0 v1 v2 v3 (v3 / 12) w) else
  (if (v3 / 12) = v1 then (f_X3_lateAll_b55 G (fun v0 v1 v2 v3 w => f_X3_lateAll_l4 G k91 F v0 v1 v2 v3 w)  v0 v1 v2 v3 (v3 / 12) w) else
  (gd (cls v0 w = some 26) <|
  bd (f_X3_isEvent G v0 (v3 / 12) ((v3 / 2) - (v3 / 2) / 6 * 6) (v3 - v3 / 2 * 2) w) fun x45 w45 =>
  if x45 = 0 then (f_X3_lateAll_b55 G (fun v0 v1 v2 v3 w => f_X3_lateAll_l4 G k91 F v0 v1 v2 v3 w)  v0 v1 v2 v3 (v3 / 12) w45) else
  (f_X3_lateAll_b56 G (fun v0 v1 v2 v3 w => f_X3_lateAll_l4 G k91 F v0 v1 v2 v3 w)  v0 v1 v2 v3 (v3 / 12) 1 w45))))
noncomputable def f_X3_lateAll_b91 (G : Nat) (v2 : Int32) (w : St) : Option (Int32 × St) :=
  some (v2, w)
noncomputable def f_X3_lateAll (G : Nat) (a0 : Rf) (a1 : Int32) (w : St) : Option (Int32 × St) :=
  f_X3_lateAll_l4 G (fun v2 w => f_X3_lateAll_b91 G  v2 w) G a0 a1 0 0 w
noncomputable def f_X3_knocks (G : Nat) (a0 : Rf) (a1 : Int32) (w : St) : Option (Int32 × St) :=
  bo (puti [26] a0 13 0 w) fun w2 =>
  gd (cls a0 w2 = some 26) <|
  bd (f_X3_isCoach G a0 a1 w2) fun x7 w7 =>
  if x7 = 0 then (gd (cls a0 w7 = some 26) <|
  bd (f_X3_throwing G a0 1 w7) fun x15 w15 =>
  some (x15, w15)) else
  (gd (cls a0 w7 = some 26) <|
  bd (f_X3_laysMinutes G a0 ((-1)) ((-1)) w7) fun _ w22 =>
  gd (cls a0 w22 = some 26) <|
  bd (f_X3_lateAll G a0 a1 w22) fun x27 w27 =>
  gd (cls a0 w27 = some 26) <|
  bd (f_X3_laysMinutes G a0 ((-1)) a1 w27) fun _ w34 =>
  gd (cls a0 w34 = some 26) <|
  bd (f_X3_lateAll G a0 a1 w34) fun x40 w40 =>
  some ((x27 - x40), w40))
noncomputable def f_X3_reaches_l27 (G : Nat) (k54 : Rf → Int32 → St → Option (Int32 × St)) : Nat → Rf → Int32 → Int32 → St → Option (Int32 × St)
  | 0, _, _, _, _ => none
  | F + 1, v0, v1, v2, w =>
  bo (getr [26] v0 22 w) fun x29 =>
  bo (alen x29 w) fun x32 =>
  if x32 ≤ v2 then (k54 v0 v1 w) else
  (bo (getr [26] v0 22 w) fun x37 =>
  bo (getr [26] v0 18 w) fun x42 =>
  bo (iald x42 v2 w) fun x46 =>
  bo (iast x37 v2 x46 w) fun w47 =>
  f_X3_reaches_l27 G k54 F v0 v1 (v2 + 1) w47)
noncomputable def f_X3_reaches_b135 (G : Nat) (k64 : Rf → Int32 → Int32 → Int32 → St → Option (Int32 × St)) (v0 : Rf) (v1 : Int32) (v3 : Int32) (s0 : Int32) (s1 : Int32) (w : St) : Option (Int32 × St) :=
  k64 v0 v1 (s1 + s0) (v3 + 1) w
noncomputable def f_X3_reaches_b134 (G : Nat) (k64 : Rf → Int32 → Int32 → Int32 → St → Option (Int32 × St)) (v0 : Rf) (v1 : Int32) (v3 : Int32) (s0 : Int32) (w : St) : Option (Int32 × St) :=
  f_X3_reaches_b135 G k64  v0 v1 v3 0 s0 w
noncomputable def f_X3_reaches_l64 (G : Nat) (k143 : Int32 → St → Option (Int32 × St)) : Nat → Rf → Int32 → Int32 → Int32 → St → Option (Int32 × St)
  | 0, _, _, _, _, _ => none
  | F + 1, v0, v1, v2, v3, w =>
  bo (getr [26] v0 22 w) fun x66 =>
  bo (alen x66 w) fun x69 =>
  if x69 ≤ v3 then (k143 v2 w) else
  (bo (getr [26] v0 0 w) fun x83 =>
  bo (iald x83 0 w) fun x87 =>
  if x87 ≤ (v3 / 12) then (f_X3_reaches_b134 G (fun v0 v1 v2 v3 w => f_X3_reaches_l64 G k143 F v0 v1 v2 v3 w)  v0 v1 v3 v2 w) else
  (if (v3 / 12) = v1 then (f_X3_reaches_b134 G (fun v0 v1 v2 v3 w => f_X3_reaches_l64 G k143 F v0 v1 v2 v3 w)  v0 v1 v3 v2 w) else
  (gd (cls v0 w = some 26) <|
  bd (f_X3_isEvent G v0 (v3 / 12) ((v3 / 2) - (v3 / 2) / 6 * 6) (v3 - v3 / 2 * 2) w) fun x109 w109 =>
  if x109 = 0 then (f_X3_reaches_b134 G (fun v0 v1 v2 v3 w => f_X3_reaches_l64 G k143 F v0 v1 v2 v3 w)  v0 v1 v3 v2 w109) else
  (bo (getr [26] v0 22 w109) fun x116 =>
  bo (iald x116 v3 w109) fun x120 =>
  bo (getr [26] v0 18 w109) fun x122 =>
  bo (iald x122 v3 w109) fun x126 =>
  if x120 = x126 then (f_X3_reaches_b134 G (fun v0 v1 v2 v3 w => f_X3_reaches_l64 G k143 F v0 v1 v2 v3 w)  v0 v1 v3 v2 w109) else
  (f_X3_reaches_b135 G (fun v0 v1 v2 v3 w => f_X3_reaches_l64 G k143 F v0 v1 v2 v3 w)  v0 v1 v3 1 v2 w109)))))
noncomputable def f_X3_reaches_b143 (G : Nat) (v2 : Int32) (w : St) : Option (Int32 × St) :=
  some (v2, w)
noncomputable def f_X3_reaches_b54 (G : Nat) (v0 : Rf) (v1 : Int32) (w : St) : Option (Int32 × St) :=
  gd (cls v0 w = some 26) <|
  bd (f_X3_laysMinutes G v0 ((-1)) v1 w) fun _ w57 =>
  f_X3_reaches_l64 G (fun v2 w => f_X3_reaches_b143 G  v2 w) G v0 v1 0 0 w57
noncomputable def f_X3_reaches (G : Nat) (a0 : Rf) (a1 : Int32) (w : St) : Option (Int32 × St) :=
  bo (puti [26] a0 13 0 w) fun w2 =>
  gd (cls a0 w2 = some 26) <|
  bd (f_X3_isCoach G a0 a1 w2) fun x7 w7 =>
  if x7 = 0 then (gd (cls a0 w7 = some 26) <|
  bd (f_X3_throwing G a0 1 w7) fun x15 w15 =>
  some (x15, w15)) else
  (gd (cls a0 w7 = some 26) <|
  bd (f_X3_laysMinutes G a0 ((-1)) ((-1)) w7) fun _ w22 =>
  f_X3_reaches_l27 G (fun v0 v1 w => f_X3_reaches_b54 G  v0 v1 w) G a0 a1 0 w22)
noncomputable def f_X3_total (G : Nat) (a0 : Rf) (w : St) : Option (Int32 × St) :=
  bo (puti [26] a0 13 0 w) fun w2 =>
  gd (cls a0 w2 = some 26) <|
  bd (f_X3_laysMinutes G a0 ((-1)) ((-1)) w2) fun _ w8 =>
  gd (cls a0 w8 = some 26) <|
  bd (f_X3_lateAll G a0 ((-1)) w8) fun x13 w13 =>
  some (x13, w13)
noncomputable def f_X3_totalWith (G : Nat) (a0 : Rf) (a1 : Int32) (w : St) : Option (Int32 × St) :=
  bo (puti [26] a0 13 0 w) fun w2 =>
  bd (f_X3_in G a1.toInt64 0 60 w2) fun x11 w11 =>
  if x11 = 0 then (gd (cls a0 w11 = some 26) <|
  bd (f_X3_throwing G a0 1 w11) fun x19 w19 =>
  some (x19, w19)) else
  (gd (cls a0 w11 = some 26) <|
  bd (f_X3_laysMinutes G a0 a1 ((-1)) w11) fun _ w26 =>
  gd (cls a0 w26 = some 26) <|
  bd (f_X3_lateAll G a0 ((-1)) w26) fun x31 w31 =>
  some (x31, w31))
noncomputable def f_X3_missedOnes_b28 (G : Nat) (k4 : Rf → Int32 → Int32 → St → Option (Int32 × St)) (v0 : Rf) (v2 : Int32) (s0 : Int32) (s1 : Int32) (w : St) : Option (Int32 × St) :=
  k4 v0 (s1 + s0) (v2 + 1) w
noncomputable def f_X3_missedOnes_l4 (G : Nat) (k36 : Int32 → St → Option (Int32 × St)) : Nat → Rf → Int32 → Int32 → St → Option (Int32 × St)
  | 0, _, _, _, _ => none
  | F + 1, v0, v1, v2, w =>
  bo (getr [26] v0 0 w) fun x6 =>
  bo (iald x6 1 w) fun x10 =>
  if x10 ≤ v2 then (k36 v1 w) else
  (gd (cls v0 w = some 26) <|
  bd (f_X3_isKept G v0 v2 w) fun x17 w17 =>
  if x17 = 0 then (f_X3_missedOnes_b28 G (fun v0 v1 v2 w => f_X3_missedOnes_l4 G k36 F v0 v1 v2 w)  v0 v2 1 v1 w17) else
  (f_X3_missedOnes_b28 G (fun v0 v1 v2 w => f_X3_missedOnes_l4 G k36 F v0 v1 v2 w)  v0 v2 0 v1 w17))
noncomputable def f_X3_missedOnes_b36 (G : Nat) (v1 : Int32) (w : St) : Option (Int32 × St) :=
  some (v1, w)
noncomputable def f_X3_missedOnes (G : Nat) (a0 : Rf) (w : St) : Option (Int32 × St) :=
  f_X3_missedOnes_l4 G (fun v1 w => f_X3_missedOnes_b36 G  v1 w) G a0 0 0 w
noncomputable def f_X3_missedWith (G : Nat) (a0 : Rf) (a1 : Int32) (w : St) : Option (Int32 × St) :=
  bo (puti [26] a0 13 0 w) fun w2 =>
  bd (f_X3_in G a1.toInt64 0 60 w2) fun x11 w11 =>
  if x11 = 0 then (gd (cls a0 w11 = some 26) <|
  bd (f_X3_throwing G a0 1 w11) fun x19 w19 =>
  some (x19, w19)) else
  (gd (cls a0 w11 = some 26) <|
  bd (f_X3_laysMinutes G a0 a1 ((-1)) w11) fun _ w26 =>
  gd (cls a0 w26 = some 26) <|
  bd (f_X3_missedOnes G a0 w26) fun x30 w30 =>
  some (x30, w30))
noncomputable def f_X3_bestLimit_b75 (G : Nat) (k30 : Rf → Int32 → Int32 → Int32 → Int32 → St → Option (Int32 × St)) (v0 : Rf) (v1 : Int32) (v2 : Int32) (v3 : Int32) (v4 : Int32) (w : St) : Option (Int32 × St) :=
  k30 v0 v1 v2 v3 (v4 + 1) w
noncomputable def f_X3_bestLimit_b69 (G : Nat) (k30 : Rf → Int32 → Int32 → Int32 → Int32 → St → Option (Int32 × St)) (v0 : Rf) (v1 : Int32) (v4 : Int32) (v5 : Int32) (w : St) : Option (Int32 × St) :=
  f_X3_bestLimit_b75 G k30  v0 v1 v4 v5 v4 w
noncomputable def f_X3_bestLimit_l30 (G : Nat) (k81 : Int32 → St → Option (Int32 × St)) : Nat → Rf → Int32 → Int32 → Int32 → Int32 → St → Option (Int32 × St)
  | 0, _, _, _, _, _, _ => none
  | F + 1, v0, v1, v2, v3, v4, w =>
  if 60 < v4 then (k81 v2 w) else
  (gd (cls v0 w = some 26) <|
  bd (f_X3_laysMinutes G v0 v4 ((-1)) w) fun _ w41 =>
  gd (cls v0 w41 = some 26) <|
  bd (f_X3_lateAll G v0 ((-1)) w41) fun x46 w46 =>
  gd (cls v0 w46 = some 26) <|
  bd (f_X3_missedOnes G v0 w46) fun x51 w51 =>
  if v4 = 0 then (f_X3_bestLimit_b69 G (fun v0 v1 v2 v3 v4 w => f_X3_bestLimit_l30 G k81 F v0 v1 v2 v3 v4 w)  v0 v1 v4 (x46 + (v1 * x51)) w51) else
  (if v3 ≤ (x46 + (v1 * x51)) then (f_X3_bestLimit_b75 G (fun v0 v1 v2 v3 v4 w => f_X3_bestLimit_l30 G k81 F v0 v1 v2 v3 v4 w)  v0 v1 v2 v3 v4 w51) else
  (f_X3_bestLimit_b69 G (fun v0 v1 v2 v3 v4 w => f_X3_bestLimit_l30 G k81 F v0 v1 v2 v3 v4 w)  v0 v1 v4 (x46 + (v1 * x51)) w51)))
noncomputable def f_X3_bestLimit_b81 (G : Nat) (v2 : Int32) (w : St) : Option (Int32 × St) :=
  some (v2, w)
noncomputable def f_X3_bestLimit (G : Nat) (a0 : Rf) (a1 : Int32) (w : St) : Option (Int32 × St) :=
  bo (puti [26] a0 13 0 w) fun w2 =>
  bd (f_X3_in G a1.toInt64 0 99 w2) fun x11 w11 =>
  if x11 = 0 then (gd (cls a0 w11 = some 26) <|
  bd (f_X3_throwing G a0 1 w11) fun x19 w19 =>
  some (x19, w19)) else
  (f_X3_bestLimit_l30 G (fun v2 w => f_X3_bestLimit_b81 G  v2 w) G a0 a1 0 0 0 w11)
noncomputable def f_X3_ranked_b99 (G : Nat) (k28 : Rf → Int32 → Int32 → Int32 → Int32 → St → Option (Int32 × St)) (v0 : Rf) (v1 : Int32) (v2 : Int32) (v4 : Int32) (s0 : Int32) (s1 : Int32) (w : St) : Option (Int32 × St) :=
  k28 v0 v1 v2 (s1 + s0) (v4 + 1) w
noncomputable def f_X3_ranked_b94 (G : Nat) (k28 : Rf → Int32 → Int32 → Int32 → Int32 → St → Option (Int32 × St)) (v0 : Rf) (v1 : Int32) (v2 : Int32) (v4 : Int32) (s0 : Int32) (w : St) : Option (Int32 × St) :=
  f_X3_ranked_b99 G k28  v0 v1 v2 v4 1 s0 w
noncomputable def f_X3_ranked_b98 (G : Nat) (k28 : Rf → Int32 → Int32 → Int32 → Int32 → St → Option (Int32 × St)) (v0 : Rf) (v1 : Int32) (v2 : Int32) (v4 : Int32) (s0 : Int32) (w : St) : Option (Int32 × St) :=
  f_X3_ranked_b99 G k28  v0 v1 v2 v4 0 s0 w
noncomputable def f_X3_ranked_b75 (G : Nat) (k28 : Rf → Int32 → Int32 → Int32 → Int32 → St → Option (Int32 × St)) (v0 : Rf) (v1 : Int32) (v2 : Int32) (v3 : Int32) (v4 : Int32) (s0 : Int32) (w : St) : Option (Int32 × St) :=
  if 0 < s0 then (f_X3_ranked_b94 G k28  v0 v1 v2 v4 v3 w) else
  (if s0 = 0 then (if v2 ≤ v4 then (f_X3_ranked_b98 G k28  v0 v1 v2 v4 v3 w) else
  (f_X3_ranked_b94 G k28  v0 v1 v2 v4 v3 w)) else
  (f_X3_ranked_b98 G k28  v0 v1 v2 v4 v3 w))
noncomputable def f_X3_ranked_l28 (G : Nat) (k107 : Rf → Int32 → Int32 → Int32 → St → Option (Int32 × St)) : Nat → Rf → Int32 → Int32 → Int32 → Int32 → St → Option (Int32 × St)
  | 0, _, _, _, _, _, _ => none
  | F + 1, v0, v1, v2, v3, v4, w =>
  bo (getr [26] v0 0 w) fun x31 =>
  bo (iald x31 0 w) fun x35 =>
  if x35 ≤ v4 then (k107 v0 v1 v2 v3 w) else
  (gd (cls v0 w = some 26) <|
  bd (f_X3_lastLate G v0 v4 w) fun x42 w42 =>
  gd (cls v0 w42 = some 26) <|
  bd (f_X3_lastLate G v0 v2 w42) fun x47 w47 =>
  if (x42 - x47) = 0 then (gd (cls v0 w47 = some 26) <|
  bd (f_X3_ownAll G v0 v4 w47) fun x61 w61 =>
  gd (cls v0 w61 = some 26) <|
  bd (f_X3_ownAll G v0 v2 w61) fun x66 w66 =>
  f_X3_ranked_b75 G (fun v0 v1 v2 v3 v4 w => f_X3_ranked_l28 G k107 F v0 v1 v2 v3 v4 w)  v0 v1 v2 v3 v4 (x61 - x66) w66) else
  (f_X3_ranked_b75 G (fun v0 v1 v2 v3 v4 w => f_X3_ranked_l28 G k107 F v0 v1 v2 v3 v4 w)  v0 v1 v2 v3 v4 (x42 - x47) w47))
noncomputable def f_X3_ranked_b107 (G : Nat) (k13 : Rf → Int32 → Int32 → St → Option (Int32 × St)) (k112 : Int32 → St → Option (Int32 × St)) (v0 : Rf) (v1 : Int32) (v2 : Int32) (v3 : Int32) (w : St) : Option (Int32 × St) :=
  if v3 = v1 then (k112 v2 w) else
  (k13 v0 v1 (v2 + 1) w)
noncomputable def f_X3_ranked_l13 (G : Nat) (k112 : Int32 → St → Option (Int32 × St)) (k120 : Rf → St → Option (Int32 × St)) : Nat → Rf → Int32 → Int32 → St → Option (Int32 × St)
  | 0, _, _, _, _ => none
  | F + 1, v0, v1, v2, w =>
  bo (getr [26] v0 0 w) fun x15 =>
  bo (iald x15 0 w) fun x19 =>
  if x19 ≤ v2 then (k120 v0 w) else
  (f_X3_ranked_l28 G (fun v0 v1 v2 v3 w => f_X3_ranked_b107 G (fun v0 v1 v2 w => f_X3_ranked_l13 G k112 k120 F v0 v1 v2 w) k112  v0 v1 v2 v3 w) G v0 v1 v2 0 0 w)
noncomputable def f_X3_ranked_b112 (G : Nat) (v2 : Int32) (w : St) : Option (Int32 × St) :=
  some (v2, w)
noncomputable def f_X3_ranked_b120 (G : Nat) (v0 : Rf) (w : St) : Option (Int32 × St) :=
  gd (cls v0 w = some 26) <|
  bd (f_X3_throwing G v0 1 w) fun x122 w122 =>
  some (x122, w122)
noncomputable def f_X3_ranked (G : Nat) (a0 : Rf) (a1 : Int32) (w : St) : Option (Int32 × St) :=
  bo (puti [26] a0 13 0 w) fun w2 =>
  gd (cls a0 w2 = some 26) <|
  bd (f_X3_laysMinutes G a0 ((-1)) ((-1)) w2) fun _ w8 =>
  f_X3_ranked_l13 G (fun v2 w => f_X3_ranked_b112 G  v2 w) (fun v0 w => f_X3_ranked_b120 G  v0 w) G a0 a1 0 w8
noncomputable def f_X3_tightest_b105 (G : Nat) (k22 : Rf → Int32 → Int32 → Int32 → Int32 → St → Option (Int32 × St)) (v0 : Rf) (v1 : Int32) (v2 : Int32) (v4 : Int32) (s0 : Int32) (s1 : Int32) (w : St) : Option (Int32 × St) :=
  k22 v0 v1 v2 (s1 + s0) (v4 + 1) w
noncomputable def f_X3_tightest_b100 (G : Nat) (k22 : Rf → Int32 → Int32 → Int32 → Int32 → St → Option (Int32 × St)) (v0 : Rf) (v1 : Int32) (v2 : Int32) (v4 : Int32) (s0 : Int32) (w : St) : Option (Int32 × St) :=
  f_X3_tightest_b105 G k22  v0 v1 v2 v4 1 s0 w
noncomputable def f_X3_tightest_b104 (G : Nat) (k22 : Rf → Int32 → Int32 → Int32 → Int32 → St → Option (Int32 × St)) (v0 : Rf) (v1 : Int32) (v2 : Int32) (v4 : Int32) (s0 : Int32) (w : St) : Option (Int32 × St) :=
  f_X3_tightest_b105 G k22  v0 v1 v2 v4 0 s0 w
noncomputable def f_X3_tightest_b81 (G : Nat) (k22 : Rf → Int32 → Int32 → Int32 → Int32 → St → Option (Int32 × St)) (v0 : Rf) (v1 : Int32) (v2 : Int32) (v3 : Int32) (v4 : Int32) (s0 : Int32) (w : St) : Option (Int32 × St) :=
  if 0 < s0 then (f_X3_tightest_b100 G k22  v0 v1 v2 v4 v3 w) else
  (if s0 = 0 then (if v2 ≤ v4 then (f_X3_tightest_b104 G k22  v0 v1 v2 v4 v3 w) else
  (f_X3_tightest_b100 G k22  v0 v1 v2 v4 v3 w)) else
  (f_X3_tightest_b104 G k22  v0 v1 v2 v4 v3 w))
noncomputable def f_X3_tightest_l22 (G : Nat) (k113 : Rf → Int32 → Int32 → Int32 → St → Option (Int32 × St)) : Nat → Rf → Int32 → Int32 → Int32 → Int32 → St → Option (Int32 × St)
  | 0, _, _, _, _, _, _ => none
  | F + 1, v0, v1, v2, v3, v4, w =>
  bo (getr [26] v0 0 w) fun x25 =>
  bo (iald x25 1 w) fun x29 =>
  if x29 ≤ v4 then (k113 v0 v1 v2 v3 w) else
  (gd (cls v0 w = some 26) <|
  bd (f_X3_spareOf G v0 v2 w) fun x35 w35 =>
  gd (cls v0 w35 = some 26) <|
  bd (f_X3_spareOf G v0 v4 w35) fun x41 w41 =>
  if (x35 - x41) = 0 then (bo (getr [26] v0 0 w41) fun x53 =>
  bd (f_X3_ofLink G v2 w41) fun x57 w57 =>
  bo (iald x53 (x57 + 5) w57) fun x62 =>
  bo (getr [26] v0 0 w57) fun x64 =>
  bd (f_X3_ofLink G v4 w57) fun x69 w69 =>
  bo (iald x64 (x69 + 5) w69) fun x74 =>
  f_X3_tightest_b81 G (fun v0 v1 v2 v3 v4 w => f_X3_tightest_l22 G k113 F v0 v1 v2 v3 v4 w)  v0 v1 v2 v3 v4 (x62 - x74) w69) else
  (f_X3_tightest_b81 G (fun v0 v1 v2 v3 v4 w => f_X3_tightest_l22 G k113 F v0 v1 v2 v3 v4 w)  v0 v1 v2 v3 v4 (x35 - x41) w41))
noncomputable def f_X3_tightest_b113 (G : Nat) (k7 : Rf → Int32 → Int32 → St → Option (Int32 × St)) (k118 : Int32 → St → Option (Int32 × St)) (v0 : Rf) (v1 : Int32) (v2 : Int32) (v3 : Int32) (w : St) : Option (Int32 × St) :=
  if v3 = v1 then (k118 v2 w) else
  (k7 v0 v1 (v2 + 1) w)
noncomputable def f_X3_tightest_l7 (G : Nat) (k118 : Int32 → St → Option (Int32 × St)) (k126 : Rf → St → Option (Int32 × St)) : Nat → Rf → Int32 → Int32 → St → Option (Int32 × St)
  | 0, _, _, _, _ => none
  | F + 1, v0, v1, v2, w =>
  bo (getr [26] v0 0 w) fun x9 =>
  bo (iald x9 1 w) fun x13 =>
  if x13 ≤ v2 then (k126 v0 w) else
  (f_X3_tightest_l22 G (fun v0 v1 v2 v3 w => f_X3_tightest_b113 G (fun v0 v1 v2 w => f_X3_tightest_l7 G k118 k126 F v0 v1 v2 w) k118  v0 v1 v2 v3 w) G v0 v1 v2 0 0 w)
noncomputable def f_X3_tightest_b118 (G : Nat) (v2 : Int32) (w : St) : Option (Int32 × St) :=
  some (v2, w)
noncomputable def f_X3_tightest_b126 (G : Nat) (v0 : Rf) (w : St) : Option (Int32 × St) :=
  gd (cls v0 w = some 26) <|
  bd (f_X3_throwing G v0 1 w) fun x128 w128 =>
  some (x128, w128)
noncomputable def f_X3_tightest (G : Nat) (a0 : Rf) (a1 : Int32) (w : St) : Option (Int32 × St) :=
  bo (puti [26] a0 13 0 w) fun w2 =>
  f_X3_tightest_l7 G (fun v2 w => f_X3_tightest_b118 G  v2 w) (fun v0 w => f_X3_tightest_b126 G  v0 w) G a0 a1 0 w2
noncomputable def f_X3_hasEvent (G : Nat) (a0 : Rf) (a1 : Int32) (w : St) : Option (Int32 × St) :=
  bo (getr [26] a0 0 w) fun x5 =>
  bo (iald x5 0 w) fun x9 =>
  if x9 ≤ (a1 / 12) then (some (0, w)) else
  (gd (cls a0 w = some 26) <|
  bd (f_X3_isEvent G a0 (a1 / 12) ((a1 / 2) - (a1 / 2) / 6 * 6) (a1 - a1 / 2 * 2) w) fun x27 w27 =>
  if x27 = 0 then (some (0, w27)) else
  (some (1, w27)))
noncomputable def f_X3_event_b106 (G : Nat) (k27 : Rf → Int32 → Int32 → Int32 → Int32 → St → Option (Int32 × St)) (v0 : Rf) (v1 : Int32) (v2 : Int32) (v3 : Int32) (v4 : Int32) (w : St) : Option (Int32 × St) :=
  k27 v0 v1 v2 v3 (v4 + 1) w
noncomputable def f_X3_event_b104 (G : Nat) (k27 : Rf → Int32 → Int32 → Int32 → Int32 → St → Option (Int32 × St)) (v0 : Rf) (v1 : Int32) (v2 : Int32) (v4 : Int32) (s0 : Int32) (s1 : Int32) (w : St) : Option (Int32 × St) :=
  f_X3_event_b106 G k27  v0 v1 v2 (s1 + s0) v4 w
noncomputable def f_X3_event_b99 (G : Nat) (k27 : Rf → Int32 → Int32 → Int32 → Int32 → St → Option (Int32 × St)) (v0 : Rf) (v1 : Int32) (v2 : Int32) (v4 : Int32) (s0 : Int32) (w : St) : Option (Int32 × St) :=
  f_X3_event_b104 G k27  v0 v1 v2 v4 1 s0 w
noncomputable def f_X3_event_b103 (G : Nat) (k27 : Rf → Int32 → Int32 → Int32 → Int32 → St → Option (Int32 × St)) (v0 : Rf) (v1 : Int32) (v2 : Int32) (v4 : Int32) (s0 : Int32) (w : St) : Option (Int32 × St) :=
  f_X3_event_b104 G k27  v0 v1 v2 v4 0 s0 w
noncomputable def f_X3_event_b80 (G : Nat) (k27 : Rf → Int32 → Int32 → Int32 → Int32 → St → Option (Int32 × St)) (v0 : Rf) (v1 : Int32) (v2 : Int32) (v3 : Int32) (v4 : Int32) (s0 : Int32) (w : St) : Option (Int32 × St) :=
  if 0 < s0 then (f_X3_event_b99 G k27  v0 v1 v2 v4 v3 w) else
  (if s0 = 0 then (if v2 ≤ v4 then (f_X3_event_b103 G k27  v0 v1 v2 v4 v3 w) else
  (f_X3_event_b99 G k27  v0 v1 v2 v4 v3 w)) else
  (f_X3_event_b103 G k27  v0 v1 v2 v4 v3 w))
noncomputable def f_X3_event_l27 (G : Nat) (k112 : Rf → Int32 → Int32 → Int32 → St → Option (Int32 × St)) : Nat → Rf → Int32 → Int32 → Int32 → Int32 → St → Option (Int32 × St)
  | 0, _, _, _, _, _, _ => none
  | F + 1, v0, v1, v2, v3, v4, w =>
  bo (getr [26] v0 22 w) fun x30 =>
  bo (alen x30 w) fun x33 =>
  if x33 ≤ v4 then (k112 v0 v1 v2 v3 w) else
  (gd (cls v0 w = some 26) <|
  bd (f_X3_hasEvent G v0 v4 w) fun x40 w40 =>
  if x40 = 0 then (f_X3_event_b106 G (fun v0 v1 v2 v3 v4 w => f_X3_event_l27 G k112 F v0 v1 v2 v3 v4 w)  v0 v1 v2 v3 v4 w40) else
  (bo (getr [26] v0 18 w40) fun x47 =>
  bo (iald x47 v2 w40) fun x51 =>
  bo (getr [26] v0 18 w40) fun x53 =>
  bo (iald x53 v4 w40) fun x58 =>
  if (x51 - x58) = 0 then (f_X3_event_b80 G (fun v0 v1 v2 v3 v4 w => f_X3_event_l27 G k112 F v0 v1 v2 v3 v4 w)  v0 v1 v2 v3 v4 ((v2 - v2 / 2 * 2) - (v4 - v4 / 2 * 2)) w40) else
  (f_X3_event_b80 G (fun v0 v1 v2 v3 v4 w => f_X3_event_l27 G k112 F v0 v1 v2 v3 v4 w)  v0 v1 v2 v3 v4 (x51 - x58) w40)))
noncomputable def f_X3_event_b146 (G : Nat) (k13 : Rf → Int32 → Int32 → St → Option (Int32 × St)) (v0 : Rf) (v1 : Int32) (v2 : Int32) (w : St) : Option (Int32 × St) :=
  k13 v0 v1 (v2 + 1) w
noncomputable def f_X3_event_b112 (G : Nat) (k13 : Rf → Int32 → Int32 → St → Option (Int32 × St)) (k125 : Int32 → St → Option (Int32 × St)) (v0 : Rf) (v1 : Int32) (v2 : Int32) (v3 : Int32) (w : St) : Option (Int32 × St) :=
  gd (cls v0 w = some 26) <|
  bd (f_X3_hasEvent G v0 v2 w) fun x114 w114 =>
  if x114 = 0 then (f_X3_event_b146 G k13  v0 v1 v2 w114) else
  (if v3 = v1 then (k125 v2 w114) else
  (f_X3_event_b146 G k13  v0 v1 v2 w114))
noncomputable def f_X3_event_l13 (G : Nat) (k125 : Int32 → St → Option (Int32 × St)) (k152 : Rf → St → Option (Int32 × St)) : Nat → Rf → Int32 → Int32 → St → Option (Int32 × St)
  | 0, _, _, _, _ => none
  | F + 1, v0, v1, v2, w =>
  bo (getr [26] v0 22 w) fun x15 =>
  bo (alen x15 w) fun x18 =>
  if x18 ≤ v2 then (k152 v0 w) else
  (f_X3_event_l27 G (fun v0 v1 v2 v3 w => f_X3_event_b112 G (fun v0 v1 v2 w => f_X3_event_l13 G k125 k152 F v0 v1 v2 w) k125  v0 v1 v2 v3 w) G v0 v1 v2 0 0 w)
noncomputable def f_X3_event_b125 (G : Nat) (v2 : Int32) (w : St) : Option (Int32 × St) :=
  some ((((20 * (v2 / 12)) + (2 * ((v2 / 2) - (v2 / 2) / 6 * 6))) + (v2 - v2 / 2 * 2)), w)
noncomputable def f_X3_event_b152 (G : Nat) (v0 : Rf) (w : St) : Option (Int32 × St) :=
  gd (cls v0 w = some 26) <|
  bd (f_X3_throwing G v0 1 w) fun x154 w154 =>
  some (x154, w154)
noncomputable def f_X3_event (G : Nat) (a0 : Rf) (a1 : Int32) (w : St) : Option (Int32 × St) :=
  bo (puti [26] a0 13 0 w) fun w2 =>
  gd (cls a0 w2 = some 26) <|
  bd (f_X3_laysMinutes G a0 ((-1)) ((-1)) w2) fun _ w8 =>
  f_X3_event_l13 G (fun v2 w => f_X3_event_b125 G  v2 w) (fun v0 w => f_X3_event_b152 G  v0 w) G a0 a1 0 w8
abbrev V_X3_byLeg (l : Launch) (D : Dn) (H0 : Heap) (w0 : St) (res : Option (Int32 × St)) (pc : Nat) (ls : List (Nat × LV)) (st : List Value) (w : St) : Prop := V l D H0 RX3 "byLeg" cX3_byLeg 3 (some (.int)) [] 2 45 (fun x => .inr (rvI x)) w0 res pc ls st w
theorem t_X3_byLeg {l : Launch} {D : Dn} {H0 : Heap} {w0 : St} (hl : l.stackTraces = false) (G : Nat) (a0 : Rf) (a1 : Int32) (a2 : Int32) (w : St) : V_X3_byLeg l D H0 w0 (f_X3_byLeg G a0 a1 a2 w) 0 [(0, lR a0), (1, lI a1), (2, lI a2)] [] w := by
  unfold f_X3_byLeg
  refine r_aload_n 1 0 dX3_byLeg_0 rfl rfl rfl ?_
  refine r_iload_n 2 1 dX3_byLeg_1 rfl rfl rfl ?_
  refine r_iload_n 3 2 dX3_byLeg_2 rfl rfl rfl ?_
  refine r_iconst (v := 1) 4 dX3_byLeg_3 rfl rfl ?_
  refine r_isub 5 dX3_byLeg_4 rfl ?_
  refine r_iconst (v := 1) 6 dX3_byLeg_5 rfl rfl ?_
  refine r_gd (fun hc6 => ?_)
  refine r_callV (n := 3) (as := [lI a1, lI (a2 - 1), lI 1]) (rest := []) 9 26 (s_X3_minuteOf hl G a0 a1 (a2 - 1) 1 w) hc6 rfl (lw_V q2405 q2407 qs60 q110 q2408) (by decide +kernel) (by decide) rfl rfl (cat2_nil (k := 0)) rfl dX3_byLeg_6 rfl (fun x6 w6 => ?_)
  refine r_aload_n 10 0 dX3_byLeg_9 rfl rfl rfl ?_
  refine r_getr 13 gf_X3_9 dX3_byLeg_10 rfl (fun x10 => ?_)
  refine r_iload_n 14 1 dX3_byLeg_13 rfl rfl rfl ?_
  refine r_iload_n 15 2 dX3_byLeg_14 rfl rfl rfl ?_
  refine r_callS (n := 2) (as := [lI a1, lI a2]) (rest := [rf x10, .int x6]) 18 (s_X3_ofStop hl G a1 a2 w6) (lw_S q2302 q2303 q110 q2304) (by decide +kernel) (by decide) rfl rfl (cat2_r (cat2_i (cat2_nil (k := 0)))) rfl dX3_byLeg_15 rfl (fun x15 w15 => ?_)
  refine r_iconst (v := 1) 19 dX3_byLeg_18 rfl rfl ?_
  refine r_iadd 20 dX3_byLeg_19 rfl ?_
  refine r_iald 21 dX3_byLeg_20 rfl (fun x20 => ?_)
  refine r_iadd 22 dX3_byLeg_21 rfl ?_
  exact r_iret rfl rfl dX3_byLeg_22
theorem s_X3_byLeg {l : Launch} {D : Dn} {H0 : Heap} (hl : l.stackTraces = false) (G : Nat) (a0 : Rf) (a1 : Int32) (a2 : Int32) (w : St) : SimN l D H0 yX3_byLeg (ws_ yX3_byLeg cX3_byLeg 3 (some (.int))) 2 45 rvI [lR a0, lI a1, lI a2] w (f_X3_byLeg G a0 a1 a2 w) := SimX.N (SimX.ofV (y := yX3_byLeg) (by decide) rfl (t_X3_byLeg hl G a0 a1 a2 w))
abbrev V_X3_arrivalBase (l : Launch) (D : Dn) (H0 : Heap) (w0 : St) (res : Option (Int32 × St)) (pc : Nat) (ls : List (Nat × LV)) (st : List Value) (w : St) : Prop := V l D H0 RX3 "arrivalBase" cX3_arrivalBase 3 (some (.int)) [] 3 67 (fun x => .inr (rvI x)) w0 res pc ls st w
theorem t_X3_arrivalBase {l : Launch} {D : Dn} {H0 : Heap} {w0 : St} (hl : l.stackTraces = false) (G : Nat) (a0 : Rf) (a1 : Int32) (a2 : Int32) (w : St) : V_X3_arrivalBase l D H0 w0 (f_X3_arrivalBase G a0 a1 a2 w) 0 [(0, lR a0), (1, lI a1), (2, lI a2)] [] w := by
  unfold f_X3_arrivalBase
  refine r_aload_n 1 0 dX3_arrivalBase_0 rfl rfl rfl ?_
  refine r_iload_n 2 1 dX3_arrivalBase_1 rfl rfl rfl ?_
  refine r_iload_n 3 2 dX3_arrivalBase_2 rfl rfl rfl ?_
  refine r_iconst (v := 0) 4 dX3_arrivalBase_3 rfl rfl ?_
  refine r_gd (fun hc4 => ?_)
  refine r_callV (n := 3) (as := [lI a1, lI a2, lI 0]) (rest := []) 7 26 (s_X3_planned hl G a0 a1 a2 0 w) hc4 rfl (lw_V q2329 q2331 qs48 q110 q2332) (by decide +kernel) (by decide) rfl rfl (cat2_nil (k := 0)) rfl dX3_arrivalBase_4 rfl (fun x4 w4 => ?_)
  refine r_aload_n 8 0 dX3_arrivalBase_7 rfl rfl rfl ?_
  refine r_iload_n 9 1 dX3_arrivalBase_8 rfl rfl rfl ?_
  refine r_iload_n 10 2 dX3_arrivalBase_9 rfl rfl rfl ?_
  refine r_gd (fun hc10 => ?_)
  refine r_callV (n := 2) (as := [lI a1, lI a2]) (rest := [.int x4]) 13 26 (s_X3_byLeg hl G a0 a1 a2 w4) hc10 rfl (lw_V q2401 q2403 qs59 q110 q2404) (by decide +kernel) (by decide) rfl rfl (cat2_i (cat2_nil (k := 0))) rfl dX3_arrivalBase_10 rfl (fun x10 w10 => ?_)
  refine r_callS (n := 2) (as := [lI x4, lI x10]) (rest := []) 16 (s_J15_max hl G x4 x10 w10) (lw_S q2409 q441 q121 q442) (by decide +kernel) (by decide) rfl rfl (cat2_nil (k := 0)) rfl dX3_arrivalBase_13 rfl (fun x13 w13 => ?_)
  exact r_iret rfl rfl dX3_arrivalBase_16
theorem s_X3_arrivalBase {l : Launch} {D : Dn} {H0 : Heap} (hl : l.stackTraces = false) (G : Nat) (a0 : Rf) (a1 : Int32) (a2 : Int32) (w : St) : SimN l D H0 yX3_arrivalBase (ws_ yX3_arrivalBase cX3_arrivalBase 3 (some (.int))) 3 67 rvI [lR a0, lI a1, lI a2] w (f_X3_arrivalBase G a0 a1 a2 w) := SimX.N (SimX.ofV (y := yX3_arrivalBase) (by decide) rfl (t_X3_arrivalBase hl G a0 a1 a2 w))
abbrev V_X3_laysMinutes (l : Launch) (D : Dn) (H0 : Heap) (w0 : St) (res : Option (Unit × St)) (pc : Nat) (ls : List (Nat × LV)) (st : List Value) (w : St) : Prop := V l D H0 RX3 "laysMinutes" cX3_laysMinutes 8 none [] 6 136 (fun x => .inr (rvU x)) w0 res pc ls st w
theorem t_X3_laysMinutes_l25 {l : Launch} {D : Dn} {H0 : Heap} {w0 : St} (hl : l.stackTraces = false) (G : Nat) (k81 : Rf → Int32 → St → Option (Unit × St)) (h81 : ∀ v0 v3 w, V_X3_laysMinutes l D H0 w0 (k81 v0 v3 w) 81 [(0, lR v0), (3, lI v3)] [] w) : ∀ (F : Nat) (v0 : Rf) (v3 : Int32) (v4 : Int32) (w : St), V_X3_laysMinutes l D H0 w0 (f_X3_laysMinutes_l25 G k81 F v0 v3 v4 w) 25 [(0, lR v0), (3, lI v3), (4, lI v4)] [] w := by
  intro F
  induction F with
  | zero => intros; exact r_none
  | succ F ih =>
    intro v0 v3 v4 w
    unfold f_X3_laysMinutes_l25
    refine r_iload 27 2 dX3_laysMinutes_25 rfl rfl ?_
    refine r_aload_n 28 0 dX3_laysMinutes_27 rfl rfl rfl ?_
    refine r_iload_n 29 1 dX3_laysMinutes_28 rfl rfl rfl ?_
    refine r_gd (fun hc29 => ?_)
    refine r_callV (n := 1) (as := [lI v3]) (rest := [.int v4]) 32 26 (s_X3_stops hl G v0 v3 w) hc29 rfl (lw_V q2325 q2327 qs47 q110 q2328) (by decide +kernel) (by decide) rfl rfl (cat2_i (cat2_nil (k := 0))) rfl dX3_laysMinutes_29 rfl (fun x29 w29 => ?_)
    refine r_icmp_ge 81 35 dX3_laysMinutes_32 (by decide) rfl ?_ ?_
    · exact r_lsP [0, 1] rfl (h81 v0 v3 w29)
    refine r_aload_n 36 0 dX3_laysMinutes_35 rfl rfl rfl ?_
    refine r_getr 39 gf_X3_41 dX3_laysMinutes_36 rfl (fun x36 => ?_)
    refine r_iload_n 40 1 dX3_laysMinutes_39 rfl rfl rfl ?_
    refine r_iload 42 2 dX3_laysMinutes_40 rfl rfl ?_
    refine r_iconst (v := 0) 43 dX3_laysMinutes_42 rfl rfl ?_
    refine r_callS (n := 3) (as := [lI v3, lI v4, lI 0]) (rest := [rf x36]) 46 (s_X3_ofEvent hl G v3 v4 0 w29) (lw_S q2394 q2395 q110 q2396) (by decide +kernel) (by decide) rfl rfl (cat2_r (cat2_nil (k := 0))) rfl dX3_laysMinutes_43 rfl (fun x43 w43 => ?_)
    refine r_aload_n 47 0 dX3_laysMinutes_46 rfl rfl rfl ?_
    refine r_iload_n 48 1 dX3_laysMinutes_47 rfl rfl rfl ?_
    refine r_iload 50 2 dX3_laysMinutes_48 rfl rfl ?_
    refine r_iconst (v := 0) 51 dX3_laysMinutes_50 rfl rfl ?_
    refine r_gd (fun hc51 => ?_)
    refine r_callV (n := 3) (as := [lI v3, lI v4, lI 0]) (rest := [.int x43, rf x36]) 54 26 (s_X3_planned hl G v0 v3 v4 0 w43) hc51 rfl (lw_V q2329 q2331 qs48 q110 q2332) (by decide +kernel) (by decide) rfl rfl (cat2_i (cat2_r (cat2_nil (k := 0)))) rfl dX3_laysMinutes_51 rfl (fun x51 w51 => ?_)
    refine r_iast 55 dX3_laysMinutes_54 rfl (fun w54 => ?_)
    refine r_aload_n 56 0 dX3_laysMinutes_55 rfl rfl rfl ?_
    refine r_getr 59 gf_X3_41 dX3_laysMinutes_56 rfl (fun x56 => ?_)
    refine r_iload_n 60 1 dX3_laysMinutes_59 rfl rfl rfl ?_
    refine r_iload 62 2 dX3_laysMinutes_60 rfl rfl ?_
    refine r_iconst (v := 1) 63 dX3_laysMinutes_62 rfl rfl ?_
    refine r_callS (n := 3) (as := [lI v3, lI v4, lI 1]) (rest := [rf x56]) 66 (s_X3_ofEvent hl G v3 v4 1 w54) (lw_S q2394 q2395 q110 q2396) (by decide +kernel) (by decide) rfl rfl (cat2_r (cat2_nil (k := 0))) rfl dX3_laysMinutes_63 rfl (fun x63 w63 => ?_)
    refine r_aload_n 67 0 dX3_laysMinutes_66 rfl rfl rfl ?_
    refine r_iload_n 68 1 dX3_laysMinutes_67 rfl rfl rfl ?_
    refine r_iload 70 2 dX3_laysMinutes_68 rfl rfl ?_
    refine r_iconst (v := 1) 71 dX3_laysMinutes_70 rfl rfl ?_
    refine r_gd (fun hc71 => ?_)
    refine r_callV (n := 3) (as := [lI v3, lI v4, lI 1]) (rest := [.int x63, rf x56]) 74 26 (s_X3_planned hl G v0 v3 v4 1 w63) hc71 rfl (lw_V q2329 q2331 qs48 q110 q2332) (by decide +kernel) (by decide) rfl rfl (cat2_i (cat2_r (cat2_nil (k := 0)))) rfl dX3_laysMinutes_71 rfl (fun x71 w71 => ?_)
    refine r_iast 75 dX3_laysMinutes_74 rfl (fun w74 => ?_)
    refine r_iinc (v := v4 + 1) (ls2 := [(4, lI (v4 + 1)), (0, lR v0), (3, lI v3)]) 78 2 dX3_laysMinutes_75 rfl rfl (by decide) rfl rfl ?_
    refine r_goto 25 dX3_laysMinutes_78 (by decide) ?_
    exact r_lsP [1, 2, 0] rfl (ih v0 v3 (v4 + 1) w74)
theorem t_X3_laysMinutes_b81 {l : Launch} {D : Dn} {H0 : Heap} {w0 : St} (hl : l.stackTraces = false) (G : Nat) (k12 : Rf → Int32 → St → Option (Unit × St)) (h12 : ∀ v0 v3 w, V_X3_laysMinutes l D H0 w0 (k12 v0 v3 w) 12 [(0, lR v0), (3, lI v3)] [] w) (v0 : Rf) (v3 : Int32) (w : St) : V_X3_laysMinutes l D H0 w0 (f_X3_laysMinutes_b81 G k12 v0 v3 w) 81 [(0, lR v0), (3, lI v3)] [] w := by
  unfold f_X3_laysMinutes_b81
  refine r_iinc (v := v3 + 1) (ls2 := [(3, lI (v3 + 1)), (0, lR v0)]) 84 1 dX3_laysMinutes_81 rfl rfl (by decide) rfl rfl ?_
  refine r_goto 12 dX3_laysMinutes_84 (by decide) ?_
  exact r_lsP [1, 0] rfl (h12 v0 (v3 + 1) w)
theorem t_X3_laysMinutes_l12 {l : Launch} {D : Dn} {H0 : Heap} {w0 : St} (hl : l.stackTraces = false) (G : Nat) (k87 : Rf → St → Option (Unit × St)) (h87 : ∀ v0 w, V_X3_laysMinutes l D H0 w0 (k87 v0 w) 87 [(0, lR v0)] [] w) : ∀ (F : Nat) (v0 : Rf) (v3 : Int32) (w : St), V_X3_laysMinutes l D H0 w0 (f_X3_laysMinutes_l12 G k87 F v0 v3 w) 12 [(0, lR v0), (3, lI v3)] [] w := by
  intro F
  induction F with
  | zero => intros; exact r_none
  | succ F ih =>
    intro v0 v3 w
    unfold f_X3_laysMinutes_l12
    refine r_iload_n 13 1 dX3_laysMinutes_12 rfl rfl rfl ?_
    refine r_aload_n 14 0 dX3_laysMinutes_13 rfl rfl rfl ?_
    refine r_getr 17 gf_X3_9 dX3_laysMinutes_14 rfl (fun x14 => ?_)
    refine r_iconst (v := 0) 18 dX3_laysMinutes_17 rfl rfl ?_
    refine r_iald 19 dX3_laysMinutes_18 rfl (fun x18 => ?_)
    refine r_icmp_ge 87 22 dX3_laysMinutes_19 (by decide) rfl ?_ ?_
    · exact r_lsP [0] rfl (h87 v0 w)
    refine r_iconst (v := 0) 23 dX3_laysMinutes_22 rfl rfl ?_
    refine r_istore (ls2 := [(4, lI 0), (0, lR v0), (3, lI v3)]) 25 dX3_laysMinutes_23 (by decide) rfl rfl ?_
    exact r_lsP [1, 2, 0] rfl (t_X3_laysMinutes_l25 hl G (fun v0 v3 w => f_X3_laysMinutes_b81 G (fun v0 v3 w => f_X3_laysMinutes_l12 G k87 F v0 v3 w)  v0 v3 w) (fun v0 v3 w => t_X3_laysMinutes_b81 hl G (fun v0 v3 w => f_X3_laysMinutes_l12 G k87 F v0 v3 w) (fun v0 v3 w => ih v0 v3 w)  v0 v3 w) G v0 v3 0 w)
theorem t_X3_laysMinutes_b234 {l : Launch} {D : Dn} {H0 : Heap} {w0 : St} (hl : l.stackTraces = false) (G : Nat) (k98 : Rf → Int32 → Int32 → St → Option (Unit × St)) (h98 : ∀ v0 v3 v4 w, V_X3_laysMinutes l D H0 w0 (k98 v0 v3 v4 w) 98 [(0, lR v0), (3, lI v3), (4, lI v4)] [] w) (v0 : Rf) (v3 : Int32) (v4 : Int32) (w : St) : V_X3_laysMinutes l D H0 w0 (f_X3_laysMinutes_b234 G k98 v0 v3 v4 w) 234 [(0, lR v0), (3, lI v3), (4, lI v4)] [] w := by
  unfold f_X3_laysMinutes_b234
  refine r_iinc (v := v4 + 1) (ls2 := [(4, lI (v4 + 1)), (0, lR v0), (3, lI v3)]) 237 2 dX3_laysMinutes_234 rfl rfl (by decide) rfl rfl ?_
  refine r_goto 98 dX3_laysMinutes_237 (by decide) ?_
  exact r_lsP [1, 2, 0] rfl (h98 v0 v3 (v4 + 1) w)
theorem t_X3_laysMinutes_b224 {l : Launch} {D : Dn} {H0 : Heap} {w0 : St} (hl : l.stackTraces = false) (G : Nat) (k98 : Rf → Int32 → Int32 → St → Option (Unit × St)) (h98 : ∀ v0 v3 v4 w, V_X3_laysMinutes l D H0 w0 (k98 v0 v3 v4 w) 98 [(0, lR v0), (3, lI v3), (4, lI v4)] [] w) (v0 : Rf) (v4 : Int32) (v7 : Int32) (s0 : Int32) (w : St) : V_X3_laysMinutes l D H0 w0 (f_X3_laysMinutes_b224 G k98 v0 v4 v7 s0 w) 224 [(0, lR v0), (4, lI v4), (7, lI v7)] [.int s0] w := by
  unfold f_X3_laysMinutes_b224
  refine r_istore_n (ls2 := [(3, lI s0), (0, lR v0), (4, lI v4), (7, lI v7)]) 225 dX3_laysMinutes_224 rfl (by decide) rfl rfl ?_
  refine r_aload_n 226 1 dX3_laysMinutes_225 rfl rfl rfl ?_
  refine r_getr 229 gf_X3_41 dX3_laysMinutes_226 rfl (fun x226 => ?_)
  refine r_iload 231 2 dX3_laysMinutes_229 rfl rfl ?_
  refine r_iload 233 3 dX3_laysMinutes_231 rfl rfl ?_
  refine r_iast 234 dX3_laysMinutes_233 rfl (fun w233 => ?_)
  exact r_lsP [1, 0, 2] rfl (t_X3_laysMinutes_b234 hl G k98 h98  v0 s0 v4 w233)
theorem t_X3_laysMinutes_b219 {l : Launch} {D : Dn} {H0 : Heap} {w0 : St} (hl : l.stackTraces = false) (G : Nat) (k98 : Rf → Int32 → Int32 → St → Option (Unit × St)) (h98 : ∀ v0 v3 v4 w, V_X3_laysMinutes l D H0 w0 (k98 v0 v3 v4 w) 98 [(0, lR v0), (3, lI v3), (4, lI v4)] [] w) (v0 : Rf) (v4 : Int32) (v7 : Int32) (w : St) : V_X3_laysMinutes l D H0 w0 (f_X3_laysMinutes_b219 G k98 v0 v4 v7 w) 219 [(0, lR v0), (4, lI v4), (7, lI v7)] [] w := by
  unfold f_X3_laysMinutes_b219
  refine r_iconst (v := 1) 220 dX3_laysMinutes_219 rfl rfl ?_
  refine r_goto 224 dX3_laysMinutes_220 (by decide) ?_
  exact r_lsP [0, 1, 2] rfl (t_X3_laysMinutes_b224 hl G k98 h98  v0 v4 v7 1 w)
theorem t_X3_laysMinutes_b180 {l : Launch} {D : Dn} {H0 : Heap} {w0 : St} (hl : l.stackTraces = false) (G : Nat) (k98 : Rf → Int32 → Int32 → St → Option (Unit × St)) (h98 : ∀ v0 v3 v4 w, V_X3_laysMinutes l D H0 w0 (k98 v0 v3 v4 w) 98 [(0, lR v0), (3, lI v3), (4, lI v4)] [] w) (v0 : Rf) (v3 : Int32) (v4 : Int32) (v5 : Int32) (v6 : Int32) (s0 : Int32) (s1 : Int32) (s2 : Rf) (w : St) : V_X3_laysMinutes l D H0 w0 (f_X3_laysMinutes_b180 G k98 v0 v3 v4 v5 v6 s0 s1 s2 w) 180 [(0, lR v0), (3, lI v3), (4, lI v4), (5, lI v5), (6, lI v6)] [.int s0, .int s1, rf s2] w := by
  unfold f_X3_laysMinutes_b180
  refine r_iast 181 dX3_laysMinutes_180 rfl (fun w180 => ?_)
  refine r_aload_n 182 0 dX3_laysMinutes_181 rfl rfl rfl ?_
  refine r_getr 185 gf_X3_44 dX3_laysMinutes_182 rfl (fun x182 => ?_)
  refine r_iload 187 2 dX3_laysMinutes_185 rfl rfl ?_
  refine r_iald 188 dX3_laysMinutes_187 rfl (fun x187 => ?_)
  refine r_aload_n 189 0 dX3_laysMinutes_188 rfl rfl rfl ?_
  refine r_iload 191 3 dX3_laysMinutes_189 rfl rfl ?_
  refine r_iload 193 4 dX3_laysMinutes_191 rfl rfl ?_
  refine r_iload 195 2 dX3_laysMinutes_193 rfl rfl ?_
  refine r_iconst (v := 2) 196 dX3_laysMinutes_195 rfl rfl ?_
  refine r_irem 197 dX3_laysMinutes_196 (by decide) rfl ?_
  refine r_gd (fun hc197 => ?_)
  refine r_callV (n := 3) (as := [lI v5, lI v6, lI (v4 - v4 / 2 * 2)]) (rest := [.int x187]) 200 26 (s_X3_ownOf hl G v0 v5 v6 (v4 - v4 / 2 * 2) w180) hc197 rfl (lw_V q2442 q2444 qs69 q110 q2445) (by decide +kernel) (by decide) rfl rfl (cat2_i (cat2_nil (k := 0))) rfl dX3_laysMinutes_197 rfl (fun x197 w197 => ?_)
  refine r_iadd 201 dX3_laysMinutes_200 rfl ?_
  refine r_istore (ls2 := [(7, lI (x187 + x197)), (0, lR v0), (3, lI v3), (4, lI v4), (5, lI v5), (6, lI v6)]) 203 dX3_laysMinutes_201 (by decide) rfl rfl ?_
  refine r_iload_n 204 2 dX3_laysMinutes_203 rfl rfl rfl ?_
  refine r_if_ne 219 207 dX3_laysMinutes_204 (by decide) rfl ?_ ?_
  · exact r_lsP [1, 3, 0] rfl (t_X3_laysMinutes_b219 hl G k98 h98  v0 v4 (x187 + x197) w197)
  refine r_iload 209 0 dX3_laysMinutes_207 rfl rfl ?_
  refine r_aload_n 210 1 dX3_laysMinutes_209 rfl rfl rfl ?_
  refine r_getr 213 gf_X3_41 dX3_laysMinutes_210 rfl (fun x210 => ?_)
  refine r_iload 215 3 dX3_laysMinutes_213 rfl rfl ?_
  refine r_iald 216 dX3_laysMinutes_215 rfl (fun x215 => ?_)
  refine r_icmp_eq 223 219 dX3_laysMinutes_216 (by decide) rfl ?_ ?_
  · refine r_iconst (v := 0) 224 dX3_laysMinutes_223 rfl rfl ?_
    exact r_lsP [1, 3, 0] rfl (t_X3_laysMinutes_b224 hl G k98 h98  v0 v4 (x187 + x197) 0 w197)
  exact r_lsP [1, 3, 0] rfl (t_X3_laysMinutes_b219 hl G k98 h98  v0 v4 (x187 + x197) w197)
theorem t_X3_laysMinutes_l98 {l : Launch} {D : Dn} {H0 : Heap} {w0 : St} (hl : l.stackTraces = false) (G : Nat) (k240 : Rf → Int32 → St → Option (Unit × St)) (h240 : ∀ v0 v3 w, V_X3_laysMinutes l D H0 w0 (k240 v0 v3 w) 240 [(0, lR v0), (3, lI v3)] [] w) : ∀ (F : Nat) (v0 : Rf) (v3 : Int32) (v4 : Int32) (w : St), V_X3_laysMinutes l D H0 w0 (f_X3_laysMinutes_l98 G k240 F v0 v3 v4 w) 98 [(0, lR v0), (3, lI v3), (4, lI v4)] [] w := by
  intro F
  induction F with
  | zero => intros; exact r_none
  | succ F ih =>
    intro v0 v3 v4 w
    unfold f_X3_laysMinutes_l98
    refine r_iload 100 2 dX3_laysMinutes_98 rfl rfl ?_
    refine r_bipush (v := 72) 102 dX3_laysMinutes_100 rfl rfl ?_
    refine r_icmp_ge 240 105 dX3_laysMinutes_102 (by decide) rfl ?_ ?_
    · exact r_lsP [0, 1] rfl (h240 v0 v3 w)
    refine r_iload 107 2 dX3_laysMinutes_105 rfl rfl ?_
    refine r_bipush (v := 12) 109 dX3_laysMinutes_107 rfl rfl ?_
    refine r_idiv 110 dX3_laysMinutes_109 (by decide) rfl ?_
    refine r_istore (ls2 := [(5, lI (v4 / 12)), (0, lR v0), (3, lI v3), (4, lI v4)]) 112 dX3_laysMinutes_110 (by decide) rfl rfl ?_
    refine r_iload 114 3 dX3_laysMinutes_112 rfl rfl ?_
    refine r_iconst (v := 2) 115 dX3_laysMinutes_114 rfl rfl ?_
    refine r_idiv 116 dX3_laysMinutes_115 (by decide) rfl ?_
    refine r_bipush (v := 6) 118 dX3_laysMinutes_116 rfl rfl ?_
    refine r_irem 119 dX3_laysMinutes_118 (by decide) rfl ?_
    refine r_nmI (fun x119 => ?_)
    refine r_istore (ls2 := [(6, lI x119), (5, lI (v4 / 12)), (0, lR v0), (3, lI v3), (4, lI v4)]) 121 dX3_laysMinutes_119 (by decide) rfl rfl ?_
    refine r_iload 123 1 dX3_laysMinutes_121 rfl rfl ?_
    refine r_aload_n 124 2 dX3_laysMinutes_123 rfl rfl rfl ?_
    refine r_getr 127 gf_X3_9 dX3_laysMinutes_124 rfl (fun x124 => ?_)
    refine r_iconst (v := 0) 128 dX3_laysMinutes_127 rfl rfl ?_
    refine r_iald 129 dX3_laysMinutes_128 rfl (fun x128 => ?_)
    refine r_icmp_ge 234 132 dX3_laysMinutes_129 (by decide) rfl ?_ ?_
    · exact r_lsP [2, 3, 4] rfl (t_X3_laysMinutes_b234 hl G (fun v0 v3 v4 w => f_X3_laysMinutes_l98 G k240 F v0 v3 v4 w) (fun v0 v3 v4 w => ih v0 v3 v4 w)  v0 v3 v4 w)
    refine r_aload_n 133 2 dX3_laysMinutes_132 rfl rfl rfl ?_
    refine r_iload 135 1 dX3_laysMinutes_133 rfl rfl ?_
    refine r_iload 137 0 dX3_laysMinutes_135 rfl rfl ?_
    refine r_iload 139 4 dX3_laysMinutes_137 rfl rfl ?_
    refine r_iconst (v := 2) 140 dX3_laysMinutes_139 rfl rfl ?_
    refine r_irem 141 dX3_laysMinutes_140 (by decide) rfl ?_
    refine r_gd (fun hc141 => ?_)
    refine r_callV (n := 3) (as := [lI (v4 / 12), lI x119, lI (v4 - v4 / 2 * 2)]) (rest := []) 144 26 (s_X3_isEvent hl G v0 (v4 / 12) x119 (v4 - v4 / 2 * 2) w) hc141 rfl (lw_V q2353 q2355 qs52 q110 q2356) (by decide +kernel) (by decide) rfl rfl (cat2_nil (k := 0)) rfl dX3_laysMinutes_141 rfl (fun x141 w141 => ?_)
    refine r_if_eq 234 147 dX3_laysMinutes_144 (by decide) rfl ?_ ?_
    · exact r_lsP [2, 3, 4] rfl (t_X3_laysMinutes_b234 hl G (fun v0 v3 v4 w => f_X3_laysMinutes_l98 G k240 F v0 v3 v4 w) (fun v0 v3 v4 w => ih v0 v3 v4 w)  v0 v3 v4 w141)
    refine r_aload_n 148 2 dX3_laysMinutes_147 rfl rfl rfl ?_
    refine r_getr 151 gf_X3_44 dX3_laysMinutes_148 rfl (fun x148 => ?_)
    refine r_iload 153 4 dX3_laysMinutes_151 rfl rfl ?_
    refine r_iload 155 4 dX3_laysMinutes_153 rfl rfl ?_
    refine r_iconst (v := 2) 156 dX3_laysMinutes_155 rfl rfl ?_
    refine r_irem 157 dX3_laysMinutes_156 (by decide) rfl ?_
    refine r_if_ne 171 160 dX3_laysMinutes_157 (by decide) rfl ?_ ?_
    · refine r_aload_n 172 2 dX3_laysMinutes_171 rfl rfl rfl ?_
      refine r_iload 174 1 dX3_laysMinutes_172 rfl rfl ?_
      refine r_iload 176 0 dX3_laysMinutes_174 rfl rfl ?_
      refine r_iconst (v := (-1)) 177 dX3_laysMinutes_176 rfl rfl ?_
      refine r_gd (fun hc177 => ?_)
      refine r_callV (n := 3) (as := [lI (v4 / 12), lI x119, lI ((-1))]) (rest := [.int v4, rf x148]) 180 26 (s_X3_departureBase hl G v0 (v4 / 12) x119 ((-1)) w141) hc177 rfl (lw_V q2410 q2412 qs61 q110 q2413) (by decide +kernel) (by decide) rfl rfl (cat2_i (cat2_r (cat2_nil (k := 0)))) rfl dX3_laysMinutes_177 rfl (fun x177 w177 => ?_)
      exact r_lsP [2, 3, 4, 1, 0] rfl (t_X3_laysMinutes_b180 hl G (fun v0 v3 v4 w => f_X3_laysMinutes_l98 G k240 F v0 v3 v4 w) (fun v0 v3 v4 w => ih v0 v3 v4 w)  v0 v3 v4 (v4 / 12) x119 x177 v4 x148 w177)
    refine r_aload_n 161 2 dX3_laysMinutes_160 rfl rfl rfl ?_
    refine r_iload 163 1 dX3_laysMinutes_161 rfl rfl ?_
    refine r_iload 165 0 dX3_laysMinutes_163 rfl rfl ?_
    refine r_gd (fun hc165 => ?_)
    refine r_callV (n := 2) (as := [lI (v4 / 12), lI x119]) (rest := [.int v4, rf x148]) 168 26 (s_X3_arrivalBase hl G v0 (v4 / 12) x119 w141) hc165 rfl (lw_V q2397 q2399 qs58 q110 q2400) (by decide +kernel) (by decide) rfl rfl (cat2_i (cat2_r (cat2_nil (k := 0)))) rfl dX3_laysMinutes_165 rfl (fun x165 w165 => ?_)
    refine r_goto 180 dX3_laysMinutes_168 (by decide) ?_
    exact r_lsP [2, 3, 4, 1, 0] rfl (t_X3_laysMinutes_b180 hl G (fun v0 v3 v4 w => f_X3_laysMinutes_l98 G k240 F v0 v3 v4 w) (fun v0 v3 v4 w => ih v0 v3 v4 w)  v0 v3 v4 (v4 / 12) x119 x165 v4 x148 w165)
theorem t_X3_laysMinutes_b240 {l : Launch} {D : Dn} {H0 : Heap} {w0 : St} (hl : l.stackTraces = false) (G : Nat) (k89 : Rf → Int32 → St → Option (Unit × St)) (h89 : ∀ v0 v3 w, V_X3_laysMinutes l D H0 w0 (k89 v0 v3 w) 89 [(0, lR v0), (3, lI v3)] [] w) (v0 : Rf) (v3 : Int32) (w : St) : V_X3_laysMinutes l D H0 w0 (f_X3_laysMinutes_b240 G k89 v0 v3 w) 240 [(0, lR v0), (3, lI v3)] [] w := by
  unfold f_X3_laysMinutes_b240
  refine r_goto 89 dX3_laysMinutes_240 (by decide) ?_
  exact r_lsP [0, 1] rfl (h89 v0 v3 w)
theorem t_X3_laysMinutes_l89 {l : Launch} {D : Dn} {H0 : Heap} {w0 : St} (hl : l.stackTraces = false) (G : Nat) (k243 : St → Option (Unit × St)) (h243 : ∀ w, V_X3_laysMinutes l D H0 w0 (k243 w) 243 [] [] w) : ∀ (F : Nat) (v0 : Rf) (v3 : Int32) (w : St), V_X3_laysMinutes l D H0 w0 (f_X3_laysMinutes_l89 G k243 F v0 v3 w) 89 [(0, lR v0), (3, lI v3)] [] w := by
  intro F
  induction F with
  | zero => intros; exact r_none
  | succ F ih =>
    intro v0 v3 w
    unfold f_X3_laysMinutes_l89
    refine r_iload_n 90 1 dX3_laysMinutes_89 rfl rfl rfl ?_
    refine r_if_eq 243 93 dX3_laysMinutes_90 (by decide) rfl ?_ ?_
    · exact r_lsP [] rfl (h243 w)
    refine r_iconst (v := 0) 94 dX3_laysMinutes_93 rfl rfl ?_
    refine r_istore_n (ls2 := [(3, lI 0), (0, lR v0)]) 95 dX3_laysMinutes_94 rfl (by decide) rfl rfl ?_
    refine r_iconst (v := 0) 96 dX3_laysMinutes_95 rfl rfl ?_
    refine r_istore (ls2 := [(4, lI 0), (3, lI 0), (0, lR v0)]) 98 dX3_laysMinutes_96 (by decide) rfl rfl ?_
    exact r_lsP [2, 1, 0] rfl (t_X3_laysMinutes_l98 hl G (fun v0 v3 w => f_X3_laysMinutes_b240 G (fun v0 v3 w => f_X3_laysMinutes_l89 G k243 F v0 v3 w)  v0 v3 w) (fun v0 v3 w => t_X3_laysMinutes_b240 hl G (fun v0 v3 w => f_X3_laysMinutes_l89 G k243 F v0 v3 w) (fun v0 v3 w => ih v0 v3 w)  v0 v3 w) G v0 0 0 w)
theorem t_X3_laysMinutes_b243 {l : Launch} {D : Dn} {H0 : Heap} {w0 : St} (hl : l.stackTraces = false) (G : Nat) (w : St) : V_X3_laysMinutes l D H0 w0 (f_X3_laysMinutes_b243 G  w) 243 [] [] w := by
  unfold f_X3_laysMinutes_b243
  exact r_vret rfl rfl dX3_laysMinutes_243
theorem t_X3_laysMinutes_b87 {l : Launch} {D : Dn} {H0 : Heap} {w0 : St} (hl : l.stackTraces = false) (G : Nat) (v0 : Rf) (w : St) : V_X3_laysMinutes l D H0 w0 (f_X3_laysMinutes_b87 G v0 w) 87 [(0, lR v0)] [] w := by
  unfold f_X3_laysMinutes_b87
  refine r_iconst (v := 1) 88 dX3_laysMinutes_87 rfl rfl ?_
  refine r_istore_n (ls2 := [(3, lI 1), (0, lR v0)]) 89 dX3_laysMinutes_88 rfl (by decide) rfl rfl ?_
  exact r_lsP [1, 0] rfl (t_X3_laysMinutes_l89 hl G (fun w => f_X3_laysMinutes_b243 G  w) (fun w => t_X3_laysMinutes_b243 hl G  w) G v0 1 w)
theorem t_X3_laysMinutes {l : Launch} {D : Dn} {H0 : Heap} {w0 : St} (hl : l.stackTraces = false) (G : Nat) (a0 : Rf) (a1 : Int32) (a2 : Int32) (w : St) : V_X3_laysMinutes l D H0 w0 (f_X3_laysMinutes G a0 a1 a2 w) 0 [(0, lR a0), (1, lI a1), (2, lI a2)] [] w := by
  unfold f_X3_laysMinutes
  refine r_aload_n 1 0 dX3_laysMinutes_0 rfl rfl rfl ?_
  refine r_iload_n 2 1 dX3_laysMinutes_1 rfl rfl rfl ?_
  refine r_puti 5 pf_X3_182 dX3_laysMinutes_2 rfl (fun w2 => ?_)
  refine r_aload_n 6 0 dX3_laysMinutes_5 rfl rfl rfl ?_
  refine r_iload_n 7 2 dX3_laysMinutes_6 rfl rfl rfl ?_
  refine r_puti 10 pf_X3_176 dX3_laysMinutes_7 rfl (fun w7 => ?_)
  refine r_iconst (v := 0) 11 dX3_laysMinutes_10 rfl rfl ?_
  refine r_istore_n (ls2 := [(3, lI 0), (0, lR a0), (1, lI a1), (2, lI a2)]) 12 dX3_laysMinutes_11 rfl (by decide) rfl rfl ?_
  exact r_lsP [1, 0] rfl (t_X3_laysMinutes_l12 hl G (fun v0 w => f_X3_laysMinutes_b87 G  v0 w) (fun v0 w => t_X3_laysMinutes_b87 hl G  v0 w) G a0 0 w7)
theorem s_X3_laysMinutes {l : Launch} {D : Dn} {H0 : Heap} (hl : l.stackTraces = false) (G : Nat) (a0 : Rf) (a1 : Int32) (a2 : Int32) (w : St) : SimN l D H0 yX3_laysMinutes (ws_ yX3_laysMinutes cX3_laysMinutes 8 none) 6 136 rvU [lR a0, lI a1, lI a2] w (f_X3_laysMinutes G a0 a1 a2 w) := SimX.N (SimX.ofV (y := yX3_laysMinutes) (by decide) rfl (t_X3_laysMinutes hl G a0 a1 a2 w))
abbrev V_X3_lateOf (l : Launch) (D : Dn) (H0 : Heap) (w0 : St) (res : Option (Int32 × St)) (pc : Nat) (ls : List (Nat × LV)) (st : List Value) (w : St) : Prop := V l D H0 RX3 "lateOf" cX3_lateOf 4 (some (.int)) [] 2 45 (fun x => .inr (rvI x)) w0 res pc ls st w
theorem t_X3_lateOf {l : Launch} {D : Dn} {H0 : Heap} {w0 : St} (hl : l.stackTraces = false) (G : Nat) (a0 : Rf) (a1 : Int32) (a2 : Int32) (a3 : Int32) (w : St) : V_X3_lateOf l D H0 w0 (f_X3_lateOf G a0 a1 a2 a3 w) 0 [(0, lR a0), (1, lI a1), (2, lI a2), (3, lI a3)] [] w := by
  unfold f_X3_lateOf
  refine r_aload_n 1 0 dX3_lateOf_0 rfl rfl rfl ?_
  refine r_iload_n 2 1 dX3_lateOf_1 rfl rfl rfl ?_
  refine r_iload_n 3 2 dX3_lateOf_2 rfl rfl rfl ?_
  refine r_iload_n 4 3 dX3_lateOf_3 rfl rfl rfl ?_
  refine r_gd (fun hc4 => ?_)
  refine r_callV (n := 3) (as := [lI a1, lI a2, lI a3]) (rest := []) 7 26 (s_X3_minuteOf hl G a0 a1 a2 a3 w) hc4 rfl (lw_V q2405 q2407 qs60 q110 q2408) (by decide +kernel) (by decide) rfl rfl (cat2_nil (k := 0)) rfl dX3_lateOf_4 rfl (fun x4 w4 => ?_)
  refine r_aload_n 8 0 dX3_lateOf_7 rfl rfl rfl ?_
  refine r_iload_n 9 1 dX3_lateOf_8 rfl rfl rfl ?_
  refine r_iload_n 10 2 dX3_lateOf_9 rfl rfl rfl ?_
  refine r_iload_n 11 3 dX3_lateOf_10 rfl rfl rfl ?_
  refine r_gd (fun hc11 => ?_)
  refine r_callV (n := 3) (as := [lI a1, lI a2, lI a3]) (rest := [.int x4]) 14 26 (s_X3_planned hl G a0 a1 a2 a3 w4) hc11 rfl (lw_V q2329 q2331 qs48 q110 q2332) (by decide +kernel) (by decide) rfl rfl (cat2_i (cat2_nil (k := 0))) rfl dX3_lateOf_11 rfl (fun x11 w11 => ?_)
  refine r_isub 15 dX3_lateOf_14 rfl ?_
  exact r_iret rfl rfl dX3_lateOf_15
theorem s_X3_lateOf {l : Launch} {D : Dn} {H0 : Heap} (hl : l.stackTraces = false) (G : Nat) (a0 : Rf) (a1 : Int32) (a2 : Int32) (a3 : Int32) (w : St) : SimN l D H0 yX3_lateOf (ws_ yX3_lateOf cX3_lateOf 4 (some (.int))) 2 45 rvI [lR a0, lI a1, lI a2, lI a3] w (f_X3_lateOf G a0 a1 a2 a3 w) := SimX.N (SimX.ofV (y := yX3_lateOf) (by decide) rfl (t_X3_lateOf hl G a0 a1 a2 a3 w))
abbrev V_X3_lateIt (l : Launch) (D : Dn) (H0 : Heap) (w0 : St) (res : Option (Int32 × St)) (pc : Nat) (ls : List (Nat × LV)) (st : List Value) (w : St) : Prop := V l D H0 RX3 "lateIt" cX3_lateIt 6 (some (.int)) [] 7 163 (fun x => .inr (rvI x)) w0 res pc ls st w
theorem t_X3_lateIt {l : Launch} {D : Dn} {H0 : Heap} {w0 : St} (hl : l.stackTraces = false) (G : Nat) (a0 : Rf) (a1 : Int32) (a2 : Int32) (a3 : Int32) (a4 : Int32) (w : St) : V_X3_lateIt l D H0 w0 (f_X3_lateIt G a0 a1 a2 a3 a4 w) 0 [(0, lR a0), (1, lI a1), (2, lI a2), (3, lI a3), (4, lI a4)] [] w := by
  unfold f_X3_lateIt
  refine r_aload_n 1 0 dX3_lateIt_0 rfl rfl rfl ?_
  refine r_iload_n 2 1 dX3_lateIt_1 rfl rfl rfl ?_
  refine r_gd (fun hc2 => ?_)
  refine r_callV (n := 1) (as := [lI a1]) (rest := []) 5 26 (s_X3_isCoach hl G a0 a1 w) hc2 rfl (lw_V q2317 q2319 qs45 q110 q2320) (by decide +kernel) (by decide) rfl rfl (cat2_nil (k := 0)) rfl dX3_lateIt_2 rfl (fun x2 w2 => ?_)
  refine r_if_ne 15 8 dX3_lateIt_5 (by decide) rfl ?_ ?_
  · refine r_aload_n 16 0 dX3_lateIt_15 rfl rfl rfl ?_
    refine r_iload_n 17 1 dX3_lateIt_16 rfl rfl rfl ?_
    refine r_iload_n 18 2 dX3_lateIt_17 rfl rfl rfl ?_
    refine r_iload_n 19 3 dX3_lateIt_18 rfl rfl rfl ?_
    refine r_gd (fun hc19 => ?_)
    refine r_callV (n := 3) (as := [lI a1, lI a2, lI a3]) (rest := []) 22 26 (s_X3_isEvent hl G a0 a1 a2 a3 w2) hc19 rfl (lw_V q2353 q2355 qs52 q110 q2356) (by decide +kernel) (by decide) rfl rfl (cat2_nil (k := 0)) rfl dX3_lateIt_19 rfl (fun x19 w19 => ?_)
    refine r_if_ne 32 25 dX3_lateIt_22 (by decide) rfl ?_ ?_
    · refine r_iload 34 4 dX3_lateIt_32 rfl rfl ?_
      refine r_i2l 35 dX3_lateIt_34 rfl ?_
      refine r_lconst (v := 0) 36 dX3_lateIt_35 rfl rfl ?_
      refine r_ldc2J 39 q2389 dX3_lateIt_36 rfl ?_
      refine r_callS (n := 3) (as := [lJ a4.toInt64, lJ 0, lJ 120]) (rest := []) 42 (s_X3_in hl G a4.toInt64 0 120 w19) (lw_S q2290 q2291 q110 q2292) (by decide +kernel) (by decide) rfl rfl (cat2_nil (k := 0)) rfl dX3_lateIt_39 rfl (fun x39 w39 => ?_)
      refine r_if_ne 53 45 dX3_lateIt_42 (by decide) rfl ?_ ?_
      · refine r_iload_n 54 1 dX3_lateIt_53 rfl rfl rfl ?_
        refine r_iload_n 55 2 dX3_lateIt_54 rfl rfl rfl ?_
        refine r_callS (n := 2) (as := [lI a1, lI a2]) (rest := []) 58 (s_X3_ofStop hl G a1 a2 w39) (lw_S q2302 q2303 q110 q2304) (by decide +kernel) (by decide) rfl rfl (cat2_nil (k := 0)) rfl dX3_lateIt_55 rfl (fun x55 w55 => ?_)
        refine r_iconst (v := 5) 59 dX3_lateIt_58 rfl rfl ?_
        refine r_iadd 60 dX3_lateIt_59 rfl ?_
        refine r_iload_n 61 3 dX3_lateIt_60 rfl rfl rfl ?_
        refine r_iadd 62 dX3_lateIt_61 rfl ?_
        refine r_istore (ls2 := [(5, lI ((x55 + 5) + a3)), (0, lR a0), (1, lI a1), (2, lI a2), (3, lI a3), (4, lI a4)]) 64 dX3_lateIt_62 (by decide) rfl rfl ?_
        refine r_aload_n 65 1 dX3_lateIt_64 rfl rfl rfl ?_
        refine r_getr 68 gf_X3_9 dX3_lateIt_65 rfl (fun x65 => ?_)
        refine r_iload 70 0 dX3_lateIt_68 rfl rfl ?_
        refine r_iald 71 dX3_lateIt_70 rfl (fun x70 => ?_)
        refine r_iload 73 5 dX3_lateIt_71 rfl rfl ?_
        refine r_icmp_ne 85 76 dX3_lateIt_73 (by decide) rfl ?_ ?_
        · refine r_aload_n 86 1 dX3_lateIt_85 rfl rfl rfl ?_
          refine r_getr 89 gf_X3_9 dX3_lateIt_86 rfl (fun x86 => ?_)
          refine r_iload 91 0 dX3_lateIt_89 rfl rfl ?_
          refine r_iload 93 5 dX3_lateIt_91 rfl rfl ?_
          refine r_iast 94 dX3_lateIt_93 rfl (fun w93 => ?_)
          refine r_aload_n 95 1 dX3_lateIt_94 rfl rfl rfl ?_
          refine r_iconst (v := (-1)) 96 dX3_lateIt_95 rfl rfl ?_
          refine r_iconst (v := (-1)) 97 dX3_lateIt_96 rfl rfl ?_
          refine r_gd (fun hc97 => ?_)
          refine r_callV (n := 2) (as := [lI ((-1)), lI ((-1))]) (rest := []) 100 26 (s_X3_laysMinutes hl G a0 ((-1)) ((-1)) w93) hc97 rfl (lw_V q2390 q2392 qs57 q110 q2393) (by decide +kernel) (by decide) rfl rfl (cat2_nil (k := 0)) rfl dX3_lateIt_97 rfl (fun _ w97 => ?_)
          refine r_aload_n 101 1 dX3_lateIt_100 rfl rfl rfl ?_
          refine r_iload_n 102 2 dX3_lateIt_101 rfl rfl rfl ?_
          refine r_iload_n 103 3 dX3_lateIt_102 rfl rfl rfl ?_
          refine r_iload_n 104 4 dX3_lateIt_103 rfl rfl rfl ?_
          refine r_gd (fun hc104 => ?_)
          refine r_callV (n := 3) (as := [lI a1, lI a2, lI a3]) (rest := []) 107 26 (s_X3_lateOf hl G a0 a1 a2 a3 w97) hc104 rfl (lw_V q2450 q2452 qs71 q110 q2453) (by decide +kernel) (by decide) rfl rfl (cat2_nil (k := 0)) rfl dX3_lateIt_104 rfl (fun x104 w104 => ?_)
          exact r_iret rfl rfl dX3_lateIt_107
        refine r_aload_n 77 1 dX3_lateIt_76 rfl rfl rfl ?_
        refine r_bipush (v := 10) 79 dX3_lateIt_77 rfl rfl ?_
        refine r_iload 81 5 dX3_lateIt_79 rfl rfl ?_
        refine r_gd (fun hc81 => ?_)
        refine r_callV (n := 2) (as := [lI 10, lI a4]) (rest := []) 84 26 (s_X3_refuse hl G a0 10 a4 w55) hc81 rfl (lw_V q2294 q2296 qs41 q110 q2297) (by decide +kernel) (by decide) rfl rfl (cat2_nil (k := 0)) rfl dX3_lateIt_81 rfl (fun x81 w81 => ?_)
        exact r_iret rfl rfl dX3_lateIt_84
      refine r_aload_n 46 0 dX3_lateIt_45 rfl rfl rfl ?_
      refine r_iconst (v := 1) 47 dX3_lateIt_46 rfl rfl ?_
      refine r_iload 49 4 dX3_lateIt_47 rfl rfl ?_
      refine r_gd (fun hc49 => ?_)
      refine r_callV (n := 2) (as := [lI 1, lI a4]) (rest := []) 52 26 (s_X3_refuse hl G a0 1 a4 w39) hc49 rfl (lw_V q2294 q2296 qs41 q110 q2297) (by decide +kernel) (by decide) rfl rfl (cat2_nil (k := 0)) rfl dX3_lateIt_49 rfl (fun x49 w49 => ?_)
      exact r_iret rfl rfl dX3_lateIt_52
    refine r_aload_n 26 0 dX3_lateIt_25 rfl rfl rfl ?_
    refine r_iconst (v := 4) 27 dX3_lateIt_26 rfl rfl ?_
    refine r_iload_n 28 2 dX3_lateIt_27 rfl rfl rfl ?_
    refine r_gd (fun hc28 => ?_)
    refine r_callV (n := 2) (as := [lI 4, lI a2]) (rest := []) 31 26 (s_X3_refuse hl G a0 4 a2 w19) hc28 rfl (lw_V q2294 q2296 qs41 q110 q2297) (by decide +kernel) (by decide) rfl rfl (cat2_nil (k := 0)) rfl dX3_lateIt_28 rfl (fun x28 w28 => ?_)
    exact r_iret rfl rfl dX3_lateIt_31
  refine r_aload_n 9 0 dX3_lateIt_8 rfl rfl rfl ?_
  refine r_iconst (v := 3) 10 dX3_lateIt_9 rfl rfl ?_
  refine r_iload_n 11 1 dX3_lateIt_10 rfl rfl rfl ?_
  refine r_gd (fun hc11 => ?_)
  refine r_callV (n := 2) (as := [lI 3, lI a1]) (rest := []) 14 26 (s_X3_refuse hl G a0 3 a1 w2) hc11 rfl (lw_V q2294 q2296 qs41 q110 q2297) (by decide +kernel) (by decide) rfl rfl (cat2_nil (k := 0)) rfl dX3_lateIt_11 rfl (fun x11 w11 => ?_)
  exact r_iret rfl rfl dX3_lateIt_14
theorem s_X3_lateIt {l : Launch} {D : Dn} {H0 : Heap} (hl : l.stackTraces = false) (G : Nat) (a0 : Rf) (a1 : Int32) (a2 : Int32) (a3 : Int32) (a4 : Int32) (w : St) : SimN l D H0 yX3_lateIt (ws_ yX3_lateIt cX3_lateIt 6 (some (.int))) 7 163 rvI [lR a0, lI a1, lI a2, lI a3, lI a4] w (f_X3_lateIt G a0 a1 a2 a3 a4 w) := SimX.N (SimX.ofV (y := yX3_lateIt) (by decide) rfl (t_X3_lateIt hl G a0 a1 a2 a3 a4 w))
abbrev V_X3_late (l : Launch) (D : Dn) (H0 : Heap) (w0 : St) (res : Option (Int32 × St)) (pc : Nat) (ls : List (Nat × LV)) (st : List Value) (w : St) : Prop := V l D H0 RX3 "late" cX3_late 5 (some (.int)) [] 8 188 (fun x => .inr (rvI x)) w0 res pc ls st w
theorem t_X3_late_b17 {l : Launch} {D : Dn} {H0 : Heap} {w0 : St} (hl : l.stackTraces = false) (G : Nat) (v4 : Int32) (s0 : Int32) (s1 : Int32) (s2 : Int32) (s3 : Rf) (s4 : Rf) (w : St) : V_X3_late l D H0 w0 (f_X3_late_b17 G v4 s0 s1 s2 s3 s4 w) 17 [(4, lI v4)] [.int s0, .int s1, .int s2, rf s3, rf s4] w := by
  unfold f_X3_late_b17
  refine r_iload 19 0 dX3_late_17 rfl rfl ?_
  refine r_gd (fun hc19 => ?_)
  refine r_callV (n := 4) (as := [lI s2, lI s1, lI s0, lI v4]) (rest := [rf s4]) 22 26 (s_X3_lateIt hl G s3 s2 s1 s0 v4 w) hc19 rfl (lw_V q2385 q2387 qs56 q110 q2388) (by decide +kernel) (by decide) rfl rfl (cat2_r (cat2_nil (k := 0))) rfl dX3_late_19 rfl (fun x19 w19 => ?_)
  refine r_gd (fun hc22 => ?_)
  refine r_callV (n := 1) (as := [lI x19]) (rest := []) 25 26 (s_X3_changed hl G s4 x19 w19) hc22 rfl (lw_V q2305 q2307 qs43 q110 q2308) (by decide +kernel) (by decide) rfl rfl (cat2_nil (k := 0)) rfl dX3_late_22 rfl (fun x22 w22 => ?_)
  exact r_iret rfl rfl dX3_late_25
theorem t_X3_late {l : Launch} {D : Dn} {H0 : Heap} {w0 : St} (hl : l.stackTraces = false) (G : Nat) (a0 : Rf) (a1 : Int32) (a2 : Int32) (a3 : Int32) (a4 : Int32) (w : St) : V_X3_late l D H0 w0 (f_X3_late G a0 a1 a2 a3 a4 w) 0 [(0, lR a0), (1, lI a1), (2, lI a2), (3, lI a3), (4, lI a4)] [] w := by
  unfold f_X3_late
  refine r_aload_n 1 0 dX3_late_0 rfl rfl rfl ?_
  refine r_gd (fun hc1 => ?_)
  refine r_callV (n := 0) (as := []) (rest := []) 4 26 (s_X3_starts hl G a0 w) hc1 rfl (lw_V q2281 q2283 qs39 q110 q2284) (by decide +kernel) (by decide) rfl rfl (cat2_nil (k := 0)) rfl dX3_late_1 rfl (fun _ w1 => ?_)
  refine r_aload_n 5 0 dX3_late_4 rfl rfl rfl ?_
  refine r_aload_n 6 0 dX3_late_5 rfl rfl rfl ?_
  refine r_iload_n 7 1 dX3_late_6 rfl rfl rfl ?_
  refine r_iload_n 8 2 dX3_late_7 rfl rfl rfl ?_
  refine r_iload_n 9 3 dX3_late_8 rfl rfl rfl ?_
  refine r_if_eq 16 12 dX3_late_9 (by decide) rfl ?_ ?_
  · refine r_iconst (v := 1) 17 dX3_late_16 rfl rfl ?_
    exact r_lsP [4] rfl (t_X3_late_b17 hl G  a4 1 a2 a1 a0 a0 w1)
  refine r_iconst (v := 0) 13 dX3_late_12 rfl rfl ?_
  refine r_goto 17 dX3_late_13 (by decide) ?_
  exact r_lsP [4] rfl (t_X3_late_b17 hl G  a4 0 a2 a1 a0 a0 w1)
theorem s_X3_late {l : Launch} {D : Dn} {H0 : Heap} (hl : l.stackTraces = false) (G : Nat) (a0 : Rf) (a1 : Int32) (a2 : Int32) (a3 : Int32) (a4 : Int32) (w : St) : SimN l D H0 yX3_late (ws_ yX3_late cX3_late 5 (some (.int))) 8 188 rvI [lR a0, lI a1, lI a2, lI a3, lI a4] w (f_X3_late G a0 a1 a2 a3 a4 w) := SimX.N (SimX.ofV (y := yX3_late) (by decide) rfl (t_X3_late hl G a0 a1 a2 a3 a4 w))
abbrev V_X3_ownAll (l : Launch) (D : Dn) (H0 : Heap) (w0 : St) (res : Option (Int32 × St)) (pc : Nat) (ls : List (Nat × LV)) (st : List Value) (w : St) : Prop := V l D H0 RX3 "ownAll" cX3_ownAll 4 (some (.int)) [] 2 44 (fun x => .inr (rvI x)) w0 res pc ls st w
theorem t_X3_ownAll_l4 {l : Launch} {D : Dn} {H0 : Heap} {w0 : St} (hl : l.stackTraces = false) (G : Nat) (k37 : Int32 → St → Option (Int32 × St)) (h37 : ∀ v2 w, V_X3_ownAll l D H0 w0 (k37 v2 w) 37 [(2, lI v2)] [] w) : ∀ (F : Nat) (v0 : Rf) (v1 : Int32) (v2 : Int32) (v3 : Int32) (w : St), V_X3_ownAll l D H0 w0 (f_X3_ownAll_l4 G k37 F v0 v1 v2 v3 w) 4 [(0, lR v0), (1, lI v1), (2, lI v2), (3, lI v3)] [] w := by
  intro F
  induction F with
  | zero => intros; exact r_none
  | succ F ih =>
    intro v0 v1 v2 v3 w
    unfold f_X3_ownAll_l4
    refine r_iload_n 5 3 dX3_ownAll_4 rfl rfl rfl ?_
    refine r_aload_n 6 0 dX3_ownAll_5 rfl rfl rfl ?_
    refine r_iload_n 7 1 dX3_ownAll_6 rfl rfl rfl ?_
    refine r_gd (fun hc7 => ?_)
    refine r_callV (n := 1) (as := [lI v1]) (rest := [.int v3]) 10 26 (s_X3_stops hl G v0 v1 w) hc7 rfl (lw_V q2325 q2327 qs47 q110 q2328) (by decide +kernel) (by decide) rfl rfl (cat2_i (cat2_nil (k := 0))) rfl dX3_ownAll_7 rfl (fun x7 w7 => ?_)
    refine r_icmp_ge 37 13 dX3_ownAll_10 (by decide) rfl ?_ ?_
    · exact r_lsP [2] rfl (h37 v2 w7)
    refine r_iload_n 14 2 dX3_ownAll_13 rfl rfl rfl ?_
    refine r_aload_n 15 0 dX3_ownAll_14 rfl rfl rfl ?_
    refine r_iload_n 16 1 dX3_ownAll_15 rfl rfl rfl ?_
    refine r_iload_n 17 3 dX3_ownAll_16 rfl rfl rfl ?_
    refine r_iconst (v := 0) 18 dX3_ownAll_17 rfl rfl ?_
    refine r_gd (fun hc18 => ?_)
    refine r_callV (n := 3) (as := [lI v1, lI v3, lI 0]) (rest := [.int v2]) 21 26 (s_X3_own hl G v0 v1 v3 0 w7) hc18 rfl (lw_V q2446 q2448 qs70 q110 q2449) (by decide +kernel) (by decide) rfl rfl (cat2_i (cat2_nil (k := 0))) rfl dX3_ownAll_18 rfl (fun x18 w18 => ?_)
    refine r_aload_n 22 0 dX3_ownAll_21 rfl rfl rfl ?_
    refine r_iload_n 23 1 dX3_ownAll_22 rfl rfl rfl ?_
    refine r_iload_n 24 3 dX3_ownAll_23 rfl rfl rfl ?_
    refine r_iconst (v := 1) 25 dX3_ownAll_24 rfl rfl ?_
    refine r_gd (fun hc25 => ?_)
    refine r_callV (n := 3) (as := [lI v1, lI v3, lI 1]) (rest := [.int x18, .int v2]) 28 26 (s_X3_own hl G v0 v1 v3 1 w18) hc25 rfl (lw_V q2446 q2448 qs70 q110 q2449) (by decide +kernel) (by decide) rfl rfl (cat2_i (cat2_i (cat2_nil (k := 0)))) rfl dX3_ownAll_25 rfl (fun x25 w25 => ?_)
    refine r_iadd 29 dX3_ownAll_28 rfl ?_
    refine r_iadd 30 dX3_ownAll_29 rfl ?_
    refine r_istore_n (ls2 := [(2, lI (v2 + (x18 + x25))), (0, lR v0), (1, lI v1), (3, lI v3)]) 31 dX3_ownAll_30 rfl (by decide) rfl rfl ?_
    refine r_iinc (v := v3 + 1) (ls2 := [(3, lI (v3 + 1)), (2, lI (v2 + (x18 + x25))), (0, lR v0), (1, lI v1)]) 34 3 dX3_ownAll_31 rfl rfl (by decide) rfl rfl ?_
    refine r_goto 4 dX3_ownAll_34 (by decide) ?_
    exact r_lsP [2, 3, 1, 0] rfl (ih v0 v1 (v2 + (x18 + x25)) (v3 + 1) w25)
theorem t_X3_ownAll_b37 {l : Launch} {D : Dn} {H0 : Heap} {w0 : St} (hl : l.stackTraces = false) (G : Nat) (v2 : Int32) (w : St) : V_X3_ownAll l D H0 w0 (f_X3_ownAll_b37 G v2 w) 37 [(2, lI v2)] [] w := by
  unfold f_X3_ownAll_b37
  refine r_iload_n 38 0 dX3_ownAll_37 rfl rfl rfl ?_
  exact r_iret rfl rfl dX3_ownAll_38
theorem t_X3_ownAll {l : Launch} {D : Dn} {H0 : Heap} {w0 : St} (hl : l.stackTraces = false) (G : Nat) (a0 : Rf) (a1 : Int32) (w : St) : V_X3_ownAll l D H0 w0 (f_X3_ownAll G a0 a1 w) 0 [(0, lR a0), (1, lI a1)] [] w := by
  unfold f_X3_ownAll
  refine r_iconst (v := 0) 1 dX3_ownAll_0 rfl rfl ?_
  refine r_istore_n (ls2 := [(2, lI 0), (0, lR a0), (1, lI a1)]) 2 dX3_ownAll_1 rfl (by decide) rfl rfl ?_
  refine r_iconst (v := 0) 3 dX3_ownAll_2 rfl rfl ?_
  refine r_istore_n (ls2 := [(3, lI 0), (2, lI 0), (0, lR a0), (1, lI a1)]) 4 dX3_ownAll_3 rfl (by decide) rfl rfl ?_
  exact r_lsP [2, 3, 1, 0] rfl (t_X3_ownAll_l4 hl G (fun v2 w => f_X3_ownAll_b37 G  v2 w) (fun v2 w => t_X3_ownAll_b37 hl G  v2 w) G a0 a1 0 0 w)
theorem s_X3_ownAll {l : Launch} {D : Dn} {H0 : Heap} (hl : l.stackTraces = false) (G : Nat) (a0 : Rf) (a1 : Int32) (w : St) : SimN l D H0 yX3_ownAll (ws_ yX3_ownAll cX3_ownAll 4 (some (.int))) 2 44 rvI [lR a0, lI a1] w (f_X3_ownAll G a0 a1 w) := SimX.N (SimX.ofV (y := yX3_ownAll) (by decide) rfl (t_X3_ownAll hl G a0 a1 w))
abbrev V_X3_lastLate (l : Launch) (D : Dn) (H0 : Heap) (w0 : St) (res : Option (Int32 × St)) (pc : Nat) (ls : List (Nat × LV)) (st : List Value) (w : St) : Prop := V l D H0 RX3 "lastLate" cX3_lastLate 2 (some (.int)) [] 3 68 (fun x => .inr (rvI x)) w0 res pc ls st w
theorem t_X3_lastLate {l : Launch} {D : Dn} {H0 : Heap} {w0 : St} (hl : l.stackTraces = false) (G : Nat) (a0 : Rf) (a1 : Int32) (w : St) : V_X3_lastLate l D H0 w0 (f_X3_lastLate G a0 a1 w) 0 [(0, lR a0), (1, lI a1)] [] w := by
  unfold f_X3_lastLate
  refine r_aload_n 1 0 dX3_lastLate_0 rfl rfl rfl ?_
  refine r_iload_n 2 1 dX3_lastLate_1 rfl rfl rfl ?_
  refine r_gd (fun hc2 => ?_)
  refine r_callV (n := 1) (as := [lI a1]) (rest := []) 5 26 (s_X3_stops hl G a0 a1 w) hc2 rfl (lw_V q2325 q2327 qs47 q110 q2328) (by decide +kernel) (by decide) rfl rfl (cat2_nil (k := 0)) rfl dX3_lastLate_2 rfl (fun x2 w2 => ?_)
  refine r_iconst (v := 1) 6 dX3_lastLate_5 rfl rfl ?_
  refine r_icmp_ne 13 9 dX3_lastLate_6 (by decide) rfl ?_ ?_
  · refine r_aload_n 14 0 dX3_lastLate_13 rfl rfl rfl ?_
    refine r_iload_n 15 1 dX3_lastLate_14 rfl rfl rfl ?_
    refine r_aload_n 16 0 dX3_lastLate_15 rfl rfl rfl ?_
    refine r_iload_n 17 1 dX3_lastLate_16 rfl rfl rfl ?_
    refine r_gd (fun hc17 => ?_)
    refine r_callV (n := 1) (as := [lI a1]) (rest := [.int a1, rf a0]) 20 26 (s_X3_stops hl G a0 a1 w2) hc17 rfl (lw_V q2325 q2327 qs47 q110 q2328) (by decide +kernel) (by decide) rfl rfl (cat2_i (cat2_r (cat2_nil (k := 0)))) rfl dX3_lastLate_17 rfl (fun x17 w17 => ?_)
    refine r_iconst (v := 1) 21 dX3_lastLate_20 rfl rfl ?_
    refine r_isub 22 dX3_lastLate_21 rfl ?_
    refine r_iconst (v := 0) 23 dX3_lastLate_22 rfl rfl ?_
    refine r_gd (fun hc23 => ?_)
    refine r_callV (n := 3) (as := [lI a1, lI (x17 - 1), lI 0]) (rest := []) 26 26 (s_X3_lateOf hl G a0 a1 (x17 - 1) 0 w17) hc23 rfl (lw_V q2450 q2452 qs71 q110 q2453) (by decide +kernel) (by decide) rfl rfl (cat2_nil (k := 0)) rfl dX3_lastLate_23 rfl (fun x23 w23 => ?_)
    exact r_iret rfl rfl dX3_lastLate_26
  refine r_iconst (v := 0) 10 dX3_lastLate_9 rfl rfl ?_
  refine r_goto 26 dX3_lastLate_10 (by decide) ?_
  exact r_iret rfl rfl dX3_lastLate_26
theorem s_X3_lastLate {l : Launch} {D : Dn} {H0 : Heap} (hl : l.stackTraces = false) (G : Nat) (a0 : Rf) (a1 : Int32) (w : St) : SimN l D H0 yX3_lastLate (ws_ yX3_lastLate cX3_lastLate 2 (some (.int))) 3 68 rvI [lR a0, lI a1] w (f_X3_lastLate G a0 a1 w) := SimX.N (SimX.ofV (y := yX3_lastLate) (by decide) rfl (t_X3_lastLate hl G a0 a1 w))
abbrev V_X3_linksOf (l : Launch) (D : Dn) (H0 : Heap) (w0 : St) (res : Option (Int32 × St)) (pc : Nat) (ls : List (Nat × LV)) (st : List Value) (w : St) : Prop := V l D H0 RX3 "linksOf" cX3_linksOf 5 (some (.int)) [] 1 20 (fun x => .inr (rvI x)) w0 res pc ls st w
theorem t_X3_linksOf_b38 {l : Launch} {D : Dn} {H0 : Heap} {w0 : St} (hl : l.stackTraces = false) (G : Nat) (k5 : Rf → Int32 → Int32 → Int32 → Int32 → St → Option (Int32 × St)) (h5 : ∀ v0 v1 v2 v3 v4 w, V_X3_linksOf l D H0 w0 (k5 v0 v1 v2 v3 v4 w) 5 [(0, lR v0), (1, lI v1), (2, lI v2), (3, lI v3), (4, lI v4)] [] w) (v0 : Rf) (v1 : Int32) (v2 : Int32) (v4 : Int32) (s0 : Int32) (s1 : Int32) (w : St) : V_X3_linksOf l D H0 w0 (f_X3_linksOf_b38 G k5 v0 v1 v2 v4 s0 s1 w) 38 [(0, lR v0), (1, lI v1), (2, lI v2), (4, lI v4)] [.int s0, .int s1] w := by
  unfold f_X3_linksOf_b38
  refine r_iadd 39 dX3_linksOf_38 rfl ?_
  refine r_istore_n (ls2 := [(3, lI (s1 + s0)), (0, lR v0), (1, lI v1), (2, lI v2), (4, lI v4)]) 40 dX3_linksOf_39 rfl (by decide) rfl rfl ?_
  refine r_iinc (v := v4 + 1) (ls2 := [(4, lI (v4 + 1)), (3, lI (s1 + s0)), (0, lR v0), (1, lI v1), (2, lI v2)]) 43 4 dX3_linksOf_40 rfl rfl (by decide) rfl rfl ?_
  refine r_goto 5 dX3_linksOf_43 (by decide) ?_
  exact r_lsP [2, 3, 4, 1, 0] rfl (h5 v0 v1 v2 (s1 + s0) (v4 + 1) w)
theorem t_X3_linksOf_l5 {l : Launch} {D : Dn} {H0 : Heap} {w0 : St} (hl : l.stackTraces = false) (G : Nat) (k46 : Int32 → St → Option (Int32 × St)) (h46 : ∀ v3 w, V_X3_linksOf l D H0 w0 (k46 v3 w) 46 [(3, lI v3)] [] w) : ∀ (F : Nat) (v0 : Rf) (v1 : Int32) (v2 : Int32) (v3 : Int32) (v4 : Int32) (w : St), V_X3_linksOf l D H0 w0 (f_X3_linksOf_l5 G k46 F v0 v1 v2 v3 v4 w) 5 [(0, lR v0), (1, lI v1), (2, lI v2), (3, lI v3), (4, lI v4)] [] w := by
  intro F
  induction F with
  | zero => intros; exact r_none
  | succ F ih =>
    intro v0 v1 v2 v3 v4 w
    unfold f_X3_linksOf_l5
    refine r_iload 7 4 dX3_linksOf_5 rfl rfl ?_
    refine r_aload_n 8 0 dX3_linksOf_7 rfl rfl rfl ?_
    refine r_getr 11 gf_X3_9 dX3_linksOf_8 rfl (fun x8 => ?_)
    refine r_iconst (v := 1) 12 dX3_linksOf_11 rfl rfl ?_
    refine r_iald 13 dX3_linksOf_12 rfl (fun x12 => ?_)
    refine r_icmp_ge 46 16 dX3_linksOf_13 (by decide) rfl ?_ ?_
    · exact r_lsP [3] rfl (h46 v3 w)
    refine r_iload_n 17 3 dX3_linksOf_16 rfl rfl rfl ?_
    refine r_aload_n 18 0 dX3_linksOf_17 rfl rfl rfl ?_
    refine r_getr 21 gf_X3_9 dX3_linksOf_18 rfl (fun x18 => ?_)
    refine r_iload 23 4 dX3_linksOf_21 rfl rfl ?_
    refine r_callS (n := 1) (as := [lI v4]) (rest := [rf x18, .int v3]) 26 (s_X3_ofLink hl G v4 w) (lw_S q2358 q2359 q110 q2360) (by decide +kernel) (by decide) rfl rfl (cat2_r (cat2_i (cat2_nil (k := 0)))) rfl dX3_linksOf_23 rfl (fun x23 w23 => ?_)
    refine r_iload_n 27 2 dX3_linksOf_26 rfl rfl rfl ?_
    refine r_iadd 28 dX3_linksOf_27 rfl ?_
    refine r_iald 29 dX3_linksOf_28 rfl (fun x28 => ?_)
    refine r_iload_n 30 1 dX3_linksOf_29 rfl rfl rfl ?_
    refine r_icmp_ne 37 33 dX3_linksOf_30 (by decide) rfl ?_ ?_
    · refine r_iconst (v := 0) 38 dX3_linksOf_37 rfl rfl ?_
      exact r_lsP [0, 1, 2, 4] rfl (t_X3_linksOf_b38 hl G (fun v0 v1 v2 v3 v4 w => f_X3_linksOf_l5 G k46 F v0 v1 v2 v3 v4 w) (fun v0 v1 v2 v3 v4 w => ih v0 v1 v2 v3 v4 w)  v0 v1 v2 v4 0 v3 w23)
    refine r_iconst (v := 1) 34 dX3_linksOf_33 rfl rfl ?_
    refine r_goto 38 dX3_linksOf_34 (by decide) ?_
    exact r_lsP [0, 1, 2, 4] rfl (t_X3_linksOf_b38 hl G (fun v0 v1 v2 v3 v4 w => f_X3_linksOf_l5 G k46 F v0 v1 v2 v3 v4 w) (fun v0 v1 v2 v3 v4 w => ih v0 v1 v2 v3 v4 w)  v0 v1 v2 v4 1 v3 w23)
theorem t_X3_linksOf_b46 {l : Launch} {D : Dn} {H0 : Heap} {w0 : St} (hl : l.stackTraces = false) (G : Nat) (v3 : Int32) (w : St) : V_X3_linksOf l D H0 w0 (f_X3_linksOf_b46 G v3 w) 46 [(3, lI v3)] [] w := by
  unfold f_X3_linksOf_b46
  refine r_iload_n 47 0 dX3_linksOf_46 rfl rfl rfl ?_
  exact r_iret rfl rfl dX3_linksOf_47
theorem t_X3_linksOf {l : Launch} {D : Dn} {H0 : Heap} {w0 : St} (hl : l.stackTraces = false) (G : Nat) (a0 : Rf) (a1 : Int32) (a2 : Int32) (w : St) : V_X3_linksOf l D H0 w0 (f_X3_linksOf G a0 a1 a2 w) 0 [(0, lR a0), (1, lI a1), (2, lI a2)] [] w := by
  unfold f_X3_linksOf
  refine r_iconst (v := 0) 1 dX3_linksOf_0 rfl rfl ?_
  refine r_istore_n (ls2 := [(3, lI 0), (0, lR a0), (1, lI a1), (2, lI a2)]) 2 dX3_linksOf_1 rfl (by decide) rfl rfl ?_
  refine r_iconst (v := 0) 3 dX3_linksOf_2 rfl rfl ?_
  refine r_istore (ls2 := [(4, lI 0), (3, lI 0), (0, lR a0), (1, lI a1), (2, lI a2)]) 5 dX3_linksOf_3 (by decide) rfl rfl ?_
  exact r_lsP [2, 3, 4, 1, 0] rfl (t_X3_linksOf_l5 hl G (fun v3 w => f_X3_linksOf_b46 G  v3 w) (fun v3 w => t_X3_linksOf_b46 hl G  v3 w) G a0 a1 a2 0 0 w)
theorem s_X3_linksOf {l : Launch} {D : Dn} {H0 : Heap} (hl : l.stackTraces = false) (G : Nat) (a0 : Rf) (a1 : Int32) (a2 : Int32) (w : St) : SimN l D H0 yX3_linksOf (ws_ yX3_linksOf cX3_linksOf 5 (some (.int))) 1 20 rvI [lR a0, lI a1, lI a2] w (f_X3_linksOf G a0 a1 a2 w) := SimX.N (SimX.ofV (y := yX3_linksOf) (by decide) rfl (t_X3_linksOf hl G a0 a1 a2 w))
abbrev V_X3_coachOf (l : Launch) (D : Dn) (H0 : Heap) (w0 : St) (res : Option (Int32 × St)) (pc : Nat) (ls : List (Nat × LV)) (st : List Value) (w : St) : Prop := V l D H0 RX3 "coachOf" cX3_coachOf 3 (some (.int)) [] 7 163 (fun x => .inr (rvI x)) w0 res pc ls st w
theorem t_X3_coachOf {l : Launch} {D : Dn} {H0 : Heap} {w0 : St} (hl : l.stackTraces = false) (G : Nat) (a0 : Rf) (a1 : Int32) (a2 : Int32) (w : St) : V_X3_coachOf l D H0 w0 (f_X3_coachOf G a0 a1 a2 w) 0 [(0, lR a0), (1, lI a1), (2, lI a2)] [] w := by
  unfold f_X3_coachOf
  refine r_aload_n 1 0 dX3_coachOf_0 rfl rfl rfl ?_
  refine r_iconst (v := 0) 2 dX3_coachOf_1 rfl rfl ?_
  refine r_puti 5 pf_X3_69 dX3_coachOf_2 rfl (fun w2 => ?_)
  refine r_aload_n 6 0 dX3_coachOf_5 rfl rfl rfl ?_
  refine r_iload_n 7 1 dX3_coachOf_6 rfl rfl rfl ?_
  refine r_gd (fun hc7 => ?_)
  refine r_callV (n := 1) (as := [lI a1]) (rest := []) 10 26 (s_X3_isCoach hl G a0 a1 w2) hc7 rfl (lw_V q2317 q2319 qs45 q110 q2320) (by decide +kernel) (by decide) rfl rfl (cat2_nil (k := 0)) rfl dX3_coachOf_7 rfl (fun x7 w7 => ?_)
  refine r_if_ne 19 13 dX3_coachOf_10 (by decide) rfl ?_ ?_
  · refine r_aload_n 20 0 dX3_coachOf_19 rfl rfl rfl ?_
    refine r_iconst (v := (-1)) 21 dX3_coachOf_20 rfl rfl ?_
    refine r_iconst (v := (-1)) 22 dX3_coachOf_21 rfl rfl ?_
    refine r_gd (fun hc22 => ?_)
    refine r_callV (n := 2) (as := [lI ((-1)), lI ((-1))]) (rest := []) 25 26 (s_X3_laysMinutes hl G a0 ((-1)) ((-1)) w7) hc22 rfl (lw_V q2390 q2392 qs57 q110 q2393) (by decide +kernel) (by decide) rfl rfl (cat2_nil (k := 0)) rfl dX3_coachOf_22 rfl (fun _ w22 => ?_)
    refine r_iload_n 26 2 dX3_coachOf_25 rfl rfl rfl ?_
    refine r_if (fun hs => ?_) (fun hs0 => ?_)
    · refine r_tswIn 68 dX3_coachOf_26 (z := 0) (by rw [hs]; rfl) (by decide) (by decide) rfl (by decide) ?_
      refine r_aload_n 69 0 dX3_coachOf_68 rfl rfl rfl ?_
      refine r_iload_n 70 1 dX3_coachOf_69 rfl rfl rfl ?_
      refine r_gd (fun hc70 => ?_)
      refine r_callV (n := 1) (as := [lI a1]) (rest := []) 73 26 (s_X3_stops hl G a0 a1 w22) hc70 rfl (lw_V q2325 q2327 qs47 q110 q2328) (by decide +kernel) (by decide) rfl rfl (cat2_nil (k := 0)) rfl dX3_coachOf_70 rfl (fun x70 w70 => ?_)
      exact r_iret rfl rfl dX3_coachOf_73
    refine r_if (fun hs => ?_) (fun hs1 => ?_)
    · refine r_tswIn 74 dX3_coachOf_26 (z := 1) (by rw [hs]; rfl) (by decide) (by decide) rfl (by decide) ?_
      refine r_aload_n 75 0 dX3_coachOf_74 rfl rfl rfl ?_
      refine r_iload_n 76 1 dX3_coachOf_75 rfl rfl rfl ?_
      refine r_gd (fun hc76 => ?_)
      refine r_callV (n := 1) (as := [lI a1]) (rest := []) 79 26 (s_X3_ownAll hl G a0 a1 w22) hc76 rfl (lw_V q2458 q2460 qs72 q110 q2461) (by decide +kernel) (by decide) rfl rfl (cat2_nil (k := 0)) rfl dX3_coachOf_76 rfl (fun x76 w76 => ?_)
      exact r_iret rfl rfl dX3_coachOf_79
    refine r_if (fun hs => ?_) (fun hs2 => ?_)
    · refine r_tswIn 80 dX3_coachOf_26 (z := 2) (by rw [hs]; rfl) (by decide) (by decide) rfl (by decide) ?_
      refine r_aload_n 81 0 dX3_coachOf_80 rfl rfl rfl ?_
      refine r_iload_n 82 1 dX3_coachOf_81 rfl rfl rfl ?_
      refine r_gd (fun hc82 => ?_)
      refine r_callV (n := 1) (as := [lI a1]) (rest := []) 85 26 (s_X3_lastLate hl G a0 a1 w22) hc82 rfl (lw_V q2462 q2464 qs73 q110 q2465) (by decide +kernel) (by decide) rfl rfl (cat2_nil (k := 0)) rfl dX3_coachOf_82 rfl (fun x82 w82 => ?_)
      exact r_iret rfl rfl dX3_coachOf_85
    refine r_if (fun hs => ?_) (fun hs3 => ?_)
    · refine r_tswIn 86 dX3_coachOf_26 (z := 3) (by rw [hs]; rfl) (by decide) (by decide) rfl (by decide) ?_
      refine r_aload_n 87 0 dX3_coachOf_86 rfl rfl rfl ?_
      refine r_iload_n 88 1 dX3_coachOf_87 rfl rfl rfl ?_
      refine r_gd (fun hc88 => ?_)
      refine r_callV (n := 1) (as := [lI a1]) (rest := []) 91 26 (s_X3_into hl G a0 a1 w22) hc88 rfl (lw_V q2321 q2323 qs46 q110 q2324) (by decide +kernel) (by decide) rfl rfl (cat2_nil (k := 0)) rfl dX3_coachOf_88 rfl (fun x88 w88 => ?_)
      exact r_iret rfl rfl dX3_coachOf_91
    refine r_if (fun hs => ?_) (fun hs4 => ?_)
    · refine r_tswIn 92 dX3_coachOf_26 (z := 4) (by rw [hs]; rfl) (by decide) (by decide) rfl (by decide) ?_
      refine r_aload_n 93 0 dX3_coachOf_92 rfl rfl rfl ?_
      refine r_iload_n 94 1 dX3_coachOf_93 rfl rfl rfl ?_
      refine r_gd (fun hc94 => ?_)
      refine r_callV (n := 1) (as := [lI a1]) (rest := []) 97 26 (s_X3_turnsInto hl G a0 a1 w22) hc94 rfl (lw_V q2341 q2343 qs50 q110 q2344) (by decide +kernel) (by decide) rfl rfl (cat2_nil (k := 0)) rfl dX3_coachOf_94 rfl (fun x94 w94 => ?_)
      exact r_iret rfl rfl dX3_coachOf_97
    refine r_if (fun hs => ?_) (fun hs5 => ?_)
    · refine r_tswIn 98 dX3_coachOf_26 (z := 5) (by rw [hs]; rfl) (by decide) (by decide) rfl (by decide) ?_
      refine r_aload_n 99 0 dX3_coachOf_98 rfl rfl rfl ?_
      refine r_iload_n 100 1 dX3_coachOf_99 rfl rfl rfl ?_
      refine r_iconst (v := 0) 101 dX3_coachOf_100 rfl rfl ?_
      refine r_gd (fun hc101 => ?_)
      refine r_callV (n := 2) (as := [lI a1, lI 0]) (rest := []) 104 26 (s_X3_linksOf hl G a0 a1 0 w22) hc101 rfl (lw_V q2466 q2468 qs74 q110 q2469) (by decide +kernel) (by decide) rfl rfl (cat2_nil (k := 0)) rfl dX3_coachOf_101 rfl (fun x101 w101 => ?_)
      exact r_iret rfl rfl dX3_coachOf_104
    refine r_if (fun hs => ?_) (fun hs6 => ?_)
    · refine r_tswIn 105 dX3_coachOf_26 (z := 6) (by rw [hs]; rfl) (by decide) (by decide) rfl (by decide) ?_
      refine r_aload_n 106 0 dX3_coachOf_105 rfl rfl rfl ?_
      refine r_iload_n 107 1 dX3_coachOf_106 rfl rfl rfl ?_
      refine r_iconst (v := 2) 108 dX3_coachOf_107 rfl rfl ?_
      refine r_gd (fun hc108 => ?_)
      refine r_callV (n := 2) (as := [lI a1, lI 2]) (rest := []) 111 26 (s_X3_linksOf hl G a0 a1 2 w22) hc108 rfl (lw_V q2466 q2468 qs74 q110 q2469) (by decide +kernel) (by decide) rfl rfl (cat2_nil (k := 0)) rfl dX3_coachOf_108 rfl (fun x108 w108 => ?_)
      exact r_iret rfl rfl dX3_coachOf_111
    have hs0 := neI hs0 (z := 0) rfl
    have hs1 := neI hs1 (z := 1) rfl
    have hs2 := neI hs2 (z := 2) rfl
    have hs3 := neI hs3 (z := 3) rfl
    have hs4 := neI hs4 (z := 4) rfl
    have hs5 := neI hs5 (z := 5) rfl
    have hs6 := neI hs6 (z := 6) rfl
    refine r_tswOut 112 dX3_coachOf_26 (by omega) (by decide) ?_
    refine r_aload_n 113 0 dX3_coachOf_112 rfl rfl rfl ?_
    refine r_iconst (v := 2) 114 dX3_coachOf_113 rfl rfl ?_
    refine r_gd (fun hc114 => ?_)
    refine r_callV (n := 1) (as := [lI 2]) (rest := []) 117 26 (s_X3_throwing hl G a0 2 w22) hc114 rfl (lw_V q2298 q2300 qs42 q110 q2301) (by decide +kernel) (by decide) rfl rfl (cat2_nil (k := 0)) rfl dX3_coachOf_114 rfl (fun x114 w114 => ?_)
    exact r_iret rfl rfl dX3_coachOf_117
  refine r_aload_n 14 0 dX3_coachOf_13 rfl rfl rfl ?_
  refine r_iconst (v := 1) 15 dX3_coachOf_14 rfl rfl ?_
  refine r_gd (fun hc15 => ?_)
  refine r_callV (n := 1) (as := [lI 1]) (rest := []) 18 26 (s_X3_throwing hl G a0 1 w7) hc15 rfl (lw_V q2298 q2300 qs42 q110 q2301) (by decide +kernel) (by decide) rfl rfl (cat2_nil (k := 0)) rfl dX3_coachOf_15 rfl (fun x15 w15 => ?_)
  exact r_iret rfl rfl dX3_coachOf_18
theorem s_X3_coachOf {l : Launch} {D : Dn} {H0 : Heap} (hl : l.stackTraces = false) (G : Nat) (a0 : Rf) (a1 : Int32) (a2 : Int32) (w : St) : SimN l D H0 yX3_coachOf (ws_ yX3_coachOf cX3_coachOf 3 (some (.int))) 7 163 rvI [lR a0, lI a1, lI a2] w (f_X3_coachOf G a0 a1 a2 w) := SimX.N (SimX.ofV (y := yX3_coachOf) (by decide) rfl (t_X3_coachOf hl G a0 a1 a2 w))
abbrev V_X3_stopOf (l : Launch) (D : Dn) (H0 : Heap) (w0 : St) (res : Option (Int32 × St)) (pc : Nat) (ls : List (Nat × LV)) (st : List Value) (w : St) : Prop := V l D H0 RX3 "stopOf" cX3_stopOf 4 (some (.int)) [] 2 46 (fun x => .inr (rvI x)) w0 res pc ls st w
theorem t_X3_stopOf_b30 {l : Launch} {D : Dn} {H0 : Heap} {w0 : St} (hl : l.stackTraces = false) (G : Nat) (v0 : Rf) (w : St) : V_X3_stopOf l D H0 w0 (f_X3_stopOf_b30 G v0 w) 30 [(0, lR v0)] [] w := by
  unfold f_X3_stopOf_b30
  refine r_aload_n 31 0 dX3_stopOf_30 rfl rfl rfl ?_
  refine r_iconst (v := 1) 32 dX3_stopOf_31 rfl rfl ?_
  refine r_gd (fun hc32 => ?_)
  refine r_callV (n := 1) (as := [lI 1]) (rest := []) 35 26 (s_X3_throwing hl G v0 1 w) hc32 rfl (lw_V q2298 q2300 qs42 q110 q2301) (by decide +kernel) (by decide) rfl rfl (cat2_nil (k := 0)) rfl dX3_stopOf_32 rfl (fun x32 w32 => ?_)
  exact r_iret rfl rfl dX3_stopOf_35
theorem t_X3_stopOf {l : Launch} {D : Dn} {H0 : Heap} {w0 : St} (hl : l.stackTraces = false) (G : Nat) (a0 : Rf) (a1 : Int32) (a2 : Int32) (a3 : Int32) (w : St) : V_X3_stopOf l D H0 w0 (f_X3_stopOf G a0 a1 a2 a3 w) 0 [(0, lR a0), (1, lI a1), (2, lI a2), (3, lI a3)] [] w := by
  unfold f_X3_stopOf
  refine r_aload_n 1 0 dX3_stopOf_0 rfl rfl rfl ?_
  refine r_iconst (v := 0) 2 dX3_stopOf_1 rfl rfl ?_
  refine r_puti 5 pf_X3_69 dX3_stopOf_2 rfl (fun w2 => ?_)
  refine r_aload_n 6 0 dX3_stopOf_5 rfl rfl rfl ?_
  refine r_iload_n 7 1 dX3_stopOf_6 rfl rfl rfl ?_
  refine r_gd (fun hc7 => ?_)
  refine r_callV (n := 1) (as := [lI a1]) (rest := []) 10 26 (s_X3_isCoach hl G a0 a1 w2) hc7 rfl (lw_V q2317 q2319 qs45 q110 q2320) (by decide +kernel) (by decide) rfl rfl (cat2_nil (k := 0)) rfl dX3_stopOf_7 rfl (fun x7 w7 => ?_)
  refine r_if_eq 30 13 dX3_stopOf_10 (by decide) rfl ?_ ?_
  · exact r_lsP [0] rfl (t_X3_stopOf_b30 hl G  a0 w7)
  refine r_iload_n 14 2 dX3_stopOf_13 rfl rfl rfl ?_
  refine r_i2l 15 dX3_stopOf_14 rfl ?_
  refine r_lconst (v := 0) 16 dX3_stopOf_15 rfl rfl ?_
  refine r_aload_n 17 0 dX3_stopOf_16 rfl rfl rfl ?_
  refine r_iload_n 18 1 dX3_stopOf_17 rfl rfl rfl ?_
  refine r_gd (fun hc18 => ?_)
  refine r_callV (n := 1) (as := [lI a1]) (rest := [.long 0, .long a2.toInt64]) 21 26 (s_X3_stops hl G a0 a1 w7) hc18 rfl (lw_V q2325 q2327 qs47 q110 q2328) (by decide +kernel) (by decide) rfl rfl (cat2_j (cat2_j (cat2_nil (k := 0)))) rfl dX3_stopOf_18 rfl (fun x18 w18 => ?_)
  refine r_iconst (v := 1) 22 dX3_stopOf_21 rfl rfl ?_
  refine r_isub 23 dX3_stopOf_22 rfl ?_
  refine r_i2l 24 dX3_stopOf_23 rfl ?_
  refine r_callS (n := 3) (as := [lJ a2.toInt64, lJ 0, lJ ((x18 - 1).toInt64)]) (rest := []) 27 (s_X3_in hl G a2.toInt64 0 ((x18 - 1).toInt64) w18) (lw_S q2290 q2291 q110 q2292) (by decide +kernel) (by decide) rfl rfl (cat2_nil (k := 0)) rfl dX3_stopOf_24 rfl (fun x24 w24 => ?_)
  refine r_if_ne 36 30 dX3_stopOf_27 (by decide) rfl ?_ ?_
  · refine r_iload_n 37 3 dX3_stopOf_36 rfl rfl rfl ?_
    refine r_i2l 38 dX3_stopOf_37 rfl ?_
    refine r_lconst (v := 0) 39 dX3_stopOf_38 rfl rfl ?_
    refine r_ldc2J 42 q2474 dX3_stopOf_39 rfl ?_
    refine r_callS (n := 3) (as := [lJ a3.toInt64, lJ 0, lJ 4]) (rest := []) 45 (s_X3_in hl G a3.toInt64 0 4 w24) (lw_S q2290 q2291 q110 q2292) (by decide +kernel) (by decide) rfl rfl (cat2_nil (k := 0)) rfl dX3_stopOf_42 rfl (fun x42 w42 => ?_)
    refine r_if_eq 63 48 dX3_stopOf_45 (by decide) rfl ?_ ?_
    · refine r_aload_n 64 0 dX3_stopOf_63 rfl rfl rfl ?_
      refine r_iconst (v := 2) 65 dX3_stopOf_64 rfl rfl ?_
      refine r_gd (fun hc65 => ?_)
      refine r_callV (n := 1) (as := [lI 2]) (rest := []) 68 26 (s_X3_throwing hl G a0 2 w42) hc65 rfl (lw_V q2298 q2300 qs42 q110 q2301) (by decide +kernel) (by decide) rfl rfl (cat2_nil (k := 0)) rfl dX3_stopOf_65 rfl (fun x65 w65 => ?_)
      exact r_iret rfl rfl dX3_stopOf_68
    refine r_aload_n 49 0 dX3_stopOf_48 rfl rfl rfl ?_
    refine r_getr 52 gf_X3_9 dX3_stopOf_49 rfl (fun x49 => ?_)
    refine r_iload_n 53 1 dX3_stopOf_52 rfl rfl rfl ?_
    refine r_iload_n 54 2 dX3_stopOf_53 rfl rfl rfl ?_
    refine r_callS (n := 2) (as := [lI a1, lI a2]) (rest := [rf x49]) 57 (s_X3_ofStop hl G a1 a2 w42) (lw_S q2302 q2303 q110 q2304) (by decide +kernel) (by decide) rfl rfl (cat2_r (cat2_nil (k := 0))) rfl dX3_stopOf_54 rfl (fun x54 w54 => ?_)
    refine r_iload_n 58 3 dX3_stopOf_57 rfl rfl rfl ?_
    refine r_iadd 59 dX3_stopOf_58 rfl ?_
    refine r_iald 60 dX3_stopOf_59 rfl (fun x59 => ?_)
    refine r_goto 68 dX3_stopOf_60 (by decide) ?_
    exact r_iret rfl rfl dX3_stopOf_68
  exact r_lsP [0] rfl (t_X3_stopOf_b30 hl G  a0 w24)
theorem s_X3_stopOf {l : Launch} {D : Dn} {H0 : Heap} (hl : l.stackTraces = false) (G : Nat) (a0 : Rf) (a1 : Int32) (a2 : Int32) (a3 : Int32) (w : St) : SimN l D H0 yX3_stopOf (ws_ yX3_stopOf cX3_stopOf 4 (some (.int))) 2 46 rvI [lR a0, lI a1, lI a2, lI a3] w (f_X3_stopOf G a0 a1 a2 a3 w) := SimX.N (SimX.ofV (y := yX3_stopOf) (by decide) rfl (t_X3_stopOf hl G a0 a1 a2 a3 w))
abbrev V_X3_isOne (l : Launch) (D : Dn) (H0 : Heap) (w0 : St) (res : Option (Int32 × St)) (pc : Nat) (ls : List (Nat × LV)) (st : List Value) (w : St) : Prop := V l D H0 RX3 "isOne" cX3_isOne 4 (some (.boolean)) [] 2 48 (fun x => .inr (rvI x)) w0 res pc ls st w
theorem t_X3_isOne_b24 {l : Launch} {D : Dn} {H0 : Heap} {w0 : St} (hl : l.stackTraces = false) (G : Nat) (v0 : Rf) (s0 : Int32) (s1 : Rf) (w : St) : V_X3_isOne l D H0 w0 (f_X3_isOne_b24 G v0 s0 s1 w) 24 [(0, lR v0)] [.int s0, rf s1] w := by
  unfold f_X3_isOne_b24
  refine r_puti 27 pf_X3_69 dX3_isOne_24 rfl (fun w24 => ?_)
  refine r_aload_n 28 0 dX3_isOne_27 rfl rfl rfl ?_
  refine r_geti 31 gf_X3_69 dX3_isOne_28 rfl (fun x28 => ?_)
  refine r_if_ne 38 34 dX3_isOne_31 (by decide) rfl ?_ ?_
  · refine r_iconst (v := 0) 39 dX3_isOne_38 rfl rfl ?_
    exact r_zret rfl rfl rfl dX3_isOne_39
  refine r_iconst (v := 1) 35 dX3_isOne_34 rfl rfl ?_
  refine r_goto 39 dX3_isOne_35 (by decide) ?_
  exact r_zret rfl rfl rfl dX3_isOne_39
theorem t_X3_isOne_b23 {l : Launch} {D : Dn} {H0 : Heap} {w0 : St} (hl : l.stackTraces = false) (G : Nat) (v0 : Rf) (s0 : Rf) (w : St) : V_X3_isOne l D H0 w0 (f_X3_isOne_b23 G v0 s0 w) 23 [(0, lR v0)] [rf s0] w := by
  unfold f_X3_isOne_b23
  refine r_iconst (v := 1) 24 dX3_isOne_23 rfl rfl ?_
  exact r_lsP [0] rfl (t_X3_isOne_b24 hl G  v0 1 s0 w)
theorem t_X3_isOne {l : Launch} {D : Dn} {H0 : Heap} {w0 : St} (hl : l.stackTraces = false) (G : Nat) (a0 : Rf) (a1 : Int32) (a2 : Int32) (a3 : Int32) (w : St) : V_X3_isOne l D H0 w0 (f_X3_isOne G a0 a1 a2 a3 w) 0 [(0, lR a0), (1, lI a1), (2, lI a2), (3, lI a3)] [] w := by
  unfold f_X3_isOne
  refine r_aload_n 1 0 dX3_isOne_0 rfl rfl rfl ?_
  refine r_aload_n 2 0 dX3_isOne_1 rfl rfl rfl ?_
  refine r_iload_n 3 1 dX3_isOne_2 rfl rfl rfl ?_
  refine r_gd (fun hc3 => ?_)
  refine r_callV (n := 1) (as := [lI a1]) (rest := [rf a0]) 6 26 (s_X3_isCoach hl G a0 a1 w) hc3 rfl (lw_V q2317 q2319 qs45 q110 q2320) (by decide +kernel) (by decide) rfl rfl (cat2_r (cat2_nil (k := 0))) rfl dX3_isOne_3 rfl (fun x3 w3 => ?_)
  refine r_if_eq 23 9 dX3_isOne_6 (by decide) rfl ?_ ?_
  · exact r_lsP [0] rfl (t_X3_isOne_b23 hl G  a0 a0 w3)
  refine r_aload_n 10 0 dX3_isOne_9 rfl rfl rfl ?_
  refine r_iload_n 11 1 dX3_isOne_10 rfl rfl rfl ?_
  refine r_iload_n 12 2 dX3_isOne_11 rfl rfl rfl ?_
  refine r_iload_n 13 3 dX3_isOne_12 rfl rfl rfl ?_
  refine r_gd (fun hc13 => ?_)
  refine r_callV (n := 3) (as := [lI a1, lI a2, lI a3]) (rest := [rf a0]) 16 26 (s_X3_isEvent hl G a0 a1 a2 a3 w3) hc13 rfl (lw_V q2353 q2355 qs52 q110 q2356) (by decide +kernel) (by decide) rfl rfl (cat2_r (cat2_nil (k := 0))) rfl dX3_isOne_13 rfl (fun x13 w13 => ?_)
  refine r_if_eq 23 19 dX3_isOne_16 (by decide) rfl ?_ ?_
  · exact r_lsP [0] rfl (t_X3_isOne_b23 hl G  a0 a0 w13)
  refine r_iconst (v := 0) 20 dX3_isOne_19 rfl rfl ?_
  refine r_goto 24 dX3_isOne_20 (by decide) ?_
  exact r_lsP [0] rfl (t_X3_isOne_b24 hl G  a0 0 a0 w13)
theorem s_X3_isOne {l : Launch} {D : Dn} {H0 : Heap} (hl : l.stackTraces = false) (G : Nat) (a0 : Rf) (a1 : Int32) (a2 : Int32) (a3 : Int32) (w : St) : SimN l D H0 yX3_isOne (ws_ yX3_isOne cX3_isOne 4 (some (.boolean))) 2 48 rvI [lR a0, lI a1, lI a2, lI a3] w (f_X3_isOne G a0 a1 a2 a3 w) := SimX.N (SimX.ofV (y := yX3_isOne) (by decide) rfl (t_X3_isOne hl G a0 a1 a2 a3 w))
abbrev V_X3_cause (l : Launch) (D : Dn) (H0 : Heap) (w0 : St) (res : Option (Int32 × St)) (pc : Nat) (ls : List (Nat × LV)) (st : List Value) (w : St) : Prop := V l D H0 RX3 "cause" cX3_cause 5 (some (.int)) [] 3 68 (fun x => .inr (rvI x)) w0 res pc ls st w
theorem t_X3_cause {l : Launch} {D : Dn} {H0 : Heap} {w0 : St} (hl : l.stackTraces = false) (G : Nat) (a0 : Rf) (a1 : Int32) (a2 : Int32) (a3 : Int32) (w : St) : V_X3_cause l D H0 w0 (f_X3_cause G a0 a1 a2 a3 w) 0 [(0, lR a0), (1, lI a1), (2, lI a2), (3, lI a3)] [] w := by
  unfold f_X3_cause
  refine r_aload_n 1 0 dX3_cause_0 rfl rfl rfl ?_
  refine r_getr 4 gf_X3_44 dX3_cause_1 rfl (fun x1 => ?_)
  refine r_iload_n 5 1 dX3_cause_4 rfl rfl rfl ?_
  refine r_iload_n 6 2 dX3_cause_5 rfl rfl rfl ?_
  refine r_iload_n 7 3 dX3_cause_6 rfl rfl rfl ?_
  refine r_callS (n := 3) (as := [lI a1, lI a2, lI a3]) (rest := [rf x1]) 10 (s_X3_ofEvent hl G a1 a2 a3 w) (lw_S q2394 q2395 q110 q2396) (by decide +kernel) (by decide) rfl rfl (cat2_r (cat2_nil (k := 0))) rfl dX3_cause_7 rfl (fun x7 w7 => ?_)
  refine r_iald 11 dX3_cause_10 rfl (fun x10 => ?_)
  refine r_istore (ls2 := [(4, lI x10), (0, lR a0), (1, lI a1), (2, lI a2), (3, lI a3)]) 13 dX3_cause_11 (by decide) rfl rfl ?_
  refine r_iload 15 0 dX3_cause_13 rfl rfl ?_
  refine r_aload_n 16 1 dX3_cause_15 rfl rfl rfl ?_
  refine r_iload_n 17 2 dX3_cause_16 rfl rfl rfl ?_
  refine r_iload_n 18 3 dX3_cause_17 rfl rfl rfl ?_
  refine r_iload_n 19 4 dX3_cause_18 rfl rfl rfl ?_
  refine r_gd (fun hc19 => ?_)
  refine r_callV (n := 3) (as := [lI a1, lI a2, lI a3]) (rest := [.int x10]) 22 26 (s_X3_planned hl G a0 a1 a2 a3 w7) hc19 rfl (lw_V q2329 q2331 qs48 q110 q2332) (by decide +kernel) (by decide) rfl rfl (cat2_i (cat2_nil (k := 0))) rfl dX3_cause_19 rfl (fun x19 w19 => ?_)
  refine r_icmp_ne 27 25 dX3_cause_22 (by decide) rfl ?_ ?_
  · refine r_iload_n 28 4 dX3_cause_27 rfl rfl rfl ?_
    refine r_if_eq 42 31 dX3_cause_28 (by decide) rfl ?_ ?_
    · refine r_iconst (v := 1) 43 dX3_cause_42 rfl rfl ?_
      exact r_iret rfl rfl dX3_cause_43
    refine r_iload 33 0 dX3_cause_31 rfl rfl ?_
    refine r_aload_n 34 1 dX3_cause_33 rfl rfl rfl ?_
    refine r_iload_n 35 2 dX3_cause_34 rfl rfl rfl ?_
    refine r_iload_n 36 3 dX3_cause_35 rfl rfl rfl ?_
    refine r_gd (fun hc36 => ?_)
    refine r_callV (n := 2) (as := [lI a1, lI a2]) (rest := [.int x10]) 39 26 (s_X3_byStay hl G a0 a1 a2 w19) hc36 rfl (lw_V q2418 q2420 qs63 q110 q2421) (by decide +kernel) (by decide) rfl rfl (cat2_i (cat2_nil (k := 0))) rfl dX3_cause_36 rfl (fun x36 w36 => ?_)
    refine r_icmp_ne 44 42 dX3_cause_39 (by decide) rfl ?_ ?_
    · refine r_iload 46 0 dX3_cause_44 rfl rfl ?_
      refine r_aload_n 47 1 dX3_cause_46 rfl rfl rfl ?_
      refine r_iload_n 48 2 dX3_cause_47 rfl rfl rfl ?_
      refine r_iload_n 49 3 dX3_cause_48 rfl rfl rfl ?_
      refine r_gd (fun hc49 => ?_)
      refine r_callV (n := 2) (as := [lI a1, lI a2]) (rest := [.int x10]) 52 26 (s_X3_byTurn hl G a0 a1 a2 w36) hc49 rfl (lw_V q2422 q2424 qs64 q110 q2425) (by decide +kernel) (by decide) rfl rfl (cat2_i (cat2_nil (k := 0))) rfl dX3_cause_49 rfl (fun x49 w49 => ?_)
      refine r_icmp_ne 59 55 dX3_cause_52 (by decide) rfl ?_ ?_
      · refine r_iconst (v := 3) 60 dX3_cause_59 rfl rfl ?_
        exact r_iret rfl rfl dX3_cause_60
      refine r_iconst (v := 2) 56 dX3_cause_55 rfl rfl ?_
      refine r_goto 60 dX3_cause_56 (by decide) ?_
      exact r_iret rfl rfl dX3_cause_60
    refine r_iconst (v := 1) 43 dX3_cause_42 rfl rfl ?_
    exact r_iret rfl rfl dX3_cause_43
  refine r_iconst (v := 0) 26 dX3_cause_25 rfl rfl ?_
  exact r_iret rfl rfl dX3_cause_26
theorem s_X3_cause {l : Launch} {D : Dn} {H0 : Heap} (hl : l.stackTraces = false) (G : Nat) (a0 : Rf) (a1 : Int32) (a2 : Int32) (a3 : Int32) (w : St) : SimN l D H0 yX3_cause (ws_ yX3_cause cX3_cause 5 (some (.int))) 3 68 rvI [lR a0, lI a1, lI a2, lI a3] w (f_X3_cause G a0 a1 a2 a3 w) := SimX.N (SimX.ofV (y := yX3_cause) (by decide) rfl (t_X3_cause hl G a0 a1 a2 a3 w))
abbrev V_X3_causeLink (l : Launch) (D : Dn) (H0 : Heap) (w0 : St) (res : Option (Int32 × St)) (pc : Nat) (ls : List (Nat × LV)) (st : List Value) (w : St) : Prop := V l D H0 RX3 "causeLink" cX3_causeLink 4 (some (.int)) [] 5 111 (fun x => .inr (rvI x)) w0 res pc ls st w
theorem t_X3_causeLink_b51 {l : Launch} {D : Dn} {H0 : Heap} {w0 : St} (hl : l.stackTraces = false) (G : Nat) (k2 : Rf → Int32 → Int32 → Int32 → St → Option (Int32 × St)) (h2 : ∀ v0 v1 v2 v3 w, V_X3_causeLink l D H0 w0 (k2 v0 v1 v2 v3 w) 2 [(0, lR v0), (1, lI v1), (2, lI v2), (3, lI v3)] [] w) (v0 : Rf) (v1 : Int32) (v2 : Int32) (v3 : Int32) (w : St) : V_X3_causeLink l D H0 w0 (f_X3_causeLink_b51 G k2 v0 v1 v2 v3 w) 51 [(0, lR v0), (1, lI v1), (2, lI v2), (3, lI v3)] [] w := by
  unfold f_X3_causeLink_b51
  refine r_iinc (v := v3 + 1) (ls2 := [(3, lI (v3 + 1)), (0, lR v0), (1, lI v1), (2, lI v2)]) 54 3 dX3_causeLink_51 rfl rfl (by decide) rfl rfl ?_
  refine r_goto 2 dX3_causeLink_54 (by decide) ?_
  exact r_lsP [1, 2, 3, 0] rfl (h2 v0 v1 v2 (v3 + 1) w)
theorem t_X3_causeLink_l2 {l : Launch} {D : Dn} {H0 : Heap} {w0 : St} (hl : l.stackTraces = false) (G : Nat) (k49 : Int32 → St → Option (Int32 × St)) (h49 : ∀ v3 w, V_X3_causeLink l D H0 w0 (k49 v3 w) 49 [(3, lI v3)] [] w) (k57 : St → Option (Int32 × St)) (h57 : ∀ w, V_X3_causeLink l D H0 w0 (k57 w) 57 [] [] w) : ∀ (F : Nat) (v0 : Rf) (v1 : Int32) (v2 : Int32) (v3 : Int32) (w : St), V_X3_causeLink l D H0 w0 (f_X3_causeLink_l2 G k49 k57 F v0 v1 v2 v3 w) 2 [(0, lR v0), (1, lI v1), (2, lI v2), (3, lI v3)] [] w := by
  intro F
  induction F with
  | zero => intros; exact r_none
  | succ F ih =>
    intro v0 v1 v2 v3 w
    unfold f_X3_causeLink_l2
    refine r_iload_n 3 3 dX3_causeLink_2 rfl rfl rfl ?_
    refine r_aload_n 4 0 dX3_causeLink_3 rfl rfl rfl ?_
    refine r_getr 7 gf_X3_9 dX3_causeLink_4 rfl (fun x4 => ?_)
    refine r_iconst (v := 1) 8 dX3_causeLink_7 rfl rfl ?_
    refine r_iald 9 dX3_causeLink_8 rfl (fun x8 => ?_)
    refine r_icmp_ge 57 12 dX3_causeLink_9 (by decide) rfl ?_ ?_
    · exact r_lsP [] rfl (h57 w)
    refine r_aload_n 13 0 dX3_causeLink_12 rfl rfl rfl ?_
    refine r_iload_n 14 3 dX3_causeLink_13 rfl rfl rfl ?_
    refine r_iload_n 15 1 dX3_causeLink_14 rfl rfl rfl ?_
    refine r_iload_n 16 2 dX3_causeLink_15 rfl rfl rfl ?_
    refine r_gd (fun hc16 => ?_)
    refine r_callV (n := 3) (as := [lI v3, lI v1, lI v2]) (rest := []) 19 26 (s_X3_isTo hl G v0 v3 v1 v2 w) hc16 rfl (lw_V q2426 q2428 qs65 q110 q2429) (by decide +kernel) (by decide) rfl rfl (cat2_nil (k := 0)) rfl dX3_causeLink_16 rfl (fun x16 w16 => ?_)
    refine r_if_eq 51 22 dX3_causeLink_19 (by decide) rfl ?_ ?_
    · exact r_lsP [0, 1, 2, 3] rfl (t_X3_causeLink_b51 hl G (fun v0 v1 v2 v3 w => f_X3_causeLink_l2 G k49 k57 F v0 v1 v2 v3 w) (fun v0 v1 v2 v3 w => ih v0 v1 v2 v3 w)  v0 v1 v2 v3 w16)
    refine r_aload_n 23 0 dX3_causeLink_22 rfl rfl rfl ?_
    refine r_iload_n 24 3 dX3_causeLink_23 rfl rfl rfl ?_
    refine r_gd (fun hc24 => ?_)
    refine r_callV (n := 1) (as := [lI v3]) (rest := []) 27 26 (s_X3_isKept hl G v0 v3 w16) hc24 rfl (lw_V q2430 q2432 qs66 q110 q2433) (by decide +kernel) (by decide) rfl rfl (cat2_nil (k := 0)) rfl dX3_causeLink_24 rfl (fun x24 w24 => ?_)
    refine r_if_eq 51 30 dX3_causeLink_27 (by decide) rfl ?_ ?_
    · exact r_lsP [0, 1, 2, 3] rfl (t_X3_causeLink_b51 hl G (fun v0 v1 v2 v3 w => f_X3_causeLink_l2 G k49 k57 F v0 v1 v2 v3 w) (fun v0 v1 v2 v3 w => ih v0 v1 v2 v3 w)  v0 v1 v2 v3 w24)
    refine r_aload_n 31 0 dX3_causeLink_30 rfl rfl rfl ?_
    refine r_iload_n 32 3 dX3_causeLink_31 rfl rfl rfl ?_
    refine r_gd (fun hc32 => ?_)
    refine r_callV (n := 1) (as := [lI v3]) (rest := []) 35 26 (s_X3_byLink hl G v0 v3 w24) hc32 rfl (lw_V q2434 q2436 qs67 q110 q2437) (by decide +kernel) (by decide) rfl rfl (cat2_nil (k := 0)) rfl dX3_causeLink_32 rfl (fun x32 w32 => ?_)
    refine r_aload_n 36 0 dX3_causeLink_35 rfl rfl rfl ?_
    refine r_getr 39 gf_X3_44 dX3_causeLink_36 rfl (fun x36 => ?_)
    refine r_iload_n 40 1 dX3_causeLink_39 rfl rfl rfl ?_
    refine r_iload_n 41 2 dX3_causeLink_40 rfl rfl rfl ?_
    refine r_iconst (v := 1) 42 dX3_causeLink_41 rfl rfl ?_
    refine r_callS (n := 3) (as := [lI v1, lI v2, lI 1]) (rest := [rf x36, .int x32]) 45 (s_X3_ofEvent hl G v1 v2 1 w32) (lw_S q2394 q2395 q110 q2396) (by decide +kernel) (by decide) rfl rfl (cat2_r (cat2_i (cat2_nil (k := 0)))) rfl dX3_causeLink_42 rfl (fun x42 w42 => ?_)
    refine r_iald 46 dX3_causeLink_45 rfl (fun x45 => ?_)
    refine r_icmp_ne 51 49 dX3_causeLink_46 (by decide) rfl ?_ ?_
    · exact r_lsP [0, 1, 2, 3] rfl (t_X3_causeLink_b51 hl G (fun v0 v1 v2 v3 w => f_X3_causeLink_l2 G k49 k57 F v0 v1 v2 v3 w) (fun v0 v1 v2 v3 w => ih v0 v1 v2 v3 w)  v0 v1 v2 v3 w42)
    exact r_lsP [3] rfl (h49 v3 w42)
theorem t_X3_causeLink_b49 {l : Launch} {D : Dn} {H0 : Heap} {w0 : St} (hl : l.stackTraces = false) (G : Nat) (v3 : Int32) (w : St) : V_X3_causeLink l D H0 w0 (f_X3_causeLink_b49 G v3 w) 49 [(3, lI v3)] [] w := by
  unfold f_X3_causeLink_b49
  refine r_iload_n 50 0 dX3_causeLink_49 rfl rfl rfl ?_
  exact r_iret rfl rfl dX3_causeLink_50
theorem t_X3_causeLink_b57 {l : Launch} {D : Dn} {H0 : Heap} {w0 : St} (hl : l.stackTraces = false) (G : Nat) (w : St) : V_X3_causeLink l D H0 w0 (f_X3_causeLink_b57 G  w) 57 [] [] w := by
  unfold f_X3_causeLink_b57
  refine r_iconst (v := (-1)) 58 dX3_causeLink_57 rfl rfl ?_
  exact r_iret rfl rfl dX3_causeLink_58
theorem t_X3_causeLink {l : Launch} {D : Dn} {H0 : Heap} {w0 : St} (hl : l.stackTraces = false) (G : Nat) (a0 : Rf) (a1 : Int32) (a2 : Int32) (w : St) : V_X3_causeLink l D H0 w0 (f_X3_causeLink G a0 a1 a2 w) 0 [(0, lR a0), (1, lI a1), (2, lI a2)] [] w := by
  unfold f_X3_causeLink
  refine r_iconst (v := 0) 1 dX3_causeLink_0 rfl rfl ?_
  refine r_istore_n (ls2 := [(3, lI 0), (0, lR a0), (1, lI a1), (2, lI a2)]) 2 dX3_causeLink_1 rfl (by decide) rfl rfl ?_
  exact r_lsP [1, 2, 3, 0] rfl (t_X3_causeLink_l2 hl G (fun v3 w => f_X3_causeLink_b49 G  v3 w) (fun v3 w => t_X3_causeLink_b49 hl G  v3 w) (fun w => f_X3_causeLink_b57 G  w) (fun w => t_X3_causeLink_b57 hl G  w) G a0 a1 a2 0 w)
theorem s_X3_causeLink {l : Launch} {D : Dn} {H0 : Heap} (hl : l.stackTraces = false) (G : Nat) (a0 : Rf) (a1 : Int32) (a2 : Int32) (w : St) : SimN l D H0 yX3_causeLink (ws_ yX3_causeLink cX3_causeLink 4 (some (.int))) 5 111 rvI [lR a0, lI a1, lI a2] w (f_X3_causeLink G a0 a1 a2 w) := SimX.N (SimX.ofV (y := yX3_causeLink) (by decide) rfl (t_X3_causeLink hl G a0 a1 a2 w))
abbrev V_X3_eventOf (l : Launch) (D : Dn) (H0 : Heap) (w0 : St) (res : Option (Int32 × St)) (pc : Nat) (ls : List (Nat × LV)) (st : List Value) (w : St) : Prop := V l D H0 RX3 "eventOf" cX3_eventOf 6 (some (.int)) [] 7 163 (fun x => .inr (rvI x)) w0 res pc ls st w
theorem t_X3_eventOf_b9 {l : Launch} {D : Dn} {H0 : Heap} {w0 : St} (hl : l.stackTraces = false) (G : Nat) (v0 : Rf) (v1 : Int32) (v2 : Int32) (v4 : Int32) (s0 : Int32) (w : St) : V_X3_eventOf l D H0 w0 (f_X3_eventOf_b9 G v0 v1 v2 v4 s0 w) 9 [(0, lR v0), (1, lI v1), (2, lI v2), (4, lI v4)] [.int s0] w := by
  unfold f_X3_eventOf_b9
  refine r_istore (ls2 := [(5, lI s0), (0, lR v0), (1, lI v1), (2, lI v2), (4, lI v4)]) 11 dX3_eventOf_9 (by decide) rfl rfl ?_
  refine r_aload_n 12 1 dX3_eventOf_11 rfl rfl rfl ?_
  refine r_iload_n 13 2 dX3_eventOf_12 rfl rfl rfl ?_
  refine r_iload_n 14 3 dX3_eventOf_13 rfl rfl rfl ?_
  refine r_iload 16 0 dX3_eventOf_14 rfl rfl ?_
  refine r_gd (fun hc16 => ?_)
  refine r_callV (n := 3) (as := [lI v1, lI v2, lI s0]) (rest := []) 19 26 (s_X3_isOne hl G v0 v1 v2 s0 w) hc16 rfl (lw_V q2479 q2481 qs75 q110 q2482) (by decide +kernel) (by decide) rfl rfl (cat2_nil (k := 0)) rfl dX3_eventOf_16 rfl (fun x16 w16 => ?_)
  refine r_if_ne 24 22 dX3_eventOf_19 (by decide) rfl ?_ ?_
  · refine r_aload_n 25 1 dX3_eventOf_24 rfl rfl rfl ?_
    refine r_iconst (v := (-1)) 26 dX3_eventOf_25 rfl rfl ?_
    refine r_iconst (v := (-1)) 27 dX3_eventOf_26 rfl rfl ?_
    refine r_gd (fun hc27 => ?_)
    refine r_callV (n := 2) (as := [lI ((-1)), lI ((-1))]) (rest := []) 30 26 (s_X3_laysMinutes hl G v0 ((-1)) ((-1)) w16) hc27 rfl (lw_V q2390 q2392 qs57 q110 q2393) (by decide +kernel) (by decide) rfl rfl (cat2_nil (k := 0)) rfl dX3_eventOf_27 rfl (fun _ w27 => ?_)
    refine r_iload 32 4 dX3_eventOf_30 rfl rfl ?_
    refine r_if (fun hs => ?_) (fun hs0 => ?_)
    · refine r_tswIn 72 dX3_eventOf_32 (z := 0) (by rw [hs]; rfl) (by decide) (by decide) rfl (by decide) ?_
      refine r_aload_n 73 1 dX3_eventOf_72 rfl rfl rfl ?_
      refine r_iload_n 74 2 dX3_eventOf_73 rfl rfl rfl ?_
      refine r_iload_n 75 3 dX3_eventOf_74 rfl rfl rfl ?_
      refine r_iload 77 0 dX3_eventOf_75 rfl rfl ?_
      refine r_gd (fun hc77 => ?_)
      refine r_callV (n := 3) (as := [lI v1, lI v2, lI s0]) (rest := []) 80 26 (s_X3_planned hl G v0 v1 v2 s0 w27) hc77 rfl (lw_V q2329 q2331 qs48 q110 q2332) (by decide +kernel) (by decide) rfl rfl (cat2_nil (k := 0)) rfl dX3_eventOf_77 rfl (fun x77 w77 => ?_)
      exact r_iret rfl rfl dX3_eventOf_80
    refine r_if (fun hs => ?_) (fun hs1 => ?_)
    · refine r_tswIn 81 dX3_eventOf_32 (z := 1) (by rw [hs]; rfl) (by decide) (by decide) rfl (by decide) ?_
      refine r_aload_n 82 1 dX3_eventOf_81 rfl rfl rfl ?_
      refine r_iload_n 83 2 dX3_eventOf_82 rfl rfl rfl ?_
      refine r_iload_n 84 3 dX3_eventOf_83 rfl rfl rfl ?_
      refine r_iload 86 0 dX3_eventOf_84 rfl rfl ?_
      refine r_gd (fun hc86 => ?_)
      refine r_callV (n := 3) (as := [lI v1, lI v2, lI s0]) (rest := []) 89 26 (s_X3_minuteOf hl G v0 v1 v2 s0 w27) hc86 rfl (lw_V q2405 q2407 qs60 q110 q2408) (by decide +kernel) (by decide) rfl rfl (cat2_nil (k := 0)) rfl dX3_eventOf_86 rfl (fun x86 w86 => ?_)
      exact r_iret rfl rfl dX3_eventOf_89
    refine r_if (fun hs => ?_) (fun hs2 => ?_)
    · refine r_tswIn 90 dX3_eventOf_32 (z := 2) (by rw [hs]; rfl) (by decide) (by decide) rfl (by decide) ?_
      refine r_aload_n 91 1 dX3_eventOf_90 rfl rfl rfl ?_
      refine r_iload_n 92 2 dX3_eventOf_91 rfl rfl rfl ?_
      refine r_iload_n 93 3 dX3_eventOf_92 rfl rfl rfl ?_
      refine r_iload 95 0 dX3_eventOf_93 rfl rfl ?_
      refine r_gd (fun hc95 => ?_)
      refine r_callV (n := 3) (as := [lI v1, lI v2, lI s0]) (rest := []) 98 26 (s_X3_lateOf hl G v0 v1 v2 s0 w27) hc95 rfl (lw_V q2450 q2452 qs71 q110 q2453) (by decide +kernel) (by decide) rfl rfl (cat2_nil (k := 0)) rfl dX3_eventOf_95 rfl (fun x95 w95 => ?_)
      exact r_iret rfl rfl dX3_eventOf_98
    refine r_if (fun hs => ?_) (fun hs3 => ?_)
    · refine r_tswIn 99 dX3_eventOf_32 (z := 3) (by rw [hs]; rfl) (by decide) (by decide) rfl (by decide) ?_
      refine r_aload_n 100 1 dX3_eventOf_99 rfl rfl rfl ?_
      refine r_iload_n 101 2 dX3_eventOf_100 rfl rfl rfl ?_
      refine r_iload_n 102 3 dX3_eventOf_101 rfl rfl rfl ?_
      refine r_iload 104 0 dX3_eventOf_102 rfl rfl ?_
      refine r_gd (fun hc104 => ?_)
      refine r_callV (n := 3) (as := [lI v1, lI v2, lI s0]) (rest := []) 107 26 (s_X3_own hl G v0 v1 v2 s0 w27) hc104 rfl (lw_V q2446 q2448 qs70 q110 q2449) (by decide +kernel) (by decide) rfl rfl (cat2_nil (k := 0)) rfl dX3_eventOf_104 rfl (fun x104 w104 => ?_)
      exact r_iret rfl rfl dX3_eventOf_107
    refine r_if (fun hs => ?_) (fun hs4 => ?_)
    · refine r_tswIn 108 dX3_eventOf_32 (z := 4) (by rw [hs]; rfl) (by decide) (by decide) rfl (by decide) ?_
      refine r_aload_n 109 1 dX3_eventOf_108 rfl rfl rfl ?_
      refine r_iload_n 110 2 dX3_eventOf_109 rfl rfl rfl ?_
      refine r_iload_n 111 3 dX3_eventOf_110 rfl rfl rfl ?_
      refine r_iload 113 0 dX3_eventOf_111 rfl rfl ?_
      refine r_gd (fun hc113 => ?_)
      refine r_callV (n := 3) (as := [lI v1, lI v2, lI s0]) (rest := []) 116 26 (s_X3_cause hl G v0 v1 v2 s0 w27) hc113 rfl (lw_V q2483 q2485 qs76 q110 q2486) (by decide +kernel) (by decide) rfl rfl (cat2_nil (k := 0)) rfl dX3_eventOf_113 rfl (fun x113 w113 => ?_)
      exact r_iret rfl rfl dX3_eventOf_116
    refine r_if (fun hs => ?_) (fun hs5 => ?_)
    · refine r_tswIn 117 dX3_eventOf_32 (z := 5) (by rw [hs]; rfl) (by decide) (by decide) rfl (by decide) ?_
      refine r_aload_n 118 1 dX3_eventOf_117 rfl rfl rfl ?_
      refine r_iload_n 119 2 dX3_eventOf_118 rfl rfl rfl ?_
      refine r_iload_n 120 3 dX3_eventOf_119 rfl rfl rfl ?_
      refine r_iload 122 0 dX3_eventOf_120 rfl rfl ?_
      refine r_gd (fun hc122 => ?_)
      refine r_callV (n := 3) (as := [lI v1, lI v2, lI s0]) (rest := []) 125 26 (s_X3_cause hl G v0 v1 v2 s0 w27) hc122 rfl (lw_V q2483 q2485 qs76 q110 q2486) (by decide +kernel) (by decide) rfl rfl (cat2_nil (k := 0)) rfl dX3_eventOf_122 rfl (fun x122 w122 => ?_)
      refine r_iconst (v := 3) 126 dX3_eventOf_125 rfl rfl ?_
      refine r_icmp_ne 138 129 dX3_eventOf_126 (by decide) rfl ?_ ?_
      · refine r_iconst (v := (-1)) 139 dX3_eventOf_138 rfl rfl ?_
        exact r_iret rfl rfl dX3_eventOf_139
      refine r_aload_n 130 1 dX3_eventOf_129 rfl rfl rfl ?_
      refine r_iload_n 131 2 dX3_eventOf_130 rfl rfl rfl ?_
      refine r_iload_n 132 3 dX3_eventOf_131 rfl rfl rfl ?_
      refine r_gd (fun hc132 => ?_)
      refine r_callV (n := 2) (as := [lI v1, lI v2]) (rest := []) 135 26 (s_X3_causeLink hl G v0 v1 v2 w122) hc132 rfl (lw_V q2487 q2489 qs77 q110 q2490) (by decide +kernel) (by decide) rfl rfl (cat2_nil (k := 0)) rfl dX3_eventOf_132 rfl (fun x132 w132 => ?_)
      refine r_goto 139 dX3_eventOf_135 (by decide) ?_
      exact r_iret rfl rfl dX3_eventOf_139
    have hs0 := neI hs0 (z := 0) rfl
    have hs1 := neI hs1 (z := 1) rfl
    have hs2 := neI hs2 (z := 2) rfl
    have hs3 := neI hs3 (z := 3) rfl
    have hs4 := neI hs4 (z := 4) rfl
    have hs5 := neI hs5 (z := 5) rfl
    refine r_tswOut 140 dX3_eventOf_32 (by omega) (by decide) ?_
    refine r_aload_n 141 1 dX3_eventOf_140 rfl rfl rfl ?_
    refine r_iconst (v := 2) 142 dX3_eventOf_141 rfl rfl ?_
    refine r_gd (fun hc142 => ?_)
    refine r_callV (n := 1) (as := [lI 2]) (rest := []) 145 26 (s_X3_throwing hl G v0 2 w27) hc142 rfl (lw_V q2298 q2300 qs42 q110 q2301) (by decide +kernel) (by decide) rfl rfl (cat2_nil (k := 0)) rfl dX3_eventOf_142 rfl (fun x142 w142 => ?_)
    exact r_iret rfl rfl dX3_eventOf_145
  refine r_iconst (v := (-1)) 23 dX3_eventOf_22 rfl rfl ?_
  exact r_iret rfl rfl dX3_eventOf_23
theorem t_X3_eventOf {l : Launch} {D : Dn} {H0 : Heap} {w0 : St} (hl : l.stackTraces = false) (G : Nat) (a0 : Rf) (a1 : Int32) (a2 : Int32) (a3 : Int32) (a4 : Int32) (w : St) : V_X3_eventOf l D H0 w0 (f_X3_eventOf G a0 a1 a2 a3 a4 w) 0 [(0, lR a0), (1, lI a1), (2, lI a2), (3, lI a3), (4, lI a4)] [] w := by
  unfold f_X3_eventOf
  refine r_iload_n 1 3 dX3_eventOf_0 rfl rfl rfl ?_
  refine r_if_eq 8 4 dX3_eventOf_1 (by decide) rfl ?_ ?_
  · refine r_iconst (v := 1) 9 dX3_eventOf_8 rfl rfl ?_
    exact r_lsP [0, 1, 2, 4] rfl (t_X3_eventOf_b9 hl G  a0 a1 a2 a4 1 w)
  refine r_iconst (v := 0) 5 dX3_eventOf_4 rfl rfl ?_
  refine r_goto 9 dX3_eventOf_5 (by decide) ?_
  exact r_lsP [0, 1, 2, 4] rfl (t_X3_eventOf_b9 hl G  a0 a1 a2 a4 0 w)
theorem s_X3_eventOf {l : Launch} {D : Dn} {H0 : Heap} (hl : l.stackTraces = false) (G : Nat) (a0 : Rf) (a1 : Int32) (a2 : Int32) (a3 : Int32) (a4 : Int32) (w : St) : SimN l D H0 yX3_eventOf (ws_ yX3_eventOf cX3_eventOf 6 (some (.int))) 7 163 rvI [lR a0, lI a1, lI a2, lI a3, lI a4] w (f_X3_eventOf G a0 a1 a2 a3 a4 w) := SimX.N (SimX.ofV (y := yX3_eventOf) (by decide) rfl (t_X3_eventOf hl G a0 a1 a2 a3 a4 w))
abbrev V_X3_minute (l : Launch) (D : Dn) (H0 : Heap) (w0 : St) (res : Option (Int32 × St)) (pc : Nat) (ls : List (Nat × LV)) (st : List Value) (w : St) : Prop := V l D H0 RX3 "minute" cX3_minute 5 (some (.int)) [] 7 163 (fun x => .inr (rvI x)) w0 res pc ls st w
theorem t_X3_minute_b9 {l : Launch} {D : Dn} {H0 : Heap} {w0 : St} (hl : l.stackTraces = false) (G : Nat) (v0 : Rf) (v1 : Int32) (v2 : Int32) (s0 : Int32) (w : St) : V_X3_minute l D H0 w0 (f_X3_minute_b9 G v0 v1 v2 s0 w) 9 [(0, lR v0), (1, lI v1), (2, lI v2)] [.int s0] w := by
  unfold f_X3_minute_b9
  refine r_istore (ls2 := [(4, lI s0), (0, lR v0), (1, lI v1), (2, lI v2)]) 11 dX3_minute_9 (by decide) rfl rfl ?_
  refine r_aload_n 12 1 dX3_minute_11 rfl rfl rfl ?_
  refine r_iload_n 13 2 dX3_minute_12 rfl rfl rfl ?_
  refine r_iload_n 14 3 dX3_minute_13 rfl rfl rfl ?_
  refine r_iload 16 0 dX3_minute_14 rfl rfl ?_
  refine r_gd (fun hc16 => ?_)
  refine r_callV (n := 3) (as := [lI v1, lI v2, lI s0]) (rest := []) 19 26 (s_X3_isOne hl G v0 v1 v2 s0 w) hc16 rfl (lw_V q2479 q2481 qs75 q110 q2482) (by decide +kernel) (by decide) rfl rfl (cat2_nil (k := 0)) rfl dX3_minute_16 rfl (fun x16 w16 => ?_)
  refine r_if_ne 24 22 dX3_minute_19 (by decide) rfl ?_ ?_
  · refine r_aload_n 25 1 dX3_minute_24 rfl rfl rfl ?_
    refine r_iconst (v := (-1)) 26 dX3_minute_25 rfl rfl ?_
    refine r_iconst (v := (-1)) 27 dX3_minute_26 rfl rfl ?_
    refine r_gd (fun hc27 => ?_)
    refine r_callV (n := 2) (as := [lI ((-1)), lI ((-1))]) (rest := []) 30 26 (s_X3_laysMinutes hl G v0 ((-1)) ((-1)) w16) hc27 rfl (lw_V q2390 q2392 qs57 q110 q2393) (by decide +kernel) (by decide) rfl rfl (cat2_nil (k := 0)) rfl dX3_minute_27 rfl (fun _ w27 => ?_)
    refine r_aload_n 31 1 dX3_minute_30 rfl rfl rfl ?_
    refine r_iload_n 32 2 dX3_minute_31 rfl rfl rfl ?_
    refine r_iload_n 33 3 dX3_minute_32 rfl rfl rfl ?_
    refine r_iload 35 0 dX3_minute_33 rfl rfl ?_
    refine r_gd (fun hc35 => ?_)
    refine r_callV (n := 3) (as := [lI v1, lI v2, lI s0]) (rest := []) 38 26 (s_X3_minuteOf hl G v0 v1 v2 s0 w27) hc35 rfl (lw_V q2405 q2407 qs60 q110 q2408) (by decide +kernel) (by decide) rfl rfl (cat2_nil (k := 0)) rfl dX3_minute_35 rfl (fun x35 w35 => ?_)
    exact r_iret rfl rfl dX3_minute_38
  refine r_iconst (v := (-1)) 23 dX3_minute_22 rfl rfl ?_
  exact r_iret rfl rfl dX3_minute_23
theorem t_X3_minute {l : Launch} {D : Dn} {H0 : Heap} {w0 : St} (hl : l.stackTraces = false) (G : Nat) (a0 : Rf) (a1 : Int32) (a2 : Int32) (a3 : Int32) (w : St) : V_X3_minute l D H0 w0 (f_X3_minute G a0 a1 a2 a3 w) 0 [(0, lR a0), (1, lI a1), (2, lI a2), (3, lI a3)] [] w := by
  unfold f_X3_minute
  refine r_iload_n 1 3 dX3_minute_0 rfl rfl rfl ?_
  refine r_if_eq 8 4 dX3_minute_1 (by decide) rfl ?_ ?_
  · refine r_iconst (v := 1) 9 dX3_minute_8 rfl rfl ?_
    exact r_lsP [0, 1, 2] rfl (t_X3_minute_b9 hl G  a0 a1 a2 1 w)
  refine r_iconst (v := 0) 5 dX3_minute_4 rfl rfl ?_
  refine r_goto 9 dX3_minute_5 (by decide) ?_
  exact r_lsP [0, 1, 2] rfl (t_X3_minute_b9 hl G  a0 a1 a2 0 w)
theorem s_X3_minute {l : Launch} {D : Dn} {H0 : Heap} (hl : l.stackTraces = false) (G : Nat) (a0 : Rf) (a1 : Int32) (a2 : Int32) (a3 : Int32) (w : St) : SimN l D H0 yX3_minute (ws_ yX3_minute cX3_minute 5 (some (.int))) 7 163 rvI [lR a0, lI a1, lI a2, lI a3] w (f_X3_minute G a0 a1 a2 a3 w) := SimX.N (SimX.ofV (y := yX3_minute) (by decide) rfl (t_X3_minute hl G a0 a1 a2 a3 w))
abbrev V_X3_minuteAgain (l : Launch) (D : Dn) (H0 : Heap) (w0 : St) (res : Option (Int32 × St)) (pc : Nat) (ls : List (Nat × LV)) (st : List Value) (w : St) : Prop := V l D H0 RX3 "minuteAgain" cX3_minuteAgain 4 (some (.int)) [] 8 187 (fun x => .inr (rvI x)) w0 res pc ls st w
theorem t_X3_minuteAgain {l : Launch} {D : Dn} {H0 : Heap} {w0 : St} (hl : l.stackTraces = false) (G : Nat) (a0 : Rf) (a1 : Int32) (a2 : Int32) (a3 : Int32) (w : St) : V_X3_minuteAgain l D H0 w0 (f_X3_minuteAgain G a0 a1 a2 a3 w) 0 [(0, lR a0), (1, lI a1), (2, lI a2), (3, lI a3)] [] w := by
  unfold f_X3_minuteAgain
  refine r_aload_n 1 0 dX3_minuteAgain_0 rfl rfl rfl ?_
  refine r_iload_n 2 1 dX3_minuteAgain_1 rfl rfl rfl ?_
  refine r_iload_n 3 2 dX3_minuteAgain_2 rfl rfl rfl ?_
  refine r_iload_n 4 3 dX3_minuteAgain_3 rfl rfl rfl ?_
  refine r_gd (fun hc4 => ?_)
  refine r_callV (n := 3) (as := [lI a1, lI a2, lI a3]) (rest := []) 7 26 (s_X3_minute hl G a0 a1 a2 a3 w) hc4 rfl (lw_V q2499 q2492 q2493 q110 q2494) (by decide +kernel) (by decide) rfl rfl (cat2_nil (k := 0)) rfl dX3_minuteAgain_4 rfl (fun x4 w4 => ?_)
  exact r_iret rfl rfl dX3_minuteAgain_7
theorem s_X3_minuteAgain {l : Launch} {D : Dn} {H0 : Heap} (hl : l.stackTraces = false) (G : Nat) (a0 : Rf) (a1 : Int32) (a2 : Int32) (a3 : Int32) (w : St) : SimN l D H0 yX3_minuteAgain (ws_ yX3_minuteAgain cX3_minuteAgain 4 (some (.int))) 8 187 rvI [lR a0, lI a1, lI a2, lI a3] w (f_X3_minuteAgain G a0 a1 a2 a3 w) := SimX.N (SimX.ofV (y := yX3_minuteAgain) (by decide) rfl (t_X3_minuteAgain hl G a0 a1 a2 a3 w))
abbrev V_X3_waitsOf (l : Launch) (D : Dn) (H0 : Heap) (w0 : St) (res : Option (Int32 × St)) (pc : Nat) (ls : List (Nat × LV)) (st : List Value) (w : St) : Prop := V l D H0 RX3 "waitsOf" cX3_waitsOf 4 (some (.int)) [] 6 136 (fun x => .inr (rvI x)) w0 res pc ls st w
theorem t_X3_waitsOf {l : Launch} {D : Dn} {H0 : Heap} {w0 : St} (hl : l.stackTraces = false) (G : Nat) (a0 : Rf) (a1 : Int32) (w : St) : V_X3_waitsOf l D H0 w0 (f_X3_waitsOf G a0 a1 w) 0 [(0, lR a0), (1, lI a1)] [] w := by
  unfold f_X3_waitsOf
  refine r_aload_n 1 0 dX3_waitsOf_0 rfl rfl rfl ?_
  refine r_getr 4 gf_X3_9 dX3_waitsOf_1 rfl (fun x1 => ?_)
  refine r_iload_n 5 1 dX3_waitsOf_4 rfl rfl rfl ?_
  refine r_callS (n := 1) (as := [lI a1]) (rest := [rf x1]) 8 (s_X3_ofLink hl G a1 w) (lw_S q2358 q2359 q110 q2360) (by decide +kernel) (by decide) rfl rfl (cat2_r (cat2_nil (k := 0))) rfl dX3_waitsOf_5 rfl (fun x5 w5 => ?_)
  refine r_iconst (v := 2) 9 dX3_waitsOf_8 rfl rfl ?_
  refine r_iadd 10 dX3_waitsOf_9 rfl ?_
  refine r_iald 11 dX3_waitsOf_10 rfl (fun x10 => ?_)
  refine r_istore_n (ls2 := [(2, lI x10), (0, lR a0), (1, lI a1)]) 12 dX3_waitsOf_11 rfl (by decide) rfl rfl ?_
  refine r_aload_n 13 1 dX3_waitsOf_12 rfl rfl rfl ?_
  refine r_getr 16 gf_X3_9 dX3_waitsOf_13 rfl (fun x13 => ?_)
  refine r_iload_n 17 2 dX3_waitsOf_16 rfl rfl rfl ?_
  refine r_callS (n := 1) (as := [lI a1]) (rest := [rf x13]) 20 (s_X3_ofLink hl G a1 w5) (lw_S q2358 q2359 q110 q2360) (by decide +kernel) (by decide) rfl rfl (cat2_r (cat2_nil (k := 0))) rfl dX3_waitsOf_17 rfl (fun x17 w17 => ?_)
  refine r_iconst (v := 3) 21 dX3_waitsOf_20 rfl rfl ?_
  refine r_iadd 22 dX3_waitsOf_21 rfl ?_
  refine r_iald 23 dX3_waitsOf_22 rfl (fun x22 => ?_)
  refine r_istore_n (ls2 := [(3, lI x22), (2, lI x10), (0, lR a0), (1, lI a1)]) 24 dX3_waitsOf_23 rfl (by decide) rfl rfl ?_
  refine r_aload_n 25 2 dX3_waitsOf_24 rfl rfl rfl ?_
  refine r_iload_n 26 3 dX3_waitsOf_25 rfl rfl rfl ?_
  refine r_gd (fun hc26 => ?_)
  refine r_callV (n := 1) (as := [lI a1]) (rest := []) 29 26 (s_X3_isKept hl G a0 a1 w17) hc26 rfl (lw_V q2430 q2432 qs66 q110 q2433) (by decide +kernel) (by decide) rfl rfl (cat2_nil (k := 0)) rfl dX3_waitsOf_26 rfl (fun x26 w26 => ?_)
  refine r_if_eq 50 32 dX3_waitsOf_29 (by decide) rfl ?_ ?_
  · refine r_iconst (v := 0) 51 dX3_waitsOf_50 rfl rfl ?_
    exact r_iret rfl rfl dX3_waitsOf_51
  refine r_aload_n 33 2 dX3_waitsOf_32 rfl rfl rfl ?_
  refine r_iload_n 34 1 dX3_waitsOf_33 rfl rfl rfl ?_
  refine r_iload_n 35 0 dX3_waitsOf_34 rfl rfl rfl ?_
  refine r_iconst (v := (-1)) 36 dX3_waitsOf_35 rfl rfl ?_
  refine r_gd (fun hc36 => ?_)
  refine r_callV (n := 3) (as := [lI x10, lI x22, lI ((-1))]) (rest := []) 39 26 (s_X3_departureBase hl G a0 x10 x22 ((-1)) w26) hc36 rfl (lw_V q2410 q2412 qs61 q110 q2413) (by decide +kernel) (by decide) rfl rfl (cat2_nil (k := 0)) rfl dX3_waitsOf_36 rfl (fun x36 w36 => ?_)
  refine r_aload_n 40 2 dX3_waitsOf_39 rfl rfl rfl ?_
  refine r_iload_n 41 1 dX3_waitsOf_40 rfl rfl rfl ?_
  refine r_iload_n 42 0 dX3_waitsOf_41 rfl rfl rfl ?_
  refine r_iload_n 43 3 dX3_waitsOf_42 rfl rfl rfl ?_
  refine r_gd (fun hc43 => ?_)
  refine r_callV (n := 3) (as := [lI x10, lI x22, lI a1]) (rest := [.int x36]) 46 26 (s_X3_departureBase hl G a0 x10 x22 a1 w36) hc43 rfl (lw_V q2410 q2412 qs61 q110 q2413) (by decide +kernel) (by decide) rfl rfl (cat2_i (cat2_nil (k := 0))) rfl dX3_waitsOf_43 rfl (fun x43 w43 => ?_)
  refine r_isub 47 dX3_waitsOf_46 rfl ?_
  refine r_goto 51 dX3_waitsOf_47 (by decide) ?_
  exact r_iret rfl rfl dX3_waitsOf_51
theorem s_X3_waitsOf {l : Launch} {D : Dn} {H0 : Heap} (hl : l.stackTraces = false) (G : Nat) (a0 : Rf) (a1 : Int32) (w : St) : SimN l D H0 yX3_waitsOf (ws_ yX3_waitsOf cX3_waitsOf 4 (some (.int))) 6 136 rvI [lR a0, lI a1] w (f_X3_waitsOf G a0 a1 w) := SimX.N (SimX.ofV (y := yX3_waitsOf) (by decide) rfl (t_X3_waitsOf hl G a0 a1 w))
abbrev V_X3_spareOf (l : Launch) (D : Dn) (H0 : Heap) (w0 : St) (res : Option (Int32 × St)) (pc : Nat) (ls : List (Nat × LV)) (st : List Value) (w : St) : Prop := V l D H0 RX3 "spareOf" cX3_spareOf 3 (some (.int)) [] 2 44 (fun x => .inr (rvI x)) w0 res pc ls st w
theorem t_X3_spareOf {l : Launch} {D : Dn} {H0 : Heap} {w0 : St} (hl : l.stackTraces = false) (G : Nat) (a0 : Rf) (a1 : Int32) (w : St) : V_X3_spareOf l D H0 w0 (f_X3_spareOf G a0 a1 w) 0 [(0, lR a0), (1, lI a1)] [] w := by
  unfold f_X3_spareOf
  refine r_iload_n 1 1 dX3_spareOf_0 rfl rfl rfl ?_
  refine r_callS (n := 1) (as := [lI a1]) (rest := []) 4 (s_X3_ofLink hl G a1 w) (lw_S q2358 q2359 q110 q2360) (by decide +kernel) (by decide) rfl rfl (cat2_nil (k := 0)) rfl dX3_spareOf_1 rfl (fun x1 w1 => ?_)
  refine r_istore_n (ls2 := [(2, lI x1), (0, lR a0), (1, lI a1)]) 5 dX3_spareOf_4 rfl (by decide) rfl rfl ?_
  refine r_aload_n 6 1 dX3_spareOf_5 rfl rfl rfl ?_
  refine r_aload_n 7 1 dX3_spareOf_6 rfl rfl rfl ?_
  refine r_getr 10 gf_X3_9 dX3_spareOf_7 rfl (fun x7 => ?_)
  refine r_iload_n 11 0 dX3_spareOf_10 rfl rfl rfl ?_
  refine r_iconst (v := 2) 12 dX3_spareOf_11 rfl rfl ?_
  refine r_iadd 13 dX3_spareOf_12 rfl ?_
  refine r_iald 14 dX3_spareOf_13 rfl (fun x13 => ?_)
  refine r_aload_n 15 1 dX3_spareOf_14 rfl rfl rfl ?_
  refine r_getr 18 gf_X3_9 dX3_spareOf_15 rfl (fun x15 => ?_)
  refine r_iload_n 19 0 dX3_spareOf_18 rfl rfl rfl ?_
  refine r_iconst (v := 3) 20 dX3_spareOf_19 rfl rfl ?_
  refine r_iadd 21 dX3_spareOf_20 rfl ?_
  refine r_iald 22 dX3_spareOf_21 rfl (fun x21 => ?_)
  refine r_iconst (v := 1) 23 dX3_spareOf_22 rfl rfl ?_
  refine r_gd (fun hc23 => ?_)
  refine r_callV (n := 3) (as := [lI x13, lI x21, lI 1]) (rest := []) 26 26 (s_X3_planned hl G a0 x13 x21 1 w1) hc23 rfl (lw_V q2329 q2331 qs48 q110 q2332) (by decide +kernel) (by decide) rfl rfl (cat2_nil (k := 0)) rfl dX3_spareOf_23 rfl (fun x23 w23 => ?_)
  refine r_aload_n 27 1 dX3_spareOf_26 rfl rfl rfl ?_
  refine r_aload_n 28 1 dX3_spareOf_27 rfl rfl rfl ?_
  refine r_getr 31 gf_X3_9 dX3_spareOf_28 rfl (fun x28 => ?_)
  refine r_iload_n 32 0 dX3_spareOf_31 rfl rfl rfl ?_
  refine r_iald 33 dX3_spareOf_32 rfl (fun x32 => ?_)
  refine r_aload_n 34 1 dX3_spareOf_33 rfl rfl rfl ?_
  refine r_getr 37 gf_X3_9 dX3_spareOf_34 rfl (fun x34 => ?_)
  refine r_iload_n 38 0 dX3_spareOf_37 rfl rfl rfl ?_
  refine r_iconst (v := 1) 39 dX3_spareOf_38 rfl rfl ?_
  refine r_iadd 40 dX3_spareOf_39 rfl ?_
  refine r_iald 41 dX3_spareOf_40 rfl (fun x40 => ?_)
  refine r_iconst (v := 0) 42 dX3_spareOf_41 rfl rfl ?_
  refine r_gd (fun hc42 => ?_)
  refine r_callV (n := 3) (as := [lI x32, lI x40, lI 0]) (rest := [.int x23]) 45 26 (s_X3_planned hl G a0 x32 x40 0 w23) hc42 rfl (lw_V q2329 q2331 qs48 q110 q2332) (by decide +kernel) (by decide) rfl rfl (cat2_i (cat2_nil (k := 0))) rfl dX3_spareOf_42 rfl (fun x42 w42 => ?_)
  refine r_isub 46 dX3_spareOf_45 rfl ?_
  refine r_aload_n 47 1 dX3_spareOf_46 rfl rfl rfl ?_
  refine r_getr 50 gf_X3_9 dX3_spareOf_47 rfl (fun x47 => ?_)
  refine r_iload_n 51 0 dX3_spareOf_50 rfl rfl rfl ?_
  refine r_iconst (v := 4) 52 dX3_spareOf_51 rfl rfl ?_
  refine r_iadd 53 dX3_spareOf_52 rfl ?_
  refine r_iald 54 dX3_spareOf_53 rfl (fun x53 => ?_)
  refine r_isub 55 dX3_spareOf_54 rfl ?_
  exact r_iret rfl rfl dX3_spareOf_55
theorem s_X3_spareOf {l : Launch} {D : Dn} {H0 : Heap} (hl : l.stackTraces = false) (G : Nat) (a0 : Rf) (a1 : Int32) (w : St) : SimN l D H0 yX3_spareOf (ws_ yX3_spareOf cX3_spareOf 3 (some (.int))) 2 44 rvI [lR a0, lI a1] w (f_X3_spareOf G a0 a1 w) := SimX.N (SimX.ofV (y := yX3_spareOf) (by decide) rfl (t_X3_spareOf hl G a0 a1 w))
abbrev V_X3_linkOf (l : Launch) (D : Dn) (H0 : Heap) (w0 : St) (res : Option (Int32 × St)) (pc : Nat) (ls : List (Nat × LV)) (st : List Value) (w : St) : Prop := V l D H0 RX3 "linkOf" cX3_linkOf 3 (some (.int)) [] 7 163 (fun x => .inr (rvI x)) w0 res pc ls st w
theorem t_X3_linkOf {l : Launch} {D : Dn} {H0 : Heap} {w0 : St} (hl : l.stackTraces = false) (G : Nat) (a0 : Rf) (a1 : Int32) (a2 : Int32) (w : St) : V_X3_linkOf l D H0 w0 (f_X3_linkOf G a0 a1 a2 w) 0 [(0, lR a0), (1, lI a1), (2, lI a2)] [] w := by
  unfold f_X3_linkOf
  refine r_aload_n 1 0 dX3_linkOf_0 rfl rfl rfl ?_
  refine r_iconst (v := 0) 2 dX3_linkOf_1 rfl rfl ?_
  refine r_puti 5 pf_X3_69 dX3_linkOf_2 rfl (fun w2 => ?_)
  refine r_aload_n 6 0 dX3_linkOf_5 rfl rfl rfl ?_
  refine r_iload_n 7 1 dX3_linkOf_6 rfl rfl rfl ?_
  refine r_gd (fun hc7 => ?_)
  refine r_callV (n := 1) (as := [lI a1]) (rest := []) 10 26 (s_X3_isLink hl G a0 a1 w2) hc7 rfl (lw_V q2369 q2371 qs54 q110 q2372) (by decide +kernel) (by decide) rfl rfl (cat2_nil (k := 0)) rfl dX3_linkOf_7 rfl (fun x7 w7 => ?_)
  refine r_if_ne 19 13 dX3_linkOf_10 (by decide) rfl ?_ ?_
  · refine r_aload_n 20 0 dX3_linkOf_19 rfl rfl rfl ?_
    refine r_iconst (v := (-1)) 21 dX3_linkOf_20 rfl rfl ?_
    refine r_iconst (v := (-1)) 22 dX3_linkOf_21 rfl rfl ?_
    refine r_gd (fun hc22 => ?_)
    refine r_callV (n := 2) (as := [lI ((-1)), lI ((-1))]) (rest := []) 25 26 (s_X3_laysMinutes hl G a0 ((-1)) ((-1)) w7) hc22 rfl (lw_V q2390 q2392 qs57 q110 q2393) (by decide +kernel) (by decide) rfl rfl (cat2_nil (k := 0)) rfl dX3_linkOf_22 rfl (fun _ w22 => ?_)
    refine r_iload_n 26 2 dX3_linkOf_25 rfl rfl rfl ?_
    refine r_if (fun hs => ?_) (fun hs0 => ?_)
    · refine r_tswIn 76 dX3_linkOf_26 (z := 0) (by rw [hs]; rfl) (by decide) (by decide) rfl (by decide) ?_
      refine r_aload_n 77 0 dX3_linkOf_76 rfl rfl rfl ?_
      refine r_getr 80 gf_X3_9 dX3_linkOf_77 rfl (fun x77 => ?_)
      refine r_iload_n 81 1 dX3_linkOf_80 rfl rfl rfl ?_
      refine r_callS (n := 1) (as := [lI a1]) (rest := [rf x77]) 84 (s_X3_ofLink hl G a1 w22) (lw_S q2358 q2359 q110 q2360) (by decide +kernel) (by decide) rfl rfl (cat2_r (cat2_nil (k := 0))) rfl dX3_linkOf_81 rfl (fun x81 w81 => ?_)
      refine r_iload_n 85 2 dX3_linkOf_84 rfl rfl rfl ?_
      refine r_iadd 86 dX3_linkOf_85 rfl ?_
      refine r_iald 87 dX3_linkOf_86 rfl (fun x86 => ?_)
      exact r_iret rfl rfl dX3_linkOf_87
    refine r_if (fun hs => ?_) (fun hs1 => ?_)
    · refine r_tswIn 76 dX3_linkOf_26 (z := 1) (by rw [hs]; rfl) (by decide) (by decide) rfl (by decide) ?_
      refine r_aload_n 77 0 dX3_linkOf_76 rfl rfl rfl ?_
      refine r_getr 80 gf_X3_9 dX3_linkOf_77 rfl (fun x77 => ?_)
      refine r_iload_n 81 1 dX3_linkOf_80 rfl rfl rfl ?_
      refine r_callS (n := 1) (as := [lI a1]) (rest := [rf x77]) 84 (s_X3_ofLink hl G a1 w22) (lw_S q2358 q2359 q110 q2360) (by decide +kernel) (by decide) rfl rfl (cat2_r (cat2_nil (k := 0))) rfl dX3_linkOf_81 rfl (fun x81 w81 => ?_)
      refine r_iload_n 85 2 dX3_linkOf_84 rfl rfl rfl ?_
      refine r_iadd 86 dX3_linkOf_85 rfl ?_
      refine r_iald 87 dX3_linkOf_86 rfl (fun x86 => ?_)
      exact r_iret rfl rfl dX3_linkOf_87
    refine r_if (fun hs => ?_) (fun hs2 => ?_)
    · refine r_tswIn 76 dX3_linkOf_26 (z := 2) (by rw [hs]; rfl) (by decide) (by decide) rfl (by decide) ?_
      refine r_aload_n 77 0 dX3_linkOf_76 rfl rfl rfl ?_
      refine r_getr 80 gf_X3_9 dX3_linkOf_77 rfl (fun x77 => ?_)
      refine r_iload_n 81 1 dX3_linkOf_80 rfl rfl rfl ?_
      refine r_callS (n := 1) (as := [lI a1]) (rest := [rf x77]) 84 (s_X3_ofLink hl G a1 w22) (lw_S q2358 q2359 q110 q2360) (by decide +kernel) (by decide) rfl rfl (cat2_r (cat2_nil (k := 0))) rfl dX3_linkOf_81 rfl (fun x81 w81 => ?_)
      refine r_iload_n 85 2 dX3_linkOf_84 rfl rfl rfl ?_
      refine r_iadd 86 dX3_linkOf_85 rfl ?_
      refine r_iald 87 dX3_linkOf_86 rfl (fun x86 => ?_)
      exact r_iret rfl rfl dX3_linkOf_87
    refine r_if (fun hs => ?_) (fun hs3 => ?_)
    · refine r_tswIn 76 dX3_linkOf_26 (z := 3) (by rw [hs]; rfl) (by decide) (by decide) rfl (by decide) ?_
      refine r_aload_n 77 0 dX3_linkOf_76 rfl rfl rfl ?_
      refine r_getr 80 gf_X3_9 dX3_linkOf_77 rfl (fun x77 => ?_)
      refine r_iload_n 81 1 dX3_linkOf_80 rfl rfl rfl ?_
      refine r_callS (n := 1) (as := [lI a1]) (rest := [rf x77]) 84 (s_X3_ofLink hl G a1 w22) (lw_S q2358 q2359 q110 q2360) (by decide +kernel) (by decide) rfl rfl (cat2_r (cat2_nil (k := 0))) rfl dX3_linkOf_81 rfl (fun x81 w81 => ?_)
      refine r_iload_n 85 2 dX3_linkOf_84 rfl rfl rfl ?_
      refine r_iadd 86 dX3_linkOf_85 rfl ?_
      refine r_iald 87 dX3_linkOf_86 rfl (fun x86 => ?_)
      exact r_iret rfl rfl dX3_linkOf_87
    refine r_if (fun hs => ?_) (fun hs4 => ?_)
    · refine r_tswIn 76 dX3_linkOf_26 (z := 4) (by rw [hs]; rfl) (by decide) (by decide) rfl (by decide) ?_
      refine r_aload_n 77 0 dX3_linkOf_76 rfl rfl rfl ?_
      refine r_getr 80 gf_X3_9 dX3_linkOf_77 rfl (fun x77 => ?_)
      refine r_iload_n 81 1 dX3_linkOf_80 rfl rfl rfl ?_
      refine r_callS (n := 1) (as := [lI a1]) (rest := [rf x77]) 84 (s_X3_ofLink hl G a1 w22) (lw_S q2358 q2359 q110 q2360) (by decide +kernel) (by decide) rfl rfl (cat2_r (cat2_nil (k := 0))) rfl dX3_linkOf_81 rfl (fun x81 w81 => ?_)
      refine r_iload_n 85 2 dX3_linkOf_84 rfl rfl rfl ?_
      refine r_iadd 86 dX3_linkOf_85 rfl ?_
      refine r_iald 87 dX3_linkOf_86 rfl (fun x86 => ?_)
      exact r_iret rfl rfl dX3_linkOf_87
    refine r_if (fun hs => ?_) (fun hs5 => ?_)
    · refine r_tswIn 76 dX3_linkOf_26 (z := 5) (by rw [hs]; rfl) (by decide) (by decide) rfl (by decide) ?_
      refine r_aload_n 77 0 dX3_linkOf_76 rfl rfl rfl ?_
      refine r_getr 80 gf_X3_9 dX3_linkOf_77 rfl (fun x77 => ?_)
      refine r_iload_n 81 1 dX3_linkOf_80 rfl rfl rfl ?_
      refine r_callS (n := 1) (as := [lI a1]) (rest := [rf x77]) 84 (s_X3_ofLink hl G a1 w22) (lw_S q2358 q2359 q110 q2360) (by decide +kernel) (by decide) rfl rfl (cat2_r (cat2_nil (k := 0))) rfl dX3_linkOf_81 rfl (fun x81 w81 => ?_)
      refine r_iload_n 85 2 dX3_linkOf_84 rfl rfl rfl ?_
      refine r_iadd 86 dX3_linkOf_85 rfl ?_
      refine r_iald 87 dX3_linkOf_86 rfl (fun x86 => ?_)
      exact r_iret rfl rfl dX3_linkOf_87
    refine r_if (fun hs => ?_) (fun hs6 => ?_)
    · refine r_tswIn 88 dX3_linkOf_26 (z := 6) (by rw [hs]; rfl) (by decide) (by decide) rfl (by decide) ?_
      refine r_aload_n 89 0 dX3_linkOf_88 rfl rfl rfl ?_
      refine r_iload_n 90 1 dX3_linkOf_89 rfl rfl rfl ?_
      refine r_gd (fun hc90 => ?_)
      refine r_callV (n := 1) (as := [lI a1]) (rest := []) 93 26 (s_X3_isKept hl G a0 a1 w22) hc90 rfl (lw_V q2430 q2432 qs66 q110 q2433) (by decide +kernel) (by decide) rfl rfl (cat2_nil (k := 0)) rfl dX3_linkOf_90 rfl (fun x90 w90 => ?_)
      refine r_if_eq 100 96 dX3_linkOf_93 (by decide) rfl ?_ ?_
      · refine r_iconst (v := 0) 101 dX3_linkOf_100 rfl rfl ?_
        exact r_iret rfl rfl dX3_linkOf_101
      refine r_iconst (v := 1) 97 dX3_linkOf_96 rfl rfl ?_
      refine r_goto 101 dX3_linkOf_97 (by decide) ?_
      exact r_iret rfl rfl dX3_linkOf_101
    refine r_if (fun hs => ?_) (fun hs7 => ?_)
    · refine r_tswIn 102 dX3_linkOf_26 (z := 7) (by rw [hs]; rfl) (by decide) (by decide) rfl (by decide) ?_
      refine r_aload_n 103 0 dX3_linkOf_102 rfl rfl rfl ?_
      refine r_iload_n 104 1 dX3_linkOf_103 rfl rfl rfl ?_
      refine r_gd (fun hc104 => ?_)
      refine r_callV (n := 1) (as := [lI a1]) (rest := []) 107 26 (s_X3_waitsOf hl G a0 a1 w22) hc104 rfl (lw_V q2504 q2506 qs78 q110 q2507) (by decide +kernel) (by decide) rfl rfl (cat2_nil (k := 0)) rfl dX3_linkOf_104 rfl (fun x104 w104 => ?_)
      exact r_iret rfl rfl dX3_linkOf_107
    refine r_if (fun hs => ?_) (fun hs8 => ?_)
    · refine r_tswIn 108 dX3_linkOf_26 (z := 8) (by rw [hs]; rfl) (by decide) (by decide) rfl (by decide) ?_
      refine r_aload_n 109 0 dX3_linkOf_108 rfl rfl rfl ?_
      refine r_iload_n 110 1 dX3_linkOf_109 rfl rfl rfl ?_
      refine r_gd (fun hc110 => ?_)
      refine r_callV (n := 1) (as := [lI a1]) (rest := []) 113 26 (s_X3_spareOf hl G a0 a1 w22) hc110 rfl (lw_V q2508 q2510 qs79 q110 q2511) (by decide +kernel) (by decide) rfl rfl (cat2_nil (k := 0)) rfl dX3_linkOf_110 rfl (fun x110 w110 => ?_)
      exact r_iret rfl rfl dX3_linkOf_113
    have hs0 := neI hs0 (z := 0) rfl
    have hs1 := neI hs1 (z := 1) rfl
    have hs2 := neI hs2 (z := 2) rfl
    have hs3 := neI hs3 (z := 3) rfl
    have hs4 := neI hs4 (z := 4) rfl
    have hs5 := neI hs5 (z := 5) rfl
    have hs6 := neI hs6 (z := 6) rfl
    have hs7 := neI hs7 (z := 7) rfl
    have hs8 := neI hs8 (z := 8) rfl
    refine r_tswOut 114 dX3_linkOf_26 (by omega) (by decide) ?_
    refine r_aload_n 115 0 dX3_linkOf_114 rfl rfl rfl ?_
    refine r_iconst (v := 2) 116 dX3_linkOf_115 rfl rfl ?_
    refine r_gd (fun hc116 => ?_)
    refine r_callV (n := 1) (as := [lI 2]) (rest := []) 119 26 (s_X3_throwing hl G a0 2 w22) hc116 rfl (lw_V q2298 q2300 qs42 q110 q2301) (by decide +kernel) (by decide) rfl rfl (cat2_nil (k := 0)) rfl dX3_linkOf_116 rfl (fun x116 w116 => ?_)
    exact r_iret rfl rfl dX3_linkOf_119
  refine r_aload_n 14 0 dX3_linkOf_13 rfl rfl rfl ?_
  refine r_iconst (v := 1) 15 dX3_linkOf_14 rfl rfl ?_
  refine r_gd (fun hc15 => ?_)
  refine r_callV (n := 1) (as := [lI 1]) (rest := []) 18 26 (s_X3_throwing hl G a0 1 w7) hc15 rfl (lw_V q2298 q2300 qs42 q110 q2301) (by decide +kernel) (by decide) rfl rfl (cat2_nil (k := 0)) rfl dX3_linkOf_15 rfl (fun x15 w15 => ?_)
  exact r_iret rfl rfl dX3_linkOf_18
theorem s_X3_linkOf {l : Launch} {D : Dn} {H0 : Heap} (hl : l.stackTraces = false) (G : Nat) (a0 : Rf) (a1 : Int32) (a2 : Int32) (w : St) : SimN l D H0 yX3_linkOf (ws_ yX3_linkOf cX3_linkOf 3 (some (.int))) 7 163 rvI [lR a0, lI a1, lI a2] w (f_X3_linkOf G a0 a1 a2 w) := SimX.N (SimX.ofV (y := yX3_linkOf) (by decide) rfl (t_X3_linkOf hl G a0 a1 a2 w))
abbrev V_X3_missed (l : Launch) (D : Dn) (H0 : Heap) (w0 : St) (res : Option (Int32 × St)) (pc : Nat) (ls : List (Nat × LV)) (st : List Value) (w : St) : Prop := V l D H0 RX3 "missed" cX3_missed 4 (some (.int)) [] 7 163 (fun x => .inr (rvI x)) w0 res pc ls st w
theorem t_X3_missed_b43 {l : Launch} {D : Dn} {H0 : Heap} {w0 : St} (hl : l.stackTraces = false) (G : Nat) (k15 : Rf → Int32 → Int32 → Int32 → St → Option (Int32 × St)) (h15 : ∀ v0 v1 v2 v3 w, V_X3_missed l D H0 w0 (k15 v0 v1 v2 v3 w) 15 [(0, lR v0), (1, lI v1), (2, lI v2), (3, lI v3)] [] w) (v0 : Rf) (v1 : Int32) (v2 : Int32) (v3 : Int32) (w : St) : V_X3_missed l D H0 w0 (f_X3_missed_b43 G k15 v0 v1 v2 v3 w) 43 [(0, lR v0), (1, lI v1), (2, lI v2), (3, lI v3)] [] w := by
  unfold f_X3_missed_b43
  refine r_iinc (v := v3 + 1) (ls2 := [(3, lI (v3 + 1)), (0, lR v0), (1, lI v1), (2, lI v2)]) 46 3 dX3_missed_43 rfl rfl (by decide) rfl rfl ?_
  refine r_goto 15 dX3_missed_46 (by decide) ?_
  exact r_lsP [1, 2, 3, 0] rfl (h15 v0 v1 v2 (v3 + 1) w)
theorem t_X3_missed_l15 {l : Launch} {D : Dn} {H0 : Heap} {w0 : St} (hl : l.stackTraces = false) (G : Nat) (k38 : Int32 → St → Option (Int32 × St)) (h38 : ∀ v3 w, V_X3_missed l D H0 w0 (k38 v3 w) 38 [(3, lI v3)] [] w) (k49 : Rf → St → Option (Int32 × St)) (h49 : ∀ v0 w, V_X3_missed l D H0 w0 (k49 v0 w) 49 [(0, lR v0)] [] w) : ∀ (F : Nat) (v0 : Rf) (v1 : Int32) (v2 : Int32) (v3 : Int32) (w : St), V_X3_missed l D H0 w0 (f_X3_missed_l15 G k38 k49 F v0 v1 v2 v3 w) 15 [(0, lR v0), (1, lI v1), (2, lI v2), (3, lI v3)] [] w := by
  intro F
  induction F with
  | zero => intros; exact r_none
  | succ F ih =>
    intro v0 v1 v2 v3 w
    unfold f_X3_missed_l15
    refine r_iload_n 16 3 dX3_missed_15 rfl rfl rfl ?_
    refine r_aload_n 17 0 dX3_missed_16 rfl rfl rfl ?_
    refine r_getr 20 gf_X3_9 dX3_missed_17 rfl (fun x17 => ?_)
    refine r_iconst (v := 1) 21 dX3_missed_20 rfl rfl ?_
    refine r_iald 22 dX3_missed_21 rfl (fun x21 => ?_)
    refine r_icmp_ge 49 25 dX3_missed_22 (by decide) rfl ?_ ?_
    · exact r_lsP [0] rfl (h49 v0 w)
    refine r_aload_n 26 0 dX3_missed_25 rfl rfl rfl ?_
    refine r_iload_n 27 3 dX3_missed_26 rfl rfl rfl ?_
    refine r_gd (fun hc27 => ?_)
    refine r_callV (n := 1) (as := [lI v3]) (rest := []) 30 26 (s_X3_isKept hl G v0 v3 w) hc27 rfl (lw_V q2430 q2432 qs66 q110 q2433) (by decide +kernel) (by decide) rfl rfl (cat2_nil (k := 0)) rfl dX3_missed_27 rfl (fun x27 w27 => ?_)
    refine r_if_ne 43 33 dX3_missed_30 (by decide) rfl ?_ ?_
    · exact r_lsP [0, 1, 2, 3] rfl (t_X3_missed_b43 hl G (fun v0 v1 v2 v3 w => f_X3_missed_l15 G k38 k49 F v0 v1 v2 v3 w) (fun v0 v1 v2 v3 w => ih v0 v1 v2 v3 w)  v0 v1 v2 v3 w27)
    refine r_iload_n 34 2 dX3_missed_33 rfl rfl rfl ?_
    refine r_iload_n 35 1 dX3_missed_34 rfl rfl rfl ?_
    refine r_icmp_ne 40 38 dX3_missed_35 (by decide) rfl ?_ ?_
    · refine r_iinc (v := v2 + 1) (ls2 := [(2, lI (v2 + 1)), (0, lR v0), (1, lI v1), (3, lI v3)]) 43 2 dX3_missed_40 rfl rfl (by decide) rfl rfl ?_
      exact r_lsP [1, 2, 0, 3] rfl (t_X3_missed_b43 hl G (fun v0 v1 v2 v3 w => f_X3_missed_l15 G k38 k49 F v0 v1 v2 v3 w) (fun v0 v1 v2 v3 w => ih v0 v1 v2 v3 w)  v0 v1 (v2 + 1) v3 w27)
    exact r_lsP [3] rfl (h38 v3 w27)
theorem t_X3_missed_b38 {l : Launch} {D : Dn} {H0 : Heap} {w0 : St} (hl : l.stackTraces = false) (G : Nat) (v3 : Int32) (w : St) : V_X3_missed l D H0 w0 (f_X3_missed_b38 G v3 w) 38 [(3, lI v3)] [] w := by
  unfold f_X3_missed_b38
  refine r_iload_n 39 0 dX3_missed_38 rfl rfl rfl ?_
  exact r_iret rfl rfl dX3_missed_39
theorem t_X3_missed_b49 {l : Launch} {D : Dn} {H0 : Heap} {w0 : St} (hl : l.stackTraces = false) (G : Nat) (v0 : Rf) (w : St) : V_X3_missed l D H0 w0 (f_X3_missed_b49 G v0 w) 49 [(0, lR v0)] [] w := by
  unfold f_X3_missed_b49
  refine r_aload_n 50 0 dX3_missed_49 rfl rfl rfl ?_
  refine r_iconst (v := 1) 51 dX3_missed_50 rfl rfl ?_
  refine r_gd (fun hc51 => ?_)
  refine r_callV (n := 1) (as := [lI 1]) (rest := []) 54 26 (s_X3_throwing hl G v0 1 w) hc51 rfl (lw_V q2298 q2300 qs42 q110 q2301) (by decide +kernel) (by decide) rfl rfl (cat2_nil (k := 0)) rfl dX3_missed_51 rfl (fun x51 w51 => ?_)
  exact r_iret rfl rfl dX3_missed_54
theorem t_X3_missed {l : Launch} {D : Dn} {H0 : Heap} {w0 : St} (hl : l.stackTraces = false) (G : Nat) (a0 : Rf) (a1 : Int32) (w : St) : V_X3_missed l D H0 w0 (f_X3_missed G a0 a1 w) 0 [(0, lR a0), (1, lI a1)] [] w := by
  unfold f_X3_missed
  refine r_aload_n 1 0 dX3_missed_0 rfl rfl rfl ?_
  refine r_iconst (v := 0) 2 dX3_missed_1 rfl rfl ?_
  refine r_puti 5 pf_X3_69 dX3_missed_2 rfl (fun w2 => ?_)
  refine r_aload_n 6 0 dX3_missed_5 rfl rfl rfl ?_
  refine r_iconst (v := (-1)) 7 dX3_missed_6 rfl rfl ?_
  refine r_iconst (v := (-1)) 8 dX3_missed_7 rfl rfl ?_
  refine r_gd (fun hc8 => ?_)
  refine r_callV (n := 2) (as := [lI ((-1)), lI ((-1))]) (rest := []) 11 26 (s_X3_laysMinutes hl G a0 ((-1)) ((-1)) w2) hc8 rfl (lw_V q2390 q2392 qs57 q110 q2393) (by decide +kernel) (by decide) rfl rfl (cat2_nil (k := 0)) rfl dX3_missed_8 rfl (fun _ w8 => ?_)
  refine r_iconst (v := 0) 12 dX3_missed_11 rfl rfl ?_
  refine r_istore_n (ls2 := [(2, lI 0), (0, lR a0), (1, lI a1)]) 13 dX3_missed_12 rfl (by decide) rfl rfl ?_
  refine r_iconst (v := 0) 14 dX3_missed_13 rfl rfl ?_
  refine r_istore_n (ls2 := [(3, lI 0), (2, lI 0), (0, lR a0), (1, lI a1)]) 15 dX3_missed_14 rfl (by decide) rfl rfl ?_
  exact r_lsP [2, 3, 1, 0] rfl (t_X3_missed_l15 hl G (fun v3 w => f_X3_missed_b38 G  v3 w) (fun v3 w => t_X3_missed_b38 hl G  v3 w) (fun v0 w => f_X3_missed_b49 G  v0 w) (fun v0 w => t_X3_missed_b49 hl G  v0 w) G a0 a1 0 0 w8)
theorem s_X3_missed {l : Launch} {D : Dn} {H0 : Heap} (hl : l.stackTraces = false) (G : Nat) (a0 : Rf) (a1 : Int32) (w : St) : SimN l D H0 yX3_missed (ws_ yX3_missed cX3_missed 4 (some (.int))) 7 163 rvI [lR a0, lI a1] w (f_X3_missed G a0 a1 w) := SimX.N (SimX.ofV (y := yX3_missed) (by decide) rfl (t_X3_missed hl G a0 a1 w))
abbrev V_X3_waits (l : Launch) (D : Dn) (H0 : Heap) (w0 : St) (res : Option (Int32 × St)) (pc : Nat) (ls : List (Nat × LV)) (st : List Value) (w : St) : Prop := V l D H0 RX3 "waits" cX3_waits 4 (some (.int)) [] 7 163 (fun x => .inr (rvI x)) w0 res pc ls st w
theorem t_X3_waits_b64 {l : Launch} {D : Dn} {H0 : Heap} {w0 : St} (hl : l.stackTraces = false) (G : Nat) (k29 : Rf → Int32 → Int32 → Int32 → St → Option (Int32 × St)) (h29 : ∀ v0 v1 v2 v3 w, V_X3_waits l D H0 w0 (k29 v0 v1 v2 v3 w) 29 [(0, lR v0), (1, lI v1), (2, lI v2), (3, lI v3)] [] w) (v0 : Rf) (v1 : Int32) (v3 : Int32) (s0 : Int32) (s1 : Int32) (w : St) : V_X3_waits l D H0 w0 (f_X3_waits_b64 G k29 v0 v1 v3 s0 s1 w) 64 [(0, lR v0), (1, lI v1), (3, lI v3)] [.int s0, .int s1] w := by
  unfold f_X3_waits_b64
  refine r_iadd 65 dX3_waits_64 rfl ?_
  refine r_istore_n (ls2 := [(2, lI (s1 + s0)), (0, lR v0), (1, lI v1), (3, lI v3)]) 66 dX3_waits_65 rfl (by decide) rfl rfl ?_
  refine r_iinc (v := v3 + 1) (ls2 := [(3, lI (v3 + 1)), (2, lI (s1 + s0)), (0, lR v0), (1, lI v1)]) 69 3 dX3_waits_66 rfl rfl (by decide) rfl rfl ?_
  refine r_goto 29 dX3_waits_69 (by decide) ?_
  exact r_lsP [2, 3, 1, 0] rfl (h29 v0 v1 (s1 + s0) (v3 + 1) w)
theorem t_X3_waits_l29 {l : Launch} {D : Dn} {H0 : Heap} {w0 : St} (hl : l.stackTraces = false) (G : Nat) (k72 : Int32 → St → Option (Int32 × St)) (h72 : ∀ v2 w, V_X3_waits l D H0 w0 (k72 v2 w) 72 [(2, lI v2)] [] w) : ∀ (F : Nat) (v0 : Rf) (v1 : Int32) (v2 : Int32) (v3 : Int32) (w : St), V_X3_waits l D H0 w0 (f_X3_waits_l29 G k72 F v0 v1 v2 v3 w) 29 [(0, lR v0), (1, lI v1), (2, lI v2), (3, lI v3)] [] w := by
  intro F
  induction F with
  | zero => intros; exact r_none
  | succ F ih =>
    intro v0 v1 v2 v3 w
    unfold f_X3_waits_l29
    refine r_iload_n 30 3 dX3_waits_29 rfl rfl rfl ?_
    refine r_aload_n 31 0 dX3_waits_30 rfl rfl rfl ?_
    refine r_getr 34 gf_X3_9 dX3_waits_31 rfl (fun x31 => ?_)
    refine r_iconst (v := 1) 35 dX3_waits_34 rfl rfl ?_
    refine r_iald 36 dX3_waits_35 rfl (fun x35 => ?_)
    refine r_icmp_ge 72 39 dX3_waits_36 (by decide) rfl ?_ ?_
    · exact r_lsP [2] rfl (h72 v2 w)
    refine r_iload_n 40 2 dX3_waits_39 rfl rfl rfl ?_
    refine r_aload_n 41 0 dX3_waits_40 rfl rfl rfl ?_
    refine r_getr 44 gf_X3_9 dX3_waits_41 rfl (fun x41 => ?_)
    refine r_iload_n 45 3 dX3_waits_44 rfl rfl rfl ?_
    refine r_callS (n := 1) (as := [lI v3]) (rest := [rf x41, .int v2]) 48 (s_X3_ofLink hl G v3 w) (lw_S q2358 q2359 q110 q2360) (by decide +kernel) (by decide) rfl rfl (cat2_r (cat2_i (cat2_nil (k := 0)))) rfl dX3_waits_45 rfl (fun x45 w45 => ?_)
    refine r_iconst (v := 2) 49 dX3_waits_48 rfl rfl ?_
    refine r_iadd 50 dX3_waits_49 rfl ?_
    refine r_iald 51 dX3_waits_50 rfl (fun x50 => ?_)
    refine r_iload_n 52 1 dX3_waits_51 rfl rfl rfl ?_
    refine r_icmp_ne 63 55 dX3_waits_52 (by decide) rfl ?_ ?_
    · refine r_iconst (v := 0) 64 dX3_waits_63 rfl rfl ?_
      exact r_lsP [0, 1, 3] rfl (t_X3_waits_b64 hl G (fun v0 v1 v2 v3 w => f_X3_waits_l29 G k72 F v0 v1 v2 v3 w) (fun v0 v1 v2 v3 w => ih v0 v1 v2 v3 w)  v0 v1 v3 0 v2 w45)
    refine r_aload_n 56 0 dX3_waits_55 rfl rfl rfl ?_
    refine r_iload_n 57 3 dX3_waits_56 rfl rfl rfl ?_
    refine r_gd (fun hc57 => ?_)
    refine r_callV (n := 1) (as := [lI v3]) (rest := [.int v2]) 60 26 (s_X3_waitsOf hl G v0 v3 w45) hc57 rfl (lw_V q2504 q2506 qs78 q110 q2507) (by decide +kernel) (by decide) rfl rfl (cat2_i (cat2_nil (k := 0))) rfl dX3_waits_57 rfl (fun x57 w57 => ?_)
    refine r_goto 64 dX3_waits_60 (by decide) ?_
    exact r_lsP [0, 1, 3] rfl (t_X3_waits_b64 hl G (fun v0 v1 v2 v3 w => f_X3_waits_l29 G k72 F v0 v1 v2 v3 w) (fun v0 v1 v2 v3 w => ih v0 v1 v2 v3 w)  v0 v1 v3 x57 v2 w57)
theorem t_X3_waits_b72 {l : Launch} {D : Dn} {H0 : Heap} {w0 : St} (hl : l.stackTraces = false) (G : Nat) (v2 : Int32) (w : St) : V_X3_waits l D H0 w0 (f_X3_waits_b72 G v2 w) 72 [(2, lI v2)] [] w := by
  unfold f_X3_waits_b72
  refine r_iload_n 73 0 dX3_waits_72 rfl rfl rfl ?_
  exact r_iret rfl rfl dX3_waits_73
theorem t_X3_waits {l : Launch} {D : Dn} {H0 : Heap} {w0 : St} (hl : l.stackTraces = false) (G : Nat) (a0 : Rf) (a1 : Int32) (w : St) : V_X3_waits l D H0 w0 (f_X3_waits G a0 a1 w) 0 [(0, lR a0), (1, lI a1)] [] w := by
  unfold f_X3_waits
  refine r_aload_n 1 0 dX3_waits_0 rfl rfl rfl ?_
  refine r_iconst (v := 0) 2 dX3_waits_1 rfl rfl ?_
  refine r_puti 5 pf_X3_69 dX3_waits_2 rfl (fun w2 => ?_)
  refine r_aload_n 6 0 dX3_waits_5 rfl rfl rfl ?_
  refine r_iload_n 7 1 dX3_waits_6 rfl rfl rfl ?_
  refine r_gd (fun hc7 => ?_)
  refine r_callV (n := 1) (as := [lI a1]) (rest := []) 10 26 (s_X3_isCoach hl G a0 a1 w2) hc7 rfl (lw_V q2317 q2319 qs45 q110 q2320) (by decide +kernel) (by decide) rfl rfl (cat2_nil (k := 0)) rfl dX3_waits_7 rfl (fun x7 w7 => ?_)
  refine r_if_ne 19 13 dX3_waits_10 (by decide) rfl ?_ ?_
  · refine r_aload_n 20 0 dX3_waits_19 rfl rfl rfl ?_
    refine r_iconst (v := (-1)) 21 dX3_waits_20 rfl rfl ?_
    refine r_iconst (v := (-1)) 22 dX3_waits_21 rfl rfl ?_
    refine r_gd (fun hc22 => ?_)
    refine r_callV (n := 2) (as := [lI ((-1)), lI ((-1))]) (rest := []) 25 26 (s_X3_laysMinutes hl G a0 ((-1)) ((-1)) w7) hc22 rfl (lw_V q2390 q2392 qs57 q110 q2393) (by decide +kernel) (by decide) rfl rfl (cat2_nil (k := 0)) rfl dX3_waits_22 rfl (fun _ w22 => ?_)
    refine r_iconst (v := 0) 26 dX3_waits_25 rfl rfl ?_
    refine r_istore_n (ls2 := [(2, lI 0), (0, lR a0), (1, lI a1)]) 27 dX3_waits_26 rfl (by decide) rfl rfl ?_
    refine r_iconst (v := 0) 28 dX3_waits_27 rfl rfl ?_
    refine r_istore_n (ls2 := [(3, lI 0), (2, lI 0), (0, lR a0), (1, lI a1)]) 29 dX3_waits_28 rfl (by decide) rfl rfl ?_
    exact r_lsP [2, 3, 1, 0] rfl (t_X3_waits_l29 hl G (fun v2 w => f_X3_waits_b72 G  v2 w) (fun v2 w => t_X3_waits_b72 hl G  v2 w) G a0 a1 0 0 w22)
  refine r_aload_n 14 0 dX3_waits_13 rfl rfl rfl ?_
  refine r_iconst (v := 1) 15 dX3_waits_14 rfl rfl ?_
  refine r_gd (fun hc15 => ?_)
  refine r_callV (n := 1) (as := [lI 1]) (rest := []) 18 26 (s_X3_throwing hl G a0 1 w7) hc15 rfl (lw_V q2298 q2300 qs42 q110 q2301) (by decide +kernel) (by decide) rfl rfl (cat2_nil (k := 0)) rfl dX3_waits_15 rfl (fun x15 w15 => ?_)
  exact r_iret rfl rfl dX3_waits_18
theorem s_X3_waits {l : Launch} {D : Dn} {H0 : Heap} (hl : l.stackTraces = false) (G : Nat) (a0 : Rf) (a1 : Int32) (w : St) : SimN l D H0 yX3_waits (ws_ yX3_waits cX3_waits 4 (some (.int))) 7 163 rvI [lR a0, lI a1] w (f_X3_waits G a0 a1 w) := SimX.N (SimX.ofV (y := yX3_waits) (by decide) rfl (t_X3_waits hl G a0 a1 w))
abbrev V_X3_lateAll (l : Launch) (D : Dn) (H0 : Heap) (w0 : St) (res : Option (Int32 × St)) (pc : Nat) (ls : List (Nat × LV)) (st : List Value) (w : St) : Prop := V l D H0 RX3 "lateAll" cX3_lateAll 6 (some (.int)) [] 3 68 (fun x => .inr (rvI x)) w0 res pc ls st w
theorem t_X3_lateAll_b83 {l : Launch} {D : Dn} {H0 : Heap} {w0 : St} (hl : l.stackTraces = false) (G : Nat) (k4 : Rf → Int32 → Int32 → Int32 → St → Option (Int32 × St)) (h4 : ∀ v0 v1 v2 v3 w, V_X3_lateAll l D H0 w0 (k4 v0 v1 v2 v3 w) 4 [(0, lR v0), (1, lI v1), (2, lI v2), (3, lI v3)] [] w) (v0 : Rf) (v1 : Int32) (v3 : Int32) (s0 : Int32) (s1 : Int32) (w : St) : V_X3_lateAll l D H0 w0 (f_X3_lateAll_b83 G k4 v0 v1 v3 s0 s1 w) 83 [(0, lR v0), (1, lI v1), (3, lI v3)] [.int s0, .int s1] w := by
  unfold f_X3_lateAll_b83
  refine r_iadd 84 dX3_lateAll_83 rfl ?_
  refine r_istore_n (ls2 := [(2, lI (s1 + s0)), (0, lR v0), (1, lI v1), (3, lI v3)]) 85 dX3_lateAll_84 rfl (by decide) rfl rfl ?_
  refine r_iinc (v := v3 + 1) (ls2 := [(3, lI (v3 + 1)), (2, lI (s1 + s0)), (0, lR v0), (1, lI v1)]) 88 3 dX3_lateAll_85 rfl rfl (by decide) rfl rfl ?_
  refine r_goto 4 dX3_lateAll_88 (by decide) ?_
  exact r_lsP [2, 3, 1, 0] rfl (h4 v0 v1 (s1 + s0) (v3 + 1) w)
theorem t_X3_lateAll_b56 {l : Launch} {D : Dn} {H0 : Heap} {w0 : St} (hl : l.stackTraces = false) (G : Nat) (k4 : Rf → Int32 → Int32 → Int32 → St → Option (Int32 × St)) (h4 : ∀ v0 v1 v2 v3 w, V_X3_lateAll l D H0 w0 (k4 v0 v1 v2 v3 w) 4 [(0, lR v0), (1, lI v1), (2, lI v2), (3, lI v3)] [] w) (v0 : Rf) (v1 : Int32) (v2 : Int32) (v3 : Int32) (v4 : Int32) (s0 : Int32) (w : St) : V_X3_lateAll l D H0 w0 (f_X3_lateAll_b56 G k4 v0 v1 v2 v3 v4 s0 w) 56 [(0, lR v0), (1, lI v1), (2, lI v2), (3, lI v3), (4, lI v4)] [.int s0] w := by
  unfold f_X3_lateAll_b56
  refine r_istore (ls2 := [(5, lI s0), (0, lR v0), (1, lI v1), (2, lI v2), (3, lI v3), (4, lI v4)]) 58 dX3_lateAll_56 (by decide) rfl rfl ?_
  refine r_iload_n 59 3 dX3_lateAll_58 rfl rfl rfl ?_
  refine r_iload 61 0 dX3_lateAll_59 rfl rfl ?_
  refine r_if_eq 82 64 dX3_lateAll_61 (by decide) rfl ?_ ?_
  · refine r_iconst (v := 0) 83 dX3_lateAll_82 rfl rfl ?_
    exact r_lsP [1, 2, 4] rfl (t_X3_lateAll_b83 hl G k4 h4  v0 v1 v3 0 v2 w)
  refine r_aload_n 65 1 dX3_lateAll_64 rfl rfl rfl ?_
  refine r_iload 67 5 dX3_lateAll_65 rfl rfl ?_
  refine r_iload_n 68 4 dX3_lateAll_67 rfl rfl rfl ?_
  refine r_iconst (v := 2) 69 dX3_lateAll_68 rfl rfl ?_
  refine r_idiv 70 dX3_lateAll_69 (by decide) rfl ?_
  refine r_bipush (v := 6) 72 dX3_lateAll_70 rfl rfl ?_
  refine r_irem 73 dX3_lateAll_72 (by decide) rfl ?_
  refine r_iload_n 74 4 dX3_lateAll_73 rfl rfl rfl ?_
  refine r_iconst (v := 2) 75 dX3_lateAll_74 rfl rfl ?_
  refine r_irem 76 dX3_lateAll_75 (by decide) rfl ?_
  refine r_gd (fun hc76 => ?_)
  refine r_callV (n := 3) (as := [lI v4, lI ((v3 / 2) - (v3 / 2) / 6 * 6), lI (v3 - v3 / 2 * 2)]) (rest := [.int v2]) 79 26 (s_X3_lateOf hl G v0 v4 ((v3 / 2) - (v3 / 2) / 6 * 6) (v3 - v3 / 2 * 2) w) hc76 rfl (lw_V q2450 q2452 qs71 q110 q2453) (by decide +kernel) (by decide) rfl rfl (cat2_i (cat2_nil (k := 0))) rfl dX3_lateAll_76 rfl (fun x76 w76 => ?_)
  refine r_goto 83 dX3_lateAll_79 (by decide) ?_
  exact r_lsP [1, 2, 4] rfl (t_X3_lateAll_b83 hl G k4 h4  v0 v1 v3 x76 v2 w76)
theorem t_X3_lateAll_b55 {l : Launch} {D : Dn} {H0 : Heap} {w0 : St} (hl : l.stackTraces = false) (G : Nat) (k4 : Rf → Int32 → Int32 → Int32 → St → Option (Int32 × St)) (h4 : ∀ v0 v1 v2 v3 w, V_X3_lateAll l D H0 w0 (k4 v0 v1 v2 v3 w) 4 [(0, lR v0), (1, lI v1), (2, lI v2), (3, lI v3)] [] w) (v0 : Rf) (v1 : Int32) (v2 : Int32) (v3 : Int32) (v4 : Int32) (w : St) : V_X3_lateAll l D H0 w0 (f_X3_lateAll_b55 G k4 v0 v1 v2 v3 v4 w) 55 [(0, lR v0), (1, lI v1), (2, lI v2), (3, lI v3), (4, lI v4)] [] w := by
  unfold f_X3_lateAll_b55
  refine r_iconst (v := 0) 56 dX3_lateAll_55 rfl rfl ?_
  exact r_lsP [0, 1, 2, 3, 4] rfl (t_X3_lateAll_b56 hl G k4 h4  v0 v1 v2 v3 v4 0 w)
theorem t_X3_lateAll_l4 {l : Launch} {D : Dn} {H0 : Heap} {w0 : St} (hl : l.stackTraces = false) (G : Nat) (k91 : Int32 → St → Option (Int32 × St)) (h91 : ∀ v2 w, V_X3_lateAll l D H0 w0 (k91 v2 w) 91 [(2, lI v2)] [] w) : ∀ (F : Nat) (v0 : Rf) (v1 : Int32) (v2 : Int32) (v3 : Int32) (w : St), V_X3_lateAll l D H0 w0 (f_X3_lateAll_l4 G k91 F v0 v1 v2 v3 w) 4 [(0, lR v0), (1, lI v1), (2, lI v2), (3, lI v3)] [] w := by
  intro F
  induction F with
  | zero => intros; exact r_none
  | succ F ih =>
    intro v0 v1 v2 v3 w
    unfold f_X3_lateAll_l4
    refine r_iload_n 5 3 dX3_lateAll_4 rfl rfl rfl ?_
    refine r_bipush (v := 72) 7 dX3_lateAll_5 rfl rfl ?_
    refine r_icmp_ge 91 10 dX3_lateAll_7 (by decide) rfl ?_ ?_
    · exact r_lsP [2] rfl (h91 v2 w)
    refine r_iload_n 11 3 dX3_lateAll_10 rfl rfl rfl ?_
    refine r_bipush (v := 12) 13 dX3_lateAll_11 rfl rfl ?_
    refine r_idiv 14 dX3_lateAll_13 (by decide) rfl ?_
    refine r_istore (ls2 := [(4, lI (v3 / 12)), (0, lR v0), (1, lI v1), (2, lI v2), (3, lI v3)]) 16 dX3_lateAll_14 (by decide) rfl rfl ?_
    refine r_iload 18 0 dX3_lateAll_16 rfl rfl ?_
    refine r_aload_n 19 1 dX3_lateAll_18 rfl rfl rfl ?_
    refine r_getr 22 gf_X3_9 dX3_lateAll_19 rfl (fun x19 => ?_)
    refine r_iconst (v := 0) 23 dX3_lateAll_22 rfl rfl ?_
    refine r_iald 24 dX3_lateAll_23 rfl (fun x23 => ?_)
    refine r_icmp_ge 55 27 dX3_lateAll_24 (by decide) rfl ?_ ?_
    · exact r_lsP [1, 2, 3, 4, 0] rfl (t_X3_lateAll_b55 hl G (fun v0 v1 v2 v3 w => f_X3_lateAll_l4 G k91 F v0 v1 v2 v3 w) (fun v0 v1 v2 v3 w => ih v0 v1 v2 v3 w)  v0 v1 v2 v3 (v3 / 12) w)
    refine r_iload 29 0 dX3_lateAll_27 rfl rfl ?_
    refine r_iload_n 30 2 dX3_lateAll_29 rfl rfl rfl ?_
    refine r_icmp_eq 55 33 dX3_lateAll_30 (by decide) rfl ?_ ?_
    · exact r_lsP [1, 2, 3, 4, 0] rfl (t_X3_lateAll_b55 hl G (fun v0 v1 v2 v3 w => f_X3_lateAll_l4 G k91 F v0 v1 v2 v3 w) (fun v0 v1 v2 v3 w => ih v0 v1 v2 v3 w)  v0 v1 v2 v3 (v3 / 12) w)
    refine r_aload_n 34 1 dX3_lateAll_33 rfl rfl rfl ?_
    refine r_iload 36 0 dX3_lateAll_34 rfl rfl ?_
    refine r_iload_n 37 4 dX3_lateAll_36 rfl rfl rfl ?_
    refine r_iconst (v := 2) 38 dX3_lateAll_37 rfl rfl ?_
    refine r_idiv 39 dX3_lateAll_38 (by decide) rfl ?_
    refine r_bipush (v := 6) 41 dX3_lateAll_39 rfl rfl ?_
    refine r_irem 42 dX3_lateAll_41 (by decide) rfl ?_
    refine r_iload_n 43 4 dX3_lateAll_42 rfl rfl rfl ?_
    refine r_iconst (v := 2) 44 dX3_lateAll_43 rfl rfl ?_
    refine r_irem 45 dX3_lateAll_44 (by decide) rfl ?_
    refine r_gd (fun hc45 => ?_)
    refine r_callV (n := 3) (as := [lI (v3 / 12), lI ((v3 / 2) - (v3 / 2) / 6 * 6), lI (v3 - v3 / 2 * 2)]) (rest := []) 48 26 (s_X3_isEvent hl G v0 (v3 / 12) ((v3 / 2) - (v3 / 2) / 6 * 6) (v3 - v3 / 2 * 2) w) hc45 rfl (lw_V q2353 q2355 qs52 q110 q2356) (by decide +kernel) (by decide) rfl rfl (cat2_nil (k := 0)) rfl dX3_lateAll_45 rfl (fun x45 w45 => ?_)
    refine r_if_eq 55 51 dX3_lateAll_48 (by decide) rfl ?_ ?_
    · exact r_lsP [1, 2, 3, 4, 0] rfl (t_X3_lateAll_b55 hl G (fun v0 v1 v2 v3 w => f_X3_lateAll_l4 G k91 F v0 v1 v2 v3 w) (fun v0 v1 v2 v3 w => ih v0 v1 v2 v3 w)  v0 v1 v2 v3 (v3 / 12) w45)
    refine r_iconst (v := 1) 52 dX3_lateAll_51 rfl rfl ?_
    refine r_goto 56 dX3_lateAll_52 (by decide) ?_
    exact r_lsP [1, 2, 3, 4, 0] rfl (t_X3_lateAll_b56 hl G (fun v0 v1 v2 v3 w => f_X3_lateAll_l4 G k91 F v0 v1 v2 v3 w) (fun v0 v1 v2 v3 w => ih v0 v1 v2 v3 w)  v0 v1 v2 v3 (v3 / 12) 1 w45)
theorem t_X3_lateAll_b91 {l : Launch} {D : Dn} {H0 : Heap} {w0 : St} (hl : l.stackTraces = false) (G : Nat) (v2 : Int32) (w : St) : V_X3_lateAll l D H0 w0 (f_X3_lateAll_b91 G v2 w) 91 [(2, lI v2)] [] w := by
  unfold f_X3_lateAll_b91
  refine r_iload_n 92 0 dX3_lateAll_91 rfl rfl rfl ?_
  exact r_iret rfl rfl dX3_lateAll_92
theorem t_X3_lateAll {l : Launch} {D : Dn} {H0 : Heap} {w0 : St} (hl : l.stackTraces = false) (G : Nat) (a0 : Rf) (a1 : Int32) (w : St) : V_X3_lateAll l D H0 w0 (f_X3_lateAll G a0 a1 w) 0 [(0, lR a0), (1, lI a1)] [] w := by
  unfold f_X3_lateAll
  refine r_iconst (v := 0) 1 dX3_lateAll_0 rfl rfl ?_
  refine r_istore_n (ls2 := [(2, lI 0), (0, lR a0), (1, lI a1)]) 2 dX3_lateAll_1 rfl (by decide) rfl rfl ?_
  refine r_iconst (v := 0) 3 dX3_lateAll_2 rfl rfl ?_
  refine r_istore_n (ls2 := [(3, lI 0), (2, lI 0), (0, lR a0), (1, lI a1)]) 4 dX3_lateAll_3 rfl (by decide) rfl rfl ?_
  exact r_lsP [2, 3, 1, 0] rfl (t_X3_lateAll_l4 hl G (fun v2 w => f_X3_lateAll_b91 G  v2 w) (fun v2 w => t_X3_lateAll_b91 hl G  v2 w) G a0 a1 0 0 w)
theorem s_X3_lateAll {l : Launch} {D : Dn} {H0 : Heap} (hl : l.stackTraces = false) (G : Nat) (a0 : Rf) (a1 : Int32) (w : St) : SimN l D H0 yX3_lateAll (ws_ yX3_lateAll cX3_lateAll 6 (some (.int))) 3 68 rvI [lR a0, lI a1] w (f_X3_lateAll G a0 a1 w) := SimX.N (SimX.ofV (y := yX3_lateAll) (by decide) rfl (t_X3_lateAll hl G a0 a1 w))
abbrev V_X3_knocks (l : Launch) (D : Dn) (H0 : Heap) (w0 : St) (res : Option (Int32 × St)) (pc : Nat) (ls : List (Nat × LV)) (st : List Value) (w : St) : Prop := V l D H0 RX3 "knocks" cX3_knocks 3 (some (.int)) [] 7 163 (fun x => .inr (rvI x)) w0 res pc ls st w
theorem t_X3_knocks {l : Launch} {D : Dn} {H0 : Heap} {w0 : St} (hl : l.stackTraces = false) (G : Nat) (a0 : Rf) (a1 : Int32) (w : St) : V_X3_knocks l D H0 w0 (f_X3_knocks G a0 a1 w) 0 [(0, lR a0), (1, lI a1)] [] w := by
  unfold f_X3_knocks
  refine r_aload_n 1 0 dX3_knocks_0 rfl rfl rfl ?_
  refine r_iconst (v := 0) 2 dX3_knocks_1 rfl rfl ?_
  refine r_puti 5 pf_X3_69 dX3_knocks_2 rfl (fun w2 => ?_)
  refine r_aload_n 6 0 dX3_knocks_5 rfl rfl rfl ?_
  refine r_iload_n 7 1 dX3_knocks_6 rfl rfl rfl ?_
  refine r_gd (fun hc7 => ?_)
  refine r_callV (n := 1) (as := [lI a1]) (rest := []) 10 26 (s_X3_isCoach hl G a0 a1 w2) hc7 rfl (lw_V q2317 q2319 qs45 q110 q2320) (by decide +kernel) (by decide) rfl rfl (cat2_nil (k := 0)) rfl dX3_knocks_7 rfl (fun x7 w7 => ?_)
  refine r_if_ne 19 13 dX3_knocks_10 (by decide) rfl ?_ ?_
  · refine r_aload_n 20 0 dX3_knocks_19 rfl rfl rfl ?_
    refine r_iconst (v := (-1)) 21 dX3_knocks_20 rfl rfl ?_
    refine r_iconst (v := (-1)) 22 dX3_knocks_21 rfl rfl ?_
    refine r_gd (fun hc22 => ?_)
    refine r_callV (n := 2) (as := [lI ((-1)), lI ((-1))]) (rest := []) 25 26 (s_X3_laysMinutes hl G a0 ((-1)) ((-1)) w7) hc22 rfl (lw_V q2390 q2392 qs57 q110 q2393) (by decide +kernel) (by decide) rfl rfl (cat2_nil (k := 0)) rfl dX3_knocks_22 rfl (fun _ w22 => ?_)
    refine r_aload_n 26 0 dX3_knocks_25 rfl rfl rfl ?_
    refine r_iload_n 27 1 dX3_knocks_26 rfl rfl rfl ?_
    refine r_gd (fun hc27 => ?_)
    refine r_callV (n := 1) (as := [lI a1]) (rest := []) 30 26 (s_X3_lateAll hl G a0 a1 w22) hc27 rfl (lw_V q2524 q2526 qs80 q110 q2527) (by decide +kernel) (by decide) rfl rfl (cat2_nil (k := 0)) rfl dX3_knocks_27 rfl (fun x27 w27 => ?_)
    refine r_istore_n (ls2 := [(2, lI x27), (0, lR a0), (1, lI a1)]) 31 dX3_knocks_30 rfl (by decide) rfl rfl ?_
    refine r_aload_n 32 1 dX3_knocks_31 rfl rfl rfl ?_
    refine r_iconst (v := (-1)) 33 dX3_knocks_32 rfl rfl ?_
    refine r_iload_n 34 2 dX3_knocks_33 rfl rfl rfl ?_
    refine r_gd (fun hc34 => ?_)
    refine r_callV (n := 2) (as := [lI ((-1)), lI a1]) (rest := []) 37 26 (s_X3_laysMinutes hl G a0 ((-1)) a1 w27) hc34 rfl (lw_V q2390 q2392 qs57 q110 q2393) (by decide +kernel) (by decide) rfl rfl (cat2_nil (k := 0)) rfl dX3_knocks_34 rfl (fun _ w34 => ?_)
    refine r_iload_n 38 0 dX3_knocks_37 rfl rfl rfl ?_
    refine r_aload_n 39 1 dX3_knocks_38 rfl rfl rfl ?_
    refine r_iload_n 40 2 dX3_knocks_39 rfl rfl rfl ?_
    refine r_gd (fun hc40 => ?_)
    refine r_callV (n := 1) (as := [lI a1]) (rest := [.int x27]) 43 26 (s_X3_lateAll hl G a0 a1 w34) hc40 rfl (lw_V q2524 q2526 qs80 q110 q2527) (by decide +kernel) (by decide) rfl rfl (cat2_i (cat2_nil (k := 0))) rfl dX3_knocks_40 rfl (fun x40 w40 => ?_)
    refine r_isub 44 dX3_knocks_43 rfl ?_
    exact r_iret rfl rfl dX3_knocks_44
  refine r_aload_n 14 0 dX3_knocks_13 rfl rfl rfl ?_
  refine r_iconst (v := 1) 15 dX3_knocks_14 rfl rfl ?_
  refine r_gd (fun hc15 => ?_)
  refine r_callV (n := 1) (as := [lI 1]) (rest := []) 18 26 (s_X3_throwing hl G a0 1 w7) hc15 rfl (lw_V q2298 q2300 qs42 q110 q2301) (by decide +kernel) (by decide) rfl rfl (cat2_nil (k := 0)) rfl dX3_knocks_15 rfl (fun x15 w15 => ?_)
  exact r_iret rfl rfl dX3_knocks_18
theorem s_X3_knocks {l : Launch} {D : Dn} {H0 : Heap} (hl : l.stackTraces = false) (G : Nat) (a0 : Rf) (a1 : Int32) (w : St) : SimN l D H0 yX3_knocks (ws_ yX3_knocks cX3_knocks 3 (some (.int))) 7 163 rvI [lR a0, lI a1] w (f_X3_knocks G a0 a1 w) := SimX.N (SimX.ofV (y := yX3_knocks) (by decide) rfl (t_X3_knocks hl G a0 a1 w))
abbrev V_X3_reaches (l : Launch) (D : Dn) (H0 : Heap) (w0 : St) (res : Option (Int32 × St)) (pc : Nat) (ls : List (Nat × LV)) (st : List Value) (w : St) : Prop := V l D H0 RX3 "reaches" cX3_reaches 5 (some (.int)) [] 7 163 (fun x => .inr (rvI x)) w0 res pc ls st w
theorem t_X3_reaches_l27 {l : Launch} {D : Dn} {H0 : Heap} {w0 : St} (hl : l.stackTraces = false) (G : Nat) (k54 : Rf → Int32 → St → Option (Int32 × St)) (h54 : ∀ v0 v1 w, V_X3_reaches l D H0 w0 (k54 v0 v1 w) 54 [(0, lR v0), (1, lI v1)] [] w) : ∀ (F : Nat) (v0 : Rf) (v1 : Int32) (v2 : Int32) (w : St), V_X3_reaches l D H0 w0 (f_X3_reaches_l27 G k54 F v0 v1 v2 w) 27 [(0, lR v0), (1, lI v1), (2, lI v2)] [] w := by
  intro F
  induction F with
  | zero => intros; exact r_none
  | succ F ih =>
    intro v0 v1 v2 w
    unfold f_X3_reaches_l27
    refine r_iload_n 28 2 dX3_reaches_27 rfl rfl rfl ?_
    refine r_aload_n 29 0 dX3_reaches_28 rfl rfl rfl ?_
    refine r_getr 32 gf_X3_47 dX3_reaches_29 rfl (fun x29 => ?_)
    refine r_alen 33 dX3_reaches_32 rfl (fun x32 => ?_)
    refine r_icmp_ge 54 36 dX3_reaches_33 (by decide) rfl ?_ ?_
    · exact r_lsP [0, 1] rfl (h54 v0 v1 w)
    refine r_aload_n 37 0 dX3_reaches_36 rfl rfl rfl ?_
    refine r_getr 40 gf_X3_47 dX3_reaches_37 rfl (fun x37 => ?_)
    refine r_iload_n 41 2 dX3_reaches_40 rfl rfl rfl ?_
    refine r_aload_n 42 0 dX3_reaches_41 rfl rfl rfl ?_
    refine r_getr 45 gf_X3_41 dX3_reaches_42 rfl (fun x42 => ?_)
    refine r_iload_n 46 2 dX3_reaches_45 rfl rfl rfl ?_
    refine r_iald 47 dX3_reaches_46 rfl (fun x46 => ?_)
    refine r_iast 48 dX3_reaches_47 rfl (fun w47 => ?_)
    refine r_iinc (v := v2 + 1) (ls2 := [(2, lI (v2 + 1)), (0, lR v0), (1, lI v1)]) 51 2 dX3_reaches_48 rfl rfl (by decide) rfl rfl ?_
    refine r_goto 27 dX3_reaches_51 (by decide) ?_
    exact r_lsP [1, 2, 0] rfl (ih v0 v1 (v2 + 1) w47)
theorem t_X3_reaches_b135 {l : Launch} {D : Dn} {H0 : Heap} {w0 : St} (hl : l.stackTraces = false) (G : Nat) (k64 : Rf → Int32 → Int32 → Int32 → St → Option (Int32 × St)) (h64 : ∀ v0 v1 v2 v3 w, V_X3_reaches l D H0 w0 (k64 v0 v1 v2 v3 w) 64 [(0, lR v0), (1, lI v1), (2, lI v2), (3, lI v3)] [] w) (v0 : Rf) (v1 : Int32) (v3 : Int32) (s0 : Int32) (s1 : Int32) (w : St) : V_X3_reaches l D H0 w0 (f_X3_reaches_b135 G k64 v0 v1 v3 s0 s1 w) 135 [(0, lR v0), (1, lI v1), (3, lI v3)] [.int s0, .int s1] w := by
  unfold f_X3_reaches_b135
  refine r_iadd 136 dX3_reaches_135 rfl ?_
  refine r_istore_n (ls2 := [(2, lI (s1 + s0)), (0, lR v0), (1, lI v1), (3, lI v3)]) 137 dX3_reaches_136 rfl (by decide) rfl rfl ?_
  refine r_iinc (v := v3 + 1) (ls2 := [(3, lI (v3 + 1)), (2, lI (s1 + s0)), (0, lR v0), (1, lI v1)]) 140 3 dX3_reaches_137 rfl rfl (by decide) rfl rfl ?_
  refine r_goto 64 dX3_reaches_140 (by decide) ?_
  exact r_lsP [2, 3, 1, 0] rfl (h64 v0 v1 (s1 + s0) (v3 + 1) w)
theorem t_X3_reaches_b134 {l : Launch} {D : Dn} {H0 : Heap} {w0 : St} (hl : l.stackTraces = false) (G : Nat) (k64 : Rf → Int32 → Int32 → Int32 → St → Option (Int32 × St)) (h64 : ∀ v0 v1 v2 v3 w, V_X3_reaches l D H0 w0 (k64 v0 v1 v2 v3 w) 64 [(0, lR v0), (1, lI v1), (2, lI v2), (3, lI v3)] [] w) (v0 : Rf) (v1 : Int32) (v3 : Int32) (s0 : Int32) (w : St) : V_X3_reaches l D H0 w0 (f_X3_reaches_b134 G k64 v0 v1 v3 s0 w) 134 [(0, lR v0), (1, lI v1), (3, lI v3)] [.int s0] w := by
  unfold f_X3_reaches_b134
  refine r_iconst (v := 0) 135 dX3_reaches_134 rfl rfl ?_
  exact r_lsP [0, 1, 2] rfl (t_X3_reaches_b135 hl G k64 h64  v0 v1 v3 0 s0 w)
theorem t_X3_reaches_l64 {l : Launch} {D : Dn} {H0 : Heap} {w0 : St} (hl : l.stackTraces = false) (G : Nat) (k143 : Int32 → St → Option (Int32 × St)) (h143 : ∀ v2 w, V_X3_reaches l D H0 w0 (k143 v2 w) 143 [(2, lI v2)] [] w) : ∀ (F : Nat) (v0 : Rf) (v1 : Int32) (v2 : Int32) (v3 : Int32) (w : St), V_X3_reaches l D H0 w0 (f_X3_reaches_l64 G k143 F v0 v1 v2 v3 w) 64 [(0, lR v0), (1, lI v1), (2, lI v2), (3, lI v3)] [] w := by
  intro F
  induction F with
  | zero => intros; exact r_none
  | succ F ih =>
    intro v0 v1 v2 v3 w
    unfold f_X3_reaches_l64
    refine r_iload_n 65 3 dX3_reaches_64 rfl rfl rfl ?_
    refine r_aload_n 66 0 dX3_reaches_65 rfl rfl rfl ?_
    refine r_getr 69 gf_X3_47 dX3_reaches_66 rfl (fun x66 => ?_)
    refine r_alen 70 dX3_reaches_69 rfl (fun x69 => ?_)
    refine r_icmp_ge 143 73 dX3_reaches_70 (by decide) rfl ?_ ?_
    · exact r_lsP [2] rfl (h143 v2 w)
    refine r_iload_n 74 3 dX3_reaches_73 rfl rfl rfl ?_
    refine r_bipush (v := 12) 76 dX3_reaches_74 rfl rfl ?_
    refine r_idiv 77 dX3_reaches_76 (by decide) rfl ?_
    refine r_istore (ls2 := [(4, lI (v3 / 12)), (0, lR v0), (1, lI v1), (2, lI v2), (3, lI v3)]) 79 dX3_reaches_77 (by decide) rfl rfl ?_
    refine r_iload_n 80 3 dX3_reaches_79 rfl rfl rfl ?_
    refine r_iload 82 0 dX3_reaches_80 rfl rfl ?_
    refine r_aload_n 83 1 dX3_reaches_82 rfl rfl rfl ?_
    refine r_getr 86 gf_X3_9 dX3_reaches_83 rfl (fun x83 => ?_)
    refine r_iconst (v := 0) 87 dX3_reaches_86 rfl rfl ?_
    refine r_iald 88 dX3_reaches_87 rfl (fun x87 => ?_)
    refine r_icmp_ge 134 91 dX3_reaches_88 (by decide) rfl ?_ ?_
    · exact r_lsP [1, 2, 4] rfl (t_X3_reaches_b134 hl G (fun v0 v1 v2 v3 w => f_X3_reaches_l64 G k143 F v0 v1 v2 v3 w) (fun v0 v1 v2 v3 w => ih v0 v1 v2 v3 w)  v0 v1 v3 v2 w)
    refine r_iload 93 0 dX3_reaches_91 rfl rfl ?_
    refine r_iload_n 94 2 dX3_reaches_93 rfl rfl rfl ?_
    refine r_icmp_eq 134 97 dX3_reaches_94 (by decide) rfl ?_ ?_
    · exact r_lsP [1, 2, 4] rfl (t_X3_reaches_b134 hl G (fun v0 v1 v2 v3 w => f_X3_reaches_l64 G k143 F v0 v1 v2 v3 w) (fun v0 v1 v2 v3 w => ih v0 v1 v2 v3 w)  v0 v1 v3 v2 w)
    refine r_aload_n 98 1 dX3_reaches_97 rfl rfl rfl ?_
    refine r_iload 100 0 dX3_reaches_98 rfl rfl ?_
    refine r_iload_n 101 4 dX3_reaches_100 rfl rfl rfl ?_
    refine r_iconst (v := 2) 102 dX3_reaches_101 rfl rfl ?_
    refine r_idiv 103 dX3_reaches_102 (by decide) rfl ?_
    refine r_bipush (v := 6) 105 dX3_reaches_103 rfl rfl ?_
    refine r_irem 106 dX3_reaches_105 (by decide) rfl ?_
    refine r_iload_n 107 4 dX3_reaches_106 rfl rfl rfl ?_
    refine r_iconst (v := 2) 108 dX3_reaches_107 rfl rfl ?_
    refine r_irem 109 dX3_reaches_108 (by decide) rfl ?_
    refine r_gd (fun hc109 => ?_)
    refine r_callV (n := 3) (as := [lI (v3 / 12), lI ((v3 / 2) - (v3 / 2) / 6 * 6), lI (v3 - v3 / 2 * 2)]) (rest := [.int v2]) 112 26 (s_X3_isEvent hl G v0 (v3 / 12) ((v3 / 2) - (v3 / 2) / 6 * 6) (v3 - v3 / 2 * 2) w) hc109 rfl (lw_V q2353 q2355 qs52 q110 q2356) (by decide +kernel) (by decide) rfl rfl (cat2_i (cat2_nil (k := 0))) rfl dX3_reaches_109 rfl (fun x109 w109 => ?_)
    refine r_if_eq 134 115 dX3_reaches_112 (by decide) rfl ?_ ?_
    · exact r_lsP [1, 2, 4] rfl (t_X3_reaches_b134 hl G (fun v0 v1 v2 v3 w => f_X3_reaches_l64 G k143 F v0 v1 v2 v3 w) (fun v0 v1 v2 v3 w => ih v0 v1 v2 v3 w)  v0 v1 v3 v2 w109)
    refine r_aload_n 116 1 dX3_reaches_115 rfl rfl rfl ?_
    refine r_getr 119 gf_X3_47 dX3_reaches_116 rfl (fun x116 => ?_)
    refine r_iload_n 120 4 dX3_reaches_119 rfl rfl rfl ?_
    refine r_iald 121 dX3_reaches_120 rfl (fun x120 => ?_)
    refine r_aload_n 122 1 dX3_reaches_121 rfl rfl rfl ?_
    refine r_getr 125 gf_X3_41 dX3_reaches_122 rfl (fun x122 => ?_)
    refine r_iload_n 126 4 dX3_reaches_125 rfl rfl rfl ?_
    refine r_iald 127 dX3_reaches_126 rfl (fun x126 => ?_)
    refine r_icmp_eq 134 130 dX3_reaches_127 (by decide) rfl ?_ ?_
    · exact r_lsP [1, 2, 4] rfl (t_X3_reaches_b134 hl G (fun v0 v1 v2 v3 w => f_X3_reaches_l64 G k143 F v0 v1 v2 v3 w) (fun v0 v1 v2 v3 w => ih v0 v1 v2 v3 w)  v0 v1 v3 v2 w109)
    refine r_iconst (v := 1) 131 dX3_reaches_130 rfl rfl ?_
    refine r_goto 135 dX3_reaches_131 (by decide) ?_
    exact r_lsP [1, 2, 4] rfl (t_X3_reaches_b135 hl G (fun v0 v1 v2 v3 w => f_X3_reaches_l64 G k143 F v0 v1 v2 v3 w) (fun v0 v1 v2 v3 w => ih v0 v1 v2 v3 w)  v0 v1 v3 1 v2 w109)
theorem t_X3_reaches_b143 {l : Launch} {D : Dn} {H0 : Heap} {w0 : St} (hl : l.stackTraces = false) (G : Nat) (v2 : Int32) (w : St) : V_X3_reaches l D H0 w0 (f_X3_reaches_b143 G v2 w) 143 [(2, lI v2)] [] w := by
  unfold f_X3_reaches_b143
  refine r_iload_n 144 0 dX3_reaches_143 rfl rfl rfl ?_
  exact r_iret rfl rfl dX3_reaches_144
theorem t_X3_reaches_b54 {l : Launch} {D : Dn} {H0 : Heap} {w0 : St} (hl : l.stackTraces = false) (G : Nat) (v0 : Rf) (v1 : Int32) (w : St) : V_X3_reaches l D H0 w0 (f_X3_reaches_b54 G v0 v1 w) 54 [(0, lR v0), (1, lI v1)] [] w := by
  unfold f_X3_reaches_b54
  refine r_aload_n 55 0 dX3_reaches_54 rfl rfl rfl ?_
  refine r_iconst (v := (-1)) 56 dX3_reaches_55 rfl rfl ?_
  refine r_iload_n 57 1 dX3_reaches_56 rfl rfl rfl ?_
  refine r_gd (fun hc57 => ?_)
  refine r_callV (n := 2) (as := [lI ((-1)), lI v1]) (rest := []) 60 26 (s_X3_laysMinutes hl G v0 ((-1)) v1 w) hc57 rfl (lw_V q2390 q2392 qs57 q110 q2393) (by decide +kernel) (by decide) rfl rfl (cat2_nil (k := 0)) rfl dX3_reaches_57 rfl (fun _ w57 => ?_)
  refine r_iconst (v := 0) 61 dX3_reaches_60 rfl rfl ?_
  refine r_istore_n (ls2 := [(2, lI 0), (0, lR v0), (1, lI v1)]) 62 dX3_reaches_61 rfl (by decide) rfl rfl ?_
  refine r_iconst (v := 0) 63 dX3_reaches_62 rfl rfl ?_
  refine r_istore_n (ls2 := [(3, lI 0), (2, lI 0), (0, lR v0), (1, lI v1)]) 64 dX3_reaches_63 rfl (by decide) rfl rfl ?_
  exact r_lsP [2, 3, 1, 0] rfl (t_X3_reaches_l64 hl G (fun v2 w => f_X3_reaches_b143 G  v2 w) (fun v2 w => t_X3_reaches_b143 hl G  v2 w) G v0 v1 0 0 w57)
theorem t_X3_reaches {l : Launch} {D : Dn} {H0 : Heap} {w0 : St} (hl : l.stackTraces = false) (G : Nat) (a0 : Rf) (a1 : Int32) (w : St) : V_X3_reaches l D H0 w0 (f_X3_reaches G a0 a1 w) 0 [(0, lR a0), (1, lI a1)] [] w := by
  unfold f_X3_reaches
  refine r_aload_n 1 0 dX3_reaches_0 rfl rfl rfl ?_
  refine r_iconst (v := 0) 2 dX3_reaches_1 rfl rfl ?_
  refine r_puti 5 pf_X3_69 dX3_reaches_2 rfl (fun w2 => ?_)
  refine r_aload_n 6 0 dX3_reaches_5 rfl rfl rfl ?_
  refine r_iload_n 7 1 dX3_reaches_6 rfl rfl rfl ?_
  refine r_gd (fun hc7 => ?_)
  refine r_callV (n := 1) (as := [lI a1]) (rest := []) 10 26 (s_X3_isCoach hl G a0 a1 w2) hc7 rfl (lw_V q2317 q2319 qs45 q110 q2320) (by decide +kernel) (by decide) rfl rfl (cat2_nil (k := 0)) rfl dX3_reaches_7 rfl (fun x7 w7 => ?_)
  refine r_if_ne 19 13 dX3_reaches_10 (by decide) rfl ?_ ?_
  · refine r_aload_n 20 0 dX3_reaches_19 rfl rfl rfl ?_
    refine r_iconst (v := (-1)) 21 dX3_reaches_20 rfl rfl ?_
    refine r_iconst (v := (-1)) 22 dX3_reaches_21 rfl rfl ?_
    refine r_gd (fun hc22 => ?_)
    refine r_callV (n := 2) (as := [lI ((-1)), lI ((-1))]) (rest := []) 25 26 (s_X3_laysMinutes hl G a0 ((-1)) ((-1)) w7) hc22 rfl (lw_V q2390 q2392 qs57 q110 q2393) (by decide +kernel) (by decide) rfl rfl (cat2_nil (k := 0)) rfl dX3_reaches_22 rfl (fun _ w22 => ?_)
    refine r_iconst (v := 0) 26 dX3_reaches_25 rfl rfl ?_
    refine r_istore_n (ls2 := [(2, lI 0), (0, lR a0), (1, lI a1)]) 27 dX3_reaches_26 rfl (by decide) rfl rfl ?_
    exact r_lsP [1, 2, 0] rfl (t_X3_reaches_l27 hl G (fun v0 v1 w => f_X3_reaches_b54 G  v0 v1 w) (fun v0 v1 w => t_X3_reaches_b54 hl G  v0 v1 w) G a0 a1 0 w22)
  refine r_aload_n 14 0 dX3_reaches_13 rfl rfl rfl ?_
  refine r_iconst (v := 1) 15 dX3_reaches_14 rfl rfl ?_
  refine r_gd (fun hc15 => ?_)
  refine r_callV (n := 1) (as := [lI 1]) (rest := []) 18 26 (s_X3_throwing hl G a0 1 w7) hc15 rfl (lw_V q2298 q2300 qs42 q110 q2301) (by decide +kernel) (by decide) rfl rfl (cat2_nil (k := 0)) rfl dX3_reaches_15 rfl (fun x15 w15 => ?_)
  exact r_iret rfl rfl dX3_reaches_18
theorem s_X3_reaches {l : Launch} {D : Dn} {H0 : Heap} (hl : l.stackTraces = false) (G : Nat) (a0 : Rf) (a1 : Int32) (w : St) : SimN l D H0 yX3_reaches (ws_ yX3_reaches cX3_reaches 5 (some (.int))) 7 163 rvI [lR a0, lI a1] w (f_X3_reaches G a0 a1 w) := SimX.N (SimX.ofV (y := yX3_reaches) (by decide) rfl (t_X3_reaches hl G a0 a1 w))
abbrev V_X3_total (l : Launch) (D : Dn) (H0 : Heap) (w0 : St) (res : Option (Int32 × St)) (pc : Nat) (ls : List (Nat × LV)) (st : List Value) (w : St) : Prop := V l D H0 RX3 "total" cX3_total 1 (some (.int)) [] 7 163 (fun x => .inr (rvI x)) w0 res pc ls st w
theorem t_X3_total {l : Launch} {D : Dn} {H0 : Heap} {w0 : St} (hl : l.stackTraces = false) (G : Nat) (a0 : Rf) (w : St) : V_X3_total l D H0 w0 (f_X3_total G a0 w) 0 [(0, lR a0)] [] w := by
  unfold f_X3_total
  refine r_aload_n 1 0 dX3_total_0 rfl rfl rfl ?_
  refine r_iconst (v := 0) 2 dX3_total_1 rfl rfl ?_
  refine r_puti 5 pf_X3_69 dX3_total_2 rfl (fun w2 => ?_)
  refine r_aload_n 6 0 dX3_total_5 rfl rfl rfl ?_
  refine r_iconst (v := (-1)) 7 dX3_total_6 rfl rfl ?_
  refine r_iconst (v := (-1)) 8 dX3_total_7 rfl rfl ?_
  refine r_gd (fun hc8 => ?_)
  refine r_callV (n := 2) (as := [lI ((-1)), lI ((-1))]) (rest := []) 11 26 (s_X3_laysMinutes hl G a0 ((-1)) ((-1)) w2) hc8 rfl (lw_V q2390 q2392 qs57 q110 q2393) (by decide +kernel) (by decide) rfl rfl (cat2_nil (k := 0)) rfl dX3_total_8 rfl (fun _ w8 => ?_)
  refine r_aload_n 12 0 dX3_total_11 rfl rfl rfl ?_
  refine r_iconst (v := (-1)) 13 dX3_total_12 rfl rfl ?_
  refine r_gd (fun hc13 => ?_)
  refine r_callV (n := 1) (as := [lI ((-1))]) (rest := []) 16 26 (s_X3_lateAll hl G a0 ((-1)) w8) hc13 rfl (lw_V q2524 q2526 qs80 q110 q2527) (by decide +kernel) (by decide) rfl rfl (cat2_nil (k := 0)) rfl dX3_total_13 rfl (fun x13 w13 => ?_)
  exact r_iret rfl rfl dX3_total_16
theorem s_X3_total {l : Launch} {D : Dn} {H0 : Heap} (hl : l.stackTraces = false) (G : Nat) (a0 : Rf) (w : St) : SimN l D H0 yX3_total (ws_ yX3_total cX3_total 1 (some (.int))) 7 163 rvI [lR a0] w (f_X3_total G a0 w) := SimX.N (SimX.ofV (y := yX3_total) (by decide) rfl (t_X3_total hl G a0 w))
abbrev V_X3_totalWith (l : Launch) (D : Dn) (H0 : Heap) (w0 : St) (res : Option (Int32 × St)) (pc : Nat) (ls : List (Nat × LV)) (st : List Value) (w : St) : Prop := V l D H0 RX3 "totalWith" cX3_totalWith 2 (some (.int)) [] 7 163 (fun x => .inr (rvI x)) w0 res pc ls st w
theorem t_X3_totalWith {l : Launch} {D : Dn} {H0 : Heap} {w0 : St} (hl : l.stackTraces = false) (G : Nat) (a0 : Rf) (a1 : Int32) (w : St) : V_X3_totalWith l D H0 w0 (f_X3_totalWith G a0 a1 w) 0 [(0, lR a0), (1, lI a1)] [] w := by
  unfold f_X3_totalWith
  refine r_aload_n 1 0 dX3_totalWith_0 rfl rfl rfl ?_
  refine r_iconst (v := 0) 2 dX3_totalWith_1 rfl rfl ?_
  refine r_puti 5 pf_X3_69 dX3_totalWith_2 rfl (fun w2 => ?_)
  refine r_iload_n 6 1 dX3_totalWith_5 rfl rfl rfl ?_
  refine r_i2l 7 dX3_totalWith_6 rfl ?_
  refine r_lconst (v := 0) 8 dX3_totalWith_7 rfl rfl ?_
  refine r_ldc2J 11 q2357 dX3_totalWith_8 rfl ?_
  refine r_callS (n := 3) (as := [lJ a1.toInt64, lJ 0, lJ 60]) (rest := []) 14 (s_X3_in hl G a1.toInt64 0 60 w2) (lw_S q2290 q2291 q110 q2292) (by decide +kernel) (by decide) rfl rfl (cat2_nil (k := 0)) rfl dX3_totalWith_11 rfl (fun x11 w11 => ?_)
  refine r_if_ne 23 17 dX3_totalWith_14 (by decide) rfl ?_ ?_
  · refine r_aload_n 24 0 dX3_totalWith_23 rfl rfl rfl ?_
    refine r_iload_n 25 1 dX3_totalWith_24 rfl rfl rfl ?_
    refine r_iconst (v := (-1)) 26 dX3_totalWith_25 rfl rfl ?_
    refine r_gd (fun hc26 => ?_)
    refine r_callV (n := 2) (as := [lI a1, lI ((-1))]) (rest := []) 29 26 (s_X3_laysMinutes hl G a0 a1 ((-1)) w11) hc26 rfl (lw_V q2390 q2392 qs57 q110 q2393) (by decide +kernel) (by decide) rfl rfl (cat2_nil (k := 0)) rfl dX3_totalWith_26 rfl (fun _ w26 => ?_)
    refine r_aload_n 30 0 dX3_totalWith_29 rfl rfl rfl ?_
    refine r_iconst (v := (-1)) 31 dX3_totalWith_30 rfl rfl ?_
    refine r_gd (fun hc31 => ?_)
    refine r_callV (n := 1) (as := [lI ((-1))]) (rest := []) 34 26 (s_X3_lateAll hl G a0 ((-1)) w26) hc31 rfl (lw_V q2524 q2526 qs80 q110 q2527) (by decide +kernel) (by decide) rfl rfl (cat2_nil (k := 0)) rfl dX3_totalWith_31 rfl (fun x31 w31 => ?_)
    exact r_iret rfl rfl dX3_totalWith_34
  refine r_aload_n 18 0 dX3_totalWith_17 rfl rfl rfl ?_
  refine r_iconst (v := 1) 19 dX3_totalWith_18 rfl rfl ?_
  refine r_gd (fun hc19 => ?_)
  refine r_callV (n := 1) (as := [lI 1]) (rest := []) 22 26 (s_X3_throwing hl G a0 1 w11) hc19 rfl (lw_V q2298 q2300 qs42 q110 q2301) (by decide +kernel) (by decide) rfl rfl (cat2_nil (k := 0)) rfl dX3_totalWith_19 rfl (fun x19 w19 => ?_)
  exact r_iret rfl rfl dX3_totalWith_22
theorem s_X3_totalWith {l : Launch} {D : Dn} {H0 : Heap} (hl : l.stackTraces = false) (G : Nat) (a0 : Rf) (a1 : Int32) (w : St) : SimN l D H0 yX3_totalWith (ws_ yX3_totalWith cX3_totalWith 2 (some (.int))) 7 163 rvI [lR a0, lI a1] w (f_X3_totalWith G a0 a1 w) := SimX.N (SimX.ofV (y := yX3_totalWith) (by decide) rfl (t_X3_totalWith hl G a0 a1 w))
abbrev V_X3_missedOnes (l : Launch) (D : Dn) (H0 : Heap) (w0 : St) (res : Option (Int32 × St)) (pc : Nat) (ls : List (Nat × LV)) (st : List Value) (w : St) : Prop := V l D H0 RX3 "missedOnes" cX3_missedOnes 3 (some (.int)) [] 5 111 (fun x => .inr (rvI x)) w0 res pc ls st w
theorem t_X3_missedOnes_b28 {l : Launch} {D : Dn} {H0 : Heap} {w0 : St} (hl : l.stackTraces = false) (G : Nat) (k4 : Rf → Int32 → Int32 → St → Option (Int32 × St)) (h4 : ∀ v0 v1 v2 w, V_X3_missedOnes l D H0 w0 (k4 v0 v1 v2 w) 4 [(0, lR v0), (1, lI v1), (2, lI v2)] [] w) (v0 : Rf) (v2 : Int32) (s0 : Int32) (s1 : Int32) (w : St) : V_X3_missedOnes l D H0 w0 (f_X3_missedOnes_b28 G k4 v0 v2 s0 s1 w) 28 [(0, lR v0), (2, lI v2)] [.int s0, .int s1] w := by
  unfold f_X3_missedOnes_b28
  refine r_iadd 29 dX3_missedOnes_28 rfl ?_
  refine r_istore_n (ls2 := [(1, lI (s1 + s0)), (0, lR v0), (2, lI v2)]) 30 dX3_missedOnes_29 rfl (by decide) rfl rfl ?_
  refine r_iinc (v := v2 + 1) (ls2 := [(2, lI (v2 + 1)), (1, lI (s1 + s0)), (0, lR v0)]) 33 2 dX3_missedOnes_30 rfl rfl (by decide) rfl rfl ?_
  refine r_goto 4 dX3_missedOnes_33 (by decide) ?_
  exact r_lsP [2, 1, 0] rfl (h4 v0 (s1 + s0) (v2 + 1) w)
theorem t_X3_missedOnes_l4 {l : Launch} {D : Dn} {H0 : Heap} {w0 : St} (hl : l.stackTraces = false) (G : Nat) (k36 : Int32 → St → Option (Int32 × St)) (h36 : ∀ v1 w, V_X3_missedOnes l D H0 w0 (k36 v1 w) 36 [(1, lI v1)] [] w) : ∀ (F : Nat) (v0 : Rf) (v1 : Int32) (v2 : Int32) (w : St), V_X3_missedOnes l D H0 w0 (f_X3_missedOnes_l4 G k36 F v0 v1 v2 w) 4 [(0, lR v0), (1, lI v1), (2, lI v2)] [] w := by
  intro F
  induction F with
  | zero => intros; exact r_none
  | succ F ih =>
    intro v0 v1 v2 w
    unfold f_X3_missedOnes_l4
    refine r_iload_n 5 2 dX3_missedOnes_4 rfl rfl rfl ?_
    refine r_aload_n 6 0 dX3_missedOnes_5 rfl rfl rfl ?_
    refine r_getr 9 gf_X3_9 dX3_missedOnes_6 rfl (fun x6 => ?_)
    refine r_iconst (v := 1) 10 dX3_missedOnes_9 rfl rfl ?_
    refine r_iald 11 dX3_missedOnes_10 rfl (fun x10 => ?_)
    refine r_icmp_ge 36 14 dX3_missedOnes_11 (by decide) rfl ?_ ?_
    · exact r_lsP [1] rfl (h36 v1 w)
    refine r_iload_n 15 1 dX3_missedOnes_14 rfl rfl rfl ?_
    refine r_aload_n 16 0 dX3_missedOnes_15 rfl rfl rfl ?_
    refine r_iload_n 17 2 dX3_missedOnes_16 rfl rfl rfl ?_
    refine r_gd (fun hc17 => ?_)
    refine r_callV (n := 1) (as := [lI v2]) (rest := [.int v1]) 20 26 (s_X3_isKept hl G v0 v2 w) hc17 rfl (lw_V q2430 q2432 qs66 q110 q2433) (by decide +kernel) (by decide) rfl rfl (cat2_i (cat2_nil (k := 0))) rfl dX3_missedOnes_17 rfl (fun x17 w17 => ?_)
    refine r_if_eq 27 23 dX3_missedOnes_20 (by decide) rfl ?_ ?_
    · refine r_iconst (v := 1) 28 dX3_missedOnes_27 rfl rfl ?_
      exact r_lsP [0, 2] rfl (t_X3_missedOnes_b28 hl G (fun v0 v1 v2 w => f_X3_missedOnes_l4 G k36 F v0 v1 v2 w) (fun v0 v1 v2 w => ih v0 v1 v2 w)  v0 v2 1 v1 w17)
    refine r_iconst (v := 0) 24 dX3_missedOnes_23 rfl rfl ?_
    refine r_goto 28 dX3_missedOnes_24 (by decide) ?_
    exact r_lsP [0, 2] rfl (t_X3_missedOnes_b28 hl G (fun v0 v1 v2 w => f_X3_missedOnes_l4 G k36 F v0 v1 v2 w) (fun v0 v1 v2 w => ih v0 v1 v2 w)  v0 v2 0 v1 w17)
theorem t_X3_missedOnes_b36 {l : Launch} {D : Dn} {H0 : Heap} {w0 : St} (hl : l.stackTraces = false) (G : Nat) (v1 : Int32) (w : St) : V_X3_missedOnes l D H0 w0 (f_X3_missedOnes_b36 G v1 w) 36 [(1, lI v1)] [] w := by
  unfold f_X3_missedOnes_b36
  refine r_iload_n 37 0 dX3_missedOnes_36 rfl rfl rfl ?_
  exact r_iret rfl rfl dX3_missedOnes_37
theorem t_X3_missedOnes {l : Launch} {D : Dn} {H0 : Heap} {w0 : St} (hl : l.stackTraces = false) (G : Nat) (a0 : Rf) (w : St) : V_X3_missedOnes l D H0 w0 (f_X3_missedOnes G a0 w) 0 [(0, lR a0)] [] w := by
  unfold f_X3_missedOnes
  refine r_iconst (v := 0) 1 dX3_missedOnes_0 rfl rfl ?_
  refine r_istore_n (ls2 := [(1, lI 0), (0, lR a0)]) 2 dX3_missedOnes_1 rfl (by decide) rfl rfl ?_
  refine r_iconst (v := 0) 3 dX3_missedOnes_2 rfl rfl ?_
  refine r_istore_n (ls2 := [(2, lI 0), (1, lI 0), (0, lR a0)]) 4 dX3_missedOnes_3 rfl (by decide) rfl rfl ?_
  exact r_lsP [2, 1, 0] rfl (t_X3_missedOnes_l4 hl G (fun v1 w => f_X3_missedOnes_b36 G  v1 w) (fun v1 w => t_X3_missedOnes_b36 hl G  v1 w) G a0 0 0 w)
theorem s_X3_missedOnes {l : Launch} {D : Dn} {H0 : Heap} (hl : l.stackTraces = false) (G : Nat) (a0 : Rf) (w : St) : SimN l D H0 yX3_missedOnes (ws_ yX3_missedOnes cX3_missedOnes 3 (some (.int))) 5 111 rvI [lR a0] w (f_X3_missedOnes G a0 w) := SimX.N (SimX.ofV (y := yX3_missedOnes) (by decide) rfl (t_X3_missedOnes hl G a0 w))
abbrev V_X3_missedWith (l : Launch) (D : Dn) (H0 : Heap) (w0 : St) (res : Option (Int32 × St)) (pc : Nat) (ls : List (Nat × LV)) (st : List Value) (w : St) : Prop := V l D H0 RX3 "missedWith" cX3_missedWith 2 (some (.int)) [] 7 163 (fun x => .inr (rvI x)) w0 res pc ls st w
theorem t_X3_missedWith {l : Launch} {D : Dn} {H0 : Heap} {w0 : St} (hl : l.stackTraces = false) (G : Nat) (a0 : Rf) (a1 : Int32) (w : St) : V_X3_missedWith l D H0 w0 (f_X3_missedWith G a0 a1 w) 0 [(0, lR a0), (1, lI a1)] [] w := by
  unfold f_X3_missedWith
  refine r_aload_n 1 0 dX3_missedWith_0 rfl rfl rfl ?_
  refine r_iconst (v := 0) 2 dX3_missedWith_1 rfl rfl ?_
  refine r_puti 5 pf_X3_69 dX3_missedWith_2 rfl (fun w2 => ?_)
  refine r_iload_n 6 1 dX3_missedWith_5 rfl rfl rfl ?_
  refine r_i2l 7 dX3_missedWith_6 rfl ?_
  refine r_lconst (v := 0) 8 dX3_missedWith_7 rfl rfl ?_
  refine r_ldc2J 11 q2357 dX3_missedWith_8 rfl ?_
  refine r_callS (n := 3) (as := [lJ a1.toInt64, lJ 0, lJ 60]) (rest := []) 14 (s_X3_in hl G a1.toInt64 0 60 w2) (lw_S q2290 q2291 q110 q2292) (by decide +kernel) (by decide) rfl rfl (cat2_nil (k := 0)) rfl dX3_missedWith_11 rfl (fun x11 w11 => ?_)
  refine r_if_ne 23 17 dX3_missedWith_14 (by decide) rfl ?_ ?_
  · refine r_aload_n 24 0 dX3_missedWith_23 rfl rfl rfl ?_
    refine r_iload_n 25 1 dX3_missedWith_24 rfl rfl rfl ?_
    refine r_iconst (v := (-1)) 26 dX3_missedWith_25 rfl rfl ?_
    refine r_gd (fun hc26 => ?_)
    refine r_callV (n := 2) (as := [lI a1, lI ((-1))]) (rest := []) 29 26 (s_X3_laysMinutes hl G a0 a1 ((-1)) w11) hc26 rfl (lw_V q2390 q2392 qs57 q110 q2393) (by decide +kernel) (by decide) rfl rfl (cat2_nil (k := 0)) rfl dX3_missedWith_26 rfl (fun _ w26 => ?_)
    refine r_aload_n 30 0 dX3_missedWith_29 rfl rfl rfl ?_
    refine r_gd (fun hc30 => ?_)
    refine r_callV (n := 0) (as := []) (rest := []) 33 26 (s_X3_missedOnes hl G a0 w26) hc30 rfl (lw_V q2544 q2546 qs81 q110 q2547) (by decide +kernel) (by decide) rfl rfl (cat2_nil (k := 0)) rfl dX3_missedWith_30 rfl (fun x30 w30 => ?_)
    exact r_iret rfl rfl dX3_missedWith_33
  refine r_aload_n 18 0 dX3_missedWith_17 rfl rfl rfl ?_
  refine r_iconst (v := 1) 19 dX3_missedWith_18 rfl rfl ?_
  refine r_gd (fun hc19 => ?_)
  refine r_callV (n := 1) (as := [lI 1]) (rest := []) 22 26 (s_X3_throwing hl G a0 1 w11) hc19 rfl (lw_V q2298 q2300 qs42 q110 q2301) (by decide +kernel) (by decide) rfl rfl (cat2_nil (k := 0)) rfl dX3_missedWith_19 rfl (fun x19 w19 => ?_)
  exact r_iret rfl rfl dX3_missedWith_22
theorem s_X3_missedWith {l : Launch} {D : Dn} {H0 : Heap} (hl : l.stackTraces = false) (G : Nat) (a0 : Rf) (a1 : Int32) (w : St) : SimN l D H0 yX3_missedWith (ws_ yX3_missedWith cX3_missedWith 2 (some (.int))) 7 163 rvI [lR a0, lI a1] w (f_X3_missedWith G a0 a1 w) := SimX.N (SimX.ofV (y := yX3_missedWith) (by decide) rfl (t_X3_missedWith hl G a0 a1 w))
abbrev V_X3_bestLimit (l : Launch) (D : Dn) (H0 : Heap) (w0 : St) (res : Option (Int32 × St)) (pc : Nat) (ls : List (Nat × LV)) (st : List Value) (w : St) : Prop := V l D H0 RX3 "bestLimit" cX3_bestLimit 6 (some (.int)) [] 7 163 (fun x => .inr (rvI x)) w0 res pc ls st w
theorem t_X3_bestLimit_b75 {l : Launch} {D : Dn} {H0 : Heap} {w0 : St} (hl : l.stackTraces = false) (G : Nat) (k30 : Rf → Int32 → Int32 → Int32 → Int32 → St → Option (Int32 × St)) (h30 : ∀ v0 v1 v2 v3 v4 w, V_X3_bestLimit l D H0 w0 (k30 v0 v1 v2 v3 v4 w) 30 [(0, lR v0), (1, lI v1), (2, lI v2), (3, lI v3), (4, lI v4)] [] w) (v0 : Rf) (v1 : Int32) (v2 : Int32) (v3 : Int32) (v4 : Int32) (w : St) : V_X3_bestLimit l D H0 w0 (f_X3_bestLimit_b75 G k30 v0 v1 v2 v3 v4 w) 75 [(0, lR v0), (1, lI v1), (2, lI v2), (3, lI v3), (4, lI v4)] [] w := by
  unfold f_X3_bestLimit_b75
  refine r_iinc (v := v4 + 1) (ls2 := [(4, lI (v4 + 1)), (0, lR v0), (1, lI v1), (2, lI v2), (3, lI v3)]) 78 4 dX3_bestLimit_75 rfl rfl (by decide) rfl rfl ?_
  refine r_goto 30 dX3_bestLimit_78 (by decide) ?_
  exact r_lsP [1, 2, 3, 4, 0] rfl (h30 v0 v1 v2 v3 (v4 + 1) w)
theorem t_X3_bestLimit_b69 {l : Launch} {D : Dn} {H0 : Heap} {w0 : St} (hl : l.stackTraces = false) (G : Nat) (k30 : Rf → Int32 → Int32 → Int32 → Int32 → St → Option (Int32 × St)) (h30 : ∀ v0 v1 v2 v3 v4 w, V_X3_bestLimit l D H0 w0 (k30 v0 v1 v2 v3 v4 w) 30 [(0, lR v0), (1, lI v1), (2, lI v2), (3, lI v3), (4, lI v4)] [] w) (v0 : Rf) (v1 : Int32) (v4 : Int32) (v5 : Int32) (w : St) : V_X3_bestLimit l D H0 w0 (f_X3_bestLimit_b69 G k30 v0 v1 v4 v5 w) 69 [(0, lR v0), (1, lI v1), (4, lI v4), (5, lI v5)] [] w := by
  unfold f_X3_bestLimit_b69
  refine r_iload 71 2 dX3_bestLimit_69 rfl rfl ?_
  refine r_istore_n (ls2 := [(2, lI v4), (0, lR v0), (1, lI v1), (4, lI v4), (5, lI v5)]) 72 dX3_bestLimit_71 rfl (by decide) rfl rfl ?_
  refine r_iload 74 4 dX3_bestLimit_72 rfl rfl ?_
  refine r_istore_n (ls2 := [(3, lI v5), (2, lI v4), (0, lR v0), (1, lI v1), (4, lI v4), (5, lI v5)]) 75 dX3_bestLimit_74 rfl (by decide) rfl rfl ?_
  exact r_lsP [2, 3, 1, 0, 4] rfl (t_X3_bestLimit_b75 hl G k30 h30  v0 v1 v4 v5 v4 w)
theorem t_X3_bestLimit_l30 {l : Launch} {D : Dn} {H0 : Heap} {w0 : St} (hl : l.stackTraces = false) (G : Nat) (k81 : Int32 → St → Option (Int32 × St)) (h81 : ∀ v2 w, V_X3_bestLimit l D H0 w0 (k81 v2 w) 81 [(2, lI v2)] [] w) : ∀ (F : Nat) (v0 : Rf) (v1 : Int32) (v2 : Int32) (v3 : Int32) (v4 : Int32) (w : St), V_X3_bestLimit l D H0 w0 (f_X3_bestLimit_l30 G k81 F v0 v1 v2 v3 v4 w) 30 [(0, lR v0), (1, lI v1), (2, lI v2), (3, lI v3), (4, lI v4)] [] w := by
  intro F
  induction F with
  | zero => intros; exact r_none
  | succ F ih =>
    intro v0 v1 v2 v3 v4 w
    unfold f_X3_bestLimit_l30
    refine r_iload 32 4 dX3_bestLimit_30 rfl rfl ?_
    refine r_bipush (v := 60) 34 dX3_bestLimit_32 rfl rfl ?_
    refine r_icmp_gt 81 37 dX3_bestLimit_34 (by decide) rfl ?_ ?_
    · exact r_lsP [2] rfl (h81 v2 w)
    refine r_aload_n 38 0 dX3_bestLimit_37 rfl rfl rfl ?_
    refine r_iload 40 4 dX3_bestLimit_38 rfl rfl ?_
    refine r_iconst (v := (-1)) 41 dX3_bestLimit_40 rfl rfl ?_
    refine r_gd (fun hc41 => ?_)
    refine r_callV (n := 2) (as := [lI v4, lI ((-1))]) (rest := []) 44 26 (s_X3_laysMinutes hl G v0 v4 ((-1)) w) hc41 rfl (lw_V q2390 q2392 qs57 q110 q2393) (by decide +kernel) (by decide) rfl rfl (cat2_nil (k := 0)) rfl dX3_bestLimit_41 rfl (fun _ w41 => ?_)
    refine r_aload_n 45 0 dX3_bestLimit_44 rfl rfl rfl ?_
    refine r_iconst (v := (-1)) 46 dX3_bestLimit_45 rfl rfl ?_
    refine r_gd (fun hc46 => ?_)
    refine r_callV (n := 1) (as := [lI ((-1))]) (rest := []) 49 26 (s_X3_lateAll hl G v0 ((-1)) w41) hc46 rfl (lw_V q2524 q2526 qs80 q110 q2527) (by decide +kernel) (by decide) rfl rfl (cat2_nil (k := 0)) rfl dX3_bestLimit_46 rfl (fun x46 w46 => ?_)
    refine r_iload_n 50 1 dX3_bestLimit_49 rfl rfl rfl ?_
    refine r_aload_n 51 0 dX3_bestLimit_50 rfl rfl rfl ?_
    refine r_gd (fun hc51 => ?_)
    refine r_callV (n := 0) (as := []) (rest := [.int v1, .int x46]) 54 26 (s_X3_missedOnes hl G v0 w46) hc51 rfl (lw_V q2544 q2546 qs81 q110 q2547) (by decide +kernel) (by decide) rfl rfl (cat2_i (cat2_i (cat2_nil (k := 0)))) rfl dX3_bestLimit_51 rfl (fun x51 w51 => ?_)
    refine r_imul 55 dX3_bestLimit_54 rfl ?_
    refine r_iadd 56 dX3_bestLimit_55 rfl ?_
    refine r_istore (ls2 := [(5, lI (x46 + (v1 * x51))), (0, lR v0), (1, lI v1), (2, lI v2), (3, lI v3), (4, lI v4)]) 58 dX3_bestLimit_56 (by decide) rfl rfl ?_
    refine r_iload 60 5 dX3_bestLimit_58 rfl rfl ?_
    refine r_if_eq 69 63 dX3_bestLimit_60 (by decide) rfl ?_ ?_
    · exact r_lsP [1, 2, 5, 0] rfl (t_X3_bestLimit_b69 hl G (fun v0 v1 v2 v3 v4 w => f_X3_bestLimit_l30 G k81 F v0 v1 v2 v3 v4 w) (fun v0 v1 v2 v3 v4 w => ih v0 v1 v2 v3 v4 w)  v0 v1 v4 (x46 + (v1 * x51)) w51)
    refine r_iload 65 0 dX3_bestLimit_63 rfl rfl ?_
    refine r_iload_n 66 4 dX3_bestLimit_65 rfl rfl rfl ?_
    refine r_icmp_ge 75 69 dX3_bestLimit_66 (by decide) rfl ?_ ?_
    · exact r_lsP [1, 2, 3, 4, 5] rfl (t_X3_bestLimit_b75 hl G (fun v0 v1 v2 v3 v4 w => f_X3_bestLimit_l30 G k81 F v0 v1 v2 v3 v4 w) (fun v0 v1 v2 v3 v4 w => ih v0 v1 v2 v3 v4 w)  v0 v1 v2 v3 v4 w51)
    exact r_lsP [1, 2, 5, 0] rfl (t_X3_bestLimit_b69 hl G (fun v0 v1 v2 v3 v4 w => f_X3_bestLimit_l30 G k81 F v0 v1 v2 v3 v4 w) (fun v0 v1 v2 v3 v4 w => ih v0 v1 v2 v3 v4 w)  v0 v1 v4 (x46 + (v1 * x51)) w51)
theorem t_X3_bestLimit_b81 {l : Launch} {D : Dn} {H0 : Heap} {w0 : St} (hl : l.stackTraces = false) (G : Nat) (v2 : Int32) (w : St) : V_X3_bestLimit l D H0 w0 (f_X3_bestLimit_b81 G v2 w) 81 [(2, lI v2)] [] w := by
  unfold f_X3_bestLimit_b81
  refine r_iload_n 82 0 dX3_bestLimit_81 rfl rfl rfl ?_
  exact r_iret rfl rfl dX3_bestLimit_82
theorem t_X3_bestLimit {l : Launch} {D : Dn} {H0 : Heap} {w0 : St} (hl : l.stackTraces = false) (G : Nat) (a0 : Rf) (a1 : Int32) (w : St) : V_X3_bestLimit l D H0 w0 (f_X3_bestLimit G a0 a1 w) 0 [(0, lR a0), (1, lI a1)] [] w := by
  unfold f_X3_bestLimit
  refine r_aload_n 1 0 dX3_bestLimit_0 rfl rfl rfl ?_
  refine r_iconst (v := 0) 2 dX3_bestLimit_1 rfl rfl ?_
  refine r_puti 5 pf_X3_69 dX3_bestLimit_2 rfl (fun w2 => ?_)
  refine r_iload_n 6 1 dX3_bestLimit_5 rfl rfl rfl ?_
  refine r_i2l 7 dX3_bestLimit_6 rfl ?_
  refine r_lconst (v := 0) 8 dX3_bestLimit_7 rfl rfl ?_
  refine r_ldc2J 11 q2552 dX3_bestLimit_8 rfl ?_
  refine r_callS (n := 3) (as := [lJ a1.toInt64, lJ 0, lJ 99]) (rest := []) 14 (s_X3_in hl G a1.toInt64 0 99 w2) (lw_S q2290 q2291 q110 q2292) (by decide +kernel) (by decide) rfl rfl (cat2_nil (k := 0)) rfl dX3_bestLimit_11 rfl (fun x11 w11 => ?_)
  refine r_if_ne 23 17 dX3_bestLimit_14 (by decide) rfl ?_ ?_
  · refine r_iconst (v := 0) 24 dX3_bestLimit_23 rfl rfl ?_
    refine r_istore_n (ls2 := [(2, lI 0), (0, lR a0), (1, lI a1)]) 25 dX3_bestLimit_24 rfl (by decide) rfl rfl ?_
    refine r_iconst (v := 0) 26 dX3_bestLimit_25 rfl rfl ?_
    refine r_istore_n (ls2 := [(3, lI 0), (2, lI 0), (0, lR a0), (1, lI a1)]) 27 dX3_bestLimit_26 rfl (by decide) rfl rfl ?_
    refine r_iconst (v := 0) 28 dX3_bestLimit_27 rfl rfl ?_
    refine r_istore (ls2 := [(4, lI 0), (3, lI 0), (2, lI 0), (0, lR a0), (1, lI a1)]) 30 dX3_bestLimit_28 (by decide) rfl rfl ?_
    exact r_lsP [3, 4, 2, 1, 0] rfl (t_X3_bestLimit_l30 hl G (fun v2 w => f_X3_bestLimit_b81 G  v2 w) (fun v2 w => t_X3_bestLimit_b81 hl G  v2 w) G a0 a1 0 0 0 w11)
  refine r_aload_n 18 0 dX3_bestLimit_17 rfl rfl rfl ?_
  refine r_iconst (v := 1) 19 dX3_bestLimit_18 rfl rfl ?_
  refine r_gd (fun hc19 => ?_)
  refine r_callV (n := 1) (as := [lI 1]) (rest := []) 22 26 (s_X3_throwing hl G a0 1 w11) hc19 rfl (lw_V q2298 q2300 qs42 q110 q2301) (by decide +kernel) (by decide) rfl rfl (cat2_nil (k := 0)) rfl dX3_bestLimit_19 rfl (fun x19 w19 => ?_)
  exact r_iret rfl rfl dX3_bestLimit_22
theorem s_X3_bestLimit {l : Launch} {D : Dn} {H0 : Heap} (hl : l.stackTraces = false) (G : Nat) (a0 : Rf) (a1 : Int32) (w : St) : SimN l D H0 yX3_bestLimit (ws_ yX3_bestLimit cX3_bestLimit 6 (some (.int))) 7 163 rvI [lR a0, lI a1] w (f_X3_bestLimit G a0 a1 w) := SimX.N (SimX.ofV (y := yX3_bestLimit) (by decide) rfl (t_X3_bestLimit hl G a0 a1 w))
abbrev V_X3_ranked (l : Launch) (D : Dn) (H0 : Heap) (w0 : St) (res : Option (Int32 × St)) (pc : Nat) (ls : List (Nat × LV)) (st : List Value) (w : St) : Prop := V l D H0 RX3 "ranked" cX3_ranked 6 (some (.int)) [] 7 163 (fun x => .inr (rvI x)) w0 res pc ls st w
theorem t_X3_ranked_b99 {l : Launch} {D : Dn} {H0 : Heap} {w0 : St} (hl : l.stackTraces = false) (G : Nat) (k28 : Rf → Int32 → Int32 → Int32 → Int32 → St → Option (Int32 × St)) (h28 : ∀ v0 v1 v2 v3 v4 w, V_X3_ranked l D H0 w0 (k28 v0 v1 v2 v3 v4 w) 28 [(0, lR v0), (1, lI v1), (2, lI v2), (3, lI v3), (4, lI v4)] [] w) (v0 : Rf) (v1 : Int32) (v2 : Int32) (v4 : Int32) (s0 : Int32) (s1 : Int32) (w : St) : V_X3_ranked l D H0 w0 (f_X3_ranked_b99 G k28 v0 v1 v2 v4 s0 s1 w) 99 [(0, lR v0), (1, lI v1), (2, lI v2), (4, lI v4)] [.int s0, .int s1] w := by
  unfold f_X3_ranked_b99
  refine r_iadd 100 dX3_ranked_99 rfl ?_
  refine r_istore_n (ls2 := [(3, lI (s1 + s0)), (0, lR v0), (1, lI v1), (2, lI v2), (4, lI v4)]) 101 dX3_ranked_100 rfl (by decide) rfl rfl ?_
  refine r_iinc (v := v4 + 1) (ls2 := [(4, lI (v4 + 1)), (3, lI (s1 + s0)), (0, lR v0), (1, lI v1), (2, lI v2)]) 104 4 dX3_ranked_101 rfl rfl (by decide) rfl rfl ?_
  refine r_goto 28 dX3_ranked_104 (by decide) ?_
  exact r_lsP [2, 3, 4, 1, 0] rfl (h28 v0 v1 v2 (s1 + s0) (v4 + 1) w)
theorem t_X3_ranked_b94 {l : Launch} {D : Dn} {H0 : Heap} {w0 : St} (hl : l.stackTraces = false) (G : Nat) (k28 : Rf → Int32 → Int32 → Int32 → Int32 → St → Option (Int32 × St)) (h28 : ∀ v0 v1 v2 v3 v4 w, V_X3_ranked l D H0 w0 (k28 v0 v1 v2 v3 v4 w) 28 [(0, lR v0), (1, lI v1), (2, lI v2), (3, lI v3), (4, lI v4)] [] w) (v0 : Rf) (v1 : Int32) (v2 : Int32) (v4 : Int32) (s0 : Int32) (w : St) : V_X3_ranked l D H0 w0 (f_X3_ranked_b94 G k28 v0 v1 v2 v4 s0 w) 94 [(0, lR v0), (1, lI v1), (2, lI v2), (4, lI v4)] [.int s0] w := by
  unfold f_X3_ranked_b94
  refine r_iconst (v := 1) 95 dX3_ranked_94 rfl rfl ?_
  refine r_goto 99 dX3_ranked_95 (by decide) ?_
  exact r_lsP [0, 1, 2, 3] rfl (t_X3_ranked_b99 hl G k28 h28  v0 v1 v2 v4 1 s0 w)
theorem t_X3_ranked_b98 {l : Launch} {D : Dn} {H0 : Heap} {w0 : St} (hl : l.stackTraces = false) (G : Nat) (k28 : Rf → Int32 → Int32 → Int32 → Int32 → St → Option (Int32 × St)) (h28 : ∀ v0 v1 v2 v3 v4 w, V_X3_ranked l D H0 w0 (k28 v0 v1 v2 v3 v4 w) 28 [(0, lR v0), (1, lI v1), (2, lI v2), (3, lI v3), (4, lI v4)] [] w) (v0 : Rf) (v1 : Int32) (v2 : Int32) (v4 : Int32) (s0 : Int32) (w : St) : V_X3_ranked l D H0 w0 (f_X3_ranked_b98 G k28 v0 v1 v2 v4 s0 w) 98 [(0, lR v0), (1, lI v1), (2, lI v2), (4, lI v4)] [.int s0] w := by
  unfold f_X3_ranked_b98
  refine r_iconst (v := 0) 99 dX3_ranked_98 rfl rfl ?_
  exact r_lsP [0, 1, 2, 3] rfl (t_X3_ranked_b99 hl G k28 h28  v0 v1 v2 v4 0 s0 w)
theorem t_X3_ranked_b75 {l : Launch} {D : Dn} {H0 : Heap} {w0 : St} (hl : l.stackTraces = false) (G : Nat) (k28 : Rf → Int32 → Int32 → Int32 → Int32 → St → Option (Int32 × St)) (h28 : ∀ v0 v1 v2 v3 v4 w, V_X3_ranked l D H0 w0 (k28 v0 v1 v2 v3 v4 w) 28 [(0, lR v0), (1, lI v1), (2, lI v2), (3, lI v3), (4, lI v4)] [] w) (v0 : Rf) (v1 : Int32) (v2 : Int32) (v3 : Int32) (v4 : Int32) (s0 : Int32) (w : St) : V_X3_ranked l D H0 w0 (f_X3_ranked_b75 G k28 v0 v1 v2 v3 v4 s0 w) 75 [(0, lR v0), (1, lI v1), (2, lI v2), (3, lI v3), (4, lI v4)] [.int s0] w := by
  unfold f_X3_ranked_b75
  refine r_istore (ls2 := [(5, lI s0), (0, lR v0), (1, lI v1), (2, lI v2), (3, lI v3), (4, lI v4)]) 77 dX3_ranked_75 (by decide) rfl rfl ?_
  refine r_iload_n 78 4 dX3_ranked_77 rfl rfl rfl ?_
  refine r_iload 80 0 dX3_ranked_78 rfl rfl ?_
  refine r_if_gt 94 83 dX3_ranked_80 (by decide) rfl ?_ ?_
  · exact r_lsP [1, 2, 3, 5] rfl (t_X3_ranked_b94 hl G k28 h28  v0 v1 v2 v4 v3 w)
  refine r_iload 85 0 dX3_ranked_83 rfl rfl ?_
  refine r_if_ne 98 88 dX3_ranked_85 (by decide) rfl ?_ ?_
  · exact r_lsP [1, 2, 3, 5] rfl (t_X3_ranked_b98 hl G k28 h28  v0 v1 v2 v4 v3 w)
  refine r_iload 90 5 dX3_ranked_88 rfl rfl ?_
  refine r_iload_n 91 3 dX3_ranked_90 rfl rfl rfl ?_
  refine r_icmp_ge 98 94 dX3_ranked_91 (by decide) rfl ?_ ?_
  · exact r_lsP [1, 2, 3, 5] rfl (t_X3_ranked_b98 hl G k28 h28  v0 v1 v2 v4 v3 w)
  exact r_lsP [1, 2, 3, 5] rfl (t_X3_ranked_b94 hl G k28 h28  v0 v1 v2 v4 v3 w)
theorem t_X3_ranked_l28 {l : Launch} {D : Dn} {H0 : Heap} {w0 : St} (hl : l.stackTraces = false) (G : Nat) (k107 : Rf → Int32 → Int32 → Int32 → St → Option (Int32 × St)) (h107 : ∀ v0 v1 v2 v3 w, V_X3_ranked l D H0 w0 (k107 v0 v1 v2 v3 w) 107 [(0, lR v0), (1, lI v1), (2, lI v2), (3, lI v3)] [] w) : ∀ (F : Nat) (v0 : Rf) (v1 : Int32) (v2 : Int32) (v3 : Int32) (v4 : Int32) (w : St), V_X3_ranked l D H0 w0 (f_X3_ranked_l28 G k107 F v0 v1 v2 v3 v4 w) 28 [(0, lR v0), (1, lI v1), (2, lI v2), (3, lI v3), (4, lI v4)] [] w := by
  intro F
  induction F with
  | zero => intros; exact r_none
  | succ F ih =>
    intro v0 v1 v2 v3 v4 w
    unfold f_X3_ranked_l28
    refine r_iload 30 4 dX3_ranked_28 rfl rfl ?_
    refine r_aload_n 31 0 dX3_ranked_30 rfl rfl rfl ?_
    refine r_getr 34 gf_X3_9 dX3_ranked_31 rfl (fun x31 => ?_)
    refine r_iconst (v := 0) 35 dX3_ranked_34 rfl rfl ?_
    refine r_iald 36 dX3_ranked_35 rfl (fun x35 => ?_)
    refine r_icmp_ge 107 39 dX3_ranked_36 (by decide) rfl ?_ ?_
    · exact r_lsP [0, 1, 2, 3] rfl (h107 v0 v1 v2 v3 w)
    refine r_aload_n 40 0 dX3_ranked_39 rfl rfl rfl ?_
    refine r_iload 42 4 dX3_ranked_40 rfl rfl ?_
    refine r_gd (fun hc42 => ?_)
    refine r_callV (n := 1) (as := [lI v4]) (rest := []) 45 26 (s_X3_lastLate hl G v0 v4 w) hc42 rfl (lw_V q2462 q2464 qs73 q110 q2465) (by decide +kernel) (by decide) rfl rfl (cat2_nil (k := 0)) rfl dX3_ranked_42 rfl (fun x42 w42 => ?_)
    refine r_aload_n 46 0 dX3_ranked_45 rfl rfl rfl ?_
    refine r_iload_n 47 2 dX3_ranked_46 rfl rfl rfl ?_
    refine r_gd (fun hc47 => ?_)
    refine r_callV (n := 1) (as := [lI v2]) (rest := [.int x42]) 50 26 (s_X3_lastLate hl G v0 v2 w42) hc47 rfl (lw_V q2462 q2464 qs73 q110 q2465) (by decide +kernel) (by decide) rfl rfl (cat2_i (cat2_nil (k := 0))) rfl dX3_ranked_47 rfl (fun x47 w47 => ?_)
    refine r_isub 51 dX3_ranked_50 rfl ?_
    refine r_istore (ls2 := [(5, lI (x42 - x47)), (0, lR v0), (1, lI v1), (2, lI v2), (3, lI v3), (4, lI v4)]) 53 dX3_ranked_51 (by decide) rfl rfl ?_
    refine r_iload 55 0 dX3_ranked_53 rfl rfl ?_
    refine r_if_ne 73 58 dX3_ranked_55 (by decide) rfl ?_ ?_
    · refine r_iload 75 0 dX3_ranked_73 rfl rfl ?_
      exact r_lsP [1, 2, 3, 4, 5] rfl (t_X3_ranked_b75 hl G (fun v0 v1 v2 v3 v4 w => f_X3_ranked_l28 G k107 F v0 v1 v2 v3 v4 w) (fun v0 v1 v2 v3 v4 w => ih v0 v1 v2 v3 v4 w)  v0 v1 v2 v3 v4 (x42 - x47) w47)
    refine r_aload_n 59 1 dX3_ranked_58 rfl rfl rfl ?_
    refine r_iload 61 5 dX3_ranked_59 rfl rfl ?_
    refine r_gd (fun hc61 => ?_)
    refine r_callV (n := 1) (as := [lI v4]) (rest := []) 64 26 (s_X3_ownAll hl G v0 v4 w47) hc61 rfl (lw_V q2458 q2460 qs72 q110 q2461) (by decide +kernel) (by decide) rfl rfl (cat2_nil (k := 0)) rfl dX3_ranked_61 rfl (fun x61 w61 => ?_)
    refine r_aload_n 65 1 dX3_ranked_64 rfl rfl rfl ?_
    refine r_iload_n 66 3 dX3_ranked_65 rfl rfl rfl ?_
    refine r_gd (fun hc66 => ?_)
    refine r_callV (n := 1) (as := [lI v2]) (rest := [.int x61]) 69 26 (s_X3_ownAll hl G v0 v2 w61) hc66 rfl (lw_V q2458 q2460 qs72 q110 q2461) (by decide +kernel) (by decide) rfl rfl (cat2_i (cat2_nil (k := 0))) rfl dX3_ranked_66 rfl (fun x66 w66 => ?_)
    refine r_isub 70 dX3_ranked_69 rfl ?_
    refine r_goto 75 dX3_ranked_70 (by decide) ?_
    exact r_lsP [1, 2, 3, 4, 5] rfl (t_X3_ranked_b75 hl G (fun v0 v1 v2 v3 v4 w => f_X3_ranked_l28 G k107 F v0 v1 v2 v3 v4 w) (fun v0 v1 v2 v3 v4 w => ih v0 v1 v2 v3 v4 w)  v0 v1 v2 v3 v4 (x61 - x66) w66)
theorem t_X3_ranked_b107 {l : Launch} {D : Dn} {H0 : Heap} {w0 : St} (hl : l.stackTraces = false) (G : Nat) (k13 : Rf → Int32 → Int32 → St → Option (Int32 × St)) (h13 : ∀ v0 v1 v2 w, V_X3_ranked l D H0 w0 (k13 v0 v1 v2 w) 13 [(0, lR v0), (1, lI v1), (2, lI v2)] [] w) (k112 : Int32 → St → Option (Int32 × St)) (h112 : ∀ v2 w, V_X3_ranked l D H0 w0 (k112 v2 w) 112 [(2, lI v2)] [] w) (v0 : Rf) (v1 : Int32) (v2 : Int32) (v3 : Int32) (w : St) : V_X3_ranked l D H0 w0 (f_X3_ranked_b107 G k13 k112 v0 v1 v2 v3 w) 107 [(0, lR v0), (1, lI v1), (2, lI v2), (3, lI v3)] [] w := by
  unfold f_X3_ranked_b107
  refine r_iload_n 108 3 dX3_ranked_107 rfl rfl rfl ?_
  refine r_iload_n 109 1 dX3_ranked_108 rfl rfl rfl ?_
  refine r_icmp_ne 114 112 dX3_ranked_109 (by decide) rfl ?_ ?_
  · refine r_iinc (v := v2 + 1) (ls2 := [(2, lI (v2 + 1)), (0, lR v0), (1, lI v1), (3, lI v3)]) 117 2 dX3_ranked_114 rfl rfl (by decide) rfl rfl ?_
    refine r_goto 13 dX3_ranked_117 (by decide) ?_
    exact r_lsP [1, 2, 0] rfl (h13 v0 v1 (v2 + 1) w)
  exact r_lsP [2] rfl (h112 v2 w)
theorem t_X3_ranked_l13 {l : Launch} {D : Dn} {H0 : Heap} {w0 : St} (hl : l.stackTraces = false) (G : Nat) (k112 : Int32 → St → Option (Int32 × St)) (h112 : ∀ v2 w, V_X3_ranked l D H0 w0 (k112 v2 w) 112 [(2, lI v2)] [] w) (k120 : Rf → St → Option (Int32 × St)) (h120 : ∀ v0 w, V_X3_ranked l D H0 w0 (k120 v0 w) 120 [(0, lR v0)] [] w) : ∀ (F : Nat) (v0 : Rf) (v1 : Int32) (v2 : Int32) (w : St), V_X3_ranked l D H0 w0 (f_X3_ranked_l13 G k112 k120 F v0 v1 v2 w) 13 [(0, lR v0), (1, lI v1), (2, lI v2)] [] w := by
  intro F
  induction F with
  | zero => intros; exact r_none
  | succ F ih =>
    intro v0 v1 v2 w
    unfold f_X3_ranked_l13
    refine r_iload_n 14 2 dX3_ranked_13 rfl rfl rfl ?_
    refine r_aload_n 15 0 dX3_ranked_14 rfl rfl rfl ?_
    refine r_getr 18 gf_X3_9 dX3_ranked_15 rfl (fun x15 => ?_)
    refine r_iconst (v := 0) 19 dX3_ranked_18 rfl rfl ?_
    refine r_iald 20 dX3_ranked_19 rfl (fun x19 => ?_)
    refine r_icmp_ge 120 23 dX3_ranked_20 (by decide) rfl ?_ ?_
    · exact r_lsP [0] rfl (h120 v0 w)
    refine r_iconst (v := 0) 24 dX3_ranked_23 rfl rfl ?_
    refine r_istore_n (ls2 := [(3, lI 0), (0, lR v0), (1, lI v1), (2, lI v2)]) 25 dX3_ranked_24 rfl (by decide) rfl rfl ?_
    refine r_iconst (v := 0) 26 dX3_ranked_25 rfl rfl ?_
    refine r_istore (ls2 := [(4, lI 0), (3, lI 0), (0, lR v0), (1, lI v1), (2, lI v2)]) 28 dX3_ranked_26 (by decide) rfl rfl ?_
    exact r_lsP [2, 3, 4, 1, 0] rfl (t_X3_ranked_l28 hl G (fun v0 v1 v2 v3 w => f_X3_ranked_b107 G (fun v0 v1 v2 w => f_X3_ranked_l13 G k112 k120 F v0 v1 v2 w) k112  v0 v1 v2 v3 w) (fun v0 v1 v2 v3 w => t_X3_ranked_b107 hl G (fun v0 v1 v2 w => f_X3_ranked_l13 G k112 k120 F v0 v1 v2 w) (fun v0 v1 v2 w => ih v0 v1 v2 w) k112 h112  v0 v1 v2 v3 w) G v0 v1 v2 0 0 w)
theorem t_X3_ranked_b112 {l : Launch} {D : Dn} {H0 : Heap} {w0 : St} (hl : l.stackTraces = false) (G : Nat) (v2 : Int32) (w : St) : V_X3_ranked l D H0 w0 (f_X3_ranked_b112 G v2 w) 112 [(2, lI v2)] [] w := by
  unfold f_X3_ranked_b112
  refine r_iload_n 113 0 dX3_ranked_112 rfl rfl rfl ?_
  exact r_iret rfl rfl dX3_ranked_113
theorem t_X3_ranked_b120 {l : Launch} {D : Dn} {H0 : Heap} {w0 : St} (hl : l.stackTraces = false) (G : Nat) (v0 : Rf) (w : St) : V_X3_ranked l D H0 w0 (f_X3_ranked_b120 G v0 w) 120 [(0, lR v0)] [] w := by
  unfold f_X3_ranked_b120
  refine r_aload_n 121 0 dX3_ranked_120 rfl rfl rfl ?_
  refine r_iconst (v := 1) 122 dX3_ranked_121 rfl rfl ?_
  refine r_gd (fun hc122 => ?_)
  refine r_callV (n := 1) (as := [lI 1]) (rest := []) 125 26 (s_X3_throwing hl G v0 1 w) hc122 rfl (lw_V q2298 q2300 qs42 q110 q2301) (by decide +kernel) (by decide) rfl rfl (cat2_nil (k := 0)) rfl dX3_ranked_122 rfl (fun x122 w122 => ?_)
  exact r_iret rfl rfl dX3_ranked_125
theorem t_X3_ranked {l : Launch} {D : Dn} {H0 : Heap} {w0 : St} (hl : l.stackTraces = false) (G : Nat) (a0 : Rf) (a1 : Int32) (w : St) : V_X3_ranked l D H0 w0 (f_X3_ranked G a0 a1 w) 0 [(0, lR a0), (1, lI a1)] [] w := by
  unfold f_X3_ranked
  refine r_aload_n 1 0 dX3_ranked_0 rfl rfl rfl ?_
  refine r_iconst (v := 0) 2 dX3_ranked_1 rfl rfl ?_
  refine r_puti 5 pf_X3_69 dX3_ranked_2 rfl (fun w2 => ?_)
  refine r_aload_n 6 0 dX3_ranked_5 rfl rfl rfl ?_
  refine r_iconst (v := (-1)) 7 dX3_ranked_6 rfl rfl ?_
  refine r_iconst (v := (-1)) 8 dX3_ranked_7 rfl rfl ?_
  refine r_gd (fun hc8 => ?_)
  refine r_callV (n := 2) (as := [lI ((-1)), lI ((-1))]) (rest := []) 11 26 (s_X3_laysMinutes hl G a0 ((-1)) ((-1)) w2) hc8 rfl (lw_V q2390 q2392 qs57 q110 q2393) (by decide +kernel) (by decide) rfl rfl (cat2_nil (k := 0)) rfl dX3_ranked_8 rfl (fun _ w8 => ?_)
  refine r_iconst (v := 0) 12 dX3_ranked_11 rfl rfl ?_
  refine r_istore_n (ls2 := [(2, lI 0), (0, lR a0), (1, lI a1)]) 13 dX3_ranked_12 rfl (by decide) rfl rfl ?_
  exact r_lsP [1, 2, 0] rfl (t_X3_ranked_l13 hl G (fun v2 w => f_X3_ranked_b112 G  v2 w) (fun v2 w => t_X3_ranked_b112 hl G  v2 w) (fun v0 w => f_X3_ranked_b120 G  v0 w) (fun v0 w => t_X3_ranked_b120 hl G  v0 w) G a0 a1 0 w8)
theorem s_X3_ranked {l : Launch} {D : Dn} {H0 : Heap} (hl : l.stackTraces = false) (G : Nat) (a0 : Rf) (a1 : Int32) (w : St) : SimN l D H0 yX3_ranked (ws_ yX3_ranked cX3_ranked 6 (some (.int))) 7 163 rvI [lR a0, lI a1] w (f_X3_ranked G a0 a1 w) := SimX.N (SimX.ofV (y := yX3_ranked) (by decide) rfl (t_X3_ranked hl G a0 a1 w))
abbrev V_X3_tightest (l : Launch) (D : Dn) (H0 : Heap) (w0 : St) (res : Option (Int32 × St)) (pc : Nat) (ls : List (Nat × LV)) (st : List Value) (w : St) : Prop := V l D H0 RX3 "tightest" cX3_tightest 6 (some (.int)) [] 3 66 (fun x => .inr (rvI x)) w0 res pc ls st w
theorem t_X3_tightest_b105 {l : Launch} {D : Dn} {H0 : Heap} {w0 : St} (hl : l.stackTraces = false) (G : Nat) (k22 : Rf → Int32 → Int32 → Int32 → Int32 → St → Option (Int32 × St)) (h22 : ∀ v0 v1 v2 v3 v4 w, V_X3_tightest l D H0 w0 (k22 v0 v1 v2 v3 v4 w) 22 [(0, lR v0), (1, lI v1), (2, lI v2), (3, lI v3), (4, lI v4)] [] w) (v0 : Rf) (v1 : Int32) (v2 : Int32) (v4 : Int32) (s0 : Int32) (s1 : Int32) (w : St) : V_X3_tightest l D H0 w0 (f_X3_tightest_b105 G k22 v0 v1 v2 v4 s0 s1 w) 105 [(0, lR v0), (1, lI v1), (2, lI v2), (4, lI v4)] [.int s0, .int s1] w := by
  unfold f_X3_tightest_b105
  refine r_iadd 106 dX3_tightest_105 rfl ?_
  refine r_istore_n (ls2 := [(3, lI (s1 + s0)), (0, lR v0), (1, lI v1), (2, lI v2), (4, lI v4)]) 107 dX3_tightest_106 rfl (by decide) rfl rfl ?_
  refine r_iinc (v := v4 + 1) (ls2 := [(4, lI (v4 + 1)), (3, lI (s1 + s0)), (0, lR v0), (1, lI v1), (2, lI v2)]) 110 4 dX3_tightest_107 rfl rfl (by decide) rfl rfl ?_
  refine r_goto 22 dX3_tightest_110 (by decide) ?_
  exact r_lsP [2, 3, 4, 1, 0] rfl (h22 v0 v1 v2 (s1 + s0) (v4 + 1) w)
theorem t_X3_tightest_b100 {l : Launch} {D : Dn} {H0 : Heap} {w0 : St} (hl : l.stackTraces = false) (G : Nat) (k22 : Rf → Int32 → Int32 → Int32 → Int32 → St → Option (Int32 × St)) (h22 : ∀ v0 v1 v2 v3 v4 w, V_X3_tightest l D H0 w0 (k22 v0 v1 v2 v3 v4 w) 22 [(0, lR v0), (1, lI v1), (2, lI v2), (3, lI v3), (4, lI v4)] [] w) (v0 : Rf) (v1 : Int32) (v2 : Int32) (v4 : Int32) (s0 : Int32) (w : St) : V_X3_tightest l D H0 w0 (f_X3_tightest_b100 G k22 v0 v1 v2 v4 s0 w) 100 [(0, lR v0), (1, lI v1), (2, lI v2), (4, lI v4)] [.int s0] w := by
  unfold f_X3_tightest_b100
  refine r_iconst (v := 1) 101 dX3_tightest_100 rfl rfl ?_
  refine r_goto 105 dX3_tightest_101 (by decide) ?_
  exact r_lsP [0, 1, 2, 3] rfl (t_X3_tightest_b105 hl G k22 h22  v0 v1 v2 v4 1 s0 w)
theorem t_X3_tightest_b104 {l : Launch} {D : Dn} {H0 : Heap} {w0 : St} (hl : l.stackTraces = false) (G : Nat) (k22 : Rf → Int32 → Int32 → Int32 → Int32 → St → Option (Int32 × St)) (h22 : ∀ v0 v1 v2 v3 v4 w, V_X3_tightest l D H0 w0 (k22 v0 v1 v2 v3 v4 w) 22 [(0, lR v0), (1, lI v1), (2, lI v2), (3, lI v3), (4, lI v4)] [] w) (v0 : Rf) (v1 : Int32) (v2 : Int32) (v4 : Int32) (s0 : Int32) (w : St) : V_X3_tightest l D H0 w0 (f_X3_tightest_b104 G k22 v0 v1 v2 v4 s0 w) 104 [(0, lR v0), (1, lI v1), (2, lI v2), (4, lI v4)] [.int s0] w := by
  unfold f_X3_tightest_b104
  refine r_iconst (v := 0) 105 dX3_tightest_104 rfl rfl ?_
  exact r_lsP [0, 1, 2, 3] rfl (t_X3_tightest_b105 hl G k22 h22  v0 v1 v2 v4 0 s0 w)
theorem t_X3_tightest_b81 {l : Launch} {D : Dn} {H0 : Heap} {w0 : St} (hl : l.stackTraces = false) (G : Nat) (k22 : Rf → Int32 → Int32 → Int32 → Int32 → St → Option (Int32 × St)) (h22 : ∀ v0 v1 v2 v3 v4 w, V_X3_tightest l D H0 w0 (k22 v0 v1 v2 v3 v4 w) 22 [(0, lR v0), (1, lI v1), (2, lI v2), (3, lI v3), (4, lI v4)] [] w) (v0 : Rf) (v1 : Int32) (v2 : Int32) (v3 : Int32) (v4 : Int32) (s0 : Int32) (w : St) : V_X3_tightest l D H0 w0 (f_X3_tightest_b81 G k22 v0 v1 v2 v3 v4 s0 w) 81 [(0, lR v0), (1, lI v1), (2, lI v2), (3, lI v3), (4, lI v4)] [.int s0] w := by
  unfold f_X3_tightest_b81
  refine r_istore (ls2 := [(5, lI s0), (0, lR v0), (1, lI v1), (2, lI v2), (3, lI v3), (4, lI v4)]) 83 dX3_tightest_81 (by decide) rfl rfl ?_
  refine r_iload_n 84 4 dX3_tightest_83 rfl rfl rfl ?_
  refine r_iload 86 0 dX3_tightest_84 rfl rfl ?_
  refine r_if_gt 100 89 dX3_tightest_86 (by decide) rfl ?_ ?_
  · exact r_lsP [1, 2, 3, 5] rfl (t_X3_tightest_b100 hl G k22 h22  v0 v1 v2 v4 v3 w)
  refine r_iload 91 0 dX3_tightest_89 rfl rfl ?_
  refine r_if_ne 104 94 dX3_tightest_91 (by decide) rfl ?_ ?_
  · exact r_lsP [1, 2, 3, 5] rfl (t_X3_tightest_b104 hl G k22 h22  v0 v1 v2 v4 v3 w)
  refine r_iload 96 5 dX3_tightest_94 rfl rfl ?_
  refine r_iload_n 97 3 dX3_tightest_96 rfl rfl rfl ?_
  refine r_icmp_ge 104 100 dX3_tightest_97 (by decide) rfl ?_ ?_
  · exact r_lsP [1, 2, 3, 5] rfl (t_X3_tightest_b104 hl G k22 h22  v0 v1 v2 v4 v3 w)
  exact r_lsP [1, 2, 3, 5] rfl (t_X3_tightest_b100 hl G k22 h22  v0 v1 v2 v4 v3 w)
theorem t_X3_tightest_l22 {l : Launch} {D : Dn} {H0 : Heap} {w0 : St} (hl : l.stackTraces = false) (G : Nat) (k113 : Rf → Int32 → Int32 → Int32 → St → Option (Int32 × St)) (h113 : ∀ v0 v1 v2 v3 w, V_X3_tightest l D H0 w0 (k113 v0 v1 v2 v3 w) 113 [(0, lR v0), (1, lI v1), (2, lI v2), (3, lI v3)] [] w) : ∀ (F : Nat) (v0 : Rf) (v1 : Int32) (v2 : Int32) (v3 : Int32) (v4 : Int32) (w : St), V_X3_tightest l D H0 w0 (f_X3_tightest_l22 G k113 F v0 v1 v2 v3 v4 w) 22 [(0, lR v0), (1, lI v1), (2, lI v2), (3, lI v3), (4, lI v4)] [] w := by
  intro F
  induction F with
  | zero => intros; exact r_none
  | succ F ih =>
    intro v0 v1 v2 v3 v4 w
    unfold f_X3_tightest_l22
    refine r_iload 24 4 dX3_tightest_22 rfl rfl ?_
    refine r_aload_n 25 0 dX3_tightest_24 rfl rfl rfl ?_
    refine r_getr 28 gf_X3_9 dX3_tightest_25 rfl (fun x25 => ?_)
    refine r_iconst (v := 1) 29 dX3_tightest_28 rfl rfl ?_
    refine r_iald 30 dX3_tightest_29 rfl (fun x29 => ?_)
    refine r_icmp_ge 113 33 dX3_tightest_30 (by decide) rfl ?_ ?_
    · exact r_lsP [0, 1, 2, 3] rfl (h113 v0 v1 v2 v3 w)
    refine r_aload_n 34 0 dX3_tightest_33 rfl rfl rfl ?_
    refine r_iload_n 35 2 dX3_tightest_34 rfl rfl rfl ?_
    refine r_gd (fun hc35 => ?_)
    refine r_callV (n := 1) (as := [lI v2]) (rest := []) 38 26 (s_X3_spareOf hl G v0 v2 w) hc35 rfl (lw_V q2508 q2510 qs79 q110 q2511) (by decide +kernel) (by decide) rfl rfl (cat2_nil (k := 0)) rfl dX3_tightest_35 rfl (fun x35 w35 => ?_)
    refine r_aload_n 39 0 dX3_tightest_38 rfl rfl rfl ?_
    refine r_iload 41 4 dX3_tightest_39 rfl rfl ?_
    refine r_gd (fun hc41 => ?_)
    refine r_callV (n := 1) (as := [lI v4]) (rest := [.int x35]) 44 26 (s_X3_spareOf hl G v0 v4 w35) hc41 rfl (lw_V q2508 q2510 qs79 q110 q2511) (by decide +kernel) (by decide) rfl rfl (cat2_i (cat2_nil (k := 0))) rfl dX3_tightest_41 rfl (fun x41 w41 => ?_)
    refine r_isub 45 dX3_tightest_44 rfl ?_
    refine r_istore (ls2 := [(5, lI (x35 - x41)), (0, lR v0), (1, lI v1), (2, lI v2), (3, lI v3), (4, lI v4)]) 47 dX3_tightest_45 (by decide) rfl rfl ?_
    refine r_iload 49 0 dX3_tightest_47 rfl rfl ?_
    refine r_if_ne 79 52 dX3_tightest_49 (by decide) rfl ?_ ?_
    · refine r_iload 81 0 dX3_tightest_79 rfl rfl ?_
      exact r_lsP [1, 2, 3, 4, 5] rfl (t_X3_tightest_b81 hl G (fun v0 v1 v2 v3 v4 w => f_X3_tightest_l22 G k113 F v0 v1 v2 v3 v4 w) (fun v0 v1 v2 v3 v4 w => ih v0 v1 v2 v3 v4 w)  v0 v1 v2 v3 v4 (x35 - x41) w41)
    refine r_aload_n 53 1 dX3_tightest_52 rfl rfl rfl ?_
    refine r_getr 56 gf_X3_9 dX3_tightest_53 rfl (fun x53 => ?_)
    refine r_iload_n 57 3 dX3_tightest_56 rfl rfl rfl ?_
    refine r_callS (n := 1) (as := [lI v2]) (rest := [rf x53]) 60 (s_X3_ofLink hl G v2 w41) (lw_S q2358 q2359 q110 q2360) (by decide +kernel) (by decide) rfl rfl (cat2_r (cat2_nil (k := 0))) rfl dX3_tightest_57 rfl (fun x57 w57 => ?_)
    refine r_iconst (v := 5) 61 dX3_tightest_60 rfl rfl ?_
    refine r_iadd 62 dX3_tightest_61 rfl ?_
    refine r_iald 63 dX3_tightest_62 rfl (fun x62 => ?_)
    refine r_aload_n 64 1 dX3_tightest_63 rfl rfl rfl ?_
    refine r_getr 67 gf_X3_9 dX3_tightest_64 rfl (fun x64 => ?_)
    refine r_iload 69 5 dX3_tightest_67 rfl rfl ?_
    refine r_callS (n := 1) (as := [lI v4]) (rest := [rf x64, .int x62]) 72 (s_X3_ofLink hl G v4 w57) (lw_S q2358 q2359 q110 q2360) (by decide +kernel) (by decide) rfl rfl (cat2_r (cat2_i (cat2_nil (k := 0)))) rfl dX3_tightest_69 rfl (fun x69 w69 => ?_)
    refine r_iconst (v := 5) 73 dX3_tightest_72 rfl rfl ?_
    refine r_iadd 74 dX3_tightest_73 rfl ?_
    refine r_iald 75 dX3_tightest_74 rfl (fun x74 => ?_)
    refine r_isub 76 dX3_tightest_75 rfl ?_
    refine r_goto 81 dX3_tightest_76 (by decide) ?_
    exact r_lsP [1, 2, 3, 4, 5] rfl (t_X3_tightest_b81 hl G (fun v0 v1 v2 v3 v4 w => f_X3_tightest_l22 G k113 F v0 v1 v2 v3 v4 w) (fun v0 v1 v2 v3 v4 w => ih v0 v1 v2 v3 v4 w)  v0 v1 v2 v3 v4 (x62 - x74) w69)
theorem t_X3_tightest_b113 {l : Launch} {D : Dn} {H0 : Heap} {w0 : St} (hl : l.stackTraces = false) (G : Nat) (k7 : Rf → Int32 → Int32 → St → Option (Int32 × St)) (h7 : ∀ v0 v1 v2 w, V_X3_tightest l D H0 w0 (k7 v0 v1 v2 w) 7 [(0, lR v0), (1, lI v1), (2, lI v2)] [] w) (k118 : Int32 → St → Option (Int32 × St)) (h118 : ∀ v2 w, V_X3_tightest l D H0 w0 (k118 v2 w) 118 [(2, lI v2)] [] w) (v0 : Rf) (v1 : Int32) (v2 : Int32) (v3 : Int32) (w : St) : V_X3_tightest l D H0 w0 (f_X3_tightest_b113 G k7 k118 v0 v1 v2 v3 w) 113 [(0, lR v0), (1, lI v1), (2, lI v2), (3, lI v3)] [] w := by
  unfold f_X3_tightest_b113
  refine r_iload_n 114 3 dX3_tightest_113 rfl rfl rfl ?_
  refine r_iload_n 115 1 dX3_tightest_114 rfl rfl rfl ?_
  refine r_icmp_ne 120 118 dX3_tightest_115 (by decide) rfl ?_ ?_
  · refine r_iinc (v := v2 + 1) (ls2 := [(2, lI (v2 + 1)), (0, lR v0), (1, lI v1), (3, lI v3)]) 123 2 dX3_tightest_120 rfl rfl (by decide) rfl rfl ?_
    refine r_goto 7 dX3_tightest_123 (by decide) ?_
    exact r_lsP [1, 2, 0] rfl (h7 v0 v1 (v2 + 1) w)
  exact r_lsP [2] rfl (h118 v2 w)
theorem t_X3_tightest_l7 {l : Launch} {D : Dn} {H0 : Heap} {w0 : St} (hl : l.stackTraces = false) (G : Nat) (k118 : Int32 → St → Option (Int32 × St)) (h118 : ∀ v2 w, V_X3_tightest l D H0 w0 (k118 v2 w) 118 [(2, lI v2)] [] w) (k126 : Rf → St → Option (Int32 × St)) (h126 : ∀ v0 w, V_X3_tightest l D H0 w0 (k126 v0 w) 126 [(0, lR v0)] [] w) : ∀ (F : Nat) (v0 : Rf) (v1 : Int32) (v2 : Int32) (w : St), V_X3_tightest l D H0 w0 (f_X3_tightest_l7 G k118 k126 F v0 v1 v2 w) 7 [(0, lR v0), (1, lI v1), (2, lI v2)] [] w := by
  intro F
  induction F with
  | zero => intros; exact r_none
  | succ F ih =>
    intro v0 v1 v2 w
    unfold f_X3_tightest_l7
    refine r_iload_n 8 2 dX3_tightest_7 rfl rfl rfl ?_
    refine r_aload_n 9 0 dX3_tightest_8 rfl rfl rfl ?_
    refine r_getr 12 gf_X3_9 dX3_tightest_9 rfl (fun x9 => ?_)
    refine r_iconst (v := 1) 13 dX3_tightest_12 rfl rfl ?_
    refine r_iald 14 dX3_tightest_13 rfl (fun x13 => ?_)
    refine r_icmp_ge 126 17 dX3_tightest_14 (by decide) rfl ?_ ?_
    · exact r_lsP [0] rfl (h126 v0 w)
    refine r_iconst (v := 0) 18 dX3_tightest_17 rfl rfl ?_
    refine r_istore_n (ls2 := [(3, lI 0), (0, lR v0), (1, lI v1), (2, lI v2)]) 19 dX3_tightest_18 rfl (by decide) rfl rfl ?_
    refine r_iconst (v := 0) 20 dX3_tightest_19 rfl rfl ?_
    refine r_istore (ls2 := [(4, lI 0), (3, lI 0), (0, lR v0), (1, lI v1), (2, lI v2)]) 22 dX3_tightest_20 (by decide) rfl rfl ?_
    exact r_lsP [2, 3, 4, 1, 0] rfl (t_X3_tightest_l22 hl G (fun v0 v1 v2 v3 w => f_X3_tightest_b113 G (fun v0 v1 v2 w => f_X3_tightest_l7 G k118 k126 F v0 v1 v2 w) k118  v0 v1 v2 v3 w) (fun v0 v1 v2 v3 w => t_X3_tightest_b113 hl G (fun v0 v1 v2 w => f_X3_tightest_l7 G k118 k126 F v0 v1 v2 w) (fun v0 v1 v2 w => ih v0 v1 v2 w) k118 h118  v0 v1 v2 v3 w) G v0 v1 v2 0 0 w)
theorem t_X3_tightest_b118 {l : Launch} {D : Dn} {H0 : Heap} {w0 : St} (hl : l.stackTraces = false) (G : Nat) (v2 : Int32) (w : St) : V_X3_tightest l D H0 w0 (f_X3_tightest_b118 G v2 w) 118 [(2, lI v2)] [] w := by
  unfold f_X3_tightest_b118
  refine r_iload_n 119 0 dX3_tightest_118 rfl rfl rfl ?_
  exact r_iret rfl rfl dX3_tightest_119
theorem t_X3_tightest_b126 {l : Launch} {D : Dn} {H0 : Heap} {w0 : St} (hl : l.stackTraces = false) (G : Nat) (v0 : Rf) (w : St) : V_X3_tightest l D H0 w0 (f_X3_tightest_b126 G v0 w) 126 [(0, lR v0)] [] w := by
  unfold f_X3_tightest_b126
  refine r_aload_n 127 0 dX3_tightest_126 rfl rfl rfl ?_
  refine r_iconst (v := 1) 128 dX3_tightest_127 rfl rfl ?_
  refine r_gd (fun hc128 => ?_)
  refine r_callV (n := 1) (as := [lI 1]) (rest := []) 131 26 (s_X3_throwing hl G v0 1 w) hc128 rfl (lw_V q2298 q2300 qs42 q110 q2301) (by decide +kernel) (by decide) rfl rfl (cat2_nil (k := 0)) rfl dX3_tightest_128 rfl (fun x128 w128 => ?_)
  exact r_iret rfl rfl dX3_tightest_131
theorem t_X3_tightest {l : Launch} {D : Dn} {H0 : Heap} {w0 : St} (hl : l.stackTraces = false) (G : Nat) (a0 : Rf) (a1 : Int32) (w : St) : V_X3_tightest l D H0 w0 (f_X3_tightest G a0 a1 w) 0 [(0, lR a0), (1, lI a1)] [] w := by
  unfold f_X3_tightest
  refine r_aload_n 1 0 dX3_tightest_0 rfl rfl rfl ?_
  refine r_iconst (v := 0) 2 dX3_tightest_1 rfl rfl ?_
  refine r_puti 5 pf_X3_69 dX3_tightest_2 rfl (fun w2 => ?_)
  refine r_iconst (v := 0) 6 dX3_tightest_5 rfl rfl ?_
  refine r_istore_n (ls2 := [(2, lI 0), (0, lR a0), (1, lI a1)]) 7 dX3_tightest_6 rfl (by decide) rfl rfl ?_
  exact r_lsP [1, 2, 0] rfl (t_X3_tightest_l7 hl G (fun v2 w => f_X3_tightest_b118 G  v2 w) (fun v2 w => t_X3_tightest_b118 hl G  v2 w) (fun v0 w => f_X3_tightest_b126 G  v0 w) (fun v0 w => t_X3_tightest_b126 hl G  v0 w) G a0 a1 0 w2)
theorem s_X3_tightest {l : Launch} {D : Dn} {H0 : Heap} (hl : l.stackTraces = false) (G : Nat) (a0 : Rf) (a1 : Int32) (w : St) : SimN l D H0 yX3_tightest (ws_ yX3_tightest cX3_tightest 6 (some (.int))) 3 66 rvI [lR a0, lI a1] w (f_X3_tightest G a0 a1 w) := SimX.N (SimX.ofV (y := yX3_tightest) (by decide) rfl (t_X3_tightest hl G a0 a1 w))
abbrev V_X3_hasEvent (l : Launch) (D : Dn) (H0 : Heap) (w0 : St) (res : Option (Int32 × St)) (pc : Nat) (ls : List (Nat × LV)) (st : List Value) (w : St) : Prop := V l D H0 RX3 "hasEvent" cX3_hasEvent 2 (some (.boolean)) [] 2 48 (fun x => .inr (rvI x)) w0 res pc ls st w
theorem t_X3_hasEvent {l : Launch} {D : Dn} {H0 : Heap} {w0 : St} (hl : l.stackTraces = false) (G : Nat) (a0 : Rf) (a1 : Int32) (w : St) : V_X3_hasEvent l D H0 w0 (f_X3_hasEvent G a0 a1 w) 0 [(0, lR a0), (1, lI a1)] [] w := by
  unfold f_X3_hasEvent
  refine r_iload_n 1 1 dX3_hasEvent_0 rfl rfl rfl ?_
  refine r_bipush (v := 12) 3 dX3_hasEvent_1 rfl rfl ?_
  refine r_idiv 4 dX3_hasEvent_3 (by decide) rfl ?_
  refine r_aload_n 5 0 dX3_hasEvent_4 rfl rfl rfl ?_
  refine r_getr 8 gf_X3_9 dX3_hasEvent_5 rfl (fun x5 => ?_)
  refine r_iconst (v := 0) 9 dX3_hasEvent_8 rfl rfl ?_
  refine r_iald 10 dX3_hasEvent_9 rfl (fun x9 => ?_)
  refine r_icmp_ge 37 13 dX3_hasEvent_10 (by decide) rfl ?_ ?_
  · refine r_iconst (v := 0) 38 dX3_hasEvent_37 rfl rfl ?_
    exact r_zret rfl rfl rfl dX3_hasEvent_38
  refine r_aload_n 14 0 dX3_hasEvent_13 rfl rfl rfl ?_
  refine r_iload_n 15 1 dX3_hasEvent_14 rfl rfl rfl ?_
  refine r_bipush (v := 12) 17 dX3_hasEvent_15 rfl rfl ?_
  refine r_idiv 18 dX3_hasEvent_17 (by decide) rfl ?_
  refine r_iload_n 19 1 dX3_hasEvent_18 rfl rfl rfl ?_
  refine r_iconst (v := 2) 20 dX3_hasEvent_19 rfl rfl ?_
  refine r_idiv 21 dX3_hasEvent_20 (by decide) rfl ?_
  refine r_bipush (v := 6) 23 dX3_hasEvent_21 rfl rfl ?_
  refine r_irem 24 dX3_hasEvent_23 (by decide) rfl ?_
  refine r_iload_n 25 1 dX3_hasEvent_24 rfl rfl rfl ?_
  refine r_iconst (v := 2) 26 dX3_hasEvent_25 rfl rfl ?_
  refine r_irem 27 dX3_hasEvent_26 (by decide) rfl ?_
  refine r_gd (fun hc27 => ?_)
  refine r_callV (n := 3) (as := [lI (a1 / 12), lI ((a1 / 2) - (a1 / 2) / 6 * 6), lI (a1 - a1 / 2 * 2)]) (rest := []) 30 26 (s_X3_isEvent hl G a0 (a1 / 12) ((a1 / 2) - (a1 / 2) / 6 * 6) (a1 - a1 / 2 * 2) w) hc27 rfl (lw_V q2353 q2355 qs52 q110 q2356) (by decide +kernel) (by decide) rfl rfl (cat2_nil (k := 0)) rfl dX3_hasEvent_27 rfl (fun x27 w27 => ?_)
  refine r_if_eq 37 33 dX3_hasEvent_30 (by decide) rfl ?_ ?_
  · refine r_iconst (v := 0) 38 dX3_hasEvent_37 rfl rfl ?_
    exact r_zret rfl rfl rfl dX3_hasEvent_38
  refine r_iconst (v := 1) 34 dX3_hasEvent_33 rfl rfl ?_
  refine r_goto 38 dX3_hasEvent_34 (by decide) ?_
  exact r_zret rfl rfl rfl dX3_hasEvent_38
theorem s_X3_hasEvent {l : Launch} {D : Dn} {H0 : Heap} (hl : l.stackTraces = false) (G : Nat) (a0 : Rf) (a1 : Int32) (w : St) : SimN l D H0 yX3_hasEvent (ws_ yX3_hasEvent cX3_hasEvent 2 (some (.boolean))) 2 48 rvI [lR a0, lI a1] w (f_X3_hasEvent G a0 a1 w) := SimX.N (SimX.ofV (y := yX3_hasEvent) (by decide) rfl (t_X3_hasEvent hl G a0 a1 w))
abbrev V_X3_event (l : Launch) (D : Dn) (H0 : Heap) (w0 : St) (res : Option (Int32 × St)) (pc : Nat) (ls : List (Nat × LV)) (st : List Value) (w : St) : Prop := V l D H0 RX3 "event" cX3_event 6 (some (.int)) [] 7 163 (fun x => .inr (rvI x)) w0 res pc ls st w
theorem t_X3_event_b106 {l : Launch} {D : Dn} {H0 : Heap} {w0 : St} (hl : l.stackTraces = false) (G : Nat) (k27 : Rf → Int32 → Int32 → Int32 → Int32 → St → Option (Int32 × St)) (h27 : ∀ v0 v1 v2 v3 v4 w, V_X3_event l D H0 w0 (k27 v0 v1 v2 v3 v4 w) 27 [(0, lR v0), (1, lI v1), (2, lI v2), (3, lI v3), (4, lI v4)] [] w) (v0 : Rf) (v1 : Int32) (v2 : Int32) (v3 : Int32) (v4 : Int32) (w : St) : V_X3_event l D H0 w0 (f_X3_event_b106 G k27 v0 v1 v2 v3 v4 w) 106 [(0, lR v0), (1, lI v1), (2, lI v2), (3, lI v3), (4, lI v4)] [] w := by
  unfold f_X3_event_b106
  refine r_iinc (v := v4 + 1) (ls2 := [(4, lI (v4 + 1)), (0, lR v0), (1, lI v1), (2, lI v2), (3, lI v3)]) 109 4 dX3_event_106 rfl rfl (by decide) rfl rfl ?_
  refine r_goto 27 dX3_event_109 (by decide) ?_
  exact r_lsP [1, 2, 3, 4, 0] rfl (h27 v0 v1 v2 v3 (v4 + 1) w)
theorem t_X3_event_b104 {l : Launch} {D : Dn} {H0 : Heap} {w0 : St} (hl : l.stackTraces = false) (G : Nat) (k27 : Rf → Int32 → Int32 → Int32 → Int32 → St → Option (Int32 × St)) (h27 : ∀ v0 v1 v2 v3 v4 w, V_X3_event l D H0 w0 (k27 v0 v1 v2 v3 v4 w) 27 [(0, lR v0), (1, lI v1), (2, lI v2), (3, lI v3), (4, lI v4)] [] w) (v0 : Rf) (v1 : Int32) (v2 : Int32) (v4 : Int32) (s0 : Int32) (s1 : Int32) (w : St) : V_X3_event l D H0 w0 (f_X3_event_b104 G k27 v0 v1 v2 v4 s0 s1 w) 104 [(0, lR v0), (1, lI v1), (2, lI v2), (4, lI v4)] [.int s0, .int s1] w := by
  unfold f_X3_event_b104
  refine r_iadd 105 dX3_event_104 rfl ?_
  refine r_istore_n (ls2 := [(3, lI (s1 + s0)), (0, lR v0), (1, lI v1), (2, lI v2), (4, lI v4)]) 106 dX3_event_105 rfl (by decide) rfl rfl ?_
  exact r_lsP [1, 2, 3, 0, 4] rfl (t_X3_event_b106 hl G k27 h27  v0 v1 v2 (s1 + s0) v4 w)
theorem t_X3_event_b99 {l : Launch} {D : Dn} {H0 : Heap} {w0 : St} (hl : l.stackTraces = false) (G : Nat) (k27 : Rf → Int32 → Int32 → Int32 → Int32 → St → Option (Int32 × St)) (h27 : ∀ v0 v1 v2 v3 v4 w, V_X3_event l D H0 w0 (k27 v0 v1 v2 v3 v4 w) 27 [(0, lR v0), (1, lI v1), (2, lI v2), (3, lI v3), (4, lI v4)] [] w) (v0 : Rf) (v1 : Int32) (v2 : Int32) (v4 : Int32) (s0 : Int32) (w : St) : V_X3_event l D H0 w0 (f_X3_event_b99 G k27 v0 v1 v2 v4 s0 w) 99 [(0, lR v0), (1, lI v1), (2, lI v2), (4, lI v4)] [.int s0] w := by
  unfold f_X3_event_b99
  refine r_iconst (v := 1) 100 dX3_event_99 rfl rfl ?_
  refine r_goto 104 dX3_event_100 (by decide) ?_
  exact r_lsP [0, 1, 2, 3] rfl (t_X3_event_b104 hl G k27 h27  v0 v1 v2 v4 1 s0 w)
theorem t_X3_event_b103 {l : Launch} {D : Dn} {H0 : Heap} {w0 : St} (hl : l.stackTraces = false) (G : Nat) (k27 : Rf → Int32 → Int32 → Int32 → Int32 → St → Option (Int32 × St)) (h27 : ∀ v0 v1 v2 v3 v4 w, V_X3_event l D H0 w0 (k27 v0 v1 v2 v3 v4 w) 27 [(0, lR v0), (1, lI v1), (2, lI v2), (3, lI v3), (4, lI v4)] [] w) (v0 : Rf) (v1 : Int32) (v2 : Int32) (v4 : Int32) (s0 : Int32) (w : St) : V_X3_event l D H0 w0 (f_X3_event_b103 G k27 v0 v1 v2 v4 s0 w) 103 [(0, lR v0), (1, lI v1), (2, lI v2), (4, lI v4)] [.int s0] w := by
  unfold f_X3_event_b103
  refine r_iconst (v := 0) 104 dX3_event_103 rfl rfl ?_
  exact r_lsP [0, 1, 2, 3] rfl (t_X3_event_b104 hl G k27 h27  v0 v1 v2 v4 0 s0 w)
theorem t_X3_event_b80 {l : Launch} {D : Dn} {H0 : Heap} {w0 : St} (hl : l.stackTraces = false) (G : Nat) (k27 : Rf → Int32 → Int32 → Int32 → Int32 → St → Option (Int32 × St)) (h27 : ∀ v0 v1 v2 v3 v4 w, V_X3_event l D H0 w0 (k27 v0 v1 v2 v3 v4 w) 27 [(0, lR v0), (1, lI v1), (2, lI v2), (3, lI v3), (4, lI v4)] [] w) (v0 : Rf) (v1 : Int32) (v2 : Int32) (v3 : Int32) (v4 : Int32) (s0 : Int32) (w : St) : V_X3_event l D H0 w0 (f_X3_event_b80 G k27 v0 v1 v2 v3 v4 s0 w) 80 [(0, lR v0), (1, lI v1), (2, lI v2), (3, lI v3), (4, lI v4)] [.int s0] w := by
  unfold f_X3_event_b80
  refine r_istore (ls2 := [(5, lI s0), (0, lR v0), (1, lI v1), (2, lI v2), (3, lI v3), (4, lI v4)]) 82 dX3_event_80 (by decide) rfl rfl ?_
  refine r_iload_n 83 4 dX3_event_82 rfl rfl rfl ?_
  refine r_iload 85 0 dX3_event_83 rfl rfl ?_
  refine r_if_gt 99 88 dX3_event_85 (by decide) rfl ?_ ?_
  · exact r_lsP [1, 2, 3, 5] rfl (t_X3_event_b99 hl G k27 h27  v0 v1 v2 v4 v3 w)
  refine r_iload 90 0 dX3_event_88 rfl rfl ?_
  refine r_if_ne 103 93 dX3_event_90 (by decide) rfl ?_ ?_
  · exact r_lsP [1, 2, 3, 5] rfl (t_X3_event_b103 hl G k27 h27  v0 v1 v2 v4 v3 w)
  refine r_iload 95 5 dX3_event_93 rfl rfl ?_
  refine r_iload_n 96 3 dX3_event_95 rfl rfl rfl ?_
  refine r_icmp_ge 103 99 dX3_event_96 (by decide) rfl ?_ ?_
  · exact r_lsP [1, 2, 3, 5] rfl (t_X3_event_b103 hl G k27 h27  v0 v1 v2 v4 v3 w)
  exact r_lsP [1, 2, 3, 5] rfl (t_X3_event_b99 hl G k27 h27  v0 v1 v2 v4 v3 w)
theorem t_X3_event_l27 {l : Launch} {D : Dn} {H0 : Heap} {w0 : St} (hl : l.stackTraces = false) (G : Nat) (k112 : Rf → Int32 → Int32 → Int32 → St → Option (Int32 × St)) (h112 : ∀ v0 v1 v2 v3 w, V_X3_event l D H0 w0 (k112 v0 v1 v2 v3 w) 112 [(0, lR v0), (1, lI v1), (2, lI v2), (3, lI v3)] [] w) : ∀ (F : Nat) (v0 : Rf) (v1 : Int32) (v2 : Int32) (v3 : Int32) (v4 : Int32) (w : St), V_X3_event l D H0 w0 (f_X3_event_l27 G k112 F v0 v1 v2 v3 v4 w) 27 [(0, lR v0), (1, lI v1), (2, lI v2), (3, lI v3), (4, lI v4)] [] w := by
  intro F
  induction F with
  | zero => intros; exact r_none
  | succ F ih =>
    intro v0 v1 v2 v3 v4 w
    unfold f_X3_event_l27
    refine r_iload 29 4 dX3_event_27 rfl rfl ?_
    refine r_aload_n 30 0 dX3_event_29 rfl rfl rfl ?_
    refine r_getr 33 gf_X3_47 dX3_event_30 rfl (fun x30 => ?_)
    refine r_alen 34 dX3_event_33 rfl (fun x33 => ?_)
    refine r_icmp_ge 112 37 dX3_event_34 (by decide) rfl ?_ ?_
    · exact r_lsP [0, 1, 2, 3] rfl (h112 v0 v1 v2 v3 w)
    refine r_aload_n 38 0 dX3_event_37 rfl rfl rfl ?_
    refine r_iload 40 4 dX3_event_38 rfl rfl ?_
    refine r_gd (fun hc40 => ?_)
    refine r_callV (n := 1) (as := [lI v4]) (rest := []) 43 26 (s_X3_hasEvent hl G v0 v4 w) hc40 rfl (lw_V q2565 q2567 qs82 q110 q2568) (by decide +kernel) (by decide) rfl rfl (cat2_nil (k := 0)) rfl dX3_event_40 rfl (fun x40 w40 => ?_)
    refine r_if_eq 106 46 dX3_event_43 (by decide) rfl ?_ ?_
    · exact r_lsP [0, 1, 2, 3, 4] rfl (t_X3_event_b106 hl G (fun v0 v1 v2 v3 v4 w => f_X3_event_l27 G k112 F v0 v1 v2 v3 v4 w) (fun v0 v1 v2 v3 v4 w => ih v0 v1 v2 v3 v4 w)  v0 v1 v2 v3 v4 w40)
    refine r_aload_n 47 0 dX3_event_46 rfl rfl rfl ?_
    refine r_getr 50 gf_X3_41 dX3_event_47 rfl (fun x47 => ?_)
    refine r_iload_n 51 2 dX3_event_50 rfl rfl rfl ?_
    refine r_iald 52 dX3_event_51 rfl (fun x51 => ?_)
    refine r_aload_n 53 0 dX3_event_52 rfl rfl rfl ?_
    refine r_getr 56 gf_X3_41 dX3_event_53 rfl (fun x53 => ?_)
    refine r_iload 58 4 dX3_event_56 rfl rfl ?_
    refine r_iald 59 dX3_event_58 rfl (fun x58 => ?_)
    refine r_isub 60 dX3_event_59 rfl ?_
    refine r_istore (ls2 := [(5, lI (x51 - x58)), (0, lR v0), (1, lI v1), (2, lI v2), (3, lI v3), (4, lI v4)]) 62 dX3_event_60 (by decide) rfl rfl ?_
    refine r_iload 64 0 dX3_event_62 rfl rfl ?_
    refine r_if_ne 78 67 dX3_event_64 (by decide) rfl ?_ ?_
    · refine r_iload 80 0 dX3_event_78 rfl rfl ?_
      exact r_lsP [1, 2, 3, 4, 5] rfl (t_X3_event_b80 hl G (fun v0 v1 v2 v3 v4 w => f_X3_event_l27 G k112 F v0 v1 v2 v3 v4 w) (fun v0 v1 v2 v3 v4 w => ih v0 v1 v2 v3 v4 w)  v0 v1 v2 v3 v4 (x51 - x58) w40)
    refine r_iload_n 68 3 dX3_event_67 rfl rfl rfl ?_
    refine r_iconst (v := 2) 69 dX3_event_68 rfl rfl ?_
    refine r_irem 70 dX3_event_69 (by decide) rfl ?_
    refine r_iload 72 5 dX3_event_70 rfl rfl ?_
    refine r_iconst (v := 2) 73 dX3_event_72 rfl rfl ?_
    refine r_irem 74 dX3_event_73 (by decide) rfl ?_
    refine r_isub 75 dX3_event_74 rfl ?_
    refine r_goto 80 dX3_event_75 (by decide) ?_
    exact r_lsP [1, 2, 3, 4, 5] rfl (t_X3_event_b80 hl G (fun v0 v1 v2 v3 v4 w => f_X3_event_l27 G k112 F v0 v1 v2 v3 v4 w) (fun v0 v1 v2 v3 v4 w => ih v0 v1 v2 v3 v4 w)  v0 v1 v2 v3 v4 ((v2 - v2 / 2 * 2) - (v4 - v4 / 2 * 2)) w40)
theorem t_X3_event_b146 {l : Launch} {D : Dn} {H0 : Heap} {w0 : St} (hl : l.stackTraces = false) (G : Nat) (k13 : Rf → Int32 → Int32 → St → Option (Int32 × St)) (h13 : ∀ v0 v1 v2 w, V_X3_event l D H0 w0 (k13 v0 v1 v2 w) 13 [(0, lR v0), (1, lI v1), (2, lI v2)] [] w) (v0 : Rf) (v1 : Int32) (v2 : Int32) (w : St) : V_X3_event l D H0 w0 (f_X3_event_b146 G k13 v0 v1 v2 w) 146 [(0, lR v0), (1, lI v1), (2, lI v2)] [] w := by
  unfold f_X3_event_b146
  refine r_iinc (v := v2 + 1) (ls2 := [(2, lI (v2 + 1)), (0, lR v0), (1, lI v1)]) 149 2 dX3_event_146 rfl rfl (by decide) rfl rfl ?_
  refine r_goto 13 dX3_event_149 (by decide) ?_
  exact r_lsP [1, 2, 0] rfl (h13 v0 v1 (v2 + 1) w)
theorem t_X3_event_b112 {l : Launch} {D : Dn} {H0 : Heap} {w0 : St} (hl : l.stackTraces = false) (G : Nat) (k13 : Rf → Int32 → Int32 → St → Option (Int32 × St)) (h13 : ∀ v0 v1 v2 w, V_X3_event l D H0 w0 (k13 v0 v1 v2 w) 13 [(0, lR v0), (1, lI v1), (2, lI v2)] [] w) (k125 : Int32 → St → Option (Int32 × St)) (h125 : ∀ v2 w, V_X3_event l D H0 w0 (k125 v2 w) 125 [(2, lI v2)] [] w) (v0 : Rf) (v1 : Int32) (v2 : Int32) (v3 : Int32) (w : St) : V_X3_event l D H0 w0 (f_X3_event_b112 G k13 k125 v0 v1 v2 v3 w) 112 [(0, lR v0), (1, lI v1), (2, lI v2), (3, lI v3)] [] w := by
  unfold f_X3_event_b112
  refine r_aload_n 113 0 dX3_event_112 rfl rfl rfl ?_
  refine r_iload_n 114 2 dX3_event_113 rfl rfl rfl ?_
  refine r_gd (fun hc114 => ?_)
  refine r_callV (n := 1) (as := [lI v2]) (rest := []) 117 26 (s_X3_hasEvent hl G v0 v2 w) hc114 rfl (lw_V q2565 q2567 qs82 q110 q2568) (by decide +kernel) (by decide) rfl rfl (cat2_nil (k := 0)) rfl dX3_event_114 rfl (fun x114 w114 => ?_)
  refine r_if_eq 146 120 dX3_event_117 (by decide) rfl ?_ ?_
  · exact r_lsP [0, 1, 2] rfl (t_X3_event_b146 hl G k13 h13  v0 v1 v2 w114)
  refine r_iload_n 121 3 dX3_event_120 rfl rfl rfl ?_
  refine r_iload_n 122 1 dX3_event_121 rfl rfl rfl ?_
  refine r_icmp_ne 146 125 dX3_event_122 (by decide) rfl ?_ ?_
  · exact r_lsP [0, 1, 2] rfl (t_X3_event_b146 hl G k13 h13  v0 v1 v2 w114)
  exact r_lsP [2] rfl (h125 v2 w114)
theorem t_X3_event_l13 {l : Launch} {D : Dn} {H0 : Heap} {w0 : St} (hl : l.stackTraces = false) (G : Nat) (k125 : Int32 → St → Option (Int32 × St)) (h125 : ∀ v2 w, V_X3_event l D H0 w0 (k125 v2 w) 125 [(2, lI v2)] [] w) (k152 : Rf → St → Option (Int32 × St)) (h152 : ∀ v0 w, V_X3_event l D H0 w0 (k152 v0 w) 152 [(0, lR v0)] [] w) : ∀ (F : Nat) (v0 : Rf) (v1 : Int32) (v2 : Int32) (w : St), V_X3_event l D H0 w0 (f_X3_event_l13 G k125 k152 F v0 v1 v2 w) 13 [(0, lR v0), (1, lI v1), (2, lI v2)] [] w := by
  intro F
  induction F with
  | zero => intros; exact r_none
  | succ F ih =>
    intro v0 v1 v2 w
    unfold f_X3_event_l13
    refine r_iload_n 14 2 dX3_event_13 rfl rfl rfl ?_
    refine r_aload_n 15 0 dX3_event_14 rfl rfl rfl ?_
    refine r_getr 18 gf_X3_47 dX3_event_15 rfl (fun x15 => ?_)
    refine r_alen 19 dX3_event_18 rfl (fun x18 => ?_)
    refine r_icmp_ge 152 22 dX3_event_19 (by decide) rfl ?_ ?_
    · exact r_lsP [0] rfl (h152 v0 w)
    refine r_iconst (v := 0) 23 dX3_event_22 rfl rfl ?_
    refine r_istore_n (ls2 := [(3, lI 0), (0, lR v0), (1, lI v1), (2, lI v2)]) 24 dX3_event_23 rfl (by decide) rfl rfl ?_
    refine r_iconst (v := 0) 25 dX3_event_24 rfl rfl ?_
    refine r_istore (ls2 := [(4, lI 0), (3, lI 0), (0, lR v0), (1, lI v1), (2, lI v2)]) 27 dX3_event_25 (by decide) rfl rfl ?_
    exact r_lsP [2, 3, 4, 1, 0] rfl (t_X3_event_l27 hl G (fun v0 v1 v2 v3 w => f_X3_event_b112 G (fun v0 v1 v2 w => f_X3_event_l13 G k125 k152 F v0 v1 v2 w) k125  v0 v1 v2 v3 w) (fun v0 v1 v2 v3 w => t_X3_event_b112 hl G (fun v0 v1 v2 w => f_X3_event_l13 G k125 k152 F v0 v1 v2 w) (fun v0 v1 v2 w => ih v0 v1 v2 w) k125 h125  v0 v1 v2 v3 w) G v0 v1 v2 0 0 w)
theorem t_X3_event_b125 {l : Launch} {D : Dn} {H0 : Heap} {w0 : St} (hl : l.stackTraces = false) (G : Nat) (v2 : Int32) (w : St) : V_X3_event l D H0 w0 (f_X3_event_b125 G v2 w) 125 [(2, lI v2)] [] w := by
  unfold f_X3_event_b125
  refine r_bipush (v := 20) 127 dX3_event_125 rfl rfl ?_
  refine r_iload_n 128 0 dX3_event_127 rfl rfl rfl ?_
  refine r_bipush (v := 12) 130 dX3_event_128 rfl rfl ?_
  refine r_idiv 131 dX3_event_130 (by decide) rfl ?_
  refine r_imul 132 dX3_event_131 rfl ?_
  refine r_iconst (v := 2) 133 dX3_event_132 rfl rfl ?_
  refine r_iload_n 134 0 dX3_event_133 rfl rfl rfl ?_
  refine r_iconst (v := 2) 135 dX3_event_134 rfl rfl ?_
  refine r_idiv 136 dX3_event_135 (by decide) rfl ?_
  refine r_bipush (v := 6) 138 dX3_event_136 rfl rfl ?_
  refine r_irem 139 dX3_event_138 (by decide) rfl ?_
  refine r_imul 140 dX3_event_139 rfl ?_
  refine r_iadd 141 dX3_event_140 rfl ?_
  refine r_iload_n 142 0 dX3_event_141 rfl rfl rfl ?_
  refine r_iconst (v := 2) 143 dX3_event_142 rfl rfl ?_
  refine r_irem 144 dX3_event_143 (by decide) rfl ?_
  refine r_iadd 145 dX3_event_144 rfl ?_
  exact r_iret rfl rfl dX3_event_145
theorem t_X3_event_b152 {l : Launch} {D : Dn} {H0 : Heap} {w0 : St} (hl : l.stackTraces = false) (G : Nat) (v0 : Rf) (w : St) : V_X3_event l D H0 w0 (f_X3_event_b152 G v0 w) 152 [(0, lR v0)] [] w := by
  unfold f_X3_event_b152
  refine r_aload_n 153 0 dX3_event_152 rfl rfl rfl ?_
  refine r_iconst (v := 1) 154 dX3_event_153 rfl rfl ?_
  refine r_gd (fun hc154 => ?_)
  refine r_callV (n := 1) (as := [lI 1]) (rest := []) 157 26 (s_X3_throwing hl G v0 1 w) hc154 rfl (lw_V q2298 q2300 qs42 q110 q2301) (by decide +kernel) (by decide) rfl rfl (cat2_nil (k := 0)) rfl dX3_event_154 rfl (fun x154 w154 => ?_)
  exact r_iret rfl rfl dX3_event_157
theorem t_X3_event {l : Launch} {D : Dn} {H0 : Heap} {w0 : St} (hl : l.stackTraces = false) (G : Nat) (a0 : Rf) (a1 : Int32) (w : St) : V_X3_event l D H0 w0 (f_X3_event G a0 a1 w) 0 [(0, lR a0), (1, lI a1)] [] w := by
  unfold f_X3_event
  refine r_aload_n 1 0 dX3_event_0 rfl rfl rfl ?_
  refine r_iconst (v := 0) 2 dX3_event_1 rfl rfl ?_
  refine r_puti 5 pf_X3_69 dX3_event_2 rfl (fun w2 => ?_)
  refine r_aload_n 6 0 dX3_event_5 rfl rfl rfl ?_
  refine r_iconst (v := (-1)) 7 dX3_event_6 rfl rfl ?_
  refine r_iconst (v := (-1)) 8 dX3_event_7 rfl rfl ?_
  refine r_gd (fun hc8 => ?_)
  refine r_callV (n := 2) (as := [lI ((-1)), lI ((-1))]) (rest := []) 11 26 (s_X3_laysMinutes hl G a0 ((-1)) ((-1)) w2) hc8 rfl (lw_V q2390 q2392 qs57 q110 q2393) (by decide +kernel) (by decide) rfl rfl (cat2_nil (k := 0)) rfl dX3_event_8 rfl (fun _ w8 => ?_)
  refine r_iconst (v := 0) 12 dX3_event_11 rfl rfl ?_
  refine r_istore_n (ls2 := [(2, lI 0), (0, lR a0), (1, lI a1)]) 13 dX3_event_12 rfl (by decide) rfl rfl ?_
  exact r_lsP [1, 2, 0] rfl (t_X3_event_l13 hl G (fun v2 w => f_X3_event_b125 G  v2 w) (fun v2 w => t_X3_event_b125 hl G  v2 w) (fun v0 w => f_X3_event_b152 G  v0 w) (fun v0 w => t_X3_event_b152 hl G  v0 w) G a0 a1 0 w8)
theorem s_X3_event {l : Launch} {D : Dn} {H0 : Heap} (hl : l.stackTraces = false) (G : Nat) (a0 : Rf) (a1 : Int32) (w : St) : SimN l D H0 yX3_event (ws_ yX3_event cX3_event 6 (some (.int))) 7 163 rvI [lR a0, lI a1] w (f_X3_event G a0 a1 w) := SimX.N (SimX.ofV (y := yX3_event) (by decide) rfl (t_X3_event hl G a0 a1 w))
