set_option maxRecDepth 100000
set_option maxHeartbeats 4000000
theorem gf_X3_13 : GF RX3 13 [26] 1 := GF1 (C := RX3) (T := TX3) (N := 34) (ci := 26) rfl in_X3 (by decide) (Or.inl q2170) (Or.inl rfl)
theorem gf_X3_176 : GF RX3 176 [26] 21 := GF1 (C := RX3) (T := TX3) (N := 34) (ci := 26) rfl in_X3 (by decide) (Or.inl q2190) (Or.inl rfl)
theorem gf_X3_182 : GF RX3 182 [26] 20 := GF1 (C := RX3) (T := TX3) (N := 34) (ci := 26) rfl in_X3 (by decide) (Or.inl q2189) (Or.inl rfl)
theorem gf_X3_19 : GF RX3 19 [26] 4 := GF1 (C := RX3) (T := TX3) (N := 34) (ci := 26) rfl in_X3 (by decide) (Or.inl q2173) (Or.inl rfl)
theorem gf_X3_29 : GF RX3 29 [26] 14 := GF1 (C := RX3) (T := TX3) (N := 34) (ci := 26) rfl in_X3 (by decide) (Or.inl q2183) (Or.inl rfl)
theorem gf_X3_32 : GF RX3 32 [26] 15 := GF1 (C := RX3) (T := TX3) (N := 34) (ci := 26) rfl in_X3 (by decide) (Or.inl q2184) (Or.inl rfl)
theorem gf_X3_35 : GF RX3 35 [26] 16 := GF1 (C := RX3) (T := TX3) (N := 34) (ci := 26) rfl in_X3 (by decide) (Or.inl q2185) (Or.inl rfl)
theorem gf_X3_38 : GF RX3 38 [26] 17 := GF1 (C := RX3) (T := TX3) (N := 34) (ci := 26) rfl in_X3 (by decide) (Or.inl q2186) (Or.inl rfl)
theorem gf_X3_41 : GF RX3 41 [26] 18 := GF1 (C := RX3) (T := TX3) (N := 34) (ci := 26) rfl in_X3 (by decide) (Or.inl q2187) (Or.inl rfl)
theorem gf_X3_69 : GF RX3 69 [26] 13 := GF1 (C := RX3) (T := TX3) (N := 34) (ci := 26) rfl in_X3 (by decide) (Or.inl q2182) (Or.inl rfl)
theorem gf_X3_85 : GF RX3 85 [26] 5 := GF1 (C := RX3) (T := TX3) (N := 34) (ci := 26) rfl in_X3 (by decide) (Or.inl q2174) (Or.inl rfl)
theorem gf_X3_9 : GF RX3 9 [26] 0 := GF1 (C := RX3) (T := TX3) (N := 34) (ci := 26) rfl in_X3 (by decide) (Or.inl q2169) (Or.inl rfl)
theorem pf_X3_69 {nm9 : String} : PF RX3 nm9 69 [26] 13 (.int) := PF1 (C := RX3) (T := TX3) (N := 34) (ci := 26) rfl in_X3 tyX3_ok nmX3 (by decide) rfl (Or.inl rfl) (Or.inl q2182) (Or.inl rfl)
theorem pf_X3_72 {nm9 : String} : PF RX3 nm9 72 [26] 6 (.int) := PF1 (C := RX3) (T := TX3) (N := 34) (ci := 26) rfl in_X3 tyX3_ok nmX3 (by decide) rfl (Or.inl rfl) (Or.inl q2175) (Or.inl rfl)
theorem pf_X3_75 {nm9 : String} : PF RX3 nm9 75 [26] 7 (.int) := PF1 (C := RX3) (T := TX3) (N := 34) (ci := 26) rfl in_X3 tyX3_ok nmX3 (by decide) rfl (Or.inl rfl) (Or.inl q2176) (Or.inl rfl)
theorem pf_X3_78 {nm9 : String} : PF RX3 nm9 78 [26] 8 (.int) := PF1 (C := RX3) (T := TX3) (N := 34) (ci := 26) rfl in_X3 tyX3_ok nmX3 (by decide) rfl (Or.inl rfl) (Or.inl q2177) (Or.inl rfl)
theorem pf_X3_85 {nm9 : String} : PF RX3 nm9 85 [26] 5 (.int) := PF1 (C := RX3) (T := TX3) (N := 34) (ci := 26) rfl in_X3 tyX3_ok nmX3 (by decide) rfl (Or.inl rfl) (Or.inl q2174) (Or.inl rfl)
noncomputable def f_X3_thrown (G : Nat) (a0 : Rf) (w : St) : Option (Int32 × St) :=
  bo (geti [26] a0 13 w) fun x1 =>
  some (x1, w)
noncomputable def f_X3_starts_l7 (G : Nat) (k32 : St → Option (Unit × St)) : Nat → Rf → Int32 → St → Option (Unit × St)
  | 0, _, _, _ => none
  | F + 1, v0, v1, w =>
  if 412 ≤ v1 then (k32 w) else
  (bo (getr [26] v0 1 w) fun x15 =>
  bo (getr [26] v0 0 w) fun x20 =>
  bo (iald x20 v1 w) fun x24 =>
  bo (iast x15 v1 x24 w) fun w25 =>
  f_X3_starts_l7 G k32 F v0 (v1 + 1) w25)
noncomputable def f_X3_starts_b32 (G : Nat) (w : St) : Option (Unit × St) :=
  some ((()), w)
noncomputable def f_X3_starts (G : Nat) (a0 : Rf) (w : St) : Option (Unit × St) :=
  bo (puti [26] a0 13 0 w) fun w2 =>
  f_X3_starts_l7 G (fun w => f_X3_starts_b32 G  w) G a0 0 w2
noncomputable def f_X3_throwing (G : Nat) (a0 : Rf) (a1 : Int32) (w : St) : Option (Int32 × St) :=
  bo (puti [26] a0 13 a1 w) fun w2 =>
  some (((-1)), w2)
noncomputable def f_X3_refuse (G : Nat) (a0 : Rf) (a1 : Int32) (a2 : Int32) (w : St) : Option (Int32 × St) :=
  bo (puti [26] a0 6 a1 w) fun w2 =>
  bo (puti [26] a0 7 a2 w2) fun w7 =>
  bo (puti [26] a0 8 0 w7) fun w12 =>
  gd (cls a0 w12 = some 26) <|
  bd (f_X3_throwing G a0 1 w12) fun x17 w17 =>
  some (x17, w17)
noncomputable def f_X3_in (G : Nat) (a0 : Int64) (a1 : Int64) (a2 : Int64) (w : St) : Option (Int32 × St) :=
  if (lg_cmp a0 a1) < 0 then (some (0, w)) else
  (if 0 < (lg_cmp a0 a2) then (some (0, w)) else
  (some (1, w)))
noncomputable def f_X3_ofStop (G : Nat) (a0 : Int32) (a1 : Int32) (w : St) : Option (Int32 × St) :=
  some ((16 + (9 * ((6 * a0) + a1))), w)
noncomputable def f_X3_coachIt_b43 (G : Nat) (s0 : Int32) (s1 : Int32) (s2 : Rf) (w : St) : Option (Int32 × St) :=
  gd (cls s2 w = some 26) <|
  bd (f_X3_refuse G s2 s1 s0 w) fun x43 w43 =>
  some (x43, w43)
noncomputable def f_X3_coachIt_b24 (G : Nat) (v0 : Rf) (v1 : Int32) (v2 : Int32) (w : St) : Option (Int32 × St) :=
  bd (f_X3_in G v1.toInt64 0 9 w) fun x32 w32 =>
  if x32 = 0 then (f_X3_coachIt_b43 G  v1 1 v0 w32) else
  (f_X3_coachIt_b43 G  v2 1 v0 w32)
noncomputable def f_X3_coachIt_l107 (G : Nat) (k131 : Rf → Int32 → Int32 → Int32 → Int32 → St → Option (Int32 × St)) : Nat → Rf → Int32 → Int32 → Int32 → Int32 → Int32 → St → Option (Int32 × St)
  | 0, _, _, _, _, _, _, _ => none
  | F + 1, v0, v1, v2, v3, v4, v5, w =>
  if 9 ≤ v5 then (k131 v0 v1 v2 v3 v4 w) else
  (bo (getr [26] v0 0 w) fun x115 =>
  bo (iast x115 (v4 + v5) 0 w) fun w124 =>
  f_X3_coachIt_l107 G k131 F v0 v1 v2 v3 v4 (v5 + 1) w124)
noncomputable def f_X3_coachIt_b131 (G : Nat) (v0 : Rf) (v1 : Int32) (v2 : Int32) (v3 : Int32) (v4 : Int32) (w : St) : Option (Int32 × St) :=
  bo (getr [26] v0 0 w) fun x132 =>
  bo (iast x132 (v4 + 0) v1 w) fun w140 =>
  bo (getr [26] v0 0 w140) fun x142 =>
  bo (iast x142 ((v4 + 7) + 1) v2 w140) fun w153 =>
  bo (getr [26] v0 0 w153) fun x155 =>
  bo (iald x155 0 w153) fun x160 =>
  bo (iast x155 0 (x160 + 1) w153) fun w163 =>
  some (v3, w163)
noncomputable def f_X3_coachIt (G : Nat) (a0 : Rf) (a1 : Int32) (a2 : Int32) (w : St) : Option (Int32 × St) :=
  bd (f_X3_in G a1.toInt64 0 9 w) fun x6 w6 =>
  if x6 = 0 then (f_X3_coachIt_b24 G  a0 a1 a2 w6) else
  (bd (f_X3_in G a2.toInt64 0 600 w6) fun x18 w18 =>
  if x18 = 0 then (f_X3_coachIt_b24 G  a0 a1 a2 w18) else
  (bo (getr [26] a0 0 w18) fun x48 =>
  bo (iald x48 0 w18) fun x52 =>
  if x52 = 6 then (gd (cls a0 w18 = some 26) <|
  bd (f_X3_refuse G a0 2 6 w18) fun x62 w62 =>
  some (x62, w62)) else
  (bo (getr [26] a0 0 w18) fun x67 =>
  bo (iald x67 0 w18) fun x71 =>
  bo (getr [26] a0 0 w18) fun x74 =>
  bo (iast x74 (4 + (2 * x71)) 1 w18) fun w83 =>
  bo (getr [26] a0 0 w83) fun x85 =>
  bo (iast x85 ((4 + (2 * x71)) + 1) 0 w83) fun w96 =>
  bd (f_X3_ofStop G x71 0 w96) fun x99 w99 =>
  f_X3_coachIt_l107 G (fun v0 v1 v2 v3 v4 w => f_X3_coachIt_b131 G  v0 v1 v2 v3 v4 w) G a0 a1 a2 x71 x99 0 w99)))
noncomputable def f_X3_changed_l20 (G : Nat) (k49 : Rf → Int32 → St → Option (Int32 × St)) : Nat → Rf → Int32 → Int32 → St → Option (Int32 × St)
  | 0, _, _, _, _ => none
  | F + 1, v0, v1, v2, w =>
  if 2884 ≤ v2 then (k49 v0 v1 w) else
  (bo (getr [26] v0 4 w) fun x28 =>
  bo (getr [26] v0 4 w) fun x33 =>
  bo (iald x33 (v2 + 412) w) fun x41 =>
  bo (iast x28 v2 x41 w) fun w42 =>
  f_X3_changed_l20 G k49 F v0 v1 (v2 + 1) w42)
noncomputable def f_X3_changed_l61 (G : Nat) (k95 : Rf → Int32 → St → Option (Int32 × St)) : Nat → Rf → Int32 → Int32 → St → Option (Int32 × St)
  | 0, _, _, _, _ => none
  | F + 1, v0, v1, v2, w =>
  if 412 ≤ v2 then (k95 v0 v1 w) else
  (bo (getr [26] v0 4 w) fun x69 =>
  bo (geti [26] v0 5 w) fun x76 =>
  bo (getr [26] v0 1 w) fun x83 =>
  bo (iald x83 v2 w) fun x87 =>
  bo (iast x69 ((412 * x76) + v2) x87 w) fun w88 =>
  f_X3_changed_l61 G k95 F v0 v1 (v2 + 1) w88)
noncomputable def f_X3_changed_b95 (G : Nat) (v0 : Rf) (v1 : Int32) (w : St) : Option (Int32 × St) :=
  bo (geti [26] v0 5 w) fun x97 =>
  bo (puti [26] v0 5 (x97 + 1) w) fun w102 =>
  some (v1, w102)
noncomputable def f_X3_changed_b59 (G : Nat) (v0 : Rf) (v1 : Int32) (w : St) : Option (Int32 × St) :=
  f_X3_changed_l61 G (fun v0 v1 w => f_X3_changed_b95 G  v0 v1 w) G v0 v1 0 w
noncomputable def f_X3_changed_b49 (G : Nat) (v0 : Rf) (v1 : Int32) (w : St) : Option (Int32 × St) :=
  bo (geti [26] v0 5 w) fun x51 =>
  bo (puti [26] v0 5 (x51 - 1) w) fun w56 =>
  f_X3_changed_b59 G  v0 v1 w56
noncomputable def f_X3_changed (G : Nat) (a0 : Rf) (a1 : Int32) (w : St) : Option (Int32 × St) :=
  bo (geti [26] a0 13 w) fun x1 =>
  if x1 ≤ 0 then (bo (geti [26] a0 5 w) fun x10 =>
  if x10 = 8 then (f_X3_changed_l20 G (fun v0 v1 w => f_X3_changed_b49 G  v0 v1 w) G a0 a1 0 w) else
  (f_X3_changed_b59 G  a0 a1 w)) else
  (some (a1, w))
noncomputable def f_X3_coach (G : Nat) (a0 : Rf) (a1 : Int32) (a2 : Int32) (w : St) : Option (Int32 × St) :=
  gd (cls a0 w = some 26) <|
  bd (f_X3_starts G a0 w) fun _ w1 =>
  gd (cls a0 w1 = some 26) <|
  bd (f_X3_coachIt G a0 a1 a2 w1) fun x8 w8 =>
  gd (cls a0 w8 = some 26) <|
  bd (f_X3_changed G a0 x8 w8) fun x11 w11 =>
  some (x11, w11)
noncomputable def f_X3_planned (G : Nat) (a0 : Rf) (a1 : Int32) (a2 : Int32) (a3 : Int32) (w : St) : Option (Int32 × St) :=
  bo (getr [26] a0 0 w) fun x1 =>
  bd (f_X3_ofStop G a1 a2 w) fun x6 w6 =>
  bo (iald x1 ((x6 + 7) + a3) w6) fun x14 =>
  some (x14, w6)
noncomputable def f_X3_into (G : Nat) (a0 : Rf) (a1 : Int32) (w : St) : Option (Int32 × St) :=
  bo (getr [26] a0 0 w) fun x1 =>
  bo (iald x1 ((4 + (2 * a1)) + 1) w) fun x11 =>
  some ((x11 - 1), w)
noncomputable def f_X3_stops (G : Nat) (a0 : Rf) (a1 : Int32) (w : St) : Option (Int32 × St) :=
  bo (getr [26] a0 0 w) fun x1 =>
  bo (iald x1 (4 + (2 * a1)) w) fun x9 =>
  some (x9, w)
noncomputable def f_X3_isCoach (G : Nat) (a0 : Rf) (a1 : Int32) (w : St) : Option (Int32 × St) :=
  bo (getr [26] a0 0 w) fun x4 =>
  bo (iald x4 0 w) fun x8 =>
  bd (f_X3_in G a1.toInt64 0 ((x8 - 1).toInt64) w) fun x12 w12 =>
  gd (x12 = 0 ∨ x12 = 1) (some (x12, w12))
noncomputable def f_X3_legIt_b81 (G : Nat) (k17 : Rf → Int32 → Int32 → St → Option (Int32 × St)) (v0 : Rf) (v1 : Int32) (v2 : Int32) (w : St) : Option (Int32 × St) :=
  k17 v0 v1 (v2 + 1) w
noncomputable def f_X3_legIt_l17 (G : Nat) (k69 : Rf → Int32 → St → Option (Int32 × St)) (k87 : Rf → Int32 → St → Option (Int32 × St)) : Nat → Rf → Int32 → Int32 → St → Option (Int32 × St)
  | 0, _, _, _, _ => none
  | F + 1, v0, v1, v2, w =>
  if 5 ≤ v2 then (k87 v0 v1 w) else
  (bo (getr [26] v0 14 w) fun x23 =>
  bo (iald x23 v2 w) fun x27 =>
  bo (getr [26] v0 15 w) fun x30 =>
  bo (iald x30 v2 w) fun x34 =>
  bo (getr [26] v0 16 w) fun x37 =>
  bo (iald x37 v2 w) fun x41 =>
  bd (f_X3_in G x27.toInt64 x34.toInt64 x41.toInt64 w) fun x43 w43 =>
  if x43 = 0 then (k69 v0 v2 w43) else
  (if v2 = 4 then (bo (getr [26] v0 14 w43) fun x55 =>
  bo (iald x55 v2 w43) fun x59 =>
  bo (getr [26] v0 14 w43) fun x61 =>
  bo (iald x61 3 w43) fun x65 =>
  if x59 ≤ x65 then (f_X3_legIt_b81 G (fun v0 v1 v2 w => f_X3_legIt_l17 G k69 k87 F v0 v1 v2 w)  v0 v1 v2 w43) else
  (k69 v0 v2 w43)) else
  (f_X3_legIt_b81 G (fun v0 v1 v2 w => f_X3_legIt_l17 G k69 k87 F v0 v1 v2 w)  v0 v1 v2 w43)))
noncomputable def f_X3_legIt_b69 (G : Nat) (v0 : Rf) (v2 : Int32) (w : St) : Option (Int32 × St) :=
  bo (getr [26] v0 14 w) fun x72 =>
  bo (iald x72 v2 w) fun x76 =>
  gd (cls v0 w = some 26) <|
  bd (f_X3_refuse G v0 1 x76 w) fun x77 w77 =>
  some (x77, w77)
noncomputable def f_X3_legIt_l137 (G : Nat) (k165 : Rf → Int32 → Int32 → Int32 → St → Option (Int32 × St)) : Nat → Rf → Int32 → Int32 → Int32 → Int32 → St → Option (Int32 × St)
  | 0, _, _, _, _, _, _ => none
  | F + 1, v0, v1, v2, v3, v4, w =>
  if 5 ≤ v4 then (k165 v0 v1 v2 v3 w) else
  (bo (getr [26] v0 0 w) fun x144 =>
  bo (getr [26] v0 14 w) fun x152 =>
  bo (iald x152 v4 w) fun x157 =>
  bo (iast x144 (v3 + v4) x157 w) fun w158 =>
  f_X3_legIt_l137 G k165 F v0 v1 v2 v3 (v4 + 1) w158)
noncomputable def f_X3_legIt_b165 (G : Nat) (v0 : Rf) (v1 : Int32) (v2 : Int32) (v3 : Int32) (w : St) : Option (Int32 × St) :=
  bo (getr [26] v0 0 w) fun x166 =>
  bo (iast x166 (v3 + 5) 0 w) fun w173 =>
  bo (getr [26] v0 0 w173) fun x175 =>
  bo (iast x175 ((v3 + 5) + 1) 0 w173) fun w184 =>
  bo (getr [26] v0 0 w184) fun x186 =>
  gd (cls v0 w184 = some 26) <|
  bd (f_X3_planned G v0 v1 (v2 - 1) 1 w184) fun x199 w199 =>
  bo (getr [26] v0 14 w199) fun x203 =>
  bo (iald x203 1 w199) fun x207 =>
  bo (getr [26] v0 14 w199) fun x210 =>
  bo (iald x210 2 w199) fun x214 =>
  bo (iast x186 (v3 + 7) ((x199 + x207) + x214) w199) fun w216 =>
  bo (getr [26] v0 0 w216) fun x218 =>
  bo (getr [26] v0 0 w216) fun x228 =>
  bo (iald x228 (v3 + 7) w216) fun x235 =>
  bo (getr [26] v0 14 w216) fun x237 =>
  bo (iald x237 3 w216) fun x241 =>
  bo (iast x218 ((v3 + 7) + 1) (x235 + x241) w216) fun w243 =>
  bo (getr [26] v0 0 w243) fun x245 =>
  bo (iald x245 (4 + (2 * v1)) w243) fun x254 =>
  bo (iast x245 (4 + (2 * v1)) (x254 + 1) w243) fun w257 =>
  bo (getr [26] v0 0 w257) fun x259 =>
  bo (iald x259 (v3 + 7) w257) fun x266 =>
  some (x266, w257)
noncomputable def f_X3_legIt_b87 (G : Nat) (v0 : Rf) (v1 : Int32) (w : St) : Option (Int32 × St) :=
  gd (cls v0 w = some 26) <|
  bd (f_X3_into G v0 v1 w) fun x89 w89 =>
  if x89 = ((-1)) then (gd (cls v0 w89 = some 26) <|
  bd (f_X3_stops G v0 v1 w89) fun x106 w106 =>
  if x106 = 6 then (gd (cls v0 w106 = some 26) <|
  bd (f_X3_refuse G v0 2 6 w106) fun x118 w118 =>
  some (x118, w118)) else
  (gd (cls v0 w106 = some 26) <|
  bd (f_X3_stops G v0 v1 w106) fun x124 w124 =>
  bd (f_X3_ofStop G v1 x124 w124) fun x130 w130 =>
  f_X3_legIt_l137 G (fun v0 v1 v2 v3 w => f_X3_legIt_b165 G  v0 v1 v2 v3 w) G v0 v1 x124 x130 0 w130)) else
  (gd (cls v0 w89 = some 26) <|
  bd (f_X3_refuse G v0 9 v1 w89) fun x100 w100 =>
  some (x100, w100))
noncomputable def f_X3_legIt (G : Nat) (a0 : Rf) (a1 : Int32) (w : St) : Option (Int32 × St) :=
  gd (cls a0 w = some 26) <|
  bd (f_X3_isCoach G a0 a1 w) fun x2 w2 =>
  if x2 = 0 then (gd (cls a0 w2 = some 26) <|
  bd (f_X3_refuse G a0 3 a1 w2) fun x11 w11 =>
  some (x11, w11)) else
  (f_X3_legIt_l17 G (fun v0 v2 w => f_X3_legIt_b69 G  v0 v2 w) (fun v0 v1 w => f_X3_legIt_b87 G  v0 v1 w) G a0 a1 0 w2)
noncomputable def f_X3_leg (G : Nat) (a0 : Rf) (a1 : Int32) (a2 : Int32) (a3 : Int32) (a4 : Int32) (a5 : Int32) (a6 : Int32) (w : St) : Option (Int32 × St) :=
  gd (cls a0 w = some 26) <|
  bd (f_X3_starts G a0 w) fun _ w1 =>
  bo (getr [26] a0 14 w1) fun x5 =>
  bo (iast x5 0 a2 w1) fun w10 =>
  bo (getr [26] a0 14 w10) fun x12 =>
  bo (iast x12 1 a3 w10) fun w17 =>
  bo (getr [26] a0 14 w17) fun x19 =>
  bo (iast x19 2 a4 w17) fun w25 =>
  bo (getr [26] a0 14 w25) fun x27 =>
  bo (iast x27 3 a5 w25) fun w33 =>
  bo (getr [26] a0 14 w33) fun x35 =>
  bo (iast x35 4 a6 w33) fun w41 =>
  gd (cls a0 w41 = some 26) <|
  bd (f_X3_legIt G a0 a1 w41) fun x45 w45 =>
  gd (cls a0 w45 = some 26) <|
  bd (f_X3_changed G a0 x45 w45) fun x48 w48 =>
  some (x48, w48)
noncomputable def f_X3_turnsInto_l2 (G : Nat) (k21 : Int32 → St → Option (Int32 × St)) (k29 : St → Option (Int32 × St)) : Nat → Rf → Int32 → Int32 → St → Option (Int32 × St)
  | 0, _, _, _, _ => none
  | F + 1, v0, v1, v2, w =>
  bo (getr [26] v0 0 w) fun x4 =>
  bo (iald x4 0 w) fun x8 =>
  if x8 ≤ v2 then (k29 w) else
  (gd (cls v0 w = some 26) <|
  bd (f_X3_into G v0 v2 w) fun x14 w14 =>
  if x14 = v1 then (k21 v2 w14) else
  (f_X3_turnsInto_l2 G k21 k29 F v0 v1 (v2 + 1) w14))
noncomputable def f_X3_turnsInto_b21 (G : Nat) (v2 : Int32) (w : St) : Option (Int32 × St) :=
  some (v2, w)
noncomputable def f_X3_turnsInto_b29 (G : Nat) (w : St) : Option (Int32 × St) :=
  some (((-1)), w)
noncomputable def f_X3_turnsInto (G : Nat) (a0 : Rf) (a1 : Int32) (w : St) : Option (Int32 × St) :=
  f_X3_turnsInto_l2 G (fun v2 w => f_X3_turnsInto_b21 G  v2 w) (fun w => f_X3_turnsInto_b29 G  w) G a0 a1 0 w
noncomputable def f_X3_turnIt_b31 (G : Nat) (s0 : Int32) (s1 : Int32) (s2 : Rf) (w : St) : Option (Int32 × St) :=
  gd (cls s2 w = some 26) <|
  bd (f_X3_refuse G s2 s1 s0 w) fun x31 w31 =>
  some (x31, w31)
noncomputable def f_X3_turnIt_b16 (G : Nat) (v0 : Rf) (v1 : Int32) (v2 : Int32) (w : St) : Option (Int32 × St) :=
  gd (cls v0 w = some 26) <|
  bd (f_X3_isCoach G v0 v1 w) fun x20 w20 =>
  if x20 = 0 then (f_X3_turnIt_b31 G  v1 3 v0 w20) else
  (f_X3_turnIt_b31 G  v2 3 v0 w20)
noncomputable def f_X3_turnIt_b69 (G : Nat) (v0 : Rf) (w : St) : Option (Int32 × St) :=
  gd (cls v0 w = some 26) <|
  bd (f_X3_refuse G v0 4 0 w) fun x72 w72 =>
  some (x72, w72)
noncomputable def f_X3_turnIt_b111 (G : Nat) (s0 : Int32) (s1 : Int32) (s2 : Rf) (w : St) : Option (Int32 × St) :=
  gd (cls s2 w = some 26) <|
  bd (f_X3_refuse G s2 s1 s0 w) fun x111 w111 =>
  some (x111, w111)
noncomputable def f_X3_turnIt_b94 (G : Nat) (v0 : Rf) (v1 : Int32) (v2 : Int32) (w : St) : Option (Int32 × St) :=
  gd (cls v0 w = some 26) <|
  bd (f_X3_into G v0 v1 w) fun x99 w99 =>
  if x99 = ((-1)) then (f_X3_turnIt_b111 G  v2 9 v0 w99) else
  (f_X3_turnIt_b111 G  v1 9 v0 w99)
noncomputable def f_X3_turnIt (G : Nat) (a0 : Rf) (a1 : Int32) (a2 : Int32) (w : St) : Option (Int32 × St) :=
  gd (cls a0 w = some 26) <|
  bd (f_X3_isCoach G a0 a1 w) fun x2 w2 =>
  if x2 = 0 then (f_X3_turnIt_b16 G  a0 a1 a2 w2) else
  (gd (cls a0 w2 = some 26) <|
  bd (f_X3_isCoach G a0 a2 w2) fun x10 w10 =>
  if x10 = 0 then (f_X3_turnIt_b16 G  a0 a1 a2 w10) else
  (if a1 = a2 then (gd (cls a0 w10 = some 26) <|
  bd (f_X3_refuse G a0 6 a1 w10) fun x44 w44 =>
  some (x44, w44)) else
  (gd (cls a0 w10 = some 26) <|
  bd (f_X3_stops G a0 a1 w10) fun x50 w50 =>
  if (x50 - 1) = 0 then (f_X3_turnIt_b69 G  a0 w50) else
  (gd (cls a0 w50 = some 26) <|
  bd (f_X3_stops G a0 a2 w50) fun x62 w62 =>
  if x62 = 1 then (f_X3_turnIt_b69 G  a0 w62) else
  (gd (cls a0 w62 = some 26) <|
  bd (f_X3_into G a0 a1 w62) fun x78 w78 =>
  if x78 = ((-1)) then (gd (cls a0 w78 = some 26) <|
  bd (f_X3_turnsInto G a0 a2 w78) fun x87 w87 =>
  if x87 = ((-1)) then (bo (getr [26] a0 0 w87) fun x116 =>
  bd (f_X3_ofStop G a2 0 w87) fun x121 w121 =>
  bo (iald x116 (x121 + 0) w121) fun x126 =>
  bo (getr [26] a0 0 w121) fun x130 =>
  bd (f_X3_ofStop G a1 (x50 - 1) w121) fun x135 w135 =>
  bo (iald x130 (x135 + 0) w135) fun x140 =>
  if x140 = x126 then (gd (cls a0 w135 = some 26) <|
  bd (f_X3_planned G a0 a2 0 1 w135) fun x159 w159 =>
  gd (cls a0 w159 = some 26) <|
  bd (f_X3_planned G a0 a1 (x50 - 1) 0 w159) fun x166 w166 =>
  if 0 ≤ ((x159 - x166) - 10) then (bo (getr [26] a0 0 w166) fun x191 =>
  bo (iast x191 ((4 + (2 * a1)) + 1) (a2 + 1) w166) fun w204 =>
  some (((x159 - x166) - 10), w204)) else
  (gd (cls a0 w166 = some 26) <|
  bd (f_X3_refuse G a0 8 (-((x159 - x166) - 10)) w166) fun x186 w186 =>
  some (x186, w186))) else
  (gd (cls a0 w135 = some 26) <|
  bd (f_X3_refuse G a0 7 x126 w135) fun x151 w151 =>
  some (x151, w151))) else
  (f_X3_turnIt_b94 G  a0 a1 a2 w87)) else
  (f_X3_turnIt_b94 G  a0 a1 a2 w78))))))
noncomputable def f_X3_turn (G : Nat) (a0 : Rf) (a1 : Int32) (a2 : Int32) (w : St) : Option (Int32 × St) :=
  gd (cls a0 w = some 26) <|
  bd (f_X3_starts G a0 w) fun _ w1 =>
  gd (cls a0 w1 = some 26) <|
  bd (f_X3_turnIt G a0 a1 a2 w1) fun x8 w8 =>
  gd (cls a0 w8 = some 26) <|
  bd (f_X3_changed G a0 x8 w8) fun x11 w11 =>
  some (x11, w11)
noncomputable def f_X3_isEvent (G : Nat) (a0 : Rf) (a1 : Int32) (a2 : Int32) (a3 : Int32) (w : St) : Option (Int32 × St) :=
  if a3 = 0 then (gd (cls a0 w = some 26) <|
  bd (f_X3_stops G a0 a1 w) fun x9 w9 =>
  bd (f_X3_in G a2.toInt64 1 ((x9 - 1).toInt64) w9) fun x15 w15 =>
  gd (x15 = 0 ∨ x15 = 1) (some (x15, w15))) else
  (gd (cls a0 w = some 26) <|
  bd (f_X3_stops G a0 a1 w) fun x26 w26 =>
  bd (f_X3_in G a2.toInt64 0 ((x26 - 2).toInt64) w26) fun x32 w32 =>
  gd (x32 = 0 ∨ x32 = 1) (some (x32, w32)))
noncomputable def f_X3_ofLink (G : Nat) (a0 : Int32) (w : St) : Option (Int32 × St) :=
  some ((340 + (6 * a0)), w)
noncomputable def f_X3_linkIt_b45 (G : Nat) (s0 : Int32) (s1 : Int32) (s2 : Rf) (w : St) : Option (Int32 × St) :=
  gd (cls s2 w = some 26) <|
  bd (f_X3_refuse G s2 s1 s0 w) fun x45 w45 =>
  some (x45, w45)
noncomputable def f_X3_linkIt_b30 (G : Nat) (v0 : Rf) (v1 : Int32) (v2 : Int32) (w : St) : Option (Int32 × St) :=
  gd (cls v0 w = some 26) <|
  bd (f_X3_isCoach G v0 v1 w) fun x34 w34 =>
  if x34 = 0 then (f_X3_linkIt_b45 G  v1 3 v0 w34) else
  (f_X3_linkIt_b45 G  v2 3 v0 w34)
noncomputable def f_X3_linkIt_b124 (G : Nat) (s0 : Int32) (s1 : Int32) (s2 : Rf) (w : St) : Option (Int32 × St) :=
  gd (cls s2 w = some 26) <|
  bd (f_X3_refuse G s2 s1 s0 w) fun x124 w124 =>
  some (x124, w124)
noncomputable def f_X3_linkIt_b92 (G : Nat) (v0 : Rf) (v1 : Int32) (w : St) : Option (Int32 × St) :=
  bo (getr [26] v0 17 w) fun x97 =>
  bo (iald x97 1 w) fun x101 =>
  gd (cls v0 w = some 26) <|
  bd (f_X3_isEvent G v0 v1 x101 0 w) fun x103 w103 =>
  if x103 = 0 then (bo (getr [26] v0 17 w103) fun x119 =>
  bo (iald x119 1 w103) fun x123 =>
  f_X3_linkIt_b124 G  x123 4 v0 w103) else
  (bo (getr [26] v0 17 w103) fun x110 =>
  bo (iald x110 3 w103) fun x114 =>
  f_X3_linkIt_b124 G  x114 4 v0 w103)
noncomputable def f_X3_linkIt_b196 (G : Nat) (s0 : Int32) (s1 : Int32) (s2 : Rf) (w : St) : Option (Int32 × St) :=
  gd (cls s2 w = some 26) <|
  bd (f_X3_refuse G s2 s1 s0 w) fun x196 w196 =>
  some (x196, w196)
noncomputable def f_X3_linkIt_b162 (G : Nat) (v0 : Rf) (w : St) : Option (Int32 × St) :=
  bo (getr [26] v0 17 w) fun x165 =>
  bo (iald x165 4 w) fun x169 =>
  bd (f_X3_in G x169.toInt64 1 60 w) fun x175 w175 =>
  if x175 = 0 then (bo (getr [26] v0 17 w175) fun x191 =>
  bo (iald x191 4 w175) fun x195 =>
  f_X3_linkIt_b196 G  x195 1 v0 w175) else
  (bo (getr [26] v0 17 w175) fun x182 =>
  bo (iald x182 5 w175) fun x186 =>
  f_X3_linkIt_b196 G  x186 1 v0 w175)
noncomputable def f_X3_linkIt_l318 (G : Nat) (k355 : Rf → St → Option (Int32 × St)) : Nat → Rf → Int32 → St → Option (Int32 × St)
  | 0, _, _, _ => none
  | F + 1, v0, v5, w =>
  if 6 ≤ v5 then (k355 v0 w) else
  (bo (getr [26] v0 0 w) fun x326 =>
  bo (getr [26] v0 0 w) fun x330 =>
  bo (iald x330 1 w) fun x334 =>
  bd (f_X3_ofLink G x334 w) fun x335 w335 =>
  bo (getr [26] v0 17 w335) fun x342 =>
  bo (iald x342 v5 w335) fun x347 =>
  bo (iast x326 (x335 + v5) x347 w335) fun w348 =>
  f_X3_linkIt_l318 G k355 F v0 (v5 + 1) w348)
noncomputable def f_X3_linkIt_b355 (G : Nat) (v0 : Rf) (w : St) : Option (Int32 × St) :=
  bo (getr [26] v0 0 w) fun x356 =>
  bo (iald x356 1 w) fun x361 =>
  bo (iast x356 1 (x361 + 1) w) fun w364 =>
  bo (getr [26] v0 0 w364) fun x366 =>
  bo (iald x366 2 w364) fun x371 =>
  bo (iast x366 2 (x371 + 1) w364) fun w374 =>
  bo (getr [26] v0 0 w374) fun x376 =>
  bo (iald x376 1 w374) fun x380 =>
  some ((x380 - 1), w374)
noncomputable def f_X3_linkIt (G : Nat) (a0 : Rf) (w : St) : Option (Int32 × St) :=
  bo (getr [26] a0 17 w) fun x1 =>
  bo (iald x1 0 w) fun x5 =>
  bo (getr [26] a0 17 w) fun x8 =>
  bo (iald x8 2 w) fun x12 =>
  gd (cls a0 w = some 26) <|
  bd (f_X3_isCoach G a0 x5 w) fun x16 w16 =>
  if x16 = 0 then (f_X3_linkIt_b30 G  a0 x5 x12 w16) else
  (gd (cls a0 w16 = some 26) <|
  bd (f_X3_isCoach G a0 x12 w16) fun x24 w24 =>
  if x24 = 0 then (f_X3_linkIt_b30 G  a0 x5 x12 w24) else
  (if x5 = x12 then (gd (cls a0 w24 = some 26) <|
  bd (f_X3_refuse G a0 6 x5 w24) fun x58 w58 =>
  some (x58, w58)) else
  (bo (getr [26] a0 17 w24) fun x65 =>
  bo (iald x65 1 w24) fun x69 =>
  gd (cls a0 w24 = some 26) <|
  bd (f_X3_isEvent G a0 x5 x69 0 w24) fun x71 w71 =>
  if x71 = 0 then (f_X3_linkIt_b92 G  a0 x5 w71) else
  (bo (getr [26] a0 17 w71) fun x80 =>
  bo (iald x80 3 w71) fun x84 =>
  gd (cls a0 w71 = some 26) <|
  bd (f_X3_isEvent G a0 x12 x84 1 w71) fun x86 w86 =>
  if x86 = 0 then (f_X3_linkIt_b92 G  a0 x5 w86) else
  (bo (getr [26] a0 17 w86) fun x129 =>
  bo (iald x129 4 w86) fun x133 =>
  bd (f_X3_in G x133.toInt64 1 60 w86) fun x139 w139 =>
  if x139 = 0 then (f_X3_linkIt_b162 G  a0 w139) else
  (bo (getr [26] a0 17 w139) fun x146 =>
  bo (iald x146 5 w139) fun x150 =>
  bd (f_X3_in G x150.toInt64 0 60 w139) fun x156 w156 =>
  if x156 = 0 then (f_X3_linkIt_b162 G  a0 w156) else
  (bo (getr [26] a0 0 w156) fun x201 =>
  bo (getr [26] a0 17 w156) fun x206 =>
  bo (iald x206 3 w156) fun x210 =>
  bd (f_X3_ofStop G x12 x210 w156) fun x211 w211 =>
  bo (iald x201 (x211 + 0) w211) fun x216 =>
  bo (getr [26] a0 0 w211) fun x219 =>
  bo (getr [26] a0 17 w211) fun x224 =>
  bo (iald x224 1 w211) fun x228 =>
  bd (f_X3_ofStop G x5 x228 w211) fun x229 w229 =>
  bo (iald x219 (x229 + 0) w229) fun x234 =>
  if x234 = x216 then (bo (getr [26] a0 17 w229) fun x250 =>
  bo (iald x250 3 w229) fun x254 =>
  gd (cls a0 w229 = some 26) <|
  bd (f_X3_planned G a0 x12 x254 1 w229) fun x256 w256 =>
  bo (getr [26] a0 17 w256) fun x262 =>
  bo (iald x262 1 w256) fun x266 =>
  gd (cls a0 w256 = some 26) <|
  bd (f_X3_planned G a0 x5 x266 0 w256) fun x268 w268 =>
  bo (getr [26] a0 17 w268) fun x273 =>
  bo (iald x273 4 w268) fun x277 =>
  if 0 ≤ ((x256 - x268) - x277) then (bo (getr [26] a0 0 w268) fun x297 =>
  bo (iald x297 1 w268) fun x301 =>
  if x301 = 12 then (gd (cls a0 w268 = some 26) <|
  bd (f_X3_refuse G a0 2 12 w268) fun x311 w311 =>
  some (x311, w311)) else
  (f_X3_linkIt_l318 G (fun v0 w => f_X3_linkIt_b355 G  v0 w) G a0 0 w268)) else
  (gd (cls a0 w268 = some 26) <|
  bd (f_X3_refuse G a0 8 (-((x256 - x268) - x277)) w268) fun x292 w292 =>
  some (x292, w292))) else
  (gd (cls a0 w229 = some 26) <|
  bd (f_X3_refuse G a0 7 x216 w229) fun x243 w243 =>
  some (x243, w243)))))))))
noncomputable def f_X3_link (G : Nat) (a0 : Rf) (a1 : Int32) (a2 : Int32) (a3 : Int32) (a4 : Int32) (a5 : Int32) (a6 : Int32) (w : St) : Option (Int32 × St) :=
  gd (cls a0 w = some 26) <|
  bd (f_X3_starts G a0 w) fun _ w1 =>
  bo (getr [26] a0 17 w1) fun x5 =>
  bo (iast x5 0 a1 w1) fun w10 =>
  bo (getr [26] a0 17 w10) fun x12 =>
  bo (iast x12 1 a2 w10) fun w17 =>
  bo (getr [26] a0 17 w17) fun x19 =>
  bo (iast x19 2 a3 w17) fun w24 =>
  bo (getr [26] a0 17 w24) fun x26 =>
  bo (iast x26 3 a4 w24) fun w32 =>
  bo (getr [26] a0 17 w32) fun x34 =>
  bo (iast x34 4 a5 w32) fun w40 =>
  bo (getr [26] a0 17 w40) fun x42 =>
  bo (iast x42 5 a6 w40) fun w48 =>
  gd (cls a0 w48 = some 26) <|
  bd (f_X3_linkIt G a0 w48) fun x51 w51 =>
  gd (cls a0 w51 = some 26) <|
  bd (f_X3_changed G a0 x51 w51) fun x54 w54 =>
  some (x54, w54)
noncomputable def f_X3_isLink (G : Nat) (a0 : Rf) (a1 : Int32) (w : St) : Option (Int32 × St) :=
  bo (getr [26] a0 0 w) fun x4 =>
  bo (iald x4 1 w) fun x8 =>
  bd (f_X3_in G a1.toInt64 0 ((x8 - 1).toInt64) w) fun x12 w12 =>
  gd (x12 = 0 ∨ x12 = 1) (some (x12, w12))
noncomputable def f_X3_cutIt_l20 (G : Nat) (k48 : Rf → St → Option (Int32 × St)) : Nat → Rf → Int32 → St → Option (Int32 × St)
  | 0, _, _, _ => none
  | F + 1, v0, v2, w =>
  if 406 ≤ v2 then (k48 v0 w) else
  (bo (getr [26] v0 0 w) fun x28 =>
  bo (getr [26] v0 0 w) fun x33 =>
  bo (iald x33 (v2 + 6) w) fun x40 =>
  bo (iast x28 v2 x40 w) fun w41 =>
  f_X3_cutIt_l20 G k48 F v0 (v2 + 1) w41)
noncomputable def f_X3_cutIt_l52 (G : Nat) (k72 : Rf → St → Option (Int32 × St)) : Nat → Rf → Int32 → St → Option (Int32 × St)
  | 0, _, _, _ => none
  | F + 1, v0, v2, w =>
  if 412 ≤ v2 then (k72 v0 w) else
  (bo (getr [26] v0 0 w) fun x60 =>
  bo (iast x60 v2 0 w) fun w65 =>
  f_X3_cutIt_l52 G k72 F v0 (v2 + 1) w65)
noncomputable def f_X3_cutIt_b72 (G : Nat) (v0 : Rf) (w : St) : Option (Int32 × St) :=
  bo (getr [26] v0 0 w) fun x73 =>
  bo (iald x73 1 w) fun x78 =>
  bo (iast x73 1 (x78 - 1) w) fun w81 =>
  bo (getr [26] v0 0 w81) fun x83 =>
  bo (iald x83 3 w81) fun x88 =>
  bo (iast x83 3 (x88 + 1) w81) fun w91 =>
  bo (getr [26] v0 0 w91) fun x93 =>
  bo (iald x93 1 w91) fun x97 =>
  some (x97, w91)
noncomputable def f_X3_cutIt_b48 (G : Nat) (v0 : Rf) (w : St) : Option (Int32 × St) :=
  f_X3_cutIt_l52 G (fun v0 w => f_X3_cutIt_b72 G  v0 w) G v0 406 w
noncomputable def f_X3_cutIt (G : Nat) (a0 : Rf) (a1 : Int32) (w : St) : Option (Int32 × St) :=
  gd (cls a0 w = some 26) <|
  bd (f_X3_isLink G a0 a1 w) fun x2 w2 =>
  if x2 = 0 then (gd (cls a0 w2 = some 26) <|
  bd (f_X3_refuse G a0 5 a1 w2) fun x11 w11 =>
  some (x11, w11)) else
  (bd (f_X3_ofLink G a1 w2) fun x16 w16 =>
  f_X3_cutIt_l20 G (fun v0 w => f_X3_cutIt_b48 G  v0 w) G a0 x16 w16)
noncomputable def f_X3_cut (G : Nat) (a0 : Rf) (a1 : Int32) (w : St) : Option (Int32 × St) :=
  gd (cls a0 w = some 26) <|
  bd (f_X3_starts G a0 w) fun _ w1 =>
  gd (cls a0 w1 = some 26) <|
  bd (f_X3_cutIt G a0 a1 w1) fun x7 w7 =>
  gd (cls a0 w7 = some 26) <|
  bd (f_X3_changed G a0 x7 w7) fun x10 w10 =>
  some (x10, w10)
noncomputable def f_X3_limitIt (G : Nat) (a0 : Rf) (a1 : Int32) (a2 : Int32) (w : St) : Option (Int32 × St) :=
  gd (cls a0 w = some 26) <|
  bd (f_X3_isLink G a0 a1 w) fun x2 w2 =>
  if x2 = 0 then (gd (cls a0 w2 = some 26) <|
  bd (f_X3_refuse G a0 5 a1 w2) fun x11 w11 =>
  some (x11, w11)) else
  (bd (f_X3_in G a2.toInt64 0 60 w2) fun x21 w21 =>
  if x21 = 0 then (gd (cls a0 w21 = some 26) <|
  bd (f_X3_refuse G a0 1 a2 w21) fun x30 w30 =>
  some (x30, w30)) else
  (bo (getr [26] a0 0 w21) fun x35 =>
  bd (f_X3_ofLink G a1 w21) fun x39 w39 =>
  bo (iald x35 (x39 + 5) w39) fun x44 =>
  if x44 = a2 then (gd (cls a0 w39 = some 26) <|
  bd (f_X3_refuse G a0 10 a2 w39) fun x55 w55 =>
  some (x55, w55)) else
  (bo (getr [26] a0 0 w39) fun x60 =>
  bd (f_X3_ofLink G a1 w39) fun x64 w64 =>
  bo (iast x60 (x64 + 5) a2 w64) fun w70 =>
  some (x44, w70))))
noncomputable def f_X3_limit (G : Nat) (a0 : Rf) (a1 : Int32) (a2 : Int32) (w : St) : Option (Int32 × St) :=
  gd (cls a0 w = some 26) <|
  bd (f_X3_starts G a0 w) fun _ w1 =>
  gd (cls a0 w1 = some 26) <|
  bd (f_X3_limitIt G a0 a1 a2 w1) fun x8 w8 =>
  gd (cls a0 w8 = some 26) <|
  bd (f_X3_changed G a0 x8 w8) fun x11 w11 =>
  some (x11, w11)
noncomputable def f_X3_ofEvent (G : Nat) (a0 : Int32) (a1 : Int32) (a2 : Int32) (w : St) : Option (Int32 × St) :=
  some (((2 * ((6 * a0) + a1)) + a2), w)
noncomputable def f_X3_own (G : Nat) (a0 : Rf) (a1 : Int32) (a2 : Int32) (a3 : Int32) (w : St) : Option (Int32 × St) :=
  bo (getr [26] a0 0 w) fun x1 =>
  bd (f_X3_ofStop G a1 a2 w) fun x6 w6 =>
  bo (iald x1 ((x6 + 5) + a3) w6) fun x13 =>
  some (x13, w6)
noncomputable def f_X3_ownOf (G : Nat) (a0 : Rf) (a1 : Int32) (a2 : Int32) (a3 : Int32) (w : St) : Option (Int32 × St) :=
  bo (geti [26] a0 21 w) fun x2 =>
  if a1 = x2 then (some (0, w)) else
  (gd (cls a0 w = some 26) <|
  bd (f_X3_own G a0 a1 a2 a3 w) fun x16 w16 =>
  some (x16, w16))
noncomputable def f_X3_isTo (G : Nat) (a0 : Rf) (a1 : Int32) (a2 : Int32) (a3 : Int32) (w : St) : Option (Int32 × St) :=
  bo (getr [26] a0 0 w) fun x1 =>
  bd (f_X3_ofLink G a1 w) fun x5 w5 =>
  bo (iald x1 (x5 + 2) w5) fun x10 =>
  if x10 = a2 then (bo (getr [26] a0 0 w5) fun x16 =>
  bd (f_X3_ofLink G a1 w5) fun x20 w20 =>
  bo (iald x16 (x20 + 3) w20) fun x25 =>
  if x25 = a3 then (some (1, w20)) else
  (some (0, w20))) else
  (some (0, w5))
noncomputable def f_X3_minuteOf (G : Nat) (a0 : Rf) (a1 : Int32) (a2 : Int32) (a3 : Int32) (w : St) : Option (Int32 × St) :=
  bo (getr [26] a0 18 w) fun x1 =>
  bd (f_X3_ofEvent G a1 a2 a3 w) fun x7 w7 =>
  bo (iald x1 x7 w7) fun x10 =>
  some (x10, w7)
noncomputable def f_X3_byLink (G : Nat) (a0 : Rf) (a1 : Int32) (w : St) : Option (Int32 × St) :=
  bo (getr [26] a0 0 w) fun x2 =>
  bd (f_X3_ofLink G a1 w) fun x6 w6 =>
  bo (iald x2 x6 w6) fun x9 =>
  bo (getr [26] a0 0 w6) fun x11 =>
  bd (f_X3_ofLink G a1 w6) fun x15 w15 =>
  bo (iald x11 (x15 + 1) w15) fun x20 =>
  gd (cls a0 w15 = some 26) <|
  bd (f_X3_minuteOf G a0 x9 x20 0 w15) fun x22 w22 =>
  bo (getr [26] a0 0 w22) fun x26 =>
  bd (f_X3_ofLink G a1 w22) fun x30 w30 =>
  bo (iald x26 (x30 + 4) w30) fun x35 =>
  some ((x22 + x35), w30)
noncomputable def f_X3_byStay (G : Nat) (a0 : Rf) (a1 : Int32) (a2 : Int32) (w : St) : Option (Int32 × St) :=
  if a2 = 0 then (some (((-1)), w)) else
  (gd (cls a0 w = some 26) <|
  bd (f_X3_minuteOf G a0 a1 a2 0 w) fun x12 w12 =>
  bo (getr [26] a0 0 w12) fun x16 =>
  bd (f_X3_ofStop G a1 a2 w12) fun x21 w21 =>
  bo (iald x16 (x21 + 4) w21) fun x26 =>
  some ((x12 + x26), w21))
noncomputable def f_X3_byTurn_b13 (G : Nat) (v0 : Rf) (s0 : Int32) (w : St) : Option (Int32 × St) :=
  if s0 = ((-1)) then (some (((-1)), w)) else
  (gd (cls v0 w = some 26) <|
  bd (f_X3_stops G v0 s0 w) fun x27 w27 =>
  gd (cls v0 w27 = some 26) <|
  bd (f_X3_minuteOf G v0 s0 (x27 - 1) 0 w27) fun x33 w33 =>
  some ((x33 + 10), w33))
noncomputable def f_X3_byTurn (G : Nat) (a0 : Rf) (a1 : Int32) (a2 : Int32) (w : St) : Option (Int32 × St) :=
  if a2 = 0 then (gd (cls a0 w = some 26) <|
  bd (f_X3_turnsInto G a0 a1 w) fun x6 w6 =>
  f_X3_byTurn_b13 G  a0 x6 w6) else
  (f_X3_byTurn_b13 G  a0 ((-1)) w)
noncomputable def f_X3_due (G : Nat) (a0 : Rf) (a1 : Int32) (a2 : Int32) (w : St) : Option (Int32 × St) :=
  gd (cls a0 w = some 26) <|
  bd (f_X3_planned G a0 a1 a2 1 w) fun x4 w4 =>
  gd (cls a0 w4 = some 26) <|
  bd (f_X3_byStay G a0 a1 a2 w4) fun x10 w10 =>
  gd (cls a0 w10 = some 26) <|
  bd (f_X3_byTurn G a0 a1 a2 w10) fun x16 w16 =>
  bd (f_J15_max G x10 x16 w16) fun x19 w19 =>
  bd (f_J15_max G x4 x19 w19) fun x22 w22 =>
  some (x22, w22)
noncomputable def f_X3_limitOf (G : Nat) (a0 : Rf) (a1 : Int32) (w : St) : Option (Int32 × St) :=
  bo (geti [26] a0 20 w) fun x1 =>
  if x1 = ((-1)) then (bo (getr [26] a0 0 w) fun x9 =>
  bd (f_X3_ofLink G a1 w) fun x13 w13 =>
  bo (iald x9 (x13 + 5) w13) fun x18 =>
  some (x18, w13)) else
  (bo (geti [26] a0 20 w) fun x23 =>
  some (x23, w))
noncomputable def f_X3_isKept (G : Nat) (a0 : Rf) (a1 : Int32) (w : St) : Option (Int32 × St) :=
  gd (cls a0 w = some 26) <|
  bd (f_X3_byLink G a0 a1 w) fun x2 w2 =>
  bo (getr [26] a0 0 w2) fun x7 =>
  bd (f_X3_ofLink G a1 w2) fun x11 w11 =>
  bo (iald x7 (x11 + 2) w11) fun x16 =>
  bo (getr [26] a0 0 w11) fun x18 =>
  bd (f_X3_ofLink G a1 w11) fun x22 w22 =>
  bo (iald x18 (x22 + 3) w22) fun x27 =>
  gd (cls a0 w22 = some 26) <|
  bd (f_X3_due G a0 x16 x27 w22) fun x28 w28 =>
  gd (cls a0 w28 = some 26) <|
  bd (f_X3_limitOf G a0 a1 w28) fun x33 w33 =>
  if (x28 + x33) < x2 then (some (0, w33)) else
  (some (1, w33))
noncomputable def f_X3_departureBase_b61 (G : Nat) (k11 : Rf → Int32 → Int32 → Int32 → Int32 → Int32 → St → Option (Int32 × St)) (v0 : Rf) (v1 : Int32) (v2 : Int32) (v3 : Int32) (v4 : Int32) (v5 : Int32) (w : St) : Option (Int32 × St) :=
  k11 v0 v1 v2 v3 v4 (v5 + 1) w
noncomputable def f_X3_departureBase_l11 (G : Nat) (k67 : Int32 → St → Option (Int32 × St)) : Nat → Rf → Int32 → Int32 → Int32 → Int32 → Int32 → St → Option (Int32 × St)
  | 0, _, _, _, _, _, _, _ => none
  | F + 1, v0, v1, v2, v3, v4, v5, w =>
  bo (getr [26] v0 0 w) fun x14 =>
  bo (iald x14 1 w) fun x18 =>
  if x18 ≤ v5 then (k67 v4 w) else
  (if v5 = v3 then (f_X3_departureBase_b61 G (fun v0 v1 v2 v3 v4 v5 w => f_X3_departureBase_l11 G k67 F v0 v1 v2 v3 v4 v5 w)  v0 v1 v2 v3 v4 v5 w) else
  (gd (cls v0 w = some 26) <|
  bd (f_X3_isTo G v0 v5 v1 v2 w) fun x33 w33 =>
  if x33 = 0 then (f_X3_departureBase_b61 G (fun v0 v1 v2 v3 v4 v5 w => f_X3_departureBase_l11 G k67 F v0 v1 v2 v3 v4 v5 w)  v0 v1 v2 v3 v4 v5 w33) else
  (gd (cls v0 w33 = some 26) <|
  bd (f_X3_isKept G v0 v5 w33) fun x42 w42 =>
  if x42 = 0 then (f_X3_departureBase_b61 G (fun v0 v1 v2 v3 v4 v5 w => f_X3_departureBase_l11 G k67 F v0 v1 v2 v3 v4 v5 w)  v0 v1 v2 v3 v4 v5 w42) else
  (gd (cls v0 w42 = some 26) <|
  bd (f_X3_byLink G v0 v5 w42) fun x53 w53 =>
  bd (f_J15_max G v4 x53 w53) fun x56 w56 =>
  f_X3_departureBase_b61 G (fun v0 v1 v2 v3 v4 v5 w => f_X3_departureBase_l11 G k67 F v0 v1 v2 v3 v4 v5 w)  v0 v1 v2 v3 x56 v5 w56))))
noncomputable def f_X3_departureBase_b67 (G : Nat) (v4 : Int32) (w : St) : Option (Int32 × St) :=
  some (v4, w)
noncomputable def f_X3_departureBase (G : Nat) (a0 : Rf) (a1 : Int32) (a2 : Int32) (a3 : Int32) (w : St) : Option (Int32 × St) :=
  gd (cls a0 w = some 26) <|
  bd (f_X3_due G a0 a1 a2 w) fun x3 w3 =>
  f_X3_departureBase_l11 G (fun v4 w => f_X3_departureBase_b67 G  v4 w) G a0 a1 a2 a3 x3 0 w3
abbrev V_X3_thrown (l : Launch) (D : Dn) (H0 : Heap) (w0 : St) (res : Option (Int32 × St)) (pc : Nat) (ls : List (Nat × LV)) (st : List Value) (w : St) : Prop := V l D H0 RX3 "thrown" cX3_thrown 1 (some (.int)) [] 0 0 (fun x => .inr (rvI x)) w0 res pc ls st w
theorem t_X3_thrown {l : Launch} {D : Dn} {H0 : Heap} {w0 : St} (hl : l.stackTraces = false) (G : Nat) (a0 : Rf) (w : St) : V_X3_thrown l D H0 w0 (f_X3_thrown G a0 w) 0 [(0, lR a0)] [] w := by
  unfold f_X3_thrown
  refine r_aload_n 1 0 dX3_thrown_0 rfl rfl rfl ?_
  refine r_geti 4 gf_X3_69 dX3_thrown_1 rfl (fun x1 => ?_)
  exact r_iret rfl rfl dX3_thrown_4
theorem s_X3_thrown {l : Launch} {D : Dn} {H0 : Heap} (hl : l.stackTraces = false) (G : Nat) (a0 : Rf) (w : St) : SimN l D H0 yX3_thrown (ws_ yX3_thrown cX3_thrown 1 (some (.int))) 0 0 rvI [lR a0] w (f_X3_thrown G a0 w) := SimX.N (SimX.ofV (y := yX3_thrown) (by decide) rfl (t_X3_thrown hl G a0 w))
abbrev V_X3_starts (l : Launch) (D : Dn) (H0 : Heap) (w0 : St) (res : Option (Unit × St)) (pc : Nat) (ls : List (Nat × LV)) (st : List Value) (w : St) : Prop := V l D H0 RX3 "starts" cX3_starts 2 none [] 0 0 (fun x => .inr (rvU x)) w0 res pc ls st w
theorem t_X3_starts_l7 {l : Launch} {D : Dn} {H0 : Heap} {w0 : St} (hl : l.stackTraces = false) (G : Nat) (k32 : St → Option (Unit × St)) (h32 : ∀ w, V_X3_starts l D H0 w0 (k32 w) 32 [] [] w) : ∀ (F : Nat) (v0 : Rf) (v1 : Int32) (w : St), V_X3_starts l D H0 w0 (f_X3_starts_l7 G k32 F v0 v1 w) 7 [(0, lR v0), (1, lI v1)] [] w := by
  intro F
  induction F with
  | zero => intros; exact r_none
  | succ F ih =>
    intro v0 v1 w
    unfold f_X3_starts_l7
    refine r_iload_n 8 1 dX3_starts_7 rfl rfl rfl ?_
    refine r_sipush (v := 412) 11 dX3_starts_8 rfl rfl ?_
    refine r_icmp_ge 32 14 dX3_starts_11 (by decide) rfl ?_ ?_
    · exact r_lsP [] rfl (h32 w)
    refine r_aload_n 15 0 dX3_starts_14 rfl rfl rfl ?_
    refine r_getr 18 gf_X3_13 dX3_starts_15 rfl (fun x15 => ?_)
    refine r_iload_n 19 1 dX3_starts_18 rfl rfl rfl ?_
    refine r_aload_n 20 0 dX3_starts_19 rfl rfl rfl ?_
    refine r_getr 23 gf_X3_9 dX3_starts_20 rfl (fun x20 => ?_)
    refine r_iload_n 24 1 dX3_starts_23 rfl rfl rfl ?_
    refine r_iald 25 dX3_starts_24 rfl (fun x24 => ?_)
    refine r_iast 26 dX3_starts_25 rfl (fun w25 => ?_)
    refine r_iinc (v := v1 + 1) (ls2 := [(1, lI (v1 + 1)), (0, lR v0)]) 29 1 dX3_starts_26 rfl rfl (by decide) rfl rfl ?_
    refine r_goto 7 dX3_starts_29 (by decide) ?_
    exact r_lsP [1, 0] rfl (ih v0 (v1 + 1) w25)
theorem t_X3_starts_b32 {l : Launch} {D : Dn} {H0 : Heap} {w0 : St} (hl : l.stackTraces = false) (G : Nat) (w : St) : V_X3_starts l D H0 w0 (f_X3_starts_b32 G  w) 32 [] [] w := by
  unfold f_X3_starts_b32
  exact r_vret rfl rfl dX3_starts_32
theorem t_X3_starts {l : Launch} {D : Dn} {H0 : Heap} {w0 : St} (hl : l.stackTraces = false) (G : Nat) (a0 : Rf) (w : St) : V_X3_starts l D H0 w0 (f_X3_starts G a0 w) 0 [(0, lR a0)] [] w := by
  unfold f_X3_starts
  refine r_aload_n 1 0 dX3_starts_0 rfl rfl rfl ?_
  refine r_iconst (v := 0) 2 dX3_starts_1 rfl rfl ?_
  refine r_puti 5 pf_X3_69 dX3_starts_2 rfl (fun w2 => ?_)
  refine r_iconst (v := 0) 6 dX3_starts_5 rfl rfl ?_
  refine r_istore_n (ls2 := [(1, lI 0), (0, lR a0)]) 7 dX3_starts_6 rfl (by decide) rfl rfl ?_
  exact r_lsP [1, 0] rfl (t_X3_starts_l7 hl G (fun w => f_X3_starts_b32 G  w) (fun w => t_X3_starts_b32 hl G  w) G a0 0 w2)
theorem s_X3_starts {l : Launch} {D : Dn} {H0 : Heap} (hl : l.stackTraces = false) (G : Nat) (a0 : Rf) (w : St) : SimN l D H0 yX3_starts (ws_ yX3_starts cX3_starts 2 none) 0 0 rvU [lR a0] w (f_X3_starts G a0 w) := SimX.N (SimX.ofV (y := yX3_starts) (by decide) rfl (t_X3_starts hl G a0 w))
abbrev V_X3_throwing (l : Launch) (D : Dn) (H0 : Heap) (w0 : St) (res : Option (Int32 × St)) (pc : Nat) (ls : List (Nat × LV)) (st : List Value) (w : St) : Prop := V l D H0 RX3 "throwing" cX3_throwing 2 (some (.int)) [] 0 0 (fun x => .inr (rvI x)) w0 res pc ls st w
theorem t_X3_throwing {l : Launch} {D : Dn} {H0 : Heap} {w0 : St} (hl : l.stackTraces = false) (G : Nat) (a0 : Rf) (a1 : Int32) (w : St) : V_X3_throwing l D H0 w0 (f_X3_throwing G a0 a1 w) 0 [(0, lR a0), (1, lI a1)] [] w := by
  unfold f_X3_throwing
  refine r_aload_n 1 0 dX3_throwing_0 rfl rfl rfl ?_
  refine r_iload_n 2 1 dX3_throwing_1 rfl rfl rfl ?_
  refine r_puti 5 pf_X3_69 dX3_throwing_2 rfl (fun w2 => ?_)
  refine r_iconst (v := (-1)) 6 dX3_throwing_5 rfl rfl ?_
  exact r_iret rfl rfl dX3_throwing_6
theorem s_X3_throwing {l : Launch} {D : Dn} {H0 : Heap} (hl : l.stackTraces = false) (G : Nat) (a0 : Rf) (a1 : Int32) (w : St) : SimN l D H0 yX3_throwing (ws_ yX3_throwing cX3_throwing 2 (some (.int))) 0 0 rvI [lR a0, lI a1] w (f_X3_throwing G a0 a1 w) := SimX.N (SimX.ofV (y := yX3_throwing) (by decide) rfl (t_X3_throwing hl G a0 a1 w))
abbrev V_X3_refuse (l : Launch) (D : Dn) (H0 : Heap) (w0 : St) (res : Option (Int32 × St)) (pc : Nat) (ls : List (Nat × LV)) (st : List Value) (w : St) : Prop := V l D H0 RX3 "refuse" cX3_refuse 3 (some (.int)) [] 1 21 (fun x => .inr (rvI x)) w0 res pc ls st w
theorem t_X3_refuse {l : Launch} {D : Dn} {H0 : Heap} {w0 : St} (hl : l.stackTraces = false) (G : Nat) (a0 : Rf) (a1 : Int32) (a2 : Int32) (w : St) : V_X3_refuse l D H0 w0 (f_X3_refuse G a0 a1 a2 w) 0 [(0, lR a0), (1, lI a1), (2, lI a2)] [] w := by
  unfold f_X3_refuse
  refine r_aload_n 1 0 dX3_refuse_0 rfl rfl rfl ?_
  refine r_iload_n 2 1 dX3_refuse_1 rfl rfl rfl ?_
  refine r_puti 5 pf_X3_72 dX3_refuse_2 rfl (fun w2 => ?_)
  refine r_aload_n 6 0 dX3_refuse_5 rfl rfl rfl ?_
  refine r_iload_n 7 2 dX3_refuse_6 rfl rfl rfl ?_
  refine r_puti 10 pf_X3_75 dX3_refuse_7 rfl (fun w7 => ?_)
  refine r_aload_n 11 0 dX3_refuse_10 rfl rfl rfl ?_
  refine r_iconst (v := 0) 12 dX3_refuse_11 rfl rfl ?_
  refine r_puti 15 pf_X3_78 dX3_refuse_12 rfl (fun w12 => ?_)
  refine r_aload_n 16 0 dX3_refuse_15 rfl rfl rfl ?_
  refine r_iconst (v := 1) 17 dX3_refuse_16 rfl rfl ?_
  refine r_gd (fun hc17 => ?_)
  refine r_callV (n := 1) (as := [lI 1]) (rest := []) 20 26 (s_X3_throwing hl G a0 1 w12) hc17 rfl (lw_V q2298 q2300 qs42 q110 q2301) (by decide +kernel) (by decide) rfl rfl (cat2_nil (k := 0)) rfl dX3_refuse_17 rfl (fun x17 w17 => ?_)
  exact r_iret rfl rfl dX3_refuse_20
theorem s_X3_refuse {l : Launch} {D : Dn} {H0 : Heap} (hl : l.stackTraces = false) (G : Nat) (a0 : Rf) (a1 : Int32) (a2 : Int32) (w : St) : SimN l D H0 yX3_refuse (ws_ yX3_refuse cX3_refuse 3 (some (.int))) 1 21 rvI [lR a0, lI a1, lI a2] w (f_X3_refuse G a0 a1 a2 w) := SimX.N (SimX.ofV (y := yX3_refuse) (by decide) rfl (t_X3_refuse hl G a0 a1 a2 w))
abbrev V_X3_in (l : Launch) (D : Dn) (H0 : Heap) (w0 : St) (res : Option (Int32 × St)) (pc : Nat) (ls : List (Nat × LV)) (st : List Value) (w : St) : Prop := V l D H0 RX3 "in" cX3_in 6 (some (.boolean)) [] 0 0 (fun x => .inr (rvI x)) w0 res pc ls st w
theorem t_X3_in {l : Launch} {D : Dn} {H0 : Heap} {w0 : St} (hl : l.stackTraces = false) (G : Nat) (a0 : Int64) (a1 : Int64) (a2 : Int64) (w : St) : V_X3_in l D H0 w0 (f_X3_in G a0 a1 a2 w) 0 [(0, lJ a0), (2, lJ a1), (4, lJ a2)] [] w := by
  unfold f_X3_in
  refine r_lload_n 1 0 dX3_in_0 rfl rfl rfl ?_
  refine r_lload_n 2 1 dX3_in_1 rfl rfl rfl ?_
  refine r_lcmp 3 dX3_in_2 rfl ?_
  refine r_if_lt 17 6 dX3_in_3 (by decide) rfl ?_ ?_
  · refine r_iconst (v := 0) 18 dX3_in_17 rfl rfl ?_
    exact r_zret rfl rfl rfl dX3_in_18
  refine r_lload_n 7 0 dX3_in_6 rfl rfl rfl ?_
  refine r_lload 9 2 dX3_in_7 rfl rfl ?_
  refine r_lcmp 10 dX3_in_9 rfl ?_
  refine r_if_gt 17 13 dX3_in_10 (by decide) rfl ?_ ?_
  · refine r_iconst (v := 0) 18 dX3_in_17 rfl rfl ?_
    exact r_zret rfl rfl rfl dX3_in_18
  refine r_iconst (v := 1) 14 dX3_in_13 rfl rfl ?_
  refine r_goto 18 dX3_in_14 (by decide) ?_
  exact r_zret rfl rfl rfl dX3_in_18
theorem s_X3_in {l : Launch} {D : Dn} {H0 : Heap} (hl : l.stackTraces = false) (G : Nat) (a0 : Int64) (a1 : Int64) (a2 : Int64) (w : St) : SimN l D H0 yX3_in (ws_ yX3_in cX3_in 6 (some (.boolean))) 0 0 rvI [lJ a0, lJ a1, lJ a2] w (f_X3_in G a0 a1 a2 w) := SimX.N (SimX.ofV (y := yX3_in) (by decide) rfl (t_X3_in hl G a0 a1 a2 w))
abbrev V_X3_ofStop (l : Launch) (D : Dn) (H0 : Heap) (w0 : St) (res : Option (Int32 × St)) (pc : Nat) (ls : List (Nat × LV)) (st : List Value) (w : St) : Prop := V l D H0 RX3 "ofStop" cX3_ofStop 2 (some (.int)) [] 0 0 (fun x => .inr (rvI x)) w0 res pc ls st w
theorem t_X3_ofStop {l : Launch} {D : Dn} {H0 : Heap} {w0 : St} (hl : l.stackTraces = false) (G : Nat) (a0 : Int32) (a1 : Int32) (w : St) : V_X3_ofStop l D H0 w0 (f_X3_ofStop G a0 a1 w) 0 [(0, lI a0), (1, lI a1)] [] w := by
  unfold f_X3_ofStop
  refine r_bipush (v := 16) 2 dX3_ofStop_0 rfl rfl ?_
  refine r_bipush (v := 9) 4 dX3_ofStop_2 rfl rfl ?_
  refine r_bipush (v := 6) 6 dX3_ofStop_4 rfl rfl ?_
  refine r_iload_n 7 0 dX3_ofStop_6 rfl rfl rfl ?_
  refine r_imul 8 dX3_ofStop_7 rfl ?_
  refine r_iload_n 9 1 dX3_ofStop_8 rfl rfl rfl ?_
  refine r_iadd 10 dX3_ofStop_9 rfl ?_
  refine r_imul 11 dX3_ofStop_10 rfl ?_
  refine r_iadd 12 dX3_ofStop_11 rfl ?_
  exact r_iret rfl rfl dX3_ofStop_12
theorem s_X3_ofStop {l : Launch} {D : Dn} {H0 : Heap} (hl : l.stackTraces = false) (G : Nat) (a0 : Int32) (a1 : Int32) (w : St) : SimN l D H0 yX3_ofStop (ws_ yX3_ofStop cX3_ofStop 2 (some (.int))) 0 0 rvI [lI a0, lI a1] w (f_X3_ofStop G a0 a1 w) := SimX.N (SimX.ofV (y := yX3_ofStop) (by decide) rfl (t_X3_ofStop hl G a0 a1 w))
abbrev V_X3_coachIt (l : Launch) (D : Dn) (H0 : Heap) (w0 : St) (res : Option (Int32 × St)) (pc : Nat) (ls : List (Nat × LV)) (st : List Value) (w : St) : Prop := V l D H0 RX3 "coachIt" cX3_coachIt 6 (some (.int)) [] 2 43 (fun x => .inr (rvI x)) w0 res pc ls st w
theorem t_X3_coachIt_b43 {l : Launch} {D : Dn} {H0 : Heap} {w0 : St} (hl : l.stackTraces = false) (G : Nat) (s0 : Int32) (s1 : Int32) (s2 : Rf) (w : St) : V_X3_coachIt l D H0 w0 (f_X3_coachIt_b43 G s0 s1 s2 w) 43 [] [.int s0, .int s1, rf s2] w := by
  unfold f_X3_coachIt_b43
  refine r_gd (fun hc43 => ?_)
  refine r_callV (n := 2) (as := [lI s1, lI s0]) (rest := []) 46 26 (s_X3_refuse hl G s2 s1 s0 w) hc43 rfl (lw_V q2294 q2296 qs41 q110 q2297) (by decide +kernel) (by decide) rfl rfl (cat2_nil (k := 0)) rfl dX3_coachIt_43 rfl (fun x43 w43 => ?_)
  exact r_iret rfl rfl dX3_coachIt_46
theorem t_X3_coachIt_b24 {l : Launch} {D : Dn} {H0 : Heap} {w0 : St} (hl : l.stackTraces = false) (G : Nat) (v0 : Rf) (v1 : Int32) (v2 : Int32) (w : St) : V_X3_coachIt l D H0 w0 (f_X3_coachIt_b24 G v0 v1 v2 w) 24 [(0, lR v0), (1, lI v1), (2, lI v2)] [] w := by
  unfold f_X3_coachIt_b24
  refine r_aload_n 25 0 dX3_coachIt_24 rfl rfl rfl ?_
  refine r_iconst (v := 1) 26 dX3_coachIt_25 rfl rfl ?_
  refine r_iload_n 27 1 dX3_coachIt_26 rfl rfl rfl ?_
  refine r_i2l 28 dX3_coachIt_27 rfl ?_
  refine r_lconst (v := 0) 29 dX3_coachIt_28 rfl rfl ?_
  refine r_ldc2J 32 q2289 dX3_coachIt_29 rfl ?_
  refine r_callS (n := 3) (as := [lJ v1.toInt64, lJ 0, lJ 9]) (rest := [.int 1, rf v0]) 35 (s_X3_in hl G v1.toInt64 0 9 w) (lw_S q2290 q2291 q110 q2292) (by decide +kernel) (by decide) rfl rfl (cat2_i (cat2_r (cat2_nil (k := 0)))) rfl dX3_coachIt_32 rfl (fun x32 w32 => ?_)
  refine r_if_eq 42 38 dX3_coachIt_35 (by decide) rfl ?_ ?_
  · refine r_iload_n 43 1 dX3_coachIt_42 rfl rfl rfl ?_
    exact r_lsP [] rfl (t_X3_coachIt_b43 hl G  v1 1 v0 w32)
  refine r_iload_n 39 2 dX3_coachIt_38 rfl rfl rfl ?_
  refine r_goto 43 dX3_coachIt_39 (by decide) ?_
  exact r_lsP [] rfl (t_X3_coachIt_b43 hl G  v2 1 v0 w32)
theorem t_X3_coachIt_l107 {l : Launch} {D : Dn} {H0 : Heap} {w0 : St} (hl : l.stackTraces = false) (G : Nat) (k131 : Rf → Int32 → Int32 → Int32 → Int32 → St → Option (Int32 × St)) (h131 : ∀ v0 v1 v2 v3 v4 w, V_X3_coachIt l D H0 w0 (k131 v0 v1 v2 v3 v4 w) 131 [(0, lR v0), (1, lI v1), (2, lI v2), (3, lI v3), (4, lI v4)] [] w) : ∀ (F : Nat) (v0 : Rf) (v1 : Int32) (v2 : Int32) (v3 : Int32) (v4 : Int32) (v5 : Int32) (w : St), V_X3_coachIt l D H0 w0 (f_X3_coachIt_l107 G k131 F v0 v1 v2 v3 v4 v5 w) 107 [(0, lR v0), (1, lI v1), (2, lI v2), (3, lI v3), (4, lI v4), (5, lI v5)] [] w := by
  intro F
  induction F with
  | zero => intros; exact r_none
  | succ F ih =>
    intro v0 v1 v2 v3 v4 v5 w
    unfold f_X3_coachIt_l107
    refine r_iload 109 5 dX3_coachIt_107 rfl rfl ?_
    refine r_bipush (v := 9) 111 dX3_coachIt_109 rfl rfl ?_
    refine r_icmp_ge 131 114 dX3_coachIt_111 (by decide) rfl ?_ ?_
    · exact r_lsP [0, 1, 2, 3, 4] rfl (h131 v0 v1 v2 v3 v4 w)
    refine r_aload_n 115 0 dX3_coachIt_114 rfl rfl rfl ?_
    refine r_getr 118 gf_X3_9 dX3_coachIt_115 rfl (fun x115 => ?_)
    refine r_iload 120 4 dX3_coachIt_118 rfl rfl ?_
    refine r_iload 122 5 dX3_coachIt_120 rfl rfl ?_
    refine r_iadd 123 dX3_coachIt_122 rfl ?_
    refine r_iconst (v := 0) 124 dX3_coachIt_123 rfl rfl ?_
    refine r_iast 125 dX3_coachIt_124 rfl (fun w124 => ?_)
    refine r_iinc (v := v5 + 1) (ls2 := [(5, lI (v5 + 1)), (0, lR v0), (1, lI v1), (2, lI v2), (3, lI v3), (4, lI v4)]) 128 5 dX3_coachIt_125 rfl rfl (by decide) rfl rfl ?_
    refine r_goto 107 dX3_coachIt_128 (by decide) ?_
    exact r_lsP [1, 2, 3, 4, 5, 0] rfl (ih v0 v1 v2 v3 v4 (v5 + 1) w124)
theorem t_X3_coachIt_b131 {l : Launch} {D : Dn} {H0 : Heap} {w0 : St} (hl : l.stackTraces = false) (G : Nat) (v0 : Rf) (v1 : Int32) (v2 : Int32) (v3 : Int32) (v4 : Int32) (w : St) : V_X3_coachIt l D H0 w0 (f_X3_coachIt_b131 G v0 v1 v2 v3 v4 w) 131 [(0, lR v0), (1, lI v1), (2, lI v2), (3, lI v3), (4, lI v4)] [] w := by
  unfold f_X3_coachIt_b131
  refine r_aload_n 132 0 dX3_coachIt_131 rfl rfl rfl ?_
  refine r_getr 135 gf_X3_9 dX3_coachIt_132 rfl (fun x132 => ?_)
  refine r_iload 137 4 dX3_coachIt_135 rfl rfl ?_
  refine r_iconst (v := 0) 138 dX3_coachIt_137 rfl rfl ?_
  refine r_iadd 139 dX3_coachIt_138 rfl ?_
  refine r_iload_n 140 1 dX3_coachIt_139 rfl rfl rfl ?_
  refine r_iast 141 dX3_coachIt_140 rfl (fun w140 => ?_)
  refine r_aload_n 142 0 dX3_coachIt_141 rfl rfl rfl ?_
  refine r_getr 145 gf_X3_9 dX3_coachIt_142 rfl (fun x142 => ?_)
  refine r_iload 147 4 dX3_coachIt_145 rfl rfl ?_
  refine r_bipush (v := 7) 149 dX3_coachIt_147 rfl rfl ?_
  refine r_iadd 150 dX3_coachIt_149 rfl ?_
  refine r_iconst (v := 1) 151 dX3_coachIt_150 rfl rfl ?_
  refine r_iadd 152 dX3_coachIt_151 rfl ?_
  refine r_iload_n 153 2 dX3_coachIt_152 rfl rfl rfl ?_
  refine r_iast 154 dX3_coachIt_153 rfl (fun w153 => ?_)
  refine r_aload_n 155 0 dX3_coachIt_154 rfl rfl rfl ?_
  refine r_getr 158 gf_X3_9 dX3_coachIt_155 rfl (fun x155 => ?_)
  refine r_iconst (v := 0) 159 dX3_coachIt_158 rfl rfl ?_
  refine r_dup2_ir 160 dX3_coachIt_159 rfl ?_
  refine r_iald 161 dX3_coachIt_160 rfl (fun x160 => ?_)
  refine r_iconst (v := 1) 162 dX3_coachIt_161 rfl rfl ?_
  refine r_iadd 163 dX3_coachIt_162 rfl ?_
  refine r_iast 164 dX3_coachIt_163 rfl (fun w163 => ?_)
  refine r_iload_n 165 3 dX3_coachIt_164 rfl rfl rfl ?_
  exact r_iret rfl rfl dX3_coachIt_165
theorem t_X3_coachIt {l : Launch} {D : Dn} {H0 : Heap} {w0 : St} (hl : l.stackTraces = false) (G : Nat) (a0 : Rf) (a1 : Int32) (a2 : Int32) (w : St) : V_X3_coachIt l D H0 w0 (f_X3_coachIt G a0 a1 a2 w) 0 [(0, lR a0), (1, lI a1), (2, lI a2)] [] w := by
  unfold f_X3_coachIt
  refine r_iload_n 1 1 dX3_coachIt_0 rfl rfl rfl ?_
  refine r_i2l 2 dX3_coachIt_1 rfl ?_
  refine r_lconst (v := 0) 3 dX3_coachIt_2 rfl rfl ?_
  refine r_ldc2J 6 q2289 dX3_coachIt_3 rfl ?_
  refine r_callS (n := 3) (as := [lJ a1.toInt64, lJ 0, lJ 9]) (rest := []) 9 (s_X3_in hl G a1.toInt64 0 9 w) (lw_S q2290 q2291 q110 q2292) (by decide +kernel) (by decide) rfl rfl (cat2_nil (k := 0)) rfl dX3_coachIt_6 rfl (fun x6 w6 => ?_)
  refine r_if_eq 24 12 dX3_coachIt_9 (by decide) rfl ?_ ?_
  · exact r_lsP [0, 1, 2] rfl (t_X3_coachIt_b24 hl G  a0 a1 a2 w6)
  refine r_iload_n 13 2 dX3_coachIt_12 rfl rfl rfl ?_
  refine r_i2l 14 dX3_coachIt_13 rfl ?_
  refine r_lconst (v := 0) 15 dX3_coachIt_14 rfl rfl ?_
  refine r_ldc2J 18 q2293 dX3_coachIt_15 rfl ?_
  refine r_callS (n := 3) (as := [lJ a2.toInt64, lJ 0, lJ 600]) (rest := []) 21 (s_X3_in hl G a2.toInt64 0 600 w6) (lw_S q2290 q2291 q110 q2292) (by decide +kernel) (by decide) rfl rfl (cat2_nil (k := 0)) rfl dX3_coachIt_18 rfl (fun x18 w18 => ?_)
  refine r_if_ne 47 24 dX3_coachIt_21 (by decide) rfl ?_ ?_
  · refine r_aload_n 48 0 dX3_coachIt_47 rfl rfl rfl ?_
    refine r_getr 51 gf_X3_9 dX3_coachIt_48 rfl (fun x48 => ?_)
    refine r_iconst (v := 0) 52 dX3_coachIt_51 rfl rfl ?_
    refine r_iald 53 dX3_coachIt_52 rfl (fun x52 => ?_)
    refine r_bipush (v := 6) 55 dX3_coachIt_53 rfl rfl ?_
    refine r_icmp_ne 66 58 dX3_coachIt_55 (by decide) rfl ?_ ?_
    · refine r_aload_n 67 0 dX3_coachIt_66 rfl rfl rfl ?_
      refine r_getr 70 gf_X3_9 dX3_coachIt_67 rfl (fun x67 => ?_)
      refine r_iconst (v := 0) 71 dX3_coachIt_70 rfl rfl ?_
      refine r_iald 72 dX3_coachIt_71 rfl (fun x71 => ?_)
      refine r_istore_n (ls2 := [(3, lI x71), (0, lR a0), (1, lI a1), (2, lI a2)]) 73 dX3_coachIt_72 rfl (by decide) rfl rfl ?_
      refine r_aload_n 74 1 dX3_coachIt_73 rfl rfl rfl ?_
      refine r_getr 77 gf_X3_9 dX3_coachIt_74 rfl (fun x74 => ?_)
      refine r_iconst (v := 4) 78 dX3_coachIt_77 rfl rfl ?_
      refine r_iconst (v := 2) 79 dX3_coachIt_78 rfl rfl ?_
      refine r_iload_n 80 0 dX3_coachIt_79 rfl rfl rfl ?_
      refine r_imul 81 dX3_coachIt_80 rfl ?_
      refine r_iadd 82 dX3_coachIt_81 rfl ?_
      refine r_iconst (v := 1) 83 dX3_coachIt_82 rfl rfl ?_
      refine r_iast 84 dX3_coachIt_83 rfl (fun w83 => ?_)
      refine r_aload_n 85 1 dX3_coachIt_84 rfl rfl rfl ?_
      refine r_getr 88 gf_X3_9 dX3_coachIt_85 rfl (fun x85 => ?_)
      refine r_iconst (v := 4) 89 dX3_coachIt_88 rfl rfl ?_
      refine r_iconst (v := 2) 90 dX3_coachIt_89 rfl rfl ?_
      refine r_iload_n 91 0 dX3_coachIt_90 rfl rfl rfl ?_
      refine r_imul 92 dX3_coachIt_91 rfl ?_
      refine r_iadd 93 dX3_coachIt_92 rfl ?_
      refine r_iconst (v := 1) 94 dX3_coachIt_93 rfl rfl ?_
      refine r_iadd 95 dX3_coachIt_94 rfl ?_
      refine r_iconst (v := 0) 96 dX3_coachIt_95 rfl rfl ?_
      refine r_iast 97 dX3_coachIt_96 rfl (fun w96 => ?_)
      refine r_iload_n 98 0 dX3_coachIt_97 rfl rfl rfl ?_
      refine r_iconst (v := 0) 99 dX3_coachIt_98 rfl rfl ?_
      refine r_callS (n := 2) (as := [lI x71, lI 0]) (rest := []) 102 (s_X3_ofStop hl G x71 0 w96) (lw_S q2302 q2303 q110 q2304) (by decide +kernel) (by decide) rfl rfl (cat2_nil (k := 0)) rfl dX3_coachIt_99 rfl (fun x99 w99 => ?_)
      refine r_istore (ls2 := [(4, lI x99), (3, lI x71), (0, lR a0), (1, lI a1), (2, lI a2)]) 104 dX3_coachIt_102 (by decide) rfl rfl ?_
      refine r_iconst (v := 0) 105 dX3_coachIt_104 rfl rfl ?_
      refine r_istore (ls2 := [(5, lI 0), (4, lI x99), (3, lI x71), (0, lR a0), (1, lI a1), (2, lI a2)]) 107 dX3_coachIt_105 (by decide) rfl rfl ?_
      exact r_lsP [3, 4, 5, 2, 1, 0] rfl (t_X3_coachIt_l107 hl G (fun v0 v1 v2 v3 v4 w => f_X3_coachIt_b131 G  v0 v1 v2 v3 v4 w) (fun v0 v1 v2 v3 v4 w => t_X3_coachIt_b131 hl G  v0 v1 v2 v3 v4 w) G a0 a1 a2 x71 x99 0 w99)
    refine r_aload_n 59 0 dX3_coachIt_58 rfl rfl rfl ?_
    refine r_iconst (v := 2) 60 dX3_coachIt_59 rfl rfl ?_
    refine r_bipush (v := 6) 62 dX3_coachIt_60 rfl rfl ?_
    refine r_gd (fun hc62 => ?_)
    refine r_callV (n := 2) (as := [lI 2, lI 6]) (rest := []) 65 26 (s_X3_refuse hl G a0 2 6 w18) hc62 rfl (lw_V q2294 q2296 qs41 q110 q2297) (by decide +kernel) (by decide) rfl rfl (cat2_nil (k := 0)) rfl dX3_coachIt_62 rfl (fun x62 w62 => ?_)
    exact r_iret rfl rfl dX3_coachIt_65
  exact r_lsP [0, 1, 2] rfl (t_X3_coachIt_b24 hl G  a0 a1 a2 w18)
theorem s_X3_coachIt {l : Launch} {D : Dn} {H0 : Heap} (hl : l.stackTraces = false) (G : Nat) (a0 : Rf) (a1 : Int32) (a2 : Int32) (w : St) : SimN l D H0 yX3_coachIt (ws_ yX3_coachIt cX3_coachIt 6 (some (.int))) 2 43 rvI [lR a0, lI a1, lI a2] w (f_X3_coachIt G a0 a1 a2 w) := SimX.N (SimX.ofV (y := yX3_coachIt) (by decide) rfl (t_X3_coachIt hl G a0 a1 a2 w))
abbrev V_X3_changed (l : Launch) (D : Dn) (H0 : Heap) (w0 : St) (res : Option (Int32 × St)) (pc : Nat) (ls : List (Nat × LV)) (st : List Value) (w : St) : Prop := V l D H0 RX3 "changed" cX3_changed 3 (some (.int)) [] 0 0 (fun x => .inr (rvI x)) w0 res pc ls st w
theorem t_X3_changed_l20 {l : Launch} {D : Dn} {H0 : Heap} {w0 : St} (hl : l.stackTraces = false) (G : Nat) (k49 : Rf → Int32 → St → Option (Int32 × St)) (h49 : ∀ v0 v1 w, V_X3_changed l D H0 w0 (k49 v0 v1 w) 49 [(0, lR v0), (1, lI v1)] [] w) : ∀ (F : Nat) (v0 : Rf) (v1 : Int32) (v2 : Int32) (w : St), V_X3_changed l D H0 w0 (f_X3_changed_l20 G k49 F v0 v1 v2 w) 20 [(0, lR v0), (1, lI v1), (2, lI v2)] [] w := by
  intro F
  induction F with
  | zero => intros; exact r_none
  | succ F ih =>
    intro v0 v1 v2 w
    unfold f_X3_changed_l20
    refine r_iload_n 21 2 dX3_changed_20 rfl rfl rfl ?_
    refine r_sipush (v := 2884) 24 dX3_changed_21 rfl rfl ?_
    refine r_icmp_ge 49 27 dX3_changed_24 (by decide) rfl ?_ ?_
    · exact r_lsP [0, 1] rfl (h49 v0 v1 w)
    refine r_aload_n 28 0 dX3_changed_27 rfl rfl rfl ?_
    refine r_getr 31 gf_X3_19 dX3_changed_28 rfl (fun x28 => ?_)
    refine r_iload_n 32 2 dX3_changed_31 rfl rfl rfl ?_
    refine r_aload_n 33 0 dX3_changed_32 rfl rfl rfl ?_
    refine r_getr 36 gf_X3_19 dX3_changed_33 rfl (fun x33 => ?_)
    refine r_iload_n 37 2 dX3_changed_36 rfl rfl rfl ?_
    refine r_sipush (v := 412) 40 dX3_changed_37 rfl rfl ?_
    refine r_iadd 41 dX3_changed_40 rfl ?_
    refine r_iald 42 dX3_changed_41 rfl (fun x41 => ?_)
    refine r_iast 43 dX3_changed_42 rfl (fun w42 => ?_)
    refine r_iinc (v := v2 + 1) (ls2 := [(2, lI (v2 + 1)), (0, lR v0), (1, lI v1)]) 46 2 dX3_changed_43 rfl rfl (by decide) rfl rfl ?_
    refine r_goto 20 dX3_changed_46 (by decide) ?_
    exact r_lsP [1, 2, 0] rfl (ih v0 v1 (v2 + 1) w42)
theorem t_X3_changed_l61 {l : Launch} {D : Dn} {H0 : Heap} {w0 : St} (hl : l.stackTraces = false) (G : Nat) (k95 : Rf → Int32 → St → Option (Int32 × St)) (h95 : ∀ v0 v1 w, V_X3_changed l D H0 w0 (k95 v0 v1 w) 95 [(0, lR v0), (1, lI v1)] [] w) : ∀ (F : Nat) (v0 : Rf) (v1 : Int32) (v2 : Int32) (w : St), V_X3_changed l D H0 w0 (f_X3_changed_l61 G k95 F v0 v1 v2 w) 61 [(0, lR v0), (1, lI v1), (2, lI v2)] [] w := by
  intro F
  induction F with
  | zero => intros; exact r_none
  | succ F ih =>
    intro v0 v1 v2 w
    unfold f_X3_changed_l61
    refine r_iload_n 62 2 dX3_changed_61 rfl rfl rfl ?_
    refine r_sipush (v := 412) 65 dX3_changed_62 rfl rfl ?_
    refine r_icmp_ge 95 68 dX3_changed_65 (by decide) rfl ?_ ?_
    · exact r_lsP [0, 1] rfl (h95 v0 v1 w)
    refine r_aload_n 69 0 dX3_changed_68 rfl rfl rfl ?_
    refine r_getr 72 gf_X3_19 dX3_changed_69 rfl (fun x69 => ?_)
    refine r_sipush (v := 412) 75 dX3_changed_72 rfl rfl ?_
    refine r_aload_n 76 0 dX3_changed_75 rfl rfl rfl ?_
    refine r_geti 79 gf_X3_85 dX3_changed_76 rfl (fun x76 => ?_)
    refine r_imul 80 dX3_changed_79 rfl ?_
    refine r_iload_n 81 2 dX3_changed_80 rfl rfl rfl ?_
    refine r_iadd 82 dX3_changed_81 rfl ?_
    refine r_aload_n 83 0 dX3_changed_82 rfl rfl rfl ?_
    refine r_getr 86 gf_X3_13 dX3_changed_83 rfl (fun x83 => ?_)
    refine r_iload_n 87 2 dX3_changed_86 rfl rfl rfl ?_
    refine r_iald 88 dX3_changed_87 rfl (fun x87 => ?_)
    refine r_iast 89 dX3_changed_88 rfl (fun w88 => ?_)
    refine r_iinc (v := v2 + 1) (ls2 := [(2, lI (v2 + 1)), (0, lR v0), (1, lI v1)]) 92 2 dX3_changed_89 rfl rfl (by decide) rfl rfl ?_
    refine r_goto 61 dX3_changed_92 (by decide) ?_
    exact r_lsP [1, 2, 0] rfl (ih v0 v1 (v2 + 1) w88)
theorem t_X3_changed_b95 {l : Launch} {D : Dn} {H0 : Heap} {w0 : St} (hl : l.stackTraces = false) (G : Nat) (v0 : Rf) (v1 : Int32) (w : St) : V_X3_changed l D H0 w0 (f_X3_changed_b95 G v0 v1 w) 95 [(0, lR v0), (1, lI v1)] [] w := by
  unfold f_X3_changed_b95
  refine r_aload_n 96 0 dX3_changed_95 rfl rfl rfl ?_
  refine r_dup_r 97 dX3_changed_96 rfl ?_
  refine r_geti 100 gf_X3_85 dX3_changed_97 rfl (fun x97 => ?_)
  refine r_iconst (v := 1) 101 dX3_changed_100 rfl rfl ?_
  refine r_iadd 102 dX3_changed_101 rfl ?_
  refine r_puti 105 pf_X3_85 dX3_changed_102 rfl (fun w102 => ?_)
  refine r_iload_n 106 1 dX3_changed_105 rfl rfl rfl ?_
  exact r_iret rfl rfl dX3_changed_106
theorem t_X3_changed_b59 {l : Launch} {D : Dn} {H0 : Heap} {w0 : St} (hl : l.stackTraces = false) (G : Nat) (v0 : Rf) (v1 : Int32) (w : St) : V_X3_changed l D H0 w0 (f_X3_changed_b59 G v0 v1 w) 59 [(0, lR v0), (1, lI v1)] [] w := by
  unfold f_X3_changed_b59
  refine r_iconst (v := 0) 60 dX3_changed_59 rfl rfl ?_
  refine r_istore_n (ls2 := [(2, lI 0), (0, lR v0), (1, lI v1)]) 61 dX3_changed_60 rfl (by decide) rfl rfl ?_
  exact r_lsP [1, 2, 0] rfl (t_X3_changed_l61 hl G (fun v0 v1 w => f_X3_changed_b95 G  v0 v1 w) (fun v0 v1 w => t_X3_changed_b95 hl G  v0 v1 w) G v0 v1 0 w)
theorem t_X3_changed_b49 {l : Launch} {D : Dn} {H0 : Heap} {w0 : St} (hl : l.stackTraces = false) (G : Nat) (v0 : Rf) (v1 : Int32) (w : St) : V_X3_changed l D H0 w0 (f_X3_changed_b49 G v0 v1 w) 49 [(0, lR v0), (1, lI v1)] [] w := by
  unfold f_X3_changed_b49
  refine r_aload_n 50 0 dX3_changed_49 rfl rfl rfl ?_
  refine r_dup_r 51 dX3_changed_50 rfl ?_
  refine r_geti 54 gf_X3_85 dX3_changed_51 rfl (fun x51 => ?_)
  refine r_iconst (v := 1) 55 dX3_changed_54 rfl rfl ?_
  refine r_isub 56 dX3_changed_55 rfl ?_
  refine r_puti 59 pf_X3_85 dX3_changed_56 rfl (fun w56 => ?_)
  exact r_lsP [0, 1] rfl (t_X3_changed_b59 hl G  v0 v1 w56)
theorem t_X3_changed {l : Launch} {D : Dn} {H0 : Heap} {w0 : St} (hl : l.stackTraces = false) (G : Nat) (a0 : Rf) (a1 : Int32) (w : St) : V_X3_changed l D H0 w0 (f_X3_changed G a0 a1 w) 0 [(0, lR a0), (1, lI a1)] [] w := by
  unfold f_X3_changed
  refine r_aload_n 1 0 dX3_changed_0 rfl rfl rfl ?_
  refine r_geti 4 gf_X3_69 dX3_changed_1 rfl (fun x1 => ?_)
  refine r_if_le 9 7 dX3_changed_4 (by decide) rfl ?_ ?_
  · refine r_aload_n 10 0 dX3_changed_9 rfl rfl rfl ?_
    refine r_geti 13 gf_X3_85 dX3_changed_10 rfl (fun x10 => ?_)
    refine r_bipush (v := 8) 15 dX3_changed_13 rfl rfl ?_
    refine r_icmp_ne 59 18 dX3_changed_15 (by decide) rfl ?_ ?_
    · exact r_lsP [0, 1] rfl (t_X3_changed_b59 hl G  a0 a1 w)
    refine r_iconst (v := 0) 19 dX3_changed_18 rfl rfl ?_
    refine r_istore_n (ls2 := [(2, lI 0), (0, lR a0), (1, lI a1)]) 20 dX3_changed_19 rfl (by decide) rfl rfl ?_
    exact r_lsP [1, 2, 0] rfl (t_X3_changed_l20 hl G (fun v0 v1 w => f_X3_changed_b49 G  v0 v1 w) (fun v0 v1 w => t_X3_changed_b49 hl G  v0 v1 w) G a0 a1 0 w)
  refine r_iload_n 8 1 dX3_changed_7 rfl rfl rfl ?_
  exact r_iret rfl rfl dX3_changed_8
theorem s_X3_changed {l : Launch} {D : Dn} {H0 : Heap} (hl : l.stackTraces = false) (G : Nat) (a0 : Rf) (a1 : Int32) (w : St) : SimN l D H0 yX3_changed (ws_ yX3_changed cX3_changed 3 (some (.int))) 0 0 rvI [lR a0, lI a1] w (f_X3_changed G a0 a1 w) := SimX.N (SimX.ofV (y := yX3_changed) (by decide) rfl (t_X3_changed hl G a0 a1 w))
abbrev V_X3_coach (l : Launch) (D : Dn) (H0 : Heap) (w0 : St) (res : Option (Int32 × St)) (pc : Nat) (ls : List (Nat × LV)) (st : List Value) (w : St) : Prop := V l D H0 RX3 "coach" cX3_coach 3 (some (.int)) [] 3 68 (fun x => .inr (rvI x)) w0 res pc ls st w
theorem t_X3_coach {l : Launch} {D : Dn} {H0 : Heap} {w0 : St} (hl : l.stackTraces = false) (G : Nat) (a0 : Rf) (a1 : Int32) (a2 : Int32) (w : St) : V_X3_coach l D H0 w0 (f_X3_coach G a0 a1 a2 w) 0 [(0, lR a0), (1, lI a1), (2, lI a2)] [] w := by
  unfold f_X3_coach
  refine r_aload_n 1 0 dX3_coach_0 rfl rfl rfl ?_
  refine r_gd (fun hc1 => ?_)
  refine r_callV (n := 0) (as := []) (rest := []) 4 26 (s_X3_starts hl G a0 w) hc1 rfl (lw_V q2281 q2283 qs39 q110 q2284) (by decide +kernel) (by decide) rfl rfl (cat2_nil (k := 0)) rfl dX3_coach_1 rfl (fun _ w1 => ?_)
  refine r_aload_n 5 0 dX3_coach_4 rfl rfl rfl ?_
  refine r_aload_n 6 0 dX3_coach_5 rfl rfl rfl ?_
  refine r_iload_n 7 1 dX3_coach_6 rfl rfl rfl ?_
  refine r_iload_n 8 2 dX3_coach_7 rfl rfl rfl ?_
  refine r_gd (fun hc8 => ?_)
  refine r_callV (n := 2) (as := [lI a1, lI a2]) (rest := [rf a0]) 11 26 (s_X3_coachIt hl G a0 a1 a2 w1) hc8 rfl (lw_V q2285 q2287 qs40 q110 q2288) (by decide +kernel) (by decide) rfl rfl (cat2_r (cat2_nil (k := 0))) rfl dX3_coach_8 rfl (fun x8 w8 => ?_)
  refine r_gd (fun hc11 => ?_)
  refine r_callV (n := 1) (as := [lI x8]) (rest := []) 14 26 (s_X3_changed hl G a0 x8 w8) hc11 rfl (lw_V q2305 q2307 qs43 q110 q2308) (by decide +kernel) (by decide) rfl rfl (cat2_nil (k := 0)) rfl dX3_coach_11 rfl (fun x11 w11 => ?_)
  exact r_iret rfl rfl dX3_coach_14
theorem s_X3_coach {l : Launch} {D : Dn} {H0 : Heap} (hl : l.stackTraces = false) (G : Nat) (a0 : Rf) (a1 : Int32) (a2 : Int32) (w : St) : SimN l D H0 yX3_coach (ws_ yX3_coach cX3_coach 3 (some (.int))) 3 68 rvI [lR a0, lI a1, lI a2] w (f_X3_coach G a0 a1 a2 w) := SimX.N (SimX.ofV (y := yX3_coach) (by decide) rfl (t_X3_coach hl G a0 a1 a2 w))
abbrev V_X3_planned (l : Launch) (D : Dn) (H0 : Heap) (w0 : St) (res : Option (Int32 × St)) (pc : Nat) (ls : List (Nat × LV)) (st : List Value) (w : St) : Prop := V l D H0 RX3 "planned" cX3_planned 4 (some (.int)) [] 1 21 (fun x => .inr (rvI x)) w0 res pc ls st w
theorem t_X3_planned {l : Launch} {D : Dn} {H0 : Heap} {w0 : St} (hl : l.stackTraces = false) (G : Nat) (a0 : Rf) (a1 : Int32) (a2 : Int32) (a3 : Int32) (w : St) : V_X3_planned l D H0 w0 (f_X3_planned G a0 a1 a2 a3 w) 0 [(0, lR a0), (1, lI a1), (2, lI a2), (3, lI a3)] [] w := by
  unfold f_X3_planned
  refine r_aload_n 1 0 dX3_planned_0 rfl rfl rfl ?_
  refine r_getr 4 gf_X3_9 dX3_planned_1 rfl (fun x1 => ?_)
  refine r_iload_n 5 1 dX3_planned_4 rfl rfl rfl ?_
  refine r_iload_n 6 2 dX3_planned_5 rfl rfl rfl ?_
  refine r_callS (n := 2) (as := [lI a1, lI a2]) (rest := [rf x1]) 9 (s_X3_ofStop hl G a1 a2 w) (lw_S q2302 q2303 q110 q2304) (by decide +kernel) (by decide) rfl rfl (cat2_r (cat2_nil (k := 0))) rfl dX3_planned_6 rfl (fun x6 w6 => ?_)
  refine r_bipush (v := 7) 11 dX3_planned_9 rfl rfl ?_
  refine r_iadd 12 dX3_planned_11 rfl ?_
  refine r_iload_n 13 3 dX3_planned_12 rfl rfl rfl ?_
  refine r_iadd 14 dX3_planned_13 rfl ?_
  refine r_iald 15 dX3_planned_14 rfl (fun x14 => ?_)
  exact r_iret rfl rfl dX3_planned_15
theorem s_X3_planned {l : Launch} {D : Dn} {H0 : Heap} (hl : l.stackTraces = false) (G : Nat) (a0 : Rf) (a1 : Int32) (a2 : Int32) (a3 : Int32) (w : St) : SimN l D H0 yX3_planned (ws_ yX3_planned cX3_planned 4 (some (.int))) 1 21 rvI [lR a0, lI a1, lI a2, lI a3] w (f_X3_planned G a0 a1 a2 a3 w) := SimX.N (SimX.ofV (y := yX3_planned) (by decide) rfl (t_X3_planned hl G a0 a1 a2 a3 w))
abbrev V_X3_into (l : Launch) (D : Dn) (H0 : Heap) (w0 : St) (res : Option (Int32 × St)) (pc : Nat) (ls : List (Nat × LV)) (st : List Value) (w : St) : Prop := V l D H0 RX3 "into" cX3_into 2 (some (.int)) [] 0 0 (fun x => .inr (rvI x)) w0 res pc ls st w
theorem t_X3_into {l : Launch} {D : Dn} {H0 : Heap} {w0 : St} (hl : l.stackTraces = false) (G : Nat) (a0 : Rf) (a1 : Int32) (w : St) : V_X3_into l D H0 w0 (f_X3_into G a0 a1 w) 0 [(0, lR a0), (1, lI a1)] [] w := by
  unfold f_X3_into
  refine r_aload_n 1 0 dX3_into_0 rfl rfl rfl ?_
  refine r_getr 4 gf_X3_9 dX3_into_1 rfl (fun x1 => ?_)
  refine r_iconst (v := 4) 5 dX3_into_4 rfl rfl ?_
  refine r_iconst (v := 2) 6 dX3_into_5 rfl rfl ?_
  refine r_iload_n 7 1 dX3_into_6 rfl rfl rfl ?_
  refine r_imul 8 dX3_into_7 rfl ?_
  refine r_iadd 9 dX3_into_8 rfl ?_
  refine r_iconst (v := 1) 10 dX3_into_9 rfl rfl ?_
  refine r_iadd 11 dX3_into_10 rfl ?_
  refine r_iald 12 dX3_into_11 rfl (fun x11 => ?_)
  refine r_iconst (v := 1) 13 dX3_into_12 rfl rfl ?_
  refine r_isub 14 dX3_into_13 rfl ?_
  exact r_iret rfl rfl dX3_into_14
theorem s_X3_into {l : Launch} {D : Dn} {H0 : Heap} (hl : l.stackTraces = false) (G : Nat) (a0 : Rf) (a1 : Int32) (w : St) : SimN l D H0 yX3_into (ws_ yX3_into cX3_into 2 (some (.int))) 0 0 rvI [lR a0, lI a1] w (f_X3_into G a0 a1 w) := SimX.N (SimX.ofV (y := yX3_into) (by decide) rfl (t_X3_into hl G a0 a1 w))
abbrev V_X3_stops (l : Launch) (D : Dn) (H0 : Heap) (w0 : St) (res : Option (Int32 × St)) (pc : Nat) (ls : List (Nat × LV)) (st : List Value) (w : St) : Prop := V l D H0 RX3 "stops" cX3_stops 2 (some (.int)) [] 0 0 (fun x => .inr (rvI x)) w0 res pc ls st w
theorem t_X3_stops {l : Launch} {D : Dn} {H0 : Heap} {w0 : St} (hl : l.stackTraces = false) (G : Nat) (a0 : Rf) (a1 : Int32) (w : St) : V_X3_stops l D H0 w0 (f_X3_stops G a0 a1 w) 0 [(0, lR a0), (1, lI a1)] [] w := by
  unfold f_X3_stops
  refine r_aload_n 1 0 dX3_stops_0 rfl rfl rfl ?_
  refine r_getr 4 gf_X3_9 dX3_stops_1 rfl (fun x1 => ?_)
  refine r_iconst (v := 4) 5 dX3_stops_4 rfl rfl ?_
  refine r_iconst (v := 2) 6 dX3_stops_5 rfl rfl ?_
  refine r_iload_n 7 1 dX3_stops_6 rfl rfl rfl ?_
  refine r_imul 8 dX3_stops_7 rfl ?_
  refine r_iadd 9 dX3_stops_8 rfl ?_
  refine r_iald 10 dX3_stops_9 rfl (fun x9 => ?_)
  exact r_iret rfl rfl dX3_stops_10
theorem s_X3_stops {l : Launch} {D : Dn} {H0 : Heap} (hl : l.stackTraces = false) (G : Nat) (a0 : Rf) (a1 : Int32) (w : St) : SimN l D H0 yX3_stops (ws_ yX3_stops cX3_stops 2 (some (.int))) 0 0 rvI [lR a0, lI a1] w (f_X3_stops G a0 a1 w) := SimX.N (SimX.ofV (y := yX3_stops) (by decide) rfl (t_X3_stops hl G a0 a1 w))
abbrev V_X3_isCoach (l : Launch) (D : Dn) (H0 : Heap) (w0 : St) (res : Option (Int32 × St)) (pc : Nat) (ls : List (Nat × LV)) (st : List Value) (w : St) : Prop := V l D H0 RX3 "isCoach" cX3_isCoach 2 (some (.boolean)) [] 1 25 (fun x => .inr (rvI x)) w0 res pc ls st w
theorem t_X3_isCoach {l : Launch} {D : Dn} {H0 : Heap} {w0 : St} (hl : l.stackTraces = false) (G : Nat) (a0 : Rf) (a1 : Int32) (w : St) : V_X3_isCoach l D H0 w0 (f_X3_isCoach G a0 a1 w) 0 [(0, lR a0), (1, lI a1)] [] w := by
  unfold f_X3_isCoach
  refine r_iload_n 1 1 dX3_isCoach_0 rfl rfl rfl ?_
  refine r_i2l 2 dX3_isCoach_1 rfl ?_
  refine r_lconst (v := 0) 3 dX3_isCoach_2 rfl rfl ?_
  refine r_aload_n 4 0 dX3_isCoach_3 rfl rfl rfl ?_
  refine r_getr 7 gf_X3_9 dX3_isCoach_4 rfl (fun x4 => ?_)
  refine r_iconst (v := 0) 8 dX3_isCoach_7 rfl rfl ?_
  refine r_iald 9 dX3_isCoach_8 rfl (fun x8 => ?_)
  refine r_iconst (v := 1) 10 dX3_isCoach_9 rfl rfl ?_
  refine r_isub 11 dX3_isCoach_10 rfl ?_
  refine r_i2l 12 dX3_isCoach_11 rfl ?_
  refine r_callS (n := 3) (as := [lJ a1.toInt64, lJ 0, lJ ((x8 - 1).toInt64)]) (rest := []) 15 (s_X3_in hl G a1.toInt64 0 ((x8 - 1).toInt64) w) (lw_S q2290 q2291 q110 q2292) (by decide +kernel) (by decide) rfl rfl (cat2_nil (k := 0)) rfl dX3_isCoach_12 rfl (fun x12 w12 => ?_)
  exact r_zretG rfl rfl dX3_isCoach_15
theorem s_X3_isCoach {l : Launch} {D : Dn} {H0 : Heap} (hl : l.stackTraces = false) (G : Nat) (a0 : Rf) (a1 : Int32) (w : St) : SimN l D H0 yX3_isCoach (ws_ yX3_isCoach cX3_isCoach 2 (some (.boolean))) 1 25 rvI [lR a0, lI a1] w (f_X3_isCoach G a0 a1 w) := SimX.N (SimX.ofV (y := yX3_isCoach) (by decide) rfl (t_X3_isCoach hl G a0 a1 w))
abbrev V_X3_legIt (l : Launch) (D : Dn) (H0 : Heap) (w0 : St) (res : Option (Int32 × St)) (pc : Nat) (ls : List (Nat × LV)) (st : List Value) (w : St) : Prop := V l D H0 RX3 "legIt" cX3_legIt 5 (some (.int)) [] 2 46 (fun x => .inr (rvI x)) w0 res pc ls st w
theorem t_X3_legIt_b81 {l : Launch} {D : Dn} {H0 : Heap} {w0 : St} (hl : l.stackTraces = false) (G : Nat) (k17 : Rf → Int32 → Int32 → St → Option (Int32 × St)) (h17 : ∀ v0 v1 v2 w, V_X3_legIt l D H0 w0 (k17 v0 v1 v2 w) 17 [(0, lR v0), (1, lI v1), (2, lI v2)] [] w) (v0 : Rf) (v1 : Int32) (v2 : Int32) (w : St) : V_X3_legIt l D H0 w0 (f_X3_legIt_b81 G k17 v0 v1 v2 w) 81 [(0, lR v0), (1, lI v1), (2, lI v2)] [] w := by
  unfold f_X3_legIt_b81
  refine r_iinc (v := v2 + 1) (ls2 := [(2, lI (v2 + 1)), (0, lR v0), (1, lI v1)]) 84 2 dX3_legIt_81 rfl rfl (by decide) rfl rfl ?_
  refine r_goto 17 dX3_legIt_84 (by decide) ?_
  exact r_lsP [1, 2, 0] rfl (h17 v0 v1 (v2 + 1) w)
theorem t_X3_legIt_l17 {l : Launch} {D : Dn} {H0 : Heap} {w0 : St} (hl : l.stackTraces = false) (G : Nat) (k69 : Rf → Int32 → St → Option (Int32 × St)) (h69 : ∀ v0 v2 w, V_X3_legIt l D H0 w0 (k69 v0 v2 w) 69 [(0, lR v0), (2, lI v2)] [] w) (k87 : Rf → Int32 → St → Option (Int32 × St)) (h87 : ∀ v0 v1 w, V_X3_legIt l D H0 w0 (k87 v0 v1 w) 87 [(0, lR v0), (1, lI v1)] [] w) : ∀ (F : Nat) (v0 : Rf) (v1 : Int32) (v2 : Int32) (w : St), V_X3_legIt l D H0 w0 (f_X3_legIt_l17 G k69 k87 F v0 v1 v2 w) 17 [(0, lR v0), (1, lI v1), (2, lI v2)] [] w := by
  intro F
  induction F with
  | zero => intros; exact r_none
  | succ F ih =>
    intro v0 v1 v2 w
    unfold f_X3_legIt_l17
    refine r_iload_n 18 2 dX3_legIt_17 rfl rfl rfl ?_
    refine r_iconst (v := 5) 19 dX3_legIt_18 rfl rfl ?_
    refine r_icmp_ge 87 22 dX3_legIt_19 (by decide) rfl ?_ ?_
    · exact r_lsP [0, 1] rfl (h87 v0 v1 w)
    refine r_aload_n 23 0 dX3_legIt_22 rfl rfl rfl ?_
    refine r_getr 26 gf_X3_29 dX3_legIt_23 rfl (fun x23 => ?_)
    refine r_iload_n 27 2 dX3_legIt_26 rfl rfl rfl ?_
    refine r_iald 28 dX3_legIt_27 rfl (fun x27 => ?_)
    refine r_i2l 29 dX3_legIt_28 rfl ?_
    refine r_aload_n 30 0 dX3_legIt_29 rfl rfl rfl ?_
    refine r_getr 33 gf_X3_32 dX3_legIt_30 rfl (fun x30 => ?_)
    refine r_iload_n 34 2 dX3_legIt_33 rfl rfl rfl ?_
    refine r_iald 35 dX3_legIt_34 rfl (fun x34 => ?_)
    refine r_i2l 36 dX3_legIt_35 rfl ?_
    refine r_aload_n 37 0 dX3_legIt_36 rfl rfl rfl ?_
    refine r_getr 40 gf_X3_35 dX3_legIt_37 rfl (fun x37 => ?_)
    refine r_iload_n 41 2 dX3_legIt_40 rfl rfl rfl ?_
    refine r_iald 42 dX3_legIt_41 rfl (fun x41 => ?_)
    refine r_i2l 43 dX3_legIt_42 rfl ?_
    refine r_callS (n := 3) (as := [lJ x27.toInt64, lJ x34.toInt64, lJ x41.toInt64]) (rest := []) 46 (s_X3_in hl G x27.toInt64 x34.toInt64 x41.toInt64 w) (lw_S q2290 q2291 q110 q2292) (by decide +kernel) (by decide) rfl rfl (cat2_nil (k := 0)) rfl dX3_legIt_43 rfl (fun x43 w43 => ?_)
    refine r_if_eq 69 49 dX3_legIt_46 (by decide) rfl ?_ ?_
    · exact r_lsP [0, 2] rfl (h69 v0 v2 w43)
    refine r_iload_n 50 2 dX3_legIt_49 rfl rfl rfl ?_
    refine r_iconst (v := 4) 51 dX3_legIt_50 rfl rfl ?_
    refine r_icmp_ne 81 54 dX3_legIt_51 (by decide) rfl ?_ ?_
    · exact r_lsP [0, 1, 2] rfl (t_X3_legIt_b81 hl G (fun v0 v1 v2 w => f_X3_legIt_l17 G k69 k87 F v0 v1 v2 w) (fun v0 v1 v2 w => ih v0 v1 v2 w)  v0 v1 v2 w43)
    refine r_aload_n 55 0 dX3_legIt_54 rfl rfl rfl ?_
    refine r_getr 58 gf_X3_29 dX3_legIt_55 rfl (fun x55 => ?_)
    refine r_iload_n 59 2 dX3_legIt_58 rfl rfl rfl ?_
    refine r_iald 60 dX3_legIt_59 rfl (fun x59 => ?_)
    refine r_aload_n 61 0 dX3_legIt_60 rfl rfl rfl ?_
    refine r_getr 64 gf_X3_29 dX3_legIt_61 rfl (fun x61 => ?_)
    refine r_iconst (v := 3) 65 dX3_legIt_64 rfl rfl ?_
    refine r_iald 66 dX3_legIt_65 rfl (fun x65 => ?_)
    refine r_icmp_le 81 69 dX3_legIt_66 (by decide) rfl ?_ ?_
    · exact r_lsP [0, 1, 2] rfl (t_X3_legIt_b81 hl G (fun v0 v1 v2 w => f_X3_legIt_l17 G k69 k87 F v0 v1 v2 w) (fun v0 v1 v2 w => ih v0 v1 v2 w)  v0 v1 v2 w43)
    exact r_lsP [0, 2] rfl (h69 v0 v2 w43)
theorem t_X3_legIt_b69 {l : Launch} {D : Dn} {H0 : Heap} {w0 : St} (hl : l.stackTraces = false) (G : Nat) (v0 : Rf) (v2 : Int32) (w : St) : V_X3_legIt l D H0 w0 (f_X3_legIt_b69 G v0 v2 w) 69 [(0, lR v0), (2, lI v2)] [] w := by
  unfold f_X3_legIt_b69
  refine r_aload_n 70 0 dX3_legIt_69 rfl rfl rfl ?_
  refine r_iconst (v := 1) 71 dX3_legIt_70 rfl rfl ?_
  refine r_aload_n 72 0 dX3_legIt_71 rfl rfl rfl ?_
  refine r_getr 75 gf_X3_29 dX3_legIt_72 rfl (fun x72 => ?_)
  refine r_iload_n 76 1 dX3_legIt_75 rfl rfl rfl ?_
  refine r_iald 77 dX3_legIt_76 rfl (fun x76 => ?_)
  refine r_gd (fun hc77 => ?_)
  refine r_callV (n := 2) (as := [lI 1, lI x76]) (rest := []) 80 26 (s_X3_refuse hl G v0 1 x76 w) hc77 rfl (lw_V q2294 q2296 qs41 q110 q2297) (by decide +kernel) (by decide) rfl rfl (cat2_nil (k := 0)) rfl dX3_legIt_77 rfl (fun x77 w77 => ?_)
  exact r_iret rfl rfl dX3_legIt_80
theorem t_X3_legIt_l137 {l : Launch} {D : Dn} {H0 : Heap} {w0 : St} (hl : l.stackTraces = false) (G : Nat) (k165 : Rf → Int32 → Int32 → Int32 → St → Option (Int32 × St)) (h165 : ∀ v0 v1 v2 v3 w, V_X3_legIt l D H0 w0 (k165 v0 v1 v2 v3 w) 165 [(0, lR v0), (1, lI v1), (2, lI v2), (3, lI v3)] [] w) : ∀ (F : Nat) (v0 : Rf) (v1 : Int32) (v2 : Int32) (v3 : Int32) (v4 : Int32) (w : St), V_X3_legIt l D H0 w0 (f_X3_legIt_l137 G k165 F v0 v1 v2 v3 v4 w) 137 [(0, lR v0), (1, lI v1), (2, lI v2), (3, lI v3), (4, lI v4)] [] w := by
  intro F
  induction F with
  | zero => intros; exact r_none
  | succ F ih =>
    intro v0 v1 v2 v3 v4 w
    unfold f_X3_legIt_l137
    refine r_iload 139 4 dX3_legIt_137 rfl rfl ?_
    refine r_iconst (v := 5) 140 dX3_legIt_139 rfl rfl ?_
    refine r_icmp_ge 165 143 dX3_legIt_140 (by decide) rfl ?_ ?_
    · exact r_lsP [0, 1, 2, 3] rfl (h165 v0 v1 v2 v3 w)
    refine r_aload_n 144 0 dX3_legIt_143 rfl rfl rfl ?_
    refine r_getr 147 gf_X3_9 dX3_legIt_144 rfl (fun x144 => ?_)
    refine r_iload_n 148 3 dX3_legIt_147 rfl rfl rfl ?_
    refine r_iload 150 4 dX3_legIt_148 rfl rfl ?_
    refine r_iadd 151 dX3_legIt_150 rfl ?_
    refine r_aload_n 152 0 dX3_legIt_151 rfl rfl rfl ?_
    refine r_getr 155 gf_X3_29 dX3_legIt_152 rfl (fun x152 => ?_)
    refine r_iload 157 4 dX3_legIt_155 rfl rfl ?_
    refine r_iald 158 dX3_legIt_157 rfl (fun x157 => ?_)
    refine r_iast 159 dX3_legIt_158 rfl (fun w158 => ?_)
    refine r_iinc (v := v4 + 1) (ls2 := [(4, lI (v4 + 1)), (0, lR v0), (1, lI v1), (2, lI v2), (3, lI v3)]) 162 4 dX3_legIt_159 rfl rfl (by decide) rfl rfl ?_
    refine r_goto 137 dX3_legIt_162 (by decide) ?_
    exact r_lsP [1, 2, 3, 4, 0] rfl (ih v0 v1 v2 v3 (v4 + 1) w158)
theorem t_X3_legIt_b165 {l : Launch} {D : Dn} {H0 : Heap} {w0 : St} (hl : l.stackTraces = false) (G : Nat) (v0 : Rf) (v1 : Int32) (v2 : Int32) (v3 : Int32) (w : St) : V_X3_legIt l D H0 w0 (f_X3_legIt_b165 G v0 v1 v2 v3 w) 165 [(0, lR v0), (1, lI v1), (2, lI v2), (3, lI v3)] [] w := by
  unfold f_X3_legIt_b165
  refine r_aload_n 166 0 dX3_legIt_165 rfl rfl rfl ?_
  refine r_getr 169 gf_X3_9 dX3_legIt_166 rfl (fun x166 => ?_)
  refine r_iload_n 170 3 dX3_legIt_169 rfl rfl rfl ?_
  refine r_iconst (v := 5) 171 dX3_legIt_170 rfl rfl ?_
  refine r_iadd 172 dX3_legIt_171 rfl ?_
  refine r_iconst (v := 0) 173 dX3_legIt_172 rfl rfl ?_
  refine r_iast 174 dX3_legIt_173 rfl (fun w173 => ?_)
  refine r_aload_n 175 0 dX3_legIt_174 rfl rfl rfl ?_
  refine r_getr 178 gf_X3_9 dX3_legIt_175 rfl (fun x175 => ?_)
  refine r_iload_n 179 3 dX3_legIt_178 rfl rfl rfl ?_
  refine r_iconst (v := 5) 180 dX3_legIt_179 rfl rfl ?_
  refine r_iadd 181 dX3_legIt_180 rfl ?_
  refine r_iconst (v := 1) 182 dX3_legIt_181 rfl rfl ?_
  refine r_iadd 183 dX3_legIt_182 rfl ?_
  refine r_iconst (v := 0) 184 dX3_legIt_183 rfl rfl ?_
  refine r_iast 185 dX3_legIt_184 rfl (fun w184 => ?_)
  refine r_aload_n 186 0 dX3_legIt_185 rfl rfl rfl ?_
  refine r_getr 189 gf_X3_9 dX3_legIt_186 rfl (fun x186 => ?_)
  refine r_iload_n 190 3 dX3_legIt_189 rfl rfl rfl ?_
  refine r_bipush (v := 7) 192 dX3_legIt_190 rfl rfl ?_
  refine r_iadd 193 dX3_legIt_192 rfl ?_
  refine r_aload_n 194 0 dX3_legIt_193 rfl rfl rfl ?_
  refine r_iload_n 195 1 dX3_legIt_194 rfl rfl rfl ?_
  refine r_iload_n 196 2 dX3_legIt_195 rfl rfl rfl ?_
  refine r_iconst (v := 1) 197 dX3_legIt_196 rfl rfl ?_
  refine r_isub 198 dX3_legIt_197 rfl ?_
  refine r_iconst (v := 1) 199 dX3_legIt_198 rfl rfl ?_
  refine r_gd (fun hc199 => ?_)
  refine r_callV (n := 3) (as := [lI v1, lI (v2 - 1), lI 1]) (rest := [.int (v3 + 7), rf x186]) 202 26 (s_X3_planned hl G v0 v1 (v2 - 1) 1 w184) hc199 rfl (lw_V q2329 q2331 qs48 q110 q2332) (by decide +kernel) (by decide) rfl rfl (cat2_i (cat2_r (cat2_nil (k := 0)))) rfl dX3_legIt_199 rfl (fun x199 w199 => ?_)
  refine r_aload_n 203 0 dX3_legIt_202 rfl rfl rfl ?_
  refine r_getr 206 gf_X3_29 dX3_legIt_203 rfl (fun x203 => ?_)
  refine r_iconst (v := 1) 207 dX3_legIt_206 rfl rfl ?_
  refine r_iald 208 dX3_legIt_207 rfl (fun x207 => ?_)
  refine r_iadd 209 dX3_legIt_208 rfl ?_
  refine r_aload_n 210 0 dX3_legIt_209 rfl rfl rfl ?_
  refine r_getr 213 gf_X3_29 dX3_legIt_210 rfl (fun x210 => ?_)
  refine r_iconst (v := 2) 214 dX3_legIt_213 rfl rfl ?_
  refine r_iald 215 dX3_legIt_214 rfl (fun x214 => ?_)
  refine r_iadd 216 dX3_legIt_215 rfl ?_
  refine r_iast 217 dX3_legIt_216 rfl (fun w216 => ?_)
  refine r_aload_n 218 0 dX3_legIt_217 rfl rfl rfl ?_
  refine r_getr 221 gf_X3_9 dX3_legIt_218 rfl (fun x218 => ?_)
  refine r_iload_n 222 3 dX3_legIt_221 rfl rfl rfl ?_
  refine r_bipush (v := 7) 224 dX3_legIt_222 rfl rfl ?_
  refine r_iadd 225 dX3_legIt_224 rfl ?_
  refine r_iconst (v := 1) 226 dX3_legIt_225 rfl rfl ?_
  refine r_iadd 227 dX3_legIt_226 rfl ?_
  refine r_aload_n 228 0 dX3_legIt_227 rfl rfl rfl ?_
  refine r_getr 231 gf_X3_9 dX3_legIt_228 rfl (fun x228 => ?_)
  refine r_iload_n 232 3 dX3_legIt_231 rfl rfl rfl ?_
  refine r_bipush (v := 7) 234 dX3_legIt_232 rfl rfl ?_
  refine r_iadd 235 dX3_legIt_234 rfl ?_
  refine r_iald 236 dX3_legIt_235 rfl (fun x235 => ?_)
  refine r_aload_n 237 0 dX3_legIt_236 rfl rfl rfl ?_
  refine r_getr 240 gf_X3_29 dX3_legIt_237 rfl (fun x237 => ?_)
  refine r_iconst (v := 3) 241 dX3_legIt_240 rfl rfl ?_
  refine r_iald 242 dX3_legIt_241 rfl (fun x241 => ?_)
  refine r_iadd 243 dX3_legIt_242 rfl ?_
  refine r_iast 244 dX3_legIt_243 rfl (fun w243 => ?_)
  refine r_aload_n 245 0 dX3_legIt_244 rfl rfl rfl ?_
  refine r_getr 248 gf_X3_9 dX3_legIt_245 rfl (fun x245 => ?_)
  refine r_iconst (v := 4) 249 dX3_legIt_248 rfl rfl ?_
  refine r_iconst (v := 2) 250 dX3_legIt_249 rfl rfl ?_
  refine r_iload_n 251 1 dX3_legIt_250 rfl rfl rfl ?_
  refine r_imul 252 dX3_legIt_251 rfl ?_
  refine r_iadd 253 dX3_legIt_252 rfl ?_
  refine r_dup2_ir 254 dX3_legIt_253 rfl ?_
  refine r_iald 255 dX3_legIt_254 rfl (fun x254 => ?_)
  refine r_iconst (v := 1) 256 dX3_legIt_255 rfl rfl ?_
  refine r_iadd 257 dX3_legIt_256 rfl ?_
  refine r_iast 258 dX3_legIt_257 rfl (fun w257 => ?_)
  refine r_aload_n 259 0 dX3_legIt_258 rfl rfl rfl ?_
  refine r_getr 262 gf_X3_9 dX3_legIt_259 rfl (fun x259 => ?_)
  refine r_iload_n 263 3 dX3_legIt_262 rfl rfl rfl ?_
  refine r_bipush (v := 7) 265 dX3_legIt_263 rfl rfl ?_
  refine r_iadd 266 dX3_legIt_265 rfl ?_
  refine r_iald 267 dX3_legIt_266 rfl (fun x266 => ?_)
  exact r_iret rfl rfl dX3_legIt_267
theorem t_X3_legIt_b87 {l : Launch} {D : Dn} {H0 : Heap} {w0 : St} (hl : l.stackTraces = false) (G : Nat) (v0 : Rf) (v1 : Int32) (w : St) : V_X3_legIt l D H0 w0 (f_X3_legIt_b87 G v0 v1 w) 87 [(0, lR v0), (1, lI v1)] [] w := by
  unfold f_X3_legIt_b87
  refine r_aload_n 88 0 dX3_legIt_87 rfl rfl rfl ?_
  refine r_iload_n 89 1 dX3_legIt_88 rfl rfl rfl ?_
  refine r_gd (fun hc89 => ?_)
  refine r_callV (n := 1) (as := [lI v1]) (rest := []) 92 26 (s_X3_into hl G v0 v1 w) hc89 rfl (lw_V q2321 q2323 qs46 q110 q2324) (by decide +kernel) (by decide) rfl rfl (cat2_nil (k := 0)) rfl dX3_legIt_89 rfl (fun x89 w89 => ?_)
  refine r_iconst (v := (-1)) 93 dX3_legIt_92 rfl rfl ?_
  refine r_icmp_eq 104 96 dX3_legIt_93 (by decide) rfl ?_ ?_
  · refine r_aload_n 105 0 dX3_legIt_104 rfl rfl rfl ?_
    refine r_iload_n 106 1 dX3_legIt_105 rfl rfl rfl ?_
    refine r_gd (fun hc106 => ?_)
    refine r_callV (n := 1) (as := [lI v1]) (rest := []) 109 26 (s_X3_stops hl G v0 v1 w89) hc106 rfl (lw_V q2325 q2327 qs47 q110 q2328) (by decide +kernel) (by decide) rfl rfl (cat2_nil (k := 0)) rfl dX3_legIt_106 rfl (fun x106 w106 => ?_)
    refine r_bipush (v := 6) 111 dX3_legIt_109 rfl rfl ?_
    refine r_icmp_ne 122 114 dX3_legIt_111 (by decide) rfl ?_ ?_
    · refine r_aload_n 123 0 dX3_legIt_122 rfl rfl rfl ?_
      refine r_iload_n 124 1 dX3_legIt_123 rfl rfl rfl ?_
      refine r_gd (fun hc124 => ?_)
      refine r_callV (n := 1) (as := [lI v1]) (rest := []) 127 26 (s_X3_stops hl G v0 v1 w106) hc124 rfl (lw_V q2325 q2327 qs47 q110 q2328) (by decide +kernel) (by decide) rfl rfl (cat2_nil (k := 0)) rfl dX3_legIt_124 rfl (fun x124 w124 => ?_)
      refine r_istore_n (ls2 := [(2, lI x124), (0, lR v0), (1, lI v1)]) 128 dX3_legIt_127 rfl (by decide) rfl rfl ?_
      refine r_iload_n 129 2 dX3_legIt_128 rfl rfl rfl ?_
      refine r_iload_n 130 0 dX3_legIt_129 rfl rfl rfl ?_
      refine r_callS (n := 2) (as := [lI v1, lI x124]) (rest := []) 133 (s_X3_ofStop hl G v1 x124 w124) (lw_S q2302 q2303 q110 q2304) (by decide +kernel) (by decide) rfl rfl (cat2_nil (k := 0)) rfl dX3_legIt_130 rfl (fun x130 w130 => ?_)
      refine r_istore_n (ls2 := [(3, lI x130), (2, lI x124), (0, lR v0), (1, lI v1)]) 134 dX3_legIt_133 rfl (by decide) rfl rfl ?_
      refine r_iconst (v := 0) 135 dX3_legIt_134 rfl rfl ?_
      refine r_istore (ls2 := [(4, lI 0), (3, lI x130), (2, lI x124), (0, lR v0), (1, lI v1)]) 137 dX3_legIt_135 (by decide) rfl rfl ?_
      exact r_lsP [3, 4, 2, 1, 0] rfl (t_X3_legIt_l137 hl G (fun v0 v1 v2 v3 w => f_X3_legIt_b165 G  v0 v1 v2 v3 w) (fun v0 v1 v2 v3 w => t_X3_legIt_b165 hl G  v0 v1 v2 v3 w) G v0 v1 x124 x130 0 w130)
    refine r_aload_n 115 0 dX3_legIt_114 rfl rfl rfl ?_
    refine r_iconst (v := 2) 116 dX3_legIt_115 rfl rfl ?_
    refine r_bipush (v := 6) 118 dX3_legIt_116 rfl rfl ?_
    refine r_gd (fun hc118 => ?_)
    refine r_callV (n := 2) (as := [lI 2, lI 6]) (rest := []) 121 26 (s_X3_refuse hl G v0 2 6 w106) hc118 rfl (lw_V q2294 q2296 qs41 q110 q2297) (by decide +kernel) (by decide) rfl rfl (cat2_nil (k := 0)) rfl dX3_legIt_118 rfl (fun x118 w118 => ?_)
    exact r_iret rfl rfl dX3_legIt_121
  refine r_aload_n 97 0 dX3_legIt_96 rfl rfl rfl ?_
  refine r_bipush (v := 9) 99 dX3_legIt_97 rfl rfl ?_
  refine r_iload_n 100 1 dX3_legIt_99 rfl rfl rfl ?_
  refine r_gd (fun hc100 => ?_)
  refine r_callV (n := 2) (as := [lI 9, lI v1]) (rest := []) 103 26 (s_X3_refuse hl G v0 9 v1 w89) hc100 rfl (lw_V q2294 q2296 qs41 q110 q2297) (by decide +kernel) (by decide) rfl rfl (cat2_nil (k := 0)) rfl dX3_legIt_100 rfl (fun x100 w100 => ?_)
  exact r_iret rfl rfl dX3_legIt_103
theorem t_X3_legIt {l : Launch} {D : Dn} {H0 : Heap} {w0 : St} (hl : l.stackTraces = false) (G : Nat) (a0 : Rf) (a1 : Int32) (w : St) : V_X3_legIt l D H0 w0 (f_X3_legIt G a0 a1 w) 0 [(0, lR a0), (1, lI a1)] [] w := by
  unfold f_X3_legIt
  refine r_aload_n 1 0 dX3_legIt_0 rfl rfl rfl ?_
  refine r_iload_n 2 1 dX3_legIt_1 rfl rfl rfl ?_
  refine r_gd (fun hc2 => ?_)
  refine r_callV (n := 1) (as := [lI a1]) (rest := []) 5 26 (s_X3_isCoach hl G a0 a1 w) hc2 rfl (lw_V q2317 q2319 qs45 q110 q2320) (by decide +kernel) (by decide) rfl rfl (cat2_nil (k := 0)) rfl dX3_legIt_2 rfl (fun x2 w2 => ?_)
  refine r_if_ne 15 8 dX3_legIt_5 (by decide) rfl ?_ ?_
  · refine r_iconst (v := 0) 16 dX3_legIt_15 rfl rfl ?_
    refine r_istore_n (ls2 := [(2, lI 0), (0, lR a0), (1, lI a1)]) 17 dX3_legIt_16 rfl (by decide) rfl rfl ?_
    exact r_lsP [1, 2, 0] rfl (t_X3_legIt_l17 hl G (fun v0 v2 w => f_X3_legIt_b69 G  v0 v2 w) (fun v0 v2 w => t_X3_legIt_b69 hl G  v0 v2 w) (fun v0 v1 w => f_X3_legIt_b87 G  v0 v1 w) (fun v0 v1 w => t_X3_legIt_b87 hl G  v0 v1 w) G a0 a1 0 w2)
  refine r_aload_n 9 0 dX3_legIt_8 rfl rfl rfl ?_
  refine r_iconst (v := 3) 10 dX3_legIt_9 rfl rfl ?_
  refine r_iload_n 11 1 dX3_legIt_10 rfl rfl rfl ?_
  refine r_gd (fun hc11 => ?_)
  refine r_callV (n := 2) (as := [lI 3, lI a1]) (rest := []) 14 26 (s_X3_refuse hl G a0 3 a1 w2) hc11 rfl (lw_V q2294 q2296 qs41 q110 q2297) (by decide +kernel) (by decide) rfl rfl (cat2_nil (k := 0)) rfl dX3_legIt_11 rfl (fun x11 w11 => ?_)
  exact r_iret rfl rfl dX3_legIt_14
theorem s_X3_legIt {l : Launch} {D : Dn} {H0 : Heap} (hl : l.stackTraces = false) (G : Nat) (a0 : Rf) (a1 : Int32) (w : St) : SimN l D H0 yX3_legIt (ws_ yX3_legIt cX3_legIt 5 (some (.int))) 2 46 rvI [lR a0, lI a1] w (f_X3_legIt G a0 a1 w) := SimX.N (SimX.ofV (y := yX3_legIt) (by decide) rfl (t_X3_legIt hl G a0 a1 w))
abbrev V_X3_leg (l : Launch) (D : Dn) (H0 : Heap) (w0 : St) (res : Option (Int32 × St)) (pc : Nat) (ls : List (Nat × LV)) (st : List Value) (w : St) : Prop := V l D H0 RX3 "leg" cX3_leg 7 (some (.int)) [] 3 70 (fun x => .inr (rvI x)) w0 res pc ls st w
theorem t_X3_leg {l : Launch} {D : Dn} {H0 : Heap} {w0 : St} (hl : l.stackTraces = false) (G : Nat) (a0 : Rf) (a1 : Int32) (a2 : Int32) (a3 : Int32) (a4 : Int32) (a5 : Int32) (a6 : Int32) (w : St) : V_X3_leg l D H0 w0 (f_X3_leg G a0 a1 a2 a3 a4 a5 a6 w) 0 [(0, lR a0), (1, lI a1), (2, lI a2), (3, lI a3), (4, lI a4), (5, lI a5), (6, lI a6)] [] w := by
  unfold f_X3_leg
  refine r_aload_n 1 0 dX3_leg_0 rfl rfl rfl ?_
  refine r_gd (fun hc1 => ?_)
  refine r_callV (n := 0) (as := []) (rest := []) 4 26 (s_X3_starts hl G a0 w) hc1 rfl (lw_V q2281 q2283 qs39 q110 q2284) (by decide +kernel) (by decide) rfl rfl (cat2_nil (k := 0)) rfl dX3_leg_1 rfl (fun _ w1 => ?_)
  refine r_aload_n 5 0 dX3_leg_4 rfl rfl rfl ?_
  refine r_getr 8 gf_X3_29 dX3_leg_5 rfl (fun x5 => ?_)
  refine r_iconst (v := 0) 9 dX3_leg_8 rfl rfl ?_
  refine r_iload_n 10 2 dX3_leg_9 rfl rfl rfl ?_
  refine r_iast 11 dX3_leg_10 rfl (fun w10 => ?_)
  refine r_aload_n 12 0 dX3_leg_11 rfl rfl rfl ?_
  refine r_getr 15 gf_X3_29 dX3_leg_12 rfl (fun x12 => ?_)
  refine r_iconst (v := 1) 16 dX3_leg_15 rfl rfl ?_
  refine r_iload_n 17 3 dX3_leg_16 rfl rfl rfl ?_
  refine r_iast 18 dX3_leg_17 rfl (fun w17 => ?_)
  refine r_aload_n 19 0 dX3_leg_18 rfl rfl rfl ?_
  refine r_getr 22 gf_X3_29 dX3_leg_19 rfl (fun x19 => ?_)
  refine r_iconst (v := 2) 23 dX3_leg_22 rfl rfl ?_
  refine r_iload 25 4 dX3_leg_23 rfl rfl ?_
  refine r_iast 26 dX3_leg_25 rfl (fun w25 => ?_)
  refine r_aload_n 27 0 dX3_leg_26 rfl rfl rfl ?_
  refine r_getr 30 gf_X3_29 dX3_leg_27 rfl (fun x27 => ?_)
  refine r_iconst (v := 3) 31 dX3_leg_30 rfl rfl ?_
  refine r_iload 33 5 dX3_leg_31 rfl rfl ?_
  refine r_iast 34 dX3_leg_33 rfl (fun w33 => ?_)
  refine r_aload_n 35 0 dX3_leg_34 rfl rfl rfl ?_
  refine r_getr 38 gf_X3_29 dX3_leg_35 rfl (fun x35 => ?_)
  refine r_iconst (v := 4) 39 dX3_leg_38 rfl rfl ?_
  refine r_iload 41 6 dX3_leg_39 rfl rfl ?_
  refine r_iast 42 dX3_leg_41 rfl (fun w41 => ?_)
  refine r_aload_n 43 0 dX3_leg_42 rfl rfl rfl ?_
  refine r_aload_n 44 0 dX3_leg_43 rfl rfl rfl ?_
  refine r_iload_n 45 1 dX3_leg_44 rfl rfl rfl ?_
  refine r_gd (fun hc45 => ?_)
  refine r_callV (n := 1) (as := [lI a1]) (rest := [rf a0]) 48 26 (s_X3_legIt hl G a0 a1 w41) hc45 rfl (lw_V q2313 q2315 qs44 q110 q2316) (by decide +kernel) (by decide) rfl rfl (cat2_r (cat2_nil (k := 0))) rfl dX3_leg_45 rfl (fun x45 w45 => ?_)
  refine r_gd (fun hc48 => ?_)
  refine r_callV (n := 1) (as := [lI x45]) (rest := []) 51 26 (s_X3_changed hl G a0 x45 w45) hc48 rfl (lw_V q2305 q2307 qs43 q110 q2308) (by decide +kernel) (by decide) rfl rfl (cat2_nil (k := 0)) rfl dX3_leg_48 rfl (fun x48 w48 => ?_)
  exact r_iret rfl rfl dX3_leg_51
theorem s_X3_leg {l : Launch} {D : Dn} {H0 : Heap} (hl : l.stackTraces = false) (G : Nat) (a0 : Rf) (a1 : Int32) (a2 : Int32) (a3 : Int32) (a4 : Int32) (a5 : Int32) (a6 : Int32) (w : St) : SimN l D H0 yX3_leg (ws_ yX3_leg cX3_leg 7 (some (.int))) 3 70 rvI [lR a0, lI a1, lI a2, lI a3, lI a4, lI a5, lI a6] w (f_X3_leg G a0 a1 a2 a3 a4 a5 a6 w) := SimX.N (SimX.ofV (y := yX3_leg) (by decide) rfl (t_X3_leg hl G a0 a1 a2 a3 a4 a5 a6 w))
abbrev V_X3_turnsInto (l : Launch) (D : Dn) (H0 : Heap) (w0 : St) (res : Option (Int32 × St)) (pc : Nat) (ls : List (Nat × LV)) (st : List Value) (w : St) : Prop := V l D H0 RX3 "turnsInto" cX3_turnsInto 3 (some (.int)) [] 1 21 (fun x => .inr (rvI x)) w0 res pc ls st w
theorem t_X3_turnsInto_l2 {l : Launch} {D : Dn} {H0 : Heap} {w0 : St} (hl : l.stackTraces = false) (G : Nat) (k21 : Int32 → St → Option (Int32 × St)) (h21 : ∀ v2 w, V_X3_turnsInto l D H0 w0 (k21 v2 w) 21 [(2, lI v2)] [] w) (k29 : St → Option (Int32 × St)) (h29 : ∀ w, V_X3_turnsInto l D H0 w0 (k29 w) 29 [] [] w) : ∀ (F : Nat) (v0 : Rf) (v1 : Int32) (v2 : Int32) (w : St), V_X3_turnsInto l D H0 w0 (f_X3_turnsInto_l2 G k21 k29 F v0 v1 v2 w) 2 [(0, lR v0), (1, lI v1), (2, lI v2)] [] w := by
  intro F
  induction F with
  | zero => intros; exact r_none
  | succ F ih =>
    intro v0 v1 v2 w
    unfold f_X3_turnsInto_l2
    refine r_iload_n 3 2 dX3_turnsInto_2 rfl rfl rfl ?_
    refine r_aload_n 4 0 dX3_turnsInto_3 rfl rfl rfl ?_
    refine r_getr 7 gf_X3_9 dX3_turnsInto_4 rfl (fun x4 => ?_)
    refine r_iconst (v := 0) 8 dX3_turnsInto_7 rfl rfl ?_
    refine r_iald 9 dX3_turnsInto_8 rfl (fun x8 => ?_)
    refine r_icmp_ge 29 12 dX3_turnsInto_9 (by decide) rfl ?_ ?_
    · exact r_lsP [] rfl (h29 w)
    refine r_aload_n 13 0 dX3_turnsInto_12 rfl rfl rfl ?_
    refine r_iload_n 14 2 dX3_turnsInto_13 rfl rfl rfl ?_
    refine r_gd (fun hc14 => ?_)
    refine r_callV (n := 1) (as := [lI v2]) (rest := []) 17 26 (s_X3_into hl G v0 v2 w) hc14 rfl (lw_V q2321 q2323 qs46 q110 q2324) (by decide +kernel) (by decide) rfl rfl (cat2_nil (k := 0)) rfl dX3_turnsInto_14 rfl (fun x14 w14 => ?_)
    refine r_iload_n 18 1 dX3_turnsInto_17 rfl rfl rfl ?_
    refine r_icmp_ne 23 21 dX3_turnsInto_18 (by decide) rfl ?_ ?_
    · refine r_iinc (v := v2 + 1) (ls2 := [(2, lI (v2 + 1)), (0, lR v0), (1, lI v1)]) 26 2 dX3_turnsInto_23 rfl rfl (by decide) rfl rfl ?_
      refine r_goto 2 dX3_turnsInto_26 (by decide) ?_
      exact r_lsP [1, 2, 0] rfl (ih v0 v1 (v2 + 1) w14)
    exact r_lsP [2] rfl (h21 v2 w14)
theorem t_X3_turnsInto_b21 {l : Launch} {D : Dn} {H0 : Heap} {w0 : St} (hl : l.stackTraces = false) (G : Nat) (v2 : Int32) (w : St) : V_X3_turnsInto l D H0 w0 (f_X3_turnsInto_b21 G v2 w) 21 [(2, lI v2)] [] w := by
  unfold f_X3_turnsInto_b21
  refine r_iload_n 22 0 dX3_turnsInto_21 rfl rfl rfl ?_
  exact r_iret rfl rfl dX3_turnsInto_22
theorem t_X3_turnsInto_b29 {l : Launch} {D : Dn} {H0 : Heap} {w0 : St} (hl : l.stackTraces = false) (G : Nat) (w : St) : V_X3_turnsInto l D H0 w0 (f_X3_turnsInto_b29 G  w) 29 [] [] w := by
  unfold f_X3_turnsInto_b29
  refine r_iconst (v := (-1)) 30 dX3_turnsInto_29 rfl rfl ?_
  exact r_iret rfl rfl dX3_turnsInto_30
theorem t_X3_turnsInto {l : Launch} {D : Dn} {H0 : Heap} {w0 : St} (hl : l.stackTraces = false) (G : Nat) (a0 : Rf) (a1 : Int32) (w : St) : V_X3_turnsInto l D H0 w0 (f_X3_turnsInto G a0 a1 w) 0 [(0, lR a0), (1, lI a1)] [] w := by
  unfold f_X3_turnsInto
  refine r_iconst (v := 0) 1 dX3_turnsInto_0 rfl rfl ?_
  refine r_istore_n (ls2 := [(2, lI 0), (0, lR a0), (1, lI a1)]) 2 dX3_turnsInto_1 rfl (by decide) rfl rfl ?_
  exact r_lsP [1, 2, 0] rfl (t_X3_turnsInto_l2 hl G (fun v2 w => f_X3_turnsInto_b21 G  v2 w) (fun v2 w => t_X3_turnsInto_b21 hl G  v2 w) (fun w => f_X3_turnsInto_b29 G  w) (fun w => t_X3_turnsInto_b29 hl G  w) G a0 a1 0 w)
theorem s_X3_turnsInto {l : Launch} {D : Dn} {H0 : Heap} (hl : l.stackTraces = false) (G : Nat) (a0 : Rf) (a1 : Int32) (w : St) : SimN l D H0 yX3_turnsInto (ws_ yX3_turnsInto cX3_turnsInto 3 (some (.int))) 1 21 rvI [lR a0, lI a1] w (f_X3_turnsInto G a0 a1 w) := SimX.N (SimX.ofV (y := yX3_turnsInto) (by decide) rfl (t_X3_turnsInto hl G a0 a1 w))
abbrev V_X3_turnIt (l : Launch) (D : Dn) (H0 : Heap) (w0 : St) (res : Option (Int32 × St)) (pc : Nat) (ls : List (Nat × LV)) (st : List Value) (w : St) : Prop := V l D H0 RX3 "turnIt" cX3_turnIt 6 (some (.int)) [] 2 46 (fun x => .inr (rvI x)) w0 res pc ls st w
theorem t_X3_turnIt_b31 {l : Launch} {D : Dn} {H0 : Heap} {w0 : St} (hl : l.stackTraces = false) (G : Nat) (s0 : Int32) (s1 : Int32) (s2 : Rf) (w : St) : V_X3_turnIt l D H0 w0 (f_X3_turnIt_b31 G s0 s1 s2 w) 31 [] [.int s0, .int s1, rf s2] w := by
  unfold f_X3_turnIt_b31
  refine r_gd (fun hc31 => ?_)
  refine r_callV (n := 2) (as := [lI s1, lI s0]) (rest := []) 34 26 (s_X3_refuse hl G s2 s1 s0 w) hc31 rfl (lw_V q2294 q2296 qs41 q110 q2297) (by decide +kernel) (by decide) rfl rfl (cat2_nil (k := 0)) rfl dX3_turnIt_31 rfl (fun x31 w31 => ?_)
  exact r_iret rfl rfl dX3_turnIt_34
theorem t_X3_turnIt_b16 {l : Launch} {D : Dn} {H0 : Heap} {w0 : St} (hl : l.stackTraces = false) (G : Nat) (v0 : Rf) (v1 : Int32) (v2 : Int32) (w : St) : V_X3_turnIt l D H0 w0 (f_X3_turnIt_b16 G v0 v1 v2 w) 16 [(0, lR v0), (1, lI v1), (2, lI v2)] [] w := by
  unfold f_X3_turnIt_b16
  refine r_aload_n 17 0 dX3_turnIt_16 rfl rfl rfl ?_
  refine r_iconst (v := 3) 18 dX3_turnIt_17 rfl rfl ?_
  refine r_aload_n 19 0 dX3_turnIt_18 rfl rfl rfl ?_
  refine r_iload_n 20 1 dX3_turnIt_19 rfl rfl rfl ?_
  refine r_gd (fun hc20 => ?_)
  refine r_callV (n := 1) (as := [lI v1]) (rest := [.int 3, rf v0]) 23 26 (s_X3_isCoach hl G v0 v1 w) hc20 rfl (lw_V q2317 q2319 qs45 q110 q2320) (by decide +kernel) (by decide) rfl rfl (cat2_i (cat2_r (cat2_nil (k := 0)))) rfl dX3_turnIt_20 rfl (fun x20 w20 => ?_)
  refine r_if_eq 30 26 dX3_turnIt_23 (by decide) rfl ?_ ?_
  · refine r_iload_n 31 1 dX3_turnIt_30 rfl rfl rfl ?_
    exact r_lsP [] rfl (t_X3_turnIt_b31 hl G  v1 3 v0 w20)
  refine r_iload_n 27 2 dX3_turnIt_26 rfl rfl rfl ?_
  refine r_goto 31 dX3_turnIt_27 (by decide) ?_
  exact r_lsP [] rfl (t_X3_turnIt_b31 hl G  v2 3 v0 w20)
theorem t_X3_turnIt_b69 {l : Launch} {D : Dn} {H0 : Heap} {w0 : St} (hl : l.stackTraces = false) (G : Nat) (v0 : Rf) (w : St) : V_X3_turnIt l D H0 w0 (f_X3_turnIt_b69 G v0 w) 69 [(0, lR v0)] [] w := by
  unfold f_X3_turnIt_b69
  refine r_aload_n 70 0 dX3_turnIt_69 rfl rfl rfl ?_
  refine r_iconst (v := 4) 71 dX3_turnIt_70 rfl rfl ?_
  refine r_iconst (v := 0) 72 dX3_turnIt_71 rfl rfl ?_
  refine r_gd (fun hc72 => ?_)
  refine r_callV (n := 2) (as := [lI 4, lI 0]) (rest := []) 75 26 (s_X3_refuse hl G v0 4 0 w) hc72 rfl (lw_V q2294 q2296 qs41 q110 q2297) (by decide +kernel) (by decide) rfl rfl (cat2_nil (k := 0)) rfl dX3_turnIt_72 rfl (fun x72 w72 => ?_)
  exact r_iret rfl rfl dX3_turnIt_75
theorem t_X3_turnIt_b111 {l : Launch} {D : Dn} {H0 : Heap} {w0 : St} (hl : l.stackTraces = false) (G : Nat) (s0 : Int32) (s1 : Int32) (s2 : Rf) (w : St) : V_X3_turnIt l D H0 w0 (f_X3_turnIt_b111 G s0 s1 s2 w) 111 [] [.int s0, .int s1, rf s2] w := by
  unfold f_X3_turnIt_b111
  refine r_gd (fun hc111 => ?_)
  refine r_callV (n := 2) (as := [lI s1, lI s0]) (rest := []) 114 26 (s_X3_refuse hl G s2 s1 s0 w) hc111 rfl (lw_V q2294 q2296 qs41 q110 q2297) (by decide +kernel) (by decide) rfl rfl (cat2_nil (k := 0)) rfl dX3_turnIt_111 rfl (fun x111 w111 => ?_)
  exact r_iret rfl rfl dX3_turnIt_114
theorem t_X3_turnIt_b94 {l : Launch} {D : Dn} {H0 : Heap} {w0 : St} (hl : l.stackTraces = false) (G : Nat) (v0 : Rf) (v1 : Int32) (v2 : Int32) (w : St) : V_X3_turnIt l D H0 w0 (f_X3_turnIt_b94 G v0 v1 v2 w) 94 [(0, lR v0), (1, lI v1), (2, lI v2)] [] w := by
  unfold f_X3_turnIt_b94
  refine r_aload_n 95 0 dX3_turnIt_94 rfl rfl rfl ?_
  refine r_bipush (v := 9) 97 dX3_turnIt_95 rfl rfl ?_
  refine r_aload_n 98 0 dX3_turnIt_97 rfl rfl rfl ?_
  refine r_iload_n 99 1 dX3_turnIt_98 rfl rfl rfl ?_
  refine r_gd (fun hc99 => ?_)
  refine r_callV (n := 1) (as := [lI v1]) (rest := [.int 9, rf v0]) 102 26 (s_X3_into hl G v0 v1 w) hc99 rfl (lw_V q2321 q2323 qs46 q110 q2324) (by decide +kernel) (by decide) rfl rfl (cat2_i (cat2_r (cat2_nil (k := 0)))) rfl dX3_turnIt_99 rfl (fun x99 w99 => ?_)
  refine r_iconst (v := (-1)) 103 dX3_turnIt_102 rfl rfl ?_
  refine r_icmp_eq 110 106 dX3_turnIt_103 (by decide) rfl ?_ ?_
  · refine r_iload_n 111 2 dX3_turnIt_110 rfl rfl rfl ?_
    exact r_lsP [] rfl (t_X3_turnIt_b111 hl G  v2 9 v0 w99)
  refine r_iload_n 107 1 dX3_turnIt_106 rfl rfl rfl ?_
  refine r_goto 111 dX3_turnIt_107 (by decide) ?_
  exact r_lsP [] rfl (t_X3_turnIt_b111 hl G  v1 9 v0 w99)
theorem t_X3_turnIt {l : Launch} {D : Dn} {H0 : Heap} {w0 : St} (hl : l.stackTraces = false) (G : Nat) (a0 : Rf) (a1 : Int32) (a2 : Int32) (w : St) : V_X3_turnIt l D H0 w0 (f_X3_turnIt G a0 a1 a2 w) 0 [(0, lR a0), (1, lI a1), (2, lI a2)] [] w := by
  unfold f_X3_turnIt
  refine r_aload_n 1 0 dX3_turnIt_0 rfl rfl rfl ?_
  refine r_iload_n 2 1 dX3_turnIt_1 rfl rfl rfl ?_
  refine r_gd (fun hc2 => ?_)
  refine r_callV (n := 1) (as := [lI a1]) (rest := []) 5 26 (s_X3_isCoach hl G a0 a1 w) hc2 rfl (lw_V q2317 q2319 qs45 q110 q2320) (by decide +kernel) (by decide) rfl rfl (cat2_nil (k := 0)) rfl dX3_turnIt_2 rfl (fun x2 w2 => ?_)
  refine r_if_eq 16 8 dX3_turnIt_5 (by decide) rfl ?_ ?_
  · exact r_lsP [0, 1, 2] rfl (t_X3_turnIt_b16 hl G  a0 a1 a2 w2)
  refine r_aload_n 9 0 dX3_turnIt_8 rfl rfl rfl ?_
  refine r_iload_n 10 2 dX3_turnIt_9 rfl rfl rfl ?_
  refine r_gd (fun hc10 => ?_)
  refine r_callV (n := 1) (as := [lI a2]) (rest := []) 13 26 (s_X3_isCoach hl G a0 a2 w2) hc10 rfl (lw_V q2317 q2319 qs45 q110 q2320) (by decide +kernel) (by decide) rfl rfl (cat2_nil (k := 0)) rfl dX3_turnIt_10 rfl (fun x10 w10 => ?_)
  refine r_if_ne 35 16 dX3_turnIt_13 (by decide) rfl ?_ ?_
  · refine r_iload_n 36 1 dX3_turnIt_35 rfl rfl rfl ?_
    refine r_iload_n 37 2 dX3_turnIt_36 rfl rfl rfl ?_
    refine r_icmp_ne 48 40 dX3_turnIt_37 (by decide) rfl ?_ ?_
    · refine r_aload_n 49 0 dX3_turnIt_48 rfl rfl rfl ?_
      refine r_iload_n 50 1 dX3_turnIt_49 rfl rfl rfl ?_
      refine r_gd (fun hc50 => ?_)
      refine r_callV (n := 1) (as := [lI a1]) (rest := []) 53 26 (s_X3_stops hl G a0 a1 w10) hc50 rfl (lw_V q2325 q2327 qs47 q110 q2328) (by decide +kernel) (by decide) rfl rfl (cat2_nil (k := 0)) rfl dX3_turnIt_50 rfl (fun x50 w50 => ?_)
      refine r_iconst (v := 1) 54 dX3_turnIt_53 rfl rfl ?_
      refine r_isub 55 dX3_turnIt_54 rfl ?_
      refine r_istore_n (ls2 := [(3, lI (x50 - 1)), (0, lR a0), (1, lI a1), (2, lI a2)]) 56 dX3_turnIt_55 rfl (by decide) rfl rfl ?_
      refine r_iload_n 57 0 dX3_turnIt_56 rfl rfl rfl ?_
      refine r_if_eq 69 60 dX3_turnIt_57 (by decide) rfl ?_ ?_
      · exact r_lsP [1] rfl (t_X3_turnIt_b69 hl G  a0 w50)
      refine r_aload_n 61 1 dX3_turnIt_60 rfl rfl rfl ?_
      refine r_iload_n 62 3 dX3_turnIt_61 rfl rfl rfl ?_
      refine r_gd (fun hc62 => ?_)
      refine r_callV (n := 1) (as := [lI a2]) (rest := []) 65 26 (s_X3_stops hl G a0 a2 w50) hc62 rfl (lw_V q2325 q2327 qs47 q110 q2328) (by decide +kernel) (by decide) rfl rfl (cat2_nil (k := 0)) rfl dX3_turnIt_62 rfl (fun x62 w62 => ?_)
      refine r_iconst (v := 1) 66 dX3_turnIt_65 rfl rfl ?_
      refine r_icmp_ne 76 69 dX3_turnIt_66 (by decide) rfl ?_ ?_
      · refine r_aload_n 77 1 dX3_turnIt_76 rfl rfl rfl ?_
        refine r_iload_n 78 2 dX3_turnIt_77 rfl rfl rfl ?_
        refine r_gd (fun hc78 => ?_)
        refine r_callV (n := 1) (as := [lI a1]) (rest := []) 81 26 (s_X3_into hl G a0 a1 w62) hc78 rfl (lw_V q2321 q2323 qs46 q110 q2324) (by decide +kernel) (by decide) rfl rfl (cat2_nil (k := 0)) rfl dX3_turnIt_78 rfl (fun x78 w78 => ?_)
        refine r_iconst (v := (-1)) 82 dX3_turnIt_81 rfl rfl ?_
        refine r_icmp_ne 94 85 dX3_turnIt_82 (by decide) rfl ?_ ?_
        · exact r_lsP [1, 2, 3] rfl (t_X3_turnIt_b94 hl G  a0 a1 a2 w78)
        refine r_aload_n 86 1 dX3_turnIt_85 rfl rfl rfl ?_
        refine r_iload_n 87 3 dX3_turnIt_86 rfl rfl rfl ?_
        refine r_gd (fun hc87 => ?_)
        refine r_callV (n := 1) (as := [lI a2]) (rest := []) 90 26 (s_X3_turnsInto hl G a0 a2 w78) hc87 rfl (lw_V q2341 q2343 qs50 q110 q2344) (by decide +kernel) (by decide) rfl rfl (cat2_nil (k := 0)) rfl dX3_turnIt_87 rfl (fun x87 w87 => ?_)
        refine r_iconst (v := (-1)) 91 dX3_turnIt_90 rfl rfl ?_
        refine r_icmp_eq 115 94 dX3_turnIt_91 (by decide) rfl ?_ ?_
        · refine r_aload_n 116 1 dX3_turnIt_115 rfl rfl rfl ?_
          refine r_getr 119 gf_X3_9 dX3_turnIt_116 rfl (fun x116 => ?_)
          refine r_iload_n 120 3 dX3_turnIt_119 rfl rfl rfl ?_
          refine r_iconst (v := 0) 121 dX3_turnIt_120 rfl rfl ?_
          refine r_callS (n := 2) (as := [lI a2, lI 0]) (rest := [rf x116]) 124 (s_X3_ofStop hl G a2 0 w87) (lw_S q2302 q2303 q110 q2304) (by decide +kernel) (by decide) rfl rfl (cat2_r (cat2_nil (k := 0))) rfl dX3_turnIt_121 rfl (fun x121 w121 => ?_)
          refine r_iconst (v := 0) 125 dX3_turnIt_124 rfl rfl ?_
          refine r_iadd 126 dX3_turnIt_125 rfl ?_
          refine r_iald 127 dX3_turnIt_126 rfl (fun x126 => ?_)
          refine r_istore (ls2 := [(4, lI x126), (3, lI (x50 - 1)), (0, lR a0), (1, lI a1), (2, lI a2)]) 129 dX3_turnIt_127 (by decide) rfl rfl ?_
          refine r_aload_n 130 2 dX3_turnIt_129 rfl rfl rfl ?_
          refine r_getr 133 gf_X3_9 dX3_turnIt_130 rfl (fun x130 => ?_)
          refine r_iload_n 134 3 dX3_turnIt_133 rfl rfl rfl ?_
          refine r_iload_n 135 1 dX3_turnIt_134 rfl rfl rfl ?_
          refine r_callS (n := 2) (as := [lI a1, lI (x50 - 1)]) (rest := [rf x130]) 138 (s_X3_ofStop hl G a1 (x50 - 1) w121) (lw_S q2302 q2303 q110 q2304) (by decide +kernel) (by decide) rfl rfl (cat2_r (cat2_nil (k := 0))) rfl dX3_turnIt_135 rfl (fun x135 w135 => ?_)
          refine r_iconst (v := 0) 139 dX3_turnIt_138 rfl rfl ?_
          refine r_iadd 140 dX3_turnIt_139 rfl ?_
          refine r_iald 141 dX3_turnIt_140 rfl (fun x140 => ?_)
          refine r_iload 143 0 dX3_turnIt_141 rfl rfl ?_
          refine r_icmp_eq 155 146 dX3_turnIt_143 (by decide) rfl ?_ ?_
          · refine r_aload_n 156 2 dX3_turnIt_155 rfl rfl rfl ?_
            refine r_iload_n 157 4 dX3_turnIt_156 rfl rfl rfl ?_
            refine r_iconst (v := 0) 158 dX3_turnIt_157 rfl rfl ?_
            refine r_iconst (v := 1) 159 dX3_turnIt_158 rfl rfl ?_
            refine r_gd (fun hc159 => ?_)
            refine r_callV (n := 3) (as := [lI a2, lI 0, lI 1]) (rest := []) 162 26 (s_X3_planned hl G a0 a2 0 1 w135) hc159 rfl (lw_V q2329 q2331 qs48 q110 q2332) (by decide +kernel) (by decide) rfl rfl (cat2_nil (k := 0)) rfl dX3_turnIt_159 rfl (fun x159 w159 => ?_)
            refine r_aload_n 163 2 dX3_turnIt_162 rfl rfl rfl ?_
            refine r_iload_n 164 3 dX3_turnIt_163 rfl rfl rfl ?_
            refine r_iload_n 165 1 dX3_turnIt_164 rfl rfl rfl ?_
            refine r_iconst (v := 0) 166 dX3_turnIt_165 rfl rfl ?_
            refine r_gd (fun hc166 => ?_)
            refine r_callV (n := 3) (as := [lI a1, lI (x50 - 1), lI 0]) (rest := [.int x159]) 169 26 (s_X3_planned hl G a0 a1 (x50 - 1) 0 w159) hc166 rfl (lw_V q2329 q2331 qs48 q110 q2332) (by decide +kernel) (by decide) rfl rfl (cat2_i (cat2_nil (k := 0))) rfl dX3_turnIt_166 rfl (fun x166 w166 => ?_)
            refine r_isub 170 dX3_turnIt_169 rfl ?_
            refine r_bipush (v := 10) 172 dX3_turnIt_170 rfl rfl ?_
            refine r_isub 173 dX3_turnIt_172 rfl ?_
            refine r_istore (ls2 := [(5, lI ((x159 - x166) - 10)), (4, lI x126), (3, lI (x50 - 1)), (0, lR a0), (1, lI a1), (2, lI a2)]) 175 dX3_turnIt_173 (by decide) rfl rfl ?_
            refine r_iload 177 0 dX3_turnIt_175 rfl rfl ?_
            refine r_if_ge 190 180 dX3_turnIt_177 (by decide) rfl ?_ ?_
            · refine r_aload_n 191 3 dX3_turnIt_190 rfl rfl rfl ?_
              refine r_getr 194 gf_X3_9 dX3_turnIt_191 rfl (fun x191 => ?_)
              refine r_iconst (v := 4) 195 dX3_turnIt_194 rfl rfl ?_
              refine r_iconst (v := 2) 196 dX3_turnIt_195 rfl rfl ?_
              refine r_iload_n 197 4 dX3_turnIt_196 rfl rfl rfl ?_
              refine r_imul 198 dX3_turnIt_197 rfl ?_
              refine r_iadd 199 dX3_turnIt_198 rfl ?_
              refine r_iconst (v := 1) 200 dX3_turnIt_199 rfl rfl ?_
              refine r_iadd 201 dX3_turnIt_200 rfl ?_
              refine r_iload_n 202 5 dX3_turnIt_201 rfl rfl rfl ?_
              refine r_iconst (v := 1) 203 dX3_turnIt_202 rfl rfl ?_
              refine r_iadd 204 dX3_turnIt_203 rfl ?_
              refine r_iast 205 dX3_turnIt_204 rfl (fun w204 => ?_)
              refine r_iload 207 0 dX3_turnIt_205 rfl rfl ?_
              exact r_iret rfl rfl dX3_turnIt_207
            refine r_aload_n 181 3 dX3_turnIt_180 rfl rfl rfl ?_
            refine r_bipush (v := 8) 183 dX3_turnIt_181 rfl rfl ?_
            refine r_iload 185 0 dX3_turnIt_183 rfl rfl ?_
            refine r_ineg 186 dX3_turnIt_185 rfl ?_
            refine r_gd (fun hc186 => ?_)
            refine r_callV (n := 2) (as := [lI 8, lI (-((x159 - x166) - 10))]) (rest := []) 189 26 (s_X3_refuse hl G a0 8 (-((x159 - x166) - 10)) w166) hc186 rfl (lw_V q2294 q2296 qs41 q110 q2297) (by decide +kernel) (by decide) rfl rfl (cat2_nil (k := 0)) rfl dX3_turnIt_186 rfl (fun x186 w186 => ?_)
            exact r_iret rfl rfl dX3_turnIt_189
          refine r_aload_n 147 2 dX3_turnIt_146 rfl rfl rfl ?_
          refine r_bipush (v := 7) 149 dX3_turnIt_147 rfl rfl ?_
          refine r_iload 151 0 dX3_turnIt_149 rfl rfl ?_
          refine r_gd (fun hc151 => ?_)
          refine r_callV (n := 2) (as := [lI 7, lI x126]) (rest := []) 154 26 (s_X3_refuse hl G a0 7 x126 w135) hc151 rfl (lw_V q2294 q2296 qs41 q110 q2297) (by decide +kernel) (by decide) rfl rfl (cat2_nil (k := 0)) rfl dX3_turnIt_151 rfl (fun x151 w151 => ?_)
          exact r_iret rfl rfl dX3_turnIt_154
        exact r_lsP [1, 2, 3] rfl (t_X3_turnIt_b94 hl G  a0 a1 a2 w87)
      exact r_lsP [1] rfl (t_X3_turnIt_b69 hl G  a0 w62)
    refine r_aload_n 41 0 dX3_turnIt_40 rfl rfl rfl ?_
    refine r_bipush (v := 6) 43 dX3_turnIt_41 rfl rfl ?_
    refine r_iload_n 44 1 dX3_turnIt_43 rfl rfl rfl ?_
    refine r_gd (fun hc44 => ?_)
    refine r_callV (n := 2) (as := [lI 6, lI a1]) (rest := []) 47 26 (s_X3_refuse hl G a0 6 a1 w10) hc44 rfl (lw_V q2294 q2296 qs41 q110 q2297) (by decide +kernel) (by decide) rfl rfl (cat2_nil (k := 0)) rfl dX3_turnIt_44 rfl (fun x44 w44 => ?_)
    exact r_iret rfl rfl dX3_turnIt_47
  exact r_lsP [0, 1, 2] rfl (t_X3_turnIt_b16 hl G  a0 a1 a2 w10)
theorem s_X3_turnIt {l : Launch} {D : Dn} {H0 : Heap} (hl : l.stackTraces = false) (G : Nat) (a0 : Rf) (a1 : Int32) (a2 : Int32) (w : St) : SimN l D H0 yX3_turnIt (ws_ yX3_turnIt cX3_turnIt 6 (some (.int))) 2 46 rvI [lR a0, lI a1, lI a2] w (f_X3_turnIt G a0 a1 a2 w) := SimX.N (SimX.ofV (y := yX3_turnIt) (by decide) rfl (t_X3_turnIt hl G a0 a1 a2 w))
abbrev V_X3_turn (l : Launch) (D : Dn) (H0 : Heap) (w0 : St) (res : Option (Int32 × St)) (pc : Nat) (ls : List (Nat × LV)) (st : List Value) (w : St) : Prop := V l D H0 RX3 "turn" cX3_turn 3 (some (.int)) [] 3 71 (fun x => .inr (rvI x)) w0 res pc ls st w
theorem t_X3_turn {l : Launch} {D : Dn} {H0 : Heap} {w0 : St} (hl : l.stackTraces = false) (G : Nat) (a0 : Rf) (a1 : Int32) (a2 : Int32) (w : St) : V_X3_turn l D H0 w0 (f_X3_turn G a0 a1 a2 w) 0 [(0, lR a0), (1, lI a1), (2, lI a2)] [] w := by
  unfold f_X3_turn
  refine r_aload_n 1 0 dX3_turn_0 rfl rfl rfl ?_
  refine r_gd (fun hc1 => ?_)
  refine r_callV (n := 0) (as := []) (rest := []) 4 26 (s_X3_starts hl G a0 w) hc1 rfl (lw_V q2281 q2283 qs39 q110 q2284) (by decide +kernel) (by decide) rfl rfl (cat2_nil (k := 0)) rfl dX3_turn_1 rfl (fun _ w1 => ?_)
  refine r_aload_n 5 0 dX3_turn_4 rfl rfl rfl ?_
  refine r_aload_n 6 0 dX3_turn_5 rfl rfl rfl ?_
  refine r_iload_n 7 1 dX3_turn_6 rfl rfl rfl ?_
  refine r_iload_n 8 2 dX3_turn_7 rfl rfl rfl ?_
  refine r_gd (fun hc8 => ?_)
  refine r_callV (n := 2) (as := [lI a1, lI a2]) (rest := [rf a0]) 11 26 (s_X3_turnIt hl G a0 a1 a2 w1) hc8 rfl (lw_V q2337 q2339 qs49 q110 q2340) (by decide +kernel) (by decide) rfl rfl (cat2_r (cat2_nil (k := 0))) rfl dX3_turn_8 rfl (fun x8 w8 => ?_)
  refine r_gd (fun hc11 => ?_)
  refine r_callV (n := 1) (as := [lI x8]) (rest := []) 14 26 (s_X3_changed hl G a0 x8 w8) hc11 rfl (lw_V q2305 q2307 qs43 q110 q2308) (by decide +kernel) (by decide) rfl rfl (cat2_nil (k := 0)) rfl dX3_turn_11 rfl (fun x11 w11 => ?_)
  exact r_iret rfl rfl dX3_turn_14
theorem s_X3_turn {l : Launch} {D : Dn} {H0 : Heap} (hl : l.stackTraces = false) (G : Nat) (a0 : Rf) (a1 : Int32) (a2 : Int32) (w : St) : SimN l D H0 yX3_turn (ws_ yX3_turn cX3_turn 3 (some (.int))) 3 71 rvI [lR a0, lI a1, lI a2] w (f_X3_turn G a0 a1 a2 w) := SimX.N (SimX.ofV (y := yX3_turn) (by decide) rfl (t_X3_turn hl G a0 a1 a2 w))
abbrev V_X3_isEvent (l : Launch) (D : Dn) (H0 : Heap) (w0 : St) (res : Option (Int32 × St)) (pc : Nat) (ls : List (Nat × LV)) (st : List Value) (w : St) : Prop := V l D H0 RX3 "isEvent" cX3_isEvent 4 (some (.boolean)) [] 1 25 (fun x => .inr (rvI x)) w0 res pc ls st w
theorem t_X3_isEvent {l : Launch} {D : Dn} {H0 : Heap} {w0 : St} (hl : l.stackTraces = false) (G : Nat) (a0 : Rf) (a1 : Int32) (a2 : Int32) (a3 : Int32) (w : St) : V_X3_isEvent l D H0 w0 (f_X3_isEvent G a0 a1 a2 a3 w) 0 [(0, lR a0), (1, lI a1), (2, lI a2), (3, lI a3)] [] w := by
  unfold f_X3_isEvent
  refine r_iload_n 1 3 dX3_isEvent_0 rfl rfl rfl ?_
  refine r_if_ne 21 4 dX3_isEvent_1 (by decide) rfl ?_ ?_
  · refine r_iload_n 22 2 dX3_isEvent_21 rfl rfl rfl ?_
    refine r_i2l 23 dX3_isEvent_22 rfl ?_
    refine r_lconst (v := 0) 24 dX3_isEvent_23 rfl rfl ?_
    refine r_aload_n 25 0 dX3_isEvent_24 rfl rfl rfl ?_
    refine r_iload_n 26 1 dX3_isEvent_25 rfl rfl rfl ?_
    refine r_gd (fun hc26 => ?_)
    refine r_callV (n := 1) (as := [lI a1]) (rest := [.long 0, .long a2.toInt64]) 29 26 (s_X3_stops hl G a0 a1 w) hc26 rfl (lw_V q2325 q2327 qs47 q110 q2328) (by decide +kernel) (by decide) rfl rfl (cat2_j (cat2_j (cat2_nil (k := 0)))) rfl dX3_isEvent_26 rfl (fun x26 w26 => ?_)
    refine r_iconst (v := 2) 30 dX3_isEvent_29 rfl rfl ?_
    refine r_isub 31 dX3_isEvent_30 rfl ?_
    refine r_i2l 32 dX3_isEvent_31 rfl ?_
    refine r_callS (n := 3) (as := [lJ a2.toInt64, lJ 0, lJ ((x26 - 2).toInt64)]) (rest := []) 35 (s_X3_in hl G a2.toInt64 0 ((x26 - 2).toInt64) w26) (lw_S q2290 q2291 q110 q2292) (by decide +kernel) (by decide) rfl rfl (cat2_nil (k := 0)) rfl dX3_isEvent_32 rfl (fun x32 w32 => ?_)
    exact r_zretG rfl rfl dX3_isEvent_35
  refine r_iload_n 5 2 dX3_isEvent_4 rfl rfl rfl ?_
  refine r_i2l 6 dX3_isEvent_5 rfl ?_
  refine r_lconst (v := 1) 7 dX3_isEvent_6 rfl rfl ?_
  refine r_aload_n 8 0 dX3_isEvent_7 rfl rfl rfl ?_
  refine r_iload_n 9 1 dX3_isEvent_8 rfl rfl rfl ?_
  refine r_gd (fun hc9 => ?_)
  refine r_callV (n := 1) (as := [lI a1]) (rest := [.long 1, .long a2.toInt64]) 12 26 (s_X3_stops hl G a0 a1 w) hc9 rfl (lw_V q2325 q2327 qs47 q110 q2328) (by decide +kernel) (by decide) rfl rfl (cat2_j (cat2_j (cat2_nil (k := 0)))) rfl dX3_isEvent_9 rfl (fun x9 w9 => ?_)
  refine r_iconst (v := 1) 13 dX3_isEvent_12 rfl rfl ?_
  refine r_isub 14 dX3_isEvent_13 rfl ?_
  refine r_i2l 15 dX3_isEvent_14 rfl ?_
  refine r_callS (n := 3) (as := [lJ a2.toInt64, lJ 1, lJ ((x9 - 1).toInt64)]) (rest := []) 18 (s_X3_in hl G a2.toInt64 1 ((x9 - 1).toInt64) w9) (lw_S q2290 q2291 q110 q2292) (by decide +kernel) (by decide) rfl rfl (cat2_nil (k := 0)) rfl dX3_isEvent_15 rfl (fun x15 w15 => ?_)
  refine r_goto 35 dX3_isEvent_18 (by decide) ?_
  exact r_zretG rfl rfl dX3_isEvent_35
theorem s_X3_isEvent {l : Launch} {D : Dn} {H0 : Heap} (hl : l.stackTraces = false) (G : Nat) (a0 : Rf) (a1 : Int32) (a2 : Int32) (a3 : Int32) (w : St) : SimN l D H0 yX3_isEvent (ws_ yX3_isEvent cX3_isEvent 4 (some (.boolean))) 1 25 rvI [lR a0, lI a1, lI a2, lI a3] w (f_X3_isEvent G a0 a1 a2 a3 w) := SimX.N (SimX.ofV (y := yX3_isEvent) (by decide) rfl (t_X3_isEvent hl G a0 a1 a2 a3 w))
abbrev V_X3_ofLink (l : Launch) (D : Dn) (H0 : Heap) (w0 : St) (res : Option (Int32 × St)) (pc : Nat) (ls : List (Nat × LV)) (st : List Value) (w : St) : Prop := V l D H0 RX3 "ofLink" cX3_ofLink 1 (some (.int)) [] 0 0 (fun x => .inr (rvI x)) w0 res pc ls st w
theorem t_X3_ofLink {l : Launch} {D : Dn} {H0 : Heap} {w0 : St} (hl : l.stackTraces = false) (G : Nat) (a0 : Int32) (w : St) : V_X3_ofLink l D H0 w0 (f_X3_ofLink G a0 w) 0 [(0, lI a0)] [] w := by
  unfold f_X3_ofLink
  refine r_sipush (v := 340) 3 dX3_ofLink_0 rfl rfl ?_
  refine r_bipush (v := 6) 5 dX3_ofLink_3 rfl rfl ?_
  refine r_iload_n 6 0 dX3_ofLink_5 rfl rfl rfl ?_
  refine r_imul 7 dX3_ofLink_6 rfl ?_
  refine r_iadd 8 dX3_ofLink_7 rfl ?_
  exact r_iret rfl rfl dX3_ofLink_8
theorem s_X3_ofLink {l : Launch} {D : Dn} {H0 : Heap} (hl : l.stackTraces = false) (G : Nat) (a0 : Int32) (w : St) : SimN l D H0 yX3_ofLink (ws_ yX3_ofLink cX3_ofLink 1 (some (.int))) 0 0 rvI [lI a0] w (f_X3_ofLink G a0 w) := SimX.N (SimX.ofV (y := yX3_ofLink) (by decide) rfl (t_X3_ofLink hl G a0 w))
abbrev V_X3_linkIt (l : Launch) (D : Dn) (H0 : Heap) (w0 : St) (res : Option (Int32 × St)) (pc : Nat) (ls : List (Nat × LV)) (st : List Value) (w : St) : Prop := V l D H0 RX3 "linkIt" cX3_linkIt 6 (some (.int)) [] 2 48 (fun x => .inr (rvI x)) w0 res pc ls st w
theorem t_X3_linkIt_b45 {l : Launch} {D : Dn} {H0 : Heap} {w0 : St} (hl : l.stackTraces = false) (G : Nat) (s0 : Int32) (s1 : Int32) (s2 : Rf) (w : St) : V_X3_linkIt l D H0 w0 (f_X3_linkIt_b45 G s0 s1 s2 w) 45 [] [.int s0, .int s1, rf s2] w := by
  unfold f_X3_linkIt_b45
  refine r_gd (fun hc45 => ?_)
  refine r_callV (n := 2) (as := [lI s1, lI s0]) (rest := []) 48 26 (s_X3_refuse hl G s2 s1 s0 w) hc45 rfl (lw_V q2294 q2296 qs41 q110 q2297) (by decide +kernel) (by decide) rfl rfl (cat2_nil (k := 0)) rfl dX3_linkIt_45 rfl (fun x45 w45 => ?_)
  exact r_iret rfl rfl dX3_linkIt_48
theorem t_X3_linkIt_b30 {l : Launch} {D : Dn} {H0 : Heap} {w0 : St} (hl : l.stackTraces = false) (G : Nat) (v0 : Rf) (v1 : Int32) (v2 : Int32) (w : St) : V_X3_linkIt l D H0 w0 (f_X3_linkIt_b30 G v0 v1 v2 w) 30 [(0, lR v0), (1, lI v1), (2, lI v2)] [] w := by
  unfold f_X3_linkIt_b30
  refine r_aload_n 31 0 dX3_linkIt_30 rfl rfl rfl ?_
  refine r_iconst (v := 3) 32 dX3_linkIt_31 rfl rfl ?_
  refine r_aload_n 33 0 dX3_linkIt_32 rfl rfl rfl ?_
  refine r_iload_n 34 1 dX3_linkIt_33 rfl rfl rfl ?_
  refine r_gd (fun hc34 => ?_)
  refine r_callV (n := 1) (as := [lI v1]) (rest := [.int 3, rf v0]) 37 26 (s_X3_isCoach hl G v0 v1 w) hc34 rfl (lw_V q2317 q2319 qs45 q110 q2320) (by decide +kernel) (by decide) rfl rfl (cat2_i (cat2_r (cat2_nil (k := 0)))) rfl dX3_linkIt_34 rfl (fun x34 w34 => ?_)
  refine r_if_eq 44 40 dX3_linkIt_37 (by decide) rfl ?_ ?_
  · refine r_iload_n 45 1 dX3_linkIt_44 rfl rfl rfl ?_
    exact r_lsP [] rfl (t_X3_linkIt_b45 hl G  v1 3 v0 w34)
  refine r_iload_n 41 2 dX3_linkIt_40 rfl rfl rfl ?_
  refine r_goto 45 dX3_linkIt_41 (by decide) ?_
  exact r_lsP [] rfl (t_X3_linkIt_b45 hl G  v2 3 v0 w34)
theorem t_X3_linkIt_b124 {l : Launch} {D : Dn} {H0 : Heap} {w0 : St} (hl : l.stackTraces = false) (G : Nat) (s0 : Int32) (s1 : Int32) (s2 : Rf) (w : St) : V_X3_linkIt l D H0 w0 (f_X3_linkIt_b124 G s0 s1 s2 w) 124 [] [.int s0, .int s1, rf s2] w := by
  unfold f_X3_linkIt_b124
  refine r_gd (fun hc124 => ?_)
  refine r_callV (n := 2) (as := [lI s1, lI s0]) (rest := []) 127 26 (s_X3_refuse hl G s2 s1 s0 w) hc124 rfl (lw_V q2294 q2296 qs41 q110 q2297) (by decide +kernel) (by decide) rfl rfl (cat2_nil (k := 0)) rfl dX3_linkIt_124 rfl (fun x124 w124 => ?_)
  exact r_iret rfl rfl dX3_linkIt_127
theorem t_X3_linkIt_b92 {l : Launch} {D : Dn} {H0 : Heap} {w0 : St} (hl : l.stackTraces = false) (G : Nat) (v0 : Rf) (v1 : Int32) (w : St) : V_X3_linkIt l D H0 w0 (f_X3_linkIt_b92 G v0 v1 w) 92 [(0, lR v0), (1, lI v1)] [] w := by
  unfold f_X3_linkIt_b92
  refine r_aload_n 93 0 dX3_linkIt_92 rfl rfl rfl ?_
  refine r_iconst (v := 4) 94 dX3_linkIt_93 rfl rfl ?_
  refine r_aload_n 95 0 dX3_linkIt_94 rfl rfl rfl ?_
  refine r_iload_n 96 1 dX3_linkIt_95 rfl rfl rfl ?_
  refine r_aload_n 97 0 dX3_linkIt_96 rfl rfl rfl ?_
  refine r_getr 100 gf_X3_38 dX3_linkIt_97 rfl (fun x97 => ?_)
  refine r_iconst (v := 1) 101 dX3_linkIt_100 rfl rfl ?_
  refine r_iald 102 dX3_linkIt_101 rfl (fun x101 => ?_)
  refine r_iconst (v := 0) 103 dX3_linkIt_102 rfl rfl ?_
  refine r_gd (fun hc103 => ?_)
  refine r_callV (n := 3) (as := [lI v1, lI x101, lI 0]) (rest := [.int 4, rf v0]) 106 26 (s_X3_isEvent hl G v0 v1 x101 0 w) hc103 rfl (lw_V q2353 q2355 qs52 q110 q2356) (by decide +kernel) (by decide) rfl rfl (cat2_i (cat2_r (cat2_nil (k := 0)))) rfl dX3_linkIt_103 rfl (fun x103 w103 => ?_)
  refine r_if_eq 118 109 dX3_linkIt_106 (by decide) rfl ?_ ?_
  · refine r_aload_n 119 0 dX3_linkIt_118 rfl rfl rfl ?_
    refine r_getr 122 gf_X3_38 dX3_linkIt_119 rfl (fun x119 => ?_)
    refine r_iconst (v := 1) 123 dX3_linkIt_122 rfl rfl ?_
    refine r_iald 124 dX3_linkIt_123 rfl (fun x123 => ?_)
    exact r_lsP [] rfl (t_X3_linkIt_b124 hl G  x123 4 v0 w103)
  refine r_aload_n 110 0 dX3_linkIt_109 rfl rfl rfl ?_
  refine r_getr 113 gf_X3_38 dX3_linkIt_110 rfl (fun x110 => ?_)
  refine r_iconst (v := 3) 114 dX3_linkIt_113 rfl rfl ?_
  refine r_iald 115 dX3_linkIt_114 rfl (fun x114 => ?_)
  refine r_goto 124 dX3_linkIt_115 (by decide) ?_
  exact r_lsP [] rfl (t_X3_linkIt_b124 hl G  x114 4 v0 w103)
theorem t_X3_linkIt_b196 {l : Launch} {D : Dn} {H0 : Heap} {w0 : St} (hl : l.stackTraces = false) (G : Nat) (s0 : Int32) (s1 : Int32) (s2 : Rf) (w : St) : V_X3_linkIt l D H0 w0 (f_X3_linkIt_b196 G s0 s1 s2 w) 196 [] [.int s0, .int s1, rf s2] w := by
  unfold f_X3_linkIt_b196
  refine r_gd (fun hc196 => ?_)
  refine r_callV (n := 2) (as := [lI s1, lI s0]) (rest := []) 199 26 (s_X3_refuse hl G s2 s1 s0 w) hc196 rfl (lw_V q2294 q2296 qs41 q110 q2297) (by decide +kernel) (by decide) rfl rfl (cat2_nil (k := 0)) rfl dX3_linkIt_196 rfl (fun x196 w196 => ?_)
  exact r_iret rfl rfl dX3_linkIt_199
theorem t_X3_linkIt_b162 {l : Launch} {D : Dn} {H0 : Heap} {w0 : St} (hl : l.stackTraces = false) (G : Nat) (v0 : Rf) (w : St) : V_X3_linkIt l D H0 w0 (f_X3_linkIt_b162 G v0 w) 162 [(0, lR v0)] [] w := by
  unfold f_X3_linkIt_b162
  refine r_aload_n 163 0 dX3_linkIt_162 rfl rfl rfl ?_
  refine r_iconst (v := 1) 164 dX3_linkIt_163 rfl rfl ?_
  refine r_aload_n 165 0 dX3_linkIt_164 rfl rfl rfl ?_
  refine r_getr 168 gf_X3_38 dX3_linkIt_165 rfl (fun x165 => ?_)
  refine r_iconst (v := 4) 169 dX3_linkIt_168 rfl rfl ?_
  refine r_iald 170 dX3_linkIt_169 rfl (fun x169 => ?_)
  refine r_i2l 171 dX3_linkIt_170 rfl ?_
  refine r_lconst (v := 1) 172 dX3_linkIt_171 rfl rfl ?_
  refine r_ldc2J 175 q2357 dX3_linkIt_172 rfl ?_
  refine r_callS (n := 3) (as := [lJ x169.toInt64, lJ 1, lJ 60]) (rest := [.int 1, rf v0]) 178 (s_X3_in hl G x169.toInt64 1 60 w) (lw_S q2290 q2291 q110 q2292) (by decide +kernel) (by decide) rfl rfl (cat2_i (cat2_r (cat2_nil (k := 0)))) rfl dX3_linkIt_175 rfl (fun x175 w175 => ?_)
  refine r_if_eq 190 181 dX3_linkIt_178 (by decide) rfl ?_ ?_
  · refine r_aload_n 191 0 dX3_linkIt_190 rfl rfl rfl ?_
    refine r_getr 194 gf_X3_38 dX3_linkIt_191 rfl (fun x191 => ?_)
    refine r_iconst (v := 4) 195 dX3_linkIt_194 rfl rfl ?_
    refine r_iald 196 dX3_linkIt_195 rfl (fun x195 => ?_)
    exact r_lsP [] rfl (t_X3_linkIt_b196 hl G  x195 1 v0 w175)
  refine r_aload_n 182 0 dX3_linkIt_181 rfl rfl rfl ?_
  refine r_getr 185 gf_X3_38 dX3_linkIt_182 rfl (fun x182 => ?_)
  refine r_iconst (v := 5) 186 dX3_linkIt_185 rfl rfl ?_
  refine r_iald 187 dX3_linkIt_186 rfl (fun x186 => ?_)
  refine r_goto 196 dX3_linkIt_187 (by decide) ?_
  exact r_lsP [] rfl (t_X3_linkIt_b196 hl G  x186 1 v0 w175)
theorem t_X3_linkIt_l318 {l : Launch} {D : Dn} {H0 : Heap} {w0 : St} (hl : l.stackTraces = false) (G : Nat) (k355 : Rf → St → Option (Int32 × St)) (h355 : ∀ v0 w, V_X3_linkIt l D H0 w0 (k355 v0 w) 355 [(0, lR v0)] [] w) : ∀ (F : Nat) (v0 : Rf) (v5 : Int32) (w : St), V_X3_linkIt l D H0 w0 (f_X3_linkIt_l318 G k355 F v0 v5 w) 318 [(0, lR v0), (5, lI v5)] [] w := by
  intro F
  induction F with
  | zero => intros; exact r_none
  | succ F ih =>
    intro v0 v5 w
    unfold f_X3_linkIt_l318
    refine r_iload 320 1 dX3_linkIt_318 rfl rfl ?_
    refine r_bipush (v := 6) 322 dX3_linkIt_320 rfl rfl ?_
    refine r_icmp_ge 355 325 dX3_linkIt_322 (by decide) rfl ?_ ?_
    · exact r_lsP [0] rfl (h355 v0 w)
    refine r_aload_n 326 0 dX3_linkIt_325 rfl rfl rfl ?_
    refine r_getr 329 gf_X3_9 dX3_linkIt_326 rfl (fun x326 => ?_)
    refine r_aload_n 330 0 dX3_linkIt_329 rfl rfl rfl ?_
    refine r_getr 333 gf_X3_9 dX3_linkIt_330 rfl (fun x330 => ?_)
    refine r_iconst (v := 1) 334 dX3_linkIt_333 rfl rfl ?_
    refine r_iald 335 dX3_linkIt_334 rfl (fun x334 => ?_)
    refine r_callS (n := 1) (as := [lI x334]) (rest := [rf x326]) 338 (s_X3_ofLink hl G x334 w) (lw_S q2358 q2359 q110 q2360) (by decide +kernel) (by decide) rfl rfl (cat2_r (cat2_nil (k := 0))) rfl dX3_linkIt_335 rfl (fun x335 w335 => ?_)
    refine r_iload 340 1 dX3_linkIt_338 rfl rfl ?_
    refine r_iadd 341 dX3_linkIt_340 rfl ?_
    refine r_aload_n 342 0 dX3_linkIt_341 rfl rfl rfl ?_
    refine r_getr 345 gf_X3_38 dX3_linkIt_342 rfl (fun x342 => ?_)
    refine r_iload 347 1 dX3_linkIt_345 rfl rfl ?_
    refine r_iald 348 dX3_linkIt_347 rfl (fun x347 => ?_)
    refine r_iast 349 dX3_linkIt_348 rfl (fun w348 => ?_)
    refine r_iinc (v := v5 + 1) (ls2 := [(5, lI (v5 + 1)), (0, lR v0)]) 352 1 dX3_linkIt_349 rfl rfl (by decide) rfl rfl ?_
    refine r_goto 318 dX3_linkIt_352 (by decide) ?_
    exact r_lsP [1, 0] rfl (ih v0 (v5 + 1) w348)
theorem t_X3_linkIt_b355 {l : Launch} {D : Dn} {H0 : Heap} {w0 : St} (hl : l.stackTraces = false) (G : Nat) (v0 : Rf) (w : St) : V_X3_linkIt l D H0 w0 (f_X3_linkIt_b355 G v0 w) 355 [(0, lR v0)] [] w := by
  unfold f_X3_linkIt_b355
  refine r_aload_n 356 0 dX3_linkIt_355 rfl rfl rfl ?_
  refine r_getr 359 gf_X3_9 dX3_linkIt_356 rfl (fun x356 => ?_)
  refine r_iconst (v := 1) 360 dX3_linkIt_359 rfl rfl ?_
  refine r_dup2_ir 361 dX3_linkIt_360 rfl ?_
  refine r_iald 362 dX3_linkIt_361 rfl (fun x361 => ?_)
  refine r_iconst (v := 1) 363 dX3_linkIt_362 rfl rfl ?_
  refine r_iadd 364 dX3_linkIt_363 rfl ?_
  refine r_iast 365 dX3_linkIt_364 rfl (fun w364 => ?_)
  refine r_aload_n 366 0 dX3_linkIt_365 rfl rfl rfl ?_
  refine r_getr 369 gf_X3_9 dX3_linkIt_366 rfl (fun x366 => ?_)
  refine r_iconst (v := 2) 370 dX3_linkIt_369 rfl rfl ?_
  refine r_dup2_ir 371 dX3_linkIt_370 rfl ?_
  refine r_iald 372 dX3_linkIt_371 rfl (fun x371 => ?_)
  refine r_iconst (v := 1) 373 dX3_linkIt_372 rfl rfl ?_
  refine r_iadd 374 dX3_linkIt_373 rfl ?_
  refine r_iast 375 dX3_linkIt_374 rfl (fun w374 => ?_)
  refine r_aload_n 376 0 dX3_linkIt_375 rfl rfl rfl ?_
  refine r_getr 379 gf_X3_9 dX3_linkIt_376 rfl (fun x376 => ?_)
  refine r_iconst (v := 1) 380 dX3_linkIt_379 rfl rfl ?_
  refine r_iald 381 dX3_linkIt_380 rfl (fun x380 => ?_)
  refine r_iconst (v := 1) 382 dX3_linkIt_381 rfl rfl ?_
  refine r_isub 383 dX3_linkIt_382 rfl ?_
  exact r_iret rfl rfl dX3_linkIt_383
theorem t_X3_linkIt {l : Launch} {D : Dn} {H0 : Heap} {w0 : St} (hl : l.stackTraces = false) (G : Nat) (a0 : Rf) (w : St) : V_X3_linkIt l D H0 w0 (f_X3_linkIt G a0 w) 0 [(0, lR a0)] [] w := by
  unfold f_X3_linkIt
  refine r_aload_n 1 0 dX3_linkIt_0 rfl rfl rfl ?_
  refine r_getr 4 gf_X3_38 dX3_linkIt_1 rfl (fun x1 => ?_)
  refine r_iconst (v := 0) 5 dX3_linkIt_4 rfl rfl ?_
  refine r_iald 6 dX3_linkIt_5 rfl (fun x5 => ?_)
  refine r_istore_n (ls2 := [(1, lI x5), (0, lR a0)]) 7 dX3_linkIt_6 rfl (by decide) rfl rfl ?_
  refine r_aload_n 8 1 dX3_linkIt_7 rfl rfl rfl ?_
  refine r_getr 11 gf_X3_38 dX3_linkIt_8 rfl (fun x8 => ?_)
  refine r_iconst (v := 2) 12 dX3_linkIt_11 rfl rfl ?_
  refine r_iald 13 dX3_linkIt_12 rfl (fun x12 => ?_)
  refine r_istore_n (ls2 := [(2, lI x12), (1, lI x5), (0, lR a0)]) 14 dX3_linkIt_13 rfl (by decide) rfl rfl ?_
  refine r_aload_n 15 2 dX3_linkIt_14 rfl rfl rfl ?_
  refine r_iload_n 16 1 dX3_linkIt_15 rfl rfl rfl ?_
  refine r_gd (fun hc16 => ?_)
  refine r_callV (n := 1) (as := [lI x5]) (rest := []) 19 26 (s_X3_isCoach hl G a0 x5 w) hc16 rfl (lw_V q2317 q2319 qs45 q110 q2320) (by decide +kernel) (by decide) rfl rfl (cat2_nil (k := 0)) rfl dX3_linkIt_16 rfl (fun x16 w16 => ?_)
  refine r_if_eq 30 22 dX3_linkIt_19 (by decide) rfl ?_ ?_
  · exact r_lsP [2, 1, 0] rfl (t_X3_linkIt_b30 hl G  a0 x5 x12 w16)
  refine r_aload_n 23 2 dX3_linkIt_22 rfl rfl rfl ?_
  refine r_iload_n 24 0 dX3_linkIt_23 rfl rfl rfl ?_
  refine r_gd (fun hc24 => ?_)
  refine r_callV (n := 1) (as := [lI x12]) (rest := []) 27 26 (s_X3_isCoach hl G a0 x12 w16) hc24 rfl (lw_V q2317 q2319 qs45 q110 q2320) (by decide +kernel) (by decide) rfl rfl (cat2_nil (k := 0)) rfl dX3_linkIt_24 rfl (fun x24 w24 => ?_)
  refine r_if_ne 49 30 dX3_linkIt_27 (by decide) rfl ?_ ?_
  · refine r_iload_n 50 1 dX3_linkIt_49 rfl rfl rfl ?_
    refine r_iload_n 51 0 dX3_linkIt_50 rfl rfl rfl ?_
    refine r_icmp_ne 62 54 dX3_linkIt_51 (by decide) rfl ?_ ?_
    · refine r_aload_n 63 2 dX3_linkIt_62 rfl rfl rfl ?_
      refine r_iload_n 64 1 dX3_linkIt_63 rfl rfl rfl ?_
      refine r_aload_n 65 2 dX3_linkIt_64 rfl rfl rfl ?_
      refine r_getr 68 gf_X3_38 dX3_linkIt_65 rfl (fun x65 => ?_)
      refine r_iconst (v := 1) 69 dX3_linkIt_68 rfl rfl ?_
      refine r_iald 70 dX3_linkIt_69 rfl (fun x69 => ?_)
      refine r_iconst (v := 0) 71 dX3_linkIt_70 rfl rfl ?_
      refine r_gd (fun hc71 => ?_)
      refine r_callV (n := 3) (as := [lI x5, lI x69, lI 0]) (rest := []) 74 26 (s_X3_isEvent hl G a0 x5 x69 0 w24) hc71 rfl (lw_V q2353 q2355 qs52 q110 q2356) (by decide +kernel) (by decide) rfl rfl (cat2_nil (k := 0)) rfl dX3_linkIt_71 rfl (fun x71 w71 => ?_)
      refine r_if_eq 92 77 dX3_linkIt_74 (by decide) rfl ?_ ?_
      · exact r_lsP [2, 1] rfl (t_X3_linkIt_b92 hl G  a0 x5 w71)
      refine r_aload_n 78 2 dX3_linkIt_77 rfl rfl rfl ?_
      refine r_iload_n 79 0 dX3_linkIt_78 rfl rfl rfl ?_
      refine r_aload_n 80 2 dX3_linkIt_79 rfl rfl rfl ?_
      refine r_getr 83 gf_X3_38 dX3_linkIt_80 rfl (fun x80 => ?_)
      refine r_iconst (v := 3) 84 dX3_linkIt_83 rfl rfl ?_
      refine r_iald 85 dX3_linkIt_84 rfl (fun x84 => ?_)
      refine r_iconst (v := 1) 86 dX3_linkIt_85 rfl rfl ?_
      refine r_gd (fun hc86 => ?_)
      refine r_callV (n := 3) (as := [lI x12, lI x84, lI 1]) (rest := []) 89 26 (s_X3_isEvent hl G a0 x12 x84 1 w71) hc86 rfl (lw_V q2353 q2355 qs52 q110 q2356) (by decide +kernel) (by decide) rfl rfl (cat2_nil (k := 0)) rfl dX3_linkIt_86 rfl (fun x86 w86 => ?_)
      refine r_if_ne 128 92 dX3_linkIt_89 (by decide) rfl ?_ ?_
      · refine r_aload_n 129 2 dX3_linkIt_128 rfl rfl rfl ?_
        refine r_getr 132 gf_X3_38 dX3_linkIt_129 rfl (fun x129 => ?_)
        refine r_iconst (v := 4) 133 dX3_linkIt_132 rfl rfl ?_
        refine r_iald 134 dX3_linkIt_133 rfl (fun x133 => ?_)
        refine r_i2l 135 dX3_linkIt_134 rfl ?_
        refine r_lconst (v := 1) 136 dX3_linkIt_135 rfl rfl ?_
        refine r_ldc2J 139 q2357 dX3_linkIt_136 rfl ?_
        refine r_callS (n := 3) (as := [lJ x133.toInt64, lJ 1, lJ 60]) (rest := []) 142 (s_X3_in hl G x133.toInt64 1 60 w86) (lw_S q2290 q2291 q110 q2292) (by decide +kernel) (by decide) rfl rfl (cat2_nil (k := 0)) rfl dX3_linkIt_139 rfl (fun x139 w139 => ?_)
        refine r_if_eq 162 145 dX3_linkIt_142 (by decide) rfl ?_ ?_
        · exact r_lsP [2] rfl (t_X3_linkIt_b162 hl G  a0 w139)
        refine r_aload_n 146 2 dX3_linkIt_145 rfl rfl rfl ?_
        refine r_getr 149 gf_X3_38 dX3_linkIt_146 rfl (fun x146 => ?_)
        refine r_iconst (v := 5) 150 dX3_linkIt_149 rfl rfl ?_
        refine r_iald 151 dX3_linkIt_150 rfl (fun x150 => ?_)
        refine r_i2l 152 dX3_linkIt_151 rfl ?_
        refine r_lconst (v := 0) 153 dX3_linkIt_152 rfl rfl ?_
        refine r_ldc2J 156 q2357 dX3_linkIt_153 rfl ?_
        refine r_callS (n := 3) (as := [lJ x150.toInt64, lJ 0, lJ 60]) (rest := []) 159 (s_X3_in hl G x150.toInt64 0 60 w139) (lw_S q2290 q2291 q110 q2292) (by decide +kernel) (by decide) rfl rfl (cat2_nil (k := 0)) rfl dX3_linkIt_156 rfl (fun x156 w156 => ?_)
        refine r_if_ne 200 162 dX3_linkIt_159 (by decide) rfl ?_ ?_
        · refine r_aload_n 201 2 dX3_linkIt_200 rfl rfl rfl ?_
          refine r_getr 204 gf_X3_9 dX3_linkIt_201 rfl (fun x201 => ?_)
          refine r_iload_n 205 0 dX3_linkIt_204 rfl rfl rfl ?_
          refine r_aload_n 206 2 dX3_linkIt_205 rfl rfl rfl ?_
          refine r_getr 209 gf_X3_38 dX3_linkIt_206 rfl (fun x206 => ?_)
          refine r_iconst (v := 3) 210 dX3_linkIt_209 rfl rfl ?_
          refine r_iald 211 dX3_linkIt_210 rfl (fun x210 => ?_)
          refine r_callS (n := 2) (as := [lI x12, lI x210]) (rest := [rf x201]) 214 (s_X3_ofStop hl G x12 x210 w156) (lw_S q2302 q2303 q110 q2304) (by decide +kernel) (by decide) rfl rfl (cat2_r (cat2_nil (k := 0))) rfl dX3_linkIt_211 rfl (fun x211 w211 => ?_)
          refine r_iconst (v := 0) 215 dX3_linkIt_214 rfl rfl ?_
          refine r_iadd 216 dX3_linkIt_215 rfl ?_
          refine r_iald 217 dX3_linkIt_216 rfl (fun x216 => ?_)
          refine r_istore_n (ls2 := [(3, lI x216), (2, lI x12), (1, lI x5), (0, lR a0)]) 218 dX3_linkIt_217 rfl (by decide) rfl rfl ?_
          refine r_aload_n 219 3 dX3_linkIt_218 rfl rfl rfl ?_
          refine r_getr 222 gf_X3_9 dX3_linkIt_219 rfl (fun x219 => ?_)
          refine r_iload_n 223 2 dX3_linkIt_222 rfl rfl rfl ?_
          refine r_aload_n 224 3 dX3_linkIt_223 rfl rfl rfl ?_
          refine r_getr 227 gf_X3_38 dX3_linkIt_224 rfl (fun x224 => ?_)
          refine r_iconst (v := 1) 228 dX3_linkIt_227 rfl rfl ?_
          refine r_iald 229 dX3_linkIt_228 rfl (fun x228 => ?_)
          refine r_callS (n := 2) (as := [lI x5, lI x228]) (rest := [rf x219]) 232 (s_X3_ofStop hl G x5 x228 w211) (lw_S q2302 q2303 q110 q2304) (by decide +kernel) (by decide) rfl rfl (cat2_r (cat2_nil (k := 0))) rfl dX3_linkIt_229 rfl (fun x229 w229 => ?_)
          refine r_iconst (v := 0) 233 dX3_linkIt_232 rfl rfl ?_
          refine r_iadd 234 dX3_linkIt_233 rfl ?_
          refine r_iald 235 dX3_linkIt_234 rfl (fun x234 => ?_)
          refine r_iload_n 236 0 dX3_linkIt_235 rfl rfl rfl ?_
          refine r_icmp_eq 247 239 dX3_linkIt_236 (by decide) rfl ?_ ?_
          · refine r_aload_n 248 3 dX3_linkIt_247 rfl rfl rfl ?_
            refine r_iload_n 249 1 dX3_linkIt_248 rfl rfl rfl ?_
            refine r_aload_n 250 3 dX3_linkIt_249 rfl rfl rfl ?_
            refine r_getr 253 gf_X3_38 dX3_linkIt_250 rfl (fun x250 => ?_)
            refine r_iconst (v := 3) 254 dX3_linkIt_253 rfl rfl ?_
            refine r_iald 255 dX3_linkIt_254 rfl (fun x254 => ?_)
            refine r_iconst (v := 1) 256 dX3_linkIt_255 rfl rfl ?_
            refine r_gd (fun hc256 => ?_)
            refine r_callV (n := 3) (as := [lI x12, lI x254, lI 1]) (rest := []) 259 26 (s_X3_planned hl G a0 x12 x254 1 w229) hc256 rfl (lw_V q2329 q2331 qs48 q110 q2332) (by decide +kernel) (by decide) rfl rfl (cat2_nil (k := 0)) rfl dX3_linkIt_256 rfl (fun x256 w256 => ?_)
            refine r_aload_n 260 3 dX3_linkIt_259 rfl rfl rfl ?_
            refine r_iload_n 261 2 dX3_linkIt_260 rfl rfl rfl ?_
            refine r_aload_n 262 3 dX3_linkIt_261 rfl rfl rfl ?_
            refine r_getr 265 gf_X3_38 dX3_linkIt_262 rfl (fun x262 => ?_)
            refine r_iconst (v := 1) 266 dX3_linkIt_265 rfl rfl ?_
            refine r_iald 267 dX3_linkIt_266 rfl (fun x266 => ?_)
            refine r_iconst (v := 0) 268 dX3_linkIt_267 rfl rfl ?_
            refine r_gd (fun hc268 => ?_)
            refine r_callV (n := 3) (as := [lI x5, lI x266, lI 0]) (rest := [.int x256]) 271 26 (s_X3_planned hl G a0 x5 x266 0 w256) hc268 rfl (lw_V q2329 q2331 qs48 q110 q2332) (by decide +kernel) (by decide) rfl rfl (cat2_i (cat2_nil (k := 0))) rfl dX3_linkIt_268 rfl (fun x268 w268 => ?_)
            refine r_isub 272 dX3_linkIt_271 rfl ?_
            refine r_aload_n 273 3 dX3_linkIt_272 rfl rfl rfl ?_
            refine r_getr 276 gf_X3_38 dX3_linkIt_273 rfl (fun x273 => ?_)
            refine r_iconst (v := 4) 277 dX3_linkIt_276 rfl rfl ?_
            refine r_iald 278 dX3_linkIt_277 rfl (fun x277 => ?_)
            refine r_isub 279 dX3_linkIt_278 rfl ?_
            refine r_istore (ls2 := [(4, lI ((x256 - x268) - x277)), (3, lI x216), (2, lI x12), (1, lI x5), (0, lR a0)]) 281 dX3_linkIt_279 (by decide) rfl rfl ?_
            refine r_iload 283 0 dX3_linkIt_281 rfl rfl ?_
            refine r_if_ge 296 286 dX3_linkIt_283 (by decide) rfl ?_ ?_
            · refine r_aload_n 297 4 dX3_linkIt_296 rfl rfl rfl ?_
              refine r_getr 300 gf_X3_9 dX3_linkIt_297 rfl (fun x297 => ?_)
              refine r_iconst (v := 1) 301 dX3_linkIt_300 rfl rfl ?_
              refine r_iald 302 dX3_linkIt_301 rfl (fun x301 => ?_)
              refine r_bipush (v := 12) 304 dX3_linkIt_302 rfl rfl ?_
              refine r_icmp_ne 315 307 dX3_linkIt_304 (by decide) rfl ?_ ?_
              · refine r_iconst (v := 0) 316 dX3_linkIt_315 rfl rfl ?_
                refine r_istore (ls2 := [(5, lI 0), (4, lI ((x256 - x268) - x277)), (3, lI x216), (2, lI x12), (1, lI x5), (0, lR a0)]) 318 dX3_linkIt_316 (by decide) rfl rfl ?_
                exact r_lsP [5, 0] rfl (t_X3_linkIt_l318 hl G (fun v0 w => f_X3_linkIt_b355 G  v0 w) (fun v0 w => t_X3_linkIt_b355 hl G  v0 w) G a0 0 w268)
              refine r_aload_n 308 4 dX3_linkIt_307 rfl rfl rfl ?_
              refine r_iconst (v := 2) 309 dX3_linkIt_308 rfl rfl ?_
              refine r_bipush (v := 12) 311 dX3_linkIt_309 rfl rfl ?_
              refine r_gd (fun hc311 => ?_)
              refine r_callV (n := 2) (as := [lI 2, lI 12]) (rest := []) 314 26 (s_X3_refuse hl G a0 2 12 w268) hc311 rfl (lw_V q2294 q2296 qs41 q110 q2297) (by decide +kernel) (by decide) rfl rfl (cat2_nil (k := 0)) rfl dX3_linkIt_311 rfl (fun x311 w311 => ?_)
              exact r_iret rfl rfl dX3_linkIt_314
            refine r_aload_n 287 4 dX3_linkIt_286 rfl rfl rfl ?_
            refine r_bipush (v := 8) 289 dX3_linkIt_287 rfl rfl ?_
            refine r_iload 291 0 dX3_linkIt_289 rfl rfl ?_
            refine r_ineg 292 dX3_linkIt_291 rfl ?_
            refine r_gd (fun hc292 => ?_)
            refine r_callV (n := 2) (as := [lI 8, lI (-((x256 - x268) - x277))]) (rest := []) 295 26 (s_X3_refuse hl G a0 8 (-((x256 - x268) - x277)) w268) hc292 rfl (lw_V q2294 q2296 qs41 q110 q2297) (by decide +kernel) (by decide) rfl rfl (cat2_nil (k := 0)) rfl dX3_linkIt_292 rfl (fun x292 w292 => ?_)
            exact r_iret rfl rfl dX3_linkIt_295
          refine r_aload_n 240 3 dX3_linkIt_239 rfl rfl rfl ?_
          refine r_bipush (v := 7) 242 dX3_linkIt_240 rfl rfl ?_
          refine r_iload_n 243 0 dX3_linkIt_242 rfl rfl rfl ?_
          refine r_gd (fun hc243 => ?_)
          refine r_callV (n := 2) (as := [lI 7, lI x216]) (rest := []) 246 26 (s_X3_refuse hl G a0 7 x216 w229) hc243 rfl (lw_V q2294 q2296 qs41 q110 q2297) (by decide +kernel) (by decide) rfl rfl (cat2_nil (k := 0)) rfl dX3_linkIt_243 rfl (fun x243 w243 => ?_)
          exact r_iret rfl rfl dX3_linkIt_246
        exact r_lsP [2] rfl (t_X3_linkIt_b162 hl G  a0 w156)
      exact r_lsP [2, 1] rfl (t_X3_linkIt_b92 hl G  a0 x5 w86)
    refine r_aload_n 55 2 dX3_linkIt_54 rfl rfl rfl ?_
    refine r_bipush (v := 6) 57 dX3_linkIt_55 rfl rfl ?_
    refine r_iload_n 58 1 dX3_linkIt_57 rfl rfl rfl ?_
    refine r_gd (fun hc58 => ?_)
    refine r_callV (n := 2) (as := [lI 6, lI x5]) (rest := []) 61 26 (s_X3_refuse hl G a0 6 x5 w24) hc58 rfl (lw_V q2294 q2296 qs41 q110 q2297) (by decide +kernel) (by decide) rfl rfl (cat2_nil (k := 0)) rfl dX3_linkIt_58 rfl (fun x58 w58 => ?_)
    exact r_iret rfl rfl dX3_linkIt_61
  exact r_lsP [2, 1, 0] rfl (t_X3_linkIt_b30 hl G  a0 x5 x12 w24)
theorem s_X3_linkIt {l : Launch} {D : Dn} {H0 : Heap} (hl : l.stackTraces = false) (G : Nat) (a0 : Rf) (w : St) : SimN l D H0 yX3_linkIt (ws_ yX3_linkIt cX3_linkIt 6 (some (.int))) 2 48 rvI [lR a0] w (f_X3_linkIt G a0 w) := SimX.N (SimX.ofV (y := yX3_linkIt) (by decide) rfl (t_X3_linkIt hl G a0 w))
abbrev V_X3_link (l : Launch) (D : Dn) (H0 : Heap) (w0 : St) (res : Option (Int32 × St)) (pc : Nat) (ls : List (Nat × LV)) (st : List Value) (w : St) : Prop := V l D H0 RX3 "link" cX3_link 7 (some (.int)) [] 3 73 (fun x => .inr (rvI x)) w0 res pc ls st w
theorem t_X3_link {l : Launch} {D : Dn} {H0 : Heap} {w0 : St} (hl : l.stackTraces = false) (G : Nat) (a0 : Rf) (a1 : Int32) (a2 : Int32) (a3 : Int32) (a4 : Int32) (a5 : Int32) (a6 : Int32) (w : St) : V_X3_link l D H0 w0 (f_X3_link G a0 a1 a2 a3 a4 a5 a6 w) 0 [(0, lR a0), (1, lI a1), (2, lI a2), (3, lI a3), (4, lI a4), (5, lI a5), (6, lI a6)] [] w := by
  unfold f_X3_link
  refine r_aload_n 1 0 dX3_link_0 rfl rfl rfl ?_
  refine r_gd (fun hc1 => ?_)
  refine r_callV (n := 0) (as := []) (rest := []) 4 26 (s_X3_starts hl G a0 w) hc1 rfl (lw_V q2281 q2283 qs39 q110 q2284) (by decide +kernel) (by decide) rfl rfl (cat2_nil (k := 0)) rfl dX3_link_1 rfl (fun _ w1 => ?_)
  refine r_aload_n 5 0 dX3_link_4 rfl rfl rfl ?_
  refine r_getr 8 gf_X3_38 dX3_link_5 rfl (fun x5 => ?_)
  refine r_iconst (v := 0) 9 dX3_link_8 rfl rfl ?_
  refine r_iload_n 10 1 dX3_link_9 rfl rfl rfl ?_
  refine r_iast 11 dX3_link_10 rfl (fun w10 => ?_)
  refine r_aload_n 12 0 dX3_link_11 rfl rfl rfl ?_
  refine r_getr 15 gf_X3_38 dX3_link_12 rfl (fun x12 => ?_)
  refine r_iconst (v := 1) 16 dX3_link_15 rfl rfl ?_
  refine r_iload_n 17 2 dX3_link_16 rfl rfl rfl ?_
  refine r_iast 18 dX3_link_17 rfl (fun w17 => ?_)
  refine r_aload_n 19 0 dX3_link_18 rfl rfl rfl ?_
  refine r_getr 22 gf_X3_38 dX3_link_19 rfl (fun x19 => ?_)
  refine r_iconst (v := 2) 23 dX3_link_22 rfl rfl ?_
  refine r_iload_n 24 3 dX3_link_23 rfl rfl rfl ?_
  refine r_iast 25 dX3_link_24 rfl (fun w24 => ?_)
  refine r_aload_n 26 0 dX3_link_25 rfl rfl rfl ?_
  refine r_getr 29 gf_X3_38 dX3_link_26 rfl (fun x26 => ?_)
  refine r_iconst (v := 3) 30 dX3_link_29 rfl rfl ?_
  refine r_iload 32 4 dX3_link_30 rfl rfl ?_
  refine r_iast 33 dX3_link_32 rfl (fun w32 => ?_)
  refine r_aload_n 34 0 dX3_link_33 rfl rfl rfl ?_
  refine r_getr 37 gf_X3_38 dX3_link_34 rfl (fun x34 => ?_)
  refine r_iconst (v := 4) 38 dX3_link_37 rfl rfl ?_
  refine r_iload 40 5 dX3_link_38 rfl rfl ?_
  refine r_iast 41 dX3_link_40 rfl (fun w40 => ?_)
  refine r_aload_n 42 0 dX3_link_41 rfl rfl rfl ?_
  refine r_getr 45 gf_X3_38 dX3_link_42 rfl (fun x42 => ?_)
  refine r_iconst (v := 5) 46 dX3_link_45 rfl rfl ?_
  refine r_iload 48 6 dX3_link_46 rfl rfl ?_
  refine r_iast 49 dX3_link_48 rfl (fun w48 => ?_)
  refine r_aload_n 50 0 dX3_link_49 rfl rfl rfl ?_
  refine r_aload_n 51 0 dX3_link_50 rfl rfl rfl ?_
  refine r_gd (fun hc51 => ?_)
  refine r_callV (n := 0) (as := []) (rest := [rf a0]) 54 26 (s_X3_linkIt hl G a0 w48) hc51 rfl (lw_V q2349 q2351 qs51 q110 q2352) (by decide +kernel) (by decide) rfl rfl (cat2_r (cat2_nil (k := 0))) rfl dX3_link_51 rfl (fun x51 w51 => ?_)
  refine r_gd (fun hc54 => ?_)
  refine r_callV (n := 1) (as := [lI x51]) (rest := []) 57 26 (s_X3_changed hl G a0 x51 w51) hc54 rfl (lw_V q2305 q2307 qs43 q110 q2308) (by decide +kernel) (by decide) rfl rfl (cat2_nil (k := 0)) rfl dX3_link_54 rfl (fun x54 w54 => ?_)
  exact r_iret rfl rfl dX3_link_57
theorem s_X3_link {l : Launch} {D : Dn} {H0 : Heap} (hl : l.stackTraces = false) (G : Nat) (a0 : Rf) (a1 : Int32) (a2 : Int32) (a3 : Int32) (a4 : Int32) (a5 : Int32) (a6 : Int32) (w : St) : SimN l D H0 yX3_link (ws_ yX3_link cX3_link 7 (some (.int))) 3 73 rvI [lR a0, lI a1, lI a2, lI a3, lI a4, lI a5, lI a6] w (f_X3_link G a0 a1 a2 a3 a4 a5 a6 w) := SimX.N (SimX.ofV (y := yX3_link) (by decide) rfl (t_X3_link hl G a0 a1 a2 a3 a4 a5 a6 w))
abbrev V_X3_isLink (l : Launch) (D : Dn) (H0 : Heap) (w0 : St) (res : Option (Int32 × St)) (pc : Nat) (ls : List (Nat × LV)) (st : List Value) (w : St) : Prop := V l D H0 RX3 "isLink" cX3_isLink 2 (some (.boolean)) [] 1 25 (fun x => .inr (rvI x)) w0 res pc ls st w
theorem t_X3_isLink {l : Launch} {D : Dn} {H0 : Heap} {w0 : St} (hl : l.stackTraces = false) (G : Nat) (a0 : Rf) (a1 : Int32) (w : St) : V_X3_isLink l D H0 w0 (f_X3_isLink G a0 a1 w) 0 [(0, lR a0), (1, lI a1)] [] w := by
  unfold f_X3_isLink
  refine r_iload_n 1 1 dX3_isLink_0 rfl rfl rfl ?_
  refine r_i2l 2 dX3_isLink_1 rfl ?_
  refine r_lconst (v := 0) 3 dX3_isLink_2 rfl rfl ?_
  refine r_aload_n 4 0 dX3_isLink_3 rfl rfl rfl ?_
  refine r_getr 7 gf_X3_9 dX3_isLink_4 rfl (fun x4 => ?_)
  refine r_iconst (v := 1) 8 dX3_isLink_7 rfl rfl ?_
  refine r_iald 9 dX3_isLink_8 rfl (fun x8 => ?_)
  refine r_iconst (v := 1) 10 dX3_isLink_9 rfl rfl ?_
  refine r_isub 11 dX3_isLink_10 rfl ?_
  refine r_i2l 12 dX3_isLink_11 rfl ?_
  refine r_callS (n := 3) (as := [lJ a1.toInt64, lJ 0, lJ ((x8 - 1).toInt64)]) (rest := []) 15 (s_X3_in hl G a1.toInt64 0 ((x8 - 1).toInt64) w) (lw_S q2290 q2291 q110 q2292) (by decide +kernel) (by decide) rfl rfl (cat2_nil (k := 0)) rfl dX3_isLink_12 rfl (fun x12 w12 => ?_)
  exact r_zretG rfl rfl dX3_isLink_15
theorem s_X3_isLink {l : Launch} {D : Dn} {H0 : Heap} (hl : l.stackTraces = false) (G : Nat) (a0 : Rf) (a1 : Int32) (w : St) : SimN l D H0 yX3_isLink (ws_ yX3_isLink cX3_isLink 2 (some (.boolean))) 1 25 rvI [lR a0, lI a1] w (f_X3_isLink G a0 a1 w) := SimX.N (SimX.ofV (y := yX3_isLink) (by decide) rfl (t_X3_isLink hl G a0 a1 w))
abbrev V_X3_cutIt (l : Launch) (D : Dn) (H0 : Heap) (w0 : St) (res : Option (Int32 × St)) (pc : Nat) (ls : List (Nat × LV)) (st : List Value) (w : St) : Prop := V l D H0 RX3 "cutIt" cX3_cutIt 3 (some (.int)) [] 2 46 (fun x => .inr (rvI x)) w0 res pc ls st w
theorem t_X3_cutIt_l20 {l : Launch} {D : Dn} {H0 : Heap} {w0 : St} (hl : l.stackTraces = false) (G : Nat) (k48 : Rf → St → Option (Int32 × St)) (h48 : ∀ v0 w, V_X3_cutIt l D H0 w0 (k48 v0 w) 48 [(0, lR v0)] [] w) : ∀ (F : Nat) (v0 : Rf) (v2 : Int32) (w : St), V_X3_cutIt l D H0 w0 (f_X3_cutIt_l20 G k48 F v0 v2 w) 20 [(0, lR v0), (2, lI v2)] [] w := by
  intro F
  induction F with
  | zero => intros; exact r_none
  | succ F ih =>
    intro v0 v2 w
    unfold f_X3_cutIt_l20
    refine r_iload_n 21 1 dX3_cutIt_20 rfl rfl rfl ?_
    refine r_sipush (v := 406) 24 dX3_cutIt_21 rfl rfl ?_
    refine r_icmp_ge 48 27 dX3_cutIt_24 (by decide) rfl ?_ ?_
    · exact r_lsP [0] rfl (h48 v0 w)
    refine r_aload_n 28 0 dX3_cutIt_27 rfl rfl rfl ?_
    refine r_getr 31 gf_X3_9 dX3_cutIt_28 rfl (fun x28 => ?_)
    refine r_iload_n 32 1 dX3_cutIt_31 rfl rfl rfl ?_
    refine r_aload_n 33 0 dX3_cutIt_32 rfl rfl rfl ?_
    refine r_getr 36 gf_X3_9 dX3_cutIt_33 rfl (fun x33 => ?_)
    refine r_iload_n 37 1 dX3_cutIt_36 rfl rfl rfl ?_
    refine r_bipush (v := 6) 39 dX3_cutIt_37 rfl rfl ?_
    refine r_iadd 40 dX3_cutIt_39 rfl ?_
    refine r_iald 41 dX3_cutIt_40 rfl (fun x40 => ?_)
    refine r_iast 42 dX3_cutIt_41 rfl (fun w41 => ?_)
    refine r_iinc (v := v2 + 1) (ls2 := [(2, lI (v2 + 1)), (0, lR v0)]) 45 1 dX3_cutIt_42 rfl rfl (by decide) rfl rfl ?_
    refine r_goto 20 dX3_cutIt_45 (by decide) ?_
    exact r_lsP [1, 0] rfl (ih v0 (v2 + 1) w41)
theorem t_X3_cutIt_l52 {l : Launch} {D : Dn} {H0 : Heap} {w0 : St} (hl : l.stackTraces = false) (G : Nat) (k72 : Rf → St → Option (Int32 × St)) (h72 : ∀ v0 w, V_X3_cutIt l D H0 w0 (k72 v0 w) 72 [(0, lR v0)] [] w) : ∀ (F : Nat) (v0 : Rf) (v2 : Int32) (w : St), V_X3_cutIt l D H0 w0 (f_X3_cutIt_l52 G k72 F v0 v2 w) 52 [(0, lR v0), (2, lI v2)] [] w := by
  intro F
  induction F with
  | zero => intros; exact r_none
  | succ F ih =>
    intro v0 v2 w
    unfold f_X3_cutIt_l52
    refine r_iload_n 53 1 dX3_cutIt_52 rfl rfl rfl ?_
    refine r_sipush (v := 412) 56 dX3_cutIt_53 rfl rfl ?_
    refine r_icmp_ge 72 59 dX3_cutIt_56 (by decide) rfl ?_ ?_
    · exact r_lsP [0] rfl (h72 v0 w)
    refine r_aload_n 60 0 dX3_cutIt_59 rfl rfl rfl ?_
    refine r_getr 63 gf_X3_9 dX3_cutIt_60 rfl (fun x60 => ?_)
    refine r_iload_n 64 1 dX3_cutIt_63 rfl rfl rfl ?_
    refine r_iconst (v := 0) 65 dX3_cutIt_64 rfl rfl ?_
    refine r_iast 66 dX3_cutIt_65 rfl (fun w65 => ?_)
    refine r_iinc (v := v2 + 1) (ls2 := [(2, lI (v2 + 1)), (0, lR v0)]) 69 1 dX3_cutIt_66 rfl rfl (by decide) rfl rfl ?_
    refine r_goto 52 dX3_cutIt_69 (by decide) ?_
    exact r_lsP [1, 0] rfl (ih v0 (v2 + 1) w65)
theorem t_X3_cutIt_b72 {l : Launch} {D : Dn} {H0 : Heap} {w0 : St} (hl : l.stackTraces = false) (G : Nat) (v0 : Rf) (w : St) : V_X3_cutIt l D H0 w0 (f_X3_cutIt_b72 G v0 w) 72 [(0, lR v0)] [] w := by
  unfold f_X3_cutIt_b72
  refine r_aload_n 73 0 dX3_cutIt_72 rfl rfl rfl ?_
  refine r_getr 76 gf_X3_9 dX3_cutIt_73 rfl (fun x73 => ?_)
  refine r_iconst (v := 1) 77 dX3_cutIt_76 rfl rfl ?_
  refine r_dup2_ir 78 dX3_cutIt_77 rfl ?_
  refine r_iald 79 dX3_cutIt_78 rfl (fun x78 => ?_)
  refine r_iconst (v := 1) 80 dX3_cutIt_79 rfl rfl ?_
  refine r_isub 81 dX3_cutIt_80 rfl ?_
  refine r_iast 82 dX3_cutIt_81 rfl (fun w81 => ?_)
  refine r_aload_n 83 0 dX3_cutIt_82 rfl rfl rfl ?_
  refine r_getr 86 gf_X3_9 dX3_cutIt_83 rfl (fun x83 => ?_)
  refine r_iconst (v := 3) 87 dX3_cutIt_86 rfl rfl ?_
  refine r_dup2_ir 88 dX3_cutIt_87 rfl ?_
  refine r_iald 89 dX3_cutIt_88 rfl (fun x88 => ?_)
  refine r_iconst (v := 1) 90 dX3_cutIt_89 rfl rfl ?_
  refine r_iadd 91 dX3_cutIt_90 rfl ?_
  refine r_iast 92 dX3_cutIt_91 rfl (fun w91 => ?_)
  refine r_aload_n 93 0 dX3_cutIt_92 rfl rfl rfl ?_
  refine r_getr 96 gf_X3_9 dX3_cutIt_93 rfl (fun x93 => ?_)
  refine r_iconst (v := 1) 97 dX3_cutIt_96 rfl rfl ?_
  refine r_iald 98 dX3_cutIt_97 rfl (fun x97 => ?_)
  exact r_iret rfl rfl dX3_cutIt_98
theorem t_X3_cutIt_b48 {l : Launch} {D : Dn} {H0 : Heap} {w0 : St} (hl : l.stackTraces = false) (G : Nat) (v0 : Rf) (w : St) : V_X3_cutIt l D H0 w0 (f_X3_cutIt_b48 G v0 w) 48 [(0, lR v0)] [] w := by
  unfold f_X3_cutIt_b48
  refine r_sipush (v := 406) 51 dX3_cutIt_48 rfl rfl ?_
  refine r_istore_n (ls2 := [(2, lI 406), (0, lR v0)]) 52 dX3_cutIt_51 rfl (by decide) rfl rfl ?_
  exact r_lsP [1, 0] rfl (t_X3_cutIt_l52 hl G (fun v0 w => f_X3_cutIt_b72 G  v0 w) (fun v0 w => t_X3_cutIt_b72 hl G  v0 w) G v0 406 w)
theorem t_X3_cutIt {l : Launch} {D : Dn} {H0 : Heap} {w0 : St} (hl : l.stackTraces = false) (G : Nat) (a0 : Rf) (a1 : Int32) (w : St) : V_X3_cutIt l D H0 w0 (f_X3_cutIt G a0 a1 w) 0 [(0, lR a0), (1, lI a1)] [] w := by
  unfold f_X3_cutIt
  refine r_aload_n 1 0 dX3_cutIt_0 rfl rfl rfl ?_
  refine r_iload_n 2 1 dX3_cutIt_1 rfl rfl rfl ?_
  refine r_gd (fun hc2 => ?_)
  refine r_callV (n := 1) (as := [lI a1]) (rest := []) 5 26 (s_X3_isLink hl G a0 a1 w) hc2 rfl (lw_V q2369 q2371 qs54 q110 q2372) (by decide +kernel) (by decide) rfl rfl (cat2_nil (k := 0)) rfl dX3_cutIt_2 rfl (fun x2 w2 => ?_)
  refine r_if_ne 15 8 dX3_cutIt_5 (by decide) rfl ?_ ?_
  · refine r_iload_n 16 1 dX3_cutIt_15 rfl rfl rfl ?_
    refine r_callS (n := 1) (as := [lI a1]) (rest := []) 19 (s_X3_ofLink hl G a1 w2) (lw_S q2358 q2359 q110 q2360) (by decide +kernel) (by decide) rfl rfl (cat2_nil (k := 0)) rfl dX3_cutIt_16 rfl (fun x16 w16 => ?_)
    refine r_istore_n (ls2 := [(2, lI x16), (0, lR a0), (1, lI a1)]) 20 dX3_cutIt_19 rfl (by decide) rfl rfl ?_
    exact r_lsP [1, 0] rfl (t_X3_cutIt_l20 hl G (fun v0 w => f_X3_cutIt_b48 G  v0 w) (fun v0 w => t_X3_cutIt_b48 hl G  v0 w) G a0 x16 w16)
  refine r_aload_n 9 0 dX3_cutIt_8 rfl rfl rfl ?_
  refine r_iconst (v := 5) 10 dX3_cutIt_9 rfl rfl ?_
  refine r_iload_n 11 1 dX3_cutIt_10 rfl rfl rfl ?_
  refine r_gd (fun hc11 => ?_)
  refine r_callV (n := 2) (as := [lI 5, lI a1]) (rest := []) 14 26 (s_X3_refuse hl G a0 5 a1 w2) hc11 rfl (lw_V q2294 q2296 qs41 q110 q2297) (by decide +kernel) (by decide) rfl rfl (cat2_nil (k := 0)) rfl dX3_cutIt_11 rfl (fun x11 w11 => ?_)
  exact r_iret rfl rfl dX3_cutIt_14
theorem s_X3_cutIt {l : Launch} {D : Dn} {H0 : Heap} (hl : l.stackTraces = false) (G : Nat) (a0 : Rf) (a1 : Int32) (w : St) : SimN l D H0 yX3_cutIt (ws_ yX3_cutIt cX3_cutIt 3 (some (.int))) 2 46 rvI [lR a0, lI a1] w (f_X3_cutIt G a0 a1 w) := SimX.N (SimX.ofV (y := yX3_cutIt) (by decide) rfl (t_X3_cutIt hl G a0 a1 w))
abbrev V_X3_cut (l : Launch) (D : Dn) (H0 : Heap) (w0 : St) (res : Option (Int32 × St)) (pc : Nat) (ls : List (Nat × LV)) (st : List Value) (w : St) : Prop := V l D H0 RX3 "cut" cX3_cut 2 (some (.int)) [] 3 68 (fun x => .inr (rvI x)) w0 res pc ls st w
theorem t_X3_cut {l : Launch} {D : Dn} {H0 : Heap} {w0 : St} (hl : l.stackTraces = false) (G : Nat) (a0 : Rf) (a1 : Int32) (w : St) : V_X3_cut l D H0 w0 (f_X3_cut G a0 a1 w) 0 [(0, lR a0), (1, lI a1)] [] w := by
  unfold f_X3_cut
  refine r_aload_n 1 0 dX3_cut_0 rfl rfl rfl ?_
  refine r_gd (fun hc1 => ?_)
  refine r_callV (n := 0) (as := []) (rest := []) 4 26 (s_X3_starts hl G a0 w) hc1 rfl (lw_V q2281 q2283 qs39 q110 q2284) (by decide +kernel) (by decide) rfl rfl (cat2_nil (k := 0)) rfl dX3_cut_1 rfl (fun _ w1 => ?_)
  refine r_aload_n 5 0 dX3_cut_4 rfl rfl rfl ?_
  refine r_aload_n 6 0 dX3_cut_5 rfl rfl rfl ?_
  refine r_iload_n 7 1 dX3_cut_6 rfl rfl rfl ?_
  refine r_gd (fun hc7 => ?_)
  refine r_callV (n := 1) (as := [lI a1]) (rest := [rf a0]) 10 26 (s_X3_cutIt hl G a0 a1 w1) hc7 rfl (lw_V q2365 q2367 qs53 q110 q2368) (by decide +kernel) (by decide) rfl rfl (cat2_r (cat2_nil (k := 0))) rfl dX3_cut_7 rfl (fun x7 w7 => ?_)
  refine r_gd (fun hc10 => ?_)
  refine r_callV (n := 1) (as := [lI x7]) (rest := []) 13 26 (s_X3_changed hl G a0 x7 w7) hc10 rfl (lw_V q2305 q2307 qs43 q110 q2308) (by decide +kernel) (by decide) rfl rfl (cat2_nil (k := 0)) rfl dX3_cut_10 rfl (fun x10 w10 => ?_)
  exact r_iret rfl rfl dX3_cut_13
theorem s_X3_cut {l : Launch} {D : Dn} {H0 : Heap} (hl : l.stackTraces = false) (G : Nat) (a0 : Rf) (a1 : Int32) (w : St) : SimN l D H0 yX3_cut (ws_ yX3_cut cX3_cut 2 (some (.int))) 3 68 rvI [lR a0, lI a1] w (f_X3_cut G a0 a1 w) := SimX.N (SimX.ofV (y := yX3_cut) (by decide) rfl (t_X3_cut hl G a0 a1 w))
abbrev V_X3_limitIt (l : Launch) (D : Dn) (H0 : Heap) (w0 : St) (res : Option (Int32 × St)) (pc : Nat) (ls : List (Nat × LV)) (st : List Value) (w : St) : Prop := V l D H0 RX3 "limitIt" cX3_limitIt 4 (some (.int)) [] 2 46 (fun x => .inr (rvI x)) w0 res pc ls st w
theorem t_X3_limitIt {l : Launch} {D : Dn} {H0 : Heap} {w0 : St} (hl : l.stackTraces = false) (G : Nat) (a0 : Rf) (a1 : Int32) (a2 : Int32) (w : St) : V_X3_limitIt l D H0 w0 (f_X3_limitIt G a0 a1 a2 w) 0 [(0, lR a0), (1, lI a1), (2, lI a2)] [] w := by
  unfold f_X3_limitIt
  refine r_aload_n 1 0 dX3_limitIt_0 rfl rfl rfl ?_
  refine r_iload_n 2 1 dX3_limitIt_1 rfl rfl rfl ?_
  refine r_gd (fun hc2 => ?_)
  refine r_callV (n := 1) (as := [lI a1]) (rest := []) 5 26 (s_X3_isLink hl G a0 a1 w) hc2 rfl (lw_V q2369 q2371 qs54 q110 q2372) (by decide +kernel) (by decide) rfl rfl (cat2_nil (k := 0)) rfl dX3_limitIt_2 rfl (fun x2 w2 => ?_)
  refine r_if_ne 15 8 dX3_limitIt_5 (by decide) rfl ?_ ?_
  · refine r_iload_n 16 2 dX3_limitIt_15 rfl rfl rfl ?_
    refine r_i2l 17 dX3_limitIt_16 rfl ?_
    refine r_lconst (v := 0) 18 dX3_limitIt_17 rfl rfl ?_
    refine r_ldc2J 21 q2357 dX3_limitIt_18 rfl ?_
    refine r_callS (n := 3) (as := [lJ a2.toInt64, lJ 0, lJ 60]) (rest := []) 24 (s_X3_in hl G a2.toInt64 0 60 w2) (lw_S q2290 q2291 q110 q2292) (by decide +kernel) (by decide) rfl rfl (cat2_nil (k := 0)) rfl dX3_limitIt_21 rfl (fun x21 w21 => ?_)
    refine r_if_ne 34 27 dX3_limitIt_24 (by decide) rfl ?_ ?_
    · refine r_aload_n 35 0 dX3_limitIt_34 rfl rfl rfl ?_
      refine r_getr 38 gf_X3_9 dX3_limitIt_35 rfl (fun x35 => ?_)
      refine r_iload_n 39 1 dX3_limitIt_38 rfl rfl rfl ?_
      refine r_callS (n := 1) (as := [lI a1]) (rest := [rf x35]) 42 (s_X3_ofLink hl G a1 w21) (lw_S q2358 q2359 q110 q2360) (by decide +kernel) (by decide) rfl rfl (cat2_r (cat2_nil (k := 0))) rfl dX3_limitIt_39 rfl (fun x39 w39 => ?_)
      refine r_iconst (v := 5) 43 dX3_limitIt_42 rfl rfl ?_
      refine r_iadd 44 dX3_limitIt_43 rfl ?_
      refine r_iald 45 dX3_limitIt_44 rfl (fun x44 => ?_)
      refine r_istore_n (ls2 := [(3, lI x44), (0, lR a0), (1, lI a1), (2, lI a2)]) 46 dX3_limitIt_45 rfl (by decide) rfl rfl ?_
      refine r_iload_n 47 0 dX3_limitIt_46 rfl rfl rfl ?_
      refine r_iload_n 48 3 dX3_limitIt_47 rfl rfl rfl ?_
      refine r_icmp_ne 59 51 dX3_limitIt_48 (by decide) rfl ?_ ?_
      · refine r_aload_n 60 1 dX3_limitIt_59 rfl rfl rfl ?_
        refine r_getr 63 gf_X3_9 dX3_limitIt_60 rfl (fun x60 => ?_)
        refine r_iload_n 64 2 dX3_limitIt_63 rfl rfl rfl ?_
        refine r_callS (n := 1) (as := [lI a1]) (rest := [rf x60]) 67 (s_X3_ofLink hl G a1 w39) (lw_S q2358 q2359 q110 q2360) (by decide +kernel) (by decide) rfl rfl (cat2_r (cat2_nil (k := 0))) rfl dX3_limitIt_64 rfl (fun x64 w64 => ?_)
        refine r_iconst (v := 5) 68 dX3_limitIt_67 rfl rfl ?_
        refine r_iadd 69 dX3_limitIt_68 rfl ?_
        refine r_iload_n 70 3 dX3_limitIt_69 rfl rfl rfl ?_
        refine r_iast 71 dX3_limitIt_70 rfl (fun w70 => ?_)
        refine r_iload_n 72 0 dX3_limitIt_71 rfl rfl rfl ?_
        exact r_iret rfl rfl dX3_limitIt_72
      refine r_aload_n 52 1 dX3_limitIt_51 rfl rfl rfl ?_
      refine r_bipush (v := 10) 54 dX3_limitIt_52 rfl rfl ?_
      refine r_iload_n 55 3 dX3_limitIt_54 rfl rfl rfl ?_
      refine r_gd (fun hc55 => ?_)
      refine r_callV (n := 2) (as := [lI 10, lI a2]) (rest := []) 58 26 (s_X3_refuse hl G a0 10 a2 w39) hc55 rfl (lw_V q2294 q2296 qs41 q110 q2297) (by decide +kernel) (by decide) rfl rfl (cat2_nil (k := 0)) rfl dX3_limitIt_55 rfl (fun x55 w55 => ?_)
      exact r_iret rfl rfl dX3_limitIt_58
    refine r_aload_n 28 0 dX3_limitIt_27 rfl rfl rfl ?_
    refine r_iconst (v := 1) 29 dX3_limitIt_28 rfl rfl ?_
    refine r_iload_n 30 2 dX3_limitIt_29 rfl rfl rfl ?_
    refine r_gd (fun hc30 => ?_)
    refine r_callV (n := 2) (as := [lI 1, lI a2]) (rest := []) 33 26 (s_X3_refuse hl G a0 1 a2 w21) hc30 rfl (lw_V q2294 q2296 qs41 q110 q2297) (by decide +kernel) (by decide) rfl rfl (cat2_nil (k := 0)) rfl dX3_limitIt_30 rfl (fun x30 w30 => ?_)
    exact r_iret rfl rfl dX3_limitIt_33
  refine r_aload_n 9 0 dX3_limitIt_8 rfl rfl rfl ?_
  refine r_iconst (v := 5) 10 dX3_limitIt_9 rfl rfl ?_
  refine r_iload_n 11 1 dX3_limitIt_10 rfl rfl rfl ?_
  refine r_gd (fun hc11 => ?_)
  refine r_callV (n := 2) (as := [lI 5, lI a1]) (rest := []) 14 26 (s_X3_refuse hl G a0 5 a1 w2) hc11 rfl (lw_V q2294 q2296 qs41 q110 q2297) (by decide +kernel) (by decide) rfl rfl (cat2_nil (k := 0)) rfl dX3_limitIt_11 rfl (fun x11 w11 => ?_)
  exact r_iret rfl rfl dX3_limitIt_14
theorem s_X3_limitIt {l : Launch} {D : Dn} {H0 : Heap} (hl : l.stackTraces = false) (G : Nat) (a0 : Rf) (a1 : Int32) (a2 : Int32) (w : St) : SimN l D H0 yX3_limitIt (ws_ yX3_limitIt cX3_limitIt 4 (some (.int))) 2 46 rvI [lR a0, lI a1, lI a2] w (f_X3_limitIt G a0 a1 a2 w) := SimX.N (SimX.ofV (y := yX3_limitIt) (by decide) rfl (t_X3_limitIt hl G a0 a1 a2 w))
abbrev V_X3_limit (l : Launch) (D : Dn) (H0 : Heap) (w0 : St) (res : Option (Int32 × St)) (pc : Nat) (ls : List (Nat × LV)) (st : List Value) (w : St) : Prop := V l D H0 RX3 "limit" cX3_limit 3 (some (.int)) [] 3 69 (fun x => .inr (rvI x)) w0 res pc ls st w
theorem t_X3_limit {l : Launch} {D : Dn} {H0 : Heap} {w0 : St} (hl : l.stackTraces = false) (G : Nat) (a0 : Rf) (a1 : Int32) (a2 : Int32) (w : St) : V_X3_limit l D H0 w0 (f_X3_limit G a0 a1 a2 w) 0 [(0, lR a0), (1, lI a1), (2, lI a2)] [] w := by
  unfold f_X3_limit
  refine r_aload_n 1 0 dX3_limit_0 rfl rfl rfl ?_
  refine r_gd (fun hc1 => ?_)
  refine r_callV (n := 0) (as := []) (rest := []) 4 26 (s_X3_starts hl G a0 w) hc1 rfl (lw_V q2281 q2283 qs39 q110 q2284) (by decide +kernel) (by decide) rfl rfl (cat2_nil (k := 0)) rfl dX3_limit_1 rfl (fun _ w1 => ?_)
  refine r_aload_n 5 0 dX3_limit_4 rfl rfl rfl ?_
  refine r_aload_n 6 0 dX3_limit_5 rfl rfl rfl ?_
  refine r_iload_n 7 1 dX3_limit_6 rfl rfl rfl ?_
  refine r_iload_n 8 2 dX3_limit_7 rfl rfl rfl ?_
  refine r_gd (fun hc8 => ?_)
  refine r_callV (n := 2) (as := [lI a1, lI a2]) (rest := [rf a0]) 11 26 (s_X3_limitIt hl G a0 a1 a2 w1) hc8 rfl (lw_V q2377 q2379 qs55 q110 q2380) (by decide +kernel) (by decide) rfl rfl (cat2_r (cat2_nil (k := 0))) rfl dX3_limit_8 rfl (fun x8 w8 => ?_)
  refine r_gd (fun hc11 => ?_)
  refine r_callV (n := 1) (as := [lI x8]) (rest := []) 14 26 (s_X3_changed hl G a0 x8 w8) hc11 rfl (lw_V q2305 q2307 qs43 q110 q2308) (by decide +kernel) (by decide) rfl rfl (cat2_nil (k := 0)) rfl dX3_limit_11 rfl (fun x11 w11 => ?_)
  exact r_iret rfl rfl dX3_limit_14
theorem s_X3_limit {l : Launch} {D : Dn} {H0 : Heap} (hl : l.stackTraces = false) (G : Nat) (a0 : Rf) (a1 : Int32) (a2 : Int32) (w : St) : SimN l D H0 yX3_limit (ws_ yX3_limit cX3_limit 3 (some (.int))) 3 69 rvI [lR a0, lI a1, lI a2] w (f_X3_limit G a0 a1 a2 w) := SimX.N (SimX.ofV (y := yX3_limit) (by decide) rfl (t_X3_limit hl G a0 a1 a2 w))
abbrev V_X3_ofEvent (l : Launch) (D : Dn) (H0 : Heap) (w0 : St) (res : Option (Int32 × St)) (pc : Nat) (ls : List (Nat × LV)) (st : List Value) (w : St) : Prop := V l D H0 RX3 "ofEvent" cX3_ofEvent 3 (some (.int)) [] 0 0 (fun x => .inr (rvI x)) w0 res pc ls st w
theorem t_X3_ofEvent {l : Launch} {D : Dn} {H0 : Heap} {w0 : St} (hl : l.stackTraces = false) (G : Nat) (a0 : Int32) (a1 : Int32) (a2 : Int32) (w : St) : V_X3_ofEvent l D H0 w0 (f_X3_ofEvent G a0 a1 a2 w) 0 [(0, lI a0), (1, lI a1), (2, lI a2)] [] w := by
  unfold f_X3_ofEvent
  refine r_iconst (v := 2) 1 dX3_ofEvent_0 rfl rfl ?_
  refine r_bipush (v := 6) 3 dX3_ofEvent_1 rfl rfl ?_
  refine r_iload_n 4 0 dX3_ofEvent_3 rfl rfl rfl ?_
  refine r_imul 5 dX3_ofEvent_4 rfl ?_
  refine r_iload_n 6 1 dX3_ofEvent_5 rfl rfl rfl ?_
  refine r_iadd 7 dX3_ofEvent_6 rfl ?_
  refine r_imul 8 dX3_ofEvent_7 rfl ?_
  refine r_iload_n 9 2 dX3_ofEvent_8 rfl rfl rfl ?_
  refine r_iadd 10 dX3_ofEvent_9 rfl ?_
  exact r_iret rfl rfl dX3_ofEvent_10
theorem s_X3_ofEvent {l : Launch} {D : Dn} {H0 : Heap} (hl : l.stackTraces = false) (G : Nat) (a0 : Int32) (a1 : Int32) (a2 : Int32) (w : St) : SimN l D H0 yX3_ofEvent (ws_ yX3_ofEvent cX3_ofEvent 3 (some (.int))) 0 0 rvI [lI a0, lI a1, lI a2] w (f_X3_ofEvent G a0 a1 a2 w) := SimX.N (SimX.ofV (y := yX3_ofEvent) (by decide) rfl (t_X3_ofEvent hl G a0 a1 a2 w))
abbrev V_X3_own (l : Launch) (D : Dn) (H0 : Heap) (w0 : St) (res : Option (Int32 × St)) (pc : Nat) (ls : List (Nat × LV)) (st : List Value) (w : St) : Prop := V l D H0 RX3 "own" cX3_own 4 (some (.int)) [] 1 21 (fun x => .inr (rvI x)) w0 res pc ls st w
theorem t_X3_own {l : Launch} {D : Dn} {H0 : Heap} {w0 : St} (hl : l.stackTraces = false) (G : Nat) (a0 : Rf) (a1 : Int32) (a2 : Int32) (a3 : Int32) (w : St) : V_X3_own l D H0 w0 (f_X3_own G a0 a1 a2 a3 w) 0 [(0, lR a0), (1, lI a1), (2, lI a2), (3, lI a3)] [] w := by
  unfold f_X3_own
  refine r_aload_n 1 0 dX3_own_0 rfl rfl rfl ?_
  refine r_getr 4 gf_X3_9 dX3_own_1 rfl (fun x1 => ?_)
  refine r_iload_n 5 1 dX3_own_4 rfl rfl rfl ?_
  refine r_iload_n 6 2 dX3_own_5 rfl rfl rfl ?_
  refine r_callS (n := 2) (as := [lI a1, lI a2]) (rest := [rf x1]) 9 (s_X3_ofStop hl G a1 a2 w) (lw_S q2302 q2303 q110 q2304) (by decide +kernel) (by decide) rfl rfl (cat2_r (cat2_nil (k := 0))) rfl dX3_own_6 rfl (fun x6 w6 => ?_)
  refine r_iconst (v := 5) 10 dX3_own_9 rfl rfl ?_
  refine r_iadd 11 dX3_own_10 rfl ?_
  refine r_iload_n 12 3 dX3_own_11 rfl rfl rfl ?_
  refine r_iadd 13 dX3_own_12 rfl ?_
  refine r_iald 14 dX3_own_13 rfl (fun x13 => ?_)
  exact r_iret rfl rfl dX3_own_14
theorem s_X3_own {l : Launch} {D : Dn} {H0 : Heap} (hl : l.stackTraces = false) (G : Nat) (a0 : Rf) (a1 : Int32) (a2 : Int32) (a3 : Int32) (w : St) : SimN l D H0 yX3_own (ws_ yX3_own cX3_own 4 (some (.int))) 1 21 rvI [lR a0, lI a1, lI a2, lI a3] w (f_X3_own G a0 a1 a2 a3 w) := SimX.N (SimX.ofV (y := yX3_own) (by decide) rfl (t_X3_own hl G a0 a1 a2 a3 w))
abbrev V_X3_ownOf (l : Launch) (D : Dn) (H0 : Heap) (w0 : St) (res : Option (Int32 × St)) (pc : Nat) (ls : List (Nat × LV)) (st : List Value) (w : St) : Prop := V l D H0 RX3 "ownOf" cX3_ownOf 4 (some (.int)) [] 2 44 (fun x => .inr (rvI x)) w0 res pc ls st w
theorem t_X3_ownOf {l : Launch} {D : Dn} {H0 : Heap} {w0 : St} (hl : l.stackTraces = false) (G : Nat) (a0 : Rf) (a1 : Int32) (a2 : Int32) (a3 : Int32) (w : St) : V_X3_ownOf l D H0 w0 (f_X3_ownOf G a0 a1 a2 a3 w) 0 [(0, lR a0), (1, lI a1), (2, lI a2), (3, lI a3)] [] w := by
  unfold f_X3_ownOf
  refine r_iload_n 1 1 dX3_ownOf_0 rfl rfl rfl ?_
  refine r_aload_n 2 0 dX3_ownOf_1 rfl rfl rfl ?_
  refine r_geti 5 gf_X3_176 dX3_ownOf_2 rfl (fun x2 => ?_)
  refine r_icmp_ne 12 8 dX3_ownOf_5 (by decide) rfl ?_ ?_
  · refine r_aload_n 13 0 dX3_ownOf_12 rfl rfl rfl ?_
    refine r_iload_n 14 1 dX3_ownOf_13 rfl rfl rfl ?_
    refine r_iload_n 15 2 dX3_ownOf_14 rfl rfl rfl ?_
    refine r_iload_n 16 3 dX3_ownOf_15 rfl rfl rfl ?_
    refine r_gd (fun hc16 => ?_)
    refine r_callV (n := 3) (as := [lI a1, lI a2, lI a3]) (rest := []) 19 26 (s_X3_own hl G a0 a1 a2 a3 w) hc16 rfl (lw_V q2446 q2448 qs70 q110 q2449) (by decide +kernel) (by decide) rfl rfl (cat2_nil (k := 0)) rfl dX3_ownOf_16 rfl (fun x16 w16 => ?_)
    exact r_iret rfl rfl dX3_ownOf_19
  refine r_iconst (v := 0) 9 dX3_ownOf_8 rfl rfl ?_
  refine r_goto 19 dX3_ownOf_9 (by decide) ?_
  exact r_iret rfl rfl dX3_ownOf_19
theorem s_X3_ownOf {l : Launch} {D : Dn} {H0 : Heap} (hl : l.stackTraces = false) (G : Nat) (a0 : Rf) (a1 : Int32) (a2 : Int32) (a3 : Int32) (w : St) : SimN l D H0 yX3_ownOf (ws_ yX3_ownOf cX3_ownOf 4 (some (.int))) 2 44 rvI [lR a0, lI a1, lI a2, lI a3] w (f_X3_ownOf G a0 a1 a2 a3 w) := SimX.N (SimX.ofV (y := yX3_ownOf) (by decide) rfl (t_X3_ownOf hl G a0 a1 a2 a3 w))
abbrev V_X3_isTo (l : Launch) (D : Dn) (H0 : Heap) (w0 : St) (res : Option (Int32 × St)) (pc : Nat) (ls : List (Nat × LV)) (st : List Value) (w : St) : Prop := V l D H0 RX3 "isTo" cX3_isTo 4 (some (.boolean)) [] 1 20 (fun x => .inr (rvI x)) w0 res pc ls st w
theorem t_X3_isTo {l : Launch} {D : Dn} {H0 : Heap} {w0 : St} (hl : l.stackTraces = false) (G : Nat) (a0 : Rf) (a1 : Int32) (a2 : Int32) (a3 : Int32) (w : St) : V_X3_isTo l D H0 w0 (f_X3_isTo G a0 a1 a2 a3 w) 0 [(0, lR a0), (1, lI a1), (2, lI a2), (3, lI a3)] [] w := by
  unfold f_X3_isTo
  refine r_aload_n 1 0 dX3_isTo_0 rfl rfl rfl ?_
  refine r_getr 4 gf_X3_9 dX3_isTo_1 rfl (fun x1 => ?_)
  refine r_iload_n 5 1 dX3_isTo_4 rfl rfl rfl ?_
  refine r_callS (n := 1) (as := [lI a1]) (rest := [rf x1]) 8 (s_X3_ofLink hl G a1 w) (lw_S q2358 q2359 q110 q2360) (by decide +kernel) (by decide) rfl rfl (cat2_r (cat2_nil (k := 0))) rfl dX3_isTo_5 rfl (fun x5 w5 => ?_)
  refine r_iconst (v := 2) 9 dX3_isTo_8 rfl rfl ?_
  refine r_iadd 10 dX3_isTo_9 rfl ?_
  refine r_iald 11 dX3_isTo_10 rfl (fun x10 => ?_)
  refine r_iload_n 12 2 dX3_isTo_11 rfl rfl rfl ?_
  refine r_icmp_ne 34 15 dX3_isTo_12 (by decide) rfl ?_ ?_
  · refine r_iconst (v := 0) 35 dX3_isTo_34 rfl rfl ?_
    exact r_zret rfl rfl rfl dX3_isTo_35
  refine r_aload_n 16 0 dX3_isTo_15 rfl rfl rfl ?_
  refine r_getr 19 gf_X3_9 dX3_isTo_16 rfl (fun x16 => ?_)
  refine r_iload_n 20 1 dX3_isTo_19 rfl rfl rfl ?_
  refine r_callS (n := 1) (as := [lI a1]) (rest := [rf x16]) 23 (s_X3_ofLink hl G a1 w5) (lw_S q2358 q2359 q110 q2360) (by decide +kernel) (by decide) rfl rfl (cat2_r (cat2_nil (k := 0))) rfl dX3_isTo_20 rfl (fun x20 w20 => ?_)
  refine r_iconst (v := 3) 24 dX3_isTo_23 rfl rfl ?_
  refine r_iadd 25 dX3_isTo_24 rfl ?_
  refine r_iald 26 dX3_isTo_25 rfl (fun x25 => ?_)
  refine r_iload_n 27 3 dX3_isTo_26 rfl rfl rfl ?_
  refine r_icmp_ne 34 30 dX3_isTo_27 (by decide) rfl ?_ ?_
  · refine r_iconst (v := 0) 35 dX3_isTo_34 rfl rfl ?_
    exact r_zret rfl rfl rfl dX3_isTo_35
  refine r_iconst (v := 1) 31 dX3_isTo_30 rfl rfl ?_
  refine r_goto 35 dX3_isTo_31 (by decide) ?_
  exact r_zret rfl rfl rfl dX3_isTo_35
theorem s_X3_isTo {l : Launch} {D : Dn} {H0 : Heap} (hl : l.stackTraces = false) (G : Nat) (a0 : Rf) (a1 : Int32) (a2 : Int32) (a3 : Int32) (w : St) : SimN l D H0 yX3_isTo (ws_ yX3_isTo cX3_isTo 4 (some (.boolean))) 1 20 rvI [lR a0, lI a1, lI a2, lI a3] w (f_X3_isTo G a0 a1 a2 a3 w) := SimX.N (SimX.ofV (y := yX3_isTo) (by decide) rfl (t_X3_isTo hl G a0 a1 a2 a3 w))
abbrev V_X3_minuteOf (l : Launch) (D : Dn) (H0 : Heap) (w0 : St) (res : Option (Int32 × St)) (pc : Nat) (ls : List (Nat × LV)) (st : List Value) (w : St) : Prop := V l D H0 RX3 "minuteOf" cX3_minuteOf 4 (some (.int)) [] 1 22 (fun x => .inr (rvI x)) w0 res pc ls st w
theorem t_X3_minuteOf {l : Launch} {D : Dn} {H0 : Heap} {w0 : St} (hl : l.stackTraces = false) (G : Nat) (a0 : Rf) (a1 : Int32) (a2 : Int32) (a3 : Int32) (w : St) : V_X3_minuteOf l D H0 w0 (f_X3_minuteOf G a0 a1 a2 a3 w) 0 [(0, lR a0), (1, lI a1), (2, lI a2), (3, lI a3)] [] w := by
  unfold f_X3_minuteOf
  refine r_aload_n 1 0 dX3_minuteOf_0 rfl rfl rfl ?_
  refine r_getr 4 gf_X3_41 dX3_minuteOf_1 rfl (fun x1 => ?_)
  refine r_iload_n 5 1 dX3_minuteOf_4 rfl rfl rfl ?_
  refine r_iload_n 6 2 dX3_minuteOf_5 rfl rfl rfl ?_
  refine r_iload_n 7 3 dX3_minuteOf_6 rfl rfl rfl ?_
  refine r_callS (n := 3) (as := [lI a1, lI a2, lI a3]) (rest := [rf x1]) 10 (s_X3_ofEvent hl G a1 a2 a3 w) (lw_S q2394 q2395 q110 q2396) (by decide +kernel) (by decide) rfl rfl (cat2_r (cat2_nil (k := 0))) rfl dX3_minuteOf_7 rfl (fun x7 w7 => ?_)
  refine r_iald 11 dX3_minuteOf_10 rfl (fun x10 => ?_)
  exact r_iret rfl rfl dX3_minuteOf_11
theorem s_X3_minuteOf {l : Launch} {D : Dn} {H0 : Heap} (hl : l.stackTraces = false) (G : Nat) (a0 : Rf) (a1 : Int32) (a2 : Int32) (a3 : Int32) (w : St) : SimN l D H0 yX3_minuteOf (ws_ yX3_minuteOf cX3_minuteOf 4 (some (.int))) 1 22 rvI [lR a0, lI a1, lI a2, lI a3] w (f_X3_minuteOf G a0 a1 a2 a3 w) := SimX.N (SimX.ofV (y := yX3_minuteOf) (by decide) rfl (t_X3_minuteOf hl G a0 a1 a2 a3 w))
abbrev V_X3_byLink (l : Launch) (D : Dn) (H0 : Heap) (w0 : St) (res : Option (Int32 × St)) (pc : Nat) (ls : List (Nat × LV)) (st : List Value) (w : St) : Prop := V l D H0 RX3 "byLink" cX3_byLink 2 (some (.int)) [] 2 45 (fun x => .inr (rvI x)) w0 res pc ls st w
theorem t_X3_byLink {l : Launch} {D : Dn} {H0 : Heap} {w0 : St} (hl : l.stackTraces = false) (G : Nat) (a0 : Rf) (a1 : Int32) (w : St) : V_X3_byLink l D H0 w0 (f_X3_byLink G a0 a1 w) 0 [(0, lR a0), (1, lI a1)] [] w := by
  unfold f_X3_byLink
  refine r_aload_n 1 0 dX3_byLink_0 rfl rfl rfl ?_
  refine r_aload_n 2 0 dX3_byLink_1 rfl rfl rfl ?_
  refine r_getr 5 gf_X3_9 dX3_byLink_2 rfl (fun x2 => ?_)
  refine r_iload_n 6 1 dX3_byLink_5 rfl rfl rfl ?_
  refine r_callS (n := 1) (as := [lI a1]) (rest := [rf x2, rf a0]) 9 (s_X3_ofLink hl G a1 w) (lw_S q2358 q2359 q110 q2360) (by decide +kernel) (by decide) rfl rfl (cat2_r (cat2_r (cat2_nil (k := 0)))) rfl dX3_byLink_6 rfl (fun x6 w6 => ?_)
  refine r_iald 10 dX3_byLink_9 rfl (fun x9 => ?_)
  refine r_aload_n 11 0 dX3_byLink_10 rfl rfl rfl ?_
  refine r_getr 14 gf_X3_9 dX3_byLink_11 rfl (fun x11 => ?_)
  refine r_iload_n 15 1 dX3_byLink_14 rfl rfl rfl ?_
  refine r_callS (n := 1) (as := [lI a1]) (rest := [rf x11, .int x9, rf a0]) 18 (s_X3_ofLink hl G a1 w6) (lw_S q2358 q2359 q110 q2360) (by decide +kernel) (by decide) rfl rfl (cat2_r (cat2_i (cat2_r (cat2_nil (k := 0))))) rfl dX3_byLink_15 rfl (fun x15 w15 => ?_)
  refine r_iconst (v := 1) 19 dX3_byLink_18 rfl rfl ?_
  refine r_iadd 20 dX3_byLink_19 rfl ?_
  refine r_iald 21 dX3_byLink_20 rfl (fun x20 => ?_)
  refine r_iconst (v := 0) 22 dX3_byLink_21 rfl rfl ?_
  refine r_gd (fun hc22 => ?_)
  refine r_callV (n := 3) (as := [lI x9, lI x20, lI 0]) (rest := []) 25 26 (s_X3_minuteOf hl G a0 x9 x20 0 w15) hc22 rfl (lw_V q2405 q2407 qs60 q110 q2408) (by decide +kernel) (by decide) rfl rfl (cat2_nil (k := 0)) rfl dX3_byLink_22 rfl (fun x22 w22 => ?_)
  refine r_aload_n 26 0 dX3_byLink_25 rfl rfl rfl ?_
  refine r_getr 29 gf_X3_9 dX3_byLink_26 rfl (fun x26 => ?_)
  refine r_iload_n 30 1 dX3_byLink_29 rfl rfl rfl ?_
  refine r_callS (n := 1) (as := [lI a1]) (rest := [rf x26, .int x22]) 33 (s_X3_ofLink hl G a1 w22) (lw_S q2358 q2359 q110 q2360) (by decide +kernel) (by decide) rfl rfl (cat2_r (cat2_i (cat2_nil (k := 0)))) rfl dX3_byLink_30 rfl (fun x30 w30 => ?_)
  refine r_iconst (v := 4) 34 dX3_byLink_33 rfl rfl ?_
  refine r_iadd 35 dX3_byLink_34 rfl ?_
  refine r_iald 36 dX3_byLink_35 rfl (fun x35 => ?_)
  refine r_iadd 37 dX3_byLink_36 rfl ?_
  exact r_iret rfl rfl dX3_byLink_37
theorem s_X3_byLink {l : Launch} {D : Dn} {H0 : Heap} (hl : l.stackTraces = false) (G : Nat) (a0 : Rf) (a1 : Int32) (w : St) : SimN l D H0 yX3_byLink (ws_ yX3_byLink cX3_byLink 2 (some (.int))) 2 45 rvI [lR a0, lI a1] w (f_X3_byLink G a0 a1 w) := SimX.N (SimX.ofV (y := yX3_byLink) (by decide) rfl (t_X3_byLink hl G a0 a1 w))
abbrev V_X3_byStay (l : Launch) (D : Dn) (H0 : Heap) (w0 : St) (res : Option (Int32 × St)) (pc : Nat) (ls : List (Nat × LV)) (st : List Value) (w : St) : Prop := V l D H0 RX3 "byStay" cX3_byStay 3 (some (.int)) [] 2 45 (fun x => .inr (rvI x)) w0 res pc ls st w
theorem t_X3_byStay {l : Launch} {D : Dn} {H0 : Heap} {w0 : St} (hl : l.stackTraces = false) (G : Nat) (a0 : Rf) (a1 : Int32) (a2 : Int32) (w : St) : V_X3_byStay l D H0 w0 (f_X3_byStay G a0 a1 a2 w) 0 [(0, lR a0), (1, lI a1), (2, lI a2)] [] w := by
  unfold f_X3_byStay
  refine r_iload_n 1 2 dX3_byStay_0 rfl rfl rfl ?_
  refine r_if_ne 8 4 dX3_byStay_1 (by decide) rfl ?_ ?_
  · refine r_aload_n 9 0 dX3_byStay_8 rfl rfl rfl ?_
    refine r_iload_n 10 1 dX3_byStay_9 rfl rfl rfl ?_
    refine r_iload_n 11 2 dX3_byStay_10 rfl rfl rfl ?_
    refine r_iconst (v := 0) 12 dX3_byStay_11 rfl rfl ?_
    refine r_gd (fun hc12 => ?_)
    refine r_callV (n := 3) (as := [lI a1, lI a2, lI 0]) (rest := []) 15 26 (s_X3_minuteOf hl G a0 a1 a2 0 w) hc12 rfl (lw_V q2405 q2407 qs60 q110 q2408) (by decide +kernel) (by decide) rfl rfl (cat2_nil (k := 0)) rfl dX3_byStay_12 rfl (fun x12 w12 => ?_)
    refine r_aload_n 16 0 dX3_byStay_15 rfl rfl rfl ?_
    refine r_getr 19 gf_X3_9 dX3_byStay_16 rfl (fun x16 => ?_)
    refine r_iload_n 20 1 dX3_byStay_19 rfl rfl rfl ?_
    refine r_iload_n 21 2 dX3_byStay_20 rfl rfl rfl ?_
    refine r_callS (n := 2) (as := [lI a1, lI a2]) (rest := [rf x16, .int x12]) 24 (s_X3_ofStop hl G a1 a2 w12) (lw_S q2302 q2303 q110 q2304) (by decide +kernel) (by decide) rfl rfl (cat2_r (cat2_i (cat2_nil (k := 0)))) rfl dX3_byStay_21 rfl (fun x21 w21 => ?_)
    refine r_iconst (v := 4) 25 dX3_byStay_24 rfl rfl ?_
    refine r_iadd 26 dX3_byStay_25 rfl ?_
    refine r_iald 27 dX3_byStay_26 rfl (fun x26 => ?_)
    refine r_iadd 28 dX3_byStay_27 rfl ?_
    exact r_iret rfl rfl dX3_byStay_28
  refine r_iconst (v := (-1)) 5 dX3_byStay_4 rfl rfl ?_
  refine r_goto 28 dX3_byStay_5 (by decide) ?_
  exact r_iret rfl rfl dX3_byStay_28
theorem s_X3_byStay {l : Launch} {D : Dn} {H0 : Heap} (hl : l.stackTraces = false) (G : Nat) (a0 : Rf) (a1 : Int32) (a2 : Int32) (w : St) : SimN l D H0 yX3_byStay (ws_ yX3_byStay cX3_byStay 3 (some (.int))) 2 45 rvI [lR a0, lI a1, lI a2] w (f_X3_byStay G a0 a1 a2 w) := SimX.N (SimX.ofV (y := yX3_byStay) (by decide) rfl (t_X3_byStay hl G a0 a1 a2 w))
abbrev V_X3_byTurn (l : Launch) (D : Dn) (H0 : Heap) (w0 : St) (res : Option (Int32 × St)) (pc : Nat) (ls : List (Nat × LV)) (st : List Value) (w : St) : Prop := V l D H0 RX3 "byTurn" cX3_byTurn 4 (some (.int)) [] 2 45 (fun x => .inr (rvI x)) w0 res pc ls st w
theorem t_X3_byTurn_b13 {l : Launch} {D : Dn} {H0 : Heap} {w0 : St} (hl : l.stackTraces = false) (G : Nat) (v0 : Rf) (s0 : Int32) (w : St) : V_X3_byTurn l D H0 w0 (f_X3_byTurn_b13 G v0 s0 w) 13 [(0, lR v0)] [.int s0] w := by
  unfold f_X3_byTurn_b13
  refine r_istore_n (ls2 := [(3, lI s0), (0, lR v0)]) 14 dX3_byTurn_13 rfl (by decide) rfl rfl ?_
  refine r_iload_n 15 0 dX3_byTurn_14 rfl rfl rfl ?_
  refine r_iconst (v := (-1)) 16 dX3_byTurn_15 rfl rfl ?_
  refine r_icmp_ne 23 19 dX3_byTurn_16 (by decide) rfl ?_ ?_
  · refine r_aload_n 24 1 dX3_byTurn_23 rfl rfl rfl ?_
    refine r_iload_n 25 0 dX3_byTurn_24 rfl rfl rfl ?_
    refine r_aload_n 26 1 dX3_byTurn_25 rfl rfl rfl ?_
    refine r_iload_n 27 0 dX3_byTurn_26 rfl rfl rfl ?_
    refine r_gd (fun hc27 => ?_)
    refine r_callV (n := 1) (as := [lI s0]) (rest := [.int s0, rf v0]) 30 26 (s_X3_stops hl G v0 s0 w) hc27 rfl (lw_V q2325 q2327 qs47 q110 q2328) (by decide +kernel) (by decide) rfl rfl (cat2_i (cat2_r (cat2_nil (k := 0)))) rfl dX3_byTurn_27 rfl (fun x27 w27 => ?_)
    refine r_iconst (v := 1) 31 dX3_byTurn_30 rfl rfl ?_
    refine r_isub 32 dX3_byTurn_31 rfl ?_
    refine r_iconst (v := 0) 33 dX3_byTurn_32 rfl rfl ?_
    refine r_gd (fun hc33 => ?_)
    refine r_callV (n := 3) (as := [lI s0, lI (x27 - 1), lI 0]) (rest := []) 36 26 (s_X3_minuteOf hl G v0 s0 (x27 - 1) 0 w27) hc33 rfl (lw_V q2405 q2407 qs60 q110 q2408) (by decide +kernel) (by decide) rfl rfl (cat2_nil (k := 0)) rfl dX3_byTurn_33 rfl (fun x33 w33 => ?_)
    refine r_bipush (v := 10) 38 dX3_byTurn_36 rfl rfl ?_
    refine r_iadd 39 dX3_byTurn_38 rfl ?_
    exact r_iret rfl rfl dX3_byTurn_39
  refine r_iconst (v := (-1)) 20 dX3_byTurn_19 rfl rfl ?_
  refine r_goto 39 dX3_byTurn_20 (by decide) ?_
  exact r_iret rfl rfl dX3_byTurn_39
theorem t_X3_byTurn {l : Launch} {D : Dn} {H0 : Heap} {w0 : St} (hl : l.stackTraces = false) (G : Nat) (a0 : Rf) (a1 : Int32) (a2 : Int32) (w : St) : V_X3_byTurn l D H0 w0 (f_X3_byTurn G a0 a1 a2 w) 0 [(0, lR a0), (1, lI a1), (2, lI a2)] [] w := by
  unfold f_X3_byTurn
  refine r_iload_n 1 2 dX3_byTurn_0 rfl rfl rfl ?_
  refine r_if_ne 12 4 dX3_byTurn_1 (by decide) rfl ?_ ?_
  · refine r_iconst (v := (-1)) 13 dX3_byTurn_12 rfl rfl ?_
    exact r_lsP [0] rfl (t_X3_byTurn_b13 hl G  a0 ((-1)) w)
  refine r_aload_n 5 0 dX3_byTurn_4 rfl rfl rfl ?_
  refine r_iload_n 6 1 dX3_byTurn_5 rfl rfl rfl ?_
  refine r_gd (fun hc6 => ?_)
  refine r_callV (n := 1) (as := [lI a1]) (rest := []) 9 26 (s_X3_turnsInto hl G a0 a1 w) hc6 rfl (lw_V q2341 q2343 qs50 q110 q2344) (by decide +kernel) (by decide) rfl rfl (cat2_nil (k := 0)) rfl dX3_byTurn_6 rfl (fun x6 w6 => ?_)
  refine r_goto 13 dX3_byTurn_9 (by decide) ?_
  exact r_lsP [0] rfl (t_X3_byTurn_b13 hl G  a0 x6 w6)
theorem s_X3_byTurn {l : Launch} {D : Dn} {H0 : Heap} (hl : l.stackTraces = false) (G : Nat) (a0 : Rf) (a1 : Int32) (a2 : Int32) (w : St) : SimN l D H0 yX3_byTurn (ws_ yX3_byTurn cX3_byTurn 4 (some (.int))) 2 45 rvI [lR a0, lI a1, lI a2] w (f_X3_byTurn G a0 a1 a2 w) := SimX.N (SimX.ofV (y := yX3_byTurn) (by decide) rfl (t_X3_byTurn hl G a0 a1 a2 w))
abbrev V_X3_due (l : Launch) (D : Dn) (H0 : Heap) (w0 : St) (res : Option (Int32 × St)) (pc : Nat) (ls : List (Nat × LV)) (st : List Value) (w : St) : Prop := V l D H0 RX3 "due" cX3_due 3 (some (.int)) [] 3 68 (fun x => .inr (rvI x)) w0 res pc ls st w
theorem t_X3_due {l : Launch} {D : Dn} {H0 : Heap} {w0 : St} (hl : l.stackTraces = false) (G : Nat) (a0 : Rf) (a1 : Int32) (a2 : Int32) (w : St) : V_X3_due l D H0 w0 (f_X3_due G a0 a1 a2 w) 0 [(0, lR a0), (1, lI a1), (2, lI a2)] [] w := by
  unfold f_X3_due
  refine r_aload_n 1 0 dX3_due_0 rfl rfl rfl ?_
  refine r_iload_n 2 1 dX3_due_1 rfl rfl rfl ?_
  refine r_iload_n 3 2 dX3_due_2 rfl rfl rfl ?_
  refine r_iconst (v := 1) 4 dX3_due_3 rfl rfl ?_
  refine r_gd (fun hc4 => ?_)
  refine r_callV (n := 3) (as := [lI a1, lI a2, lI 1]) (rest := []) 7 26 (s_X3_planned hl G a0 a1 a2 1 w) hc4 rfl (lw_V q2329 q2331 qs48 q110 q2332) (by decide +kernel) (by decide) rfl rfl (cat2_nil (k := 0)) rfl dX3_due_4 rfl (fun x4 w4 => ?_)
  refine r_aload_n 8 0 dX3_due_7 rfl rfl rfl ?_
  refine r_iload_n 9 1 dX3_due_8 rfl rfl rfl ?_
  refine r_iload_n 10 2 dX3_due_9 rfl rfl rfl ?_
  refine r_gd (fun hc10 => ?_)
  refine r_callV (n := 2) (as := [lI a1, lI a2]) (rest := [.int x4]) 13 26 (s_X3_byStay hl G a0 a1 a2 w4) hc10 rfl (lw_V q2418 q2420 qs63 q110 q2421) (by decide +kernel) (by decide) rfl rfl (cat2_i (cat2_nil (k := 0))) rfl dX3_due_10 rfl (fun x10 w10 => ?_)
  refine r_aload_n 14 0 dX3_due_13 rfl rfl rfl ?_
  refine r_iload_n 15 1 dX3_due_14 rfl rfl rfl ?_
  refine r_iload_n 16 2 dX3_due_15 rfl rfl rfl ?_
  refine r_gd (fun hc16 => ?_)
  refine r_callV (n := 2) (as := [lI a1, lI a2]) (rest := [.int x10, .int x4]) 19 26 (s_X3_byTurn hl G a0 a1 a2 w10) hc16 rfl (lw_V q2422 q2424 qs64 q110 q2425) (by decide +kernel) (by decide) rfl rfl (cat2_i (cat2_i (cat2_nil (k := 0)))) rfl dX3_due_16 rfl (fun x16 w16 => ?_)
  refine r_callS (n := 2) (as := [lI x10, lI x16]) (rest := [.int x4]) 22 (s_J15_max hl G x10 x16 w16) (lw_S q2409 q441 q121 q442) (by decide +kernel) (by decide) rfl rfl (cat2_i (cat2_nil (k := 0))) rfl dX3_due_19 rfl (fun x19 w19 => ?_)
  refine r_callS (n := 2) (as := [lI x4, lI x19]) (rest := []) 25 (s_J15_max hl G x4 x19 w19) (lw_S q2409 q441 q121 q442) (by decide +kernel) (by decide) rfl rfl (cat2_nil (k := 0)) rfl dX3_due_22 rfl (fun x22 w22 => ?_)
  exact r_iret rfl rfl dX3_due_25
theorem s_X3_due {l : Launch} {D : Dn} {H0 : Heap} (hl : l.stackTraces = false) (G : Nat) (a0 : Rf) (a1 : Int32) (a2 : Int32) (w : St) : SimN l D H0 yX3_due (ws_ yX3_due cX3_due 3 (some (.int))) 3 68 rvI [lR a0, lI a1, lI a2] w (f_X3_due G a0 a1 a2 w) := SimX.N (SimX.ofV (y := yX3_due) (by decide) rfl (t_X3_due hl G a0 a1 a2 w))
abbrev V_X3_limitOf (l : Launch) (D : Dn) (H0 : Heap) (w0 : St) (res : Option (Int32 × St)) (pc : Nat) (ls : List (Nat × LV)) (st : List Value) (w : St) : Prop := V l D H0 RX3 "limitOf" cX3_limitOf 2 (some (.int)) [] 1 20 (fun x => .inr (rvI x)) w0 res pc ls st w
theorem t_X3_limitOf {l : Launch} {D : Dn} {H0 : Heap} {w0 : St} (hl : l.stackTraces = false) (G : Nat) (a0 : Rf) (a1 : Int32) (w : St) : V_X3_limitOf l D H0 w0 (f_X3_limitOf G a0 a1 w) 0 [(0, lR a0), (1, lI a1)] [] w := by
  unfold f_X3_limitOf
  refine r_aload_n 1 0 dX3_limitOf_0 rfl rfl rfl ?_
  refine r_geti 4 gf_X3_182 dX3_limitOf_1 rfl (fun x1 => ?_)
  refine r_iconst (v := (-1)) 5 dX3_limitOf_4 rfl rfl ?_
  refine r_icmp_ne 22 8 dX3_limitOf_5 (by decide) rfl ?_ ?_
  · refine r_aload_n 23 0 dX3_limitOf_22 rfl rfl rfl ?_
    refine r_geti 26 gf_X3_182 dX3_limitOf_23 rfl (fun x23 => ?_)
    exact r_iret rfl rfl dX3_limitOf_26
  refine r_aload_n 9 0 dX3_limitOf_8 rfl rfl rfl ?_
  refine r_getr 12 gf_X3_9 dX3_limitOf_9 rfl (fun x9 => ?_)
  refine r_iload_n 13 1 dX3_limitOf_12 rfl rfl rfl ?_
  refine r_callS (n := 1) (as := [lI a1]) (rest := [rf x9]) 16 (s_X3_ofLink hl G a1 w) (lw_S q2358 q2359 q110 q2360) (by decide +kernel) (by decide) rfl rfl (cat2_r (cat2_nil (k := 0))) rfl dX3_limitOf_13 rfl (fun x13 w13 => ?_)
  refine r_iconst (v := 5) 17 dX3_limitOf_16 rfl rfl ?_
  refine r_iadd 18 dX3_limitOf_17 rfl ?_
  refine r_iald 19 dX3_limitOf_18 rfl (fun x18 => ?_)
  refine r_goto 26 dX3_limitOf_19 (by decide) ?_
  exact r_iret rfl rfl dX3_limitOf_26
theorem s_X3_limitOf {l : Launch} {D : Dn} {H0 : Heap} (hl : l.stackTraces = false) (G : Nat) (a0 : Rf) (a1 : Int32) (w : St) : SimN l D H0 yX3_limitOf (ws_ yX3_limitOf cX3_limitOf 2 (some (.int))) 1 20 rvI [lR a0, lI a1] w (f_X3_limitOf G a0 a1 w) := SimX.N (SimX.ofV (y := yX3_limitOf) (by decide) rfl (t_X3_limitOf hl G a0 a1 w))
abbrev V_X3_isKept (l : Launch) (D : Dn) (H0 : Heap) (w0 : St) (res : Option (Int32 × St)) (pc : Nat) (ls : List (Nat × LV)) (st : List Value) (w : St) : Prop := V l D H0 RX3 "isKept" cX3_isKept 2 (some (.boolean)) [] 4 90 (fun x => .inr (rvI x)) w0 res pc ls st w
theorem t_X3_isKept {l : Launch} {D : Dn} {H0 : Heap} {w0 : St} (hl : l.stackTraces = false) (G : Nat) (a0 : Rf) (a1 : Int32) (w : St) : V_X3_isKept l D H0 w0 (f_X3_isKept G a0 a1 w) 0 [(0, lR a0), (1, lI a1)] [] w := by
  unfold f_X3_isKept
  refine r_aload_n 1 0 dX3_isKept_0 rfl rfl rfl ?_
  refine r_iload_n 2 1 dX3_isKept_1 rfl rfl rfl ?_
  refine r_gd (fun hc2 => ?_)
  refine r_callV (n := 1) (as := [lI a1]) (rest := []) 5 26 (s_X3_byLink hl G a0 a1 w) hc2 rfl (lw_V q2434 q2436 qs67 q110 q2437) (by decide +kernel) (by decide) rfl rfl (cat2_nil (k := 0)) rfl dX3_isKept_2 rfl (fun x2 w2 => ?_)
  refine r_aload_n 6 0 dX3_isKept_5 rfl rfl rfl ?_
  refine r_aload_n 7 0 dX3_isKept_6 rfl rfl rfl ?_
  refine r_getr 10 gf_X3_9 dX3_isKept_7 rfl (fun x7 => ?_)
  refine r_iload_n 11 1 dX3_isKept_10 rfl rfl rfl ?_
  refine r_callS (n := 1) (as := [lI a1]) (rest := [rf x7, rf a0, .int x2]) 14 (s_X3_ofLink hl G a1 w2) (lw_S q2358 q2359 q110 q2360) (by decide +kernel) (by decide) rfl rfl (cat2_r (cat2_r (cat2_i (cat2_nil (k := 0))))) rfl dX3_isKept_11 rfl (fun x11 w11 => ?_)
  refine r_iconst (v := 2) 15 dX3_isKept_14 rfl rfl ?_
  refine r_iadd 16 dX3_isKept_15 rfl ?_
  refine r_iald 17 dX3_isKept_16 rfl (fun x16 => ?_)
  refine r_aload_n 18 0 dX3_isKept_17 rfl rfl rfl ?_
  refine r_getr 21 gf_X3_9 dX3_isKept_18 rfl (fun x18 => ?_)
  refine r_iload_n 22 1 dX3_isKept_21 rfl rfl rfl ?_
  refine r_callS (n := 1) (as := [lI a1]) (rest := [rf x18, .int x16, rf a0, .int x2]) 25 (s_X3_ofLink hl G a1 w11) (lw_S q2358 q2359 q110 q2360) (by decide +kernel) (by decide) rfl rfl (cat2_r (cat2_i (cat2_r (cat2_i (cat2_nil (k := 0)))))) rfl dX3_isKept_22 rfl (fun x22 w22 => ?_)
  refine r_iconst (v := 3) 26 dX3_isKept_25 rfl rfl ?_
  refine r_iadd 27 dX3_isKept_26 rfl ?_
  refine r_iald 28 dX3_isKept_27 rfl (fun x27 => ?_)
  refine r_gd (fun hc28 => ?_)
  refine r_callV (n := 2) (as := [lI x16, lI x27]) (rest := [.int x2]) 31 26 (s_X3_due hl G a0 x16 x27 w22) hc28 rfl (lw_V q2414 q2416 qs62 q110 q2417) (by decide +kernel) (by decide) rfl rfl (cat2_i (cat2_nil (k := 0))) rfl dX3_isKept_28 rfl (fun x28 w28 => ?_)
  refine r_aload_n 32 0 dX3_isKept_31 rfl rfl rfl ?_
  refine r_iload_n 33 1 dX3_isKept_32 rfl rfl rfl ?_
  refine r_gd (fun hc33 => ?_)
  refine r_callV (n := 1) (as := [lI a1]) (rest := [.int x28, .int x2]) 36 26 (s_X3_limitOf hl G a0 a1 w28) hc33 rfl (lw_V q2438 q2440 qs68 q110 q2441) (by decide +kernel) (by decide) rfl rfl (cat2_i (cat2_i (cat2_nil (k := 0)))) rfl dX3_isKept_33 rfl (fun x33 w33 => ?_)
  refine r_iadd 37 dX3_isKept_36 rfl ?_
  refine r_icmp_gt 44 40 dX3_isKept_37 (by decide) rfl ?_ ?_
  · refine r_iconst (v := 0) 45 dX3_isKept_44 rfl rfl ?_
    exact r_zret rfl rfl rfl dX3_isKept_45
  refine r_iconst (v := 1) 41 dX3_isKept_40 rfl rfl ?_
  refine r_goto 45 dX3_isKept_41 (by decide) ?_
  exact r_zret rfl rfl rfl dX3_isKept_45
theorem s_X3_isKept {l : Launch} {D : Dn} {H0 : Heap} (hl : l.stackTraces = false) (G : Nat) (a0 : Rf) (a1 : Int32) (w : St) : SimN l D H0 yX3_isKept (ws_ yX3_isKept cX3_isKept 2 (some (.boolean))) 4 90 rvI [lR a0, lI a1] w (f_X3_isKept G a0 a1 w) := SimX.N (SimX.ofV (y := yX3_isKept) (by decide) rfl (t_X3_isKept hl G a0 a1 w))
abbrev V_X3_departureBase (l : Launch) (D : Dn) (H0 : Heap) (w0 : St) (res : Option (Int32 × St)) (pc : Nat) (ls : List (Nat × LV)) (st : List Value) (w : St) : Prop := V l D H0 RX3 "departureBase" cX3_departureBase 6 (some (.int)) [] 5 111 (fun x => .inr (rvI x)) w0 res pc ls st w
theorem t_X3_departureBase_b61 {l : Launch} {D : Dn} {H0 : Heap} {w0 : St} (hl : l.stackTraces = false) (G : Nat) (k11 : Rf → Int32 → Int32 → Int32 → Int32 → Int32 → St → Option (Int32 × St)) (h11 : ∀ v0 v1 v2 v3 v4 v5 w, V_X3_departureBase l D H0 w0 (k11 v0 v1 v2 v3 v4 v5 w) 11 [(0, lR v0), (1, lI v1), (2, lI v2), (3, lI v3), (4, lI v4), (5, lI v5)] [] w) (v0 : Rf) (v1 : Int32) (v2 : Int32) (v3 : Int32) (v4 : Int32) (v5 : Int32) (w : St) : V_X3_departureBase l D H0 w0 (f_X3_departureBase_b61 G k11 v0 v1 v2 v3 v4 v5 w) 61 [(0, lR v0), (1, lI v1), (2, lI v2), (3, lI v3), (4, lI v4), (5, lI v5)] [] w := by
  unfold f_X3_departureBase_b61
  refine r_iinc (v := v5 + 1) (ls2 := [(5, lI (v5 + 1)), (0, lR v0), (1, lI v1), (2, lI v2), (3, lI v3), (4, lI v4)]) 64 5 dX3_departureBase_61 rfl rfl (by decide) rfl rfl ?_
  refine r_goto 11 dX3_departureBase_64 (by decide) ?_
  exact r_lsP [1, 2, 3, 4, 5, 0] rfl (h11 v0 v1 v2 v3 v4 (v5 + 1) w)
theorem t_X3_departureBase_l11 {l : Launch} {D : Dn} {H0 : Heap} {w0 : St} (hl : l.stackTraces = false) (G : Nat) (k67 : Int32 → St → Option (Int32 × St)) (h67 : ∀ v4 w, V_X3_departureBase l D H0 w0 (k67 v4 w) 67 [(4, lI v4)] [] w) : ∀ (F : Nat) (v0 : Rf) (v1 : Int32) (v2 : Int32) (v3 : Int32) (v4 : Int32) (v5 : Int32) (w : St), V_X3_departureBase l D H0 w0 (f_X3_departureBase_l11 G k67 F v0 v1 v2 v3 v4 v5 w) 11 [(0, lR v0), (1, lI v1), (2, lI v2), (3, lI v3), (4, lI v4), (5, lI v5)] [] w := by
  intro F
  induction F with
  | zero => intros; exact r_none
  | succ F ih =>
    intro v0 v1 v2 v3 v4 v5 w
    unfold f_X3_departureBase_l11
    refine r_iload 13 5 dX3_departureBase_11 rfl rfl ?_
    refine r_aload_n 14 0 dX3_departureBase_13 rfl rfl rfl ?_
    refine r_getr 17 gf_X3_9 dX3_departureBase_14 rfl (fun x14 => ?_)
    refine r_iconst (v := 1) 18 dX3_departureBase_17 rfl rfl ?_
    refine r_iald 19 dX3_departureBase_18 rfl (fun x18 => ?_)
    refine r_icmp_ge 67 22 dX3_departureBase_19 (by decide) rfl ?_ ?_
    · exact r_lsP [4] rfl (h67 v4 w)
    refine r_iload 24 5 dX3_departureBase_22 rfl rfl ?_
    refine r_iload_n 25 3 dX3_departureBase_24 rfl rfl rfl ?_
    refine r_icmp_eq 61 28 dX3_departureBase_25 (by decide) rfl ?_ ?_
    · exact r_lsP [0, 1, 2, 3, 4, 5] rfl (t_X3_departureBase_b61 hl G (fun v0 v1 v2 v3 v4 v5 w => f_X3_departureBase_l11 G k67 F v0 v1 v2 v3 v4 v5 w) (fun v0 v1 v2 v3 v4 v5 w => ih v0 v1 v2 v3 v4 v5 w)  v0 v1 v2 v3 v4 v5 w)
    refine r_aload_n 29 0 dX3_departureBase_28 rfl rfl rfl ?_
    refine r_iload 31 5 dX3_departureBase_29 rfl rfl ?_
    refine r_iload_n 32 1 dX3_departureBase_31 rfl rfl rfl ?_
    refine r_iload_n 33 2 dX3_departureBase_32 rfl rfl rfl ?_
    refine r_gd (fun hc33 => ?_)
    refine r_callV (n := 3) (as := [lI v5, lI v1, lI v2]) (rest := []) 36 26 (s_X3_isTo hl G v0 v5 v1 v2 w) hc33 rfl (lw_V q2426 q2428 qs65 q110 q2429) (by decide +kernel) (by decide) rfl rfl (cat2_nil (k := 0)) rfl dX3_departureBase_33 rfl (fun x33 w33 => ?_)
    refine r_if_eq 61 39 dX3_departureBase_36 (by decide) rfl ?_ ?_
    · exact r_lsP [0, 1, 2, 3, 4, 5] rfl (t_X3_departureBase_b61 hl G (fun v0 v1 v2 v3 v4 v5 w => f_X3_departureBase_l11 G k67 F v0 v1 v2 v3 v4 v5 w) (fun v0 v1 v2 v3 v4 v5 w => ih v0 v1 v2 v3 v4 v5 w)  v0 v1 v2 v3 v4 v5 w33)
    refine r_aload_n 40 0 dX3_departureBase_39 rfl rfl rfl ?_
    refine r_iload 42 5 dX3_departureBase_40 rfl rfl ?_
    refine r_gd (fun hc42 => ?_)
    refine r_callV (n := 1) (as := [lI v5]) (rest := []) 45 26 (s_X3_isKept hl G v0 v5 w33) hc42 rfl (lw_V q2430 q2432 qs66 q110 q2433) (by decide +kernel) (by decide) rfl rfl (cat2_nil (k := 0)) rfl dX3_departureBase_42 rfl (fun x42 w42 => ?_)
    refine r_if_eq 61 48 dX3_departureBase_45 (by decide) rfl ?_ ?_
    · exact r_lsP [0, 1, 2, 3, 4, 5] rfl (t_X3_departureBase_b61 hl G (fun v0 v1 v2 v3 v4 v5 w => f_X3_departureBase_l11 G k67 F v0 v1 v2 v3 v4 v5 w) (fun v0 v1 v2 v3 v4 v5 w => ih v0 v1 v2 v3 v4 v5 w)  v0 v1 v2 v3 v4 v5 w42)
    refine r_iload 50 4 dX3_departureBase_48 rfl rfl ?_
    refine r_aload_n 51 0 dX3_departureBase_50 rfl rfl rfl ?_
    refine r_iload 53 5 dX3_departureBase_51 rfl rfl ?_
    refine r_gd (fun hc53 => ?_)
    refine r_callV (n := 1) (as := [lI v5]) (rest := [.int v4]) 56 26 (s_X3_byLink hl G v0 v5 w42) hc53 rfl (lw_V q2434 q2436 qs67 q110 q2437) (by decide +kernel) (by decide) rfl rfl (cat2_i (cat2_nil (k := 0))) rfl dX3_departureBase_53 rfl (fun x53 w53 => ?_)
    refine r_callS (n := 2) (as := [lI v4, lI x53]) (rest := []) 59 (s_J15_max hl G v4 x53 w53) (lw_S q2409 q441 q121 q442) (by decide +kernel) (by decide) rfl rfl (cat2_nil (k := 0)) rfl dX3_departureBase_56 rfl (fun x56 w56 => ?_)
    refine r_istore (ls2 := [(4, lI x56), (0, lR v0), (1, lI v1), (2, lI v2), (3, lI v3), (5, lI v5)]) 61 dX3_departureBase_59 (by decide) rfl rfl ?_
    exact r_lsP [1, 2, 3, 4, 0, 5] rfl (t_X3_departureBase_b61 hl G (fun v0 v1 v2 v3 v4 v5 w => f_X3_departureBase_l11 G k67 F v0 v1 v2 v3 v4 v5 w) (fun v0 v1 v2 v3 v4 v5 w => ih v0 v1 v2 v3 v4 v5 w)  v0 v1 v2 v3 x56 v5 w56)
theorem t_X3_departureBase_b67 {l : Launch} {D : Dn} {H0 : Heap} {w0 : St} (hl : l.stackTraces = false) (G : Nat) (v4 : Int32) (w : St) : V_X3_departureBase l D H0 w0 (f_X3_departureBase_b67 G v4 w) 67 [(4, lI v4)] [] w := by
  unfold f_X3_departureBase_b67
  refine r_iload 69 0 dX3_departureBase_67 rfl rfl ?_
  exact r_iret rfl rfl dX3_departureBase_69
theorem t_X3_departureBase {l : Launch} {D : Dn} {H0 : Heap} {w0 : St} (hl : l.stackTraces = false) (G : Nat) (a0 : Rf) (a1 : Int32) (a2 : Int32) (a3 : Int32) (w : St) : V_X3_departureBase l D H0 w0 (f_X3_departureBase G a0 a1 a2 a3 w) 0 [(0, lR a0), (1, lI a1), (2, lI a2), (3, lI a3)] [] w := by
  unfold f_X3_departureBase
  refine r_aload_n 1 0 dX3_departureBase_0 rfl rfl rfl ?_
  refine r_iload_n 2 1 dX3_departureBase_1 rfl rfl rfl ?_
  refine r_iload_n 3 2 dX3_departureBase_2 rfl rfl rfl ?_
  refine r_gd (fun hc3 => ?_)
  refine r_callV (n := 2) (as := [lI a1, lI a2]) (rest := []) 6 26 (s_X3_due hl G a0 a1 a2 w) hc3 rfl (lw_V q2414 q2416 qs62 q110 q2417) (by decide +kernel) (by decide) rfl rfl (cat2_nil (k := 0)) rfl dX3_departureBase_3 rfl (fun x3 w3 => ?_)
  refine r_istore (ls2 := [(4, lI x3), (0, lR a0), (1, lI a1), (2, lI a2), (3, lI a3)]) 8 dX3_departureBase_6 (by decide) rfl rfl ?_
  refine r_iconst (v := 0) 9 dX3_departureBase_8 rfl rfl ?_
  refine r_istore (ls2 := [(5, lI 0), (4, lI x3), (0, lR a0), (1, lI a1), (2, lI a2), (3, lI a3)]) 11 dX3_departureBase_9 (by decide) rfl rfl ?_
  exact r_lsP [2, 3, 4, 5, 1, 0] rfl (t_X3_departureBase_l11 hl G (fun v4 w => f_X3_departureBase_b67 G  v4 w) (fun v4 w => t_X3_departureBase_b67 hl G  v4 w) G a0 a1 a2 a3 x3 0 w3)
theorem s_X3_departureBase {l : Launch} {D : Dn} {H0 : Heap} (hl : l.stackTraces = false) (G : Nat) (a0 : Rf) (a1 : Int32) (a2 : Int32) (a3 : Int32) (w : St) : SimN l D H0 yX3_departureBase (ws_ yX3_departureBase cX3_departureBase 6 (some (.int))) 5 111 rvI [lR a0, lI a1, lI a2, lI a3] w (f_X3_departureBase G a0 a1 a2 a3 w) := SimX.N (SimX.ofV (y := yX3_departureBase) (by decide) rfl (t_X3_departureBase hl G a0 a1 a2 a3 w))
