set_option maxRecDepth 100000
set_option maxHeartbeats 4000000
noncomputable def f_L_law_b2530 (G : Nat) (k28 : Rf → Rf → Rf → Rf → Rf → Int32 → St → Option (Int32 × St)) (v0 : Rf) (v1 : Rf) (v2 : Rf) (v3 : Rf) (v4 : Rf) (v5 : Int32) (w : St) : Option (Int32 × St) :=
  k28 v0 v1 v2 v3 v4 (v5 + 7) w
noncomputable def f_L_law_b277 (G : Nat) (k28 : Rf → Rf → Rf → Rf → Rf → Int32 → St → Option (Int32 × St)) (v0 : Rf) (v1 : Rf) (v2 : Rf) (v3 : Rf) (v4 : Rf) (v5 : Int32) (w : St) : Option (Int32 × St) :=
  f_L_law_b2530 G k28  v0 v1 v2 v3 v4 v5 w
noncomputable def f_L_law_b212 (G : Nat) (k28 : Rf → Rf → Rf → Rf → Rf → Int32 → St → Option (Int32 × St)) (k258 : St → Option (Int32 × St)) (k275 : St → Option (Int32 × St)) (v0 : Rf) (v1 : Rf) (v2 : Rf) (v3 : Rf) (v4 : Rf) (v5 : Int32) (w : St) : Option (Int32 × St) :=
  bo (iald v0 (v5 + 1) w) fun x218 =>
  bo (iald v0 (v5 + 2) w) fun x224 =>
  bd (f_X0_coach G v1 x218 x224 v3 w) fun x226 w226 =>
  bo (iald v0 (v5 + 1) w226) fun x237 =>
  bo (iald v0 (v5 + 2) w226) fun x243 =>
  gd (cls v2 w226 = some 26) <|
  bd (f_X3_coach G v2 x237 x243 w226) fun x244 w244 =>
  gd (cls v2 w244 = some 26) <|
  bd (f_X3_thrown G v2 w244) fun x250 w250 =>
  if x250 = x226 then (if x226 = 0 then (bo (jald v3 0 w250) fun x267 =>
  if (lg_cmp x267 x244.toInt64) = 0 then (f_L_law_b277 G k28  v0 v1 v2 v3 v4 v5 w250) else
  (k275 w250)) else
  (f_L_law_b277 G k28  v0 v1 v2 v3 v4 v5 w250)) else
  (k258 w250)
noncomputable def f_L_law_b395 (G : Nat) (k28 : Rf → Rf → Rf → Rf → Rf → Int32 → St → Option (Int32 × St)) (v0 : Rf) (v1 : Rf) (v2 : Rf) (v3 : Rf) (v4 : Rf) (v5 : Int32) (w : St) : Option (Int32 × St) :=
  f_L_law_b2530 G k28  v0 v1 v2 v3 v4 v5 w
noncomputable def f_L_law_b280 (G : Nat) (k28 : Rf → Rf → Rf → Rf → Rf → Int32 → St → Option (Int32 × St)) (k376 : St → Option (Int32 × St)) (k393 : St → Option (Int32 × St)) (v0 : Rf) (v1 : Rf) (v2 : Rf) (v3 : Rf) (v4 : Rf) (v5 : Int32) (w : St) : Option (Int32 × St) :=
  bo (iald v0 (v5 + 1) w) fun x286 =>
  bo (iald v0 (v5 + 2) w) fun x292 =>
  bo (iald v0 (v5 + 3) w) fun x298 =>
  bo (iald v0 (v5 + 4) w) fun x304 =>
  bo (iald v0 (v5 + 5) w) fun x310 =>
  bo (iald v0 (v5 + 6) w) fun x317 =>
  bd (f_X0_leg G v1 x286 x292 x298 x304 x310 x317 v3 w) fun x319 w319 =>
  bo (iald v0 (v5 + 1) w319) fun x330 =>
  bo (iald v0 (v5 + 2) w319) fun x336 =>
  bo (iald v0 (v5 + 3) w319) fun x342 =>
  bo (iald v0 (v5 + 4) w319) fun x348 =>
  bo (iald v0 (v5 + 5) w319) fun x354 =>
  bo (iald v0 (v5 + 6) w319) fun x361 =>
  gd (cls v2 w319 = some 26) <|
  bd (f_X3_leg G v2 x330 x336 x342 x348 x354 x361 w319) fun x362 w362 =>
  gd (cls v2 w362 = some 26) <|
  bd (f_X3_thrown G v2 w362) fun x368 w368 =>
  if x368 = x319 then (if x319 = 0 then (bo (jald v3 0 w368) fun x385 =>
  if (lg_cmp x385 x362.toInt64) = 0 then (f_L_law_b395 G k28  v0 v1 v2 v3 v4 v5 w368) else
  (k393 w368)) else
  (f_L_law_b395 G k28  v0 v1 v2 v3 v4 v5 w368)) else
  (k376 w368)
noncomputable def f_L_law_b463 (G : Nat) (k28 : Rf → Rf → Rf → Rf → Rf → Int32 → St → Option (Int32 × St)) (v0 : Rf) (v1 : Rf) (v2 : Rf) (v3 : Rf) (v4 : Rf) (v5 : Int32) (w : St) : Option (Int32 × St) :=
  f_L_law_b2530 G k28  v0 v1 v2 v3 v4 v5 w
noncomputable def f_L_law_b398 (G : Nat) (k28 : Rf → Rf → Rf → Rf → Rf → Int32 → St → Option (Int32 × St)) (k444 : St → Option (Int32 × St)) (k461 : St → Option (Int32 × St)) (v0 : Rf) (v1 : Rf) (v2 : Rf) (v3 : Rf) (v4 : Rf) (v5 : Int32) (w : St) : Option (Int32 × St) :=
  bo (iald v0 (v5 + 1) w) fun x404 =>
  bo (iald v0 (v5 + 2) w) fun x410 =>
  bd (f_X0_turn G v1 x404 x410 v3 w) fun x412 w412 =>
  bo (iald v0 (v5 + 1) w412) fun x423 =>
  bo (iald v0 (v5 + 2) w412) fun x429 =>
  gd (cls v2 w412 = some 26) <|
  bd (f_X3_turn G v2 x423 x429 w412) fun x430 w430 =>
  gd (cls v2 w430 = some 26) <|
  bd (f_X3_thrown G v2 w430) fun x436 w436 =>
  if x436 = x412 then (if x412 = 0 then (bo (jald v3 0 w436) fun x453 =>
  if (lg_cmp x453 x430.toInt64) = 0 then (f_L_law_b463 G k28  v0 v1 v2 v3 v4 v5 w436) else
  (k461 w436)) else
  (f_L_law_b463 G k28  v0 v1 v2 v3 v4 v5 w436)) else
  (k444 w436)
noncomputable def f_L_law_b581 (G : Nat) (k28 : Rf → Rf → Rf → Rf → Rf → Int32 → St → Option (Int32 × St)) (v0 : Rf) (v1 : Rf) (v2 : Rf) (v3 : Rf) (v4 : Rf) (v5 : Int32) (w : St) : Option (Int32 × St) :=
  f_L_law_b2530 G k28  v0 v1 v2 v3 v4 v5 w
noncomputable def f_L_law_b466 (G : Nat) (k28 : Rf → Rf → Rf → Rf → Rf → Int32 → St → Option (Int32 × St)) (k562 : St → Option (Int32 × St)) (k579 : St → Option (Int32 × St)) (v0 : Rf) (v1 : Rf) (v2 : Rf) (v3 : Rf) (v4 : Rf) (v5 : Int32) (w : St) : Option (Int32 × St) :=
  bo (iald v0 (v5 + 1) w) fun x472 =>
  bo (iald v0 (v5 + 2) w) fun x478 =>
  bo (iald v0 (v5 + 3) w) fun x484 =>
  bo (iald v0 (v5 + 4) w) fun x490 =>
  bo (iald v0 (v5 + 5) w) fun x496 =>
  bo (iald v0 (v5 + 6) w) fun x503 =>
  bd (f_X0_link G v1 x472 x478 x484 x490 x496 x503 v3 w) fun x505 w505 =>
  bo (iald v0 (v5 + 1) w505) fun x516 =>
  bo (iald v0 (v5 + 2) w505) fun x522 =>
  bo (iald v0 (v5 + 3) w505) fun x528 =>
  bo (iald v0 (v5 + 4) w505) fun x534 =>
  bo (iald v0 (v5 + 5) w505) fun x540 =>
  bo (iald v0 (v5 + 6) w505) fun x547 =>
  gd (cls v2 w505 = some 26) <|
  bd (f_X3_link G v2 x516 x522 x528 x534 x540 x547 w505) fun x548 w548 =>
  gd (cls v2 w548 = some 26) <|
  bd (f_X3_thrown G v2 w548) fun x554 w554 =>
  if x554 = x505 then (if x505 = 0 then (bo (jald v3 0 w554) fun x571 =>
  if (lg_cmp x571 x548.toInt64) = 0 then (f_L_law_b581 G k28  v0 v1 v2 v3 v4 v5 w554) else
  (k579 w554)) else
  (f_L_law_b581 G k28  v0 v1 v2 v3 v4 v5 w554)) else
  (k562 w554)
noncomputable def f_L_law_b637 (G : Nat) (k28 : Rf → Rf → Rf → Rf → Rf → Int32 → St → Option (Int32 × St)) (v0 : Rf) (v1 : Rf) (v2 : Rf) (v3 : Rf) (v4 : Rf) (v5 : Int32) (w : St) : Option (Int32 × St) :=
  f_L_law_b2530 G k28  v0 v1 v2 v3 v4 v5 w
noncomputable def f_L_law_b584 (G : Nat) (k28 : Rf → Rf → Rf → Rf → Rf → Int32 → St → Option (Int32 × St)) (k618 : St → Option (Int32 × St)) (k635 : St → Option (Int32 × St)) (v0 : Rf) (v1 : Rf) (v2 : Rf) (v3 : Rf) (v4 : Rf) (v5 : Int32) (w : St) : Option (Int32 × St) :=
  bo (iald v0 (v5 + 1) w) fun x590 =>
  bd (f_X0_cut G v1 x590 v3 w) fun x592 w592 =>
  bo (iald v0 (v5 + 1) w592) fun x603 =>
  gd (cls v2 w592 = some 26) <|
  bd (f_X3_cut G v2 x603 w592) fun x604 w604 =>
  gd (cls v2 w604 = some 26) <|
  bd (f_X3_thrown G v2 w604) fun x610 w610 =>
  if x610 = x592 then (if x592 = 0 then (bo (jald v3 0 w610) fun x627 =>
  if (lg_cmp x627 x604.toInt64) = 0 then (f_L_law_b637 G k28  v0 v1 v2 v3 v4 v5 w610) else
  (k635 w610)) else
  (f_L_law_b637 G k28  v0 v1 v2 v3 v4 v5 w610)) else
  (k618 w610)
noncomputable def f_L_law_b705 (G : Nat) (k28 : Rf → Rf → Rf → Rf → Rf → Int32 → St → Option (Int32 × St)) (v0 : Rf) (v1 : Rf) (v2 : Rf) (v3 : Rf) (v4 : Rf) (v5 : Int32) (w : St) : Option (Int32 × St) :=
  f_L_law_b2530 G k28  v0 v1 v2 v3 v4 v5 w
noncomputable def f_L_law_b640 (G : Nat) (k28 : Rf → Rf → Rf → Rf → Rf → Int32 → St → Option (Int32 × St)) (k686 : St → Option (Int32 × St)) (k703 : St → Option (Int32 × St)) (v0 : Rf) (v1 : Rf) (v2 : Rf) (v3 : Rf) (v4 : Rf) (v5 : Int32) (w : St) : Option (Int32 × St) :=
  bo (iald v0 (v5 + 1) w) fun x646 =>
  bo (iald v0 (v5 + 2) w) fun x652 =>
  bd (f_X0_limit G v1 x646 x652 v3 w) fun x654 w654 =>
  bo (iald v0 (v5 + 1) w654) fun x665 =>
  bo (iald v0 (v5 + 2) w654) fun x671 =>
  gd (cls v2 w654 = some 26) <|
  bd (f_X3_limit G v2 x665 x671 w654) fun x672 w672 =>
  gd (cls v2 w672 = some 26) <|
  bd (f_X3_thrown G v2 w672) fun x678 w678 =>
  if x678 = x654 then (if x654 = 0 then (bo (jald v3 0 w678) fun x695 =>
  if (lg_cmp x695 x672.toInt64) = 0 then (f_L_law_b705 G k28  v0 v1 v2 v3 v4 v5 w678) else
  (k703 w678)) else
  (f_L_law_b705 G k28  v0 v1 v2 v3 v4 v5 w678)) else
  (k686 w678)
noncomputable def f_L_law_b813 (G : Nat) (k28 : Rf → Rf → Rf → Rf → Rf → Int32 → St → Option (Int32 × St)) (v0 : Rf) (v1 : Rf) (v2 : Rf) (v3 : Rf) (v4 : Rf) (v5 : Int32) (w : St) : Option (Int32 × St) :=
  f_L_law_b2530 G k28  v0 v1 v2 v3 v4 v5 w
noncomputable def f_L_law_b774 (G : Nat) (k28 : Rf → Rf → Rf → Rf → Rf → Int32 → St → Option (Int32 × St)) (k794 : St → Option (Int32 × St)) (k811 : St → Option (Int32 × St)) (v0 : Rf) (v1 : Rf) (v2 : Rf) (v3 : Rf) (v4 : Rf) (v5 : Int32) (v6 : Int32) (s0 : Int32) (s1 : Int32) (s2 : Int32) (s3 : Rf) (w : St) : Option (Int32 × St) :=
  bo (iald v0 (v5 + 4) w) fun x779 =>
  gd (cls s3 w = some 26) <|
  bd (f_X3_late G s3 s2 s1 s0 x779 w) fun x780 w780 =>
  gd (cls v2 w780 = some 26) <|
  bd (f_X3_thrown G v2 w780) fun x786 w786 =>
  if x786 = v6 then (if v6 = 0 then (bo (jald v3 0 w786) fun x803 =>
  if (lg_cmp x803 x780.toInt64) = 0 then (f_L_law_b813 G k28  v0 v1 v2 v3 v4 v5 w786) else
  (k811 w786)) else
  (f_L_law_b813 G k28  v0 v1 v2 v3 v4 v5 w786)) else
  (k794 w786)
noncomputable def f_L_law_b735 (G : Nat) (k28 : Rf → Rf → Rf → Rf → Rf → Int32 → St → Option (Int32 × St)) (k794 : St → Option (Int32 × St)) (k811 : St → Option (Int32 × St)) (v0 : Rf) (v1 : Rf) (v2 : Rf) (v3 : Rf) (v4 : Rf) (v5 : Int32) (s0 : Int32) (s1 : Int32) (s2 : Int32) (s3 : Rf) (w : St) : Option (Int32 × St) :=
  bo (iald v0 (v5 + 4) w) fun x740 =>
  bd (f_X0_late G s3 s2 s1 s0 x740 v3 w) fun x742 w742 =>
  bo (iald v0 (v5 + 1) w742) fun x753 =>
  bo (iald v0 (v5 + 2) w742) fun x759 =>
  bo (iald v0 (v5 + 3) w742) fun x765 =>
  if x765 = 0 then (f_L_law_b774 G k28 k794 k811  v0 v1 v2 v3 v4 v5 x742 0 x759 x753 v2 w742) else
  (f_L_law_b774 G k28 k794 k811  v0 v1 v2 v3 v4 v5 x742 1 x759 x753 v2 w742)
noncomputable def f_L_law_b708 (G : Nat) (k28 : Rf → Rf → Rf → Rf → Rf → Int32 → St → Option (Int32 × St)) (k794 : St → Option (Int32 × St)) (k811 : St → Option (Int32 × St)) (v0 : Rf) (v1 : Rf) (v2 : Rf) (v3 : Rf) (v4 : Rf) (v5 : Int32) (w : St) : Option (Int32 × St) :=
  bo (iald v0 (v5 + 1) w) fun x714 =>
  bo (iald v0 (v5 + 2) w) fun x720 =>
  bo (iald v0 (v5 + 3) w) fun x726 =>
  if x726 = 0 then (f_L_law_b735 G k28 k794 k811  v0 v1 v2 v3 v4 v5 0 x720 x714 v1 w) else
  (f_L_law_b735 G k28 k794 k811  v0 v1 v2 v3 v4 v5 1 x720 x714 v1 w)
noncomputable def f_L_law_b881 (G : Nat) (k28 : Rf → Rf → Rf → Rf → Rf → Int32 → St → Option (Int32 × St)) (v0 : Rf) (v1 : Rf) (v2 : Rf) (v3 : Rf) (v4 : Rf) (v5 : Int32) (w : St) : Option (Int32 × St) :=
  f_L_law_b2530 G k28  v0 v1 v2 v3 v4 v5 w
noncomputable def f_L_law_b816 (G : Nat) (k28 : Rf → Rf → Rf → Rf → Rf → Int32 → St → Option (Int32 × St)) (k862 : St → Option (Int32 × St)) (k879 : St → Option (Int32 × St)) (v0 : Rf) (v1 : Rf) (v2 : Rf) (v3 : Rf) (v4 : Rf) (v5 : Int32) (w : St) : Option (Int32 × St) :=
  bo (iald v0 (v5 + 1) w) fun x822 =>
  bo (iald v0 (v5 + 2) w) fun x828 =>
  bd (f_X0_coachOf G v1 x822 x828 v3 w) fun x830 w830 =>
  bo (iald v0 (v5 + 1) w830) fun x841 =>
  bo (iald v0 (v5 + 2) w830) fun x847 =>
  gd (cls v2 w830 = some 26) <|
  bd (f_X3_coachOf G v2 x841 x847 w830) fun x848 w848 =>
  gd (cls v2 w848 = some 26) <|
  bd (f_X3_thrown G v2 w848) fun x854 w854 =>
  if x854 = x830 then (if x830 = 0 then (bo (jald v3 0 w854) fun x871 =>
  if (lg_cmp x871 x848.toInt64) = 0 then (f_L_law_b881 G k28  v0 v1 v2 v3 v4 v5 w854) else
  (k879 w854)) else
  (f_L_law_b881 G k28  v0 v1 v2 v3 v4 v5 w854)) else
  (k862 w854)
noncomputable def f_L_law_b961 (G : Nat) (k28 : Rf → Rf → Rf → Rf → Rf → Int32 → St → Option (Int32 × St)) (v0 : Rf) (v1 : Rf) (v2 : Rf) (v3 : Rf) (v4 : Rf) (v5 : Int32) (w : St) : Option (Int32 × St) :=
  f_L_law_b2530 G k28  v0 v1 v2 v3 v4 v5 w
noncomputable def f_L_law_b884 (G : Nat) (k28 : Rf → Rf → Rf → Rf → Rf → Int32 → St → Option (Int32 × St)) (k942 : St → Option (Int32 × St)) (k959 : St → Option (Int32 × St)) (v0 : Rf) (v1 : Rf) (v2 : Rf) (v3 : Rf) (v4 : Rf) (v5 : Int32) (w : St) : Option (Int32 × St) :=
  bo (iald v0 (v5 + 1) w) fun x890 =>
  bo (iald v0 (v5 + 2) w) fun x896 =>
  bo (iald v0 (v5 + 3) w) fun x902 =>
  bd (f_X0_stopOf G v1 x890 x896 x902 v3 w) fun x904 w904 =>
  bo (iald v0 (v5 + 1) w904) fun x915 =>
  bo (iald v0 (v5 + 2) w904) fun x921 =>
  bo (iald v0 (v5 + 3) w904) fun x927 =>
  gd (cls v2 w904 = some 26) <|
  bd (f_X3_stopOf G v2 x915 x921 x927 w904) fun x928 w928 =>
  gd (cls v2 w928 = some 26) <|
  bd (f_X3_thrown G v2 w928) fun x934 w934 =>
  if x934 = x904 then (if x904 = 0 then (bo (jald v3 0 w934) fun x951 =>
  if (lg_cmp x951 x928.toInt64) = 0 then (f_L_law_b961 G k28  v0 v1 v2 v3 v4 v5 w934) else
  (k959 w934)) else
  (f_L_law_b961 G k28  v0 v1 v2 v3 v4 v5 w934)) else
  (k942 w934)
noncomputable def f_L_law_b1069 (G : Nat) (k28 : Rf → Rf → Rf → Rf → Rf → Int32 → St → Option (Int32 × St)) (v0 : Rf) (v1 : Rf) (v2 : Rf) (v3 : Rf) (v4 : Rf) (v5 : Int32) (w : St) : Option (Int32 × St) :=
  f_L_law_b2530 G k28  v0 v1 v2 v3 v4 v5 w
noncomputable def f_L_law_b1030 (G : Nat) (k28 : Rf → Rf → Rf → Rf → Rf → Int32 → St → Option (Int32 × St)) (k1050 : St → Option (Int32 × St)) (k1067 : St → Option (Int32 × St)) (v0 : Rf) (v1 : Rf) (v2 : Rf) (v3 : Rf) (v4 : Rf) (v5 : Int32) (v6 : Int32) (s0 : Int32) (s1 : Int32) (s2 : Int32) (s3 : Rf) (w : St) : Option (Int32 × St) :=
  bo (iald v0 (v5 + 4) w) fun x1035 =>
  gd (cls s3 w = some 26) <|
  bd (f_X3_eventOf G s3 s2 s1 s0 x1035 w) fun x1036 w1036 =>
  gd (cls v2 w1036 = some 26) <|
  bd (f_X3_thrown G v2 w1036) fun x1042 w1042 =>
  if x1042 = v6 then (if v6 = 0 then (bo (jald v3 0 w1042) fun x1059 =>
  if (lg_cmp x1059 x1036.toInt64) = 0 then (f_L_law_b1069 G k28  v0 v1 v2 v3 v4 v5 w1042) else
  (k1067 w1042)) else
  (f_L_law_b1069 G k28  v0 v1 v2 v3 v4 v5 w1042)) else
  (k1050 w1042)
noncomputable def f_L_law_b991 (G : Nat) (k28 : Rf → Rf → Rf → Rf → Rf → Int32 → St → Option (Int32 × St)) (k1050 : St → Option (Int32 × St)) (k1067 : St → Option (Int32 × St)) (v0 : Rf) (v1 : Rf) (v2 : Rf) (v3 : Rf) (v4 : Rf) (v5 : Int32) (s0 : Int32) (s1 : Int32) (s2 : Int32) (s3 : Rf) (w : St) : Option (Int32 × St) :=
  bo (iald v0 (v5 + 4) w) fun x996 =>
  bd (f_X0_eventOf G s3 s2 s1 s0 x996 v3 w) fun x998 w998 =>
  bo (iald v0 (v5 + 1) w998) fun x1009 =>
  bo (iald v0 (v5 + 2) w998) fun x1015 =>
  bo (iald v0 (v5 + 3) w998) fun x1021 =>
  if x1021 = 0 then (f_L_law_b1030 G k28 k1050 k1067  v0 v1 v2 v3 v4 v5 x998 0 x1015 x1009 v2 w998) else
  (f_L_law_b1030 G k28 k1050 k1067  v0 v1 v2 v3 v4 v5 x998 1 x1015 x1009 v2 w998)
noncomputable def f_L_law_b964 (G : Nat) (k28 : Rf → Rf → Rf → Rf → Rf → Int32 → St → Option (Int32 × St)) (k1050 : St → Option (Int32 × St)) (k1067 : St → Option (Int32 × St)) (v0 : Rf) (v1 : Rf) (v2 : Rf) (v3 : Rf) (v4 : Rf) (v5 : Int32) (w : St) : Option (Int32 × St) :=
  bo (iald v0 (v5 + 1) w) fun x970 =>
  bo (iald v0 (v5 + 2) w) fun x976 =>
  bo (iald v0 (v5 + 3) w) fun x982 =>
  if x982 = 0 then (f_L_law_b991 G k28 k1050 k1067  v0 v1 v2 v3 v4 v5 0 x976 x970 v1 w) else
  (f_L_law_b991 G k28 k1050 k1067  v0 v1 v2 v3 v4 v5 1 x976 x970 v1 w)
noncomputable def f_L_law_b1165 (G : Nat) (k28 : Rf → Rf → Rf → Rf → Rf → Int32 → St → Option (Int32 × St)) (v0 : Rf) (v1 : Rf) (v2 : Rf) (v3 : Rf) (v4 : Rf) (v5 : Int32) (w : St) : Option (Int32 × St) :=
  f_L_law_b2530 G k28  v0 v1 v2 v3 v4 v5 w
noncomputable def f_L_law_b1132 (G : Nat) (k28 : Rf → Rf → Rf → Rf → Rf → Int32 → St → Option (Int32 × St)) (k1146 : St → Option (Int32 × St)) (k1163 : St → Option (Int32 × St)) (v0 : Rf) (v1 : Rf) (v2 : Rf) (v3 : Rf) (v4 : Rf) (v5 : Int32) (v6 : Int32) (s0 : Int32) (s1 : Int32) (s2 : Int32) (s3 : Rf) (w : St) : Option (Int32 × St) :=
  gd (cls s3 w = some 26) <|
  bd (f_X3_minute G s3 s2 s1 s0 w) fun x1132 w1132 =>
  gd (cls v2 w1132 = some 26) <|
  bd (f_X3_thrown G v2 w1132) fun x1138 w1138 =>
  if x1138 = v6 then (if v6 = 0 then (bo (jald v3 0 w1138) fun x1155 =>
  if (lg_cmp x1155 x1132.toInt64) = 0 then (f_L_law_b1165 G k28  v0 v1 v2 v3 v4 v5 w1138) else
  (k1163 w1138)) else
  (f_L_law_b1165 G k28  v0 v1 v2 v3 v4 v5 w1138)) else
  (k1146 w1138)
noncomputable def f_L_law_b1099 (G : Nat) (k28 : Rf → Rf → Rf → Rf → Rf → Int32 → St → Option (Int32 × St)) (k1146 : St → Option (Int32 × St)) (k1163 : St → Option (Int32 × St)) (v0 : Rf) (v1 : Rf) (v2 : Rf) (v3 : Rf) (v4 : Rf) (v5 : Int32) (s0 : Int32) (s1 : Int32) (s2 : Int32) (s3 : Rf) (w : St) : Option (Int32 × St) :=
  bd (f_X0_minute G s3 s2 s1 s0 v3 w) fun x1100 w1100 =>
  bo (iald v0 (v5 + 1) w1100) fun x1111 =>
  bo (iald v0 (v5 + 2) w1100) fun x1117 =>
  bo (iald v0 (v5 + 3) w1100) fun x1123 =>
  if x1123 = 0 then (f_L_law_b1132 G k28 k1146 k1163  v0 v1 v2 v3 v4 v5 x1100 0 x1117 x1111 v2 w1100) else
  (f_L_law_b1132 G k28 k1146 k1163  v0 v1 v2 v3 v4 v5 x1100 1 x1117 x1111 v2 w1100)
noncomputable def f_L_law_b1072 (G : Nat) (k28 : Rf → Rf → Rf → Rf → Rf → Int32 → St → Option (Int32 × St)) (k1146 : St → Option (Int32 × St)) (k1163 : St → Option (Int32 × St)) (v0 : Rf) (v1 : Rf) (v2 : Rf) (v3 : Rf) (v4 : Rf) (v5 : Int32) (w : St) : Option (Int32 × St) :=
  bo (iald v0 (v5 + 1) w) fun x1078 =>
  bo (iald v0 (v5 + 2) w) fun x1084 =>
  bo (iald v0 (v5 + 3) w) fun x1090 =>
  if x1090 = 0 then (f_L_law_b1099 G k28 k1146 k1163  v0 v1 v2 v3 v4 v5 0 x1084 x1078 v1 w) else
  (f_L_law_b1099 G k28 k1146 k1163  v0 v1 v2 v3 v4 v5 1 x1084 x1078 v1 w)
noncomputable def f_L_law_b1261 (G : Nat) (k28 : Rf → Rf → Rf → Rf → Rf → Int32 → St → Option (Int32 × St)) (v0 : Rf) (v1 : Rf) (v2 : Rf) (v3 : Rf) (v4 : Rf) (v5 : Int32) (w : St) : Option (Int32 × St) :=
  f_L_law_b2530 G k28  v0 v1 v2 v3 v4 v5 w
noncomputable def f_L_law_b1228 (G : Nat) (k28 : Rf → Rf → Rf → Rf → Rf → Int32 → St → Option (Int32 × St)) (k1242 : St → Option (Int32 × St)) (k1259 : St → Option (Int32 × St)) (v0 : Rf) (v1 : Rf) (v2 : Rf) (v3 : Rf) (v4 : Rf) (v5 : Int32) (v6 : Int32) (s0 : Int32) (s1 : Int32) (s2 : Int32) (s3 : Rf) (w : St) : Option (Int32 × St) :=
  gd (cls s3 w = some 26) <|
  bd (f_X3_minuteAgain G s3 s2 s1 s0 w) fun x1228 w1228 =>
  gd (cls v2 w1228 = some 26) <|
  bd (f_X3_thrown G v2 w1228) fun x1234 w1234 =>
  if x1234 = v6 then (if v6 = 0 then (bo (jald v3 0 w1234) fun x1251 =>
  if (lg_cmp x1251 x1228.toInt64) = 0 then (f_L_law_b1261 G k28  v0 v1 v2 v3 v4 v5 w1234) else
  (k1259 w1234)) else
  (f_L_law_b1261 G k28  v0 v1 v2 v3 v4 v5 w1234)) else
  (k1242 w1234)
noncomputable def f_L_law_b1195 (G : Nat) (k28 : Rf → Rf → Rf → Rf → Rf → Int32 → St → Option (Int32 × St)) (k1242 : St → Option (Int32 × St)) (k1259 : St → Option (Int32 × St)) (v0 : Rf) (v1 : Rf) (v2 : Rf) (v3 : Rf) (v4 : Rf) (v5 : Int32) (s0 : Int32) (s1 : Int32) (s2 : Int32) (s3 : Rf) (w : St) : Option (Int32 × St) :=
  bd (f_X0_minuteAgain G s3 s2 s1 s0 v3 w) fun x1196 w1196 =>
  bo (iald v0 (v5 + 1) w1196) fun x1207 =>
  bo (iald v0 (v5 + 2) w1196) fun x1213 =>
  bo (iald v0 (v5 + 3) w1196) fun x1219 =>
  if x1219 = 0 then (f_L_law_b1228 G k28 k1242 k1259  v0 v1 v2 v3 v4 v5 x1196 0 x1213 x1207 v2 w1196) else
  (f_L_law_b1228 G k28 k1242 k1259  v0 v1 v2 v3 v4 v5 x1196 1 x1213 x1207 v2 w1196)
noncomputable def f_L_law_b1168 (G : Nat) (k28 : Rf → Rf → Rf → Rf → Rf → Int32 → St → Option (Int32 × St)) (k1242 : St → Option (Int32 × St)) (k1259 : St → Option (Int32 × St)) (v0 : Rf) (v1 : Rf) (v2 : Rf) (v3 : Rf) (v4 : Rf) (v5 : Int32) (w : St) : Option (Int32 × St) :=
  bo (iald v0 (v5 + 1) w) fun x1174 =>
  bo (iald v0 (v5 + 2) w) fun x1180 =>
  bo (iald v0 (v5 + 3) w) fun x1186 =>
  if x1186 = 0 then (f_L_law_b1195 G k28 k1242 k1259  v0 v1 v2 v3 v4 v5 0 x1180 x1174 v1 w) else
  (f_L_law_b1195 G k28 k1242 k1259  v0 v1 v2 v3 v4 v5 1 x1180 x1174 v1 w)
noncomputable def f_L_law_b1329 (G : Nat) (k28 : Rf → Rf → Rf → Rf → Rf → Int32 → St → Option (Int32 × St)) (v0 : Rf) (v1 : Rf) (v2 : Rf) (v3 : Rf) (v4 : Rf) (v5 : Int32) (w : St) : Option (Int32 × St) :=
  f_L_law_b2530 G k28  v0 v1 v2 v3 v4 v5 w
noncomputable def f_L_law_b1264 (G : Nat) (k28 : Rf → Rf → Rf → Rf → Rf → Int32 → St → Option (Int32 × St)) (k1310 : St → Option (Int32 × St)) (k1327 : St → Option (Int32 × St)) (v0 : Rf) (v1 : Rf) (v2 : Rf) (v3 : Rf) (v4 : Rf) (v5 : Int32) (w : St) : Option (Int32 × St) :=
  bo (iald v0 (v5 + 1) w) fun x1270 =>
  bo (iald v0 (v5 + 2) w) fun x1276 =>
  bd (f_X0_linkOf G v1 x1270 x1276 v3 w) fun x1278 w1278 =>
  bo (iald v0 (v5 + 1) w1278) fun x1289 =>
  bo (iald v0 (v5 + 2) w1278) fun x1295 =>
  gd (cls v2 w1278 = some 26) <|
  bd (f_X3_linkOf G v2 x1289 x1295 w1278) fun x1296 w1296 =>
  gd (cls v2 w1296 = some 26) <|
  bd (f_X3_thrown G v2 w1296) fun x1302 w1302 =>
  if x1302 = x1278 then (if x1278 = 0 then (bo (jald v3 0 w1302) fun x1319 =>
  if (lg_cmp x1319 x1296.toInt64) = 0 then (f_L_law_b1329 G k28  v0 v1 v2 v3 v4 v5 w1302) else
  (k1327 w1302)) else
  (f_L_law_b1329 G k28  v0 v1 v2 v3 v4 v5 w1302)) else
  (k1310 w1302)
noncomputable def f_L_law_b1385 (G : Nat) (k28 : Rf → Rf → Rf → Rf → Rf → Int32 → St → Option (Int32 × St)) (v0 : Rf) (v1 : Rf) (v2 : Rf) (v3 : Rf) (v4 : Rf) (v5 : Int32) (w : St) : Option (Int32 × St) :=
  f_L_law_b2530 G k28  v0 v1 v2 v3 v4 v5 w
noncomputable def f_L_law_b1332 (G : Nat) (k28 : Rf → Rf → Rf → Rf → Rf → Int32 → St → Option (Int32 × St)) (k1366 : St → Option (Int32 × St)) (k1383 : St → Option (Int32 × St)) (v0 : Rf) (v1 : Rf) (v2 : Rf) (v3 : Rf) (v4 : Rf) (v5 : Int32) (w : St) : Option (Int32 × St) :=
  bo (iald v0 (v5 + 1) w) fun x1338 =>
  bd (f_X0_missed G v1 x1338 v3 w) fun x1340 w1340 =>
  bo (iald v0 (v5 + 1) w1340) fun x1351 =>
  gd (cls v2 w1340 = some 26) <|
  bd (f_X3_missed G v2 x1351 w1340) fun x1352 w1352 =>
  gd (cls v2 w1352 = some 26) <|
  bd (f_X3_thrown G v2 w1352) fun x1358 w1358 =>
  if x1358 = x1340 then (if x1340 = 0 then (bo (jald v3 0 w1358) fun x1375 =>
  if (lg_cmp x1375 x1352.toInt64) = 0 then (f_L_law_b1385 G k28  v0 v1 v2 v3 v4 v5 w1358) else
  (k1383 w1358)) else
  (f_L_law_b1385 G k28  v0 v1 v2 v3 v4 v5 w1358)) else
  (k1366 w1358)
noncomputable def f_L_law_b1441 (G : Nat) (k28 : Rf → Rf → Rf → Rf → Rf → Int32 → St → Option (Int32 × St)) (v0 : Rf) (v1 : Rf) (v2 : Rf) (v3 : Rf) (v4 : Rf) (v5 : Int32) (w : St) : Option (Int32 × St) :=
  f_L_law_b2530 G k28  v0 v1 v2 v3 v4 v5 w
noncomputable def f_L_law_b1388 (G : Nat) (k28 : Rf → Rf → Rf → Rf → Rf → Int32 → St → Option (Int32 × St)) (k1422 : St → Option (Int32 × St)) (k1439 : St → Option (Int32 × St)) (v0 : Rf) (v1 : Rf) (v2 : Rf) (v3 : Rf) (v4 : Rf) (v5 : Int32) (w : St) : Option (Int32 × St) :=
  bo (iald v0 (v5 + 1) w) fun x1394 =>
  bd (f_X0_waits G v1 x1394 v3 w) fun x1396 w1396 =>
  bo (iald v0 (v5 + 1) w1396) fun x1407 =>
  gd (cls v2 w1396 = some 26) <|
  bd (f_X3_waits G v2 x1407 w1396) fun x1408 w1408 =>
  gd (cls v2 w1408 = some 26) <|
  bd (f_X3_thrown G v2 w1408) fun x1414 w1414 =>
  if x1414 = x1396 then (if x1396 = 0 then (bo (jald v3 0 w1414) fun x1431 =>
  if (lg_cmp x1431 x1408.toInt64) = 0 then (f_L_law_b1441 G k28  v0 v1 v2 v3 v4 v5 w1414) else
  (k1439 w1414)) else
  (f_L_law_b1441 G k28  v0 v1 v2 v3 v4 v5 w1414)) else
  (k1422 w1414)
noncomputable def f_L_law_b1497 (G : Nat) (k28 : Rf → Rf → Rf → Rf → Rf → Int32 → St → Option (Int32 × St)) (v0 : Rf) (v1 : Rf) (v2 : Rf) (v3 : Rf) (v4 : Rf) (v5 : Int32) (w : St) : Option (Int32 × St) :=
  f_L_law_b2530 G k28  v0 v1 v2 v3 v4 v5 w
noncomputable def f_L_law_b1444 (G : Nat) (k28 : Rf → Rf → Rf → Rf → Rf → Int32 → St → Option (Int32 × St)) (k1478 : St → Option (Int32 × St)) (k1495 : St → Option (Int32 × St)) (v0 : Rf) (v1 : Rf) (v2 : Rf) (v3 : Rf) (v4 : Rf) (v5 : Int32) (w : St) : Option (Int32 × St) :=
  bo (iald v0 (v5 + 1) w) fun x1450 =>
  bd (f_X0_knocks G v1 x1450 v3 w) fun x1452 w1452 =>
  bo (iald v0 (v5 + 1) w1452) fun x1463 =>
  gd (cls v2 w1452 = some 26) <|
  bd (f_X3_knocks G v2 x1463 w1452) fun x1464 w1464 =>
  gd (cls v2 w1464 = some 26) <|
  bd (f_X3_thrown G v2 w1464) fun x1470 w1470 =>
  if x1470 = x1452 then (if x1452 = 0 then (bo (jald v3 0 w1470) fun x1487 =>
  if (lg_cmp x1487 x1464.toInt64) = 0 then (f_L_law_b1497 G k28  v0 v1 v2 v3 v4 v5 w1470) else
  (k1495 w1470)) else
  (f_L_law_b1497 G k28  v0 v1 v2 v3 v4 v5 w1470)) else
  (k1478 w1470)
noncomputable def f_L_law_b1553 (G : Nat) (k28 : Rf → Rf → Rf → Rf → Rf → Int32 → St → Option (Int32 × St)) (v0 : Rf) (v1 : Rf) (v2 : Rf) (v3 : Rf) (v4 : Rf) (v5 : Int32) (w : St) : Option (Int32 × St) :=
  f_L_law_b2530 G k28  v0 v1 v2 v3 v4 v5 w
noncomputable def f_L_law_b1500 (G : Nat) (k28 : Rf → Rf → Rf → Rf → Rf → Int32 → St → Option (Int32 × St)) (k1534 : St → Option (Int32 × St)) (k1551 : St → Option (Int32 × St)) (v0 : Rf) (v1 : Rf) (v2 : Rf) (v3 : Rf) (v4 : Rf) (v5 : Int32) (w : St) : Option (Int32 × St) :=
  bo (iald v0 (v5 + 1) w) fun x1506 =>
  bd (f_X0_reaches G v1 x1506 v3 w) fun x1508 w1508 =>
  bo (iald v0 (v5 + 1) w1508) fun x1519 =>
  gd (cls v2 w1508 = some 26) <|
  bd (f_X3_reaches G v2 x1519 w1508) fun x1520 w1520 =>
  gd (cls v2 w1520 = some 26) <|
  bd (f_X3_thrown G v2 w1520) fun x1526 w1526 =>
  if x1526 = x1508 then (if x1508 = 0 then (bo (jald v3 0 w1526) fun x1543 =>
  if (lg_cmp x1543 x1520.toInt64) = 0 then (f_L_law_b1553 G k28  v0 v1 v2 v3 v4 v5 w1526) else
  (k1551 w1526)) else
  (f_L_law_b1553 G k28  v0 v1 v2 v3 v4 v5 w1526)) else
  (k1534 w1526)
noncomputable def f_L_law_b1556 (G : Nat) (k28 : Rf → Rf → Rf → Rf → Rf → Int32 → St → Option (Int32 × St)) (k1567 : St → Option (Int32 × St)) (v0 : Rf) (v1 : Rf) (v2 : Rf) (v3 : Rf) (v4 : Rf) (v5 : Int32) (w : St) : Option (Int32 × St) :=
  gd (cls v1 w = some 0) <|
  bd (f_X1_total G v1 w) fun x1557 w1557 =>
  gd (cls v2 w1557 = some 26) <|
  bd (f_X3_total G v2 w1557) fun x1561 w1561 =>
  if x1557 = x1561 then (f_L_law_b2530 G k28  v0 v1 v2 v3 v4 v5 w1561) else
  (k1567 w1561)
noncomputable def f_L_law_b1622 (G : Nat) (k28 : Rf → Rf → Rf → Rf → Rf → Int32 → St → Option (Int32 × St)) (v0 : Rf) (v1 : Rf) (v2 : Rf) (v3 : Rf) (v4 : Rf) (v5 : Int32) (w : St) : Option (Int32 × St) :=
  f_L_law_b2530 G k28  v0 v1 v2 v3 v4 v5 w
noncomputable def f_L_law_b1569 (G : Nat) (k28 : Rf → Rf → Rf → Rf → Rf → Int32 → St → Option (Int32 × St)) (k1603 : St → Option (Int32 × St)) (k1620 : St → Option (Int32 × St)) (v0 : Rf) (v1 : Rf) (v2 : Rf) (v3 : Rf) (v4 : Rf) (v5 : Int32) (w : St) : Option (Int32 × St) :=
  bo (iald v0 (v5 + 1) w) fun x1575 =>
  bd (f_X0_totalWith G v1 x1575 v3 w) fun x1577 w1577 =>
  bo (iald v0 (v5 + 1) w1577) fun x1588 =>
  gd (cls v2 w1577 = some 26) <|
  bd (f_X3_totalWith G v2 x1588 w1577) fun x1589 w1589 =>
  gd (cls v2 w1589 = some 26) <|
  bd (f_X3_thrown G v2 w1589) fun x1595 w1595 =>
  if x1595 = x1577 then (if x1577 = 0 then (bo (jald v3 0 w1595) fun x1612 =>
  if (lg_cmp x1612 x1589.toInt64) = 0 then (f_L_law_b1622 G k28  v0 v1 v2 v3 v4 v5 w1595) else
  (k1620 w1595)) else
  (f_L_law_b1622 G k28  v0 v1 v2 v3 v4 v5 w1595)) else
  (k1603 w1595)
noncomputable def f_L_law_b1678 (G : Nat) (k28 : Rf → Rf → Rf → Rf → Rf → Int32 → St → Option (Int32 × St)) (v0 : Rf) (v1 : Rf) (v2 : Rf) (v3 : Rf) (v4 : Rf) (v5 : Int32) (w : St) : Option (Int32 × St) :=
  f_L_law_b2530 G k28  v0 v1 v2 v3 v4 v5 w
noncomputable def f_L_law_b1625 (G : Nat) (k28 : Rf → Rf → Rf → Rf → Rf → Int32 → St → Option (Int32 × St)) (k1659 : St → Option (Int32 × St)) (k1676 : St → Option (Int32 × St)) (v0 : Rf) (v1 : Rf) (v2 : Rf) (v3 : Rf) (v4 : Rf) (v5 : Int32) (w : St) : Option (Int32 × St) :=
  bo (iald v0 (v5 + 1) w) fun x1631 =>
  bd (f_X0_missedWith G v1 x1631 v3 w) fun x1633 w1633 =>
  bo (iald v0 (v5 + 1) w1633) fun x1644 =>
  gd (cls v2 w1633 = some 26) <|
  bd (f_X3_missedWith G v2 x1644 w1633) fun x1645 w1645 =>
  gd (cls v2 w1645 = some 26) <|
  bd (f_X3_thrown G v2 w1645) fun x1651 w1651 =>
  if x1651 = x1633 then (if x1633 = 0 then (bo (jald v3 0 w1651) fun x1668 =>
  if (lg_cmp x1668 x1645.toInt64) = 0 then (f_L_law_b1678 G k28  v0 v1 v2 v3 v4 v5 w1651) else
  (k1676 w1651)) else
  (f_L_law_b1678 G k28  v0 v1 v2 v3 v4 v5 w1651)) else
  (k1659 w1651)
noncomputable def f_L_law_b1734 (G : Nat) (k28 : Rf → Rf → Rf → Rf → Rf → Int32 → St → Option (Int32 × St)) (v0 : Rf) (v1 : Rf) (v2 : Rf) (v3 : Rf) (v4 : Rf) (v5 : Int32) (w : St) : Option (Int32 × St) :=
  f_L_law_b2530 G k28  v0 v1 v2 v3 v4 v5 w
noncomputable def f_L_law_b1681 (G : Nat) (k28 : Rf → Rf → Rf → Rf → Rf → Int32 → St → Option (Int32 × St)) (k1715 : St → Option (Int32 × St)) (k1732 : St → Option (Int32 × St)) (v0 : Rf) (v1 : Rf) (v2 : Rf) (v3 : Rf) (v4 : Rf) (v5 : Int32) (w : St) : Option (Int32 × St) :=
  bo (iald v0 (v5 + 1) w) fun x1687 =>
  bd (f_X0_bestLimit G v1 x1687 v3 w) fun x1689 w1689 =>
  bo (iald v0 (v5 + 1) w1689) fun x1700 =>
  gd (cls v2 w1689 = some 26) <|
  bd (f_X3_bestLimit G v2 x1700 w1689) fun x1701 w1701 =>
  gd (cls v2 w1701 = some 26) <|
  bd (f_X3_thrown G v2 w1701) fun x1707 w1707 =>
  if x1707 = x1689 then (if x1689 = 0 then (bo (jald v3 0 w1707) fun x1724 =>
  if (lg_cmp x1724 x1701.toInt64) = 0 then (f_L_law_b1734 G k28  v0 v1 v2 v3 v4 v5 w1707) else
  (k1732 w1707)) else
  (f_L_law_b1734 G k28  v0 v1 v2 v3 v4 v5 w1707)) else
  (k1715 w1707)
noncomputable def f_L_law_b1790 (G : Nat) (k28 : Rf → Rf → Rf → Rf → Rf → Int32 → St → Option (Int32 × St)) (v0 : Rf) (v1 : Rf) (v2 : Rf) (v3 : Rf) (v4 : Rf) (v5 : Int32) (w : St) : Option (Int32 × St) :=
  f_L_law_b2530 G k28  v0 v1 v2 v3 v4 v5 w
noncomputable def f_L_law_b1737 (G : Nat) (k28 : Rf → Rf → Rf → Rf → Rf → Int32 → St → Option (Int32 × St)) (k1771 : St → Option (Int32 × St)) (k1788 : St → Option (Int32 × St)) (v0 : Rf) (v1 : Rf) (v2 : Rf) (v3 : Rf) (v4 : Rf) (v5 : Int32) (w : St) : Option (Int32 × St) :=
  bo (iald v0 (v5 + 1) w) fun x1743 =>
  bd (f_X0_ranked G v1 x1743 v3 w) fun x1745 w1745 =>
  bo (iald v0 (v5 + 1) w1745) fun x1756 =>
  gd (cls v2 w1745 = some 26) <|
  bd (f_X3_ranked G v2 x1756 w1745) fun x1757 w1757 =>
  gd (cls v2 w1757 = some 26) <|
  bd (f_X3_thrown G v2 w1757) fun x1763 w1763 =>
  if x1763 = x1745 then (if x1745 = 0 then (bo (jald v3 0 w1763) fun x1780 =>
  if (lg_cmp x1780 x1757.toInt64) = 0 then (f_L_law_b1790 G k28  v0 v1 v2 v3 v4 v5 w1763) else
  (k1788 w1763)) else
  (f_L_law_b1790 G k28  v0 v1 v2 v3 v4 v5 w1763)) else
  (k1771 w1763)
noncomputable def f_L_law_b1846 (G : Nat) (k28 : Rf → Rf → Rf → Rf → Rf → Int32 → St → Option (Int32 × St)) (v0 : Rf) (v1 : Rf) (v2 : Rf) (v3 : Rf) (v4 : Rf) (v5 : Int32) (w : St) : Option (Int32 × St) :=
  f_L_law_b2530 G k28  v0 v1 v2 v3 v4 v5 w
noncomputable def f_L_law_b1793 (G : Nat) (k28 : Rf → Rf → Rf → Rf → Rf → Int32 → St → Option (Int32 × St)) (k1827 : St → Option (Int32 × St)) (k1844 : St → Option (Int32 × St)) (v0 : Rf) (v1 : Rf) (v2 : Rf) (v3 : Rf) (v4 : Rf) (v5 : Int32) (w : St) : Option (Int32 × St) :=
  bo (iald v0 (v5 + 1) w) fun x1799 =>
  bd (f_X0_tightest G v1 x1799 v3 w) fun x1801 w1801 =>
  bo (iald v0 (v5 + 1) w1801) fun x1812 =>
  gd (cls v2 w1801 = some 26) <|
  bd (f_X3_tightest G v2 x1812 w1801) fun x1813 w1813 =>
  gd (cls v2 w1813 = some 26) <|
  bd (f_X3_thrown G v2 w1813) fun x1819 w1819 =>
  if x1819 = x1801 then (if x1801 = 0 then (bo (jald v3 0 w1819) fun x1836 =>
  if (lg_cmp x1836 x1813.toInt64) = 0 then (f_L_law_b1846 G k28  v0 v1 v2 v3 v4 v5 w1819) else
  (k1844 w1819)) else
  (f_L_law_b1846 G k28  v0 v1 v2 v3 v4 v5 w1819)) else
  (k1827 w1819)
noncomputable def f_L_law_b1902 (G : Nat) (k28 : Rf → Rf → Rf → Rf → Rf → Int32 → St → Option (Int32 × St)) (v0 : Rf) (v1 : Rf) (v2 : Rf) (v3 : Rf) (v4 : Rf) (v5 : Int32) (w : St) : Option (Int32 × St) :=
  f_L_law_b2530 G k28  v0 v1 v2 v3 v4 v5 w
noncomputable def f_L_law_b1849 (G : Nat) (k28 : Rf → Rf → Rf → Rf → Rf → Int32 → St → Option (Int32 × St)) (k1883 : St → Option (Int32 × St)) (k1900 : St → Option (Int32 × St)) (v0 : Rf) (v1 : Rf) (v2 : Rf) (v3 : Rf) (v4 : Rf) (v5 : Int32) (w : St) : Option (Int32 × St) :=
  bo (iald v0 (v5 + 1) w) fun x1855 =>
  bd (f_X0_event G v1 x1855 v3 w) fun x1857 w1857 =>
  bo (iald v0 (v5 + 1) w1857) fun x1868 =>
  gd (cls v2 w1857 = some 26) <|
  bd (f_X3_event G v2 x1868 w1857) fun x1869 w1869 =>
  gd (cls v2 w1869 = some 26) <|
  bd (f_X3_thrown G v2 w1869) fun x1875 w1875 =>
  if x1875 = x1857 then (if x1857 = 0 then (bo (jald v3 0 w1875) fun x1892 =>
  if (lg_cmp x1892 x1869.toInt64) = 0 then (f_L_law_b1902 G k28  v0 v1 v2 v3 v4 v5 w1875) else
  (k1900 w1875)) else
  (f_L_law_b1902 G k28  v0 v1 v2 v3 v4 v5 w1875)) else
  (k1883 w1875)
noncomputable def f_L_law_b1905 (G : Nat) (k28 : Rf → Rf → Rf → Rf → Rf → Int32 → St → Option (Int32 × St)) (k1916 : St → Option (Int32 × St)) (v0 : Rf) (v1 : Rf) (v2 : Rf) (v3 : Rf) (v4 : Rf) (v5 : Int32) (w : St) : Option (Int32 × St) :=
  gd (cls v1 w = some 0) <|
  bd (f_X1_isTold G v1 w) fun x1906 w1906 =>
  gd (cls v2 w1906 = some 26) <|
  bd (f_X3_isTold G v2 w1906) fun x1910 w1910 =>
  if x1906 = x1910 then (f_L_law_b2530 G k28  v0 v1 v2 v3 v4 v5 w1910) else
  (k1916 w1910)
noncomputable def f_L_law_b1973 (G : Nat) (k28 : Rf → Rf → Rf → Rf → Rf → Int32 → St → Option (Int32 × St)) (v0 : Rf) (v1 : Rf) (v2 : Rf) (v3 : Rf) (v4 : Rf) (v5 : Int32) (w : St) : Option (Int32 × St) :=
  f_L_law_b2530 G k28  v0 v1 v2 v3 v4 v5 w
noncomputable def f_L_law_b1918 (G : Nat) (k28 : Rf → Rf → Rf → Rf → Rf → Int32 → St → Option (Int32 × St)) (k1954 : St → Option (Int32 × St)) (k1971 : St → Option (Int32 × St)) (v0 : Rf) (v1 : Rf) (v2 : Rf) (v3 : Rf) (v4 : Rf) (v5 : Int32) (w : St) : Option (Int32 × St) :=
  bo (iald v0 (v5 + 1) w) fun x1924 =>
  bd (f_X0_append G v1 ((x1924.toUInt32 % 65536).toInt32) v3 w) fun x1927 w1927 =>
  bo (iald v0 (v5 + 1) w1927) fun x1938 =>
  gd (cls v2 w1927 = some 26) <|
  bd (f_X3_append G v2 ((x1938.toUInt32 % 65536).toInt32) w1927) fun x1940 w1940 =>
  gd (cls v2 w1940 = some 26) <|
  bd (f_X3_thrown G v2 w1940) fun x1946 w1946 =>
  if x1946 = x1927 then (if x1927 = 0 then (bo (jald v3 0 w1946) fun x1963 =>
  if (lg_cmp x1963 x1940.toInt64) = 0 then (f_L_law_b1973 G k28  v0 v1 v2 v3 v4 v5 w1946) else
  (k1971 w1946)) else
  (f_L_law_b1973 G k28  v0 v1 v2 v3 v4 v5 w1946)) else
  (k1954 w1946)
noncomputable def f_L_law_b2017 (G : Nat) (k28 : Rf → Rf → Rf → Rf → Rf → Int32 → St → Option (Int32 × St)) (v0 : Rf) (v1 : Rf) (v2 : Rf) (v3 : Rf) (v4 : Rf) (v5 : Int32) (w : St) : Option (Int32 × St) :=
  f_L_law_b2530 G k28  v0 v1 v2 v3 v4 v5 w
noncomputable def f_L_law_b1976 (G : Nat) (k28 : Rf → Rf → Rf → Rf → Rf → Int32 → St → Option (Int32 × St)) (k1998 : St → Option (Int32 × St)) (k2015 : St → Option (Int32 × St)) (v0 : Rf) (v1 : Rf) (v2 : Rf) (v3 : Rf) (v4 : Rf) (v5 : Int32) (w : St) : Option (Int32 × St) :=
  bd (f_X0_run G v1 v3 w) fun x1978 w1978 =>
  gd (cls v2 w1978 = some 26) <|
  bd (f_X3_run G v2 w1978) fun x1984 w1984 =>
  gd (cls v2 w1984 = some 26) <|
  bd (f_X3_thrown G v2 w1984) fun x1990 w1990 =>
  if x1990 = x1978 then (if x1978 = 0 then (bo (jald v3 0 w1990) fun x2007 =>
  if (lg_cmp x2007 x1984.toInt64) = 0 then (f_L_law_b2017 G k28  v0 v1 v2 v3 v4 v5 w1990) else
  (k2015 w1990)) else
  (f_L_law_b2017 G k28  v0 v1 v2 v3 v4 v5 w1990)) else
  (k1998 w1990)
noncomputable def f_L_law_b2020 (G : Nat) (k28 : Rf → Rf → Rf → Rf → Rf → Int32 → St → Option (Int32 × St)) (k2031 : St → Option (Int32 × St)) (v0 : Rf) (v1 : Rf) (v2 : Rf) (v3 : Rf) (v4 : Rf) (v5 : Int32) (w : St) : Option (Int32 × St) :=
  gd (cls v1 w = some 0) <|
  bd (f_X1_faultPosition G v1 w) fun x2021 w2021 =>
  gd (cls v2 w2021 = some 26) <|
  bd (f_X3_faultPosition G v2 w2021) fun x2025 w2025 =>
  if x2021 = x2025 then (f_L_law_b2530 G k28  v0 v1 v2 v3 v4 v5 w2025) else
  (k2031 w2025)
noncomputable def f_L_law_b2114 (G : Nat) (k28 : Rf → Rf → Rf → Rf → Rf → Int32 → St → Option (Int32 × St)) (v0 : Rf) (v1 : Rf) (v2 : Rf) (v3 : Rf) (v4 : Rf) (v5 : Int32) (w : St) : Option (Int32 × St) :=
  f_L_law_b2530 G k28  v0 v1 v2 v3 v4 v5 w
noncomputable def f_L_law_b2081 (G : Nat) (k28 : Rf → Rf → Rf → Rf → Rf → Int32 → St → Option (Int32 × St)) (k2095 : St → Option (Int32 × St)) (k2112 : St → Option (Int32 × St)) (v0 : Rf) (v1 : Rf) (v2 : Rf) (v3 : Rf) (v4 : Rf) (v5 : Int32) (v6 : Int32) (s0 : Int32) (s1 : Int32) (s2 : Rf) (w : St) : Option (Int32 × St) :=
  gd (cls s2 w = some 26) <|
  bd (f_X3_reason G s2 s1 s0 w) fun x2081 w2081 =>
  gd (cls v2 w2081 = some 26) <|
  bd (f_X3_thrown G v2 w2081) fun x2087 w2087 =>
  if x2087 = v6 then (if v6 = 0 then (bo (jald v3 0 w2087) fun x2104 =>
  if (lg_cmp x2104 x2081.toInt64) = 0 then (f_L_law_b2114 G k28  v0 v1 v2 v3 v4 v5 w2087) else
  (k2112 w2087)) else
  (f_L_law_b2114 G k28  v0 v1 v2 v3 v4 v5 w2087)) else
  (k2095 w2087)
noncomputable def f_L_law_b2054 (G : Nat) (k28 : Rf → Rf → Rf → Rf → Rf → Int32 → St → Option (Int32 × St)) (k2095 : St → Option (Int32 × St)) (k2112 : St → Option (Int32 × St)) (v0 : Rf) (v1 : Rf) (v2 : Rf) (v3 : Rf) (v4 : Rf) (v5 : Int32) (s0 : Int32) (s1 : Int32) (s2 : Rf) (w : St) : Option (Int32 × St) :=
  bd (f_X0_reason G s2 s1 s0 v3 w) fun x2055 w2055 =>
  bo (iald v0 (v5 + 1) w2055) fun x2066 =>
  bo (iald v0 (v5 + 2) w2055) fun x2072 =>
  if x2072 = 0 then (f_L_law_b2081 G k28 k2095 k2112  v0 v1 v2 v3 v4 v5 x2055 0 x2066 v2 w2055) else
  (f_L_law_b2081 G k28 k2095 k2112  v0 v1 v2 v3 v4 v5 x2055 1 x2066 v2 w2055)
noncomputable def f_L_law_b2033 (G : Nat) (k28 : Rf → Rf → Rf → Rf → Rf → Int32 → St → Option (Int32 × St)) (k2095 : St → Option (Int32 × St)) (k2112 : St → Option (Int32 × St)) (v0 : Rf) (v1 : Rf) (v2 : Rf) (v3 : Rf) (v4 : Rf) (v5 : Int32) (w : St) : Option (Int32 × St) :=
  bo (iald v0 (v5 + 1) w) fun x2039 =>
  bo (iald v0 (v5 + 2) w) fun x2045 =>
  if x2045 = 0 then (f_L_law_b2054 G k28 k2095 k2112  v0 v1 v2 v3 v4 v5 0 x2039 v1 w) else
  (f_L_law_b2054 G k28 k2095 k2112  v0 v1 v2 v3 v4 v5 1 x2039 v1 w)
noncomputable def f_L_law_b2170 (G : Nat) (k28 : Rf → Rf → Rf → Rf → Rf → Int32 → St → Option (Int32 × St)) (v0 : Rf) (v1 : Rf) (v2 : Rf) (v3 : Rf) (v4 : Rf) (v5 : Int32) (w : St) : Option (Int32 × St) :=
  f_L_law_b2530 G k28  v0 v1 v2 v3 v4 v5 w
noncomputable def f_L_law_b2117 (G : Nat) (k28 : Rf → Rf → Rf → Rf → Rf → Int32 → St → Option (Int32 × St)) (k2151 : St → Option (Int32 × St)) (k2168 : St → Option (Int32 × St)) (v0 : Rf) (v1 : Rf) (v2 : Rf) (v3 : Rf) (v4 : Rf) (v5 : Int32) (w : St) : Option (Int32 × St) :=
  bo (iald v0 (v5 + 1) w) fun x2123 =>
  bd (f_X0_tell G v1 x2123 v3 w) fun x2125 w2125 =>
  bo (iald v0 (v5 + 1) w2125) fun x2136 =>
  gd (cls v2 w2125 = some 26) <|
  bd (f_X3_tell G v2 x2136 w2125) fun x2137 w2137 =>
  gd (cls v2 w2137 = some 26) <|
  bd (f_X3_thrown G v2 w2137) fun x2143 w2143 =>
  if x2143 = x2125 then (if x2125 = 0 then (bo (jald v3 0 w2143) fun x2160 =>
  if (lg_cmp x2160 x2137.toInt64) = 0 then (f_L_law_b2170 G k28  v0 v1 v2 v3 v4 v5 w2143) else
  (k2168 w2143)) else
  (f_L_law_b2170 G k28  v0 v1 v2 v3 v4 v5 w2143)) else
  (k2151 w2143)
noncomputable def f_L_law_b2173 (G : Nat) (k28 : Rf → Rf → Rf → Rf → Rf → Int32 → St → Option (Int32 × St)) (k2184 : St → Option (Int32 × St)) (v0 : Rf) (v1 : Rf) (v2 : Rf) (v3 : Rf) (v4 : Rf) (v5 : Int32) (w : St) : Option (Int32 × St) :=
  gd (cls v1 w = some 0) <|
  bd (f_X1_tellLinks G v1 w) fun x2174 w2174 =>
  gd (cls v2 w2174 = some 26) <|
  bd (f_X3_tellLinks G v2 w2174) fun x2178 w2178 =>
  if x2174 = x2178 then (f_L_law_b2530 G k28  v0 v1 v2 v3 v4 v5 w2178) else
  (k2184 w2178)
noncomputable def f_L_law_b2239 (G : Nat) (k28 : Rf → Rf → Rf → Rf → Rf → Int32 → St → Option (Int32 × St)) (v0 : Rf) (v1 : Rf) (v2 : Rf) (v3 : Rf) (v4 : Rf) (v5 : Int32) (w : St) : Option (Int32 × St) :=
  f_L_law_b2530 G k28  v0 v1 v2 v3 v4 v5 w
noncomputable def f_L_law_b2186 (G : Nat) (k28 : Rf → Rf → Rf → Rf → Rf → Int32 → St → Option (Int32 × St)) (k2220 : St → Option (Int32 × St)) (k2237 : St → Option (Int32 × St)) (v0 : Rf) (v1 : Rf) (v2 : Rf) (v3 : Rf) (v4 : Rf) (v5 : Int32) (w : St) : Option (Int32 × St) :=
  bo (iald v0 (v5 + 1) w) fun x2192 =>
  bd (f_X0_character G v1 x2192 v3 w) fun x2194 w2194 =>
  bo (iald v0 (v5 + 1) w2194) fun x2205 =>
  gd (cls v2 w2194 = some 26) <|
  bd (f_X3_character G v2 x2205 w2194) fun x2206 w2206 =>
  gd (cls v2 w2206 = some 26) <|
  bd (f_X3_thrown G v2 w2206) fun x2212 w2212 =>
  if x2212 = x2194 then (if x2194 = 0 then (bo (jald v3 0 w2212) fun x2229 =>
  if (lg_cmp x2229 x2206.toInt64) = 0 then (f_L_law_b2239 G k28  v0 v1 v2 v3 v4 v5 w2212) else
  (k2237 w2212)) else
  (f_L_law_b2239 G k28  v0 v1 v2 v3 v4 v5 w2212)) else
  (k2220 w2212)
noncomputable def f_L_law_b2295 (G : Nat) (k28 : Rf → Rf → Rf → Rf → Rf → Int32 → St → Option (Int32 × St)) (v0 : Rf) (v1 : Rf) (v2 : Rf) (v3 : Rf) (v4 : Rf) (v5 : Int32) (w : St) : Option (Int32 × St) :=
  f_L_law_b2530 G k28  v0 v1 v2 v3 v4 v5 w
noncomputable def f_L_law_b2242 (G : Nat) (k28 : Rf → Rf → Rf → Rf → Rf → Int32 → St → Option (Int32 × St)) (k2276 : St → Option (Int32 × St)) (k2293 : St → Option (Int32 × St)) (v0 : Rf) (v1 : Rf) (v2 : Rf) (v3 : Rf) (v4 : Rf) (v5 : Int32) (w : St) : Option (Int32 × St) :=
  bo (iald v0 (v5 + 1) w) fun x2248 =>
  bd (f_X0_account G v1 x2248 v3 w) fun x2250 w2250 =>
  bo (iald v0 (v5 + 1) w2250) fun x2261 =>
  gd (cls v2 w2250 = some 26) <|
  bd (f_X3_account G v2 x2261 w2250) fun x2262 w2262 =>
  gd (cls v2 w2262 = some 26) <|
  bd (f_X3_thrown G v2 w2262) fun x2268 w2268 =>
  if x2268 = x2250 then (if x2250 = 0 then (bo (jald v3 0 w2268) fun x2285 =>
  if (lg_cmp x2285 x2262.toInt64) = 0 then (f_L_law_b2295 G k28  v0 v1 v2 v3 v4 v5 w2268) else
  (k2293 w2268)) else
  (f_L_law_b2295 G k28  v0 v1 v2 v3 v4 v5 w2268)) else
  (k2276 w2268)
noncomputable def f_L_law_b2360 (G : Nat) (k28 : Rf → Rf → Rf → Rf → Rf → Int32 → St → Option (Int32 × St)) (v0 : Rf) (v1 : Rf) (v2 : Rf) (v3 : Rf) (v4 : Rf) (v5 : Int32) (w : St) : Option (Int32 × St) :=
  f_L_law_b2530 G k28  v0 v1 v2 v3 v4 v5 w
noncomputable def f_L_law_b2298 (G : Nat) (k28 : Rf → Rf → Rf → Rf → Rf → Int32 → St → Option (Int32 × St)) (k2321 : St → Option (Int32 × St)) (k2358 : St → Option (Int32 × St)) (v0 : Rf) (v1 : Rf) (v2 : Rf) (v3 : Rf) (v4 : Rf) (v5 : Int32) (w : St) : Option (Int32 × St) :=
  bd (f_X0_meanLate G v1 v4 w) fun x2301 w2301 =>
  gd (cls v2 w2301 = some 26) <|
  bd (f_X3_meanLate G v2 w2301) fun x2307 w2307 =>
  gd (cls v2 w2307 = some 26) <|
  bd (f_X3_thrown G v2 w2307) fun x2313 w2313 =>
  if x2313 = x2301 then (if x2301 = 0 then (bo (dald v4 0 w2313) fun x2331 =>
  if (Op.cmpValue (FP.dcmp x2331 x2307) .l) = 0 then (f_L_law_b2360 G k28  v0 v1 v2 v3 v4 v5 w2313) else
  (bo (dald v4 0 w2313) fun x2341 =>
  bo (dald v4 0 w2313) fun x2345 =>
  if (Op.cmpValue (FP.dcmp x2341 x2345) .l) = 0 then (k2358 w2313) else
  (if (Op.cmpValue (FP.dcmp x2307 x2307) .l) = 0 then (k2358 w2313) else
  (f_L_law_b2360 G k28  v0 v1 v2 v3 v4 v5 w2313)))) else
  (f_L_law_b2360 G k28  v0 v1 v2 v3 v4 v5 w2313)) else
  (k2321 w2313)
noncomputable def f_L_law_b2426 (G : Nat) (k28 : Rf → Rf → Rf → Rf → Rf → Int32 → St → Option (Int32 × St)) (v0 : Rf) (v1 : Rf) (v2 : Rf) (v3 : Rf) (v4 : Rf) (v5 : Int32) (w : St) : Option (Int32 × St) :=
  f_L_law_b2530 G k28  v0 v1 v2 v3 v4 v5 w
noncomputable def f_L_law_b2363 (G : Nat) (k28 : Rf → Rf → Rf → Rf → Rf → Int32 → St → Option (Int32 × St)) (k2386 : St → Option (Int32 × St)) (k2424 : St → Option (Int32 × St)) (v0 : Rf) (v1 : Rf) (v2 : Rf) (v3 : Rf) (v4 : Rf) (v5 : Int32) (w : St) : Option (Int32 × St) :=
  bd (f_X0_keptShare G v1 v4 w) fun x2366 w2366 =>
  gd (cls v2 w2366 = some 26) <|
  bd (f_X3_keptShare G v2 w2366) fun x2372 w2372 =>
  gd (cls v2 w2372 = some 26) <|
  bd (f_X3_thrown G v2 w2372) fun x2378 w2378 =>
  if x2378 = x2366 then (if x2366 = 0 then (bo (dald v4 0 w2378) fun x2396 =>
  gdC (vf_n64 (FP.f2d x2372)) <|
  if (Op.cmpValue (FP.dcmp x2396 (FP.f2d x2372)) .l) = 0 then (f_L_law_b2426 G k28  v0 v1 v2 v3 v4 v5 w2378) else
  (bo (dald v4 0 w2378) fun x2407 =>
  bo (dald v4 0 w2378) fun x2411 =>
  if (Op.cmpValue (FP.dcmp x2407 x2411) .l) = 0 then (k2424 w2378) else
  (if (Op.cmpValue (FP.fcmp x2372 x2372) .l) = 0 then (k2424 w2378) else
  (f_L_law_b2426 G k28  v0 v1 v2 v3 v4 v5 w2378)))) else
  (f_L_law_b2426 G k28  v0 v1 v2 v3 v4 v5 w2378)) else
  (k2386 w2378)
noncomputable def f_L_law_b2470 (G : Nat) (k28 : Rf → Rf → Rf → Rf → Rf → Int32 → St → Option (Int32 × St)) (v0 : Rf) (v1 : Rf) (v2 : Rf) (v3 : Rf) (v4 : Rf) (v5 : Int32) (w : St) : Option (Int32 × St) :=
  f_L_law_b2530 G k28  v0 v1 v2 v3 v4 v5 w
noncomputable def f_L_law_b2429 (G : Nat) (k28 : Rf → Rf → Rf → Rf → Rf → Int32 → St → Option (Int32 × St)) (k2451 : St → Option (Int32 × St)) (k2468 : St → Option (Int32 × St)) (v0 : Rf) (v1 : Rf) (v2 : Rf) (v3 : Rf) (v4 : Rf) (v5 : Int32) (w : St) : Option (Int32 × St) :=
  bd (f_X0_undo G v1 v3 w) fun x2431 w2431 =>
  gd (cls v2 w2431 = some 26) <|
  bd (f_X3_undo G v2 w2431) fun x2437 w2437 =>
  gd (cls v2 w2437 = some 26) <|
  bd (f_X3_thrown G v2 w2437) fun x2443 w2443 =>
  if x2443 = x2431 then (if x2431 = 0 then (bo (jald v3 0 w2443) fun x2460 =>
  if (lg_cmp x2460 x2437.toInt64) = 0 then (f_L_law_b2470 G k28  v0 v1 v2 v3 v4 v5 w2443) else
  (k2468 w2443)) else
  (f_L_law_b2470 G k28  v0 v1 v2 v3 v4 v5 w2443)) else
  (k2451 w2443)
noncomputable def f_L_law_b2473 (G : Nat) (k28 : Rf → Rf → Rf → Rf → Rf → Int32 → St → Option (Int32 × St)) (k2484 : St → Option (Int32 × St)) (v0 : Rf) (v1 : Rf) (v2 : Rf) (v3 : Rf) (v4 : Rf) (v5 : Int32) (w : St) : Option (Int32 × St) :=
  gd (cls v1 w = some 0) <|
  bd (f_X1_save G v1 w) fun x2474 w2474 =>
  gd (cls v2 w2474 = some 26) <|
  bd (f_X3_save G v2 w2474) fun x2478 w2478 =>
  if x2474 = x2478 then (f_L_law_b2530 G k28  v0 v1 v2 v3 v4 v5 w2478) else
  (k2484 w2478)
noncomputable def f_L_law_b2527 (G : Nat) (k28 : Rf → Rf → Rf → Rf → Rf → Int32 → St → Option (Int32 × St)) (v0 : Rf) (v1 : Rf) (v2 : Rf) (v3 : Rf) (v4 : Rf) (v5 : Int32) (w : St) : Option (Int32 × St) :=
  f_L_law_b2530 G k28  v0 v1 v2 v3 v4 v5 w
noncomputable def f_L_law_b2486 (G : Nat) (k28 : Rf → Rf → Rf → Rf → Rf → Int32 → St → Option (Int32 × St)) (k2508 : St → Option (Int32 × St)) (k2525 : St → Option (Int32 × St)) (v0 : Rf) (v1 : Rf) (v2 : Rf) (v3 : Rf) (v4 : Rf) (v5 : Int32) (w : St) : Option (Int32 × St) :=
  bd (f_X0_restore G v1 v3 w) fun x2488 w2488 =>
  gd (cls v2 w2488 = some 26) <|
  bd (f_X3_restore G v2 w2488) fun x2494 w2494 =>
  gd (cls v2 w2494 = some 26) <|
  bd (f_X3_thrown G v2 w2494) fun x2500 w2500 =>
  if x2500 = x2488 then (if x2488 = 0 then (bo (jald v3 0 w2500) fun x2517 =>
  if (lg_cmp x2517 x2494.toInt64) = 0 then (f_L_law_b2527 G k28  v0 v1 v2 v3 v4 v5 w2500) else
  (k2525 w2500)) else
  (f_L_law_b2527 G k28  v0 v1 v2 v3 v4 v5 w2500)) else
  (k2508 w2500)
noncomputable def f_L_law_l28 (G : Nat) (k258 : St → Option (Int32 × St)) (k275 : St → Option (Int32 × St)) (k376 : St → Option (Int32 × St)) (k393 : St → Option (Int32 × St)) (k444 : St → Option (Int32 × St)) (k461 : St → Option (Int32 × St)) (k562 : St → Option (Int32 × St)) (k579 : St → Option (Int32 × St)) (k618 : St → Option (Int32 × St)) (k635 : St → Option (Int32 × St)) (k686 : St → Option (Int32 × St)) (k703 : St → Option (Int32 × St)) (k794 : St → Option (Int32 × St)) (k811 : St → Option (Int32 × St)) (k862 : St → Option (Int32 × St)) (k879 : St → Option (Int32 × St)) (k942 : St → Option (Int32 × St)) (k959 : St → Option (Int32 × St)) (k1050 : St → Option (Int32 × St)) (k1067 : St → Option (Int32 × St)) (k1146 : St → Option (Int32 × St)) (k1163 : St → Option (Int32 × St)) (k1242 : St → Option (Int32 × St)) (k1259 : St → Option (Int32 × St)) (k1310 : St → Option (Int32 × St)) (k1327 : St → Option (Int32 × St)) (k1366 : St → Option (Int32 × St)) (k1383 : St → Option (Int32 × St)) (k1422 : St → Option (Int32 × St)) (k1439 : St → Option (Int32 × St)) (k1478 : St → Option (Int32 × St)) (k1495 : St → Option (Int32 × St)) (k1534 : St → Option (Int32 × St)) (k1551 : St → Option (Int32 × St)) (k1567 : St → Option (Int32 × St)) (k1603 : St → Option (Int32 × St)) (k1620 : St → Option (Int32 × St)) (k1659 : St → Option (Int32 × St)) (k1676 : St → Option (Int32 × St)) (k1715 : St → Option (Int32 × St)) (k1732 : St → Option (Int32 × St)) (k1771 : St → Option (Int32 × St)) (k1788 : St → Option (Int32 × St)) (k1827 : St → Option (Int32 × St)) (k1844 : St → Option (Int32 × St)) (k1883 : St → Option (Int32 × St)) (k1900 : St → Option (Int32 × St)) (k1916 : St → Option (Int32 × St)) (k1954 : St → Option (Int32 × St)) (k1971 : St → Option (Int32 × St)) (k1998 : St → Option (Int32 × St)) (k2015 : St → Option (Int32 × St)) (k2031 : St → Option (Int32 × St)) (k2095 : St → Option (Int32 × St)) (k2112 : St → Option (Int32 × St)) (k2151 : St → Option (Int32 × St)) (k2168 : St → Option (Int32 × St)) (k2184 : St → Option (Int32 × St)) (k2220 : St → Option (Int32 × St)) (k2237 : St → Option (Int32 × St)) (k2276 : St → Option (Int32 × St)) (k2293 : St → Option (Int32 × St)) (k2321 : St → Option (Int32 × St)) (k2358 : St → Option (Int32 × St)) (k2386 : St → Option (Int32 × St)) (k2424 : St → Option (Int32 × St)) (k2451 : St → Option (Int32 × St)) (k2468 : St → Option (Int32 × St)) (k2484 : St → Option (Int32 × St)) (k2508 : St → Option (Int32 × St)) (k2525 : St → Option (Int32 × St)) (k2536 : St → Option (Int32 × St)) : Nat → Rf → Rf → Rf → Rf → Rf → Int32 → St → Option (Int32 × St)
  | 0, _, _, _, _, _, _, _ => none
  | F + 1, v0, v1, v2, v3, v4, v5, w =>
  bo (alen v0 w) fun x31 =>
  if (x31 - 7) < v5 then (k2536 w) else
  (bo (iald v0 v5 w) fun x41 =>
  if (x41 &&& 63) = 0 then (f_L_law_b212 G (fun v0 v1 v2 v3 v4 v5 w => f_L_law_l28 G k258 k275 k376 k393 k444 k461 k562 k579 k618 k635 k686 k703 k794 k811 k862 k879 k942 k959 k1050 k1067 k1146 k1163 k1242 k1259 k1310 k1327 k1366 k1383 k1422 k1439 k1478 k1495 k1534 k1551 k1567 k1603 k1620 k1659 k1676 k1715 k1732 k1771 k1788 k1827 k1844 k1883 k1900 k1916 k1954 k1971 k1998 k2015 k2031 k2095 k2112 k2151 k2168 k2184 k2220 k2237 k2276 k2293 k2321 k2358 k2386 k2424 k2451 k2468 k2484 k2508 k2525 k2536 F v0 v1 v2 v3 v4 v5 w) k258 k275  v0 v1 v2 v3 v4 v5 w) else
  (if (x41 &&& 63) = 1 then (f_L_law_b280 G (fun v0 v1 v2 v3 v4 v5 w => f_L_law_l28 G k258 k275 k376 k393 k444 k461 k562 k579 k618 k635 k686 k703 k794 k811 k862 k879 k942 k959 k1050 k1067 k1146 k1163 k1242 k1259 k1310 k1327 k1366 k1383 k1422 k1439 k1478 k1495 k1534 k1551 k1567 k1603 k1620 k1659 k1676 k1715 k1732 k1771 k1788 k1827 k1844 k1883 k1900 k1916 k1954 k1971 k1998 k2015 k2031 k2095 k2112 k2151 k2168 k2184 k2220 k2237 k2276 k2293 k2321 k2358 k2386 k2424 k2451 k2468 k2484 k2508 k2525 k2536 F v0 v1 v2 v3 v4 v5 w) k376 k393  v0 v1 v2 v3 v4 v5 w) else
  (if (x41 &&& 63) = 2 then (f_L_law_b398 G (fun v0 v1 v2 v3 v4 v5 w => f_L_law_l28 G k258 k275 k376 k393 k444 k461 k562 k579 k618 k635 k686 k703 k794 k811 k862 k879 k942 k959 k1050 k1067 k1146 k1163 k1242 k1259 k1310 k1327 k1366 k1383 k1422 k1439 k1478 k1495 k1534 k1551 k1567 k1603 k1620 k1659 k1676 k1715 k1732 k1771 k1788 k1827 k1844 k1883 k1900 k1916 k1954 k1971 k1998 k2015 k2031 k2095 k2112 k2151 k2168 k2184 k2220 k2237 k2276 k2293 k2321 k2358 k2386 k2424 k2451 k2468 k2484 k2508 k2525 k2536 F v0 v1 v2 v3 v4 v5 w) k444 k461  v0 v1 v2 v3 v4 v5 w) else
  (if (x41 &&& 63) = 3 then (f_L_law_b466 G (fun v0 v1 v2 v3 v4 v5 w => f_L_law_l28 G k258 k275 k376 k393 k444 k461 k562 k579 k618 k635 k686 k703 k794 k811 k862 k879 k942 k959 k1050 k1067 k1146 k1163 k1242 k1259 k1310 k1327 k1366 k1383 k1422 k1439 k1478 k1495 k1534 k1551 k1567 k1603 k1620 k1659 k1676 k1715 k1732 k1771 k1788 k1827 k1844 k1883 k1900 k1916 k1954 k1971 k1998 k2015 k2031 k2095 k2112 k2151 k2168 k2184 k2220 k2237 k2276 k2293 k2321 k2358 k2386 k2424 k2451 k2468 k2484 k2508 k2525 k2536 F v0 v1 v2 v3 v4 v5 w) k562 k579  v0 v1 v2 v3 v4 v5 w) else
  (if (x41 &&& 63) = 4 then (f_L_law_b584 G (fun v0 v1 v2 v3 v4 v5 w => f_L_law_l28 G k258 k275 k376 k393 k444 k461 k562 k579 k618 k635 k686 k703 k794 k811 k862 k879 k942 k959 k1050 k1067 k1146 k1163 k1242 k1259 k1310 k1327 k1366 k1383 k1422 k1439 k1478 k1495 k1534 k1551 k1567 k1603 k1620 k1659 k1676 k1715 k1732 k1771 k1788 k1827 k1844 k1883 k1900 k1916 k1954 k1971 k1998 k2015 k2031 k2095 k2112 k2151 k2168 k2184 k2220 k2237 k2276 k2293 k2321 k2358 k2386 k2424 k2451 k2468 k2484 k2508 k2525 k2536 F v0 v1 v2 v3 v4 v5 w) k618 k635  v0 v1 v2 v3 v4 v5 w) else
  (if (x41 &&& 63) = 5 then (f_L_law_b640 G (fun v0 v1 v2 v3 v4 v5 w => f_L_law_l28 G k258 k275 k376 k393 k444 k461 k562 k579 k618 k635 k686 k703 k794 k811 k862 k879 k942 k959 k1050 k1067 k1146 k1163 k1242 k1259 k1310 k1327 k1366 k1383 k1422 k1439 k1478 k1495 k1534 k1551 k1567 k1603 k1620 k1659 k1676 k1715 k1732 k1771 k1788 k1827 k1844 k1883 k1900 k1916 k1954 k1971 k1998 k2015 k2031 k2095 k2112 k2151 k2168 k2184 k2220 k2237 k2276 k2293 k2321 k2358 k2386 k2424 k2451 k2468 k2484 k2508 k2525 k2536 F v0 v1 v2 v3 v4 v5 w) k686 k703  v0 v1 v2 v3 v4 v5 w) else
  (if (x41 &&& 63) = 6 then (f_L_law_b708 G (fun v0 v1 v2 v3 v4 v5 w => f_L_law_l28 G k258 k275 k376 k393 k444 k461 k562 k579 k618 k635 k686 k703 k794 k811 k862 k879 k942 k959 k1050 k1067 k1146 k1163 k1242 k1259 k1310 k1327 k1366 k1383 k1422 k1439 k1478 k1495 k1534 k1551 k1567 k1603 k1620 k1659 k1676 k1715 k1732 k1771 k1788 k1827 k1844 k1883 k1900 k1916 k1954 k1971 k1998 k2015 k2031 k2095 k2112 k2151 k2168 k2184 k2220 k2237 k2276 k2293 k2321 k2358 k2386 k2424 k2451 k2468 k2484 k2508 k2525 k2536 F v0 v1 v2 v3 v4 v5 w) k794 k811  v0 v1 v2 v3 v4 v5 w) else
  (if (x41 &&& 63) = 7 then (f_L_law_b816 G (fun v0 v1 v2 v3 v4 v5 w => f_L_law_l28 G k258 k275 k376 k393 k444 k461 k562 k579 k618 k635 k686 k703 k794 k811 k862 k879 k942 k959 k1050 k1067 k1146 k1163 k1242 k1259 k1310 k1327 k1366 k1383 k1422 k1439 k1478 k1495 k1534 k1551 k1567 k1603 k1620 k1659 k1676 k1715 k1732 k1771 k1788 k1827 k1844 k1883 k1900 k1916 k1954 k1971 k1998 k2015 k2031 k2095 k2112 k2151 k2168 k2184 k2220 k2237 k2276 k2293 k2321 k2358 k2386 k2424 k2451 k2468 k2484 k2508 k2525 k2536 F v0 v1 v2 v3 v4 v5 w) k862 k879  v0 v1 v2 v3 v4 v5 w) else
  (if (x41 &&& 63) = 8 then (f_L_law_b884 G (fun v0 v1 v2 v3 v4 v5 w => f_L_law_l28 G k258 k275 k376 k393 k444 k461 k562 k579 k618 k635 k686 k703 k794 k811 k862 k879 k942 k959 k1050 k1067 k1146 k1163 k1242 k1259 k1310 k1327 k1366 k1383 k1422 k1439 k1478 k1495 k1534 k1551 k1567 k1603 k1620 k1659 k1676 k1715 k1732 k1771 k1788 k1827 k1844 k1883 k1900 k1916 k1954 k1971 k1998 k2015 k2031 k2095 k2112 k2151 k2168 k2184 k2220 k2237 k2276 k2293 k2321 k2358 k2386 k2424 k2451 k2468 k2484 k2508 k2525 k2536 F v0 v1 v2 v3 v4 v5 w) k942 k959  v0 v1 v2 v3 v4 v5 w) else
  (if (x41 &&& 63) = 9 then (f_L_law_b964 G (fun v0 v1 v2 v3 v4 v5 w => f_L_law_l28 G k258 k275 k376 k393 k444 k461 k562 k579 k618 k635 k686 k703 k794 k811 k862 k879 k942 k959 k1050 k1067 k1146 k1163 k1242 k1259 k1310 k1327 k1366 k1383 k1422 k1439 k1478 k1495 k1534 k1551 k1567 k1603 k1620 k1659 k1676 k1715 k1732 k1771 k1788 k1827 k1844 k1883 k1900 k1916 k1954 k1971 k1998 k2015 k2031 k2095 k2112 k2151 k2168 k2184 k2220 k2237 k2276 k2293 k2321 k2358 k2386 k2424 k2451 k2468 k2484 k2508 k2525 k2536 F v0 v1 v2 v3 v4 v5 w) k1050 k1067  v0 v1 v2 v3 v4 v5 w) else
  (if (x41 &&& 63) = 10 then (f_L_law_b1072 G (fun v0 v1 v2 v3 v4 v5 w => f_L_law_l28 G k258 k275 k376 k393 k444 k461 k562 k579 k618 k635 k686 k703 k794 k811 k862 k879 k942 k959 k1050 k1067 k1146 k1163 k1242 k1259 k1310 k1327 k1366 k1383 k1422 k1439 k1478 k1495 k1534 k1551 k1567 k1603 k1620 k1659 k1676 k1715 k1732 k1771 k1788 k1827 k1844 k1883 k1900 k1916 k1954 k1971 k1998 k2015 k2031 k2095 k2112 k2151 k2168 k2184 k2220 k2237 k2276 k2293 k2321 k2358 k2386 k2424 k2451 k2468 k2484 k2508 k2525 k2536 F v0 v1 v2 v3 v4 v5 w) k1146 k1163  v0 v1 v2 v3 v4 v5 w) else
  (if (x41 &&& 63) = 11 then (f_L_law_b1168 G (fun v0 v1 v2 v3 v4 v5 w => f_L_law_l28 G k258 k275 k376 k393 k444 k461 k562 k579 k618 k635 k686 k703 k794 k811 k862 k879 k942 k959 k1050 k1067 k1146 k1163 k1242 k1259 k1310 k1327 k1366 k1383 k1422 k1439 k1478 k1495 k1534 k1551 k1567 k1603 k1620 k1659 k1676 k1715 k1732 k1771 k1788 k1827 k1844 k1883 k1900 k1916 k1954 k1971 k1998 k2015 k2031 k2095 k2112 k2151 k2168 k2184 k2220 k2237 k2276 k2293 k2321 k2358 k2386 k2424 k2451 k2468 k2484 k2508 k2525 k2536 F v0 v1 v2 v3 v4 v5 w) k1242 k1259  v0 v1 v2 v3 v4 v5 w) else
  (if (x41 &&& 63) = 12 then (f_L_law_b1264 G (fun v0 v1 v2 v3 v4 v5 w => f_L_law_l28 G k258 k275 k376 k393 k444 k461 k562 k579 k618 k635 k686 k703 k794 k811 k862 k879 k942 k959 k1050 k1067 k1146 k1163 k1242 k1259 k1310 k1327 k1366 k1383 k1422 k1439 k1478 k1495 k1534 k1551 k1567 k1603 k1620 k1659 k1676 k1715 k1732 k1771 k1788 k1827 k1844 k1883 k1900 k1916 k1954 k1971 k1998 k2015 k2031 k2095 k2112 k2151 k2168 k2184 k2220 k2237 k2276 k2293 k2321 k2358 k2386 k2424 k2451 k2468 k2484 k2508 k2525 k2536 F v0 v1 v2 v3 v4 v5 w) k1310 k1327  v0 v1 v2 v3 v4 v5 w) else
  (if (x41 &&& 63) = 13 then (f_L_law_b1332 G (fun v0 v1 v2 v3 v4 v5 w => f_L_law_l28 G k258 k275 k376 k393 k444 k461 k562 k579 k618 k635 k686 k703 k794 k811 k862 k879 k942 k959 k1050 k1067 k1146 k1163 k1242 k1259 k1310 k1327 k1366 k1383 k1422 k1439 k1478 k1495 k1534 k1551 k1567 k1603 k1620 k1659 k1676 k1715 k1732 k1771 k1788 k1827 k1844 k1883 k1900 k1916 k1954 k1971 k1998 k2015 k2031 k2095 k2112 k2151 k2168 k2184 k2220 k2237 k2276 k2293 k2321 k2358 k2386 k2424 k2451 k2468 k2484 k2508 k2525 k2536 F v0 v1 v2 v3 v4 v5 w) k1366 k1383  v0 v1 v2 v3 v4 v5 w) else
  (if (x41 &&& 63) = 14 then (f_L_law_b1388 G (fun v0 v1 v2 v3 v4 v5 w => f_L_law_l28 G k258 k275 k376 k393 k444 k461 k562 k579 k618 k635 k686 k703 k794 k811 k862 k879 k942 k959 k1050 k1067 k1146 k1163 k1242 k1259 k1310 k1327 k1366 k1383 k1422 k1439 k1478 k1495 k1534 k1551 k1567 k1603 k1620 k1659 k1676 k1715 k1732 k1771 k1788 k1827 k1844 k1883 k1900 k1916 k1954 k1971 k1998 k2015 k2031 k2095 k2112 k2151 k2168 k2184 k2220 k2237 k2276 k2293 k2321 k2358 k2386 k2424 k2451 k2468 k2484 k2508 k2525 k2536 F v0 v1 v2 v3 v4 v5 w) k1422 k1439  v0 v1 v2 v3 v4 v5 w) else
  (if (x41 &&& 63) = 15 then (f_L_law_b1444 G (fun v0 v1 v2 v3 v4 v5 w => f_L_law_l28 G k258 k275 k376 k393 k444 k461 k562 k579 k618 k635 k686 k703 k794 k811 k862 k879 k942 k959 k1050 k1067 k1146 k1163 k1242 k1259 k1310 k1327 k1366 k1383 k1422 k1439 k1478 k1495 k1534 k1551 k1567 k1603 k1620 k1659 k1676 k1715 k1732 k1771 k1788 k1827 k1844 k1883 k1900 k1916 k1954 k1971 k1998 k2015 k2031 k2095 k2112 k2151 k2168 k2184 k2220 k2237 k2276 k2293 k2321 k2358 k2386 k2424 k2451 k2468 k2484 k2508 k2525 k2536 F v0 v1 v2 v3 v4 v5 w) k1478 k1495  v0 v1 v2 v3 v4 v5 w) else
  (if (x41 &&& 63) = 16 then (f_L_law_b1500 G (fun v0 v1 v2 v3 v4 v5 w => f_L_law_l28 G k258 k275 k376 k393 k444 k461 k562 k579 k618 k635 k686 k703 k794 k811 k862 k879 k942 k959 k1050 k1067 k1146 k1163 k1242 k1259 k1310 k1327 k1366 k1383 k1422 k1439 k1478 k1495 k1534 k1551 k1567 k1603 k1620 k1659 k1676 k1715 k1732 k1771 k1788 k1827 k1844 k1883 k1900 k1916 k1954 k1971 k1998 k2015 k2031 k2095 k2112 k2151 k2168 k2184 k2220 k2237 k2276 k2293 k2321 k2358 k2386 k2424 k2451 k2468 k2484 k2508 k2525 k2536 F v0 v1 v2 v3 v4 v5 w) k1534 k1551  v0 v1 v2 v3 v4 v5 w) else
  (if (x41 &&& 63) = 17 then (f_L_law_b1556 G (fun v0 v1 v2 v3 v4 v5 w => f_L_law_l28 G k258 k275 k376 k393 k444 k461 k562 k579 k618 k635 k686 k703 k794 k811 k862 k879 k942 k959 k1050 k1067 k1146 k1163 k1242 k1259 k1310 k1327 k1366 k1383 k1422 k1439 k1478 k1495 k1534 k1551 k1567 k1603 k1620 k1659 k1676 k1715 k1732 k1771 k1788 k1827 k1844 k1883 k1900 k1916 k1954 k1971 k1998 k2015 k2031 k2095 k2112 k2151 k2168 k2184 k2220 k2237 k2276 k2293 k2321 k2358 k2386 k2424 k2451 k2468 k2484 k2508 k2525 k2536 F v0 v1 v2 v3 v4 v5 w) k1567  v0 v1 v2 v3 v4 v5 w) else
  (if (x41 &&& 63) = 18 then (f_L_law_b1569 G (fun v0 v1 v2 v3 v4 v5 w => f_L_law_l28 G k258 k275 k376 k393 k444 k461 k562 k579 k618 k635 k686 k703 k794 k811 k862 k879 k942 k959 k1050 k1067 k1146 k1163 k1242 k1259 k1310 k1327 k1366 k1383 k1422 k1439 k1478 k1495 k1534 k1551 k1567 k1603 k1620 k1659 k1676 k1715 k1732 k1771 k1788 k1827 k1844 k1883 k1900 k1916 k1954 k1971 k1998 k2015 k2031 k2095 k2112 k2151 k2168 k2184 k2220 k2237 k2276 k2293 k2321 k2358 k2386 k2424 k2451 k2468 k2484 k2508 k2525 k2536 F v0 v1 v2 v3 v4 v5 w) k1603 k1620  v0 v1 v2 v3 v4 v5 w) else
  (if (x41 &&& 63) = 19 then (f_L_law_b1625 G (fun v0 v1 v2 v3 v4 v5 w => f_L_law_l28 G k258 k275 k376 k393 k444 k461 k562 k579 k618 k635 k686 k703 k794 k811 k862 k879 k942 k959 k1050 k1067 k1146 k1163 k1242 k1259 k1310 k1327 k1366 k1383 k1422 k1439 k1478 k1495 k1534 k1551 k1567 k1603 k1620 k1659 k1676 k1715 k1732 k1771 k1788 k1827 k1844 k1883 k1900 k1916 k1954 k1971 k1998 k2015 k2031 k2095 k2112 k2151 k2168 k2184 k2220 k2237 k2276 k2293 k2321 k2358 k2386 k2424 k2451 k2468 k2484 k2508 k2525 k2536 F v0 v1 v2 v3 v4 v5 w) k1659 k1676  v0 v1 v2 v3 v4 v5 w) else
  (if (x41 &&& 63) = 20 then (f_L_law_b1681 G (fun v0 v1 v2 v3 v4 v5 w => f_L_law_l28 G k258 k275 k376 k393 k444 k461 k562 k579 k618 k635 k686 k703 k794 k811 k862 k879 k942 k959 k1050 k1067 k1146 k1163 k1242 k1259 k1310 k1327 k1366 k1383 k1422 k1439 k1478 k1495 k1534 k1551 k1567 k1603 k1620 k1659 k1676 k1715 k1732 k1771 k1788 k1827 k1844 k1883 k1900 k1916 k1954 k1971 k1998 k2015 k2031 k2095 k2112 k2151 k2168 k2184 k2220 k2237 k2276 k2293 k2321 k2358 k2386 k2424 k2451 k2468 k2484 k2508 k2525 k2536 F v0 v1 v2 v3 v4 v5 w) k1715 k1732  v0 v1 v2 v3 v4 v5 w) else
  (if (x41 &&& 63) = 21 then (f_L_law_b1737 G (fun v0 v1 v2 v3 v4 v5 w => f_L_law_l28 G k258 k275 k376 k393 k444 k461 k562 k579 k618 k635 k686 k703 k794 k811 k862 k879 k942 k959 k1050 k1067 k1146 k1163 k1242 k1259 k1310 k1327 k1366 k1383 k1422 k1439 k1478 k1495 k1534 k1551 k1567 k1603 k1620 k1659 k1676 k1715 k1732 k1771 k1788 k1827 k1844 k1883 k1900 k1916 k1954 k1971 k1998 k2015 k2031 k2095 k2112 k2151 k2168 k2184 k2220 k2237 k2276 k2293 k2321 k2358 k2386 k2424 k2451 k2468 k2484 k2508 k2525 k2536 F v0 v1 v2 v3 v4 v5 w) k1771 k1788  v0 v1 v2 v3 v4 v5 w) else
  (if (x41 &&& 63) = 22 then (f_L_law_b1793 G (fun v0 v1 v2 v3 v4 v5 w => f_L_law_l28 G k258 k275 k376 k393 k444 k461 k562 k579 k618 k635 k686 k703 k794 k811 k862 k879 k942 k959 k1050 k1067 k1146 k1163 k1242 k1259 k1310 k1327 k1366 k1383 k1422 k1439 k1478 k1495 k1534 k1551 k1567 k1603 k1620 k1659 k1676 k1715 k1732 k1771 k1788 k1827 k1844 k1883 k1900 k1916 k1954 k1971 k1998 k2015 k2031 k2095 k2112 k2151 k2168 k2184 k2220 k2237 k2276 k2293 k2321 k2358 k2386 k2424 k2451 k2468 k2484 k2508 k2525 k2536 F v0 v1 v2 v3 v4 v5 w) k1827 k1844  v0 v1 v2 v3 v4 v5 w) else
  (if (x41 &&& 63) = 23 then (f_L_law_b1849 G (fun v0 v1 v2 v3 v4 v5 w => f_L_law_l28 G k258 k275 k376 k393 k444 k461 k562 k579 k618 k635 k686 k703 k794 k811 k862 k879 k942 k959 k1050 k1067 k1146 k1163 k1242 k1259 k1310 k1327 k1366 k1383 k1422 k1439 k1478 k1495 k1534 k1551 k1567 k1603 k1620 k1659 k1676 k1715 k1732 k1771 k1788 k1827 k1844 k1883 k1900 k1916 k1954 k1971 k1998 k2015 k2031 k2095 k2112 k2151 k2168 k2184 k2220 k2237 k2276 k2293 k2321 k2358 k2386 k2424 k2451 k2468 k2484 k2508 k2525 k2536 F v0 v1 v2 v3 v4 v5 w) k1883 k1900  v0 v1 v2 v3 v4 v5 w) else
  (if (x41 &&& 63) = 24 then (f_L_law_b1905 G (fun v0 v1 v2 v3 v4 v5 w => f_L_law_l28 G k258 k275 k376 k393 k444 k461 k562 k579 k618 k635 k686 k703 k794 k811 k862 k879 k942 k959 k1050 k1067 k1146 k1163 k1242 k1259 k1310 k1327 k1366 k1383 k1422 k1439 k1478 k1495 k1534 k1551 k1567 k1603 k1620 k1659 k1676 k1715 k1732 k1771 k1788 k1827 k1844 k1883 k1900 k1916 k1954 k1971 k1998 k2015 k2031 k2095 k2112 k2151 k2168 k2184 k2220 k2237 k2276 k2293 k2321 k2358 k2386 k2424 k2451 k2468 k2484 k2508 k2525 k2536 F v0 v1 v2 v3 v4 v5 w) k1916  v0 v1 v2 v3 v4 v5 w) else
  (if (x41 &&& 63) = 25 then (f_L_law_b1918 G (fun v0 v1 v2 v3 v4 v5 w => f_L_law_l28 G k258 k275 k376 k393 k444 k461 k562 k579 k618 k635 k686 k703 k794 k811 k862 k879 k942 k959 k1050 k1067 k1146 k1163 k1242 k1259 k1310 k1327 k1366 k1383 k1422 k1439 k1478 k1495 k1534 k1551 k1567 k1603 k1620 k1659 k1676 k1715 k1732 k1771 k1788 k1827 k1844 k1883 k1900 k1916 k1954 k1971 k1998 k2015 k2031 k2095 k2112 k2151 k2168 k2184 k2220 k2237 k2276 k2293 k2321 k2358 k2386 k2424 k2451 k2468 k2484 k2508 k2525 k2536 F v0 v1 v2 v3 v4 v5 w) k1954 k1971  v0 v1 v2 v3 v4 v5 w) else
  (if (x41 &&& 63) = 26 then (f_L_law_b1976 G (fun v0 v1 v2 v3 v4 v5 w => f_L_law_l28 G k258 k275 k376 k393 k444 k461 k562 k579 k618 k635 k686 k703 k794 k811 k862 k879 k942 k959 k1050 k1067 k1146 k1163 k1242 k1259 k1310 k1327 k1366 k1383 k1422 k1439 k1478 k1495 k1534 k1551 k1567 k1603 k1620 k1659 k1676 k1715 k1732 k1771 k1788 k1827 k1844 k1883 k1900 k1916 k1954 k1971 k1998 k2015 k2031 k2095 k2112 k2151 k2168 k2184 k2220 k2237 k2276 k2293 k2321 k2358 k2386 k2424 k2451 k2468 k2484 k2508 k2525 k2536 F v0 v1 v2 v3 v4 v5 w) k1998 k2015  v0 v1 v2 v3 v4 v5 w) else
  (if (x41 &&& 63) = 27 then (f_L_law_b2020 G (fun v0 v1 v2 v3 v4 v5 w => f_L_law_l28 G k258 k275 k376 k393 k444 k461 k562 k579 k618 k635 k686 k703 k794 k811 k862 k879 k942 k959 k1050 k1067 k1146 k1163 k1242 k1259 k1310 k1327 k1366 k1383 k1422 k1439 k1478 k1495 k1534 k1551 k1567 k1603 k1620 k1659 k1676 k1715 k1732 k1771 k1788 k1827 k1844 k1883 k1900 k1916 k1954 k1971 k1998 k2015 k2031 k2095 k2112 k2151 k2168 k2184 k2220 k2237 k2276 k2293 k2321 k2358 k2386 k2424 k2451 k2468 k2484 k2508 k2525 k2536 F v0 v1 v2 v3 v4 v5 w) k2031  v0 v1 v2 v3 v4 v5 w) else
  (if (x41 &&& 63) = 28 then (f_L_law_b2033 G (fun v0 v1 v2 v3 v4 v5 w => f_L_law_l28 G k258 k275 k376 k393 k444 k461 k562 k579 k618 k635 k686 k703 k794 k811 k862 k879 k942 k959 k1050 k1067 k1146 k1163 k1242 k1259 k1310 k1327 k1366 k1383 k1422 k1439 k1478 k1495 k1534 k1551 k1567 k1603 k1620 k1659 k1676 k1715 k1732 k1771 k1788 k1827 k1844 k1883 k1900 k1916 k1954 k1971 k1998 k2015 k2031 k2095 k2112 k2151 k2168 k2184 k2220 k2237 k2276 k2293 k2321 k2358 k2386 k2424 k2451 k2468 k2484 k2508 k2525 k2536 F v0 v1 v2 v3 v4 v5 w) k2095 k2112  v0 v1 v2 v3 v4 v5 w) else
  (if (x41 &&& 63) = 29 then (f_L_law_b2117 G (fun v0 v1 v2 v3 v4 v5 w => f_L_law_l28 G k258 k275 k376 k393 k444 k461 k562 k579 k618 k635 k686 k703 k794 k811 k862 k879 k942 k959 k1050 k1067 k1146 k1163 k1242 k1259 k1310 k1327 k1366 k1383 k1422 k1439 k1478 k1495 k1534 k1551 k1567 k1603 k1620 k1659 k1676 k1715 k1732 k1771 k1788 k1827 k1844 k1883 k1900 k1916 k1954 k1971 k1998 k2015 k2031 k2095 k2112 k2151 k2168 k2184 k2220 k2237 k2276 k2293 k2321 k2358 k2386 k2424 k2451 k2468 k2484 k2508 k2525 k2536 F v0 v1 v2 v3 v4 v5 w) k2151 k2168  v0 v1 v2 v3 v4 v5 w) else
  (if (x41 &&& 63) = 30 then (f_L_law_b2173 G (fun v0 v1 v2 v3 v4 v5 w => f_L_law_l28 G k258 k275 k376 k393 k444 k461 k562 k579 k618 k635 k686 k703 k794 k811 k862 k879 k942 k959 k1050 k1067 k1146 k1163 k1242 k1259 k1310 k1327 k1366 k1383 k1422 k1439 k1478 k1495 k1534 k1551 k1567 k1603 k1620 k1659 k1676 k1715 k1732 k1771 k1788 k1827 k1844 k1883 k1900 k1916 k1954 k1971 k1998 k2015 k2031 k2095 k2112 k2151 k2168 k2184 k2220 k2237 k2276 k2293 k2321 k2358 k2386 k2424 k2451 k2468 k2484 k2508 k2525 k2536 F v0 v1 v2 v3 v4 v5 w) k2184  v0 v1 v2 v3 v4 v5 w) else
  (if (x41 &&& 63) = 31 then (f_L_law_b2186 G (fun v0 v1 v2 v3 v4 v5 w => f_L_law_l28 G k258 k275 k376 k393 k444 k461 k562 k579 k618 k635 k686 k703 k794 k811 k862 k879 k942 k959 k1050 k1067 k1146 k1163 k1242 k1259 k1310 k1327 k1366 k1383 k1422 k1439 k1478 k1495 k1534 k1551 k1567 k1603 k1620 k1659 k1676 k1715 k1732 k1771 k1788 k1827 k1844 k1883 k1900 k1916 k1954 k1971 k1998 k2015 k2031 k2095 k2112 k2151 k2168 k2184 k2220 k2237 k2276 k2293 k2321 k2358 k2386 k2424 k2451 k2468 k2484 k2508 k2525 k2536 F v0 v1 v2 v3 v4 v5 w) k2220 k2237  v0 v1 v2 v3 v4 v5 w) else
  (if (x41 &&& 63) = 32 then (f_L_law_b2242 G (fun v0 v1 v2 v3 v4 v5 w => f_L_law_l28 G k258 k275 k376 k393 k444 k461 k562 k579 k618 k635 k686 k703 k794 k811 k862 k879 k942 k959 k1050 k1067 k1146 k1163 k1242 k1259 k1310 k1327 k1366 k1383 k1422 k1439 k1478 k1495 k1534 k1551 k1567 k1603 k1620 k1659 k1676 k1715 k1732 k1771 k1788 k1827 k1844 k1883 k1900 k1916 k1954 k1971 k1998 k2015 k2031 k2095 k2112 k2151 k2168 k2184 k2220 k2237 k2276 k2293 k2321 k2358 k2386 k2424 k2451 k2468 k2484 k2508 k2525 k2536 F v0 v1 v2 v3 v4 v5 w) k2276 k2293  v0 v1 v2 v3 v4 v5 w) else
  (if (x41 &&& 63) = 33 then (f_L_law_b2298 G (fun v0 v1 v2 v3 v4 v5 w => f_L_law_l28 G k258 k275 k376 k393 k444 k461 k562 k579 k618 k635 k686 k703 k794 k811 k862 k879 k942 k959 k1050 k1067 k1146 k1163 k1242 k1259 k1310 k1327 k1366 k1383 k1422 k1439 k1478 k1495 k1534 k1551 k1567 k1603 k1620 k1659 k1676 k1715 k1732 k1771 k1788 k1827 k1844 k1883 k1900 k1916 k1954 k1971 k1998 k2015 k2031 k2095 k2112 k2151 k2168 k2184 k2220 k2237 k2276 k2293 k2321 k2358 k2386 k2424 k2451 k2468 k2484 k2508 k2525 k2536 F v0 v1 v2 v3 v4 v5 w) k2321 k2358  v0 v1 v2 v3 v4 v5 w) else
  (if (x41 &&& 63) = 34 then (f_L_law_b2363 G (fun v0 v1 v2 v3 v4 v5 w => f_L_law_l28 G k258 k275 k376 k393 k444 k461 k562 k579 k618 k635 k686 k703 k794 k811 k862 k879 k942 k959 k1050 k1067 k1146 k1163 k1242 k1259 k1310 k1327 k1366 k1383 k1422 k1439 k1478 k1495 k1534 k1551 k1567 k1603 k1620 k1659 k1676 k1715 k1732 k1771 k1788 k1827 k1844 k1883 k1900 k1916 k1954 k1971 k1998 k2015 k2031 k2095 k2112 k2151 k2168 k2184 k2220 k2237 k2276 k2293 k2321 k2358 k2386 k2424 k2451 k2468 k2484 k2508 k2525 k2536 F v0 v1 v2 v3 v4 v5 w) k2386 k2424  v0 v1 v2 v3 v4 v5 w) else
  (if (x41 &&& 63) = 35 then (f_L_law_b2429 G (fun v0 v1 v2 v3 v4 v5 w => f_L_law_l28 G k258 k275 k376 k393 k444 k461 k562 k579 k618 k635 k686 k703 k794 k811 k862 k879 k942 k959 k1050 k1067 k1146 k1163 k1242 k1259 k1310 k1327 k1366 k1383 k1422 k1439 k1478 k1495 k1534 k1551 k1567 k1603 k1620 k1659 k1676 k1715 k1732 k1771 k1788 k1827 k1844 k1883 k1900 k1916 k1954 k1971 k1998 k2015 k2031 k2095 k2112 k2151 k2168 k2184 k2220 k2237 k2276 k2293 k2321 k2358 k2386 k2424 k2451 k2468 k2484 k2508 k2525 k2536 F v0 v1 v2 v3 v4 v5 w) k2451 k2468  v0 v1 v2 v3 v4 v5 w) else
  (if (x41 &&& 63) = 36 then (f_L_law_b2473 G (fun v0 v1 v2 v3 v4 v5 w => f_L_law_l28 G k258 k275 k376 k393 k444 k461 k562 k579 k618 k635 k686 k703 k794 k811 k862 k879 k942 k959 k1050 k1067 k1146 k1163 k1242 k1259 k1310 k1327 k1366 k1383 k1422 k1439 k1478 k1495 k1534 k1551 k1567 k1603 k1620 k1659 k1676 k1715 k1732 k1771 k1788 k1827 k1844 k1883 k1900 k1916 k1954 k1971 k1998 k2015 k2031 k2095 k2112 k2151 k2168 k2184 k2220 k2237 k2276 k2293 k2321 k2358 k2386 k2424 k2451 k2468 k2484 k2508 k2525 k2536 F v0 v1 v2 v3 v4 v5 w) k2484  v0 v1 v2 v3 v4 v5 w) else
  (if (x41 &&& 63) = 37 then (f_L_law_b2486 G (fun v0 v1 v2 v3 v4 v5 w => f_L_law_l28 G k258 k275 k376 k393 k444 k461 k562 k579 k618 k635 k686 k703 k794 k811 k862 k879 k942 k959 k1050 k1067 k1146 k1163 k1242 k1259 k1310 k1327 k1366 k1383 k1422 k1439 k1478 k1495 k1534 k1551 k1567 k1603 k1620 k1659 k1676 k1715 k1732 k1771 k1788 k1827 k1844 k1883 k1900 k1916 k1954 k1971 k1998 k2015 k2031 k2095 k2112 k2151 k2168 k2184 k2220 k2237 k2276 k2293 k2321 k2358 k2386 k2424 k2451 k2468 k2484 k2508 k2525 k2536 F v0 v1 v2 v3 v4 v5 w) k2508 k2525  v0 v1 v2 v3 v4 v5 w) else
  (f_L_law_b2530 G (fun v0 v1 v2 v3 v4 v5 w => f_L_law_l28 G k258 k275 k376 k393 k444 k461 k562 k579 k618 k635 k686 k703 k794 k811 k862 k879 k942 k959 k1050 k1067 k1146 k1163 k1242 k1259 k1310 k1327 k1366 k1383 k1422 k1439 k1478 k1495 k1534 k1551 k1567 k1603 k1620 k1659 k1676 k1715 k1732 k1771 k1788 k1827 k1844 k1883 k1900 k1916 k1954 k1971 k1998 k2015 k2031 k2095 k2112 k2151 k2168 k2184 k2220 k2237 k2276 k2293 k2321 k2358 k2386 k2424 k2451 k2468 k2484 k2508 k2525 k2536 F v0 v1 v2 v3 v4 v5 w)  v0 v1 v2 v3 v4 v5 w)))))))))))))))))))))))))))))))))))))))
noncomputable def f_L_law_b258 (G : Nat) (w : St) : Option (Int32 × St) :=
  some (0, w)
noncomputable def f_L_law_b275 (G : Nat) (w : St) : Option (Int32 × St) :=
  some (0, w)
noncomputable def f_L_law_b376 (G : Nat) (w : St) : Option (Int32 × St) :=
  some (0, w)
noncomputable def f_L_law_b393 (G : Nat) (w : St) : Option (Int32 × St) :=
  some (0, w)
noncomputable def f_L_law_b444 (G : Nat) (w : St) : Option (Int32 × St) :=
  some (0, w)
noncomputable def f_L_law_b461 (G : Nat) (w : St) : Option (Int32 × St) :=
  some (0, w)
noncomputable def f_L_law_b562 (G : Nat) (w : St) : Option (Int32 × St) :=
  some (0, w)
noncomputable def f_L_law_b579 (G : Nat) (w : St) : Option (Int32 × St) :=
  some (0, w)
noncomputable def f_L_law_b618 (G : Nat) (w : St) : Option (Int32 × St) :=
  some (0, w)
noncomputable def f_L_law_b635 (G : Nat) (w : St) : Option (Int32 × St) :=
  some (0, w)
noncomputable def f_L_law_b686 (G : Nat) (w : St) : Option (Int32 × St) :=
  some (0, w)
noncomputable def f_L_law_b703 (G : Nat) (w : St) : Option (Int32 × St) :=
  some (0, w)
noncomputable def f_L_law_b794 (G : Nat) (w : St) : Option (Int32 × St) :=
  some (0, w)
noncomputable def f_L_law_b811 (G : Nat) (w : St) : Option (Int32 × St) :=
  some (0, w)
noncomputable def f_L_law_b862 (G : Nat) (w : St) : Option (Int32 × St) :=
  some (0, w)
noncomputable def f_L_law_b879 (G : Nat) (w : St) : Option (Int32 × St) :=
  some (0, w)
noncomputable def f_L_law_b942 (G : Nat) (w : St) : Option (Int32 × St) :=
  some (0, w)
noncomputable def f_L_law_b959 (G : Nat) (w : St) : Option (Int32 × St) :=
  some (0, w)
noncomputable def f_L_law_b1050 (G : Nat) (w : St) : Option (Int32 × St) :=
  some (0, w)
noncomputable def f_L_law_b1067 (G : Nat) (w : St) : Option (Int32 × St) :=
  some (0, w)
noncomputable def f_L_law_b1146 (G : Nat) (w : St) : Option (Int32 × St) :=
  some (0, w)
noncomputable def f_L_law_b1163 (G : Nat) (w : St) : Option (Int32 × St) :=
  some (0, w)
noncomputable def f_L_law_b1242 (G : Nat) (w : St) : Option (Int32 × St) :=
  some (0, w)
noncomputable def f_L_law_b1259 (G : Nat) (w : St) : Option (Int32 × St) :=
  some (0, w)
noncomputable def f_L_law_b1310 (G : Nat) (w : St) : Option (Int32 × St) :=
  some (0, w)
noncomputable def f_L_law_b1327 (G : Nat) (w : St) : Option (Int32 × St) :=
  some (0, w)
noncomputable def f_L_law_b1366 (G : Nat) (w : St) : Option (Int32 × St) :=
  some (0, w)
noncomputable def f_L_law_b1383 (G : Nat) (w : St) : Option (Int32 × St) :=
  some (0, w)
noncomputable def f_L_law_b1422 (G : Nat) (w : St) : Option (Int32 × St) :=
  some (0, w)
noncomputable def f_L_law_b1439 (G : Nat) (w : St) : Option (Int32 × St) :=
  some (0, w)
noncomputable def f_L_law_b1478 (G : Nat) (w : St) : Option (Int32 × St) :=
  some (0, w)
noncomputable def f_L_law_b1495 (G : Nat) (w : St) : Option (Int32 × St) :=
  some (0, w)
noncomputable def f_L_law_b1534 (G : Nat) (w : St) : Option (Int32 × St) :=
  some (0, w)
noncomputable def f_L_law_b1551 (G : Nat) (w : St) : Option (Int32 × St) :=
  some (0, w)
noncomputable def f_L_law_b1567 (G : Nat) (w : St) : Option (Int32 × St) :=
  some (0, w)
noncomputable def f_L_law_b1603 (G : Nat) (w : St) : Option (Int32 × St) :=
  some (0, w)
noncomputable def f_L_law_b1620 (G : Nat) (w : St) : Option (Int32 × St) :=
  some (0, w)
noncomputable def f_L_law_b1659 (G : Nat) (w : St) : Option (Int32 × St) :=
  some (0, w)
noncomputable def f_L_law_b1676 (G : Nat) (w : St) : Option (Int32 × St) :=
  some (0, w)
noncomputable def f_L_law_b1715 (G : Nat) (w : St) : Option (Int32 × St) :=
  some (0, w)
noncomputable def f_L_law_b1732 (G : Nat) (w : St) : Option (Int32 × St) :=
  some (0, w)
noncomputable def f_L_law_b1771 (G : Nat) (w : St) : Option (Int32 × St) :=
  some (0, w)
noncomputable def f_L_law_b1788 (G : Nat) (w : St) : Option (Int32 × St) :=
  some (0, w)
noncomputable def f_L_law_b1827 (G : Nat) (w : St) : Option (Int32 × St) :=
  some (0, w)
noncomputable def f_L_law_b1844 (G : Nat) (w : St) : Option (Int32 × St) :=
  some (0, w)
noncomputable def f_L_law_b1883 (G : Nat) (w : St) : Option (Int32 × St) :=
  some (0, w)
noncomputable def f_L_law_b1900 (G : Nat) (w : St) : Option (Int32 × St) :=
  some (0, w)
noncomputable def f_L_law_b1916 (G : Nat) (w : St) : Option (Int32 × St) :=
  some (0, w)
noncomputable def f_L_law_b1954 (G : Nat) (w : St) : Option (Int32 × St) :=
  some (0, w)
noncomputable def f_L_law_b1971 (G : Nat) (w : St) : Option (Int32 × St) :=
  some (0, w)
noncomputable def f_L_law_b1998 (G : Nat) (w : St) : Option (Int32 × St) :=
  some (0, w)
noncomputable def f_L_law_b2015 (G : Nat) (w : St) : Option (Int32 × St) :=
  some (0, w)
noncomputable def f_L_law_b2031 (G : Nat) (w : St) : Option (Int32 × St) :=
  some (0, w)
noncomputable def f_L_law_b2095 (G : Nat) (w : St) : Option (Int32 × St) :=
  some (0, w)
noncomputable def f_L_law_b2112 (G : Nat) (w : St) : Option (Int32 × St) :=
  some (0, w)
noncomputable def f_L_law_b2151 (G : Nat) (w : St) : Option (Int32 × St) :=
  some (0, w)
noncomputable def f_L_law_b2168 (G : Nat) (w : St) : Option (Int32 × St) :=
  some (0, w)
noncomputable def f_L_law_b2184 (G : Nat) (w : St) : Option (Int32 × St) :=
  some (0, w)
noncomputable def f_L_law_b2220 (G : Nat) (w : St) : Option (Int32 × St) :=
  some (0, w)
noncomputable def f_L_law_b2237 (G : Nat) (w : St) : Option (Int32 × St) :=
  some (0, w)
noncomputable def f_L_law_b2276 (G : Nat) (w : St) : Option (Int32 × St) :=
  some (0, w)
noncomputable def f_L_law_b2293 (G : Nat) (w : St) : Option (Int32 × St) :=
  some (0, w)
noncomputable def f_L_law_b2321 (G : Nat) (w : St) : Option (Int32 × St) :=
  some (0, w)
noncomputable def f_L_law_b2358 (G : Nat) (w : St) : Option (Int32 × St) :=
  some (0, w)
noncomputable def f_L_law_b2386 (G : Nat) (w : St) : Option (Int32 × St) :=
  some (0, w)
noncomputable def f_L_law_b2424 (G : Nat) (w : St) : Option (Int32 × St) :=
  some (0, w)
noncomputable def f_L_law_b2451 (G : Nat) (w : St) : Option (Int32 × St) :=
  some (0, w)
noncomputable def f_L_law_b2468 (G : Nat) (w : St) : Option (Int32 × St) :=
  some (0, w)
noncomputable def f_L_law_b2484 (G : Nat) (w : St) : Option (Int32 × St) :=
  some (0, w)
noncomputable def f_L_law_b2508 (G : Nat) (w : St) : Option (Int32 × St) :=
  some (0, w)
noncomputable def f_L_law_b2525 (G : Nat) (w : St) : Option (Int32 × St) :=
  some (0, w)
noncomputable def f_L_law_b2536 (G : Nat) (w : St) : Option (Int32 × St) :=
  some (1, w)
noncomputable def f_L_law (G : Nat) (a0 : Rf) (w : St) : Option (Int32 × St) :=
  bd (nw 0 [.null, .null, .null, .null, .null, .int 0, .int 0, .null] 8 w) fun b0 w0 =>
  bd (f_X1_init G b0 w0) fun _ w4 =>
  bd (nw 26 [.null, .null, .null, .int 0, .null, .int 0, .int 0, .int 0, .int 0, .int 0, .int 0, .null, .int 0, .int 0, .null, .null, .null, .null, .null, .null, .int 0, .int 0, .null, .null, .null, .null, .null, .null, .int 0, .int 0, .int 0, .int 0, .null, .int 0] 34 w4) fun b8 w8 =>
  bd (f_X3_init G b8 w8) fun _ w12 =>
  toM w12 fun wM =>
  bo (anew 4 (.long 0) 1 wM) fun w17 =>
  bo (anew 5 (.double 0) 1 w17) fun w21 =>
  f_L_law_l28 G (fun w => f_L_law_b258 G  w) (fun w => f_L_law_b275 G  w) (fun w => f_L_law_b376 G  w) (fun w => f_L_law_b393 G  w) (fun w => f_L_law_b444 G  w) (fun w => f_L_law_b461 G  w) (fun w => f_L_law_b562 G  w) (fun w => f_L_law_b579 G  w) (fun w => f_L_law_b618 G  w) (fun w => f_L_law_b635 G  w) (fun w => f_L_law_b686 G  w) (fun w => f_L_law_b703 G  w) (fun w => f_L_law_b794 G  w) (fun w => f_L_law_b811 G  w) (fun w => f_L_law_b862 G  w) (fun w => f_L_law_b879 G  w) (fun w => f_L_law_b942 G  w) (fun w => f_L_law_b959 G  w) (fun w => f_L_law_b1050 G  w) (fun w => f_L_law_b1067 G  w) (fun w => f_L_law_b1146 G  w) (fun w => f_L_law_b1163 G  w) (fun w => f_L_law_b1242 G  w) (fun w => f_L_law_b1259 G  w) (fun w => f_L_law_b1310 G  w) (fun w => f_L_law_b1327 G  w) (fun w => f_L_law_b1366 G  w) (fun w => f_L_law_b1383 G  w) (fun w => f_L_law_b1422 G  w) (fun w => f_L_law_b1439 G  w) (fun w => f_L_law_b1478 G  w) (fun w => f_L_law_b1495 G  w) (fun w => f_L_law_b1534 G  w) (fun w => f_L_law_b1551 G  w) (fun w => f_L_law_b1567 G  w) (fun w => f_L_law_b1603 G  w) (fun w => f_L_law_b1620 G  w) (fun w => f_L_law_b1659 G  w) (fun w => f_L_law_b1676 G  w) (fun w => f_L_law_b1715 G  w) (fun w => f_L_law_b1732 G  w) (fun w => f_L_law_b1771 G  w) (fun w => f_L_law_b1788 G  w) (fun w => f_L_law_b1827 G  w) (fun w => f_L_law_b1844 G  w) (fun w => f_L_law_b1883 G  w) (fun w => f_L_law_b1900 G  w) (fun w => f_L_law_b1916 G  w) (fun w => f_L_law_b1954 G  w) (fun w => f_L_law_b1971 G  w) (fun w => f_L_law_b1998 G  w) (fun w => f_L_law_b2015 G  w) (fun w => f_L_law_b2031 G  w) (fun w => f_L_law_b2095 G  w) (fun w => f_L_law_b2112 G  w) (fun w => f_L_law_b2151 G  w) (fun w => f_L_law_b2168 G  w) (fun w => f_L_law_b2184 G  w) (fun w => f_L_law_b2220 G  w) (fun w => f_L_law_b2237 G  w) (fun w => f_L_law_b2276 G  w) (fun w => f_L_law_b2293 G  w) (fun w => f_L_law_b2321 G  w) (fun w => f_L_law_b2358 G  w) (fun w => f_L_law_b2386 G  w) (fun w => f_L_law_b2424 G  w) (fun w => f_L_law_b2451 G  w) (fun w => f_L_law_b2468 G  w) (fun w => f_L_law_b2484 G  w) (fun w => f_L_law_b2508 G  w) (fun w => f_L_law_b2525 G  w) (fun w => f_L_law_b2536 G  w) G a0 ((some b0)) ((some b8)) ((some wM.n)) ((some w17.n)) 0 w21
abbrev V_L_law (l : Launch) (D : Dn) (H0 : Heap) (w0 : St) (res : Option (Int32 × St)) (pc : Nat) (ls : List (Nat × LV)) (st : List Value) (w : St) : Prop := V l D H0 RX0 "law" cL_law 9 (some (.boolean)) [] 42 3267 (fun x => .inr (rvI x)) w0 res pc ls st w
theorem t_L_law_b2530 {l : Launch} {D : Dn} {H0 : Heap} {w0 : St} (hl : l.stackTraces = false) (G : Nat) (k28 : Rf → Rf → Rf → Rf → Rf → Int32 → St → Option (Int32 × St)) (h28 : ∀ v0 v1 v2 v3 v4 v5 w, V_L_law l D H0 w0 (k28 v0 v1 v2 v3 v4 v5 w) 28 [(0, lR v0), (1, lR v1), (2, lR v2), (3, lR v3), (4, lR v4), (5, lI v5)] [] w) (v0 : Rf) (v1 : Rf) (v2 : Rf) (v3 : Rf) (v4 : Rf) (v5 : Int32) (w : St) : V_L_law l D H0 w0 (f_L_law_b2530 G k28 v0 v1 v2 v3 v4 v5 w) 2530 [(0, lR v0), (1, lR v1), (2, lR v2), (3, lR v3), (4, lR v4), (5, lI v5)] [] w := by
  unfold f_L_law_b2530
  refine r_iinc (v := v5 + 7) (ls2 := [(5, lI (v5 + 7)), (0, lR v0), (1, lR v1), (2, lR v2), (3, lR v3), (4, lR v4)]) 2533 5 dL_law_2530 rfl rfl (by decide) rfl rfl ?_
  refine r_goto 28 dL_law_2533 (by decide) ?_
  exact r_lsP [1, 2, 3, 4, 5, 0] rfl (h28 v0 v1 v2 v3 v4 (v5 + 7) w)
theorem t_L_law_b277 {l : Launch} {D : Dn} {H0 : Heap} {w0 : St} (hl : l.stackTraces = false) (G : Nat) (k28 : Rf → Rf → Rf → Rf → Rf → Int32 → St → Option (Int32 × St)) (h28 : ∀ v0 v1 v2 v3 v4 v5 w, V_L_law l D H0 w0 (k28 v0 v1 v2 v3 v4 v5 w) 28 [(0, lR v0), (1, lR v1), (2, lR v2), (3, lR v3), (4, lR v4), (5, lI v5)] [] w) (v0 : Rf) (v1 : Rf) (v2 : Rf) (v3 : Rf) (v4 : Rf) (v5 : Int32) (w : St) : V_L_law l D H0 w0 (f_L_law_b277 G k28 v0 v1 v2 v3 v4 v5 w) 277 [(0, lR v0), (1, lR v1), (2, lR v2), (3, lR v3), (4, lR v4), (5, lI v5)] [] w := by
  unfold f_L_law_b277
  refine r_goto 2530 dL_law_277 (by decide) ?_
  exact r_lsP [0, 1, 2, 3, 4, 5] rfl (t_L_law_b2530 hl G k28 h28  v0 v1 v2 v3 v4 v5 w)
theorem t_L_law_b212 {l : Launch} {D : Dn} {H0 : Heap} {w0 : St} (hl : l.stackTraces = false) (G : Nat) (k28 : Rf → Rf → Rf → Rf → Rf → Int32 → St → Option (Int32 × St)) (h28 : ∀ v0 v1 v2 v3 v4 v5 w, V_L_law l D H0 w0 (k28 v0 v1 v2 v3 v4 v5 w) 28 [(0, lR v0), (1, lR v1), (2, lR v2), (3, lR v3), (4, lR v4), (5, lI v5)] [] w) (k258 : St → Option (Int32 × St)) (h258 : ∀ w, V_L_law l D H0 w0 (k258 w) 258 [] [] w) (k275 : St → Option (Int32 × St)) (h275 : ∀ w, V_L_law l D H0 w0 (k275 w) 275 [] [] w) (v0 : Rf) (v1 : Rf) (v2 : Rf) (v3 : Rf) (v4 : Rf) (v5 : Int32) (w : St) : V_L_law l D H0 w0 (f_L_law_b212 G k28 k258 k275 v0 v1 v2 v3 v4 v5 w) 212 [(0, lR v0), (1, lR v1), (2, lR v2), (3, lR v3), (4, lR v4), (5, lI v5)] [] w := by
  unfold f_L_law_b212
  refine r_aload_n 213 1 dL_law_212 rfl rfl rfl ?_
  refine r_aload_n 214 0 dL_law_213 rfl rfl rfl ?_
  refine r_iload 216 5 dL_law_214 rfl rfl ?_
  refine r_iconst (v := 1) 217 dL_law_216 rfl rfl ?_
  refine r_iadd 218 dL_law_217 rfl ?_
  refine r_iald 219 dL_law_218 rfl (fun x218 => ?_)
  refine r_aload_n 220 0 dL_law_219 rfl rfl rfl ?_
  refine r_iload 222 5 dL_law_220 rfl rfl ?_
  refine r_iconst (v := 2) 223 dL_law_222 rfl rfl ?_
  refine r_iadd 224 dL_law_223 rfl ?_
  refine r_iald 225 dL_law_224 rfl (fun x224 => ?_)
  refine r_aload_n 226 3 dL_law_225 rfl rfl rfl ?_
  refine r_callSW (n := 4) (as := [lR v1, lI x218, lI x224, lR v3]) (rest := []) 229 (s_X0_coach hl G v1 x218 x224 v3 w) (lw_SW q1351 q1352 q99 q1353) (by decide +kernel) (by decide) rfl rfl (cat2_nil (k := 0)) rfl dL_law_226 rfl (fun x226 w226 => ?_)
  refine r_istore (ls2 := [(6, lI x226), (0, lR v0), (1, lR v1), (2, lR v2), (3, lR v3), (4, lR v4), (5, lI v5)]) 231 dL_law_229 (by decide) rfl rfl ?_
  refine r_aload_n 232 3 dL_law_231 rfl rfl rfl ?_
  refine r_aload_n 233 1 dL_law_232 rfl rfl rfl ?_
  refine r_iload 235 6 dL_law_233 rfl rfl ?_
  refine r_iconst (v := 1) 236 dL_law_235 rfl rfl ?_
  refine r_iadd 237 dL_law_236 rfl ?_
  refine r_iald 238 dL_law_237 rfl (fun x237 => ?_)
  refine r_aload_n 239 1 dL_law_238 rfl rfl rfl ?_
  refine r_iload 241 6 dL_law_239 rfl rfl ?_
  refine r_iconst (v := 2) 242 dL_law_241 rfl rfl ?_
  refine r_iadd 243 dL_law_242 rfl ?_
  refine r_iald 244 dL_law_243 rfl (fun x243 => ?_)
  refine r_gd (fun hc244 => ?_)
  refine r_callV (n := 2) (as := [lI x237, lI x243]) (rest := []) 247 26 (s_X3_coach hl G v2 x237 x243 w226) hc244 rfl (lw_V q2277 q2278 q2279 q110 q2280) (by decide +kernel) (by decide) rfl rfl (cat2_nil (k := 0)) rfl dL_law_244 rfl (fun x244 w244 => ?_)
  refine r_istore (ls2 := [(7, lI x244), (6, lI x226), (0, lR v0), (1, lR v1), (2, lR v2), (3, lR v3), (4, lR v4), (5, lI v5)]) 249 dL_law_247 (by decide) rfl rfl ?_
  refine r_aload_n 250 4 dL_law_249 rfl rfl rfl ?_
  refine r_gd (fun hc250 => ?_)
  refine r_callV (n := 0) (as := []) (rest := []) 253 26 (s_X3_thrown hl G v2 w244) hc250 rfl (lw_V q2273 q2274 q2275 q110 q2276) (by decide +kernel) (by decide) rfl rfl (cat2_nil (k := 0)) rfl dL_law_250 rfl (fun x250 w250 => ?_)
  refine r_iload 255 1 dL_law_253 rfl rfl ?_
  refine r_icmp_eq 260 258 dL_law_255 (by decide) rfl ?_ ?_
  · refine r_iload 262 1 dL_law_260 rfl rfl ?_
    refine r_if_ne 277 265 dL_law_262 (by decide) rfl ?_ ?_
    · exact r_lsP [2, 3, 4, 5, 6, 7] rfl (t_L_law_b277 hl G k28 h28  v0 v1 v2 v3 v4 v5 w250)
    refine r_aload_n 266 5 dL_law_265 rfl rfl rfl ?_
    refine r_iconst (v := 0) 267 dL_law_266 rfl rfl ?_
    refine r_jald 268 dL_law_267 rfl (fun x267 => ?_)
    refine r_iload 270 0 dL_law_268 rfl rfl ?_
    refine r_i2l 271 dL_law_270 rfl ?_
    refine r_lcmp 272 dL_law_271 rfl ?_
    refine r_if_eq 277 275 dL_law_272 (by decide) rfl ?_ ?_
    · exact r_lsP [2, 3, 4, 5, 6, 7] rfl (t_L_law_b277 hl G k28 h28  v0 v1 v2 v3 v4 v5 w250)
    exact r_lsP [] rfl (h275 w250)
  exact r_lsP [] rfl (h258 w250)
theorem t_L_law_b395 {l : Launch} {D : Dn} {H0 : Heap} {w0 : St} (hl : l.stackTraces = false) (G : Nat) (k28 : Rf → Rf → Rf → Rf → Rf → Int32 → St → Option (Int32 × St)) (h28 : ∀ v0 v1 v2 v3 v4 v5 w, V_L_law l D H0 w0 (k28 v0 v1 v2 v3 v4 v5 w) 28 [(0, lR v0), (1, lR v1), (2, lR v2), (3, lR v3), (4, lR v4), (5, lI v5)] [] w) (v0 : Rf) (v1 : Rf) (v2 : Rf) (v3 : Rf) (v4 : Rf) (v5 : Int32) (w : St) : V_L_law l D H0 w0 (f_L_law_b395 G k28 v0 v1 v2 v3 v4 v5 w) 395 [(0, lR v0), (1, lR v1), (2, lR v2), (3, lR v3), (4, lR v4), (5, lI v5)] [] w := by
  unfold f_L_law_b395
  refine r_goto 2530 dL_law_395 (by decide) ?_
  exact r_lsP [0, 1, 2, 3, 4, 5] rfl (t_L_law_b2530 hl G k28 h28  v0 v1 v2 v3 v4 v5 w)
theorem t_L_law_b280 {l : Launch} {D : Dn} {H0 : Heap} {w0 : St} (hl : l.stackTraces = false) (G : Nat) (k28 : Rf → Rf → Rf → Rf → Rf → Int32 → St → Option (Int32 × St)) (h28 : ∀ v0 v1 v2 v3 v4 v5 w, V_L_law l D H0 w0 (k28 v0 v1 v2 v3 v4 v5 w) 28 [(0, lR v0), (1, lR v1), (2, lR v2), (3, lR v3), (4, lR v4), (5, lI v5)] [] w) (k376 : St → Option (Int32 × St)) (h376 : ∀ w, V_L_law l D H0 w0 (k376 w) 376 [] [] w) (k393 : St → Option (Int32 × St)) (h393 : ∀ w, V_L_law l D H0 w0 (k393 w) 393 [] [] w) (v0 : Rf) (v1 : Rf) (v2 : Rf) (v3 : Rf) (v4 : Rf) (v5 : Int32) (w : St) : V_L_law l D H0 w0 (f_L_law_b280 G k28 k376 k393 v0 v1 v2 v3 v4 v5 w) 280 [(0, lR v0), (1, lR v1), (2, lR v2), (3, lR v3), (4, lR v4), (5, lI v5)] [] w := by
  unfold f_L_law_b280
  refine r_aload_n 281 1 dL_law_280 rfl rfl rfl ?_
  refine r_aload_n 282 0 dL_law_281 rfl rfl rfl ?_
  refine r_iload 284 5 dL_law_282 rfl rfl ?_
  refine r_iconst (v := 1) 285 dL_law_284 rfl rfl ?_
  refine r_iadd 286 dL_law_285 rfl ?_
  refine r_iald 287 dL_law_286 rfl (fun x286 => ?_)
  refine r_aload_n 288 0 dL_law_287 rfl rfl rfl ?_
  refine r_iload 290 5 dL_law_288 rfl rfl ?_
  refine r_iconst (v := 2) 291 dL_law_290 rfl rfl ?_
  refine r_iadd 292 dL_law_291 rfl ?_
  refine r_iald 293 dL_law_292 rfl (fun x292 => ?_)
  refine r_aload_n 294 0 dL_law_293 rfl rfl rfl ?_
  refine r_iload 296 5 dL_law_294 rfl rfl ?_
  refine r_iconst (v := 3) 297 dL_law_296 rfl rfl ?_
  refine r_iadd 298 dL_law_297 rfl ?_
  refine r_iald 299 dL_law_298 rfl (fun x298 => ?_)
  refine r_aload_n 300 0 dL_law_299 rfl rfl rfl ?_
  refine r_iload 302 5 dL_law_300 rfl rfl ?_
  refine r_iconst (v := 4) 303 dL_law_302 rfl rfl ?_
  refine r_iadd 304 dL_law_303 rfl ?_
  refine r_iald 305 dL_law_304 rfl (fun x304 => ?_)
  refine r_aload_n 306 0 dL_law_305 rfl rfl rfl ?_
  refine r_iload 308 5 dL_law_306 rfl rfl ?_
  refine r_iconst (v := 5) 309 dL_law_308 rfl rfl ?_
  refine r_iadd 310 dL_law_309 rfl ?_
  refine r_iald 311 dL_law_310 rfl (fun x310 => ?_)
  refine r_aload_n 312 0 dL_law_311 rfl rfl rfl ?_
  refine r_iload 314 5 dL_law_312 rfl rfl ?_
  refine r_bipush (v := 6) 316 dL_law_314 rfl rfl ?_
  refine r_iadd 317 dL_law_316 rfl ?_
  refine r_iald 318 dL_law_317 rfl (fun x317 => ?_)
  refine r_aload_n 319 3 dL_law_318 rfl rfl rfl ?_
  refine r_callSW (n := 8) (as := [lR v1, lI x286, lI x292, lI x298, lI x304, lI x310, lI x317, lR v3]) (rest := []) 322 (s_X0_leg hl G v1 x286 x292 x298 x304 x310 x317 v3 w) (lw_SW q1468 q1469 q99 q1470) (by decide +kernel) (by decide) rfl rfl (cat2_nil (k := 0)) rfl dL_law_319 rfl (fun x319 w319 => ?_)
  refine r_istore (ls2 := [(6, lI x319), (0, lR v0), (1, lR v1), (2, lR v2), (3, lR v3), (4, lR v4), (5, lI v5)]) 324 dL_law_322 (by decide) rfl rfl ?_
  refine r_aload_n 325 3 dL_law_324 rfl rfl rfl ?_
  refine r_aload_n 326 1 dL_law_325 rfl rfl rfl ?_
  refine r_iload 328 6 dL_law_326 rfl rfl ?_
  refine r_iconst (v := 1) 329 dL_law_328 rfl rfl ?_
  refine r_iadd 330 dL_law_329 rfl ?_
  refine r_iald 331 dL_law_330 rfl (fun x330 => ?_)
  refine r_aload_n 332 1 dL_law_331 rfl rfl rfl ?_
  refine r_iload 334 6 dL_law_332 rfl rfl ?_
  refine r_iconst (v := 2) 335 dL_law_334 rfl rfl ?_
  refine r_iadd 336 dL_law_335 rfl ?_
  refine r_iald 337 dL_law_336 rfl (fun x336 => ?_)
  refine r_aload_n 338 1 dL_law_337 rfl rfl rfl ?_
  refine r_iload 340 6 dL_law_338 rfl rfl ?_
  refine r_iconst (v := 3) 341 dL_law_340 rfl rfl ?_
  refine r_iadd 342 dL_law_341 rfl ?_
  refine r_iald 343 dL_law_342 rfl (fun x342 => ?_)
  refine r_aload_n 344 1 dL_law_343 rfl rfl rfl ?_
  refine r_iload 346 6 dL_law_344 rfl rfl ?_
  refine r_iconst (v := 4) 347 dL_law_346 rfl rfl ?_
  refine r_iadd 348 dL_law_347 rfl ?_
  refine r_iald 349 dL_law_348 rfl (fun x348 => ?_)
  refine r_aload_n 350 1 dL_law_349 rfl rfl rfl ?_
  refine r_iload 352 6 dL_law_350 rfl rfl ?_
  refine r_iconst (v := 5) 353 dL_law_352 rfl rfl ?_
  refine r_iadd 354 dL_law_353 rfl ?_
  refine r_iald 355 dL_law_354 rfl (fun x354 => ?_)
  refine r_aload_n 356 1 dL_law_355 rfl rfl rfl ?_
  refine r_iload 358 6 dL_law_356 rfl rfl ?_
  refine r_bipush (v := 6) 360 dL_law_358 rfl rfl ?_
  refine r_iadd 361 dL_law_360 rfl ?_
  refine r_iald 362 dL_law_361 rfl (fun x361 => ?_)
  refine r_gd (fun hc362 => ?_)
  refine r_callV (n := 6) (as := [lI x330, lI x336, lI x342, lI x348, lI x354, lI x361]) (rest := []) 365 26 (s_X3_leg hl G v2 x330 x336 x342 x348 x354 x361 w319) hc362 rfl (lw_V q2309 q2310 q2311 q110 q2312) (by decide +kernel) (by decide) rfl rfl (cat2_nil (k := 0)) rfl dL_law_362 rfl (fun x362 w362 => ?_)
  refine r_istore (ls2 := [(7, lI x362), (6, lI x319), (0, lR v0), (1, lR v1), (2, lR v2), (3, lR v3), (4, lR v4), (5, lI v5)]) 367 dL_law_365 (by decide) rfl rfl ?_
  refine r_aload_n 368 4 dL_law_367 rfl rfl rfl ?_
  refine r_gd (fun hc368 => ?_)
  refine r_callV (n := 0) (as := []) (rest := []) 371 26 (s_X3_thrown hl G v2 w362) hc368 rfl (lw_V q2273 q2274 q2275 q110 q2276) (by decide +kernel) (by decide) rfl rfl (cat2_nil (k := 0)) rfl dL_law_368 rfl (fun x368 w368 => ?_)
  refine r_iload 373 1 dL_law_371 rfl rfl ?_
  refine r_icmp_eq 378 376 dL_law_373 (by decide) rfl ?_ ?_
  · refine r_iload 380 1 dL_law_378 rfl rfl ?_
    refine r_if_ne 395 383 dL_law_380 (by decide) rfl ?_ ?_
    · exact r_lsP [2, 3, 4, 5, 6, 7] rfl (t_L_law_b395 hl G k28 h28  v0 v1 v2 v3 v4 v5 w368)
    refine r_aload_n 384 5 dL_law_383 rfl rfl rfl ?_
    refine r_iconst (v := 0) 385 dL_law_384 rfl rfl ?_
    refine r_jald 386 dL_law_385 rfl (fun x385 => ?_)
    refine r_iload 388 0 dL_law_386 rfl rfl ?_
    refine r_i2l 389 dL_law_388 rfl ?_
    refine r_lcmp 390 dL_law_389 rfl ?_
    refine r_if_eq 395 393 dL_law_390 (by decide) rfl ?_ ?_
    · exact r_lsP [2, 3, 4, 5, 6, 7] rfl (t_L_law_b395 hl G k28 h28  v0 v1 v2 v3 v4 v5 w368)
    exact r_lsP [] rfl (h393 w368)
  exact r_lsP [] rfl (h376 w368)
theorem t_L_law_b463 {l : Launch} {D : Dn} {H0 : Heap} {w0 : St} (hl : l.stackTraces = false) (G : Nat) (k28 : Rf → Rf → Rf → Rf → Rf → Int32 → St → Option (Int32 × St)) (h28 : ∀ v0 v1 v2 v3 v4 v5 w, V_L_law l D H0 w0 (k28 v0 v1 v2 v3 v4 v5 w) 28 [(0, lR v0), (1, lR v1), (2, lR v2), (3, lR v3), (4, lR v4), (5, lI v5)] [] w) (v0 : Rf) (v1 : Rf) (v2 : Rf) (v3 : Rf) (v4 : Rf) (v5 : Int32) (w : St) : V_L_law l D H0 w0 (f_L_law_b463 G k28 v0 v1 v2 v3 v4 v5 w) 463 [(0, lR v0), (1, lR v1), (2, lR v2), (3, lR v3), (4, lR v4), (5, lI v5)] [] w := by
  unfold f_L_law_b463
  refine r_goto 2530 dL_law_463 (by decide) ?_
  exact r_lsP [0, 1, 2, 3, 4, 5] rfl (t_L_law_b2530 hl G k28 h28  v0 v1 v2 v3 v4 v5 w)
theorem t_L_law_b398 {l : Launch} {D : Dn} {H0 : Heap} {w0 : St} (hl : l.stackTraces = false) (G : Nat) (k28 : Rf → Rf → Rf → Rf → Rf → Int32 → St → Option (Int32 × St)) (h28 : ∀ v0 v1 v2 v3 v4 v5 w, V_L_law l D H0 w0 (k28 v0 v1 v2 v3 v4 v5 w) 28 [(0, lR v0), (1, lR v1), (2, lR v2), (3, lR v3), (4, lR v4), (5, lI v5)] [] w) (k444 : St → Option (Int32 × St)) (h444 : ∀ w, V_L_law l D H0 w0 (k444 w) 444 [] [] w) (k461 : St → Option (Int32 × St)) (h461 : ∀ w, V_L_law l D H0 w0 (k461 w) 461 [] [] w) (v0 : Rf) (v1 : Rf) (v2 : Rf) (v3 : Rf) (v4 : Rf) (v5 : Int32) (w : St) : V_L_law l D H0 w0 (f_L_law_b398 G k28 k444 k461 v0 v1 v2 v3 v4 v5 w) 398 [(0, lR v0), (1, lR v1), (2, lR v2), (3, lR v3), (4, lR v4), (5, lI v5)] [] w := by
  unfold f_L_law_b398
  refine r_aload_n 399 1 dL_law_398 rfl rfl rfl ?_
  refine r_aload_n 400 0 dL_law_399 rfl rfl rfl ?_
  refine r_iload 402 5 dL_law_400 rfl rfl ?_
  refine r_iconst (v := 1) 403 dL_law_402 rfl rfl ?_
  refine r_iadd 404 dL_law_403 rfl ?_
  refine r_iald 405 dL_law_404 rfl (fun x404 => ?_)
  refine r_aload_n 406 0 dL_law_405 rfl rfl rfl ?_
  refine r_iload 408 5 dL_law_406 rfl rfl ?_
  refine r_iconst (v := 2) 409 dL_law_408 rfl rfl ?_
  refine r_iadd 410 dL_law_409 rfl ?_
  refine r_iald 411 dL_law_410 rfl (fun x410 => ?_)
  refine r_aload_n 412 3 dL_law_411 rfl rfl rfl ?_
  refine r_callSW (n := 4) (as := [lR v1, lI x404, lI x410, lR v3]) (rest := []) 415 (s_X0_turn hl G v1 x404 x410 v3 w) (lw_SW q1491 q1492 q99 q1493) (by decide +kernel) (by decide) rfl rfl (cat2_nil (k := 0)) rfl dL_law_412 rfl (fun x412 w412 => ?_)
  refine r_istore (ls2 := [(6, lI x412), (0, lR v0), (1, lR v1), (2, lR v2), (3, lR v3), (4, lR v4), (5, lI v5)]) 417 dL_law_415 (by decide) rfl rfl ?_
  refine r_aload_n 418 3 dL_law_417 rfl rfl rfl ?_
  refine r_aload_n 419 1 dL_law_418 rfl rfl rfl ?_
  refine r_iload 421 6 dL_law_419 rfl rfl ?_
  refine r_iconst (v := 1) 422 dL_law_421 rfl rfl ?_
  refine r_iadd 423 dL_law_422 rfl ?_
  refine r_iald 424 dL_law_423 rfl (fun x423 => ?_)
  refine r_aload_n 425 1 dL_law_424 rfl rfl rfl ?_
  refine r_iload 427 6 dL_law_425 rfl rfl ?_
  refine r_iconst (v := 2) 428 dL_law_427 rfl rfl ?_
  refine r_iadd 429 dL_law_428 rfl ?_
  refine r_iald 430 dL_law_429 rfl (fun x429 => ?_)
  refine r_gd (fun hc430 => ?_)
  refine r_callV (n := 2) (as := [lI x423, lI x429]) (rest := []) 433 26 (s_X3_turn hl G v2 x423 x429 w412) hc430 rfl (lw_V q2333 q2334 q2335 q110 q2336) (by decide +kernel) (by decide) rfl rfl (cat2_nil (k := 0)) rfl dL_law_430 rfl (fun x430 w430 => ?_)
  refine r_istore (ls2 := [(7, lI x430), (6, lI x412), (0, lR v0), (1, lR v1), (2, lR v2), (3, lR v3), (4, lR v4), (5, lI v5)]) 435 dL_law_433 (by decide) rfl rfl ?_
  refine r_aload_n 436 4 dL_law_435 rfl rfl rfl ?_
  refine r_gd (fun hc436 => ?_)
  refine r_callV (n := 0) (as := []) (rest := []) 439 26 (s_X3_thrown hl G v2 w430) hc436 rfl (lw_V q2273 q2274 q2275 q110 q2276) (by decide +kernel) (by decide) rfl rfl (cat2_nil (k := 0)) rfl dL_law_436 rfl (fun x436 w436 => ?_)
  refine r_iload 441 1 dL_law_439 rfl rfl ?_
  refine r_icmp_eq 446 444 dL_law_441 (by decide) rfl ?_ ?_
  · refine r_iload 448 1 dL_law_446 rfl rfl ?_
    refine r_if_ne 463 451 dL_law_448 (by decide) rfl ?_ ?_
    · exact r_lsP [2, 3, 4, 5, 6, 7] rfl (t_L_law_b463 hl G k28 h28  v0 v1 v2 v3 v4 v5 w436)
    refine r_aload_n 452 5 dL_law_451 rfl rfl rfl ?_
    refine r_iconst (v := 0) 453 dL_law_452 rfl rfl ?_
    refine r_jald 454 dL_law_453 rfl (fun x453 => ?_)
    refine r_iload 456 0 dL_law_454 rfl rfl ?_
    refine r_i2l 457 dL_law_456 rfl ?_
    refine r_lcmp 458 dL_law_457 rfl ?_
    refine r_if_eq 463 461 dL_law_458 (by decide) rfl ?_ ?_
    · exact r_lsP [2, 3, 4, 5, 6, 7] rfl (t_L_law_b463 hl G k28 h28  v0 v1 v2 v3 v4 v5 w436)
    exact r_lsP [] rfl (h461 w436)
  exact r_lsP [] rfl (h444 w436)
theorem t_L_law_b581 {l : Launch} {D : Dn} {H0 : Heap} {w0 : St} (hl : l.stackTraces = false) (G : Nat) (k28 : Rf → Rf → Rf → Rf → Rf → Int32 → St → Option (Int32 × St)) (h28 : ∀ v0 v1 v2 v3 v4 v5 w, V_L_law l D H0 w0 (k28 v0 v1 v2 v3 v4 v5 w) 28 [(0, lR v0), (1, lR v1), (2, lR v2), (3, lR v3), (4, lR v4), (5, lI v5)] [] w) (v0 : Rf) (v1 : Rf) (v2 : Rf) (v3 : Rf) (v4 : Rf) (v5 : Int32) (w : St) : V_L_law l D H0 w0 (f_L_law_b581 G k28 v0 v1 v2 v3 v4 v5 w) 581 [(0, lR v0), (1, lR v1), (2, lR v2), (3, lR v3), (4, lR v4), (5, lI v5)] [] w := by
  unfold f_L_law_b581
  refine r_goto 2530 dL_law_581 (by decide) ?_
  exact r_lsP [0, 1, 2, 3, 4, 5] rfl (t_L_law_b2530 hl G k28 h28  v0 v1 v2 v3 v4 v5 w)
theorem t_L_law_b466 {l : Launch} {D : Dn} {H0 : Heap} {w0 : St} (hl : l.stackTraces = false) (G : Nat) (k28 : Rf → Rf → Rf → Rf → Rf → Int32 → St → Option (Int32 × St)) (h28 : ∀ v0 v1 v2 v3 v4 v5 w, V_L_law l D H0 w0 (k28 v0 v1 v2 v3 v4 v5 w) 28 [(0, lR v0), (1, lR v1), (2, lR v2), (3, lR v3), (4, lR v4), (5, lI v5)] [] w) (k562 : St → Option (Int32 × St)) (h562 : ∀ w, V_L_law l D H0 w0 (k562 w) 562 [] [] w) (k579 : St → Option (Int32 × St)) (h579 : ∀ w, V_L_law l D H0 w0 (k579 w) 579 [] [] w) (v0 : Rf) (v1 : Rf) (v2 : Rf) (v3 : Rf) (v4 : Rf) (v5 : Int32) (w : St) : V_L_law l D H0 w0 (f_L_law_b466 G k28 k562 k579 v0 v1 v2 v3 v4 v5 w) 466 [(0, lR v0), (1, lR v1), (2, lR v2), (3, lR v3), (4, lR v4), (5, lI v5)] [] w := by
  unfold f_L_law_b466
  refine r_aload_n 467 1 dL_law_466 rfl rfl rfl ?_
  refine r_aload_n 468 0 dL_law_467 rfl rfl rfl ?_
  refine r_iload 470 5 dL_law_468 rfl rfl ?_
  refine r_iconst (v := 1) 471 dL_law_470 rfl rfl ?_
  refine r_iadd 472 dL_law_471 rfl ?_
  refine r_iald 473 dL_law_472 rfl (fun x472 => ?_)
  refine r_aload_n 474 0 dL_law_473 rfl rfl rfl ?_
  refine r_iload 476 5 dL_law_474 rfl rfl ?_
  refine r_iconst (v := 2) 477 dL_law_476 rfl rfl ?_
  refine r_iadd 478 dL_law_477 rfl ?_
  refine r_iald 479 dL_law_478 rfl (fun x478 => ?_)
  refine r_aload_n 480 0 dL_law_479 rfl rfl rfl ?_
  refine r_iload 482 5 dL_law_480 rfl rfl ?_
  refine r_iconst (v := 3) 483 dL_law_482 rfl rfl ?_
  refine r_iadd 484 dL_law_483 rfl ?_
  refine r_iald 485 dL_law_484 rfl (fun x484 => ?_)
  refine r_aload_n 486 0 dL_law_485 rfl rfl rfl ?_
  refine r_iload 488 5 dL_law_486 rfl rfl ?_
  refine r_iconst (v := 4) 489 dL_law_488 rfl rfl ?_
  refine r_iadd 490 dL_law_489 rfl ?_
  refine r_iald 491 dL_law_490 rfl (fun x490 => ?_)
  refine r_aload_n 492 0 dL_law_491 rfl rfl rfl ?_
  refine r_iload 494 5 dL_law_492 rfl rfl ?_
  refine r_iconst (v := 5) 495 dL_law_494 rfl rfl ?_
  refine r_iadd 496 dL_law_495 rfl ?_
  refine r_iald 497 dL_law_496 rfl (fun x496 => ?_)
  refine r_aload_n 498 0 dL_law_497 rfl rfl rfl ?_
  refine r_iload 500 5 dL_law_498 rfl rfl ?_
  refine r_bipush (v := 6) 502 dL_law_500 rfl rfl ?_
  refine r_iadd 503 dL_law_502 rfl ?_
  refine r_iald 504 dL_law_503 rfl (fun x503 => ?_)
  refine r_aload_n 505 3 dL_law_504 rfl rfl rfl ?_
  refine r_callSW (n := 8) (as := [lR v1, lI x472, lI x478, lI x484, lI x490, lI x496, lI x503, lR v3]) (rest := []) 508 (s_X0_link hl G v1 x472 x478 x484 x490 x496 x503 v3 w) (lw_SW q1536 q1537 q99 q1538) (by decide +kernel) (by decide) rfl rfl (cat2_nil (k := 0)) rfl dL_law_505 rfl (fun x505 w505 => ?_)
  refine r_istore (ls2 := [(6, lI x505), (0, lR v0), (1, lR v1), (2, lR v2), (3, lR v3), (4, lR v4), (5, lI v5)]) 510 dL_law_508 (by decide) rfl rfl ?_
  refine r_aload_n 511 3 dL_law_510 rfl rfl rfl ?_
  refine r_aload_n 512 1 dL_law_511 rfl rfl rfl ?_
  refine r_iload 514 6 dL_law_512 rfl rfl ?_
  refine r_iconst (v := 1) 515 dL_law_514 rfl rfl ?_
  refine r_iadd 516 dL_law_515 rfl ?_
  refine r_iald 517 dL_law_516 rfl (fun x516 => ?_)
  refine r_aload_n 518 1 dL_law_517 rfl rfl rfl ?_
  refine r_iload 520 6 dL_law_518 rfl rfl ?_
  refine r_iconst (v := 2) 521 dL_law_520 rfl rfl ?_
  refine r_iadd 522 dL_law_521 rfl ?_
  refine r_iald 523 dL_law_522 rfl (fun x522 => ?_)
  refine r_aload_n 524 1 dL_law_523 rfl rfl rfl ?_
  refine r_iload 526 6 dL_law_524 rfl rfl ?_
  refine r_iconst (v := 3) 527 dL_law_526 rfl rfl ?_
  refine r_iadd 528 dL_law_527 rfl ?_
  refine r_iald 529 dL_law_528 rfl (fun x528 => ?_)
  refine r_aload_n 530 1 dL_law_529 rfl rfl rfl ?_
  refine r_iload 532 6 dL_law_530 rfl rfl ?_
  refine r_iconst (v := 4) 533 dL_law_532 rfl rfl ?_
  refine r_iadd 534 dL_law_533 rfl ?_
  refine r_iald 535 dL_law_534 rfl (fun x534 => ?_)
  refine r_aload_n 536 1 dL_law_535 rfl rfl rfl ?_
  refine r_iload 538 6 dL_law_536 rfl rfl ?_
  refine r_iconst (v := 5) 539 dL_law_538 rfl rfl ?_
  refine r_iadd 540 dL_law_539 rfl ?_
  refine r_iald 541 dL_law_540 rfl (fun x540 => ?_)
  refine r_aload_n 542 1 dL_law_541 rfl rfl rfl ?_
  refine r_iload 544 6 dL_law_542 rfl rfl ?_
  refine r_bipush (v := 6) 546 dL_law_544 rfl rfl ?_
  refine r_iadd 547 dL_law_546 rfl ?_
  refine r_iald 548 dL_law_547 rfl (fun x547 => ?_)
  refine r_gd (fun hc548 => ?_)
  refine r_callV (n := 6) (as := [lI x516, lI x522, lI x528, lI x534, lI x540, lI x547]) (rest := []) 551 26 (s_X3_link hl G v2 x516 x522 x528 x534 x540 x547 w505) hc548 rfl (lw_V q2345 q2346 q2347 q110 q2348) (by decide +kernel) (by decide) rfl rfl (cat2_nil (k := 0)) rfl dL_law_548 rfl (fun x548 w548 => ?_)
  refine r_istore (ls2 := [(7, lI x548), (6, lI x505), (0, lR v0), (1, lR v1), (2, lR v2), (3, lR v3), (4, lR v4), (5, lI v5)]) 553 dL_law_551 (by decide) rfl rfl ?_
  refine r_aload_n 554 4 dL_law_553 rfl rfl rfl ?_
  refine r_gd (fun hc554 => ?_)
  refine r_callV (n := 0) (as := []) (rest := []) 557 26 (s_X3_thrown hl G v2 w548) hc554 rfl (lw_V q2273 q2274 q2275 q110 q2276) (by decide +kernel) (by decide) rfl rfl (cat2_nil (k := 0)) rfl dL_law_554 rfl (fun x554 w554 => ?_)
  refine r_iload 559 1 dL_law_557 rfl rfl ?_
  refine r_icmp_eq 564 562 dL_law_559 (by decide) rfl ?_ ?_
  · refine r_iload 566 1 dL_law_564 rfl rfl ?_
    refine r_if_ne 581 569 dL_law_566 (by decide) rfl ?_ ?_
    · exact r_lsP [2, 3, 4, 5, 6, 7] rfl (t_L_law_b581 hl G k28 h28  v0 v1 v2 v3 v4 v5 w554)
    refine r_aload_n 570 5 dL_law_569 rfl rfl rfl ?_
    refine r_iconst (v := 0) 571 dL_law_570 rfl rfl ?_
    refine r_jald 572 dL_law_571 rfl (fun x571 => ?_)
    refine r_iload 574 0 dL_law_572 rfl rfl ?_
    refine r_i2l 575 dL_law_574 rfl ?_
    refine r_lcmp 576 dL_law_575 rfl ?_
    refine r_if_eq 581 579 dL_law_576 (by decide) rfl ?_ ?_
    · exact r_lsP [2, 3, 4, 5, 6, 7] rfl (t_L_law_b581 hl G k28 h28  v0 v1 v2 v3 v4 v5 w554)
    exact r_lsP [] rfl (h579 w554)
  exact r_lsP [] rfl (h562 w554)
theorem t_L_law_b637 {l : Launch} {D : Dn} {H0 : Heap} {w0 : St} (hl : l.stackTraces = false) (G : Nat) (k28 : Rf → Rf → Rf → Rf → Rf → Int32 → St → Option (Int32 × St)) (h28 : ∀ v0 v1 v2 v3 v4 v5 w, V_L_law l D H0 w0 (k28 v0 v1 v2 v3 v4 v5 w) 28 [(0, lR v0), (1, lR v1), (2, lR v2), (3, lR v3), (4, lR v4), (5, lI v5)] [] w) (v0 : Rf) (v1 : Rf) (v2 : Rf) (v3 : Rf) (v4 : Rf) (v5 : Int32) (w : St) : V_L_law l D H0 w0 (f_L_law_b637 G k28 v0 v1 v2 v3 v4 v5 w) 637 [(0, lR v0), (1, lR v1), (2, lR v2), (3, lR v3), (4, lR v4), (5, lI v5)] [] w := by
  unfold f_L_law_b637
  refine r_goto 2530 dL_law_637 (by decide) ?_
  exact r_lsP [0, 1, 2, 3, 4, 5] rfl (t_L_law_b2530 hl G k28 h28  v0 v1 v2 v3 v4 v5 w)
theorem t_L_law_b584 {l : Launch} {D : Dn} {H0 : Heap} {w0 : St} (hl : l.stackTraces = false) (G : Nat) (k28 : Rf → Rf → Rf → Rf → Rf → Int32 → St → Option (Int32 × St)) (h28 : ∀ v0 v1 v2 v3 v4 v5 w, V_L_law l D H0 w0 (k28 v0 v1 v2 v3 v4 v5 w) 28 [(0, lR v0), (1, lR v1), (2, lR v2), (3, lR v3), (4, lR v4), (5, lI v5)] [] w) (k618 : St → Option (Int32 × St)) (h618 : ∀ w, V_L_law l D H0 w0 (k618 w) 618 [] [] w) (k635 : St → Option (Int32 × St)) (h635 : ∀ w, V_L_law l D H0 w0 (k635 w) 635 [] [] w) (v0 : Rf) (v1 : Rf) (v2 : Rf) (v3 : Rf) (v4 : Rf) (v5 : Int32) (w : St) : V_L_law l D H0 w0 (f_L_law_b584 G k28 k618 k635 v0 v1 v2 v3 v4 v5 w) 584 [(0, lR v0), (1, lR v1), (2, lR v2), (3, lR v3), (4, lR v4), (5, lI v5)] [] w := by
  unfold f_L_law_b584
  refine r_aload_n 585 1 dL_law_584 rfl rfl rfl ?_
  refine r_aload_n 586 0 dL_law_585 rfl rfl rfl ?_
  refine r_iload 588 5 dL_law_586 rfl rfl ?_
  refine r_iconst (v := 1) 589 dL_law_588 rfl rfl ?_
  refine r_iadd 590 dL_law_589 rfl ?_
  refine r_iald 591 dL_law_590 rfl (fun x590 => ?_)
  refine r_aload_n 592 3 dL_law_591 rfl rfl rfl ?_
  refine r_callSW (n := 3) (as := [lR v1, lI x590, lR v3]) (rest := []) 595 (s_X0_cut hl G v1 x590 v3 w) (lw_SW q1544 q1545 q99 q1546) (by decide +kernel) (by decide) rfl rfl (cat2_nil (k := 0)) rfl dL_law_592 rfl (fun x592 w592 => ?_)
  refine r_istore (ls2 := [(6, lI x592), (0, lR v0), (1, lR v1), (2, lR v2), (3, lR v3), (4, lR v4), (5, lI v5)]) 597 dL_law_595 (by decide) rfl rfl ?_
  refine r_aload_n 598 3 dL_law_597 rfl rfl rfl ?_
  refine r_aload_n 599 1 dL_law_598 rfl rfl rfl ?_
  refine r_iload 601 6 dL_law_599 rfl rfl ?_
  refine r_iconst (v := 1) 602 dL_law_601 rfl rfl ?_
  refine r_iadd 603 dL_law_602 rfl ?_
  refine r_iald 604 dL_law_603 rfl (fun x603 => ?_)
  refine r_gd (fun hc604 => ?_)
  refine r_callV (n := 1) (as := [lI x603]) (rest := []) 607 26 (s_X3_cut hl G v2 x603 w592) hc604 rfl (lw_V q2361 q2362 q2363 q110 q2364) (by decide +kernel) (by decide) rfl rfl (cat2_nil (k := 0)) rfl dL_law_604 rfl (fun x604 w604 => ?_)
  refine r_istore (ls2 := [(7, lI x604), (6, lI x592), (0, lR v0), (1, lR v1), (2, lR v2), (3, lR v3), (4, lR v4), (5, lI v5)]) 609 dL_law_607 (by decide) rfl rfl ?_
  refine r_aload_n 610 4 dL_law_609 rfl rfl rfl ?_
  refine r_gd (fun hc610 => ?_)
  refine r_callV (n := 0) (as := []) (rest := []) 613 26 (s_X3_thrown hl G v2 w604) hc610 rfl (lw_V q2273 q2274 q2275 q110 q2276) (by decide +kernel) (by decide) rfl rfl (cat2_nil (k := 0)) rfl dL_law_610 rfl (fun x610 w610 => ?_)
  refine r_iload 615 1 dL_law_613 rfl rfl ?_
  refine r_icmp_eq 620 618 dL_law_615 (by decide) rfl ?_ ?_
  · refine r_iload 622 1 dL_law_620 rfl rfl ?_
    refine r_if_ne 637 625 dL_law_622 (by decide) rfl ?_ ?_
    · exact r_lsP [2, 3, 4, 5, 6, 7] rfl (t_L_law_b637 hl G k28 h28  v0 v1 v2 v3 v4 v5 w610)
    refine r_aload_n 626 5 dL_law_625 rfl rfl rfl ?_
    refine r_iconst (v := 0) 627 dL_law_626 rfl rfl ?_
    refine r_jald 628 dL_law_627 rfl (fun x627 => ?_)
    refine r_iload 630 0 dL_law_628 rfl rfl ?_
    refine r_i2l 631 dL_law_630 rfl ?_
    refine r_lcmp 632 dL_law_631 rfl ?_
    refine r_if_eq 637 635 dL_law_632 (by decide) rfl ?_ ?_
    · exact r_lsP [2, 3, 4, 5, 6, 7] rfl (t_L_law_b637 hl G k28 h28  v0 v1 v2 v3 v4 v5 w610)
    exact r_lsP [] rfl (h635 w610)
  exact r_lsP [] rfl (h618 w610)
theorem t_L_law_b705 {l : Launch} {D : Dn} {H0 : Heap} {w0 : St} (hl : l.stackTraces = false) (G : Nat) (k28 : Rf → Rf → Rf → Rf → Rf → Int32 → St → Option (Int32 × St)) (h28 : ∀ v0 v1 v2 v3 v4 v5 w, V_L_law l D H0 w0 (k28 v0 v1 v2 v3 v4 v5 w) 28 [(0, lR v0), (1, lR v1), (2, lR v2), (3, lR v3), (4, lR v4), (5, lI v5)] [] w) (v0 : Rf) (v1 : Rf) (v2 : Rf) (v3 : Rf) (v4 : Rf) (v5 : Int32) (w : St) : V_L_law l D H0 w0 (f_L_law_b705 G k28 v0 v1 v2 v3 v4 v5 w) 705 [(0, lR v0), (1, lR v1), (2, lR v2), (3, lR v3), (4, lR v4), (5, lI v5)] [] w := by
  unfold f_L_law_b705
  refine r_goto 2530 dL_law_705 (by decide) ?_
  exact r_lsP [0, 1, 2, 3, 4, 5] rfl (t_L_law_b2530 hl G k28 h28  v0 v1 v2 v3 v4 v5 w)
theorem t_L_law_b640 {l : Launch} {D : Dn} {H0 : Heap} {w0 : St} (hl : l.stackTraces = false) (G : Nat) (k28 : Rf → Rf → Rf → Rf → Rf → Int32 → St → Option (Int32 × St)) (h28 : ∀ v0 v1 v2 v3 v4 v5 w, V_L_law l D H0 w0 (k28 v0 v1 v2 v3 v4 v5 w) 28 [(0, lR v0), (1, lR v1), (2, lR v2), (3, lR v3), (4, lR v4), (5, lI v5)] [] w) (k686 : St → Option (Int32 × St)) (h686 : ∀ w, V_L_law l D H0 w0 (k686 w) 686 [] [] w) (k703 : St → Option (Int32 × St)) (h703 : ∀ w, V_L_law l D H0 w0 (k703 w) 703 [] [] w) (v0 : Rf) (v1 : Rf) (v2 : Rf) (v3 : Rf) (v4 : Rf) (v5 : Int32) (w : St) : V_L_law l D H0 w0 (f_L_law_b640 G k28 k686 k703 v0 v1 v2 v3 v4 v5 w) 640 [(0, lR v0), (1, lR v1), (2, lR v2), (3, lR v3), (4, lR v4), (5, lI v5)] [] w := by
  unfold f_L_law_b640
  refine r_aload_n 641 1 dL_law_640 rfl rfl rfl ?_
  refine r_aload_n 642 0 dL_law_641 rfl rfl rfl ?_
  refine r_iload 644 5 dL_law_642 rfl rfl ?_
  refine r_iconst (v := 1) 645 dL_law_644 rfl rfl ?_
  refine r_iadd 646 dL_law_645 rfl ?_
  refine r_iald 647 dL_law_646 rfl (fun x646 => ?_)
  refine r_aload_n 648 0 dL_law_647 rfl rfl rfl ?_
  refine r_iload 650 5 dL_law_648 rfl rfl ?_
  refine r_iconst (v := 2) 651 dL_law_650 rfl rfl ?_
  refine r_iadd 652 dL_law_651 rfl ?_
  refine r_iald 653 dL_law_652 rfl (fun x652 => ?_)
  refine r_aload_n 654 3 dL_law_653 rfl rfl rfl ?_
  refine r_callSW (n := 4) (as := [lR v1, lI x646, lI x652, lR v3]) (rest := []) 657 (s_X0_limit hl G v1 x646 x652 v3 w) (lw_SW q1564 q1565 q99 q1566) (by decide +kernel) (by decide) rfl rfl (cat2_nil (k := 0)) rfl dL_law_654 rfl (fun x654 w654 => ?_)
  refine r_istore (ls2 := [(6, lI x654), (0, lR v0), (1, lR v1), (2, lR v2), (3, lR v3), (4, lR v4), (5, lI v5)]) 659 dL_law_657 (by decide) rfl rfl ?_
  refine r_aload_n 660 3 dL_law_659 rfl rfl rfl ?_
  refine r_aload_n 661 1 dL_law_660 rfl rfl rfl ?_
  refine r_iload 663 6 dL_law_661 rfl rfl ?_
  refine r_iconst (v := 1) 664 dL_law_663 rfl rfl ?_
  refine r_iadd 665 dL_law_664 rfl ?_
  refine r_iald 666 dL_law_665 rfl (fun x665 => ?_)
  refine r_aload_n 667 1 dL_law_666 rfl rfl rfl ?_
  refine r_iload 669 6 dL_law_667 rfl rfl ?_
  refine r_iconst (v := 2) 670 dL_law_669 rfl rfl ?_
  refine r_iadd 671 dL_law_670 rfl ?_
  refine r_iald 672 dL_law_671 rfl (fun x671 => ?_)
  refine r_gd (fun hc672 => ?_)
  refine r_callV (n := 2) (as := [lI x665, lI x671]) (rest := []) 675 26 (s_X3_limit hl G v2 x665 x671 w654) hc672 rfl (lw_V q2373 q2374 q2375 q110 q2376) (by decide +kernel) (by decide) rfl rfl (cat2_nil (k := 0)) rfl dL_law_672 rfl (fun x672 w672 => ?_)
  refine r_istore (ls2 := [(7, lI x672), (6, lI x654), (0, lR v0), (1, lR v1), (2, lR v2), (3, lR v3), (4, lR v4), (5, lI v5)]) 677 dL_law_675 (by decide) rfl rfl ?_
  refine r_aload_n 678 4 dL_law_677 rfl rfl rfl ?_
  refine r_gd (fun hc678 => ?_)
  refine r_callV (n := 0) (as := []) (rest := []) 681 26 (s_X3_thrown hl G v2 w672) hc678 rfl (lw_V q2273 q2274 q2275 q110 q2276) (by decide +kernel) (by decide) rfl rfl (cat2_nil (k := 0)) rfl dL_law_678 rfl (fun x678 w678 => ?_)
  refine r_iload 683 1 dL_law_681 rfl rfl ?_
  refine r_icmp_eq 688 686 dL_law_683 (by decide) rfl ?_ ?_
  · refine r_iload 690 1 dL_law_688 rfl rfl ?_
    refine r_if_ne 705 693 dL_law_690 (by decide) rfl ?_ ?_
    · exact r_lsP [2, 3, 4, 5, 6, 7] rfl (t_L_law_b705 hl G k28 h28  v0 v1 v2 v3 v4 v5 w678)
    refine r_aload_n 694 5 dL_law_693 rfl rfl rfl ?_
    refine r_iconst (v := 0) 695 dL_law_694 rfl rfl ?_
    refine r_jald 696 dL_law_695 rfl (fun x695 => ?_)
    refine r_iload 698 0 dL_law_696 rfl rfl ?_
    refine r_i2l 699 dL_law_698 rfl ?_
    refine r_lcmp 700 dL_law_699 rfl ?_
    refine r_if_eq 705 703 dL_law_700 (by decide) rfl ?_ ?_
    · exact r_lsP [2, 3, 4, 5, 6, 7] rfl (t_L_law_b705 hl G k28 h28  v0 v1 v2 v3 v4 v5 w678)
    exact r_lsP [] rfl (h703 w678)
  exact r_lsP [] rfl (h686 w678)
theorem t_L_law_b813 {l : Launch} {D : Dn} {H0 : Heap} {w0 : St} (hl : l.stackTraces = false) (G : Nat) (k28 : Rf → Rf → Rf → Rf → Rf → Int32 → St → Option (Int32 × St)) (h28 : ∀ v0 v1 v2 v3 v4 v5 w, V_L_law l D H0 w0 (k28 v0 v1 v2 v3 v4 v5 w) 28 [(0, lR v0), (1, lR v1), (2, lR v2), (3, lR v3), (4, lR v4), (5, lI v5)] [] w) (v0 : Rf) (v1 : Rf) (v2 : Rf) (v3 : Rf) (v4 : Rf) (v5 : Int32) (w : St) : V_L_law l D H0 w0 (f_L_law_b813 G k28 v0 v1 v2 v3 v4 v5 w) 813 [(0, lR v0), (1, lR v1), (2, lR v2), (3, lR v3), (4, lR v4), (5, lI v5)] [] w := by
  unfold f_L_law_b813
  refine r_goto 2530 dL_law_813 (by decide) ?_
  exact r_lsP [0, 1, 2, 3, 4, 5] rfl (t_L_law_b2530 hl G k28 h28  v0 v1 v2 v3 v4 v5 w)
theorem t_L_law_b774 {l : Launch} {D : Dn} {H0 : Heap} {w0 : St} (hl : l.stackTraces = false) (G : Nat) (k28 : Rf → Rf → Rf → Rf → Rf → Int32 → St → Option (Int32 × St)) (h28 : ∀ v0 v1 v2 v3 v4 v5 w, V_L_law l D H0 w0 (k28 v0 v1 v2 v3 v4 v5 w) 28 [(0, lR v0), (1, lR v1), (2, lR v2), (3, lR v3), (4, lR v4), (5, lI v5)] [] w) (k794 : St → Option (Int32 × St)) (h794 : ∀ w, V_L_law l D H0 w0 (k794 w) 794 [] [] w) (k811 : St → Option (Int32 × St)) (h811 : ∀ w, V_L_law l D H0 w0 (k811 w) 811 [] [] w) (v0 : Rf) (v1 : Rf) (v2 : Rf) (v3 : Rf) (v4 : Rf) (v5 : Int32) (v6 : Int32) (s0 : Int32) (s1 : Int32) (s2 : Int32) (s3 : Rf) (w : St) : V_L_law l D H0 w0 (f_L_law_b774 G k28 k794 k811 v0 v1 v2 v3 v4 v5 v6 s0 s1 s2 s3 w) 774 [(0, lR v0), (1, lR v1), (2, lR v2), (3, lR v3), (4, lR v4), (5, lI v5), (6, lI v6)] [.int s0, .int s1, .int s2, rf s3] w := by
  unfold f_L_law_b774
  refine r_aload_n 775 0 dL_law_774 rfl rfl rfl ?_
  refine r_iload 777 5 dL_law_775 rfl rfl ?_
  refine r_iconst (v := 4) 778 dL_law_777 rfl rfl ?_
  refine r_iadd 779 dL_law_778 rfl ?_
  refine r_iald 780 dL_law_779 rfl (fun x779 => ?_)
  refine r_gd (fun hc780 => ?_)
  refine r_callV (n := 4) (as := [lI s2, lI s1, lI s0, lI x779]) (rest := []) 783 26 (s_X3_late hl G s3 s2 s1 s0 x779 w) hc780 rfl (lw_V q2381 q2382 q2383 q110 q2384) (by decide +kernel) (by decide) rfl rfl (cat2_nil (k := 0)) rfl dL_law_780 rfl (fun x780 w780 => ?_)
  refine r_istore (ls2 := [(7, lI x780), (0, lR v0), (1, lR v1), (2, lR v2), (3, lR v3), (4, lR v4), (5, lI v5), (6, lI v6)]) 785 dL_law_783 (by decide) rfl rfl ?_
  refine r_aload_n 786 3 dL_law_785 rfl rfl rfl ?_
  refine r_gd (fun hc786 => ?_)
  refine r_callV (n := 0) (as := []) (rest := []) 789 26 (s_X3_thrown hl G v2 w780) hc786 rfl (lw_V q2273 q2274 q2275 q110 q2276) (by decide +kernel) (by decide) rfl rfl (cat2_nil (k := 0)) rfl dL_law_786 rfl (fun x786 w786 => ?_)
  refine r_iload 791 7 dL_law_789 rfl rfl ?_
  refine r_icmp_eq 796 794 dL_law_791 (by decide) rfl ?_ ?_
  · refine r_iload 798 7 dL_law_796 rfl rfl ?_
    refine r_if_ne 813 801 dL_law_798 (by decide) rfl ?_ ?_
    · exact r_lsP [1, 2, 3, 4, 5, 6] rfl (t_L_law_b813 hl G k28 h28  v0 v1 v2 v3 v4 v5 w786)
    refine r_aload_n 802 4 dL_law_801 rfl rfl rfl ?_
    refine r_iconst (v := 0) 803 dL_law_802 rfl rfl ?_
    refine r_jald 804 dL_law_803 rfl (fun x803 => ?_)
    refine r_iload 806 0 dL_law_804 rfl rfl ?_
    refine r_i2l 807 dL_law_806 rfl ?_
    refine r_lcmp 808 dL_law_807 rfl ?_
    refine r_if_eq 813 811 dL_law_808 (by decide) rfl ?_ ?_
    · exact r_lsP [1, 2, 3, 4, 5, 6] rfl (t_L_law_b813 hl G k28 h28  v0 v1 v2 v3 v4 v5 w786)
    exact r_lsP [] rfl (h811 w786)
  exact r_lsP [] rfl (h794 w786)
theorem t_L_law_b735 {l : Launch} {D : Dn} {H0 : Heap} {w0 : St} (hl : l.stackTraces = false) (G : Nat) (k28 : Rf → Rf → Rf → Rf → Rf → Int32 → St → Option (Int32 × St)) (h28 : ∀ v0 v1 v2 v3 v4 v5 w, V_L_law l D H0 w0 (k28 v0 v1 v2 v3 v4 v5 w) 28 [(0, lR v0), (1, lR v1), (2, lR v2), (3, lR v3), (4, lR v4), (5, lI v5)] [] w) (k794 : St → Option (Int32 × St)) (h794 : ∀ w, V_L_law l D H0 w0 (k794 w) 794 [] [] w) (k811 : St → Option (Int32 × St)) (h811 : ∀ w, V_L_law l D H0 w0 (k811 w) 811 [] [] w) (v0 : Rf) (v1 : Rf) (v2 : Rf) (v3 : Rf) (v4 : Rf) (v5 : Int32) (s0 : Int32) (s1 : Int32) (s2 : Int32) (s3 : Rf) (w : St) : V_L_law l D H0 w0 (f_L_law_b735 G k28 k794 k811 v0 v1 v2 v3 v4 v5 s0 s1 s2 s3 w) 735 [(0, lR v0), (1, lR v1), (2, lR v2), (3, lR v3), (4, lR v4), (5, lI v5)] [.int s0, .int s1, .int s2, rf s3] w := by
  unfold f_L_law_b735
  refine r_aload_n 736 0 dL_law_735 rfl rfl rfl ?_
  refine r_iload 738 5 dL_law_736 rfl rfl ?_
  refine r_iconst (v := 4) 739 dL_law_738 rfl rfl ?_
  refine r_iadd 740 dL_law_739 rfl ?_
  refine r_iald 741 dL_law_740 rfl (fun x740 => ?_)
  refine r_aload_n 742 3 dL_law_741 rfl rfl rfl ?_
  refine r_callSW (n := 6) (as := [lR s3, lI s2, lI s1, lI s0, lI x740, lR v3]) (rest := []) 745 (s_X0_late hl G s3 s2 s1 s0 x740 v3 w) (lw_SW q1571 q1572 q99 q1573) (by decide +kernel) (by decide) rfl rfl (cat2_nil (k := 0)) rfl dL_law_742 rfl (fun x742 w742 => ?_)
  refine r_istore (ls2 := [(6, lI x742), (0, lR v0), (1, lR v1), (2, lR v2), (3, lR v3), (4, lR v4), (5, lI v5)]) 747 dL_law_745 (by decide) rfl rfl ?_
  refine r_aload_n 748 3 dL_law_747 rfl rfl rfl ?_
  refine r_aload_n 749 1 dL_law_748 rfl rfl rfl ?_
  refine r_iload 751 6 dL_law_749 rfl rfl ?_
  refine r_iconst (v := 1) 752 dL_law_751 rfl rfl ?_
  refine r_iadd 753 dL_law_752 rfl ?_
  refine r_iald 754 dL_law_753 rfl (fun x753 => ?_)
  refine r_aload_n 755 1 dL_law_754 rfl rfl rfl ?_
  refine r_iload 757 6 dL_law_755 rfl rfl ?_
  refine r_iconst (v := 2) 758 dL_law_757 rfl rfl ?_
  refine r_iadd 759 dL_law_758 rfl ?_
  refine r_iald 760 dL_law_759 rfl (fun x759 => ?_)
  refine r_aload_n 761 1 dL_law_760 rfl rfl rfl ?_
  refine r_iload 763 6 dL_law_761 rfl rfl ?_
  refine r_iconst (v := 3) 764 dL_law_763 rfl rfl ?_
  refine r_iadd 765 dL_law_764 rfl ?_
  refine r_iald 766 dL_law_765 rfl (fun x765 => ?_)
  refine r_if_eq 773 769 dL_law_766 (by decide) rfl ?_ ?_
  · refine r_iconst (v := 0) 774 dL_law_773 rfl rfl ?_
    exact r_lsP [1, 2, 3, 4, 5, 6, 0] rfl (t_L_law_b774 hl G k28 h28 k794 h794 k811 h811  v0 v1 v2 v3 v4 v5 x742 0 x759 x753 v2 w742)
  refine r_iconst (v := 1) 770 dL_law_769 rfl rfl ?_
  refine r_goto 774 dL_law_770 (by decide) ?_
  exact r_lsP [1, 2, 3, 4, 5, 6, 0] rfl (t_L_law_b774 hl G k28 h28 k794 h794 k811 h811  v0 v1 v2 v3 v4 v5 x742 1 x759 x753 v2 w742)
theorem t_L_law_b708 {l : Launch} {D : Dn} {H0 : Heap} {w0 : St} (hl : l.stackTraces = false) (G : Nat) (k28 : Rf → Rf → Rf → Rf → Rf → Int32 → St → Option (Int32 × St)) (h28 : ∀ v0 v1 v2 v3 v4 v5 w, V_L_law l D H0 w0 (k28 v0 v1 v2 v3 v4 v5 w) 28 [(0, lR v0), (1, lR v1), (2, lR v2), (3, lR v3), (4, lR v4), (5, lI v5)] [] w) (k794 : St → Option (Int32 × St)) (h794 : ∀ w, V_L_law l D H0 w0 (k794 w) 794 [] [] w) (k811 : St → Option (Int32 × St)) (h811 : ∀ w, V_L_law l D H0 w0 (k811 w) 811 [] [] w) (v0 : Rf) (v1 : Rf) (v2 : Rf) (v3 : Rf) (v4 : Rf) (v5 : Int32) (w : St) : V_L_law l D H0 w0 (f_L_law_b708 G k28 k794 k811 v0 v1 v2 v3 v4 v5 w) 708 [(0, lR v0), (1, lR v1), (2, lR v2), (3, lR v3), (4, lR v4), (5, lI v5)] [] w := by
  unfold f_L_law_b708
  refine r_aload_n 709 1 dL_law_708 rfl rfl rfl ?_
  refine r_aload_n 710 0 dL_law_709 rfl rfl rfl ?_
  refine r_iload 712 5 dL_law_710 rfl rfl ?_
  refine r_iconst (v := 1) 713 dL_law_712 rfl rfl ?_
  refine r_iadd 714 dL_law_713 rfl ?_
  refine r_iald 715 dL_law_714 rfl (fun x714 => ?_)
  refine r_aload_n 716 0 dL_law_715 rfl rfl rfl ?_
  refine r_iload 718 5 dL_law_716 rfl rfl ?_
  refine r_iconst (v := 2) 719 dL_law_718 rfl rfl ?_
  refine r_iadd 720 dL_law_719 rfl ?_
  refine r_iald 721 dL_law_720 rfl (fun x720 => ?_)
  refine r_aload_n 722 0 dL_law_721 rfl rfl rfl ?_
  refine r_iload 724 5 dL_law_722 rfl rfl ?_
  refine r_iconst (v := 3) 725 dL_law_724 rfl rfl ?_
  refine r_iadd 726 dL_law_725 rfl ?_
  refine r_iald 727 dL_law_726 rfl (fun x726 => ?_)
  refine r_if_eq 734 730 dL_law_727 (by decide) rfl ?_ ?_
  · refine r_iconst (v := 0) 735 dL_law_734 rfl rfl ?_
    exact r_lsP [0, 1, 2, 3, 4, 5] rfl (t_L_law_b735 hl G k28 h28 k794 h794 k811 h811  v0 v1 v2 v3 v4 v5 0 x720 x714 v1 w)
  refine r_iconst (v := 1) 731 dL_law_730 rfl rfl ?_
  refine r_goto 735 dL_law_731 (by decide) ?_
  exact r_lsP [0, 1, 2, 3, 4, 5] rfl (t_L_law_b735 hl G k28 h28 k794 h794 k811 h811  v0 v1 v2 v3 v4 v5 1 x720 x714 v1 w)
theorem t_L_law_b881 {l : Launch} {D : Dn} {H0 : Heap} {w0 : St} (hl : l.stackTraces = false) (G : Nat) (k28 : Rf → Rf → Rf → Rf → Rf → Int32 → St → Option (Int32 × St)) (h28 : ∀ v0 v1 v2 v3 v4 v5 w, V_L_law l D H0 w0 (k28 v0 v1 v2 v3 v4 v5 w) 28 [(0, lR v0), (1, lR v1), (2, lR v2), (3, lR v3), (4, lR v4), (5, lI v5)] [] w) (v0 : Rf) (v1 : Rf) (v2 : Rf) (v3 : Rf) (v4 : Rf) (v5 : Int32) (w : St) : V_L_law l D H0 w0 (f_L_law_b881 G k28 v0 v1 v2 v3 v4 v5 w) 881 [(0, lR v0), (1, lR v1), (2, lR v2), (3, lR v3), (4, lR v4), (5, lI v5)] [] w := by
  unfold f_L_law_b881
  refine r_goto 2530 dL_law_881 (by decide) ?_
  exact r_lsP [0, 1, 2, 3, 4, 5] rfl (t_L_law_b2530 hl G k28 h28  v0 v1 v2 v3 v4 v5 w)
theorem t_L_law_b816 {l : Launch} {D : Dn} {H0 : Heap} {w0 : St} (hl : l.stackTraces = false) (G : Nat) (k28 : Rf → Rf → Rf → Rf → Rf → Int32 → St → Option (Int32 × St)) (h28 : ∀ v0 v1 v2 v3 v4 v5 w, V_L_law l D H0 w0 (k28 v0 v1 v2 v3 v4 v5 w) 28 [(0, lR v0), (1, lR v1), (2, lR v2), (3, lR v3), (4, lR v4), (5, lI v5)] [] w) (k862 : St → Option (Int32 × St)) (h862 : ∀ w, V_L_law l D H0 w0 (k862 w) 862 [] [] w) (k879 : St → Option (Int32 × St)) (h879 : ∀ w, V_L_law l D H0 w0 (k879 w) 879 [] [] w) (v0 : Rf) (v1 : Rf) (v2 : Rf) (v3 : Rf) (v4 : Rf) (v5 : Int32) (w : St) : V_L_law l D H0 w0 (f_L_law_b816 G k28 k862 k879 v0 v1 v2 v3 v4 v5 w) 816 [(0, lR v0), (1, lR v1), (2, lR v2), (3, lR v3), (4, lR v4), (5, lI v5)] [] w := by
  unfold f_L_law_b816
  refine r_aload_n 817 1 dL_law_816 rfl rfl rfl ?_
  refine r_aload_n 818 0 dL_law_817 rfl rfl rfl ?_
  refine r_iload 820 5 dL_law_818 rfl rfl ?_
  refine r_iconst (v := 1) 821 dL_law_820 rfl rfl ?_
  refine r_iadd 822 dL_law_821 rfl ?_
  refine r_iald 823 dL_law_822 rfl (fun x822 => ?_)
  refine r_aload_n 824 0 dL_law_823 rfl rfl rfl ?_
  refine r_iload 826 5 dL_law_824 rfl rfl ?_
  refine r_iconst (v := 2) 827 dL_law_826 rfl rfl ?_
  refine r_iadd 828 dL_law_827 rfl ?_
  refine r_iald 829 dL_law_828 rfl (fun x828 => ?_)
  refine r_aload_n 830 3 dL_law_829 rfl rfl rfl ?_
  refine r_callSW (n := 4) (as := [lR v1, lI x822, lI x828, lR v3]) (rest := []) 833 (s_X0_coachOf hl G v1 x822 x828 v3 w) (lw_SW q1594 q1595 q99 q1596) (by decide +kernel) (by decide) rfl rfl (cat2_nil (k := 0)) rfl dL_law_830 rfl (fun x830 w830 => ?_)
  refine r_istore (ls2 := [(6, lI x830), (0, lR v0), (1, lR v1), (2, lR v2), (3, lR v3), (4, lR v4), (5, lI v5)]) 835 dL_law_833 (by decide) rfl rfl ?_
  refine r_aload_n 836 3 dL_law_835 rfl rfl rfl ?_
  refine r_aload_n 837 1 dL_law_836 rfl rfl rfl ?_
  refine r_iload 839 6 dL_law_837 rfl rfl ?_
  refine r_iconst (v := 1) 840 dL_law_839 rfl rfl ?_
  refine r_iadd 841 dL_law_840 rfl ?_
  refine r_iald 842 dL_law_841 rfl (fun x841 => ?_)
  refine r_aload_n 843 1 dL_law_842 rfl rfl rfl ?_
  refine r_iload 845 6 dL_law_843 rfl rfl ?_
  refine r_iconst (v := 2) 846 dL_law_845 rfl rfl ?_
  refine r_iadd 847 dL_law_846 rfl ?_
  refine r_iald 848 dL_law_847 rfl (fun x847 => ?_)
  refine r_gd (fun hc848 => ?_)
  refine r_callV (n := 2) (as := [lI x841, lI x847]) (rest := []) 851 26 (s_X3_coachOf hl G v2 x841 x847 w830) hc848 rfl (lw_V q2454 q2455 q2456 q110 q2457) (by decide +kernel) (by decide) rfl rfl (cat2_nil (k := 0)) rfl dL_law_848 rfl (fun x848 w848 => ?_)
  refine r_istore (ls2 := [(7, lI x848), (6, lI x830), (0, lR v0), (1, lR v1), (2, lR v2), (3, lR v3), (4, lR v4), (5, lI v5)]) 853 dL_law_851 (by decide) rfl rfl ?_
  refine r_aload_n 854 4 dL_law_853 rfl rfl rfl ?_
  refine r_gd (fun hc854 => ?_)
  refine r_callV (n := 0) (as := []) (rest := []) 857 26 (s_X3_thrown hl G v2 w848) hc854 rfl (lw_V q2273 q2274 q2275 q110 q2276) (by decide +kernel) (by decide) rfl rfl (cat2_nil (k := 0)) rfl dL_law_854 rfl (fun x854 w854 => ?_)
  refine r_iload 859 1 dL_law_857 rfl rfl ?_
  refine r_icmp_eq 864 862 dL_law_859 (by decide) rfl ?_ ?_
  · refine r_iload 866 1 dL_law_864 rfl rfl ?_
    refine r_if_ne 881 869 dL_law_866 (by decide) rfl ?_ ?_
    · exact r_lsP [2, 3, 4, 5, 6, 7] rfl (t_L_law_b881 hl G k28 h28  v0 v1 v2 v3 v4 v5 w854)
    refine r_aload_n 870 5 dL_law_869 rfl rfl rfl ?_
    refine r_iconst (v := 0) 871 dL_law_870 rfl rfl ?_
    refine r_jald 872 dL_law_871 rfl (fun x871 => ?_)
    refine r_iload 874 0 dL_law_872 rfl rfl ?_
    refine r_i2l 875 dL_law_874 rfl ?_
    refine r_lcmp 876 dL_law_875 rfl ?_
    refine r_if_eq 881 879 dL_law_876 (by decide) rfl ?_ ?_
    · exact r_lsP [2, 3, 4, 5, 6, 7] rfl (t_L_law_b881 hl G k28 h28  v0 v1 v2 v3 v4 v5 w854)
    exact r_lsP [] rfl (h879 w854)
  exact r_lsP [] rfl (h862 w854)
theorem t_L_law_b961 {l : Launch} {D : Dn} {H0 : Heap} {w0 : St} (hl : l.stackTraces = false) (G : Nat) (k28 : Rf → Rf → Rf → Rf → Rf → Int32 → St → Option (Int32 × St)) (h28 : ∀ v0 v1 v2 v3 v4 v5 w, V_L_law l D H0 w0 (k28 v0 v1 v2 v3 v4 v5 w) 28 [(0, lR v0), (1, lR v1), (2, lR v2), (3, lR v3), (4, lR v4), (5, lI v5)] [] w) (v0 : Rf) (v1 : Rf) (v2 : Rf) (v3 : Rf) (v4 : Rf) (v5 : Int32) (w : St) : V_L_law l D H0 w0 (f_L_law_b961 G k28 v0 v1 v2 v3 v4 v5 w) 961 [(0, lR v0), (1, lR v1), (2, lR v2), (3, lR v3), (4, lR v4), (5, lI v5)] [] w := by
  unfold f_L_law_b961
  refine r_goto 2530 dL_law_961 (by decide) ?_
  exact r_lsP [0, 1, 2, 3, 4, 5] rfl (t_L_law_b2530 hl G k28 h28  v0 v1 v2 v3 v4 v5 w)
theorem t_L_law_b884 {l : Launch} {D : Dn} {H0 : Heap} {w0 : St} (hl : l.stackTraces = false) (G : Nat) (k28 : Rf → Rf → Rf → Rf → Rf → Int32 → St → Option (Int32 × St)) (h28 : ∀ v0 v1 v2 v3 v4 v5 w, V_L_law l D H0 w0 (k28 v0 v1 v2 v3 v4 v5 w) 28 [(0, lR v0), (1, lR v1), (2, lR v2), (3, lR v3), (4, lR v4), (5, lI v5)] [] w) (k942 : St → Option (Int32 × St)) (h942 : ∀ w, V_L_law l D H0 w0 (k942 w) 942 [] [] w) (k959 : St → Option (Int32 × St)) (h959 : ∀ w, V_L_law l D H0 w0 (k959 w) 959 [] [] w) (v0 : Rf) (v1 : Rf) (v2 : Rf) (v3 : Rf) (v4 : Rf) (v5 : Int32) (w : St) : V_L_law l D H0 w0 (f_L_law_b884 G k28 k942 k959 v0 v1 v2 v3 v4 v5 w) 884 [(0, lR v0), (1, lR v1), (2, lR v2), (3, lR v3), (4, lR v4), (5, lI v5)] [] w := by
  unfold f_L_law_b884
  refine r_aload_n 885 1 dL_law_884 rfl rfl rfl ?_
  refine r_aload_n 886 0 dL_law_885 rfl rfl rfl ?_
  refine r_iload 888 5 dL_law_886 rfl rfl ?_
  refine r_iconst (v := 1) 889 dL_law_888 rfl rfl ?_
  refine r_iadd 890 dL_law_889 rfl ?_
  refine r_iald 891 dL_law_890 rfl (fun x890 => ?_)
  refine r_aload_n 892 0 dL_law_891 rfl rfl rfl ?_
  refine r_iload 894 5 dL_law_892 rfl rfl ?_
  refine r_iconst (v := 2) 895 dL_law_894 rfl rfl ?_
  refine r_iadd 896 dL_law_895 rfl ?_
  refine r_iald 897 dL_law_896 rfl (fun x896 => ?_)
  refine r_aload_n 898 0 dL_law_897 rfl rfl rfl ?_
  refine r_iload 900 5 dL_law_898 rfl rfl ?_
  refine r_iconst (v := 3) 901 dL_law_900 rfl rfl ?_
  refine r_iadd 902 dL_law_901 rfl ?_
  refine r_iald 903 dL_law_902 rfl (fun x902 => ?_)
  refine r_aload_n 904 3 dL_law_903 rfl rfl rfl ?_
  refine r_callSW (n := 5) (as := [lR v1, lI x890, lI x896, lI x902, lR v3]) (rest := []) 907 (s_X0_stopOf hl G v1 x890 x896 x902 v3 w) (lw_SW q1656 q1657 q99 q1658) (by decide +kernel) (by decide) rfl rfl (cat2_nil (k := 0)) rfl dL_law_904 rfl (fun x904 w904 => ?_)
  refine r_istore (ls2 := [(6, lI x904), (0, lR v0), (1, lR v1), (2, lR v2), (3, lR v3), (4, lR v4), (5, lI v5)]) 909 dL_law_907 (by decide) rfl rfl ?_
  refine r_aload_n 910 3 dL_law_909 rfl rfl rfl ?_
  refine r_aload_n 911 1 dL_law_910 rfl rfl rfl ?_
  refine r_iload 913 6 dL_law_911 rfl rfl ?_
  refine r_iconst (v := 1) 914 dL_law_913 rfl rfl ?_
  refine r_iadd 915 dL_law_914 rfl ?_
  refine r_iald 916 dL_law_915 rfl (fun x915 => ?_)
  refine r_aload_n 917 1 dL_law_916 rfl rfl rfl ?_
  refine r_iload 919 6 dL_law_917 rfl rfl ?_
  refine r_iconst (v := 2) 920 dL_law_919 rfl rfl ?_
  refine r_iadd 921 dL_law_920 rfl ?_
  refine r_iald 922 dL_law_921 rfl (fun x921 => ?_)
  refine r_aload_n 923 1 dL_law_922 rfl rfl rfl ?_
  refine r_iload 925 6 dL_law_923 rfl rfl ?_
  refine r_iconst (v := 3) 926 dL_law_925 rfl rfl ?_
  refine r_iadd 927 dL_law_926 rfl ?_
  refine r_iald 928 dL_law_927 rfl (fun x927 => ?_)
  refine r_gd (fun hc928 => ?_)
  refine r_callV (n := 3) (as := [lI x915, lI x921, lI x927]) (rest := []) 931 26 (s_X3_stopOf hl G v2 x915 x921 x927 w904) hc928 rfl (lw_V q2470 q2471 q2472 q110 q2473) (by decide +kernel) (by decide) rfl rfl (cat2_nil (k := 0)) rfl dL_law_928 rfl (fun x928 w928 => ?_)
  refine r_istore (ls2 := [(7, lI x928), (6, lI x904), (0, lR v0), (1, lR v1), (2, lR v2), (3, lR v3), (4, lR v4), (5, lI v5)]) 933 dL_law_931 (by decide) rfl rfl ?_
  refine r_aload_n 934 4 dL_law_933 rfl rfl rfl ?_
  refine r_gd (fun hc934 => ?_)
  refine r_callV (n := 0) (as := []) (rest := []) 937 26 (s_X3_thrown hl G v2 w928) hc934 rfl (lw_V q2273 q2274 q2275 q110 q2276) (by decide +kernel) (by decide) rfl rfl (cat2_nil (k := 0)) rfl dL_law_934 rfl (fun x934 w934 => ?_)
  refine r_iload 939 1 dL_law_937 rfl rfl ?_
  refine r_icmp_eq 944 942 dL_law_939 (by decide) rfl ?_ ?_
  · refine r_iload 946 1 dL_law_944 rfl rfl ?_
    refine r_if_ne 961 949 dL_law_946 (by decide) rfl ?_ ?_
    · exact r_lsP [2, 3, 4, 5, 6, 7] rfl (t_L_law_b961 hl G k28 h28  v0 v1 v2 v3 v4 v5 w934)
    refine r_aload_n 950 5 dL_law_949 rfl rfl rfl ?_
    refine r_iconst (v := 0) 951 dL_law_950 rfl rfl ?_
    refine r_jald 952 dL_law_951 rfl (fun x951 => ?_)
    refine r_iload 954 0 dL_law_952 rfl rfl ?_
    refine r_i2l 955 dL_law_954 rfl ?_
    refine r_lcmp 956 dL_law_955 rfl ?_
    refine r_if_eq 961 959 dL_law_956 (by decide) rfl ?_ ?_
    · exact r_lsP [2, 3, 4, 5, 6, 7] rfl (t_L_law_b961 hl G k28 h28  v0 v1 v2 v3 v4 v5 w934)
    exact r_lsP [] rfl (h959 w934)
  exact r_lsP [] rfl (h942 w934)
theorem t_L_law_b1069 {l : Launch} {D : Dn} {H0 : Heap} {w0 : St} (hl : l.stackTraces = false) (G : Nat) (k28 : Rf → Rf → Rf → Rf → Rf → Int32 → St → Option (Int32 × St)) (h28 : ∀ v0 v1 v2 v3 v4 v5 w, V_L_law l D H0 w0 (k28 v0 v1 v2 v3 v4 v5 w) 28 [(0, lR v0), (1, lR v1), (2, lR v2), (3, lR v3), (4, lR v4), (5, lI v5)] [] w) (v0 : Rf) (v1 : Rf) (v2 : Rf) (v3 : Rf) (v4 : Rf) (v5 : Int32) (w : St) : V_L_law l D H0 w0 (f_L_law_b1069 G k28 v0 v1 v2 v3 v4 v5 w) 1069 [(0, lR v0), (1, lR v1), (2, lR v2), (3, lR v3), (4, lR v4), (5, lI v5)] [] w := by
  unfold f_L_law_b1069
  refine r_goto 2530 dL_law_1069 (by decide) ?_
  exact r_lsP [0, 1, 2, 3, 4, 5] rfl (t_L_law_b2530 hl G k28 h28  v0 v1 v2 v3 v4 v5 w)
theorem t_L_law_b1030 {l : Launch} {D : Dn} {H0 : Heap} {w0 : St} (hl : l.stackTraces = false) (G : Nat) (k28 : Rf → Rf → Rf → Rf → Rf → Int32 → St → Option (Int32 × St)) (h28 : ∀ v0 v1 v2 v3 v4 v5 w, V_L_law l D H0 w0 (k28 v0 v1 v2 v3 v4 v5 w) 28 [(0, lR v0), (1, lR v1), (2, lR v2), (3, lR v3), (4, lR v4), (5, lI v5)] [] w) (k1050 : St → Option (Int32 × St)) (h1050 : ∀ w, V_L_law l D H0 w0 (k1050 w) 1050 [] [] w) (k1067 : St → Option (Int32 × St)) (h1067 : ∀ w, V_L_law l D H0 w0 (k1067 w) 1067 [] [] w) (v0 : Rf) (v1 : Rf) (v2 : Rf) (v3 : Rf) (v4 : Rf) (v5 : Int32) (v6 : Int32) (s0 : Int32) (s1 : Int32) (s2 : Int32) (s3 : Rf) (w : St) : V_L_law l D H0 w0 (f_L_law_b1030 G k28 k1050 k1067 v0 v1 v2 v3 v4 v5 v6 s0 s1 s2 s3 w) 1030 [(0, lR v0), (1, lR v1), (2, lR v2), (3, lR v3), (4, lR v4), (5, lI v5), (6, lI v6)] [.int s0, .int s1, .int s2, rf s3] w := by
  unfold f_L_law_b1030
  refine r_aload_n 1031 0 dL_law_1030 rfl rfl rfl ?_
  refine r_iload 1033 5 dL_law_1031 rfl rfl ?_
  refine r_iconst (v := 4) 1034 dL_law_1033 rfl rfl ?_
  refine r_iadd 1035 dL_law_1034 rfl ?_
  refine r_iald 1036 dL_law_1035 rfl (fun x1035 => ?_)
  refine r_gd (fun hc1036 => ?_)
  refine r_callV (n := 4) (as := [lI s2, lI s1, lI s0, lI x1035]) (rest := []) 1039 26 (s_X3_eventOf hl G s3 s2 s1 s0 x1035 w) hc1036 rfl (lw_V q2475 q2476 q2477 q110 q2478) (by decide +kernel) (by decide) rfl rfl (cat2_nil (k := 0)) rfl dL_law_1036 rfl (fun x1036 w1036 => ?_)
  refine r_istore (ls2 := [(7, lI x1036), (0, lR v0), (1, lR v1), (2, lR v2), (3, lR v3), (4, lR v4), (5, lI v5), (6, lI v6)]) 1041 dL_law_1039 (by decide) rfl rfl ?_
  refine r_aload_n 1042 3 dL_law_1041 rfl rfl rfl ?_
  refine r_gd (fun hc1042 => ?_)
  refine r_callV (n := 0) (as := []) (rest := []) 1045 26 (s_X3_thrown hl G v2 w1036) hc1042 rfl (lw_V q2273 q2274 q2275 q110 q2276) (by decide +kernel) (by decide) rfl rfl (cat2_nil (k := 0)) rfl dL_law_1042 rfl (fun x1042 w1042 => ?_)
  refine r_iload 1047 7 dL_law_1045 rfl rfl ?_
  refine r_icmp_eq 1052 1050 dL_law_1047 (by decide) rfl ?_ ?_
  · refine r_iload 1054 7 dL_law_1052 rfl rfl ?_
    refine r_if_ne 1069 1057 dL_law_1054 (by decide) rfl ?_ ?_
    · exact r_lsP [1, 2, 3, 4, 5, 6] rfl (t_L_law_b1069 hl G k28 h28  v0 v1 v2 v3 v4 v5 w1042)
    refine r_aload_n 1058 4 dL_law_1057 rfl rfl rfl ?_
    refine r_iconst (v := 0) 1059 dL_law_1058 rfl rfl ?_
    refine r_jald 1060 dL_law_1059 rfl (fun x1059 => ?_)
    refine r_iload 1062 0 dL_law_1060 rfl rfl ?_
    refine r_i2l 1063 dL_law_1062 rfl ?_
    refine r_lcmp 1064 dL_law_1063 rfl ?_
    refine r_if_eq 1069 1067 dL_law_1064 (by decide) rfl ?_ ?_
    · exact r_lsP [1, 2, 3, 4, 5, 6] rfl (t_L_law_b1069 hl G k28 h28  v0 v1 v2 v3 v4 v5 w1042)
    exact r_lsP [] rfl (h1067 w1042)
  exact r_lsP [] rfl (h1050 w1042)
theorem t_L_law_b991 {l : Launch} {D : Dn} {H0 : Heap} {w0 : St} (hl : l.stackTraces = false) (G : Nat) (k28 : Rf → Rf → Rf → Rf → Rf → Int32 → St → Option (Int32 × St)) (h28 : ∀ v0 v1 v2 v3 v4 v5 w, V_L_law l D H0 w0 (k28 v0 v1 v2 v3 v4 v5 w) 28 [(0, lR v0), (1, lR v1), (2, lR v2), (3, lR v3), (4, lR v4), (5, lI v5)] [] w) (k1050 : St → Option (Int32 × St)) (h1050 : ∀ w, V_L_law l D H0 w0 (k1050 w) 1050 [] [] w) (k1067 : St → Option (Int32 × St)) (h1067 : ∀ w, V_L_law l D H0 w0 (k1067 w) 1067 [] [] w) (v0 : Rf) (v1 : Rf) (v2 : Rf) (v3 : Rf) (v4 : Rf) (v5 : Int32) (s0 : Int32) (s1 : Int32) (s2 : Int32) (s3 : Rf) (w : St) : V_L_law l D H0 w0 (f_L_law_b991 G k28 k1050 k1067 v0 v1 v2 v3 v4 v5 s0 s1 s2 s3 w) 991 [(0, lR v0), (1, lR v1), (2, lR v2), (3, lR v3), (4, lR v4), (5, lI v5)] [.int s0, .int s1, .int s2, rf s3] w := by
  unfold f_L_law_b991
  refine r_aload_n 992 0 dL_law_991 rfl rfl rfl ?_
  refine r_iload 994 5 dL_law_992 rfl rfl ?_
  refine r_iconst (v := 4) 995 dL_law_994 rfl rfl ?_
  refine r_iadd 996 dL_law_995 rfl ?_
  refine r_iald 997 dL_law_996 rfl (fun x996 => ?_)
  refine r_aload_n 998 3 dL_law_997 rfl rfl rfl ?_
  refine r_callSW (n := 6) (as := [lR s3, lI s2, lI s1, lI s0, lI x996, lR v3]) (rest := []) 1001 (s_X0_eventOf hl G s3 s2 s1 s0 x996 v3 w) (lw_SW q1663 q1664 q99 q1665) (by decide +kernel) (by decide) rfl rfl (cat2_nil (k := 0)) rfl dL_law_998 rfl (fun x998 w998 => ?_)
  refine r_istore (ls2 := [(6, lI x998), (0, lR v0), (1, lR v1), (2, lR v2), (3, lR v3), (4, lR v4), (5, lI v5)]) 1003 dL_law_1001 (by decide) rfl rfl ?_
  refine r_aload_n 1004 3 dL_law_1003 rfl rfl rfl ?_
  refine r_aload_n 1005 1 dL_law_1004 rfl rfl rfl ?_
  refine r_iload 1007 6 dL_law_1005 rfl rfl ?_
  refine r_iconst (v := 1) 1008 dL_law_1007 rfl rfl ?_
  refine r_iadd 1009 dL_law_1008 rfl ?_
  refine r_iald 1010 dL_law_1009 rfl (fun x1009 => ?_)
  refine r_aload_n 1011 1 dL_law_1010 rfl rfl rfl ?_
  refine r_iload 1013 6 dL_law_1011 rfl rfl ?_
  refine r_iconst (v := 2) 1014 dL_law_1013 rfl rfl ?_
  refine r_iadd 1015 dL_law_1014 rfl ?_
  refine r_iald 1016 dL_law_1015 rfl (fun x1015 => ?_)
  refine r_aload_n 1017 1 dL_law_1016 rfl rfl rfl ?_
  refine r_iload 1019 6 dL_law_1017 rfl rfl ?_
  refine r_iconst (v := 3) 1020 dL_law_1019 rfl rfl ?_
  refine r_iadd 1021 dL_law_1020 rfl ?_
  refine r_iald 1022 dL_law_1021 rfl (fun x1021 => ?_)
  refine r_if_eq 1029 1025 dL_law_1022 (by decide) rfl ?_ ?_
  · refine r_iconst (v := 0) 1030 dL_law_1029 rfl rfl ?_
    exact r_lsP [1, 2, 3, 4, 5, 6, 0] rfl (t_L_law_b1030 hl G k28 h28 k1050 h1050 k1067 h1067  v0 v1 v2 v3 v4 v5 x998 0 x1015 x1009 v2 w998)
  refine r_iconst (v := 1) 1026 dL_law_1025 rfl rfl ?_
  refine r_goto 1030 dL_law_1026 (by decide) ?_
  exact r_lsP [1, 2, 3, 4, 5, 6, 0] rfl (t_L_law_b1030 hl G k28 h28 k1050 h1050 k1067 h1067  v0 v1 v2 v3 v4 v5 x998 1 x1015 x1009 v2 w998)
theorem t_L_law_b964 {l : Launch} {D : Dn} {H0 : Heap} {w0 : St} (hl : l.stackTraces = false) (G : Nat) (k28 : Rf → Rf → Rf → Rf → Rf → Int32 → St → Option (Int32 × St)) (h28 : ∀ v0 v1 v2 v3 v4 v5 w, V_L_law l D H0 w0 (k28 v0 v1 v2 v3 v4 v5 w) 28 [(0, lR v0), (1, lR v1), (2, lR v2), (3, lR v3), (4, lR v4), (5, lI v5)] [] w) (k1050 : St → Option (Int32 × St)) (h1050 : ∀ w, V_L_law l D H0 w0 (k1050 w) 1050 [] [] w) (k1067 : St → Option (Int32 × St)) (h1067 : ∀ w, V_L_law l D H0 w0 (k1067 w) 1067 [] [] w) (v0 : Rf) (v1 : Rf) (v2 : Rf) (v3 : Rf) (v4 : Rf) (v5 : Int32) (w : St) : V_L_law l D H0 w0 (f_L_law_b964 G k28 k1050 k1067 v0 v1 v2 v3 v4 v5 w) 964 [(0, lR v0), (1, lR v1), (2, lR v2), (3, lR v3), (4, lR v4), (5, lI v5)] [] w := by
  unfold f_L_law_b964
  refine r_aload_n 965 1 dL_law_964 rfl rfl rfl ?_
  refine r_aload_n 966 0 dL_law_965 rfl rfl rfl ?_
  refine r_iload 968 5 dL_law_966 rfl rfl ?_
  refine r_iconst (v := 1) 969 dL_law_968 rfl rfl ?_
  refine r_iadd 970 dL_law_969 rfl ?_
  refine r_iald 971 dL_law_970 rfl (fun x970 => ?_)
  refine r_aload_n 972 0 dL_law_971 rfl rfl rfl ?_
  refine r_iload 974 5 dL_law_972 rfl rfl ?_
  refine r_iconst (v := 2) 975 dL_law_974 rfl rfl ?_
  refine r_iadd 976 dL_law_975 rfl ?_
  refine r_iald 977 dL_law_976 rfl (fun x976 => ?_)
  refine r_aload_n 978 0 dL_law_977 rfl rfl rfl ?_
  refine r_iload 980 5 dL_law_978 rfl rfl ?_
  refine r_iconst (v := 3) 981 dL_law_980 rfl rfl ?_
  refine r_iadd 982 dL_law_981 rfl ?_
  refine r_iald 983 dL_law_982 rfl (fun x982 => ?_)
  refine r_if_eq 990 986 dL_law_983 (by decide) rfl ?_ ?_
  · refine r_iconst (v := 0) 991 dL_law_990 rfl rfl ?_
    exact r_lsP [0, 1, 2, 3, 4, 5] rfl (t_L_law_b991 hl G k28 h28 k1050 h1050 k1067 h1067  v0 v1 v2 v3 v4 v5 0 x976 x970 v1 w)
  refine r_iconst (v := 1) 987 dL_law_986 rfl rfl ?_
  refine r_goto 991 dL_law_987 (by decide) ?_
  exact r_lsP [0, 1, 2, 3, 4, 5] rfl (t_L_law_b991 hl G k28 h28 k1050 h1050 k1067 h1067  v0 v1 v2 v3 v4 v5 1 x976 x970 v1 w)
theorem t_L_law_b1165 {l : Launch} {D : Dn} {H0 : Heap} {w0 : St} (hl : l.stackTraces = false) (G : Nat) (k28 : Rf → Rf → Rf → Rf → Rf → Int32 → St → Option (Int32 × St)) (h28 : ∀ v0 v1 v2 v3 v4 v5 w, V_L_law l D H0 w0 (k28 v0 v1 v2 v3 v4 v5 w) 28 [(0, lR v0), (1, lR v1), (2, lR v2), (3, lR v3), (4, lR v4), (5, lI v5)] [] w) (v0 : Rf) (v1 : Rf) (v2 : Rf) (v3 : Rf) (v4 : Rf) (v5 : Int32) (w : St) : V_L_law l D H0 w0 (f_L_law_b1165 G k28 v0 v1 v2 v3 v4 v5 w) 1165 [(0, lR v0), (1, lR v1), (2, lR v2), (3, lR v3), (4, lR v4), (5, lI v5)] [] w := by
  unfold f_L_law_b1165
  refine r_goto 2530 dL_law_1165 (by decide) ?_
  exact r_lsP [0, 1, 2, 3, 4, 5] rfl (t_L_law_b2530 hl G k28 h28  v0 v1 v2 v3 v4 v5 w)
theorem t_L_law_b1132 {l : Launch} {D : Dn} {H0 : Heap} {w0 : St} (hl : l.stackTraces = false) (G : Nat) (k28 : Rf → Rf → Rf → Rf → Rf → Int32 → St → Option (Int32 × St)) (h28 : ∀ v0 v1 v2 v3 v4 v5 w, V_L_law l D H0 w0 (k28 v0 v1 v2 v3 v4 v5 w) 28 [(0, lR v0), (1, lR v1), (2, lR v2), (3, lR v3), (4, lR v4), (5, lI v5)] [] w) (k1146 : St → Option (Int32 × St)) (h1146 : ∀ w, V_L_law l D H0 w0 (k1146 w) 1146 [] [] w) (k1163 : St → Option (Int32 × St)) (h1163 : ∀ w, V_L_law l D H0 w0 (k1163 w) 1163 [] [] w) (v0 : Rf) (v1 : Rf) (v2 : Rf) (v3 : Rf) (v4 : Rf) (v5 : Int32) (v6 : Int32) (s0 : Int32) (s1 : Int32) (s2 : Int32) (s3 : Rf) (w : St) : V_L_law l D H0 w0 (f_L_law_b1132 G k28 k1146 k1163 v0 v1 v2 v3 v4 v5 v6 s0 s1 s2 s3 w) 1132 [(0, lR v0), (1, lR v1), (2, lR v2), (3, lR v3), (4, lR v4), (5, lI v5), (6, lI v6)] [.int s0, .int s1, .int s2, rf s3] w := by
  unfold f_L_law_b1132
  refine r_gd (fun hc1132 => ?_)
  refine r_callV (n := 3) (as := [lI s2, lI s1, lI s0]) (rest := []) 1135 26 (s_X3_minute hl G s3 s2 s1 s0 w) hc1132 rfl (lw_V q2491 q2492 q2493 q110 q2494) (by decide +kernel) (by decide) rfl rfl (cat2_nil (k := 0)) rfl dL_law_1132 rfl (fun x1132 w1132 => ?_)
  refine r_istore (ls2 := [(7, lI x1132), (0, lR v0), (1, lR v1), (2, lR v2), (3, lR v3), (4, lR v4), (5, lI v5), (6, lI v6)]) 1137 dL_law_1135 (by decide) rfl rfl ?_
  refine r_aload_n 1138 3 dL_law_1137 rfl rfl rfl ?_
  refine r_gd (fun hc1138 => ?_)
  refine r_callV (n := 0) (as := []) (rest := []) 1141 26 (s_X3_thrown hl G v2 w1132) hc1138 rfl (lw_V q2273 q2274 q2275 q110 q2276) (by decide +kernel) (by decide) rfl rfl (cat2_nil (k := 0)) rfl dL_law_1138 rfl (fun x1138 w1138 => ?_)
  refine r_iload 1143 7 dL_law_1141 rfl rfl ?_
  refine r_icmp_eq 1148 1146 dL_law_1143 (by decide) rfl ?_ ?_
  · refine r_iload 1150 7 dL_law_1148 rfl rfl ?_
    refine r_if_ne 1165 1153 dL_law_1150 (by decide) rfl ?_ ?_
    · exact r_lsP [1, 2, 3, 4, 5, 6] rfl (t_L_law_b1165 hl G k28 h28  v0 v1 v2 v3 v4 v5 w1138)
    refine r_aload_n 1154 4 dL_law_1153 rfl rfl rfl ?_
    refine r_iconst (v := 0) 1155 dL_law_1154 rfl rfl ?_
    refine r_jald 1156 dL_law_1155 rfl (fun x1155 => ?_)
    refine r_iload 1158 0 dL_law_1156 rfl rfl ?_
    refine r_i2l 1159 dL_law_1158 rfl ?_
    refine r_lcmp 1160 dL_law_1159 rfl ?_
    refine r_if_eq 1165 1163 dL_law_1160 (by decide) rfl ?_ ?_
    · exact r_lsP [1, 2, 3, 4, 5, 6] rfl (t_L_law_b1165 hl G k28 h28  v0 v1 v2 v3 v4 v5 w1138)
    exact r_lsP [] rfl (h1163 w1138)
  exact r_lsP [] rfl (h1146 w1138)
theorem t_L_law_b1099 {l : Launch} {D : Dn} {H0 : Heap} {w0 : St} (hl : l.stackTraces = false) (G : Nat) (k28 : Rf → Rf → Rf → Rf → Rf → Int32 → St → Option (Int32 × St)) (h28 : ∀ v0 v1 v2 v3 v4 v5 w, V_L_law l D H0 w0 (k28 v0 v1 v2 v3 v4 v5 w) 28 [(0, lR v0), (1, lR v1), (2, lR v2), (3, lR v3), (4, lR v4), (5, lI v5)] [] w) (k1146 : St → Option (Int32 × St)) (h1146 : ∀ w, V_L_law l D H0 w0 (k1146 w) 1146 [] [] w) (k1163 : St → Option (Int32 × St)) (h1163 : ∀ w, V_L_law l D H0 w0 (k1163 w) 1163 [] [] w) (v0 : Rf) (v1 : Rf) (v2 : Rf) (v3 : Rf) (v4 : Rf) (v5 : Int32) (s0 : Int32) (s1 : Int32) (s2 : Int32) (s3 : Rf) (w : St) : V_L_law l D H0 w0 (f_L_law_b1099 G k28 k1146 k1163 v0 v1 v2 v3 v4 v5 s0 s1 s2 s3 w) 1099 [(0, lR v0), (1, lR v1), (2, lR v2), (3, lR v3), (4, lR v4), (5, lI v5)] [.int s0, .int s1, .int s2, rf s3] w := by
  unfold f_L_law_b1099
  refine r_aload_n 1100 3 dL_law_1099 rfl rfl rfl ?_
  refine r_callSW (n := 5) (as := [lR s3, lI s2, lI s1, lI s0, lR v3]) (rest := []) 1103 (s_X0_minute hl G s3 s2 s1 s0 v3 w) (lw_SW q1674 q1675 q99 q1676) (by decide +kernel) (by decide) rfl rfl (cat2_nil (k := 0)) rfl dL_law_1100 rfl (fun x1100 w1100 => ?_)
  refine r_istore (ls2 := [(6, lI x1100), (0, lR v0), (1, lR v1), (2, lR v2), (3, lR v3), (4, lR v4), (5, lI v5)]) 1105 dL_law_1103 (by decide) rfl rfl ?_
  refine r_aload_n 1106 3 dL_law_1105 rfl rfl rfl ?_
  refine r_aload_n 1107 1 dL_law_1106 rfl rfl rfl ?_
  refine r_iload 1109 6 dL_law_1107 rfl rfl ?_
  refine r_iconst (v := 1) 1110 dL_law_1109 rfl rfl ?_
  refine r_iadd 1111 dL_law_1110 rfl ?_
  refine r_iald 1112 dL_law_1111 rfl (fun x1111 => ?_)
  refine r_aload_n 1113 1 dL_law_1112 rfl rfl rfl ?_
  refine r_iload 1115 6 dL_law_1113 rfl rfl ?_
  refine r_iconst (v := 2) 1116 dL_law_1115 rfl rfl ?_
  refine r_iadd 1117 dL_law_1116 rfl ?_
  refine r_iald 1118 dL_law_1117 rfl (fun x1117 => ?_)
  refine r_aload_n 1119 1 dL_law_1118 rfl rfl rfl ?_
  refine r_iload 1121 6 dL_law_1119 rfl rfl ?_
  refine r_iconst (v := 3) 1122 dL_law_1121 rfl rfl ?_
  refine r_iadd 1123 dL_law_1122 rfl ?_
  refine r_iald 1124 dL_law_1123 rfl (fun x1123 => ?_)
  refine r_if_eq 1131 1127 dL_law_1124 (by decide) rfl ?_ ?_
  · refine r_iconst (v := 0) 1132 dL_law_1131 rfl rfl ?_
    exact r_lsP [1, 2, 3, 4, 5, 6, 0] rfl (t_L_law_b1132 hl G k28 h28 k1146 h1146 k1163 h1163  v0 v1 v2 v3 v4 v5 x1100 0 x1117 x1111 v2 w1100)
  refine r_iconst (v := 1) 1128 dL_law_1127 rfl rfl ?_
  refine r_goto 1132 dL_law_1128 (by decide) ?_
  exact r_lsP [1, 2, 3, 4, 5, 6, 0] rfl (t_L_law_b1132 hl G k28 h28 k1146 h1146 k1163 h1163  v0 v1 v2 v3 v4 v5 x1100 1 x1117 x1111 v2 w1100)
theorem t_L_law_b1072 {l : Launch} {D : Dn} {H0 : Heap} {w0 : St} (hl : l.stackTraces = false) (G : Nat) (k28 : Rf → Rf → Rf → Rf → Rf → Int32 → St → Option (Int32 × St)) (h28 : ∀ v0 v1 v2 v3 v4 v5 w, V_L_law l D H0 w0 (k28 v0 v1 v2 v3 v4 v5 w) 28 [(0, lR v0), (1, lR v1), (2, lR v2), (3, lR v3), (4, lR v4), (5, lI v5)] [] w) (k1146 : St → Option (Int32 × St)) (h1146 : ∀ w, V_L_law l D H0 w0 (k1146 w) 1146 [] [] w) (k1163 : St → Option (Int32 × St)) (h1163 : ∀ w, V_L_law l D H0 w0 (k1163 w) 1163 [] [] w) (v0 : Rf) (v1 : Rf) (v2 : Rf) (v3 : Rf) (v4 : Rf) (v5 : Int32) (w : St) : V_L_law l D H0 w0 (f_L_law_b1072 G k28 k1146 k1163 v0 v1 v2 v3 v4 v5 w) 1072 [(0, lR v0), (1, lR v1), (2, lR v2), (3, lR v3), (4, lR v4), (5, lI v5)] [] w := by
  unfold f_L_law_b1072
  refine r_aload_n 1073 1 dL_law_1072 rfl rfl rfl ?_
  refine r_aload_n 1074 0 dL_law_1073 rfl rfl rfl ?_
  refine r_iload 1076 5 dL_law_1074 rfl rfl ?_
  refine r_iconst (v := 1) 1077 dL_law_1076 rfl rfl ?_
  refine r_iadd 1078 dL_law_1077 rfl ?_
  refine r_iald 1079 dL_law_1078 rfl (fun x1078 => ?_)
  refine r_aload_n 1080 0 dL_law_1079 rfl rfl rfl ?_
  refine r_iload 1082 5 dL_law_1080 rfl rfl ?_
  refine r_iconst (v := 2) 1083 dL_law_1082 rfl rfl ?_
  refine r_iadd 1084 dL_law_1083 rfl ?_
  refine r_iald 1085 dL_law_1084 rfl (fun x1084 => ?_)
  refine r_aload_n 1086 0 dL_law_1085 rfl rfl rfl ?_
  refine r_iload 1088 5 dL_law_1086 rfl rfl ?_
  refine r_iconst (v := 3) 1089 dL_law_1088 rfl rfl ?_
  refine r_iadd 1090 dL_law_1089 rfl ?_
  refine r_iald 1091 dL_law_1090 rfl (fun x1090 => ?_)
  refine r_if_eq 1098 1094 dL_law_1091 (by decide) rfl ?_ ?_
  · refine r_iconst (v := 0) 1099 dL_law_1098 rfl rfl ?_
    exact r_lsP [0, 1, 2, 3, 4, 5] rfl (t_L_law_b1099 hl G k28 h28 k1146 h1146 k1163 h1163  v0 v1 v2 v3 v4 v5 0 x1084 x1078 v1 w)
  refine r_iconst (v := 1) 1095 dL_law_1094 rfl rfl ?_
  refine r_goto 1099 dL_law_1095 (by decide) ?_
  exact r_lsP [0, 1, 2, 3, 4, 5] rfl (t_L_law_b1099 hl G k28 h28 k1146 h1146 k1163 h1163  v0 v1 v2 v3 v4 v5 1 x1084 x1078 v1 w)
theorem t_L_law_b1261 {l : Launch} {D : Dn} {H0 : Heap} {w0 : St} (hl : l.stackTraces = false) (G : Nat) (k28 : Rf → Rf → Rf → Rf → Rf → Int32 → St → Option (Int32 × St)) (h28 : ∀ v0 v1 v2 v3 v4 v5 w, V_L_law l D H0 w0 (k28 v0 v1 v2 v3 v4 v5 w) 28 [(0, lR v0), (1, lR v1), (2, lR v2), (3, lR v3), (4, lR v4), (5, lI v5)] [] w) (v0 : Rf) (v1 : Rf) (v2 : Rf) (v3 : Rf) (v4 : Rf) (v5 : Int32) (w : St) : V_L_law l D H0 w0 (f_L_law_b1261 G k28 v0 v1 v2 v3 v4 v5 w) 1261 [(0, lR v0), (1, lR v1), (2, lR v2), (3, lR v3), (4, lR v4), (5, lI v5)] [] w := by
  unfold f_L_law_b1261
  refine r_goto 2530 dL_law_1261 (by decide) ?_
  exact r_lsP [0, 1, 2, 3, 4, 5] rfl (t_L_law_b2530 hl G k28 h28  v0 v1 v2 v3 v4 v5 w)
theorem t_L_law_b1228 {l : Launch} {D : Dn} {H0 : Heap} {w0 : St} (hl : l.stackTraces = false) (G : Nat) (k28 : Rf → Rf → Rf → Rf → Rf → Int32 → St → Option (Int32 × St)) (h28 : ∀ v0 v1 v2 v3 v4 v5 w, V_L_law l D H0 w0 (k28 v0 v1 v2 v3 v4 v5 w) 28 [(0, lR v0), (1, lR v1), (2, lR v2), (3, lR v3), (4, lR v4), (5, lI v5)] [] w) (k1242 : St → Option (Int32 × St)) (h1242 : ∀ w, V_L_law l D H0 w0 (k1242 w) 1242 [] [] w) (k1259 : St → Option (Int32 × St)) (h1259 : ∀ w, V_L_law l D H0 w0 (k1259 w) 1259 [] [] w) (v0 : Rf) (v1 : Rf) (v2 : Rf) (v3 : Rf) (v4 : Rf) (v5 : Int32) (v6 : Int32) (s0 : Int32) (s1 : Int32) (s2 : Int32) (s3 : Rf) (w : St) : V_L_law l D H0 w0 (f_L_law_b1228 G k28 k1242 k1259 v0 v1 v2 v3 v4 v5 v6 s0 s1 s2 s3 w) 1228 [(0, lR v0), (1, lR v1), (2, lR v2), (3, lR v3), (4, lR v4), (5, lI v5), (6, lI v6)] [.int s0, .int s1, .int s2, rf s3] w := by
  unfold f_L_law_b1228
  refine r_gd (fun hc1228 => ?_)
  refine r_callV (n := 3) (as := [lI s2, lI s1, lI s0]) (rest := []) 1231 26 (s_X3_minuteAgain hl G s3 s2 s1 s0 w) hc1228 rfl (lw_V q2495 q2496 q2497 q110 q2498) (by decide +kernel) (by decide) rfl rfl (cat2_nil (k := 0)) rfl dL_law_1228 rfl (fun x1228 w1228 => ?_)
  refine r_istore (ls2 := [(7, lI x1228), (0, lR v0), (1, lR v1), (2, lR v2), (3, lR v3), (4, lR v4), (5, lI v5), (6, lI v6)]) 1233 dL_law_1231 (by decide) rfl rfl ?_
  refine r_aload_n 1234 3 dL_law_1233 rfl rfl rfl ?_
  refine r_gd (fun hc1234 => ?_)
  refine r_callV (n := 0) (as := []) (rest := []) 1237 26 (s_X3_thrown hl G v2 w1228) hc1234 rfl (lw_V q2273 q2274 q2275 q110 q2276) (by decide +kernel) (by decide) rfl rfl (cat2_nil (k := 0)) rfl dL_law_1234 rfl (fun x1234 w1234 => ?_)
  refine r_iload 1239 7 dL_law_1237 rfl rfl ?_
  refine r_icmp_eq 1244 1242 dL_law_1239 (by decide) rfl ?_ ?_
  · refine r_iload 1246 7 dL_law_1244 rfl rfl ?_
    refine r_if_ne 1261 1249 dL_law_1246 (by decide) rfl ?_ ?_
    · exact r_lsP [1, 2, 3, 4, 5, 6] rfl (t_L_law_b1261 hl G k28 h28  v0 v1 v2 v3 v4 v5 w1234)
    refine r_aload_n 1250 4 dL_law_1249 rfl rfl rfl ?_
    refine r_iconst (v := 0) 1251 dL_law_1250 rfl rfl ?_
    refine r_jald 1252 dL_law_1251 rfl (fun x1251 => ?_)
    refine r_iload 1254 0 dL_law_1252 rfl rfl ?_
    refine r_i2l 1255 dL_law_1254 rfl ?_
    refine r_lcmp 1256 dL_law_1255 rfl ?_
    refine r_if_eq 1261 1259 dL_law_1256 (by decide) rfl ?_ ?_
    · exact r_lsP [1, 2, 3, 4, 5, 6] rfl (t_L_law_b1261 hl G k28 h28  v0 v1 v2 v3 v4 v5 w1234)
    exact r_lsP [] rfl (h1259 w1234)
  exact r_lsP [] rfl (h1242 w1234)
theorem t_L_law_b1195 {l : Launch} {D : Dn} {H0 : Heap} {w0 : St} (hl : l.stackTraces = false) (G : Nat) (k28 : Rf → Rf → Rf → Rf → Rf → Int32 → St → Option (Int32 × St)) (h28 : ∀ v0 v1 v2 v3 v4 v5 w, V_L_law l D H0 w0 (k28 v0 v1 v2 v3 v4 v5 w) 28 [(0, lR v0), (1, lR v1), (2, lR v2), (3, lR v3), (4, lR v4), (5, lI v5)] [] w) (k1242 : St → Option (Int32 × St)) (h1242 : ∀ w, V_L_law l D H0 w0 (k1242 w) 1242 [] [] w) (k1259 : St → Option (Int32 × St)) (h1259 : ∀ w, V_L_law l D H0 w0 (k1259 w) 1259 [] [] w) (v0 : Rf) (v1 : Rf) (v2 : Rf) (v3 : Rf) (v4 : Rf) (v5 : Int32) (s0 : Int32) (s1 : Int32) (s2 : Int32) (s3 : Rf) (w : St) : V_L_law l D H0 w0 (f_L_law_b1195 G k28 k1242 k1259 v0 v1 v2 v3 v4 v5 s0 s1 s2 s3 w) 1195 [(0, lR v0), (1, lR v1), (2, lR v2), (3, lR v3), (4, lR v4), (5, lI v5)] [.int s0, .int s1, .int s2, rf s3] w := by
  unfold f_L_law_b1195
  refine r_aload_n 1196 3 dL_law_1195 rfl rfl rfl ?_
  refine r_callSW (n := 5) (as := [lR s3, lI s2, lI s1, lI s0, lR v3]) (rest := []) 1199 (s_X0_minuteAgain hl G s3 s2 s1 s0 v3 w) (lw_SW q1681 q1682 q99 q1683) (by decide +kernel) (by decide) rfl rfl (cat2_nil (k := 0)) rfl dL_law_1196 rfl (fun x1196 w1196 => ?_)
  refine r_istore (ls2 := [(6, lI x1196), (0, lR v0), (1, lR v1), (2, lR v2), (3, lR v3), (4, lR v4), (5, lI v5)]) 1201 dL_law_1199 (by decide) rfl rfl ?_
  refine r_aload_n 1202 3 dL_law_1201 rfl rfl rfl ?_
  refine r_aload_n 1203 1 dL_law_1202 rfl rfl rfl ?_
  refine r_iload 1205 6 dL_law_1203 rfl rfl ?_
  refine r_iconst (v := 1) 1206 dL_law_1205 rfl rfl ?_
  refine r_iadd 1207 dL_law_1206 rfl ?_
  refine r_iald 1208 dL_law_1207 rfl (fun x1207 => ?_)
  refine r_aload_n 1209 1 dL_law_1208 rfl rfl rfl ?_
  refine r_iload 1211 6 dL_law_1209 rfl rfl ?_
  refine r_iconst (v := 2) 1212 dL_law_1211 rfl rfl ?_
  refine r_iadd 1213 dL_law_1212 rfl ?_
  refine r_iald 1214 dL_law_1213 rfl (fun x1213 => ?_)
  refine r_aload_n 1215 1 dL_law_1214 rfl rfl rfl ?_
  refine r_iload 1217 6 dL_law_1215 rfl rfl ?_
  refine r_iconst (v := 3) 1218 dL_law_1217 rfl rfl ?_
  refine r_iadd 1219 dL_law_1218 rfl ?_
  refine r_iald 1220 dL_law_1219 rfl (fun x1219 => ?_)
  refine r_if_eq 1227 1223 dL_law_1220 (by decide) rfl ?_ ?_
  · refine r_iconst (v := 0) 1228 dL_law_1227 rfl rfl ?_
    exact r_lsP [1, 2, 3, 4, 5, 6, 0] rfl (t_L_law_b1228 hl G k28 h28 k1242 h1242 k1259 h1259  v0 v1 v2 v3 v4 v5 x1196 0 x1213 x1207 v2 w1196)
  refine r_iconst (v := 1) 1224 dL_law_1223 rfl rfl ?_
  refine r_goto 1228 dL_law_1224 (by decide) ?_
  exact r_lsP [1, 2, 3, 4, 5, 6, 0] rfl (t_L_law_b1228 hl G k28 h28 k1242 h1242 k1259 h1259  v0 v1 v2 v3 v4 v5 x1196 1 x1213 x1207 v2 w1196)
theorem t_L_law_b1168 {l : Launch} {D : Dn} {H0 : Heap} {w0 : St} (hl : l.stackTraces = false) (G : Nat) (k28 : Rf → Rf → Rf → Rf → Rf → Int32 → St → Option (Int32 × St)) (h28 : ∀ v0 v1 v2 v3 v4 v5 w, V_L_law l D H0 w0 (k28 v0 v1 v2 v3 v4 v5 w) 28 [(0, lR v0), (1, lR v1), (2, lR v2), (3, lR v3), (4, lR v4), (5, lI v5)] [] w) (k1242 : St → Option (Int32 × St)) (h1242 : ∀ w, V_L_law l D H0 w0 (k1242 w) 1242 [] [] w) (k1259 : St → Option (Int32 × St)) (h1259 : ∀ w, V_L_law l D H0 w0 (k1259 w) 1259 [] [] w) (v0 : Rf) (v1 : Rf) (v2 : Rf) (v3 : Rf) (v4 : Rf) (v5 : Int32) (w : St) : V_L_law l D H0 w0 (f_L_law_b1168 G k28 k1242 k1259 v0 v1 v2 v3 v4 v5 w) 1168 [(0, lR v0), (1, lR v1), (2, lR v2), (3, lR v3), (4, lR v4), (5, lI v5)] [] w := by
  unfold f_L_law_b1168
  refine r_aload_n 1169 1 dL_law_1168 rfl rfl rfl ?_
  refine r_aload_n 1170 0 dL_law_1169 rfl rfl rfl ?_
  refine r_iload 1172 5 dL_law_1170 rfl rfl ?_
  refine r_iconst (v := 1) 1173 dL_law_1172 rfl rfl ?_
  refine r_iadd 1174 dL_law_1173 rfl ?_
  refine r_iald 1175 dL_law_1174 rfl (fun x1174 => ?_)
  refine r_aload_n 1176 0 dL_law_1175 rfl rfl rfl ?_
  refine r_iload 1178 5 dL_law_1176 rfl rfl ?_
  refine r_iconst (v := 2) 1179 dL_law_1178 rfl rfl ?_
  refine r_iadd 1180 dL_law_1179 rfl ?_
  refine r_iald 1181 dL_law_1180 rfl (fun x1180 => ?_)
  refine r_aload_n 1182 0 dL_law_1181 rfl rfl rfl ?_
  refine r_iload 1184 5 dL_law_1182 rfl rfl ?_
  refine r_iconst (v := 3) 1185 dL_law_1184 rfl rfl ?_
  refine r_iadd 1186 dL_law_1185 rfl ?_
  refine r_iald 1187 dL_law_1186 rfl (fun x1186 => ?_)
  refine r_if_eq 1194 1190 dL_law_1187 (by decide) rfl ?_ ?_
  · refine r_iconst (v := 0) 1195 dL_law_1194 rfl rfl ?_
    exact r_lsP [0, 1, 2, 3, 4, 5] rfl (t_L_law_b1195 hl G k28 h28 k1242 h1242 k1259 h1259  v0 v1 v2 v3 v4 v5 0 x1180 x1174 v1 w)
  refine r_iconst (v := 1) 1191 dL_law_1190 rfl rfl ?_
  refine r_goto 1195 dL_law_1191 (by decide) ?_
  exact r_lsP [0, 1, 2, 3, 4, 5] rfl (t_L_law_b1195 hl G k28 h28 k1242 h1242 k1259 h1259  v0 v1 v2 v3 v4 v5 1 x1180 x1174 v1 w)
theorem t_L_law_b1329 {l : Launch} {D : Dn} {H0 : Heap} {w0 : St} (hl : l.stackTraces = false) (G : Nat) (k28 : Rf → Rf → Rf → Rf → Rf → Int32 → St → Option (Int32 × St)) (h28 : ∀ v0 v1 v2 v3 v4 v5 w, V_L_law l D H0 w0 (k28 v0 v1 v2 v3 v4 v5 w) 28 [(0, lR v0), (1, lR v1), (2, lR v2), (3, lR v3), (4, lR v4), (5, lI v5)] [] w) (v0 : Rf) (v1 : Rf) (v2 : Rf) (v3 : Rf) (v4 : Rf) (v5 : Int32) (w : St) : V_L_law l D H0 w0 (f_L_law_b1329 G k28 v0 v1 v2 v3 v4 v5 w) 1329 [(0, lR v0), (1, lR v1), (2, lR v2), (3, lR v3), (4, lR v4), (5, lI v5)] [] w := by
  unfold f_L_law_b1329
  refine r_goto 2530 dL_law_1329 (by decide) ?_
  exact r_lsP [0, 1, 2, 3, 4, 5] rfl (t_L_law_b2530 hl G k28 h28  v0 v1 v2 v3 v4 v5 w)
theorem t_L_law_b1264 {l : Launch} {D : Dn} {H0 : Heap} {w0 : St} (hl : l.stackTraces = false) (G : Nat) (k28 : Rf → Rf → Rf → Rf → Rf → Int32 → St → Option (Int32 × St)) (h28 : ∀ v0 v1 v2 v3 v4 v5 w, V_L_law l D H0 w0 (k28 v0 v1 v2 v3 v4 v5 w) 28 [(0, lR v0), (1, lR v1), (2, lR v2), (3, lR v3), (4, lR v4), (5, lI v5)] [] w) (k1310 : St → Option (Int32 × St)) (h1310 : ∀ w, V_L_law l D H0 w0 (k1310 w) 1310 [] [] w) (k1327 : St → Option (Int32 × St)) (h1327 : ∀ w, V_L_law l D H0 w0 (k1327 w) 1327 [] [] w) (v0 : Rf) (v1 : Rf) (v2 : Rf) (v3 : Rf) (v4 : Rf) (v5 : Int32) (w : St) : V_L_law l D H0 w0 (f_L_law_b1264 G k28 k1310 k1327 v0 v1 v2 v3 v4 v5 w) 1264 [(0, lR v0), (1, lR v1), (2, lR v2), (3, lR v3), (4, lR v4), (5, lI v5)] [] w := by
  unfold f_L_law_b1264
  refine r_aload_n 1265 1 dL_law_1264 rfl rfl rfl ?_
  refine r_aload_n 1266 0 dL_law_1265 rfl rfl rfl ?_
  refine r_iload 1268 5 dL_law_1266 rfl rfl ?_
  refine r_iconst (v := 1) 1269 dL_law_1268 rfl rfl ?_
  refine r_iadd 1270 dL_law_1269 rfl ?_
  refine r_iald 1271 dL_law_1270 rfl (fun x1270 => ?_)
  refine r_aload_n 1272 0 dL_law_1271 rfl rfl rfl ?_
  refine r_iload 1274 5 dL_law_1272 rfl rfl ?_
  refine r_iconst (v := 2) 1275 dL_law_1274 rfl rfl ?_
  refine r_iadd 1276 dL_law_1275 rfl ?_
  refine r_iald 1277 dL_law_1276 rfl (fun x1276 => ?_)
  refine r_aload_n 1278 3 dL_law_1277 rfl rfl rfl ?_
  refine r_callSW (n := 4) (as := [lR v1, lI x1270, lI x1276, lR v3]) (rest := []) 1281 (s_X0_linkOf hl G v1 x1270 x1276 v3 w) (lw_SW q1688 q1689 q99 q1690) (by decide +kernel) (by decide) rfl rfl (cat2_nil (k := 0)) rfl dL_law_1278 rfl (fun x1278 w1278 => ?_)
  refine r_istore (ls2 := [(6, lI x1278), (0, lR v0), (1, lR v1), (2, lR v2), (3, lR v3), (4, lR v4), (5, lI v5)]) 1283 dL_law_1281 (by decide) rfl rfl ?_
  refine r_aload_n 1284 3 dL_law_1283 rfl rfl rfl ?_
  refine r_aload_n 1285 1 dL_law_1284 rfl rfl rfl ?_
  refine r_iload 1287 6 dL_law_1285 rfl rfl ?_
  refine r_iconst (v := 1) 1288 dL_law_1287 rfl rfl ?_
  refine r_iadd 1289 dL_law_1288 rfl ?_
  refine r_iald 1290 dL_law_1289 rfl (fun x1289 => ?_)
  refine r_aload_n 1291 1 dL_law_1290 rfl rfl rfl ?_
  refine r_iload 1293 6 dL_law_1291 rfl rfl ?_
  refine r_iconst (v := 2) 1294 dL_law_1293 rfl rfl ?_
  refine r_iadd 1295 dL_law_1294 rfl ?_
  refine r_iald 1296 dL_law_1295 rfl (fun x1295 => ?_)
  refine r_gd (fun hc1296 => ?_)
  refine r_callV (n := 2) (as := [lI x1289, lI x1295]) (rest := []) 1299 26 (s_X3_linkOf hl G v2 x1289 x1295 w1278) hc1296 rfl (lw_V q2500 q2501 q2502 q110 q2503) (by decide +kernel) (by decide) rfl rfl (cat2_nil (k := 0)) rfl dL_law_1296 rfl (fun x1296 w1296 => ?_)
  refine r_istore (ls2 := [(7, lI x1296), (6, lI x1278), (0, lR v0), (1, lR v1), (2, lR v2), (3, lR v3), (4, lR v4), (5, lI v5)]) 1301 dL_law_1299 (by decide) rfl rfl ?_
  refine r_aload_n 1302 4 dL_law_1301 rfl rfl rfl ?_
  refine r_gd (fun hc1302 => ?_)
  refine r_callV (n := 0) (as := []) (rest := []) 1305 26 (s_X3_thrown hl G v2 w1296) hc1302 rfl (lw_V q2273 q2274 q2275 q110 q2276) (by decide +kernel) (by decide) rfl rfl (cat2_nil (k := 0)) rfl dL_law_1302 rfl (fun x1302 w1302 => ?_)
  refine r_iload 1307 1 dL_law_1305 rfl rfl ?_
  refine r_icmp_eq 1312 1310 dL_law_1307 (by decide) rfl ?_ ?_
  · refine r_iload 1314 1 dL_law_1312 rfl rfl ?_
    refine r_if_ne 1329 1317 dL_law_1314 (by decide) rfl ?_ ?_
    · exact r_lsP [2, 3, 4, 5, 6, 7] rfl (t_L_law_b1329 hl G k28 h28  v0 v1 v2 v3 v4 v5 w1302)
    refine r_aload_n 1318 5 dL_law_1317 rfl rfl rfl ?_
    refine r_iconst (v := 0) 1319 dL_law_1318 rfl rfl ?_
    refine r_jald 1320 dL_law_1319 rfl (fun x1319 => ?_)
    refine r_iload 1322 0 dL_law_1320 rfl rfl ?_
    refine r_i2l 1323 dL_law_1322 rfl ?_
    refine r_lcmp 1324 dL_law_1323 rfl ?_
    refine r_if_eq 1329 1327 dL_law_1324 (by decide) rfl ?_ ?_
    · exact r_lsP [2, 3, 4, 5, 6, 7] rfl (t_L_law_b1329 hl G k28 h28  v0 v1 v2 v3 v4 v5 w1302)
    exact r_lsP [] rfl (h1327 w1302)
  exact r_lsP [] rfl (h1310 w1302)
theorem t_L_law_b1385 {l : Launch} {D : Dn} {H0 : Heap} {w0 : St} (hl : l.stackTraces = false) (G : Nat) (k28 : Rf → Rf → Rf → Rf → Rf → Int32 → St → Option (Int32 × St)) (h28 : ∀ v0 v1 v2 v3 v4 v5 w, V_L_law l D H0 w0 (k28 v0 v1 v2 v3 v4 v5 w) 28 [(0, lR v0), (1, lR v1), (2, lR v2), (3, lR v3), (4, lR v4), (5, lI v5)] [] w) (v0 : Rf) (v1 : Rf) (v2 : Rf) (v3 : Rf) (v4 : Rf) (v5 : Int32) (w : St) : V_L_law l D H0 w0 (f_L_law_b1385 G k28 v0 v1 v2 v3 v4 v5 w) 1385 [(0, lR v0), (1, lR v1), (2, lR v2), (3, lR v3), (4, lR v4), (5, lI v5)] [] w := by
  unfold f_L_law_b1385
  refine r_goto 2530 dL_law_1385 (by decide) ?_
  exact r_lsP [0, 1, 2, 3, 4, 5] rfl (t_L_law_b2530 hl G k28 h28  v0 v1 v2 v3 v4 v5 w)
theorem t_L_law_b1332 {l : Launch} {D : Dn} {H0 : Heap} {w0 : St} (hl : l.stackTraces = false) (G : Nat) (k28 : Rf → Rf → Rf → Rf → Rf → Int32 → St → Option (Int32 × St)) (h28 : ∀ v0 v1 v2 v3 v4 v5 w, V_L_law l D H0 w0 (k28 v0 v1 v2 v3 v4 v5 w) 28 [(0, lR v0), (1, lR v1), (2, lR v2), (3, lR v3), (4, lR v4), (5, lI v5)] [] w) (k1366 : St → Option (Int32 × St)) (h1366 : ∀ w, V_L_law l D H0 w0 (k1366 w) 1366 [] [] w) (k1383 : St → Option (Int32 × St)) (h1383 : ∀ w, V_L_law l D H0 w0 (k1383 w) 1383 [] [] w) (v0 : Rf) (v1 : Rf) (v2 : Rf) (v3 : Rf) (v4 : Rf) (v5 : Int32) (w : St) : V_L_law l D H0 w0 (f_L_law_b1332 G k28 k1366 k1383 v0 v1 v2 v3 v4 v5 w) 1332 [(0, lR v0), (1, lR v1), (2, lR v2), (3, lR v3), (4, lR v4), (5, lI v5)] [] w := by
  unfold f_L_law_b1332
  refine r_aload_n 1333 1 dL_law_1332 rfl rfl rfl ?_
  refine r_aload_n 1334 0 dL_law_1333 rfl rfl rfl ?_
  refine r_iload 1336 5 dL_law_1334 rfl rfl ?_
  refine r_iconst (v := 1) 1337 dL_law_1336 rfl rfl ?_
  refine r_iadd 1338 dL_law_1337 rfl ?_
  refine r_iald 1339 dL_law_1338 rfl (fun x1338 => ?_)
  refine r_aload_n 1340 3 dL_law_1339 rfl rfl rfl ?_
  refine r_callSW (n := 3) (as := [lR v1, lI x1338, lR v3]) (rest := []) 1343 (s_X0_missed hl G v1 x1338 v3 w) (lw_SW q1703 q1704 q99 q1705) (by decide +kernel) (by decide) rfl rfl (cat2_nil (k := 0)) rfl dL_law_1340 rfl (fun x1340 w1340 => ?_)
  refine r_istore (ls2 := [(6, lI x1340), (0, lR v0), (1, lR v1), (2, lR v2), (3, lR v3), (4, lR v4), (5, lI v5)]) 1345 dL_law_1343 (by decide) rfl rfl ?_
  refine r_aload_n 1346 3 dL_law_1345 rfl rfl rfl ?_
  refine r_aload_n 1347 1 dL_law_1346 rfl rfl rfl ?_
  refine r_iload 1349 6 dL_law_1347 rfl rfl ?_
  refine r_iconst (v := 1) 1350 dL_law_1349 rfl rfl ?_
  refine r_iadd 1351 dL_law_1350 rfl ?_
  refine r_iald 1352 dL_law_1351 rfl (fun x1351 => ?_)
  refine r_gd (fun hc1352 => ?_)
  refine r_callV (n := 1) (as := [lI x1351]) (rest := []) 1355 26 (s_X3_missed hl G v2 x1351 w1340) hc1352 rfl (lw_V q2512 q2513 q2514 q110 q2515) (by decide +kernel) (by decide) rfl rfl (cat2_nil (k := 0)) rfl dL_law_1352 rfl (fun x1352 w1352 => ?_)
  refine r_istore (ls2 := [(7, lI x1352), (6, lI x1340), (0, lR v0), (1, lR v1), (2, lR v2), (3, lR v3), (4, lR v4), (5, lI v5)]) 1357 dL_law_1355 (by decide) rfl rfl ?_
  refine r_aload_n 1358 4 dL_law_1357 rfl rfl rfl ?_
  refine r_gd (fun hc1358 => ?_)
  refine r_callV (n := 0) (as := []) (rest := []) 1361 26 (s_X3_thrown hl G v2 w1352) hc1358 rfl (lw_V q2273 q2274 q2275 q110 q2276) (by decide +kernel) (by decide) rfl rfl (cat2_nil (k := 0)) rfl dL_law_1358 rfl (fun x1358 w1358 => ?_)
  refine r_iload 1363 1 dL_law_1361 rfl rfl ?_
  refine r_icmp_eq 1368 1366 dL_law_1363 (by decide) rfl ?_ ?_
  · refine r_iload 1370 1 dL_law_1368 rfl rfl ?_
    refine r_if_ne 1385 1373 dL_law_1370 (by decide) rfl ?_ ?_
    · exact r_lsP [2, 3, 4, 5, 6, 7] rfl (t_L_law_b1385 hl G k28 h28  v0 v1 v2 v3 v4 v5 w1358)
    refine r_aload_n 1374 5 dL_law_1373 rfl rfl rfl ?_
    refine r_iconst (v := 0) 1375 dL_law_1374 rfl rfl ?_
    refine r_jald 1376 dL_law_1375 rfl (fun x1375 => ?_)
    refine r_iload 1378 0 dL_law_1376 rfl rfl ?_
    refine r_i2l 1379 dL_law_1378 rfl ?_
    refine r_lcmp 1380 dL_law_1379 rfl ?_
    refine r_if_eq 1385 1383 dL_law_1380 (by decide) rfl ?_ ?_
    · exact r_lsP [2, 3, 4, 5, 6, 7] rfl (t_L_law_b1385 hl G k28 h28  v0 v1 v2 v3 v4 v5 w1358)
    exact r_lsP [] rfl (h1383 w1358)
  exact r_lsP [] rfl (h1366 w1358)
theorem t_L_law_b1441 {l : Launch} {D : Dn} {H0 : Heap} {w0 : St} (hl : l.stackTraces = false) (G : Nat) (k28 : Rf → Rf → Rf → Rf → Rf → Int32 → St → Option (Int32 × St)) (h28 : ∀ v0 v1 v2 v3 v4 v5 w, V_L_law l D H0 w0 (k28 v0 v1 v2 v3 v4 v5 w) 28 [(0, lR v0), (1, lR v1), (2, lR v2), (3, lR v3), (4, lR v4), (5, lI v5)] [] w) (v0 : Rf) (v1 : Rf) (v2 : Rf) (v3 : Rf) (v4 : Rf) (v5 : Int32) (w : St) : V_L_law l D H0 w0 (f_L_law_b1441 G k28 v0 v1 v2 v3 v4 v5 w) 1441 [(0, lR v0), (1, lR v1), (2, lR v2), (3, lR v3), (4, lR v4), (5, lI v5)] [] w := by
  unfold f_L_law_b1441
  refine r_goto 2530 dL_law_1441 (by decide) ?_
  exact r_lsP [0, 1, 2, 3, 4, 5] rfl (t_L_law_b2530 hl G k28 h28  v0 v1 v2 v3 v4 v5 w)
theorem t_L_law_b1388 {l : Launch} {D : Dn} {H0 : Heap} {w0 : St} (hl : l.stackTraces = false) (G : Nat) (k28 : Rf → Rf → Rf → Rf → Rf → Int32 → St → Option (Int32 × St)) (h28 : ∀ v0 v1 v2 v3 v4 v5 w, V_L_law l D H0 w0 (k28 v0 v1 v2 v3 v4 v5 w) 28 [(0, lR v0), (1, lR v1), (2, lR v2), (3, lR v3), (4, lR v4), (5, lI v5)] [] w) (k1422 : St → Option (Int32 × St)) (h1422 : ∀ w, V_L_law l D H0 w0 (k1422 w) 1422 [] [] w) (k1439 : St → Option (Int32 × St)) (h1439 : ∀ w, V_L_law l D H0 w0 (k1439 w) 1439 [] [] w) (v0 : Rf) (v1 : Rf) (v2 : Rf) (v3 : Rf) (v4 : Rf) (v5 : Int32) (w : St) : V_L_law l D H0 w0 (f_L_law_b1388 G k28 k1422 k1439 v0 v1 v2 v3 v4 v5 w) 1388 [(0, lR v0), (1, lR v1), (2, lR v2), (3, lR v3), (4, lR v4), (5, lI v5)] [] w := by
  unfold f_L_law_b1388
  refine r_aload_n 1389 1 dL_law_1388 rfl rfl rfl ?_
  refine r_aload_n 1390 0 dL_law_1389 rfl rfl rfl ?_
  refine r_iload 1392 5 dL_law_1390 rfl rfl ?_
  refine r_iconst (v := 1) 1393 dL_law_1392 rfl rfl ?_
  refine r_iadd 1394 dL_law_1393 rfl ?_
  refine r_iald 1395 dL_law_1394 rfl (fun x1394 => ?_)
  refine r_aload_n 1396 3 dL_law_1395 rfl rfl rfl ?_
  refine r_callSW (n := 3) (as := [lR v1, lI x1394, lR v3]) (rest := []) 1399 (s_X0_waits hl G v1 x1394 v3 w) (lw_SW q1713 q1714 q99 q1715) (by decide +kernel) (by decide) rfl rfl (cat2_nil (k := 0)) rfl dL_law_1396 rfl (fun x1396 w1396 => ?_)
  refine r_istore (ls2 := [(6, lI x1396), (0, lR v0), (1, lR v1), (2, lR v2), (3, lR v3), (4, lR v4), (5, lI v5)]) 1401 dL_law_1399 (by decide) rfl rfl ?_
  refine r_aload_n 1402 3 dL_law_1401 rfl rfl rfl ?_
  refine r_aload_n 1403 1 dL_law_1402 rfl rfl rfl ?_
  refine r_iload 1405 6 dL_law_1403 rfl rfl ?_
  refine r_iconst (v := 1) 1406 dL_law_1405 rfl rfl ?_
  refine r_iadd 1407 dL_law_1406 rfl ?_
  refine r_iald 1408 dL_law_1407 rfl (fun x1407 => ?_)
  refine r_gd (fun hc1408 => ?_)
  refine r_callV (n := 1) (as := [lI x1407]) (rest := []) 1411 26 (s_X3_waits hl G v2 x1407 w1396) hc1408 rfl (lw_V q2516 q2517 q2518 q110 q2519) (by decide +kernel) (by decide) rfl rfl (cat2_nil (k := 0)) rfl dL_law_1408 rfl (fun x1408 w1408 => ?_)
  refine r_istore (ls2 := [(7, lI x1408), (6, lI x1396), (0, lR v0), (1, lR v1), (2, lR v2), (3, lR v3), (4, lR v4), (5, lI v5)]) 1413 dL_law_1411 (by decide) rfl rfl ?_
  refine r_aload_n 1414 4 dL_law_1413 rfl rfl rfl ?_
  refine r_gd (fun hc1414 => ?_)
  refine r_callV (n := 0) (as := []) (rest := []) 1417 26 (s_X3_thrown hl G v2 w1408) hc1414 rfl (lw_V q2273 q2274 q2275 q110 q2276) (by decide +kernel) (by decide) rfl rfl (cat2_nil (k := 0)) rfl dL_law_1414 rfl (fun x1414 w1414 => ?_)
  refine r_iload 1419 1 dL_law_1417 rfl rfl ?_
  refine r_icmp_eq 1424 1422 dL_law_1419 (by decide) rfl ?_ ?_
  · refine r_iload 1426 1 dL_law_1424 rfl rfl ?_
    refine r_if_ne 1441 1429 dL_law_1426 (by decide) rfl ?_ ?_
    · exact r_lsP [2, 3, 4, 5, 6, 7] rfl (t_L_law_b1441 hl G k28 h28  v0 v1 v2 v3 v4 v5 w1414)
    refine r_aload_n 1430 5 dL_law_1429 rfl rfl rfl ?_
    refine r_iconst (v := 0) 1431 dL_law_1430 rfl rfl ?_
    refine r_jald 1432 dL_law_1431 rfl (fun x1431 => ?_)
    refine r_iload 1434 0 dL_law_1432 rfl rfl ?_
    refine r_i2l 1435 dL_law_1434 rfl ?_
    refine r_lcmp 1436 dL_law_1435 rfl ?_
    refine r_if_eq 1441 1439 dL_law_1436 (by decide) rfl ?_ ?_
    · exact r_lsP [2, 3, 4, 5, 6, 7] rfl (t_L_law_b1441 hl G k28 h28  v0 v1 v2 v3 v4 v5 w1414)
    exact r_lsP [] rfl (h1439 w1414)
  exact r_lsP [] rfl (h1422 w1414)
theorem t_L_law_b1497 {l : Launch} {D : Dn} {H0 : Heap} {w0 : St} (hl : l.stackTraces = false) (G : Nat) (k28 : Rf → Rf → Rf → Rf → Rf → Int32 → St → Option (Int32 × St)) (h28 : ∀ v0 v1 v2 v3 v4 v5 w, V_L_law l D H0 w0 (k28 v0 v1 v2 v3 v4 v5 w) 28 [(0, lR v0), (1, lR v1), (2, lR v2), (3, lR v3), (4, lR v4), (5, lI v5)] [] w) (v0 : Rf) (v1 : Rf) (v2 : Rf) (v3 : Rf) (v4 : Rf) (v5 : Int32) (w : St) : V_L_law l D H0 w0 (f_L_law_b1497 G k28 v0 v1 v2 v3 v4 v5 w) 1497 [(0, lR v0), (1, lR v1), (2, lR v2), (3, lR v3), (4, lR v4), (5, lI v5)] [] w := by
  unfold f_L_law_b1497
  refine r_goto 2530 dL_law_1497 (by decide) ?_
  exact r_lsP [0, 1, 2, 3, 4, 5] rfl (t_L_law_b2530 hl G k28 h28  v0 v1 v2 v3 v4 v5 w)
theorem t_L_law_b1444 {l : Launch} {D : Dn} {H0 : Heap} {w0 : St} (hl : l.stackTraces = false) (G : Nat) (k28 : Rf → Rf → Rf → Rf → Rf → Int32 → St → Option (Int32 × St)) (h28 : ∀ v0 v1 v2 v3 v4 v5 w, V_L_law l D H0 w0 (k28 v0 v1 v2 v3 v4 v5 w) 28 [(0, lR v0), (1, lR v1), (2, lR v2), (3, lR v3), (4, lR v4), (5, lI v5)] [] w) (k1478 : St → Option (Int32 × St)) (h1478 : ∀ w, V_L_law l D H0 w0 (k1478 w) 1478 [] [] w) (k1495 : St → Option (Int32 × St)) (h1495 : ∀ w, V_L_law l D H0 w0 (k1495 w) 1495 [] [] w) (v0 : Rf) (v1 : Rf) (v2 : Rf) (v3 : Rf) (v4 : Rf) (v5 : Int32) (w : St) : V_L_law l D H0 w0 (f_L_law_b1444 G k28 k1478 k1495 v0 v1 v2 v3 v4 v5 w) 1444 [(0, lR v0), (1, lR v1), (2, lR v2), (3, lR v3), (4, lR v4), (5, lI v5)] [] w := by
  unfold f_L_law_b1444
  refine r_aload_n 1445 1 dL_law_1444 rfl rfl rfl ?_
  refine r_aload_n 1446 0 dL_law_1445 rfl rfl rfl ?_
  refine r_iload 1448 5 dL_law_1446 rfl rfl ?_
  refine r_iconst (v := 1) 1449 dL_law_1448 rfl rfl ?_
  refine r_iadd 1450 dL_law_1449 rfl ?_
  refine r_iald 1451 dL_law_1450 rfl (fun x1450 => ?_)
  refine r_aload_n 1452 3 dL_law_1451 rfl rfl rfl ?_
  refine r_callSW (n := 3) (as := [lR v1, lI x1450, lR v3]) (rest := []) 1455 (s_X0_knocks hl G v1 x1450 v3 w) (lw_SW q1720 q1721 q99 q1722) (by decide +kernel) (by decide) rfl rfl (cat2_nil (k := 0)) rfl dL_law_1452 rfl (fun x1452 w1452 => ?_)
  refine r_istore (ls2 := [(6, lI x1452), (0, lR v0), (1, lR v1), (2, lR v2), (3, lR v3), (4, lR v4), (5, lI v5)]) 1457 dL_law_1455 (by decide) rfl rfl ?_
  refine r_aload_n 1458 3 dL_law_1457 rfl rfl rfl ?_
  refine r_aload_n 1459 1 dL_law_1458 rfl rfl rfl ?_
  refine r_iload 1461 6 dL_law_1459 rfl rfl ?_
  refine r_iconst (v := 1) 1462 dL_law_1461 rfl rfl ?_
  refine r_iadd 1463 dL_law_1462 rfl ?_
  refine r_iald 1464 dL_law_1463 rfl (fun x1463 => ?_)
  refine r_gd (fun hc1464 => ?_)
  refine r_callV (n := 1) (as := [lI x1463]) (rest := []) 1467 26 (s_X3_knocks hl G v2 x1463 w1452) hc1464 rfl (lw_V q2520 q2521 q2522 q110 q2523) (by decide +kernel) (by decide) rfl rfl (cat2_nil (k := 0)) rfl dL_law_1464 rfl (fun x1464 w1464 => ?_)
  refine r_istore (ls2 := [(7, lI x1464), (6, lI x1452), (0, lR v0), (1, lR v1), (2, lR v2), (3, lR v3), (4, lR v4), (5, lI v5)]) 1469 dL_law_1467 (by decide) rfl rfl ?_
  refine r_aload_n 1470 4 dL_law_1469 rfl rfl rfl ?_
  refine r_gd (fun hc1470 => ?_)
  refine r_callV (n := 0) (as := []) (rest := []) 1473 26 (s_X3_thrown hl G v2 w1464) hc1470 rfl (lw_V q2273 q2274 q2275 q110 q2276) (by decide +kernel) (by decide) rfl rfl (cat2_nil (k := 0)) rfl dL_law_1470 rfl (fun x1470 w1470 => ?_)
  refine r_iload 1475 1 dL_law_1473 rfl rfl ?_
  refine r_icmp_eq 1480 1478 dL_law_1475 (by decide) rfl ?_ ?_
  · refine r_iload 1482 1 dL_law_1480 rfl rfl ?_
    refine r_if_ne 1497 1485 dL_law_1482 (by decide) rfl ?_ ?_
    · exact r_lsP [2, 3, 4, 5, 6, 7] rfl (t_L_law_b1497 hl G k28 h28  v0 v1 v2 v3 v4 v5 w1470)
    refine r_aload_n 1486 5 dL_law_1485 rfl rfl rfl ?_
    refine r_iconst (v := 0) 1487 dL_law_1486 rfl rfl ?_
    refine r_jald 1488 dL_law_1487 rfl (fun x1487 => ?_)
    refine r_iload 1490 0 dL_law_1488 rfl rfl ?_
    refine r_i2l 1491 dL_law_1490 rfl ?_
    refine r_lcmp 1492 dL_law_1491 rfl ?_
    refine r_if_eq 1497 1495 dL_law_1492 (by decide) rfl ?_ ?_
    · exact r_lsP [2, 3, 4, 5, 6, 7] rfl (t_L_law_b1497 hl G k28 h28  v0 v1 v2 v3 v4 v5 w1470)
    exact r_lsP [] rfl (h1495 w1470)
  exact r_lsP [] rfl (h1478 w1470)
theorem t_L_law_b1553 {l : Launch} {D : Dn} {H0 : Heap} {w0 : St} (hl : l.stackTraces = false) (G : Nat) (k28 : Rf → Rf → Rf → Rf → Rf → Int32 → St → Option (Int32 × St)) (h28 : ∀ v0 v1 v2 v3 v4 v5 w, V_L_law l D H0 w0 (k28 v0 v1 v2 v3 v4 v5 w) 28 [(0, lR v0), (1, lR v1), (2, lR v2), (3, lR v3), (4, lR v4), (5, lI v5)] [] w) (v0 : Rf) (v1 : Rf) (v2 : Rf) (v3 : Rf) (v4 : Rf) (v5 : Int32) (w : St) : V_L_law l D H0 w0 (f_L_law_b1553 G k28 v0 v1 v2 v3 v4 v5 w) 1553 [(0, lR v0), (1, lR v1), (2, lR v2), (3, lR v3), (4, lR v4), (5, lI v5)] [] w := by
  unfold f_L_law_b1553
  refine r_goto 2530 dL_law_1553 (by decide) ?_
  exact r_lsP [0, 1, 2, 3, 4, 5] rfl (t_L_law_b2530 hl G k28 h28  v0 v1 v2 v3 v4 v5 w)
theorem t_L_law_b1500 {l : Launch} {D : Dn} {H0 : Heap} {w0 : St} (hl : l.stackTraces = false) (G : Nat) (k28 : Rf → Rf → Rf → Rf → Rf → Int32 → St → Option (Int32 × St)) (h28 : ∀ v0 v1 v2 v3 v4 v5 w, V_L_law l D H0 w0 (k28 v0 v1 v2 v3 v4 v5 w) 28 [(0, lR v0), (1, lR v1), (2, lR v2), (3, lR v3), (4, lR v4), (5, lI v5)] [] w) (k1534 : St → Option (Int32 × St)) (h1534 : ∀ w, V_L_law l D H0 w0 (k1534 w) 1534 [] [] w) (k1551 : St → Option (Int32 × St)) (h1551 : ∀ w, V_L_law l D H0 w0 (k1551 w) 1551 [] [] w) (v0 : Rf) (v1 : Rf) (v2 : Rf) (v3 : Rf) (v4 : Rf) (v5 : Int32) (w : St) : V_L_law l D H0 w0 (f_L_law_b1500 G k28 k1534 k1551 v0 v1 v2 v3 v4 v5 w) 1500 [(0, lR v0), (1, lR v1), (2, lR v2), (3, lR v3), (4, lR v4), (5, lI v5)] [] w := by
  unfold f_L_law_b1500
  refine r_aload_n 1501 1 dL_law_1500 rfl rfl rfl ?_
  refine r_aload_n 1502 0 dL_law_1501 rfl rfl rfl ?_
  refine r_iload 1504 5 dL_law_1502 rfl rfl ?_
  refine r_iconst (v := 1) 1505 dL_law_1504 rfl rfl ?_
  refine r_iadd 1506 dL_law_1505 rfl ?_
  refine r_iald 1507 dL_law_1506 rfl (fun x1506 => ?_)
  refine r_aload_n 1508 3 dL_law_1507 rfl rfl rfl ?_
  refine r_callSW (n := 3) (as := [lR v1, lI x1506, lR v3]) (rest := []) 1511 (s_X0_reaches hl G v1 x1506 v3 w) (lw_SW q1727 q1728 q99 q1729) (by decide +kernel) (by decide) rfl rfl (cat2_nil (k := 0)) rfl dL_law_1508 rfl (fun x1508 w1508 => ?_)
  refine r_istore (ls2 := [(6, lI x1508), (0, lR v0), (1, lR v1), (2, lR v2), (3, lR v3), (4, lR v4), (5, lI v5)]) 1513 dL_law_1511 (by decide) rfl rfl ?_
  refine r_aload_n 1514 3 dL_law_1513 rfl rfl rfl ?_
  refine r_aload_n 1515 1 dL_law_1514 rfl rfl rfl ?_
  refine r_iload 1517 6 dL_law_1515 rfl rfl ?_
  refine r_iconst (v := 1) 1518 dL_law_1517 rfl rfl ?_
  refine r_iadd 1519 dL_law_1518 rfl ?_
  refine r_iald 1520 dL_law_1519 rfl (fun x1519 => ?_)
  refine r_gd (fun hc1520 => ?_)
  refine r_callV (n := 1) (as := [lI x1519]) (rest := []) 1523 26 (s_X3_reaches hl G v2 x1519 w1508) hc1520 rfl (lw_V q2528 q2529 q2530 q110 q2531) (by decide +kernel) (by decide) rfl rfl (cat2_nil (k := 0)) rfl dL_law_1520 rfl (fun x1520 w1520 => ?_)
  refine r_istore (ls2 := [(7, lI x1520), (6, lI x1508), (0, lR v0), (1, lR v1), (2, lR v2), (3, lR v3), (4, lR v4), (5, lI v5)]) 1525 dL_law_1523 (by decide) rfl rfl ?_
  refine r_aload_n 1526 4 dL_law_1525 rfl rfl rfl ?_
  refine r_gd (fun hc1526 => ?_)
  refine r_callV (n := 0) (as := []) (rest := []) 1529 26 (s_X3_thrown hl G v2 w1520) hc1526 rfl (lw_V q2273 q2274 q2275 q110 q2276) (by decide +kernel) (by decide) rfl rfl (cat2_nil (k := 0)) rfl dL_law_1526 rfl (fun x1526 w1526 => ?_)
  refine r_iload 1531 1 dL_law_1529 rfl rfl ?_
  refine r_icmp_eq 1536 1534 dL_law_1531 (by decide) rfl ?_ ?_
  · refine r_iload 1538 1 dL_law_1536 rfl rfl ?_
    refine r_if_ne 1553 1541 dL_law_1538 (by decide) rfl ?_ ?_
    · exact r_lsP [2, 3, 4, 5, 6, 7] rfl (t_L_law_b1553 hl G k28 h28  v0 v1 v2 v3 v4 v5 w1526)
    refine r_aload_n 1542 5 dL_law_1541 rfl rfl rfl ?_
    refine r_iconst (v := 0) 1543 dL_law_1542 rfl rfl ?_
    refine r_jald 1544 dL_law_1543 rfl (fun x1543 => ?_)
    refine r_iload 1546 0 dL_law_1544 rfl rfl ?_
    refine r_i2l 1547 dL_law_1546 rfl ?_
    refine r_lcmp 1548 dL_law_1547 rfl ?_
    refine r_if_eq 1553 1551 dL_law_1548 (by decide) rfl ?_ ?_
    · exact r_lsP [2, 3, 4, 5, 6, 7] rfl (t_L_law_b1553 hl G k28 h28  v0 v1 v2 v3 v4 v5 w1526)
    exact r_lsP [] rfl (h1551 w1526)
  exact r_lsP [] rfl (h1534 w1526)
theorem t_L_law_b1556 {l : Launch} {D : Dn} {H0 : Heap} {w0 : St} (hl : l.stackTraces = false) (G : Nat) (k28 : Rf → Rf → Rf → Rf → Rf → Int32 → St → Option (Int32 × St)) (h28 : ∀ v0 v1 v2 v3 v4 v5 w, V_L_law l D H0 w0 (k28 v0 v1 v2 v3 v4 v5 w) 28 [(0, lR v0), (1, lR v1), (2, lR v2), (3, lR v3), (4, lR v4), (5, lI v5)] [] w) (k1567 : St → Option (Int32 × St)) (h1567 : ∀ w, V_L_law l D H0 w0 (k1567 w) 1567 [] [] w) (v0 : Rf) (v1 : Rf) (v2 : Rf) (v3 : Rf) (v4 : Rf) (v5 : Int32) (w : St) : V_L_law l D H0 w0 (f_L_law_b1556 G k28 k1567 v0 v1 v2 v3 v4 v5 w) 1556 [(0, lR v0), (1, lR v1), (2, lR v2), (3, lR v3), (4, lR v4), (5, lI v5)] [] w := by
  unfold f_L_law_b1556
  refine r_aload_n 1557 1 dL_law_1556 rfl rfl rfl ?_
  refine r_gd (fun hc1557 => ?_)
  refine r_callV (n := 0) (as := []) (rest := []) 1560 0 (s_X1_total hl G v1 w) hc1557 rfl (lw_V q286 q287 q288 q100 q289) (by decide +kernel) (by decide) rfl rfl (cat2_nil (k := 0)) rfl dL_law_1557 rfl (fun x1557 w1557 => ?_)
  refine r_aload_n 1561 2 dL_law_1560 rfl rfl rfl ?_
  refine r_gd (fun hc1561 => ?_)
  refine r_callV (n := 0) (as := []) (rest := [.int x1557]) 1564 26 (s_X3_total hl G v2 w1557) hc1561 rfl (lw_V q2532 q2533 q2534 q110 q2535) (by decide +kernel) (by decide) rfl rfl (cat2_i (cat2_nil (k := 0))) rfl dL_law_1561 rfl (fun x1561 w1561 => ?_)
  refine r_icmp_eq 2530 1567 dL_law_1564 (by decide) rfl ?_ ?_
  · exact r_lsP [0, 1, 2, 3, 4, 5] rfl (t_L_law_b2530 hl G k28 h28  v0 v1 v2 v3 v4 v5 w1561)
  exact r_lsP [] rfl (h1567 w1561)
theorem t_L_law_b1622 {l : Launch} {D : Dn} {H0 : Heap} {w0 : St} (hl : l.stackTraces = false) (G : Nat) (k28 : Rf → Rf → Rf → Rf → Rf → Int32 → St → Option (Int32 × St)) (h28 : ∀ v0 v1 v2 v3 v4 v5 w, V_L_law l D H0 w0 (k28 v0 v1 v2 v3 v4 v5 w) 28 [(0, lR v0), (1, lR v1), (2, lR v2), (3, lR v3), (4, lR v4), (5, lI v5)] [] w) (v0 : Rf) (v1 : Rf) (v2 : Rf) (v3 : Rf) (v4 : Rf) (v5 : Int32) (w : St) : V_L_law l D H0 w0 (f_L_law_b1622 G k28 v0 v1 v2 v3 v4 v5 w) 1622 [(0, lR v0), (1, lR v1), (2, lR v2), (3, lR v3), (4, lR v4), (5, lI v5)] [] w := by
  unfold f_L_law_b1622
  refine r_goto 2530 dL_law_1622 (by decide) ?_
  exact r_lsP [0, 1, 2, 3, 4, 5] rfl (t_L_law_b2530 hl G k28 h28  v0 v1 v2 v3 v4 v5 w)
theorem t_L_law_b1569 {l : Launch} {D : Dn} {H0 : Heap} {w0 : St} (hl : l.stackTraces = false) (G : Nat) (k28 : Rf → Rf → Rf → Rf → Rf → Int32 → St → Option (Int32 × St)) (h28 : ∀ v0 v1 v2 v3 v4 v5 w, V_L_law l D H0 w0 (k28 v0 v1 v2 v3 v4 v5 w) 28 [(0, lR v0), (1, lR v1), (2, lR v2), (3, lR v3), (4, lR v4), (5, lI v5)] [] w) (k1603 : St → Option (Int32 × St)) (h1603 : ∀ w, V_L_law l D H0 w0 (k1603 w) 1603 [] [] w) (k1620 : St → Option (Int32 × St)) (h1620 : ∀ w, V_L_law l D H0 w0 (k1620 w) 1620 [] [] w) (v0 : Rf) (v1 : Rf) (v2 : Rf) (v3 : Rf) (v4 : Rf) (v5 : Int32) (w : St) : V_L_law l D H0 w0 (f_L_law_b1569 G k28 k1603 k1620 v0 v1 v2 v3 v4 v5 w) 1569 [(0, lR v0), (1, lR v1), (2, lR v2), (3, lR v3), (4, lR v4), (5, lI v5)] [] w := by
  unfold f_L_law_b1569
  refine r_aload_n 1570 1 dL_law_1569 rfl rfl rfl ?_
  refine r_aload_n 1571 0 dL_law_1570 rfl rfl rfl ?_
  refine r_iload 1573 5 dL_law_1571 rfl rfl ?_
  refine r_iconst (v := 1) 1574 dL_law_1573 rfl rfl ?_
  refine r_iadd 1575 dL_law_1574 rfl ?_
  refine r_iald 1576 dL_law_1575 rfl (fun x1575 => ?_)
  refine r_aload_n 1577 3 dL_law_1576 rfl rfl rfl ?_
  refine r_callSW (n := 3) (as := [lR v1, lI x1575, lR v3]) (rest := []) 1580 (s_X0_totalWith hl G v1 x1575 v3 w) (lw_SW q1734 q1735 q99 q1736) (by decide +kernel) (by decide) rfl rfl (cat2_nil (k := 0)) rfl dL_law_1577 rfl (fun x1577 w1577 => ?_)
  refine r_istore (ls2 := [(6, lI x1577), (0, lR v0), (1, lR v1), (2, lR v2), (3, lR v3), (4, lR v4), (5, lI v5)]) 1582 dL_law_1580 (by decide) rfl rfl ?_
  refine r_aload_n 1583 3 dL_law_1582 rfl rfl rfl ?_
  refine r_aload_n 1584 1 dL_law_1583 rfl rfl rfl ?_
  refine r_iload 1586 6 dL_law_1584 rfl rfl ?_
  refine r_iconst (v := 1) 1587 dL_law_1586 rfl rfl ?_
  refine r_iadd 1588 dL_law_1587 rfl ?_
  refine r_iald 1589 dL_law_1588 rfl (fun x1588 => ?_)
  refine r_gd (fun hc1589 => ?_)
  refine r_callV (n := 1) (as := [lI x1588]) (rest := []) 1592 26 (s_X3_totalWith hl G v2 x1588 w1577) hc1589 rfl (lw_V q2536 q2537 q2538 q110 q2539) (by decide +kernel) (by decide) rfl rfl (cat2_nil (k := 0)) rfl dL_law_1589 rfl (fun x1589 w1589 => ?_)
  refine r_istore (ls2 := [(7, lI x1589), (6, lI x1577), (0, lR v0), (1, lR v1), (2, lR v2), (3, lR v3), (4, lR v4), (5, lI v5)]) 1594 dL_law_1592 (by decide) rfl rfl ?_
  refine r_aload_n 1595 4 dL_law_1594 rfl rfl rfl ?_
  refine r_gd (fun hc1595 => ?_)
  refine r_callV (n := 0) (as := []) (rest := []) 1598 26 (s_X3_thrown hl G v2 w1589) hc1595 rfl (lw_V q2273 q2274 q2275 q110 q2276) (by decide +kernel) (by decide) rfl rfl (cat2_nil (k := 0)) rfl dL_law_1595 rfl (fun x1595 w1595 => ?_)
  refine r_iload 1600 1 dL_law_1598 rfl rfl ?_
  refine r_icmp_eq 1605 1603 dL_law_1600 (by decide) rfl ?_ ?_
  · refine r_iload 1607 1 dL_law_1605 rfl rfl ?_
    refine r_if_ne 1622 1610 dL_law_1607 (by decide) rfl ?_ ?_
    · exact r_lsP [2, 3, 4, 5, 6, 7] rfl (t_L_law_b1622 hl G k28 h28  v0 v1 v2 v3 v4 v5 w1595)
    refine r_aload_n 1611 5 dL_law_1610 rfl rfl rfl ?_
    refine r_iconst (v := 0) 1612 dL_law_1611 rfl rfl ?_
    refine r_jald 1613 dL_law_1612 rfl (fun x1612 => ?_)
    refine r_iload 1615 0 dL_law_1613 rfl rfl ?_
    refine r_i2l 1616 dL_law_1615 rfl ?_
    refine r_lcmp 1617 dL_law_1616 rfl ?_
    refine r_if_eq 1622 1620 dL_law_1617 (by decide) rfl ?_ ?_
    · exact r_lsP [2, 3, 4, 5, 6, 7] rfl (t_L_law_b1622 hl G k28 h28  v0 v1 v2 v3 v4 v5 w1595)
    exact r_lsP [] rfl (h1620 w1595)
  exact r_lsP [] rfl (h1603 w1595)
theorem t_L_law_b1678 {l : Launch} {D : Dn} {H0 : Heap} {w0 : St} (hl : l.stackTraces = false) (G : Nat) (k28 : Rf → Rf → Rf → Rf → Rf → Int32 → St → Option (Int32 × St)) (h28 : ∀ v0 v1 v2 v3 v4 v5 w, V_L_law l D H0 w0 (k28 v0 v1 v2 v3 v4 v5 w) 28 [(0, lR v0), (1, lR v1), (2, lR v2), (3, lR v3), (4, lR v4), (5, lI v5)] [] w) (v0 : Rf) (v1 : Rf) (v2 : Rf) (v3 : Rf) (v4 : Rf) (v5 : Int32) (w : St) : V_L_law l D H0 w0 (f_L_law_b1678 G k28 v0 v1 v2 v3 v4 v5 w) 1678 [(0, lR v0), (1, lR v1), (2, lR v2), (3, lR v3), (4, lR v4), (5, lI v5)] [] w := by
  unfold f_L_law_b1678
  refine r_goto 2530 dL_law_1678 (by decide) ?_
  exact r_lsP [0, 1, 2, 3, 4, 5] rfl (t_L_law_b2530 hl G k28 h28  v0 v1 v2 v3 v4 v5 w)
theorem t_L_law_b1625 {l : Launch} {D : Dn} {H0 : Heap} {w0 : St} (hl : l.stackTraces = false) (G : Nat) (k28 : Rf → Rf → Rf → Rf → Rf → Int32 → St → Option (Int32 × St)) (h28 : ∀ v0 v1 v2 v3 v4 v5 w, V_L_law l D H0 w0 (k28 v0 v1 v2 v3 v4 v5 w) 28 [(0, lR v0), (1, lR v1), (2, lR v2), (3, lR v3), (4, lR v4), (5, lI v5)] [] w) (k1659 : St → Option (Int32 × St)) (h1659 : ∀ w, V_L_law l D H0 w0 (k1659 w) 1659 [] [] w) (k1676 : St → Option (Int32 × St)) (h1676 : ∀ w, V_L_law l D H0 w0 (k1676 w) 1676 [] [] w) (v0 : Rf) (v1 : Rf) (v2 : Rf) (v3 : Rf) (v4 : Rf) (v5 : Int32) (w : St) : V_L_law l D H0 w0 (f_L_law_b1625 G k28 k1659 k1676 v0 v1 v2 v3 v4 v5 w) 1625 [(0, lR v0), (1, lR v1), (2, lR v2), (3, lR v3), (4, lR v4), (5, lI v5)] [] w := by
  unfold f_L_law_b1625
  refine r_aload_n 1626 1 dL_law_1625 rfl rfl rfl ?_
  refine r_aload_n 1627 0 dL_law_1626 rfl rfl rfl ?_
  refine r_iload 1629 5 dL_law_1627 rfl rfl ?_
  refine r_iconst (v := 1) 1630 dL_law_1629 rfl rfl ?_
  refine r_iadd 1631 dL_law_1630 rfl ?_
  refine r_iald 1632 dL_law_1631 rfl (fun x1631 => ?_)
  refine r_aload_n 1633 3 dL_law_1632 rfl rfl rfl ?_
  refine r_callSW (n := 3) (as := [lR v1, lI x1631, lR v3]) (rest := []) 1636 (s_X0_missedWith hl G v1 x1631 v3 w) (lw_SW q1750 q1751 q99 q1752) (by decide +kernel) (by decide) rfl rfl (cat2_nil (k := 0)) rfl dL_law_1633 rfl (fun x1633 w1633 => ?_)
  refine r_istore (ls2 := [(6, lI x1633), (0, lR v0), (1, lR v1), (2, lR v2), (3, lR v3), (4, lR v4), (5, lI v5)]) 1638 dL_law_1636 (by decide) rfl rfl ?_
  refine r_aload_n 1639 3 dL_law_1638 rfl rfl rfl ?_
  refine r_aload_n 1640 1 dL_law_1639 rfl rfl rfl ?_
  refine r_iload 1642 6 dL_law_1640 rfl rfl ?_
  refine r_iconst (v := 1) 1643 dL_law_1642 rfl rfl ?_
  refine r_iadd 1644 dL_law_1643 rfl ?_
  refine r_iald 1645 dL_law_1644 rfl (fun x1644 => ?_)
  refine r_gd (fun hc1645 => ?_)
  refine r_callV (n := 1) (as := [lI x1644]) (rest := []) 1648 26 (s_X3_missedWith hl G v2 x1644 w1633) hc1645 rfl (lw_V q2540 q2541 q2542 q110 q2543) (by decide +kernel) (by decide) rfl rfl (cat2_nil (k := 0)) rfl dL_law_1645 rfl (fun x1645 w1645 => ?_)
  refine r_istore (ls2 := [(7, lI x1645), (6, lI x1633), (0, lR v0), (1, lR v1), (2, lR v2), (3, lR v3), (4, lR v4), (5, lI v5)]) 1650 dL_law_1648 (by decide) rfl rfl ?_
  refine r_aload_n 1651 4 dL_law_1650 rfl rfl rfl ?_
  refine r_gd (fun hc1651 => ?_)
  refine r_callV (n := 0) (as := []) (rest := []) 1654 26 (s_X3_thrown hl G v2 w1645) hc1651 rfl (lw_V q2273 q2274 q2275 q110 q2276) (by decide +kernel) (by decide) rfl rfl (cat2_nil (k := 0)) rfl dL_law_1651 rfl (fun x1651 w1651 => ?_)
  refine r_iload 1656 1 dL_law_1654 rfl rfl ?_
  refine r_icmp_eq 1661 1659 dL_law_1656 (by decide) rfl ?_ ?_
  · refine r_iload 1663 1 dL_law_1661 rfl rfl ?_
    refine r_if_ne 1678 1666 dL_law_1663 (by decide) rfl ?_ ?_
    · exact r_lsP [2, 3, 4, 5, 6, 7] rfl (t_L_law_b1678 hl G k28 h28  v0 v1 v2 v3 v4 v5 w1651)
    refine r_aload_n 1667 5 dL_law_1666 rfl rfl rfl ?_
    refine r_iconst (v := 0) 1668 dL_law_1667 rfl rfl ?_
    refine r_jald 1669 dL_law_1668 rfl (fun x1668 => ?_)
    refine r_iload 1671 0 dL_law_1669 rfl rfl ?_
    refine r_i2l 1672 dL_law_1671 rfl ?_
    refine r_lcmp 1673 dL_law_1672 rfl ?_
    refine r_if_eq 1678 1676 dL_law_1673 (by decide) rfl ?_ ?_
    · exact r_lsP [2, 3, 4, 5, 6, 7] rfl (t_L_law_b1678 hl G k28 h28  v0 v1 v2 v3 v4 v5 w1651)
    exact r_lsP [] rfl (h1676 w1651)
  exact r_lsP [] rfl (h1659 w1651)
theorem t_L_law_b1734 {l : Launch} {D : Dn} {H0 : Heap} {w0 : St} (hl : l.stackTraces = false) (G : Nat) (k28 : Rf → Rf → Rf → Rf → Rf → Int32 → St → Option (Int32 × St)) (h28 : ∀ v0 v1 v2 v3 v4 v5 w, V_L_law l D H0 w0 (k28 v0 v1 v2 v3 v4 v5 w) 28 [(0, lR v0), (1, lR v1), (2, lR v2), (3, lR v3), (4, lR v4), (5, lI v5)] [] w) (v0 : Rf) (v1 : Rf) (v2 : Rf) (v3 : Rf) (v4 : Rf) (v5 : Int32) (w : St) : V_L_law l D H0 w0 (f_L_law_b1734 G k28 v0 v1 v2 v3 v4 v5 w) 1734 [(0, lR v0), (1, lR v1), (2, lR v2), (3, lR v3), (4, lR v4), (5, lI v5)] [] w := by
  unfold f_L_law_b1734
  refine r_goto 2530 dL_law_1734 (by decide) ?_
  exact r_lsP [0, 1, 2, 3, 4, 5] rfl (t_L_law_b2530 hl G k28 h28  v0 v1 v2 v3 v4 v5 w)
theorem t_L_law_b1681 {l : Launch} {D : Dn} {H0 : Heap} {w0 : St} (hl : l.stackTraces = false) (G : Nat) (k28 : Rf → Rf → Rf → Rf → Rf → Int32 → St → Option (Int32 × St)) (h28 : ∀ v0 v1 v2 v3 v4 v5 w, V_L_law l D H0 w0 (k28 v0 v1 v2 v3 v4 v5 w) 28 [(0, lR v0), (1, lR v1), (2, lR v2), (3, lR v3), (4, lR v4), (5, lI v5)] [] w) (k1715 : St → Option (Int32 × St)) (h1715 : ∀ w, V_L_law l D H0 w0 (k1715 w) 1715 [] [] w) (k1732 : St → Option (Int32 × St)) (h1732 : ∀ w, V_L_law l D H0 w0 (k1732 w) 1732 [] [] w) (v0 : Rf) (v1 : Rf) (v2 : Rf) (v3 : Rf) (v4 : Rf) (v5 : Int32) (w : St) : V_L_law l D H0 w0 (f_L_law_b1681 G k28 k1715 k1732 v0 v1 v2 v3 v4 v5 w) 1681 [(0, lR v0), (1, lR v1), (2, lR v2), (3, lR v3), (4, lR v4), (5, lI v5)] [] w := by
  unfold f_L_law_b1681
  refine r_aload_n 1682 1 dL_law_1681 rfl rfl rfl ?_
  refine r_aload_n 1683 0 dL_law_1682 rfl rfl rfl ?_
  refine r_iload 1685 5 dL_law_1683 rfl rfl ?_
  refine r_iconst (v := 1) 1686 dL_law_1685 rfl rfl ?_
  refine r_iadd 1687 dL_law_1686 rfl ?_
  refine r_iald 1688 dL_law_1687 rfl (fun x1687 => ?_)
  refine r_aload_n 1689 3 dL_law_1688 rfl rfl rfl ?_
  refine r_callSW (n := 3) (as := [lR v1, lI x1687, lR v3]) (rest := []) 1692 (s_X0_bestLimit hl G v1 x1687 v3 w) (lw_SW q1761 q1762 q99 q1763) (by decide +kernel) (by decide) rfl rfl (cat2_nil (k := 0)) rfl dL_law_1689 rfl (fun x1689 w1689 => ?_)
  refine r_istore (ls2 := [(6, lI x1689), (0, lR v0), (1, lR v1), (2, lR v2), (3, lR v3), (4, lR v4), (5, lI v5)]) 1694 dL_law_1692 (by decide) rfl rfl ?_
  refine r_aload_n 1695 3 dL_law_1694 rfl rfl rfl ?_
  refine r_aload_n 1696 1 dL_law_1695 rfl rfl rfl ?_
  refine r_iload 1698 6 dL_law_1696 rfl rfl ?_
  refine r_iconst (v := 1) 1699 dL_law_1698 rfl rfl ?_
  refine r_iadd 1700 dL_law_1699 rfl ?_
  refine r_iald 1701 dL_law_1700 rfl (fun x1700 => ?_)
  refine r_gd (fun hc1701 => ?_)
  refine r_callV (n := 1) (as := [lI x1700]) (rest := []) 1704 26 (s_X3_bestLimit hl G v2 x1700 w1689) hc1701 rfl (lw_V q2548 q2549 q2550 q110 q2551) (by decide +kernel) (by decide) rfl rfl (cat2_nil (k := 0)) rfl dL_law_1701 rfl (fun x1701 w1701 => ?_)
  refine r_istore (ls2 := [(7, lI x1701), (6, lI x1689), (0, lR v0), (1, lR v1), (2, lR v2), (3, lR v3), (4, lR v4), (5, lI v5)]) 1706 dL_law_1704 (by decide) rfl rfl ?_
  refine r_aload_n 1707 4 dL_law_1706 rfl rfl rfl ?_
  refine r_gd (fun hc1707 => ?_)
  refine r_callV (n := 0) (as := []) (rest := []) 1710 26 (s_X3_thrown hl G v2 w1701) hc1707 rfl (lw_V q2273 q2274 q2275 q110 q2276) (by decide +kernel) (by decide) rfl rfl (cat2_nil (k := 0)) rfl dL_law_1707 rfl (fun x1707 w1707 => ?_)
  refine r_iload 1712 1 dL_law_1710 rfl rfl ?_
  refine r_icmp_eq 1717 1715 dL_law_1712 (by decide) rfl ?_ ?_
  · refine r_iload 1719 1 dL_law_1717 rfl rfl ?_
    refine r_if_ne 1734 1722 dL_law_1719 (by decide) rfl ?_ ?_
    · exact r_lsP [2, 3, 4, 5, 6, 7] rfl (t_L_law_b1734 hl G k28 h28  v0 v1 v2 v3 v4 v5 w1707)
    refine r_aload_n 1723 5 dL_law_1722 rfl rfl rfl ?_
    refine r_iconst (v := 0) 1724 dL_law_1723 rfl rfl ?_
    refine r_jald 1725 dL_law_1724 rfl (fun x1724 => ?_)
    refine r_iload 1727 0 dL_law_1725 rfl rfl ?_
    refine r_i2l 1728 dL_law_1727 rfl ?_
    refine r_lcmp 1729 dL_law_1728 rfl ?_
    refine r_if_eq 1734 1732 dL_law_1729 (by decide) rfl ?_ ?_
    · exact r_lsP [2, 3, 4, 5, 6, 7] rfl (t_L_law_b1734 hl G k28 h28  v0 v1 v2 v3 v4 v5 w1707)
    exact r_lsP [] rfl (h1732 w1707)
  exact r_lsP [] rfl (h1715 w1707)
theorem t_L_law_b1790 {l : Launch} {D : Dn} {H0 : Heap} {w0 : St} (hl : l.stackTraces = false) (G : Nat) (k28 : Rf → Rf → Rf → Rf → Rf → Int32 → St → Option (Int32 × St)) (h28 : ∀ v0 v1 v2 v3 v4 v5 w, V_L_law l D H0 w0 (k28 v0 v1 v2 v3 v4 v5 w) 28 [(0, lR v0), (1, lR v1), (2, lR v2), (3, lR v3), (4, lR v4), (5, lI v5)] [] w) (v0 : Rf) (v1 : Rf) (v2 : Rf) (v3 : Rf) (v4 : Rf) (v5 : Int32) (w : St) : V_L_law l D H0 w0 (f_L_law_b1790 G k28 v0 v1 v2 v3 v4 v5 w) 1790 [(0, lR v0), (1, lR v1), (2, lR v2), (3, lR v3), (4, lR v4), (5, lI v5)] [] w := by
  unfold f_L_law_b1790
  refine r_goto 2530 dL_law_1790 (by decide) ?_
  exact r_lsP [0, 1, 2, 3, 4, 5] rfl (t_L_law_b2530 hl G k28 h28  v0 v1 v2 v3 v4 v5 w)
theorem t_L_law_b1737 {l : Launch} {D : Dn} {H0 : Heap} {w0 : St} (hl : l.stackTraces = false) (G : Nat) (k28 : Rf → Rf → Rf → Rf → Rf → Int32 → St → Option (Int32 × St)) (h28 : ∀ v0 v1 v2 v3 v4 v5 w, V_L_law l D H0 w0 (k28 v0 v1 v2 v3 v4 v5 w) 28 [(0, lR v0), (1, lR v1), (2, lR v2), (3, lR v3), (4, lR v4), (5, lI v5)] [] w) (k1771 : St → Option (Int32 × St)) (h1771 : ∀ w, V_L_law l D H0 w0 (k1771 w) 1771 [] [] w) (k1788 : St → Option (Int32 × St)) (h1788 : ∀ w, V_L_law l D H0 w0 (k1788 w) 1788 [] [] w) (v0 : Rf) (v1 : Rf) (v2 : Rf) (v3 : Rf) (v4 : Rf) (v5 : Int32) (w : St) : V_L_law l D H0 w0 (f_L_law_b1737 G k28 k1771 k1788 v0 v1 v2 v3 v4 v5 w) 1737 [(0, lR v0), (1, lR v1), (2, lR v2), (3, lR v3), (4, lR v4), (5, lI v5)] [] w := by
  unfold f_L_law_b1737
  refine r_aload_n 1738 1 dL_law_1737 rfl rfl rfl ?_
  refine r_aload_n 1739 0 dL_law_1738 rfl rfl rfl ?_
  refine r_iload 1741 5 dL_law_1739 rfl rfl ?_
  refine r_iconst (v := 1) 1742 dL_law_1741 rfl rfl ?_
  refine r_iadd 1743 dL_law_1742 rfl ?_
  refine r_iald 1744 dL_law_1743 rfl (fun x1743 => ?_)
  refine r_aload_n 1745 3 dL_law_1744 rfl rfl rfl ?_
  refine r_callSW (n := 3) (as := [lR v1, lI x1743, lR v3]) (rest := []) 1748 (s_X0_ranked hl G v1 x1743 v3 w) (lw_SW q1768 q1769 q99 q1770) (by decide +kernel) (by decide) rfl rfl (cat2_nil (k := 0)) rfl dL_law_1745 rfl (fun x1745 w1745 => ?_)
  refine r_istore (ls2 := [(6, lI x1745), (0, lR v0), (1, lR v1), (2, lR v2), (3, lR v3), (4, lR v4), (5, lI v5)]) 1750 dL_law_1748 (by decide) rfl rfl ?_
  refine r_aload_n 1751 3 dL_law_1750 rfl rfl rfl ?_
  refine r_aload_n 1752 1 dL_law_1751 rfl rfl rfl ?_
  refine r_iload 1754 6 dL_law_1752 rfl rfl ?_
  refine r_iconst (v := 1) 1755 dL_law_1754 rfl rfl ?_
  refine r_iadd 1756 dL_law_1755 rfl ?_
  refine r_iald 1757 dL_law_1756 rfl (fun x1756 => ?_)
  refine r_gd (fun hc1757 => ?_)
  refine r_callV (n := 1) (as := [lI x1756]) (rest := []) 1760 26 (s_X3_ranked hl G v2 x1756 w1745) hc1757 rfl (lw_V q2553 q2554 q2555 q110 q2556) (by decide +kernel) (by decide) rfl rfl (cat2_nil (k := 0)) rfl dL_law_1757 rfl (fun x1757 w1757 => ?_)
  refine r_istore (ls2 := [(7, lI x1757), (6, lI x1745), (0, lR v0), (1, lR v1), (2, lR v2), (3, lR v3), (4, lR v4), (5, lI v5)]) 1762 dL_law_1760 (by decide) rfl rfl ?_
  refine r_aload_n 1763 4 dL_law_1762 rfl rfl rfl ?_
  refine r_gd (fun hc1763 => ?_)
  refine r_callV (n := 0) (as := []) (rest := []) 1766 26 (s_X3_thrown hl G v2 w1757) hc1763 rfl (lw_V q2273 q2274 q2275 q110 q2276) (by decide +kernel) (by decide) rfl rfl (cat2_nil (k := 0)) rfl dL_law_1763 rfl (fun x1763 w1763 => ?_)
  refine r_iload 1768 1 dL_law_1766 rfl rfl ?_
  refine r_icmp_eq 1773 1771 dL_law_1768 (by decide) rfl ?_ ?_
  · refine r_iload 1775 1 dL_law_1773 rfl rfl ?_
    refine r_if_ne 1790 1778 dL_law_1775 (by decide) rfl ?_ ?_
    · exact r_lsP [2, 3, 4, 5, 6, 7] rfl (t_L_law_b1790 hl G k28 h28  v0 v1 v2 v3 v4 v5 w1763)
    refine r_aload_n 1779 5 dL_law_1778 rfl rfl rfl ?_
    refine r_iconst (v := 0) 1780 dL_law_1779 rfl rfl ?_
    refine r_jald 1781 dL_law_1780 rfl (fun x1780 => ?_)
    refine r_iload 1783 0 dL_law_1781 rfl rfl ?_
    refine r_i2l 1784 dL_law_1783 rfl ?_
    refine r_lcmp 1785 dL_law_1784 rfl ?_
    refine r_if_eq 1790 1788 dL_law_1785 (by decide) rfl ?_ ?_
    · exact r_lsP [2, 3, 4, 5, 6, 7] rfl (t_L_law_b1790 hl G k28 h28  v0 v1 v2 v3 v4 v5 w1763)
    exact r_lsP [] rfl (h1788 w1763)
  exact r_lsP [] rfl (h1771 w1763)
theorem t_L_law_b1846 {l : Launch} {D : Dn} {H0 : Heap} {w0 : St} (hl : l.stackTraces = false) (G : Nat) (k28 : Rf → Rf → Rf → Rf → Rf → Int32 → St → Option (Int32 × St)) (h28 : ∀ v0 v1 v2 v3 v4 v5 w, V_L_law l D H0 w0 (k28 v0 v1 v2 v3 v4 v5 w) 28 [(0, lR v0), (1, lR v1), (2, lR v2), (3, lR v3), (4, lR v4), (5, lI v5)] [] w) (v0 : Rf) (v1 : Rf) (v2 : Rf) (v3 : Rf) (v4 : Rf) (v5 : Int32) (w : St) : V_L_law l D H0 w0 (f_L_law_b1846 G k28 v0 v1 v2 v3 v4 v5 w) 1846 [(0, lR v0), (1, lR v1), (2, lR v2), (3, lR v3), (4, lR v4), (5, lI v5)] [] w := by
  unfold f_L_law_b1846
  refine r_goto 2530 dL_law_1846 (by decide) ?_
  exact r_lsP [0, 1, 2, 3, 4, 5] rfl (t_L_law_b2530 hl G k28 h28  v0 v1 v2 v3 v4 v5 w)
theorem t_L_law_b1793 {l : Launch} {D : Dn} {H0 : Heap} {w0 : St} (hl : l.stackTraces = false) (G : Nat) (k28 : Rf → Rf → Rf → Rf → Rf → Int32 → St → Option (Int32 × St)) (h28 : ∀ v0 v1 v2 v3 v4 v5 w, V_L_law l D H0 w0 (k28 v0 v1 v2 v3 v4 v5 w) 28 [(0, lR v0), (1, lR v1), (2, lR v2), (3, lR v3), (4, lR v4), (5, lI v5)] [] w) (k1827 : St → Option (Int32 × St)) (h1827 : ∀ w, V_L_law l D H0 w0 (k1827 w) 1827 [] [] w) (k1844 : St → Option (Int32 × St)) (h1844 : ∀ w, V_L_law l D H0 w0 (k1844 w) 1844 [] [] w) (v0 : Rf) (v1 : Rf) (v2 : Rf) (v3 : Rf) (v4 : Rf) (v5 : Int32) (w : St) : V_L_law l D H0 w0 (f_L_law_b1793 G k28 k1827 k1844 v0 v1 v2 v3 v4 v5 w) 1793 [(0, lR v0), (1, lR v1), (2, lR v2), (3, lR v3), (4, lR v4), (5, lI v5)] [] w := by
  unfold f_L_law_b1793
  refine r_aload_n 1794 1 dL_law_1793 rfl rfl rfl ?_
  refine r_aload_n 1795 0 dL_law_1794 rfl rfl rfl ?_
  refine r_iload 1797 5 dL_law_1795 rfl rfl ?_
  refine r_iconst (v := 1) 1798 dL_law_1797 rfl rfl ?_
  refine r_iadd 1799 dL_law_1798 rfl ?_
  refine r_iald 1800 dL_law_1799 rfl (fun x1799 => ?_)
  refine r_aload_n 1801 3 dL_law_1800 rfl rfl rfl ?_
  refine r_callSW (n := 3) (as := [lR v1, lI x1799, lR v3]) (rest := []) 1804 (s_X0_tightest hl G v1 x1799 v3 w) (lw_SW q1779 q1780 q99 q1781) (by decide +kernel) (by decide) rfl rfl (cat2_nil (k := 0)) rfl dL_law_1801 rfl (fun x1801 w1801 => ?_)
  refine r_istore (ls2 := [(6, lI x1801), (0, lR v0), (1, lR v1), (2, lR v2), (3, lR v3), (4, lR v4), (5, lI v5)]) 1806 dL_law_1804 (by decide) rfl rfl ?_
  refine r_aload_n 1807 3 dL_law_1806 rfl rfl rfl ?_
  refine r_aload_n 1808 1 dL_law_1807 rfl rfl rfl ?_
  refine r_iload 1810 6 dL_law_1808 rfl rfl ?_
  refine r_iconst (v := 1) 1811 dL_law_1810 rfl rfl ?_
  refine r_iadd 1812 dL_law_1811 rfl ?_
  refine r_iald 1813 dL_law_1812 rfl (fun x1812 => ?_)
  refine r_gd (fun hc1813 => ?_)
  refine r_callV (n := 1) (as := [lI x1812]) (rest := []) 1816 26 (s_X3_tightest hl G v2 x1812 w1801) hc1813 rfl (lw_V q2557 q2558 q2559 q110 q2560) (by decide +kernel) (by decide) rfl rfl (cat2_nil (k := 0)) rfl dL_law_1813 rfl (fun x1813 w1813 => ?_)
  refine r_istore (ls2 := [(7, lI x1813), (6, lI x1801), (0, lR v0), (1, lR v1), (2, lR v2), (3, lR v3), (4, lR v4), (5, lI v5)]) 1818 dL_law_1816 (by decide) rfl rfl ?_
  refine r_aload_n 1819 4 dL_law_1818 rfl rfl rfl ?_
  refine r_gd (fun hc1819 => ?_)
  refine r_callV (n := 0) (as := []) (rest := []) 1822 26 (s_X3_thrown hl G v2 w1813) hc1819 rfl (lw_V q2273 q2274 q2275 q110 q2276) (by decide +kernel) (by decide) rfl rfl (cat2_nil (k := 0)) rfl dL_law_1819 rfl (fun x1819 w1819 => ?_)
  refine r_iload 1824 1 dL_law_1822 rfl rfl ?_
  refine r_icmp_eq 1829 1827 dL_law_1824 (by decide) rfl ?_ ?_
  · refine r_iload 1831 1 dL_law_1829 rfl rfl ?_
    refine r_if_ne 1846 1834 dL_law_1831 (by decide) rfl ?_ ?_
    · exact r_lsP [2, 3, 4, 5, 6, 7] rfl (t_L_law_b1846 hl G k28 h28  v0 v1 v2 v3 v4 v5 w1819)
    refine r_aload_n 1835 5 dL_law_1834 rfl rfl rfl ?_
    refine r_iconst (v := 0) 1836 dL_law_1835 rfl rfl ?_
    refine r_jald 1837 dL_law_1836 rfl (fun x1836 => ?_)
    refine r_iload 1839 0 dL_law_1837 rfl rfl ?_
    refine r_i2l 1840 dL_law_1839 rfl ?_
    refine r_lcmp 1841 dL_law_1840 rfl ?_
    refine r_if_eq 1846 1844 dL_law_1841 (by decide) rfl ?_ ?_
    · exact r_lsP [2, 3, 4, 5, 6, 7] rfl (t_L_law_b1846 hl G k28 h28  v0 v1 v2 v3 v4 v5 w1819)
    exact r_lsP [] rfl (h1844 w1819)
  exact r_lsP [] rfl (h1827 w1819)
theorem t_L_law_b1902 {l : Launch} {D : Dn} {H0 : Heap} {w0 : St} (hl : l.stackTraces = false) (G : Nat) (k28 : Rf → Rf → Rf → Rf → Rf → Int32 → St → Option (Int32 × St)) (h28 : ∀ v0 v1 v2 v3 v4 v5 w, V_L_law l D H0 w0 (k28 v0 v1 v2 v3 v4 v5 w) 28 [(0, lR v0), (1, lR v1), (2, lR v2), (3, lR v3), (4, lR v4), (5, lI v5)] [] w) (v0 : Rf) (v1 : Rf) (v2 : Rf) (v3 : Rf) (v4 : Rf) (v5 : Int32) (w : St) : V_L_law l D H0 w0 (f_L_law_b1902 G k28 v0 v1 v2 v3 v4 v5 w) 1902 [(0, lR v0), (1, lR v1), (2, lR v2), (3, lR v3), (4, lR v4), (5, lI v5)] [] w := by
  unfold f_L_law_b1902
  refine r_goto 2530 dL_law_1902 (by decide) ?_
  exact r_lsP [0, 1, 2, 3, 4, 5] rfl (t_L_law_b2530 hl G k28 h28  v0 v1 v2 v3 v4 v5 w)
theorem t_L_law_b1849 {l : Launch} {D : Dn} {H0 : Heap} {w0 : St} (hl : l.stackTraces = false) (G : Nat) (k28 : Rf → Rf → Rf → Rf → Rf → Int32 → St → Option (Int32 × St)) (h28 : ∀ v0 v1 v2 v3 v4 v5 w, V_L_law l D H0 w0 (k28 v0 v1 v2 v3 v4 v5 w) 28 [(0, lR v0), (1, lR v1), (2, lR v2), (3, lR v3), (4, lR v4), (5, lI v5)] [] w) (k1883 : St → Option (Int32 × St)) (h1883 : ∀ w, V_L_law l D H0 w0 (k1883 w) 1883 [] [] w) (k1900 : St → Option (Int32 × St)) (h1900 : ∀ w, V_L_law l D H0 w0 (k1900 w) 1900 [] [] w) (v0 : Rf) (v1 : Rf) (v2 : Rf) (v3 : Rf) (v4 : Rf) (v5 : Int32) (w : St) : V_L_law l D H0 w0 (f_L_law_b1849 G k28 k1883 k1900 v0 v1 v2 v3 v4 v5 w) 1849 [(0, lR v0), (1, lR v1), (2, lR v2), (3, lR v3), (4, lR v4), (5, lI v5)] [] w := by
  unfold f_L_law_b1849
  refine r_aload_n 1850 1 dL_law_1849 rfl rfl rfl ?_
  refine r_aload_n 1851 0 dL_law_1850 rfl rfl rfl ?_
  refine r_iload 1853 5 dL_law_1851 rfl rfl ?_
  refine r_iconst (v := 1) 1854 dL_law_1853 rfl rfl ?_
  refine r_iadd 1855 dL_law_1854 rfl ?_
  refine r_iald 1856 dL_law_1855 rfl (fun x1855 => ?_)
  refine r_aload_n 1857 3 dL_law_1856 rfl rfl rfl ?_
  refine r_callSW (n := 3) (as := [lR v1, lI x1855, lR v3]) (rest := []) 1860 (s_X0_event hl G v1 x1855 v3 w) (lw_SW q1790 q1791 q99 q1792) (by decide +kernel) (by decide) rfl rfl (cat2_nil (k := 0)) rfl dL_law_1857 rfl (fun x1857 w1857 => ?_)
  refine r_istore (ls2 := [(6, lI x1857), (0, lR v0), (1, lR v1), (2, lR v2), (3, lR v3), (4, lR v4), (5, lI v5)]) 1862 dL_law_1860 (by decide) rfl rfl ?_
  refine r_aload_n 1863 3 dL_law_1862 rfl rfl rfl ?_
  refine r_aload_n 1864 1 dL_law_1863 rfl rfl rfl ?_
  refine r_iload 1866 6 dL_law_1864 rfl rfl ?_
  refine r_iconst (v := 1) 1867 dL_law_1866 rfl rfl ?_
  refine r_iadd 1868 dL_law_1867 rfl ?_
  refine r_iald 1869 dL_law_1868 rfl (fun x1868 => ?_)
  refine r_gd (fun hc1869 => ?_)
  refine r_callV (n := 1) (as := [lI x1868]) (rest := []) 1872 26 (s_X3_event hl G v2 x1868 w1857) hc1869 rfl (lw_V q2561 q2562 q2563 q110 q2564) (by decide +kernel) (by decide) rfl rfl (cat2_nil (k := 0)) rfl dL_law_1869 rfl (fun x1869 w1869 => ?_)
  refine r_istore (ls2 := [(7, lI x1869), (6, lI x1857), (0, lR v0), (1, lR v1), (2, lR v2), (3, lR v3), (4, lR v4), (5, lI v5)]) 1874 dL_law_1872 (by decide) rfl rfl ?_
  refine r_aload_n 1875 4 dL_law_1874 rfl rfl rfl ?_
  refine r_gd (fun hc1875 => ?_)
  refine r_callV (n := 0) (as := []) (rest := []) 1878 26 (s_X3_thrown hl G v2 w1869) hc1875 rfl (lw_V q2273 q2274 q2275 q110 q2276) (by decide +kernel) (by decide) rfl rfl (cat2_nil (k := 0)) rfl dL_law_1875 rfl (fun x1875 w1875 => ?_)
  refine r_iload 1880 1 dL_law_1878 rfl rfl ?_
  refine r_icmp_eq 1885 1883 dL_law_1880 (by decide) rfl ?_ ?_
  · refine r_iload 1887 1 dL_law_1885 rfl rfl ?_
    refine r_if_ne 1902 1890 dL_law_1887 (by decide) rfl ?_ ?_
    · exact r_lsP [2, 3, 4, 5, 6, 7] rfl (t_L_law_b1902 hl G k28 h28  v0 v1 v2 v3 v4 v5 w1875)
    refine r_aload_n 1891 5 dL_law_1890 rfl rfl rfl ?_
    refine r_iconst (v := 0) 1892 dL_law_1891 rfl rfl ?_
    refine r_jald 1893 dL_law_1892 rfl (fun x1892 => ?_)
    refine r_iload 1895 0 dL_law_1893 rfl rfl ?_
    refine r_i2l 1896 dL_law_1895 rfl ?_
    refine r_lcmp 1897 dL_law_1896 rfl ?_
    refine r_if_eq 1902 1900 dL_law_1897 (by decide) rfl ?_ ?_
    · exact r_lsP [2, 3, 4, 5, 6, 7] rfl (t_L_law_b1902 hl G k28 h28  v0 v1 v2 v3 v4 v5 w1875)
    exact r_lsP [] rfl (h1900 w1875)
  exact r_lsP [] rfl (h1883 w1875)
theorem t_L_law_b1905 {l : Launch} {D : Dn} {H0 : Heap} {w0 : St} (hl : l.stackTraces = false) (G : Nat) (k28 : Rf → Rf → Rf → Rf → Rf → Int32 → St → Option (Int32 × St)) (h28 : ∀ v0 v1 v2 v3 v4 v5 w, V_L_law l D H0 w0 (k28 v0 v1 v2 v3 v4 v5 w) 28 [(0, lR v0), (1, lR v1), (2, lR v2), (3, lR v3), (4, lR v4), (5, lI v5)] [] w) (k1916 : St → Option (Int32 × St)) (h1916 : ∀ w, V_L_law l D H0 w0 (k1916 w) 1916 [] [] w) (v0 : Rf) (v1 : Rf) (v2 : Rf) (v3 : Rf) (v4 : Rf) (v5 : Int32) (w : St) : V_L_law l D H0 w0 (f_L_law_b1905 G k28 k1916 v0 v1 v2 v3 v4 v5 w) 1905 [(0, lR v0), (1, lR v1), (2, lR v2), (3, lR v3), (4, lR v4), (5, lI v5)] [] w := by
  unfold f_L_law_b1905
  refine r_aload_n 1906 1 dL_law_1905 rfl rfl rfl ?_
  refine r_gd (fun hc1906 => ?_)
  refine r_callV (n := 0) (as := []) (rest := []) 1909 0 (s_X1_isTold hl G v1 w) hc1906 rfl (lw_V q849 q850 q851 q100 q852) (by decide +kernel) (by decide) rfl rfl (cat2_nil (k := 0)) rfl dL_law_1906 rfl (fun x1906 w1906 => ?_)
  refine r_aload_n 1910 2 dL_law_1909 rfl rfl rfl ?_
  refine r_gd (fun hc1910 => ?_)
  refine r_callV (n := 0) (as := []) (rest := [.int x1906]) 1913 26 (s_X3_isTold hl G v2 w1906) hc1910 rfl (lw_V q2569 q2570 q2571 q110 q2572) (by decide +kernel) (by decide) rfl rfl (cat2_i (cat2_nil (k := 0))) rfl dL_law_1910 rfl (fun x1910 w1910 => ?_)
  refine r_icmp_eq 2530 1916 dL_law_1913 (by decide) rfl ?_ ?_
  · exact r_lsP [0, 1, 2, 3, 4, 5] rfl (t_L_law_b2530 hl G k28 h28  v0 v1 v2 v3 v4 v5 w1910)
  exact r_lsP [] rfl (h1916 w1910)
theorem t_L_law_b1973 {l : Launch} {D : Dn} {H0 : Heap} {w0 : St} (hl : l.stackTraces = false) (G : Nat) (k28 : Rf → Rf → Rf → Rf → Rf → Int32 → St → Option (Int32 × St)) (h28 : ∀ v0 v1 v2 v3 v4 v5 w, V_L_law l D H0 w0 (k28 v0 v1 v2 v3 v4 v5 w) 28 [(0, lR v0), (1, lR v1), (2, lR v2), (3, lR v3), (4, lR v4), (5, lI v5)] [] w) (v0 : Rf) (v1 : Rf) (v2 : Rf) (v3 : Rf) (v4 : Rf) (v5 : Int32) (w : St) : V_L_law l D H0 w0 (f_L_law_b1973 G k28 v0 v1 v2 v3 v4 v5 w) 1973 [(0, lR v0), (1, lR v1), (2, lR v2), (3, lR v3), (4, lR v4), (5, lI v5)] [] w := by
  unfold f_L_law_b1973
  refine r_goto 2530 dL_law_1973 (by decide) ?_
  exact r_lsP [0, 1, 2, 3, 4, 5] rfl (t_L_law_b2530 hl G k28 h28  v0 v1 v2 v3 v4 v5 w)
theorem t_L_law_b1918 {l : Launch} {D : Dn} {H0 : Heap} {w0 : St} (hl : l.stackTraces = false) (G : Nat) (k28 : Rf → Rf → Rf → Rf → Rf → Int32 → St → Option (Int32 × St)) (h28 : ∀ v0 v1 v2 v3 v4 v5 w, V_L_law l D H0 w0 (k28 v0 v1 v2 v3 v4 v5 w) 28 [(0, lR v0), (1, lR v1), (2, lR v2), (3, lR v3), (4, lR v4), (5, lI v5)] [] w) (k1954 : St → Option (Int32 × St)) (h1954 : ∀ w, V_L_law l D H0 w0 (k1954 w) 1954 [] [] w) (k1971 : St → Option (Int32 × St)) (h1971 : ∀ w, V_L_law l D H0 w0 (k1971 w) 1971 [] [] w) (v0 : Rf) (v1 : Rf) (v2 : Rf) (v3 : Rf) (v4 : Rf) (v5 : Int32) (w : St) : V_L_law l D H0 w0 (f_L_law_b1918 G k28 k1954 k1971 v0 v1 v2 v3 v4 v5 w) 1918 [(0, lR v0), (1, lR v1), (2, lR v2), (3, lR v3), (4, lR v4), (5, lI v5)] [] w := by
  unfold f_L_law_b1918
  refine r_aload_n 1919 1 dL_law_1918 rfl rfl rfl ?_
  refine r_aload_n 1920 0 dL_law_1919 rfl rfl rfl ?_
  refine r_iload 1922 5 dL_law_1920 rfl rfl ?_
  refine r_iconst (v := 1) 1923 dL_law_1922 rfl rfl ?_
  refine r_iadd 1924 dL_law_1923 rfl ?_
  refine r_iald 1925 dL_law_1924 rfl (fun x1924 => ?_)
  refine r_i2c 1926 dL_law_1925 rfl ?_
  refine r_aload_n 1927 3 dL_law_1926 rfl rfl rfl ?_
  refine r_callSW (n := 3) (as := [lR v1, lI ((x1924.toUInt32 % 65536).toInt32), lR v3]) (rest := []) 1930 (s_X0_append hl G v1 ((x1924.toUInt32 % 65536).toInt32) v3 w) (lw_SW q1801 q1802 q99 q1803) (by decide +kernel) (by decide) rfl rfl (cat2_nil (k := 0)) rfl dL_law_1927 rfl (fun x1927 w1927 => ?_)
  refine r_istore (ls2 := [(6, lI x1927), (0, lR v0), (1, lR v1), (2, lR v2), (3, lR v3), (4, lR v4), (5, lI v5)]) 1932 dL_law_1930 (by decide) rfl rfl ?_
  refine r_aload_n 1933 3 dL_law_1932 rfl rfl rfl ?_
  refine r_aload_n 1934 1 dL_law_1933 rfl rfl rfl ?_
  refine r_iload 1936 6 dL_law_1934 rfl rfl ?_
  refine r_iconst (v := 1) 1937 dL_law_1936 rfl rfl ?_
  refine r_iadd 1938 dL_law_1937 rfl ?_
  refine r_iald 1939 dL_law_1938 rfl (fun x1938 => ?_)
  refine r_i2c 1940 dL_law_1939 rfl ?_
  refine r_gd (fun hc1940 => ?_)
  refine r_callV (n := 1) (as := [lI ((x1938.toUInt32 % 65536).toInt32)]) (rest := []) 1943 26 (s_X3_append hl G v2 ((x1938.toUInt32 % 65536).toInt32) w1927) hc1940 rfl (lw_V q2573 q2574 q2575 q110 q2576) (by decide +kernel) (by decide) rfl rfl (cat2_nil (k := 0)) rfl dL_law_1940 rfl (fun x1940 w1940 => ?_)
  refine r_istore (ls2 := [(7, lI x1940), (6, lI x1927), (0, lR v0), (1, lR v1), (2, lR v2), (3, lR v3), (4, lR v4), (5, lI v5)]) 1945 dL_law_1943 (by decide) rfl rfl ?_
  refine r_aload_n 1946 4 dL_law_1945 rfl rfl rfl ?_
  refine r_gd (fun hc1946 => ?_)
  refine r_callV (n := 0) (as := []) (rest := []) 1949 26 (s_X3_thrown hl G v2 w1940) hc1946 rfl (lw_V q2273 q2274 q2275 q110 q2276) (by decide +kernel) (by decide) rfl rfl (cat2_nil (k := 0)) rfl dL_law_1946 rfl (fun x1946 w1946 => ?_)
  refine r_iload 1951 1 dL_law_1949 rfl rfl ?_
  refine r_icmp_eq 1956 1954 dL_law_1951 (by decide) rfl ?_ ?_
  · refine r_iload 1958 1 dL_law_1956 rfl rfl ?_
    refine r_if_ne 1973 1961 dL_law_1958 (by decide) rfl ?_ ?_
    · exact r_lsP [2, 3, 4, 5, 6, 7] rfl (t_L_law_b1973 hl G k28 h28  v0 v1 v2 v3 v4 v5 w1946)
    refine r_aload_n 1962 5 dL_law_1961 rfl rfl rfl ?_
    refine r_iconst (v := 0) 1963 dL_law_1962 rfl rfl ?_
    refine r_jald 1964 dL_law_1963 rfl (fun x1963 => ?_)
    refine r_iload 1966 0 dL_law_1964 rfl rfl ?_
    refine r_i2l 1967 dL_law_1966 rfl ?_
    refine r_lcmp 1968 dL_law_1967 rfl ?_
    refine r_if_eq 1973 1971 dL_law_1968 (by decide) rfl ?_ ?_
    · exact r_lsP [2, 3, 4, 5, 6, 7] rfl (t_L_law_b1973 hl G k28 h28  v0 v1 v2 v3 v4 v5 w1946)
    exact r_lsP [] rfl (h1971 w1946)
  exact r_lsP [] rfl (h1954 w1946)
theorem t_L_law_b2017 {l : Launch} {D : Dn} {H0 : Heap} {w0 : St} (hl : l.stackTraces = false) (G : Nat) (k28 : Rf → Rf → Rf → Rf → Rf → Int32 → St → Option (Int32 × St)) (h28 : ∀ v0 v1 v2 v3 v4 v5 w, V_L_law l D H0 w0 (k28 v0 v1 v2 v3 v4 v5 w) 28 [(0, lR v0), (1, lR v1), (2, lR v2), (3, lR v3), (4, lR v4), (5, lI v5)] [] w) (v0 : Rf) (v1 : Rf) (v2 : Rf) (v3 : Rf) (v4 : Rf) (v5 : Int32) (w : St) : V_L_law l D H0 w0 (f_L_law_b2017 G k28 v0 v1 v2 v3 v4 v5 w) 2017 [(0, lR v0), (1, lR v1), (2, lR v2), (3, lR v3), (4, lR v4), (5, lI v5)] [] w := by
  unfold f_L_law_b2017
  refine r_goto 2530 dL_law_2017 (by decide) ?_
  exact r_lsP [0, 1, 2, 3, 4, 5] rfl (t_L_law_b2530 hl G k28 h28  v0 v1 v2 v3 v4 v5 w)
theorem t_L_law_b1976 {l : Launch} {D : Dn} {H0 : Heap} {w0 : St} (hl : l.stackTraces = false) (G : Nat) (k28 : Rf → Rf → Rf → Rf → Rf → Int32 → St → Option (Int32 × St)) (h28 : ∀ v0 v1 v2 v3 v4 v5 w, V_L_law l D H0 w0 (k28 v0 v1 v2 v3 v4 v5 w) 28 [(0, lR v0), (1, lR v1), (2, lR v2), (3, lR v3), (4, lR v4), (5, lI v5)] [] w) (k1998 : St → Option (Int32 × St)) (h1998 : ∀ w, V_L_law l D H0 w0 (k1998 w) 1998 [] [] w) (k2015 : St → Option (Int32 × St)) (h2015 : ∀ w, V_L_law l D H0 w0 (k2015 w) 2015 [] [] w) (v0 : Rf) (v1 : Rf) (v2 : Rf) (v3 : Rf) (v4 : Rf) (v5 : Int32) (w : St) : V_L_law l D H0 w0 (f_L_law_b1976 G k28 k1998 k2015 v0 v1 v2 v3 v4 v5 w) 1976 [(0, lR v0), (1, lR v1), (2, lR v2), (3, lR v3), (4, lR v4), (5, lI v5)] [] w := by
  unfold f_L_law_b1976
  refine r_aload_n 1977 1 dL_law_1976 rfl rfl rfl ?_
  refine r_aload_n 1978 3 dL_law_1977 rfl rfl rfl ?_
  refine r_callSW (n := 2) (as := [lR v1, lR v3]) (rest := []) 1981 (s_X0_run hl G v1 v3 w) (lw_SW q1817 q1818 q99 q1819) (by decide +kernel) (by decide) rfl rfl (cat2_nil (k := 0)) rfl dL_law_1978 rfl (fun x1978 w1978 => ?_)
  refine r_istore (ls2 := [(6, lI x1978), (0, lR v0), (1, lR v1), (2, lR v2), (3, lR v3), (4, lR v4), (5, lI v5)]) 1983 dL_law_1981 (by decide) rfl rfl ?_
  refine r_aload_n 1984 3 dL_law_1983 rfl rfl rfl ?_
  refine r_gd (fun hc1984 => ?_)
  refine r_callV (n := 0) (as := []) (rest := []) 1987 26 (s_X3_run hl G v2 w1978) hc1984 rfl (lw_V q2579 q2580 q2581 q110 q2582) (by decide +kernel) (by decide) rfl rfl (cat2_nil (k := 0)) rfl dL_law_1984 rfl (fun x1984 w1984 => ?_)
  refine r_istore (ls2 := [(7, lI x1984), (6, lI x1978), (0, lR v0), (1, lR v1), (2, lR v2), (3, lR v3), (4, lR v4), (5, lI v5)]) 1989 dL_law_1987 (by decide) rfl rfl ?_
  refine r_aload_n 1990 4 dL_law_1989 rfl rfl rfl ?_
  refine r_gd (fun hc1990 => ?_)
  refine r_callV (n := 0) (as := []) (rest := []) 1993 26 (s_X3_thrown hl G v2 w1984) hc1990 rfl (lw_V q2273 q2274 q2275 q110 q2276) (by decide +kernel) (by decide) rfl rfl (cat2_nil (k := 0)) rfl dL_law_1990 rfl (fun x1990 w1990 => ?_)
  refine r_iload 1995 1 dL_law_1993 rfl rfl ?_
  refine r_icmp_eq 2000 1998 dL_law_1995 (by decide) rfl ?_ ?_
  · refine r_iload 2002 1 dL_law_2000 rfl rfl ?_
    refine r_if_ne 2017 2005 dL_law_2002 (by decide) rfl ?_ ?_
    · exact r_lsP [2, 3, 4, 5, 6, 7] rfl (t_L_law_b2017 hl G k28 h28  v0 v1 v2 v3 v4 v5 w1990)
    refine r_aload_n 2006 5 dL_law_2005 rfl rfl rfl ?_
    refine r_iconst (v := 0) 2007 dL_law_2006 rfl rfl ?_
    refine r_jald 2008 dL_law_2007 rfl (fun x2007 => ?_)
    refine r_iload 2010 0 dL_law_2008 rfl rfl ?_
    refine r_i2l 2011 dL_law_2010 rfl ?_
    refine r_lcmp 2012 dL_law_2011 rfl ?_
    refine r_if_eq 2017 2015 dL_law_2012 (by decide) rfl ?_ ?_
    · exact r_lsP [2, 3, 4, 5, 6, 7] rfl (t_L_law_b2017 hl G k28 h28  v0 v1 v2 v3 v4 v5 w1990)
    exact r_lsP [] rfl (h2015 w1990)
  exact r_lsP [] rfl (h1998 w1990)
theorem t_L_law_b2020 {l : Launch} {D : Dn} {H0 : Heap} {w0 : St} (hl : l.stackTraces = false) (G : Nat) (k28 : Rf → Rf → Rf → Rf → Rf → Int32 → St → Option (Int32 × St)) (h28 : ∀ v0 v1 v2 v3 v4 v5 w, V_L_law l D H0 w0 (k28 v0 v1 v2 v3 v4 v5 w) 28 [(0, lR v0), (1, lR v1), (2, lR v2), (3, lR v3), (4, lR v4), (5, lI v5)] [] w) (k2031 : St → Option (Int32 × St)) (h2031 : ∀ w, V_L_law l D H0 w0 (k2031 w) 2031 [] [] w) (v0 : Rf) (v1 : Rf) (v2 : Rf) (v3 : Rf) (v4 : Rf) (v5 : Int32) (w : St) : V_L_law l D H0 w0 (f_L_law_b2020 G k28 k2031 v0 v1 v2 v3 v4 v5 w) 2020 [(0, lR v0), (1, lR v1), (2, lR v2), (3, lR v3), (4, lR v4), (5, lI v5)] [] w := by
  unfold f_L_law_b2020
  refine r_aload_n 2021 1 dL_law_2020 rfl rfl rfl ?_
  refine r_gd (fun hc2021 => ?_)
  refine r_callV (n := 0) (as := []) (rest := []) 2024 0 (s_X1_faultPosition hl G v1 w) hc2021 rfl (lw_V q861 q862 q863 q100 q864) (by decide +kernel) (by decide) rfl rfl (cat2_nil (k := 0)) rfl dL_law_2021 rfl (fun x2021 w2021 => ?_)
  refine r_aload_n 2025 2 dL_law_2024 rfl rfl rfl ?_
  refine r_gd (fun hc2025 => ?_)
  refine r_callV (n := 0) (as := []) (rest := [.int x2021]) 2028 26 (s_X3_faultPosition hl G v2 w2021) hc2025 rfl (lw_V q2625 q2626 q2627 q110 q2628) (by decide +kernel) (by decide) rfl rfl (cat2_i (cat2_nil (k := 0))) rfl dL_law_2025 rfl (fun x2025 w2025 => ?_)
  refine r_icmp_eq 2530 2031 dL_law_2028 (by decide) rfl ?_ ?_
  · exact r_lsP [0, 1, 2, 3, 4, 5] rfl (t_L_law_b2530 hl G k28 h28  v0 v1 v2 v3 v4 v5 w2025)
  exact r_lsP [] rfl (h2031 w2025)
theorem t_L_law_b2114 {l : Launch} {D : Dn} {H0 : Heap} {w0 : St} (hl : l.stackTraces = false) (G : Nat) (k28 : Rf → Rf → Rf → Rf → Rf → Int32 → St → Option (Int32 × St)) (h28 : ∀ v0 v1 v2 v3 v4 v5 w, V_L_law l D H0 w0 (k28 v0 v1 v2 v3 v4 v5 w) 28 [(0, lR v0), (1, lR v1), (2, lR v2), (3, lR v3), (4, lR v4), (5, lI v5)] [] w) (v0 : Rf) (v1 : Rf) (v2 : Rf) (v3 : Rf) (v4 : Rf) (v5 : Int32) (w : St) : V_L_law l D H0 w0 (f_L_law_b2114 G k28 v0 v1 v2 v3 v4 v5 w) 2114 [(0, lR v0), (1, lR v1), (2, lR v2), (3, lR v3), (4, lR v4), (5, lI v5)] [] w := by
  unfold f_L_law_b2114
  refine r_goto 2530 dL_law_2114 (by decide) ?_
  exact r_lsP [0, 1, 2, 3, 4, 5] rfl (t_L_law_b2530 hl G k28 h28  v0 v1 v2 v3 v4 v5 w)
theorem t_L_law_b2081 {l : Launch} {D : Dn} {H0 : Heap} {w0 : St} (hl : l.stackTraces = false) (G : Nat) (k28 : Rf → Rf → Rf → Rf → Rf → Int32 → St → Option (Int32 × St)) (h28 : ∀ v0 v1 v2 v3 v4 v5 w, V_L_law l D H0 w0 (k28 v0 v1 v2 v3 v4 v5 w) 28 [(0, lR v0), (1, lR v1), (2, lR v2), (3, lR v3), (4, lR v4), (5, lI v5)] [] w) (k2095 : St → Option (Int32 × St)) (h2095 : ∀ w, V_L_law l D H0 w0 (k2095 w) 2095 [] [] w) (k2112 : St → Option (Int32 × St)) (h2112 : ∀ w, V_L_law l D H0 w0 (k2112 w) 2112 [] [] w) (v0 : Rf) (v1 : Rf) (v2 : Rf) (v3 : Rf) (v4 : Rf) (v5 : Int32) (v6 : Int32) (s0 : Int32) (s1 : Int32) (s2 : Rf) (w : St) : V_L_law l D H0 w0 (f_L_law_b2081 G k28 k2095 k2112 v0 v1 v2 v3 v4 v5 v6 s0 s1 s2 w) 2081 [(0, lR v0), (1, lR v1), (2, lR v2), (3, lR v3), (4, lR v4), (5, lI v5), (6, lI v6)] [.int s0, .int s1, rf s2] w := by
  unfold f_L_law_b2081
  refine r_gd (fun hc2081 => ?_)
  refine r_callV (n := 2) (as := [lI s1, lI s0]) (rest := []) 2084 26 (s_X3_reason hl G s2 s1 s0 w) hc2081 rfl (lw_V q2629 q2630 q2631 q110 q2632) (by decide +kernel) (by decide) rfl rfl (cat2_nil (k := 0)) rfl dL_law_2081 rfl (fun x2081 w2081 => ?_)
  refine r_istore (ls2 := [(7, lI x2081), (0, lR v0), (1, lR v1), (2, lR v2), (3, lR v3), (4, lR v4), (5, lI v5), (6, lI v6)]) 2086 dL_law_2084 (by decide) rfl rfl ?_
  refine r_aload_n 2087 3 dL_law_2086 rfl rfl rfl ?_
  refine r_gd (fun hc2087 => ?_)
  refine r_callV (n := 0) (as := []) (rest := []) 2090 26 (s_X3_thrown hl G v2 w2081) hc2087 rfl (lw_V q2273 q2274 q2275 q110 q2276) (by decide +kernel) (by decide) rfl rfl (cat2_nil (k := 0)) rfl dL_law_2087 rfl (fun x2087 w2087 => ?_)
  refine r_iload 2092 7 dL_law_2090 rfl rfl ?_
  refine r_icmp_eq 2097 2095 dL_law_2092 (by decide) rfl ?_ ?_
  · refine r_iload 2099 7 dL_law_2097 rfl rfl ?_
    refine r_if_ne 2114 2102 dL_law_2099 (by decide) rfl ?_ ?_
    · exact r_lsP [1, 2, 3, 4, 5, 6] rfl (t_L_law_b2114 hl G k28 h28  v0 v1 v2 v3 v4 v5 w2087)
    refine r_aload_n 2103 4 dL_law_2102 rfl rfl rfl ?_
    refine r_iconst (v := 0) 2104 dL_law_2103 rfl rfl ?_
    refine r_jald 2105 dL_law_2104 rfl (fun x2104 => ?_)
    refine r_iload 2107 0 dL_law_2105 rfl rfl ?_
    refine r_i2l 2108 dL_law_2107 rfl ?_
    refine r_lcmp 2109 dL_law_2108 rfl ?_
    refine r_if_eq 2114 2112 dL_law_2109 (by decide) rfl ?_ ?_
    · exact r_lsP [1, 2, 3, 4, 5, 6] rfl (t_L_law_b2114 hl G k28 h28  v0 v1 v2 v3 v4 v5 w2087)
    exact r_lsP [] rfl (h2112 w2087)
  exact r_lsP [] rfl (h2095 w2087)
theorem t_L_law_b2054 {l : Launch} {D : Dn} {H0 : Heap} {w0 : St} (hl : l.stackTraces = false) (G : Nat) (k28 : Rf → Rf → Rf → Rf → Rf → Int32 → St → Option (Int32 × St)) (h28 : ∀ v0 v1 v2 v3 v4 v5 w, V_L_law l D H0 w0 (k28 v0 v1 v2 v3 v4 v5 w) 28 [(0, lR v0), (1, lR v1), (2, lR v2), (3, lR v3), (4, lR v4), (5, lI v5)] [] w) (k2095 : St → Option (Int32 × St)) (h2095 : ∀ w, V_L_law l D H0 w0 (k2095 w) 2095 [] [] w) (k2112 : St → Option (Int32 × St)) (h2112 : ∀ w, V_L_law l D H0 w0 (k2112 w) 2112 [] [] w) (v0 : Rf) (v1 : Rf) (v2 : Rf) (v3 : Rf) (v4 : Rf) (v5 : Int32) (s0 : Int32) (s1 : Int32) (s2 : Rf) (w : St) : V_L_law l D H0 w0 (f_L_law_b2054 G k28 k2095 k2112 v0 v1 v2 v3 v4 v5 s0 s1 s2 w) 2054 [(0, lR v0), (1, lR v1), (2, lR v2), (3, lR v3), (4, lR v4), (5, lI v5)] [.int s0, .int s1, rf s2] w := by
  unfold f_L_law_b2054
  refine r_aload_n 2055 3 dL_law_2054 rfl rfl rfl ?_
  refine r_callSW (n := 4) (as := [lR s2, lI s1, lI s0, lR v3]) (rest := []) 2058 (s_X0_reason hl G s2 s1 s0 v3 w) (lw_SW q2030 q2031 q99 q2032) (by decide +kernel) (by decide) rfl rfl (cat2_nil (k := 0)) rfl dL_law_2055 rfl (fun x2055 w2055 => ?_)
  refine r_istore (ls2 := [(6, lI x2055), (0, lR v0), (1, lR v1), (2, lR v2), (3, lR v3), (4, lR v4), (5, lI v5)]) 2060 dL_law_2058 (by decide) rfl rfl ?_
  refine r_aload_n 2061 3 dL_law_2060 rfl rfl rfl ?_
  refine r_aload_n 2062 1 dL_law_2061 rfl rfl rfl ?_
  refine r_iload 2064 6 dL_law_2062 rfl rfl ?_
  refine r_iconst (v := 1) 2065 dL_law_2064 rfl rfl ?_
  refine r_iadd 2066 dL_law_2065 rfl ?_
  refine r_iald 2067 dL_law_2066 rfl (fun x2066 => ?_)
  refine r_aload_n 2068 1 dL_law_2067 rfl rfl rfl ?_
  refine r_iload 2070 6 dL_law_2068 rfl rfl ?_
  refine r_iconst (v := 2) 2071 dL_law_2070 rfl rfl ?_
  refine r_iadd 2072 dL_law_2071 rfl ?_
  refine r_iald 2073 dL_law_2072 rfl (fun x2072 => ?_)
  refine r_if_eq 2080 2076 dL_law_2073 (by decide) rfl ?_ ?_
  · refine r_iconst (v := 0) 2081 dL_law_2080 rfl rfl ?_
    exact r_lsP [1, 2, 3, 4, 5, 6, 0] rfl (t_L_law_b2081 hl G k28 h28 k2095 h2095 k2112 h2112  v0 v1 v2 v3 v4 v5 x2055 0 x2066 v2 w2055)
  refine r_iconst (v := 1) 2077 dL_law_2076 rfl rfl ?_
  refine r_goto 2081 dL_law_2077 (by decide) ?_
  exact r_lsP [1, 2, 3, 4, 5, 6, 0] rfl (t_L_law_b2081 hl G k28 h28 k2095 h2095 k2112 h2112  v0 v1 v2 v3 v4 v5 x2055 1 x2066 v2 w2055)
theorem t_L_law_b2033 {l : Launch} {D : Dn} {H0 : Heap} {w0 : St} (hl : l.stackTraces = false) (G : Nat) (k28 : Rf → Rf → Rf → Rf → Rf → Int32 → St → Option (Int32 × St)) (h28 : ∀ v0 v1 v2 v3 v4 v5 w, V_L_law l D H0 w0 (k28 v0 v1 v2 v3 v4 v5 w) 28 [(0, lR v0), (1, lR v1), (2, lR v2), (3, lR v3), (4, lR v4), (5, lI v5)] [] w) (k2095 : St → Option (Int32 × St)) (h2095 : ∀ w, V_L_law l D H0 w0 (k2095 w) 2095 [] [] w) (k2112 : St → Option (Int32 × St)) (h2112 : ∀ w, V_L_law l D H0 w0 (k2112 w) 2112 [] [] w) (v0 : Rf) (v1 : Rf) (v2 : Rf) (v3 : Rf) (v4 : Rf) (v5 : Int32) (w : St) : V_L_law l D H0 w0 (f_L_law_b2033 G k28 k2095 k2112 v0 v1 v2 v3 v4 v5 w) 2033 [(0, lR v0), (1, lR v1), (2, lR v2), (3, lR v3), (4, lR v4), (5, lI v5)] [] w := by
  unfold f_L_law_b2033
  refine r_aload_n 2034 1 dL_law_2033 rfl rfl rfl ?_
  refine r_aload_n 2035 0 dL_law_2034 rfl rfl rfl ?_
  refine r_iload 2037 5 dL_law_2035 rfl rfl ?_
  refine r_iconst (v := 1) 2038 dL_law_2037 rfl rfl ?_
  refine r_iadd 2039 dL_law_2038 rfl ?_
  refine r_iald 2040 dL_law_2039 rfl (fun x2039 => ?_)
  refine r_aload_n 2041 0 dL_law_2040 rfl rfl rfl ?_
  refine r_iload 2043 5 dL_law_2041 rfl rfl ?_
  refine r_iconst (v := 2) 2044 dL_law_2043 rfl rfl ?_
  refine r_iadd 2045 dL_law_2044 rfl ?_
  refine r_iald 2046 dL_law_2045 rfl (fun x2045 => ?_)
  refine r_if_eq 2053 2049 dL_law_2046 (by decide) rfl ?_ ?_
  · refine r_iconst (v := 0) 2054 dL_law_2053 rfl rfl ?_
    exact r_lsP [0, 1, 2, 3, 4, 5] rfl (t_L_law_b2054 hl G k28 h28 k2095 h2095 k2112 h2112  v0 v1 v2 v3 v4 v5 0 x2039 v1 w)
  refine r_iconst (v := 1) 2050 dL_law_2049 rfl rfl ?_
  refine r_goto 2054 dL_law_2050 (by decide) ?_
  exact r_lsP [0, 1, 2, 3, 4, 5] rfl (t_L_law_b2054 hl G k28 h28 k2095 h2095 k2112 h2112  v0 v1 v2 v3 v4 v5 1 x2039 v1 w)
theorem t_L_law_b2170 {l : Launch} {D : Dn} {H0 : Heap} {w0 : St} (hl : l.stackTraces = false) (G : Nat) (k28 : Rf → Rf → Rf → Rf → Rf → Int32 → St → Option (Int32 × St)) (h28 : ∀ v0 v1 v2 v3 v4 v5 w, V_L_law l D H0 w0 (k28 v0 v1 v2 v3 v4 v5 w) 28 [(0, lR v0), (1, lR v1), (2, lR v2), (3, lR v3), (4, lR v4), (5, lI v5)] [] w) (v0 : Rf) (v1 : Rf) (v2 : Rf) (v3 : Rf) (v4 : Rf) (v5 : Int32) (w : St) : V_L_law l D H0 w0 (f_L_law_b2170 G k28 v0 v1 v2 v3 v4 v5 w) 2170 [(0, lR v0), (1, lR v1), (2, lR v2), (3, lR v3), (4, lR v4), (5, lI v5)] [] w := by
  unfold f_L_law_b2170
  refine r_goto 2530 dL_law_2170 (by decide) ?_
  exact r_lsP [0, 1, 2, 3, 4, 5] rfl (t_L_law_b2530 hl G k28 h28  v0 v1 v2 v3 v4 v5 w)
theorem t_L_law_b2117 {l : Launch} {D : Dn} {H0 : Heap} {w0 : St} (hl : l.stackTraces = false) (G : Nat) (k28 : Rf → Rf → Rf → Rf → Rf → Int32 → St → Option (Int32 × St)) (h28 : ∀ v0 v1 v2 v3 v4 v5 w, V_L_law l D H0 w0 (k28 v0 v1 v2 v3 v4 v5 w) 28 [(0, lR v0), (1, lR v1), (2, lR v2), (3, lR v3), (4, lR v4), (5, lI v5)] [] w) (k2151 : St → Option (Int32 × St)) (h2151 : ∀ w, V_L_law l D H0 w0 (k2151 w) 2151 [] [] w) (k2168 : St → Option (Int32 × St)) (h2168 : ∀ w, V_L_law l D H0 w0 (k2168 w) 2168 [] [] w) (v0 : Rf) (v1 : Rf) (v2 : Rf) (v3 : Rf) (v4 : Rf) (v5 : Int32) (w : St) : V_L_law l D H0 w0 (f_L_law_b2117 G k28 k2151 k2168 v0 v1 v2 v3 v4 v5 w) 2117 [(0, lR v0), (1, lR v1), (2, lR v2), (3, lR v3), (4, lR v4), (5, lI v5)] [] w := by
  unfold f_L_law_b2117
  refine r_aload_n 2118 1 dL_law_2117 rfl rfl rfl ?_
  refine r_aload_n 2119 0 dL_law_2118 rfl rfl rfl ?_
  refine r_iload 2121 5 dL_law_2119 rfl rfl ?_
  refine r_iconst (v := 1) 2122 dL_law_2121 rfl rfl ?_
  refine r_iadd 2123 dL_law_2122 rfl ?_
  refine r_iald 2124 dL_law_2123 rfl (fun x2123 => ?_)
  refine r_aload_n 2125 3 dL_law_2124 rfl rfl rfl ?_
  refine r_callSW (n := 3) (as := [lR v1, lI x2123, lR v3]) (rest := []) 2128 (s_X0_tell hl G v1 x2123 v3 w) (lw_SW q2040 q2041 q99 q2042) (by decide +kernel) (by decide) rfl rfl (cat2_nil (k := 0)) rfl dL_law_2125 rfl (fun x2125 w2125 => ?_)
  refine r_istore (ls2 := [(6, lI x2125), (0, lR v0), (1, lR v1), (2, lR v2), (3, lR v3), (4, lR v4), (5, lI v5)]) 2130 dL_law_2128 (by decide) rfl rfl ?_
  refine r_aload_n 2131 3 dL_law_2130 rfl rfl rfl ?_
  refine r_aload_n 2132 1 dL_law_2131 rfl rfl rfl ?_
  refine r_iload 2134 6 dL_law_2132 rfl rfl ?_
  refine r_iconst (v := 1) 2135 dL_law_2134 rfl rfl ?_
  refine r_iadd 2136 dL_law_2135 rfl ?_
  refine r_iald 2137 dL_law_2136 rfl (fun x2136 => ?_)
  refine r_gd (fun hc2137 => ?_)
  refine r_callV (n := 1) (as := [lI x2136]) (rest := []) 2140 26 (s_X3_tell hl G v2 x2136 w2125) hc2137 rfl (lw_V q2633 q2634 q2635 q110 q2636) (by decide +kernel) (by decide) rfl rfl (cat2_nil (k := 0)) rfl dL_law_2137 rfl (fun x2137 w2137 => ?_)
  refine r_istore (ls2 := [(7, lI x2137), (6, lI x2125), (0, lR v0), (1, lR v1), (2, lR v2), (3, lR v3), (4, lR v4), (5, lI v5)]) 2142 dL_law_2140 (by decide) rfl rfl ?_
  refine r_aload_n 2143 4 dL_law_2142 rfl rfl rfl ?_
  refine r_gd (fun hc2143 => ?_)
  refine r_callV (n := 0) (as := []) (rest := []) 2146 26 (s_X3_thrown hl G v2 w2137) hc2143 rfl (lw_V q2273 q2274 q2275 q110 q2276) (by decide +kernel) (by decide) rfl rfl (cat2_nil (k := 0)) rfl dL_law_2143 rfl (fun x2143 w2143 => ?_)
  refine r_iload 2148 1 dL_law_2146 rfl rfl ?_
  refine r_icmp_eq 2153 2151 dL_law_2148 (by decide) rfl ?_ ?_
  · refine r_iload 2155 1 dL_law_2153 rfl rfl ?_
    refine r_if_ne 2170 2158 dL_law_2155 (by decide) rfl ?_ ?_
    · exact r_lsP [2, 3, 4, 5, 6, 7] rfl (t_L_law_b2170 hl G k28 h28  v0 v1 v2 v3 v4 v5 w2143)
    refine r_aload_n 2159 5 dL_law_2158 rfl rfl rfl ?_
    refine r_iconst (v := 0) 2160 dL_law_2159 rfl rfl ?_
    refine r_jald 2161 dL_law_2160 rfl (fun x2160 => ?_)
    refine r_iload 2163 0 dL_law_2161 rfl rfl ?_
    refine r_i2l 2164 dL_law_2163 rfl ?_
    refine r_lcmp 2165 dL_law_2164 rfl ?_
    refine r_if_eq 2170 2168 dL_law_2165 (by decide) rfl ?_ ?_
    · exact r_lsP [2, 3, 4, 5, 6, 7] rfl (t_L_law_b2170 hl G k28 h28  v0 v1 v2 v3 v4 v5 w2143)
    exact r_lsP [] rfl (h2168 w2143)
  exact r_lsP [] rfl (h2151 w2143)
theorem t_L_law_b2173 {l : Launch} {D : Dn} {H0 : Heap} {w0 : St} (hl : l.stackTraces = false) (G : Nat) (k28 : Rf → Rf → Rf → Rf → Rf → Int32 → St → Option (Int32 × St)) (h28 : ∀ v0 v1 v2 v3 v4 v5 w, V_L_law l D H0 w0 (k28 v0 v1 v2 v3 v4 v5 w) 28 [(0, lR v0), (1, lR v1), (2, lR v2), (3, lR v3), (4, lR v4), (5, lI v5)] [] w) (k2184 : St → Option (Int32 × St)) (h2184 : ∀ w, V_L_law l D H0 w0 (k2184 w) 2184 [] [] w) (v0 : Rf) (v1 : Rf) (v2 : Rf) (v3 : Rf) (v4 : Rf) (v5 : Int32) (w : St) : V_L_law l D H0 w0 (f_L_law_b2173 G k28 k2184 v0 v1 v2 v3 v4 v5 w) 2173 [(0, lR v0), (1, lR v1), (2, lR v2), (3, lR v3), (4, lR v4), (5, lI v5)] [] w := by
  unfold f_L_law_b2173
  refine r_aload_n 2174 1 dL_law_2173 rfl rfl rfl ?_
  refine r_gd (fun hc2174 => ?_)
  refine r_callV (n := 0) (as := []) (rest := []) 2177 0 (s_X1_tellLinks hl G v1 w) hc2174 rfl (lw_V q865 q866 q867 q100 q868) (by decide +kernel) (by decide) rfl rfl (cat2_nil (k := 0)) rfl dL_law_2174 rfl (fun x2174 w2174 => ?_)
  refine r_aload_n 2178 2 dL_law_2177 rfl rfl rfl ?_
  refine r_gd (fun hc2178 => ?_)
  refine r_callV (n := 0) (as := []) (rest := [.int x2174]) 2181 26 (s_X3_tellLinks hl G v2 w2174) hc2178 rfl (lw_V q2649 q2650 q2651 q110 q2652) (by decide +kernel) (by decide) rfl rfl (cat2_i (cat2_nil (k := 0))) rfl dL_law_2178 rfl (fun x2178 w2178 => ?_)
  refine r_icmp_eq 2530 2184 dL_law_2181 (by decide) rfl ?_ ?_
  · exact r_lsP [0, 1, 2, 3, 4, 5] rfl (t_L_law_b2530 hl G k28 h28  v0 v1 v2 v3 v4 v5 w2178)
  exact r_lsP [] rfl (h2184 w2178)
theorem t_L_law_b2239 {l : Launch} {D : Dn} {H0 : Heap} {w0 : St} (hl : l.stackTraces = false) (G : Nat) (k28 : Rf → Rf → Rf → Rf → Rf → Int32 → St → Option (Int32 × St)) (h28 : ∀ v0 v1 v2 v3 v4 v5 w, V_L_law l D H0 w0 (k28 v0 v1 v2 v3 v4 v5 w) 28 [(0, lR v0), (1, lR v1), (2, lR v2), (3, lR v3), (4, lR v4), (5, lI v5)] [] w) (v0 : Rf) (v1 : Rf) (v2 : Rf) (v3 : Rf) (v4 : Rf) (v5 : Int32) (w : St) : V_L_law l D H0 w0 (f_L_law_b2239 G k28 v0 v1 v2 v3 v4 v5 w) 2239 [(0, lR v0), (1, lR v1), (2, lR v2), (3, lR v3), (4, lR v4), (5, lI v5)] [] w := by
  unfold f_L_law_b2239
  refine r_goto 2530 dL_law_2239 (by decide) ?_
  exact r_lsP [0, 1, 2, 3, 4, 5] rfl (t_L_law_b2530 hl G k28 h28  v0 v1 v2 v3 v4 v5 w)
theorem t_L_law_b2186 {l : Launch} {D : Dn} {H0 : Heap} {w0 : St} (hl : l.stackTraces = false) (G : Nat) (k28 : Rf → Rf → Rf → Rf → Rf → Int32 → St → Option (Int32 × St)) (h28 : ∀ v0 v1 v2 v3 v4 v5 w, V_L_law l D H0 w0 (k28 v0 v1 v2 v3 v4 v5 w) 28 [(0, lR v0), (1, lR v1), (2, lR v2), (3, lR v3), (4, lR v4), (5, lI v5)] [] w) (k2220 : St → Option (Int32 × St)) (h2220 : ∀ w, V_L_law l D H0 w0 (k2220 w) 2220 [] [] w) (k2237 : St → Option (Int32 × St)) (h2237 : ∀ w, V_L_law l D H0 w0 (k2237 w) 2237 [] [] w) (v0 : Rf) (v1 : Rf) (v2 : Rf) (v3 : Rf) (v4 : Rf) (v5 : Int32) (w : St) : V_L_law l D H0 w0 (f_L_law_b2186 G k28 k2220 k2237 v0 v1 v2 v3 v4 v5 w) 2186 [(0, lR v0), (1, lR v1), (2, lR v2), (3, lR v3), (4, lR v4), (5, lI v5)] [] w := by
  unfold f_L_law_b2186
  refine r_aload_n 2187 1 dL_law_2186 rfl rfl rfl ?_
  refine r_aload_n 2188 0 dL_law_2187 rfl rfl rfl ?_
  refine r_iload 2190 5 dL_law_2188 rfl rfl ?_
  refine r_iconst (v := 1) 2191 dL_law_2190 rfl rfl ?_
  refine r_iadd 2192 dL_law_2191 rfl ?_
  refine r_iald 2193 dL_law_2192 rfl (fun x2192 => ?_)
  refine r_aload_n 2194 3 dL_law_2193 rfl rfl rfl ?_
  refine r_callSW (n := 3) (as := [lR v1, lI x2192, lR v3]) (rest := []) 2197 (s_X0_character hl G v1 x2192 v3 w) (lw_SW q2052 q2053 q99 q2054) (by decide +kernel) (by decide) rfl rfl (cat2_nil (k := 0)) rfl dL_law_2194 rfl (fun x2194 w2194 => ?_)
  refine r_istore (ls2 := [(6, lI x2194), (0, lR v0), (1, lR v1), (2, lR v2), (3, lR v3), (4, lR v4), (5, lI v5)]) 2199 dL_law_2197 (by decide) rfl rfl ?_
  refine r_aload_n 2200 3 dL_law_2199 rfl rfl rfl ?_
  refine r_aload_n 2201 1 dL_law_2200 rfl rfl rfl ?_
  refine r_iload 2203 6 dL_law_2201 rfl rfl ?_
  refine r_iconst (v := 1) 2204 dL_law_2203 rfl rfl ?_
  refine r_iadd 2205 dL_law_2204 rfl ?_
  refine r_iald 2206 dL_law_2205 rfl (fun x2205 => ?_)
  refine r_gd (fun hc2206 => ?_)
  refine r_callV (n := 1) (as := [lI x2205]) (rest := []) 2209 26 (s_X3_character hl G v2 x2205 w2194) hc2206 rfl (lw_V q2653 q2654 q2655 q110 q2656) (by decide +kernel) (by decide) rfl rfl (cat2_nil (k := 0)) rfl dL_law_2206 rfl (fun x2206 w2206 => ?_)
  refine r_istore (ls2 := [(7, lI x2206), (6, lI x2194), (0, lR v0), (1, lR v1), (2, lR v2), (3, lR v3), (4, lR v4), (5, lI v5)]) 2211 dL_law_2209 (by decide) rfl rfl ?_
  refine r_aload_n 2212 4 dL_law_2211 rfl rfl rfl ?_
  refine r_gd (fun hc2212 => ?_)
  refine r_callV (n := 0) (as := []) (rest := []) 2215 26 (s_X3_thrown hl G v2 w2206) hc2212 rfl (lw_V q2273 q2274 q2275 q110 q2276) (by decide +kernel) (by decide) rfl rfl (cat2_nil (k := 0)) rfl dL_law_2212 rfl (fun x2212 w2212 => ?_)
  refine r_iload 2217 1 dL_law_2215 rfl rfl ?_
  refine r_icmp_eq 2222 2220 dL_law_2217 (by decide) rfl ?_ ?_
  · refine r_iload 2224 1 dL_law_2222 rfl rfl ?_
    refine r_if_ne 2239 2227 dL_law_2224 (by decide) rfl ?_ ?_
    · exact r_lsP [2, 3, 4, 5, 6, 7] rfl (t_L_law_b2239 hl G k28 h28  v0 v1 v2 v3 v4 v5 w2212)
    refine r_aload_n 2228 5 dL_law_2227 rfl rfl rfl ?_
    refine r_iconst (v := 0) 2229 dL_law_2228 rfl rfl ?_
    refine r_jald 2230 dL_law_2229 rfl (fun x2229 => ?_)
    refine r_iload 2232 0 dL_law_2230 rfl rfl ?_
    refine r_i2l 2233 dL_law_2232 rfl ?_
    refine r_lcmp 2234 dL_law_2233 rfl ?_
    refine r_if_eq 2239 2237 dL_law_2234 (by decide) rfl ?_ ?_
    · exact r_lsP [2, 3, 4, 5, 6, 7] rfl (t_L_law_b2239 hl G k28 h28  v0 v1 v2 v3 v4 v5 w2212)
    exact r_lsP [] rfl (h2237 w2212)
  exact r_lsP [] rfl (h2220 w2212)
theorem t_L_law_b2295 {l : Launch} {D : Dn} {H0 : Heap} {w0 : St} (hl : l.stackTraces = false) (G : Nat) (k28 : Rf → Rf → Rf → Rf → Rf → Int32 → St → Option (Int32 × St)) (h28 : ∀ v0 v1 v2 v3 v4 v5 w, V_L_law l D H0 w0 (k28 v0 v1 v2 v3 v4 v5 w) 28 [(0, lR v0), (1, lR v1), (2, lR v2), (3, lR v3), (4, lR v4), (5, lI v5)] [] w) (v0 : Rf) (v1 : Rf) (v2 : Rf) (v3 : Rf) (v4 : Rf) (v5 : Int32) (w : St) : V_L_law l D H0 w0 (f_L_law_b2295 G k28 v0 v1 v2 v3 v4 v5 w) 2295 [(0, lR v0), (1, lR v1), (2, lR v2), (3, lR v3), (4, lR v4), (5, lI v5)] [] w := by
  unfold f_L_law_b2295
  refine r_goto 2530 dL_law_2295 (by decide) ?_
  exact r_lsP [0, 1, 2, 3, 4, 5] rfl (t_L_law_b2530 hl G k28 h28  v0 v1 v2 v3 v4 v5 w)
theorem t_L_law_b2242 {l : Launch} {D : Dn} {H0 : Heap} {w0 : St} (hl : l.stackTraces = false) (G : Nat) (k28 : Rf → Rf → Rf → Rf → Rf → Int32 → St → Option (Int32 × St)) (h28 : ∀ v0 v1 v2 v3 v4 v5 w, V_L_law l D H0 w0 (k28 v0 v1 v2 v3 v4 v5 w) 28 [(0, lR v0), (1, lR v1), (2, lR v2), (3, lR v3), (4, lR v4), (5, lI v5)] [] w) (k2276 : St → Option (Int32 × St)) (h2276 : ∀ w, V_L_law l D H0 w0 (k2276 w) 2276 [] [] w) (k2293 : St → Option (Int32 × St)) (h2293 : ∀ w, V_L_law l D H0 w0 (k2293 w) 2293 [] [] w) (v0 : Rf) (v1 : Rf) (v2 : Rf) (v3 : Rf) (v4 : Rf) (v5 : Int32) (w : St) : V_L_law l D H0 w0 (f_L_law_b2242 G k28 k2276 k2293 v0 v1 v2 v3 v4 v5 w) 2242 [(0, lR v0), (1, lR v1), (2, lR v2), (3, lR v3), (4, lR v4), (5, lI v5)] [] w := by
  unfold f_L_law_b2242
  refine r_aload_n 2243 1 dL_law_2242 rfl rfl rfl ?_
  refine r_aload_n 2244 0 dL_law_2243 rfl rfl rfl ?_
  refine r_iload 2246 5 dL_law_2244 rfl rfl ?_
  refine r_iconst (v := 1) 2247 dL_law_2246 rfl rfl ?_
  refine r_iadd 2248 dL_law_2247 rfl ?_
  refine r_iald 2249 dL_law_2248 rfl (fun x2248 => ?_)
  refine r_aload_n 2250 3 dL_law_2249 rfl rfl rfl ?_
  refine r_callSW (n := 3) (as := [lR v1, lI x2248, lR v3]) (rest := []) 2253 (s_X0_account hl G v1 x2248 v3 w) (lw_SW q2069 q2070 q99 q2071) (by decide +kernel) (by decide) rfl rfl (cat2_nil (k := 0)) rfl dL_law_2250 rfl (fun x2250 w2250 => ?_)
  refine r_istore (ls2 := [(6, lI x2250), (0, lR v0), (1, lR v1), (2, lR v2), (3, lR v3), (4, lR v4), (5, lI v5)]) 2255 dL_law_2253 (by decide) rfl rfl ?_
  refine r_aload_n 2256 3 dL_law_2255 rfl rfl rfl ?_
  refine r_aload_n 2257 1 dL_law_2256 rfl rfl rfl ?_
  refine r_iload 2259 6 dL_law_2257 rfl rfl ?_
  refine r_iconst (v := 1) 2260 dL_law_2259 rfl rfl ?_
  refine r_iadd 2261 dL_law_2260 rfl ?_
  refine r_iald 2262 dL_law_2261 rfl (fun x2261 => ?_)
  refine r_gd (fun hc2262 => ?_)
  refine r_callV (n := 1) (as := [lI x2261]) (rest := []) 2265 26 (s_X3_account hl G v2 x2261 w2250) hc2262 rfl (lw_V q2657 q2658 q2659 q110 q2660) (by decide +kernel) (by decide) rfl rfl (cat2_nil (k := 0)) rfl dL_law_2262 rfl (fun x2262 w2262 => ?_)
  refine r_istore (ls2 := [(7, lI x2262), (6, lI x2250), (0, lR v0), (1, lR v1), (2, lR v2), (3, lR v3), (4, lR v4), (5, lI v5)]) 2267 dL_law_2265 (by decide) rfl rfl ?_
  refine r_aload_n 2268 4 dL_law_2267 rfl rfl rfl ?_
  refine r_gd (fun hc2268 => ?_)
  refine r_callV (n := 0) (as := []) (rest := []) 2271 26 (s_X3_thrown hl G v2 w2262) hc2268 rfl (lw_V q2273 q2274 q2275 q110 q2276) (by decide +kernel) (by decide) rfl rfl (cat2_nil (k := 0)) rfl dL_law_2268 rfl (fun x2268 w2268 => ?_)
  refine r_iload 2273 1 dL_law_2271 rfl rfl ?_
  refine r_icmp_eq 2278 2276 dL_law_2273 (by decide) rfl ?_ ?_
  · refine r_iload 2280 1 dL_law_2278 rfl rfl ?_
    refine r_if_ne 2295 2283 dL_law_2280 (by decide) rfl ?_ ?_
    · exact r_lsP [2, 3, 4, 5, 6, 7] rfl (t_L_law_b2295 hl G k28 h28  v0 v1 v2 v3 v4 v5 w2268)
    refine r_aload_n 2284 5 dL_law_2283 rfl rfl rfl ?_
    refine r_iconst (v := 0) 2285 dL_law_2284 rfl rfl ?_
    refine r_jald 2286 dL_law_2285 rfl (fun x2285 => ?_)
    refine r_iload 2288 0 dL_law_2286 rfl rfl ?_
    refine r_i2l 2289 dL_law_2288 rfl ?_
    refine r_lcmp 2290 dL_law_2289 rfl ?_
    refine r_if_eq 2295 2293 dL_law_2290 (by decide) rfl ?_ ?_
    · exact r_lsP [2, 3, 4, 5, 6, 7] rfl (t_L_law_b2295 hl G k28 h28  v0 v1 v2 v3 v4 v5 w2268)
    exact r_lsP [] rfl (h2293 w2268)
  exact r_lsP [] rfl (h2276 w2268)
theorem t_L_law_b2360 {l : Launch} {D : Dn} {H0 : Heap} {w0 : St} (hl : l.stackTraces = false) (G : Nat) (k28 : Rf → Rf → Rf → Rf → Rf → Int32 → St → Option (Int32 × St)) (h28 : ∀ v0 v1 v2 v3 v4 v5 w, V_L_law l D H0 w0 (k28 v0 v1 v2 v3 v4 v5 w) 28 [(0, lR v0), (1, lR v1), (2, lR v2), (3, lR v3), (4, lR v4), (5, lI v5)] [] w) (v0 : Rf) (v1 : Rf) (v2 : Rf) (v3 : Rf) (v4 : Rf) (v5 : Int32) (w : St) : V_L_law l D H0 w0 (f_L_law_b2360 G k28 v0 v1 v2 v3 v4 v5 w) 2360 [(0, lR v0), (1, lR v1), (2, lR v2), (3, lR v3), (4, lR v4), (5, lI v5)] [] w := by
  unfold f_L_law_b2360
  refine r_goto 2530 dL_law_2360 (by decide) ?_
  exact r_lsP [0, 1, 2, 3, 4, 5] rfl (t_L_law_b2530 hl G k28 h28  v0 v1 v2 v3 v4 v5 w)
theorem t_L_law_b2298 {l : Launch} {D : Dn} {H0 : Heap} {w0 : St} (hl : l.stackTraces = false) (G : Nat) (k28 : Rf → Rf → Rf → Rf → Rf → Int32 → St → Option (Int32 × St)) (h28 : ∀ v0 v1 v2 v3 v4 v5 w, V_L_law l D H0 w0 (k28 v0 v1 v2 v3 v4 v5 w) 28 [(0, lR v0), (1, lR v1), (2, lR v2), (3, lR v3), (4, lR v4), (5, lI v5)] [] w) (k2321 : St → Option (Int32 × St)) (h2321 : ∀ w, V_L_law l D H0 w0 (k2321 w) 2321 [] [] w) (k2358 : St → Option (Int32 × St)) (h2358 : ∀ w, V_L_law l D H0 w0 (k2358 w) 2358 [] [] w) (v0 : Rf) (v1 : Rf) (v2 : Rf) (v3 : Rf) (v4 : Rf) (v5 : Int32) (w : St) : V_L_law l D H0 w0 (f_L_law_b2298 G k28 k2321 k2358 v0 v1 v2 v3 v4 v5 w) 2298 [(0, lR v0), (1, lR v1), (2, lR v2), (3, lR v3), (4, lR v4), (5, lI v5)] [] w := by
  unfold f_L_law_b2298
  refine r_aload_n 2299 1 dL_law_2298 rfl rfl rfl ?_
  refine r_aload 2301 4 dL_law_2299 rfl rfl ?_
  refine r_callSW (n := 2) (as := [lR v1, lR v4]) (rest := []) 2304 (s_X0_meanLate hl G v1 v4 w) (lw_SW q2091 q2092 q99 q2093) (by decide +kernel) (by decide) rfl rfl (cat2_nil (k := 0)) rfl dL_law_2301 rfl (fun x2301 w2301 => ?_)
  refine r_istore (ls2 := [(6, lI x2301), (0, lR v0), (1, lR v1), (2, lR v2), (3, lR v3), (4, lR v4), (5, lI v5)]) 2306 dL_law_2304 (by decide) rfl rfl ?_
  refine r_aload_n 2307 3 dL_law_2306 rfl rfl rfl ?_
  refine r_gd (fun hc2307 => ?_)
  refine r_callV (n := 0) (as := []) (rest := []) 2310 26 (s_X3_meanLate hl G v2 w2301) hc2307 rfl (lw_V q2673 q2674 q2675 q110 q2676) (by decide +kernel) (by decide) rfl rfl (cat2_nil (k := 0)) rfl dL_law_2307 rfl (fun x2307 w2307 => ?_)
  refine r_dstore (ls2 := [(7, lD x2307), (6, lI x2301), (0, lR v0), (1, lR v1), (2, lR v2), (3, lR v3), (4, lR v4), (5, lI v5)]) 2312 dL_law_2310 (by decide) rfl rfl ?_
  refine r_aload_n 2313 4 dL_law_2312 rfl rfl rfl ?_
  refine r_gd (fun hc2313 => ?_)
  refine r_callV (n := 0) (as := []) (rest := []) 2316 26 (s_X3_thrown hl G v2 w2307) hc2313 rfl (lw_V q2273 q2274 q2275 q110 q2276) (by decide +kernel) (by decide) rfl rfl (cat2_nil (k := 0)) rfl dL_law_2313 rfl (fun x2313 w2313 => ?_)
  refine r_iload 2318 1 dL_law_2316 rfl rfl ?_
  refine r_icmp_eq 2323 2321 dL_law_2318 (by decide) rfl ?_ ?_
  · refine r_iload 2325 1 dL_law_2323 rfl rfl ?_
    refine r_if_ne 2360 2328 dL_law_2325 (by decide) rfl ?_ ?_
    · exact r_lsP [2, 3, 4, 5, 6, 7] rfl (t_L_law_b2360 hl G k28 h28  v0 v1 v2 v3 v4 v5 w2313)
    refine r_aload 2330 6 dL_law_2328 rfl rfl ?_
    refine r_iconst (v := 0) 2331 dL_law_2330 rfl rfl ?_
    refine r_dald 2332 dL_law_2331 rfl (fun x2331 => ?_)
    refine r_dload 2334 0 dL_law_2332 rfl rfl ?_
    refine r_dcmp 2335 dL_law_2334 rfl ?_
    refine r_if_eq 2360 2338 dL_law_2335 (by decide) rfl ?_ ?_
    · exact r_lsP [2, 3, 4, 5, 6, 7] rfl (t_L_law_b2360 hl G k28 h28  v0 v1 v2 v3 v4 v5 w2313)
    refine r_aload 2340 6 dL_law_2338 rfl rfl ?_
    refine r_iconst (v := 0) 2341 dL_law_2340 rfl rfl ?_
    refine r_dald 2342 dL_law_2341 rfl (fun x2341 => ?_)
    refine r_aload 2344 6 dL_law_2342 rfl rfl ?_
    refine r_iconst (v := 0) 2345 dL_law_2344 rfl rfl ?_
    refine r_dald 2346 dL_law_2345 rfl (fun x2345 => ?_)
    refine r_dcmp 2347 dL_law_2346 rfl ?_
    refine r_if_eq 2358 2350 dL_law_2347 (by decide) rfl ?_ ?_
    · exact r_lsP [] rfl (h2358 w2313)
    refine r_dload 2352 0 dL_law_2350 rfl rfl ?_
    refine r_dload 2354 0 dL_law_2352 rfl rfl ?_
    refine r_dcmp 2355 dL_law_2354 rfl ?_
    refine r_if_ne 2360 2358 dL_law_2355 (by decide) rfl ?_ ?_
    · exact r_lsP [2, 3, 4, 5, 6, 7] rfl (t_L_law_b2360 hl G k28 h28  v0 v1 v2 v3 v4 v5 w2313)
    exact r_lsP [] rfl (h2358 w2313)
  exact r_lsP [] rfl (h2321 w2313)
theorem t_L_law_b2426 {l : Launch} {D : Dn} {H0 : Heap} {w0 : St} (hl : l.stackTraces = false) (G : Nat) (k28 : Rf → Rf → Rf → Rf → Rf → Int32 → St → Option (Int32 × St)) (h28 : ∀ v0 v1 v2 v3 v4 v5 w, V_L_law l D H0 w0 (k28 v0 v1 v2 v3 v4 v5 w) 28 [(0, lR v0), (1, lR v1), (2, lR v2), (3, lR v3), (4, lR v4), (5, lI v5)] [] w) (v0 : Rf) (v1 : Rf) (v2 : Rf) (v3 : Rf) (v4 : Rf) (v5 : Int32) (w : St) : V_L_law l D H0 w0 (f_L_law_b2426 G k28 v0 v1 v2 v3 v4 v5 w) 2426 [(0, lR v0), (1, lR v1), (2, lR v2), (3, lR v3), (4, lR v4), (5, lI v5)] [] w := by
  unfold f_L_law_b2426
  refine r_goto 2530 dL_law_2426 (by decide) ?_
  exact r_lsP [0, 1, 2, 3, 4, 5] rfl (t_L_law_b2530 hl G k28 h28  v0 v1 v2 v3 v4 v5 w)
theorem t_L_law_b2363 {l : Launch} {D : Dn} {H0 : Heap} {w0 : St} (hl : l.stackTraces = false) (G : Nat) (k28 : Rf → Rf → Rf → Rf → Rf → Int32 → St → Option (Int32 × St)) (h28 : ∀ v0 v1 v2 v3 v4 v5 w, V_L_law l D H0 w0 (k28 v0 v1 v2 v3 v4 v5 w) 28 [(0, lR v0), (1, lR v1), (2, lR v2), (3, lR v3), (4, lR v4), (5, lI v5)] [] w) (k2386 : St → Option (Int32 × St)) (h2386 : ∀ w, V_L_law l D H0 w0 (k2386 w) 2386 [] [] w) (k2424 : St → Option (Int32 × St)) (h2424 : ∀ w, V_L_law l D H0 w0 (k2424 w) 2424 [] [] w) (v0 : Rf) (v1 : Rf) (v2 : Rf) (v3 : Rf) (v4 : Rf) (v5 : Int32) (w : St) : V_L_law l D H0 w0 (f_L_law_b2363 G k28 k2386 k2424 v0 v1 v2 v3 v4 v5 w) 2363 [(0, lR v0), (1, lR v1), (2, lR v2), (3, lR v3), (4, lR v4), (5, lI v5)] [] w := by
  unfold f_L_law_b2363
  refine r_aload_n 2364 1 dL_law_2363 rfl rfl rfl ?_
  refine r_aload 2366 4 dL_law_2364 rfl rfl ?_
  refine r_callSW (n := 2) (as := [lR v1, lR v4]) (rest := []) 2369 (s_X0_keptShare hl G v1 v4 w) (lw_SW q2120 q2121 q99 q2122) (by decide +kernel) (by decide) rfl rfl (cat2_nil (k := 0)) rfl dL_law_2366 rfl (fun x2366 w2366 => ?_)
  refine r_istore (ls2 := [(6, lI x2366), (0, lR v0), (1, lR v1), (2, lR v2), (3, lR v3), (4, lR v4), (5, lI v5)]) 2371 dL_law_2369 (by decide) rfl rfl ?_
  refine r_aload_n 2372 3 dL_law_2371 rfl rfl rfl ?_
  refine r_gd (fun hc2372 => ?_)
  refine r_callV (n := 0) (as := []) (rest := []) 2375 26 (s_X3_keptShare hl G v2 w2366) hc2372 rfl (lw_V q2677 q2678 q2679 q110 q2680) (by decide +kernel) (by decide) rfl rfl (cat2_nil (k := 0)) rfl dL_law_2372 rfl (fun x2372 w2372 => ?_)
  refine r_fstore (ls2 := [(7, lF x2372), (6, lI x2366), (0, lR v0), (1, lR v1), (2, lR v2), (3, lR v3), (4, lR v4), (5, lI v5)]) 2377 dL_law_2375 (by decide) rfl rfl ?_
  refine r_aload_n 2378 4 dL_law_2377 rfl rfl rfl ?_
  refine r_gd (fun hc2378 => ?_)
  refine r_callV (n := 0) (as := []) (rest := []) 2381 26 (s_X3_thrown hl G v2 w2372) hc2378 rfl (lw_V q2273 q2274 q2275 q110 q2276) (by decide +kernel) (by decide) rfl rfl (cat2_nil (k := 0)) rfl dL_law_2378 rfl (fun x2378 w2378 => ?_)
  refine r_iload 2383 1 dL_law_2381 rfl rfl ?_
  refine r_icmp_eq 2388 2386 dL_law_2383 (by decide) rfl ?_ ?_
  · refine r_iload 2390 1 dL_law_2388 rfl rfl ?_
    refine r_if_ne 2426 2393 dL_law_2390 (by decide) rfl ?_ ?_
    · exact r_lsP [2, 3, 4, 5, 6, 7] rfl (t_L_law_b2426 hl G k28 h28  v0 v1 v2 v3 v4 v5 w2378)
    refine r_aload 2395 6 dL_law_2393 rfl rfl ?_
    refine r_iconst (v := 0) 2396 dL_law_2395 rfl rfl ?_
    refine r_dald 2397 dL_law_2396 rfl (fun x2396 => ?_)
    refine r_fload 2399 0 dL_law_2397 rfl rfl ?_
    refine r_gdC (fun hz2399 => ?_)
    refine r_f2d 2400 dL_law_2399 hz2399 rfl ?_
    refine r_dcmp 2401 dL_law_2400 rfl ?_
    refine r_if_eq 2426 2404 dL_law_2401 (by decide) rfl ?_ ?_
    · exact r_lsP [2, 3, 4, 5, 6, 7] rfl (t_L_law_b2426 hl G k28 h28  v0 v1 v2 v3 v4 v5 w2378)
    refine r_aload 2406 6 dL_law_2404 rfl rfl ?_
    refine r_iconst (v := 0) 2407 dL_law_2406 rfl rfl ?_
    refine r_dald 2408 dL_law_2407 rfl (fun x2407 => ?_)
    refine r_aload 2410 6 dL_law_2408 rfl rfl ?_
    refine r_iconst (v := 0) 2411 dL_law_2410 rfl rfl ?_
    refine r_dald 2412 dL_law_2411 rfl (fun x2411 => ?_)
    refine r_dcmp 2413 dL_law_2412 rfl ?_
    refine r_if_eq 2424 2416 dL_law_2413 (by decide) rfl ?_ ?_
    · exact r_lsP [] rfl (h2424 w2378)
    refine r_fload 2418 0 dL_law_2416 rfl rfl ?_
    refine r_fload 2420 0 dL_law_2418 rfl rfl ?_
    refine r_fcmp 2421 dL_law_2420 rfl ?_
    refine r_if_ne 2426 2424 dL_law_2421 (by decide) rfl ?_ ?_
    · exact r_lsP [2, 3, 4, 5, 6, 7] rfl (t_L_law_b2426 hl G k28 h28  v0 v1 v2 v3 v4 v5 w2378)
    exact r_lsP [] rfl (h2424 w2378)
  exact r_lsP [] rfl (h2386 w2378)
theorem t_L_law_b2470 {l : Launch} {D : Dn} {H0 : Heap} {w0 : St} (hl : l.stackTraces = false) (G : Nat) (k28 : Rf → Rf → Rf → Rf → Rf → Int32 → St → Option (Int32 × St)) (h28 : ∀ v0 v1 v2 v3 v4 v5 w, V_L_law l D H0 w0 (k28 v0 v1 v2 v3 v4 v5 w) 28 [(0, lR v0), (1, lR v1), (2, lR v2), (3, lR v3), (4, lR v4), (5, lI v5)] [] w) (v0 : Rf) (v1 : Rf) (v2 : Rf) (v3 : Rf) (v4 : Rf) (v5 : Int32) (w : St) : V_L_law l D H0 w0 (f_L_law_b2470 G k28 v0 v1 v2 v3 v4 v5 w) 2470 [(0, lR v0), (1, lR v1), (2, lR v2), (3, lR v3), (4, lR v4), (5, lI v5)] [] w := by
  unfold f_L_law_b2470
  refine r_goto 2530 dL_law_2470 (by decide) ?_
  exact r_lsP [0, 1, 2, 3, 4, 5] rfl (t_L_law_b2530 hl G k28 h28  v0 v1 v2 v3 v4 v5 w)
theorem t_L_law_b2429 {l : Launch} {D : Dn} {H0 : Heap} {w0 : St} (hl : l.stackTraces = false) (G : Nat) (k28 : Rf → Rf → Rf → Rf → Rf → Int32 → St → Option (Int32 × St)) (h28 : ∀ v0 v1 v2 v3 v4 v5 w, V_L_law l D H0 w0 (k28 v0 v1 v2 v3 v4 v5 w) 28 [(0, lR v0), (1, lR v1), (2, lR v2), (3, lR v3), (4, lR v4), (5, lI v5)] [] w) (k2451 : St → Option (Int32 × St)) (h2451 : ∀ w, V_L_law l D H0 w0 (k2451 w) 2451 [] [] w) (k2468 : St → Option (Int32 × St)) (h2468 : ∀ w, V_L_law l D H0 w0 (k2468 w) 2468 [] [] w) (v0 : Rf) (v1 : Rf) (v2 : Rf) (v3 : Rf) (v4 : Rf) (v5 : Int32) (w : St) : V_L_law l D H0 w0 (f_L_law_b2429 G k28 k2451 k2468 v0 v1 v2 v3 v4 v5 w) 2429 [(0, lR v0), (1, lR v1), (2, lR v2), (3, lR v3), (4, lR v4), (5, lI v5)] [] w := by
  unfold f_L_law_b2429
  refine r_aload_n 2430 1 dL_law_2429 rfl rfl rfl ?_
  refine r_aload_n 2431 3 dL_law_2430 rfl rfl rfl ?_
  refine r_callSW (n := 2) (as := [lR v1, lR v3]) (rest := []) 2434 (s_X0_undo hl G v1 v3 w) (lw_SW q2127 q2128 q99 q2129) (by decide +kernel) (by decide) rfl rfl (cat2_nil (k := 0)) rfl dL_law_2431 rfl (fun x2431 w2431 => ?_)
  refine r_istore (ls2 := [(6, lI x2431), (0, lR v0), (1, lR v1), (2, lR v2), (3, lR v3), (4, lR v4), (5, lI v5)]) 2436 dL_law_2434 (by decide) rfl rfl ?_
  refine r_aload_n 2437 3 dL_law_2436 rfl rfl rfl ?_
  refine r_gd (fun hc2437 => ?_)
  refine r_callV (n := 0) (as := []) (rest := []) 2440 26 (s_X3_undo hl G v2 w2431) hc2437 rfl (lw_V q2681 q2682 q2683 q110 q2684) (by decide +kernel) (by decide) rfl rfl (cat2_nil (k := 0)) rfl dL_law_2437 rfl (fun x2437 w2437 => ?_)
  refine r_istore (ls2 := [(7, lI x2437), (6, lI x2431), (0, lR v0), (1, lR v1), (2, lR v2), (3, lR v3), (4, lR v4), (5, lI v5)]) 2442 dL_law_2440 (by decide) rfl rfl ?_
  refine r_aload_n 2443 4 dL_law_2442 rfl rfl rfl ?_
  refine r_gd (fun hc2443 => ?_)
  refine r_callV (n := 0) (as := []) (rest := []) 2446 26 (s_X3_thrown hl G v2 w2437) hc2443 rfl (lw_V q2273 q2274 q2275 q110 q2276) (by decide +kernel) (by decide) rfl rfl (cat2_nil (k := 0)) rfl dL_law_2443 rfl (fun x2443 w2443 => ?_)
  refine r_iload 2448 1 dL_law_2446 rfl rfl ?_
  refine r_icmp_eq 2453 2451 dL_law_2448 (by decide) rfl ?_ ?_
  · refine r_iload 2455 1 dL_law_2453 rfl rfl ?_
    refine r_if_ne 2470 2458 dL_law_2455 (by decide) rfl ?_ ?_
    · exact r_lsP [2, 3, 4, 5, 6, 7] rfl (t_L_law_b2470 hl G k28 h28  v0 v1 v2 v3 v4 v5 w2443)
    refine r_aload_n 2459 5 dL_law_2458 rfl rfl rfl ?_
    refine r_iconst (v := 0) 2460 dL_law_2459 rfl rfl ?_
    refine r_jald 2461 dL_law_2460 rfl (fun x2460 => ?_)
    refine r_iload 2463 0 dL_law_2461 rfl rfl ?_
    refine r_i2l 2464 dL_law_2463 rfl ?_
    refine r_lcmp 2465 dL_law_2464 rfl ?_
    refine r_if_eq 2470 2468 dL_law_2465 (by decide) rfl ?_ ?_
    · exact r_lsP [2, 3, 4, 5, 6, 7] rfl (t_L_law_b2470 hl G k28 h28  v0 v1 v2 v3 v4 v5 w2443)
    exact r_lsP [] rfl (h2468 w2443)
  exact r_lsP [] rfl (h2451 w2443)
theorem t_L_law_b2473 {l : Launch} {D : Dn} {H0 : Heap} {w0 : St} (hl : l.stackTraces = false) (G : Nat) (k28 : Rf → Rf → Rf → Rf → Rf → Int32 → St → Option (Int32 × St)) (h28 : ∀ v0 v1 v2 v3 v4 v5 w, V_L_law l D H0 w0 (k28 v0 v1 v2 v3 v4 v5 w) 28 [(0, lR v0), (1, lR v1), (2, lR v2), (3, lR v3), (4, lR v4), (5, lI v5)] [] w) (k2484 : St → Option (Int32 × St)) (h2484 : ∀ w, V_L_law l D H0 w0 (k2484 w) 2484 [] [] w) (v0 : Rf) (v1 : Rf) (v2 : Rf) (v3 : Rf) (v4 : Rf) (v5 : Int32) (w : St) : V_L_law l D H0 w0 (f_L_law_b2473 G k28 k2484 v0 v1 v2 v3 v4 v5 w) 2473 [(0, lR v0), (1, lR v1), (2, lR v2), (3, lR v3), (4, lR v4), (5, lI v5)] [] w := by
  unfold f_L_law_b2473
  refine r_aload_n 2474 1 dL_law_2473 rfl rfl rfl ?_
  refine r_gd (fun hc2474 => ?_)
  refine r_callV (n := 0) (as := []) (rest := []) 2477 0 (s_X1_save hl G v1 w) hc2474 rfl (lw_V q1204 q1205 q1206 q100 q1207) (by decide +kernel) (by decide) rfl rfl (cat2_nil (k := 0)) rfl dL_law_2474 rfl (fun x2474 w2474 => ?_)
  refine r_aload_n 2478 2 dL_law_2477 rfl rfl rfl ?_
  refine r_gd (fun hc2478 => ?_)
  refine r_callV (n := 0) (as := []) (rest := [.int x2474]) 2481 26 (s_X3_save hl G v2 w2474) hc2478 rfl (lw_V q2685 q2686 q2687 q110 q2688) (by decide +kernel) (by decide) rfl rfl (cat2_i (cat2_nil (k := 0))) rfl dL_law_2478 rfl (fun x2478 w2478 => ?_)
  refine r_icmp_eq 2530 2484 dL_law_2481 (by decide) rfl ?_ ?_
  · exact r_lsP [0, 1, 2, 3, 4, 5] rfl (t_L_law_b2530 hl G k28 h28  v0 v1 v2 v3 v4 v5 w2478)
  exact r_lsP [] rfl (h2484 w2478)
theorem t_L_law_b2527 {l : Launch} {D : Dn} {H0 : Heap} {w0 : St} (hl : l.stackTraces = false) (G : Nat) (k28 : Rf → Rf → Rf → Rf → Rf → Int32 → St → Option (Int32 × St)) (h28 : ∀ v0 v1 v2 v3 v4 v5 w, V_L_law l D H0 w0 (k28 v0 v1 v2 v3 v4 v5 w) 28 [(0, lR v0), (1, lR v1), (2, lR v2), (3, lR v3), (4, lR v4), (5, lI v5)] [] w) (v0 : Rf) (v1 : Rf) (v2 : Rf) (v3 : Rf) (v4 : Rf) (v5 : Int32) (w : St) : V_L_law l D H0 w0 (f_L_law_b2527 G k28 v0 v1 v2 v3 v4 v5 w) 2527 [(0, lR v0), (1, lR v1), (2, lR v2), (3, lR v3), (4, lR v4), (5, lI v5)] [] w := by
  unfold f_L_law_b2527
  refine r_goto 2530 dL_law_2527 (by decide) ?_
  exact r_lsP [0, 1, 2, 3, 4, 5] rfl (t_L_law_b2530 hl G k28 h28  v0 v1 v2 v3 v4 v5 w)
theorem t_L_law_b2486 {l : Launch} {D : Dn} {H0 : Heap} {w0 : St} (hl : l.stackTraces = false) (G : Nat) (k28 : Rf → Rf → Rf → Rf → Rf → Int32 → St → Option (Int32 × St)) (h28 : ∀ v0 v1 v2 v3 v4 v5 w, V_L_law l D H0 w0 (k28 v0 v1 v2 v3 v4 v5 w) 28 [(0, lR v0), (1, lR v1), (2, lR v2), (3, lR v3), (4, lR v4), (5, lI v5)] [] w) (k2508 : St → Option (Int32 × St)) (h2508 : ∀ w, V_L_law l D H0 w0 (k2508 w) 2508 [] [] w) (k2525 : St → Option (Int32 × St)) (h2525 : ∀ w, V_L_law l D H0 w0 (k2525 w) 2525 [] [] w) (v0 : Rf) (v1 : Rf) (v2 : Rf) (v3 : Rf) (v4 : Rf) (v5 : Int32) (w : St) : V_L_law l D H0 w0 (f_L_law_b2486 G k28 k2508 k2525 v0 v1 v2 v3 v4 v5 w) 2486 [(0, lR v0), (1, lR v1), (2, lR v2), (3, lR v3), (4, lR v4), (5, lI v5)] [] w := by
  unfold f_L_law_b2486
  refine r_aload_n 2487 1 dL_law_2486 rfl rfl rfl ?_
  refine r_aload_n 2488 3 dL_law_2487 rfl rfl rfl ?_
  refine r_callSW (n := 2) (as := [lR v1, lR v3]) (rest := []) 2491 (s_X0_restore hl G v1 v3 w) (lw_SW q2149 q2150 q99 q2151) (by decide +kernel) (by decide) rfl rfl (cat2_nil (k := 0)) rfl dL_law_2488 rfl (fun x2488 w2488 => ?_)
  refine r_istore (ls2 := [(6, lI x2488), (0, lR v0), (1, lR v1), (2, lR v2), (3, lR v3), (4, lR v4), (5, lI v5)]) 2493 dL_law_2491 (by decide) rfl rfl ?_
  refine r_aload_n 2494 3 dL_law_2493 rfl rfl rfl ?_
  refine r_gd (fun hc2494 => ?_)
  refine r_callV (n := 0) (as := []) (rest := []) 2497 26 (s_X3_restore hl G v2 w2488) hc2494 rfl (lw_V q2689 q2690 q2691 q110 q2692) (by decide +kernel) (by decide) rfl rfl (cat2_nil (k := 0)) rfl dL_law_2494 rfl (fun x2494 w2494 => ?_)
  refine r_istore (ls2 := [(7, lI x2494), (6, lI x2488), (0, lR v0), (1, lR v1), (2, lR v2), (3, lR v3), (4, lR v4), (5, lI v5)]) 2499 dL_law_2497 (by decide) rfl rfl ?_
  refine r_aload_n 2500 4 dL_law_2499 rfl rfl rfl ?_
  refine r_gd (fun hc2500 => ?_)
  refine r_callV (n := 0) (as := []) (rest := []) 2503 26 (s_X3_thrown hl G v2 w2494) hc2500 rfl (lw_V q2273 q2274 q2275 q110 q2276) (by decide +kernel) (by decide) rfl rfl (cat2_nil (k := 0)) rfl dL_law_2500 rfl (fun x2500 w2500 => ?_)
  refine r_iload 2505 1 dL_law_2503 rfl rfl ?_
  refine r_icmp_eq 2510 2508 dL_law_2505 (by decide) rfl ?_ ?_
  · refine r_iload 2512 1 dL_law_2510 rfl rfl ?_
    refine r_if_ne 2527 2515 dL_law_2512 (by decide) rfl ?_ ?_
    · exact r_lsP [2, 3, 4, 5, 6, 7] rfl (t_L_law_b2527 hl G k28 h28  v0 v1 v2 v3 v4 v5 w2500)
    refine r_aload_n 2516 5 dL_law_2515 rfl rfl rfl ?_
    refine r_iconst (v := 0) 2517 dL_law_2516 rfl rfl ?_
    refine r_jald 2518 dL_law_2517 rfl (fun x2517 => ?_)
    refine r_iload 2520 0 dL_law_2518 rfl rfl ?_
    refine r_i2l 2521 dL_law_2520 rfl ?_
    refine r_lcmp 2522 dL_law_2521 rfl ?_
    refine r_if_eq 2527 2525 dL_law_2522 (by decide) rfl ?_ ?_
    · exact r_lsP [2, 3, 4, 5, 6, 7] rfl (t_L_law_b2527 hl G k28 h28  v0 v1 v2 v3 v4 v5 w2500)
    exact r_lsP [] rfl (h2525 w2500)
  exact r_lsP [] rfl (h2508 w2500)
theorem t_L_law_l28 {l : Launch} {D : Dn} {H0 : Heap} {w0 : St} (hl : l.stackTraces = false) (G : Nat) (k258 : St → Option (Int32 × St)) (h258 : ∀ w, V_L_law l D H0 w0 (k258 w) 258 [] [] w) (k275 : St → Option (Int32 × St)) (h275 : ∀ w, V_L_law l D H0 w0 (k275 w) 275 [] [] w) (k376 : St → Option (Int32 × St)) (h376 : ∀ w, V_L_law l D H0 w0 (k376 w) 376 [] [] w) (k393 : St → Option (Int32 × St)) (h393 : ∀ w, V_L_law l D H0 w0 (k393 w) 393 [] [] w) (k444 : St → Option (Int32 × St)) (h444 : ∀ w, V_L_law l D H0 w0 (k444 w) 444 [] [] w) (k461 : St → Option (Int32 × St)) (h461 : ∀ w, V_L_law l D H0 w0 (k461 w) 461 [] [] w) (k562 : St → Option (Int32 × St)) (h562 : ∀ w, V_L_law l D H0 w0 (k562 w) 562 [] [] w) (k579 : St → Option (Int32 × St)) (h579 : ∀ w, V_L_law l D H0 w0 (k579 w) 579 [] [] w) (k618 : St → Option (Int32 × St)) (h618 : ∀ w, V_L_law l D H0 w0 (k618 w) 618 [] [] w) (k635 : St → Option (Int32 × St)) (h635 : ∀ w, V_L_law l D H0 w0 (k635 w) 635 [] [] w) (k686 : St → Option (Int32 × St)) (h686 : ∀ w, V_L_law l D H0 w0 (k686 w) 686 [] [] w) (k703 : St → Option (Int32 × St)) (h703 : ∀ w, V_L_law l D H0 w0 (k703 w) 703 [] [] w) (k794 : St → Option (Int32 × St)) (h794 : ∀ w, V_L_law l D H0 w0 (k794 w) 794 [] [] w) (k811 : St → Option (Int32 × St)) (h811 : ∀ w, V_L_law l D H0 w0 (k811 w) 811 [] [] w) (k862 : St → Option (Int32 × St)) (h862 : ∀ w, V_L_law l D H0 w0 (k862 w) 862 [] [] w) (k879 : St → Option (Int32 × St)) (h879 : ∀ w, V_L_law l D H0 w0 (k879 w) 879 [] [] w) (k942 : St → Option (Int32 × St)) (h942 : ∀ w, V_L_law l D H0 w0 (k942 w) 942 [] [] w) (k959 : St → Option (Int32 × St)) (h959 : ∀ w, V_L_law l D H0 w0 (k959 w) 959 [] [] w) (k1050 : St → Option (Int32 × St)) (h1050 : ∀ w, V_L_law l D H0 w0 (k1050 w) 1050 [] [] w) (k1067 : St → Option (Int32 × St)) (h1067 : ∀ w, V_L_law l D H0 w0 (k1067 w) 1067 [] [] w) (k1146 : St → Option (Int32 × St)) (h1146 : ∀ w, V_L_law l D H0 w0 (k1146 w) 1146 [] [] w) (k1163 : St → Option (Int32 × St)) (h1163 : ∀ w, V_L_law l D H0 w0 (k1163 w) 1163 [] [] w) (k1242 : St → Option (Int32 × St)) (h1242 : ∀ w, V_L_law l D H0 w0 (k1242 w) 1242 [] [] w) (k1259 : St → Option (Int32 × St)) (h1259 : ∀ w, V_L_law l D H0 w0 (k1259 w) 1259 [] [] w) (k1310 : St → Option (Int32 × St)) (h1310 : ∀ w, V_L_law l D H0 w0 (k1310 w) 1310 [] [] w) (k1327 : St → Option (Int32 × St)) (h1327 : ∀ w, V_L_law l D H0 w0 (k1327 w) 1327 [] [] w) (k1366 : St → Option (Int32 × St)) (h1366 : ∀ w, V_L_law l D H0 w0 (k1366 w) 1366 [] [] w) (k1383 : St → Option (Int32 × St)) (h1383 : ∀ w, V_L_law l D H0 w0 (k1383 w) 1383 [] [] w) (k1422 : St → Option (Int32 × St)) (h1422 : ∀ w, V_L_law l D H0 w0 (k1422 w) 1422 [] [] w) (k1439 : St → Option (Int32 × St)) (h1439 : ∀ w, V_L_law l D H0 w0 (k1439 w) 1439 [] [] w) (k1478 : St → Option (Int32 × St)) (h1478 : ∀ w, V_L_law l D H0 w0 (k1478 w) 1478 [] [] w) (k1495 : St → Option (Int32 × St)) (h1495 : ∀ w, V_L_law l D H0 w0 (k1495 w) 1495 [] [] w) (k1534 : St → Option (Int32 × St)) (h1534 : ∀ w, V_L_law l D H0 w0 (k1534 w) 1534 [] [] w) (k1551 : St → Option (Int32 × St)) (h1551 : ∀ w, V_L_law l D H0 w0 (k1551 w) 1551 [] [] w) (k1567 : St → Option (Int32 × St)) (h1567 : ∀ w, V_L_law l D H0 w0 (k1567 w) 1567 [] [] w) (k1603 : St → Option (Int32 × St)) (h1603 : ∀ w, V_L_law l D H0 w0 (k1603 w) 1603 [] [] w) (k1620 : St → Option (Int32 × St)) (h1620 : ∀ w, V_L_law l D H0 w0 (k1620 w) 1620 [] [] w) (k1659 : St → Option (Int32 × St)) (h1659 : ∀ w, V_L_law l D H0 w0 (k1659 w) 1659 [] [] w) (k1676 : St → Option (Int32 × St)) (h1676 : ∀ w, V_L_law l D H0 w0 (k1676 w) 1676 [] [] w) (k1715 : St → Option (Int32 × St)) (h1715 : ∀ w, V_L_law l D H0 w0 (k1715 w) 1715 [] [] w) (k1732 : St → Option (Int32 × St)) (h1732 : ∀ w, V_L_law l D H0 w0 (k1732 w) 1732 [] [] w) (k1771 : St → Option (Int32 × St)) (h1771 : ∀ w, V_L_law l D H0 w0 (k1771 w) 1771 [] [] w) (k1788 : St → Option (Int32 × St)) (h1788 : ∀ w, V_L_law l D H0 w0 (k1788 w) 1788 [] [] w) (k1827 : St → Option (Int32 × St)) (h1827 : ∀ w, V_L_law l D H0 w0 (k1827 w) 1827 [] [] w) (k1844 : St → Option (Int32 × St)) (h1844 : ∀ w, V_L_law l D H0 w0 (k1844 w) 1844 [] [] w) (k1883 : St → Option (Int32 × St)) (h1883 : ∀ w, V_L_law l D H0 w0 (k1883 w) 1883 [] [] w) (k1900 : St → Option (Int32 × St)) (h1900 : ∀ w, V_L_law l D H0 w0 (k1900 w) 1900 [] [] w) (k1916 : St → Option (Int32 × St)) (h1916 : ∀ w, V_L_law l D H0 w0 (k1916 w) 1916 [] [] w) (k1954 : St → Option (Int32 × St)) (h1954 : ∀ w, V_L_law l D H0 w0 (k1954 w) 1954 [] [] w) (k1971 : St → Option (Int32 × St)) (h1971 : ∀ w, V_L_law l D H0 w0 (k1971 w) 1971 [] [] w) (k1998 : St → Option (Int32 × St)) (h1998 : ∀ w, V_L_law l D H0 w0 (k1998 w) 1998 [] [] w) (k2015 : St → Option (Int32 × St)) (h2015 : ∀ w, V_L_law l D H0 w0 (k2015 w) 2015 [] [] w) (k2031 : St → Option (Int32 × St)) (h2031 : ∀ w, V_L_law l D H0 w0 (k2031 w) 2031 [] [] w) (k2095 : St → Option (Int32 × St)) (h2095 : ∀ w, V_L_law l D H0 w0 (k2095 w) 2095 [] [] w) (k2112 : St → Option (Int32 × St)) (h2112 : ∀ w, V_L_law l D H0 w0 (k2112 w) 2112 [] [] w) (k2151 : St → Option (Int32 × St)) (h2151 : ∀ w, V_L_law l D H0 w0 (k2151 w) 2151 [] [] w) (k2168 : St → Option (Int32 × St)) (h2168 : ∀ w, V_L_law l D H0 w0 (k2168 w) 2168 [] [] w) (k2184 : St → Option (Int32 × St)) (h2184 : ∀ w, V_L_law l D H0 w0 (k2184 w) 2184 [] [] w) (k2220 : St → Option (Int32 × St)) (h2220 : ∀ w, V_L_law l D H0 w0 (k2220 w) 2220 [] [] w) (k2237 : St → Option (Int32 × St)) (h2237 : ∀ w, V_L_law l D H0 w0 (k2237 w) 2237 [] [] w) (k2276 : St → Option (Int32 × St)) (h2276 : ∀ w, V_L_law l D H0 w0 (k2276 w) 2276 [] [] w) (k2293 : St → Option (Int32 × St)) (h2293 : ∀ w, V_L_law l D H0 w0 (k2293 w) 2293 [] [] w) (k2321 : St → Option (Int32 × St)) (h2321 : ∀ w, V_L_law l D H0 w0 (k2321 w) 2321 [] [] w) (k2358 : St → Option (Int32 × St)) (h2358 : ∀ w, V_L_law l D H0 w0 (k2358 w) 2358 [] [] w) (k2386 : St → Option (Int32 × St)) (h2386 : ∀ w, V_L_law l D H0 w0 (k2386 w) 2386 [] [] w) (k2424 : St → Option (Int32 × St)) (h2424 : ∀ w, V_L_law l D H0 w0 (k2424 w) 2424 [] [] w) (k2451 : St → Option (Int32 × St)) (h2451 : ∀ w, V_L_law l D H0 w0 (k2451 w) 2451 [] [] w) (k2468 : St → Option (Int32 × St)) (h2468 : ∀ w, V_L_law l D H0 w0 (k2468 w) 2468 [] [] w) (k2484 : St → Option (Int32 × St)) (h2484 : ∀ w, V_L_law l D H0 w0 (k2484 w) 2484 [] [] w) (k2508 : St → Option (Int32 × St)) (h2508 : ∀ w, V_L_law l D H0 w0 (k2508 w) 2508 [] [] w) (k2525 : St → Option (Int32 × St)) (h2525 : ∀ w, V_L_law l D H0 w0 (k2525 w) 2525 [] [] w) (k2536 : St → Option (Int32 × St)) (h2536 : ∀ w, V_L_law l D H0 w0 (k2536 w) 2536 [] [] w) : ∀ (F : Nat) (v0 : Rf) (v1 : Rf) (v2 : Rf) (v3 : Rf) (v4 : Rf) (v5 : Int32) (w : St), V_L_law l D H0 w0 (f_L_law_l28 G k258 k275 k376 k393 k444 k461 k562 k579 k618 k635 k686 k703 k794 k811 k862 k879 k942 k959 k1050 k1067 k1146 k1163 k1242 k1259 k1310 k1327 k1366 k1383 k1422 k1439 k1478 k1495 k1534 k1551 k1567 k1603 k1620 k1659 k1676 k1715 k1732 k1771 k1788 k1827 k1844 k1883 k1900 k1916 k1954 k1971 k1998 k2015 k2031 k2095 k2112 k2151 k2168 k2184 k2220 k2237 k2276 k2293 k2321 k2358 k2386 k2424 k2451 k2468 k2484 k2508 k2525 k2536 F v0 v1 v2 v3 v4 v5 w) 28 [(0, lR v0), (1, lR v1), (2, lR v2), (3, lR v3), (4, lR v4), (5, lI v5)] [] w := by
  intro F
  induction F with
  | zero => intros; exact r_none
  | succ F ih =>
    intro v0 v1 v2 v3 v4 v5 w
    unfold f_L_law_l28
    refine r_iload 30 5 dL_law_28 rfl rfl ?_
    refine r_aload_n 31 0 dL_law_30 rfl rfl rfl ?_
    refine r_alen 32 dL_law_31 rfl (fun x31 => ?_)
    refine r_bipush (v := 7) 34 dL_law_32 rfl rfl ?_
    refine r_isub 35 dL_law_34 rfl ?_
    refine r_icmp_gt 2536 38 dL_law_35 (by decide) rfl ?_ ?_
    · exact r_lsP [] rfl (h2536 w)
    refine r_aload_n 39 0 dL_law_38 rfl rfl rfl ?_
    refine r_iload 41 5 dL_law_39 rfl rfl ?_
    refine r_iald 42 dL_law_41 rfl (fun x41 => ?_)
    refine r_bipush (v := 63) 44 dL_law_42 rfl rfl ?_
    refine r_iand 45 dL_law_44 rfl ?_
    refine r_if (fun hs => ?_) (fun hs0 => ?_)
    · refine r_tswIn 212 dL_law_45 (z := 0) (by rw [hs]; rfl) (by decide) (by decide) rfl (by decide) ?_
      exact r_lsP [0, 1, 2, 3, 4, 5] rfl (t_L_law_b212 hl G (fun v0 v1 v2 v3 v4 v5 w => f_L_law_l28 G k258 k275 k376 k393 k444 k461 k562 k579 k618 k635 k686 k703 k794 k811 k862 k879 k942 k959 k1050 k1067 k1146 k1163 k1242 k1259 k1310 k1327 k1366 k1383 k1422 k1439 k1478 k1495 k1534 k1551 k1567 k1603 k1620 k1659 k1676 k1715 k1732 k1771 k1788 k1827 k1844 k1883 k1900 k1916 k1954 k1971 k1998 k2015 k2031 k2095 k2112 k2151 k2168 k2184 k2220 k2237 k2276 k2293 k2321 k2358 k2386 k2424 k2451 k2468 k2484 k2508 k2525 k2536 F v0 v1 v2 v3 v4 v5 w) (fun v0 v1 v2 v3 v4 v5 w => ih v0 v1 v2 v3 v4 v5 w) k258 h258 k275 h275  v0 v1 v2 v3 v4 v5 w)
    refine r_if (fun hs => ?_) (fun hs1 => ?_)
    · refine r_tswIn 280 dL_law_45 (z := 1) (by rw [hs]; rfl) (by decide) (by decide) rfl (by decide) ?_
      exact r_lsP [0, 1, 2, 3, 4, 5] rfl (t_L_law_b280 hl G (fun v0 v1 v2 v3 v4 v5 w => f_L_law_l28 G k258 k275 k376 k393 k444 k461 k562 k579 k618 k635 k686 k703 k794 k811 k862 k879 k942 k959 k1050 k1067 k1146 k1163 k1242 k1259 k1310 k1327 k1366 k1383 k1422 k1439 k1478 k1495 k1534 k1551 k1567 k1603 k1620 k1659 k1676 k1715 k1732 k1771 k1788 k1827 k1844 k1883 k1900 k1916 k1954 k1971 k1998 k2015 k2031 k2095 k2112 k2151 k2168 k2184 k2220 k2237 k2276 k2293 k2321 k2358 k2386 k2424 k2451 k2468 k2484 k2508 k2525 k2536 F v0 v1 v2 v3 v4 v5 w) (fun v0 v1 v2 v3 v4 v5 w => ih v0 v1 v2 v3 v4 v5 w) k376 h376 k393 h393  v0 v1 v2 v3 v4 v5 w)
    refine r_if (fun hs => ?_) (fun hs2 => ?_)
    · refine r_tswIn 398 dL_law_45 (z := 2) (by rw [hs]; rfl) (by decide) (by decide) rfl (by decide) ?_
      exact r_lsP [0, 1, 2, 3, 4, 5] rfl (t_L_law_b398 hl G (fun v0 v1 v2 v3 v4 v5 w => f_L_law_l28 G k258 k275 k376 k393 k444 k461 k562 k579 k618 k635 k686 k703 k794 k811 k862 k879 k942 k959 k1050 k1067 k1146 k1163 k1242 k1259 k1310 k1327 k1366 k1383 k1422 k1439 k1478 k1495 k1534 k1551 k1567 k1603 k1620 k1659 k1676 k1715 k1732 k1771 k1788 k1827 k1844 k1883 k1900 k1916 k1954 k1971 k1998 k2015 k2031 k2095 k2112 k2151 k2168 k2184 k2220 k2237 k2276 k2293 k2321 k2358 k2386 k2424 k2451 k2468 k2484 k2508 k2525 k2536 F v0 v1 v2 v3 v4 v5 w) (fun v0 v1 v2 v3 v4 v5 w => ih v0 v1 v2 v3 v4 v5 w) k444 h444 k461 h461  v0 v1 v2 v3 v4 v5 w)
    refine r_if (fun hs => ?_) (fun hs3 => ?_)
    · refine r_tswIn 466 dL_law_45 (z := 3) (by rw [hs]; rfl) (by decide) (by decide) rfl (by decide) ?_
      exact r_lsP [0, 1, 2, 3, 4, 5] rfl (t_L_law_b466 hl G (fun v0 v1 v2 v3 v4 v5 w => f_L_law_l28 G k258 k275 k376 k393 k444 k461 k562 k579 k618 k635 k686 k703 k794 k811 k862 k879 k942 k959 k1050 k1067 k1146 k1163 k1242 k1259 k1310 k1327 k1366 k1383 k1422 k1439 k1478 k1495 k1534 k1551 k1567 k1603 k1620 k1659 k1676 k1715 k1732 k1771 k1788 k1827 k1844 k1883 k1900 k1916 k1954 k1971 k1998 k2015 k2031 k2095 k2112 k2151 k2168 k2184 k2220 k2237 k2276 k2293 k2321 k2358 k2386 k2424 k2451 k2468 k2484 k2508 k2525 k2536 F v0 v1 v2 v3 v4 v5 w) (fun v0 v1 v2 v3 v4 v5 w => ih v0 v1 v2 v3 v4 v5 w) k562 h562 k579 h579  v0 v1 v2 v3 v4 v5 w)
    refine r_if (fun hs => ?_) (fun hs4 => ?_)
    · refine r_tswIn 584 dL_law_45 (z := 4) (by rw [hs]; rfl) (by decide) (by decide) rfl (by decide) ?_
      exact r_lsP [0, 1, 2, 3, 4, 5] rfl (t_L_law_b584 hl G (fun v0 v1 v2 v3 v4 v5 w => f_L_law_l28 G k258 k275 k376 k393 k444 k461 k562 k579 k618 k635 k686 k703 k794 k811 k862 k879 k942 k959 k1050 k1067 k1146 k1163 k1242 k1259 k1310 k1327 k1366 k1383 k1422 k1439 k1478 k1495 k1534 k1551 k1567 k1603 k1620 k1659 k1676 k1715 k1732 k1771 k1788 k1827 k1844 k1883 k1900 k1916 k1954 k1971 k1998 k2015 k2031 k2095 k2112 k2151 k2168 k2184 k2220 k2237 k2276 k2293 k2321 k2358 k2386 k2424 k2451 k2468 k2484 k2508 k2525 k2536 F v0 v1 v2 v3 v4 v5 w) (fun v0 v1 v2 v3 v4 v5 w => ih v0 v1 v2 v3 v4 v5 w) k618 h618 k635 h635  v0 v1 v2 v3 v4 v5 w)
    refine r_if (fun hs => ?_) (fun hs5 => ?_)
    · refine r_tswIn 640 dL_law_45 (z := 5) (by rw [hs]; rfl) (by decide) (by decide) rfl (by decide) ?_
      exact r_lsP [0, 1, 2, 3, 4, 5] rfl (t_L_law_b640 hl G (fun v0 v1 v2 v3 v4 v5 w => f_L_law_l28 G k258 k275 k376 k393 k444 k461 k562 k579 k618 k635 k686 k703 k794 k811 k862 k879 k942 k959 k1050 k1067 k1146 k1163 k1242 k1259 k1310 k1327 k1366 k1383 k1422 k1439 k1478 k1495 k1534 k1551 k1567 k1603 k1620 k1659 k1676 k1715 k1732 k1771 k1788 k1827 k1844 k1883 k1900 k1916 k1954 k1971 k1998 k2015 k2031 k2095 k2112 k2151 k2168 k2184 k2220 k2237 k2276 k2293 k2321 k2358 k2386 k2424 k2451 k2468 k2484 k2508 k2525 k2536 F v0 v1 v2 v3 v4 v5 w) (fun v0 v1 v2 v3 v4 v5 w => ih v0 v1 v2 v3 v4 v5 w) k686 h686 k703 h703  v0 v1 v2 v3 v4 v5 w)
    refine r_if (fun hs => ?_) (fun hs6 => ?_)
    · refine r_tswIn 708 dL_law_45 (z := 6) (by rw [hs]; rfl) (by decide) (by decide) rfl (by decide) ?_
      exact r_lsP [0, 1, 2, 3, 4, 5] rfl (t_L_law_b708 hl G (fun v0 v1 v2 v3 v4 v5 w => f_L_law_l28 G k258 k275 k376 k393 k444 k461 k562 k579 k618 k635 k686 k703 k794 k811 k862 k879 k942 k959 k1050 k1067 k1146 k1163 k1242 k1259 k1310 k1327 k1366 k1383 k1422 k1439 k1478 k1495 k1534 k1551 k1567 k1603 k1620 k1659 k1676 k1715 k1732 k1771 k1788 k1827 k1844 k1883 k1900 k1916 k1954 k1971 k1998 k2015 k2031 k2095 k2112 k2151 k2168 k2184 k2220 k2237 k2276 k2293 k2321 k2358 k2386 k2424 k2451 k2468 k2484 k2508 k2525 k2536 F v0 v1 v2 v3 v4 v5 w) (fun v0 v1 v2 v3 v4 v5 w => ih v0 v1 v2 v3 v4 v5 w) k794 h794 k811 h811  v0 v1 v2 v3 v4 v5 w)
    refine r_if (fun hs => ?_) (fun hs7 => ?_)
    · refine r_tswIn 816 dL_law_45 (z := 7) (by rw [hs]; rfl) (by decide) (by decide) rfl (by decide) ?_
      exact r_lsP [0, 1, 2, 3, 4, 5] rfl (t_L_law_b816 hl G (fun v0 v1 v2 v3 v4 v5 w => f_L_law_l28 G k258 k275 k376 k393 k444 k461 k562 k579 k618 k635 k686 k703 k794 k811 k862 k879 k942 k959 k1050 k1067 k1146 k1163 k1242 k1259 k1310 k1327 k1366 k1383 k1422 k1439 k1478 k1495 k1534 k1551 k1567 k1603 k1620 k1659 k1676 k1715 k1732 k1771 k1788 k1827 k1844 k1883 k1900 k1916 k1954 k1971 k1998 k2015 k2031 k2095 k2112 k2151 k2168 k2184 k2220 k2237 k2276 k2293 k2321 k2358 k2386 k2424 k2451 k2468 k2484 k2508 k2525 k2536 F v0 v1 v2 v3 v4 v5 w) (fun v0 v1 v2 v3 v4 v5 w => ih v0 v1 v2 v3 v4 v5 w) k862 h862 k879 h879  v0 v1 v2 v3 v4 v5 w)
    refine r_if (fun hs => ?_) (fun hs8 => ?_)
    · refine r_tswIn 884 dL_law_45 (z := 8) (by rw [hs]; rfl) (by decide) (by decide) rfl (by decide) ?_
      exact r_lsP [0, 1, 2, 3, 4, 5] rfl (t_L_law_b884 hl G (fun v0 v1 v2 v3 v4 v5 w => f_L_law_l28 G k258 k275 k376 k393 k444 k461 k562 k579 k618 k635 k686 k703 k794 k811 k862 k879 k942 k959 k1050 k1067 k1146 k1163 k1242 k1259 k1310 k1327 k1366 k1383 k1422 k1439 k1478 k1495 k1534 k1551 k1567 k1603 k1620 k1659 k1676 k1715 k1732 k1771 k1788 k1827 k1844 k1883 k1900 k1916 k1954 k1971 k1998 k2015 k2031 k2095 k2112 k2151 k2168 k2184 k2220 k2237 k2276 k2293 k2321 k2358 k2386 k2424 k2451 k2468 k2484 k2508 k2525 k2536 F v0 v1 v2 v3 v4 v5 w) (fun v0 v1 v2 v3 v4 v5 w => ih v0 v1 v2 v3 v4 v5 w) k942 h942 k959 h959  v0 v1 v2 v3 v4 v5 w)
    refine r_if (fun hs => ?_) (fun hs9 => ?_)
    · refine r_tswIn 964 dL_law_45 (z := 9) (by rw [hs]; rfl) (by decide) (by decide) rfl (by decide) ?_
      exact r_lsP [0, 1, 2, 3, 4, 5] rfl (t_L_law_b964 hl G (fun v0 v1 v2 v3 v4 v5 w => f_L_law_l28 G k258 k275 k376 k393 k444 k461 k562 k579 k618 k635 k686 k703 k794 k811 k862 k879 k942 k959 k1050 k1067 k1146 k1163 k1242 k1259 k1310 k1327 k1366 k1383 k1422 k1439 k1478 k1495 k1534 k1551 k1567 k1603 k1620 k1659 k1676 k1715 k1732 k1771 k1788 k1827 k1844 k1883 k1900 k1916 k1954 k1971 k1998 k2015 k2031 k2095 k2112 k2151 k2168 k2184 k2220 k2237 k2276 k2293 k2321 k2358 k2386 k2424 k2451 k2468 k2484 k2508 k2525 k2536 F v0 v1 v2 v3 v4 v5 w) (fun v0 v1 v2 v3 v4 v5 w => ih v0 v1 v2 v3 v4 v5 w) k1050 h1050 k1067 h1067  v0 v1 v2 v3 v4 v5 w)
    refine r_if (fun hs => ?_) (fun hs10 => ?_)
    · refine r_tswIn 1072 dL_law_45 (z := 10) (by rw [hs]; rfl) (by decide) (by decide) rfl (by decide) ?_
      exact r_lsP [0, 1, 2, 3, 4, 5] rfl (t_L_law_b1072 hl G (fun v0 v1 v2 v3 v4 v5 w => f_L_law_l28 G k258 k275 k376 k393 k444 k461 k562 k579 k618 k635 k686 k703 k794 k811 k862 k879 k942 k959 k1050 k1067 k1146 k1163 k1242 k1259 k1310 k1327 k1366 k1383 k1422 k1439 k1478 k1495 k1534 k1551 k1567 k1603 k1620 k1659 k1676 k1715 k1732 k1771 k1788 k1827 k1844 k1883 k1900 k1916 k1954 k1971 k1998 k2015 k2031 k2095 k2112 k2151 k2168 k2184 k2220 k2237 k2276 k2293 k2321 k2358 k2386 k2424 k2451 k2468 k2484 k2508 k2525 k2536 F v0 v1 v2 v3 v4 v5 w) (fun v0 v1 v2 v3 v4 v5 w => ih v0 v1 v2 v3 v4 v5 w) k1146 h1146 k1163 h1163  v0 v1 v2 v3 v4 v5 w)
    refine r_if (fun hs => ?_) (fun hs11 => ?_)
    · refine r_tswIn 1168 dL_law_45 (z := 11) (by rw [hs]; rfl) (by decide) (by decide) rfl (by decide) ?_
      exact r_lsP [0, 1, 2, 3, 4, 5] rfl (t_L_law_b1168 hl G (fun v0 v1 v2 v3 v4 v5 w => f_L_law_l28 G k258 k275 k376 k393 k444 k461 k562 k579 k618 k635 k686 k703 k794 k811 k862 k879 k942 k959 k1050 k1067 k1146 k1163 k1242 k1259 k1310 k1327 k1366 k1383 k1422 k1439 k1478 k1495 k1534 k1551 k1567 k1603 k1620 k1659 k1676 k1715 k1732 k1771 k1788 k1827 k1844 k1883 k1900 k1916 k1954 k1971 k1998 k2015 k2031 k2095 k2112 k2151 k2168 k2184 k2220 k2237 k2276 k2293 k2321 k2358 k2386 k2424 k2451 k2468 k2484 k2508 k2525 k2536 F v0 v1 v2 v3 v4 v5 w) (fun v0 v1 v2 v3 v4 v5 w => ih v0 v1 v2 v3 v4 v5 w) k1242 h1242 k1259 h1259  v0 v1 v2 v3 v4 v5 w)
    refine r_if (fun hs => ?_) (fun hs12 => ?_)
    · refine r_tswIn 1264 dL_law_45 (z := 12) (by rw [hs]; rfl) (by decide) (by decide) rfl (by decide) ?_
      exact r_lsP [0, 1, 2, 3, 4, 5] rfl (t_L_law_b1264 hl G (fun v0 v1 v2 v3 v4 v5 w => f_L_law_l28 G k258 k275 k376 k393 k444 k461 k562 k579 k618 k635 k686 k703 k794 k811 k862 k879 k942 k959 k1050 k1067 k1146 k1163 k1242 k1259 k1310 k1327 k1366 k1383 k1422 k1439 k1478 k1495 k1534 k1551 k1567 k1603 k1620 k1659 k1676 k1715 k1732 k1771 k1788 k1827 k1844 k1883 k1900 k1916 k1954 k1971 k1998 k2015 k2031 k2095 k2112 k2151 k2168 k2184 k2220 k2237 k2276 k2293 k2321 k2358 k2386 k2424 k2451 k2468 k2484 k2508 k2525 k2536 F v0 v1 v2 v3 v4 v5 w) (fun v0 v1 v2 v3 v4 v5 w => ih v0 v1 v2 v3 v4 v5 w) k1310 h1310 k1327 h1327  v0 v1 v2 v3 v4 v5 w)
    refine r_if (fun hs => ?_) (fun hs13 => ?_)
    · refine r_tswIn 1332 dL_law_45 (z := 13) (by rw [hs]; rfl) (by decide) (by decide) rfl (by decide) ?_
      exact r_lsP [0, 1, 2, 3, 4, 5] rfl (t_L_law_b1332 hl G (fun v0 v1 v2 v3 v4 v5 w => f_L_law_l28 G k258 k275 k376 k393 k444 k461 k562 k579 k618 k635 k686 k703 k794 k811 k862 k879 k942 k959 k1050 k1067 k1146 k1163 k1242 k1259 k1310 k1327 k1366 k1383 k1422 k1439 k1478 k1495 k1534 k1551 k1567 k1603 k1620 k1659 k1676 k1715 k1732 k1771 k1788 k1827 k1844 k1883 k1900 k1916 k1954 k1971 k1998 k2015 k2031 k2095 k2112 k2151 k2168 k2184 k2220 k2237 k2276 k2293 k2321 k2358 k2386 k2424 k2451 k2468 k2484 k2508 k2525 k2536 F v0 v1 v2 v3 v4 v5 w) (fun v0 v1 v2 v3 v4 v5 w => ih v0 v1 v2 v3 v4 v5 w) k1366 h1366 k1383 h1383  v0 v1 v2 v3 v4 v5 w)
    refine r_if (fun hs => ?_) (fun hs14 => ?_)
    · refine r_tswIn 1388 dL_law_45 (z := 14) (by rw [hs]; rfl) (by decide) (by decide) rfl (by decide) ?_
      exact r_lsP [0, 1, 2, 3, 4, 5] rfl (t_L_law_b1388 hl G (fun v0 v1 v2 v3 v4 v5 w => f_L_law_l28 G k258 k275 k376 k393 k444 k461 k562 k579 k618 k635 k686 k703 k794 k811 k862 k879 k942 k959 k1050 k1067 k1146 k1163 k1242 k1259 k1310 k1327 k1366 k1383 k1422 k1439 k1478 k1495 k1534 k1551 k1567 k1603 k1620 k1659 k1676 k1715 k1732 k1771 k1788 k1827 k1844 k1883 k1900 k1916 k1954 k1971 k1998 k2015 k2031 k2095 k2112 k2151 k2168 k2184 k2220 k2237 k2276 k2293 k2321 k2358 k2386 k2424 k2451 k2468 k2484 k2508 k2525 k2536 F v0 v1 v2 v3 v4 v5 w) (fun v0 v1 v2 v3 v4 v5 w => ih v0 v1 v2 v3 v4 v5 w) k1422 h1422 k1439 h1439  v0 v1 v2 v3 v4 v5 w)
    refine r_if (fun hs => ?_) (fun hs15 => ?_)
    · refine r_tswIn 1444 dL_law_45 (z := 15) (by rw [hs]; rfl) (by decide) (by decide) rfl (by decide) ?_
      exact r_lsP [0, 1, 2, 3, 4, 5] rfl (t_L_law_b1444 hl G (fun v0 v1 v2 v3 v4 v5 w => f_L_law_l28 G k258 k275 k376 k393 k444 k461 k562 k579 k618 k635 k686 k703 k794 k811 k862 k879 k942 k959 k1050 k1067 k1146 k1163 k1242 k1259 k1310 k1327 k1366 k1383 k1422 k1439 k1478 k1495 k1534 k1551 k1567 k1603 k1620 k1659 k1676 k1715 k1732 k1771 k1788 k1827 k1844 k1883 k1900 k1916 k1954 k1971 k1998 k2015 k2031 k2095 k2112 k2151 k2168 k2184 k2220 k2237 k2276 k2293 k2321 k2358 k2386 k2424 k2451 k2468 k2484 k2508 k2525 k2536 F v0 v1 v2 v3 v4 v5 w) (fun v0 v1 v2 v3 v4 v5 w => ih v0 v1 v2 v3 v4 v5 w) k1478 h1478 k1495 h1495  v0 v1 v2 v3 v4 v5 w)
    refine r_if (fun hs => ?_) (fun hs16 => ?_)
    · refine r_tswIn 1500 dL_law_45 (z := 16) (by rw [hs]; rfl) (by decide) (by decide) rfl (by decide) ?_
      exact r_lsP [0, 1, 2, 3, 4, 5] rfl (t_L_law_b1500 hl G (fun v0 v1 v2 v3 v4 v5 w => f_L_law_l28 G k258 k275 k376 k393 k444 k461 k562 k579 k618 k635 k686 k703 k794 k811 k862 k879 k942 k959 k1050 k1067 k1146 k1163 k1242 k1259 k1310 k1327 k1366 k1383 k1422 k1439 k1478 k1495 k1534 k1551 k1567 k1603 k1620 k1659 k1676 k1715 k1732 k1771 k1788 k1827 k1844 k1883 k1900 k1916 k1954 k1971 k1998 k2015 k2031 k2095 k2112 k2151 k2168 k2184 k2220 k2237 k2276 k2293 k2321 k2358 k2386 k2424 k2451 k2468 k2484 k2508 k2525 k2536 F v0 v1 v2 v3 v4 v5 w) (fun v0 v1 v2 v3 v4 v5 w => ih v0 v1 v2 v3 v4 v5 w) k1534 h1534 k1551 h1551  v0 v1 v2 v3 v4 v5 w)
    refine r_if (fun hs => ?_) (fun hs17 => ?_)
    · refine r_tswIn 1556 dL_law_45 (z := 17) (by rw [hs]; rfl) (by decide) (by decide) rfl (by decide) ?_
      exact r_lsP [0, 1, 2, 3, 4, 5] rfl (t_L_law_b1556 hl G (fun v0 v1 v2 v3 v4 v5 w => f_L_law_l28 G k258 k275 k376 k393 k444 k461 k562 k579 k618 k635 k686 k703 k794 k811 k862 k879 k942 k959 k1050 k1067 k1146 k1163 k1242 k1259 k1310 k1327 k1366 k1383 k1422 k1439 k1478 k1495 k1534 k1551 k1567 k1603 k1620 k1659 k1676 k1715 k1732 k1771 k1788 k1827 k1844 k1883 k1900 k1916 k1954 k1971 k1998 k2015 k2031 k2095 k2112 k2151 k2168 k2184 k2220 k2237 k2276 k2293 k2321 k2358 k2386 k2424 k2451 k2468 k2484 k2508 k2525 k2536 F v0 v1 v2 v3 v4 v5 w) (fun v0 v1 v2 v3 v4 v5 w => ih v0 v1 v2 v3 v4 v5 w) k1567 h1567  v0 v1 v2 v3 v4 v5 w)
    refine r_if (fun hs => ?_) (fun hs18 => ?_)
    · refine r_tswIn 1569 dL_law_45 (z := 18) (by rw [hs]; rfl) (by decide) (by decide) rfl (by decide) ?_
      exact r_lsP [0, 1, 2, 3, 4, 5] rfl (t_L_law_b1569 hl G (fun v0 v1 v2 v3 v4 v5 w => f_L_law_l28 G k258 k275 k376 k393 k444 k461 k562 k579 k618 k635 k686 k703 k794 k811 k862 k879 k942 k959 k1050 k1067 k1146 k1163 k1242 k1259 k1310 k1327 k1366 k1383 k1422 k1439 k1478 k1495 k1534 k1551 k1567 k1603 k1620 k1659 k1676 k1715 k1732 k1771 k1788 k1827 k1844 k1883 k1900 k1916 k1954 k1971 k1998 k2015 k2031 k2095 k2112 k2151 k2168 k2184 k2220 k2237 k2276 k2293 k2321 k2358 k2386 k2424 k2451 k2468 k2484 k2508 k2525 k2536 F v0 v1 v2 v3 v4 v5 w) (fun v0 v1 v2 v3 v4 v5 w => ih v0 v1 v2 v3 v4 v5 w) k1603 h1603 k1620 h1620  v0 v1 v2 v3 v4 v5 w)
    refine r_if (fun hs => ?_) (fun hs19 => ?_)
    · refine r_tswIn 1625 dL_law_45 (z := 19) (by rw [hs]; rfl) (by decide) (by decide) rfl (by decide) ?_
      exact r_lsP [0, 1, 2, 3, 4, 5] rfl (t_L_law_b1625 hl G (fun v0 v1 v2 v3 v4 v5 w => f_L_law_l28 G k258 k275 k376 k393 k444 k461 k562 k579 k618 k635 k686 k703 k794 k811 k862 k879 k942 k959 k1050 k1067 k1146 k1163 k1242 k1259 k1310 k1327 k1366 k1383 k1422 k1439 k1478 k1495 k1534 k1551 k1567 k1603 k1620 k1659 k1676 k1715 k1732 k1771 k1788 k1827 k1844 k1883 k1900 k1916 k1954 k1971 k1998 k2015 k2031 k2095 k2112 k2151 k2168 k2184 k2220 k2237 k2276 k2293 k2321 k2358 k2386 k2424 k2451 k2468 k2484 k2508 k2525 k2536 F v0 v1 v2 v3 v4 v5 w) (fun v0 v1 v2 v3 v4 v5 w => ih v0 v1 v2 v3 v4 v5 w) k1659 h1659 k1676 h1676  v0 v1 v2 v3 v4 v5 w)
    refine r_if (fun hs => ?_) (fun hs20 => ?_)
    · refine r_tswIn 1681 dL_law_45 (z := 20) (by rw [hs]; rfl) (by decide) (by decide) rfl (by decide) ?_
      exact r_lsP [0, 1, 2, 3, 4, 5] rfl (t_L_law_b1681 hl G (fun v0 v1 v2 v3 v4 v5 w => f_L_law_l28 G k258 k275 k376 k393 k444 k461 k562 k579 k618 k635 k686 k703 k794 k811 k862 k879 k942 k959 k1050 k1067 k1146 k1163 k1242 k1259 k1310 k1327 k1366 k1383 k1422 k1439 k1478 k1495 k1534 k1551 k1567 k1603 k1620 k1659 k1676 k1715 k1732 k1771 k1788 k1827 k1844 k1883 k1900 k1916 k1954 k1971 k1998 k2015 k2031 k2095 k2112 k2151 k2168 k2184 k2220 k2237 k2276 k2293 k2321 k2358 k2386 k2424 k2451 k2468 k2484 k2508 k2525 k2536 F v0 v1 v2 v3 v4 v5 w) (fun v0 v1 v2 v3 v4 v5 w => ih v0 v1 v2 v3 v4 v5 w) k1715 h1715 k1732 h1732  v0 v1 v2 v3 v4 v5 w)
    refine r_if (fun hs => ?_) (fun hs21 => ?_)
    · refine r_tswIn 1737 dL_law_45 (z := 21) (by rw [hs]; rfl) (by decide) (by decide) rfl (by decide) ?_
      exact r_lsP [0, 1, 2, 3, 4, 5] rfl (t_L_law_b1737 hl G (fun v0 v1 v2 v3 v4 v5 w => f_L_law_l28 G k258 k275 k376 k393 k444 k461 k562 k579 k618 k635 k686 k703 k794 k811 k862 k879 k942 k959 k1050 k1067 k1146 k1163 k1242 k1259 k1310 k1327 k1366 k1383 k1422 k1439 k1478 k1495 k1534 k1551 k1567 k1603 k1620 k1659 k1676 k1715 k1732 k1771 k1788 k1827 k1844 k1883 k1900 k1916 k1954 k1971 k1998 k2015 k2031 k2095 k2112 k2151 k2168 k2184 k2220 k2237 k2276 k2293 k2321 k2358 k2386 k2424 k2451 k2468 k2484 k2508 k2525 k2536 F v0 v1 v2 v3 v4 v5 w) (fun v0 v1 v2 v3 v4 v5 w => ih v0 v1 v2 v3 v4 v5 w) k1771 h1771 k1788 h1788  v0 v1 v2 v3 v4 v5 w)
    refine r_if (fun hs => ?_) (fun hs22 => ?_)
    · refine r_tswIn 1793 dL_law_45 (z := 22) (by rw [hs]; rfl) (by decide) (by decide) rfl (by decide) ?_
      exact r_lsP [0, 1, 2, 3, 4, 5] rfl (t_L_law_b1793 hl G (fun v0 v1 v2 v3 v4 v5 w => f_L_law_l28 G k258 k275 k376 k393 k444 k461 k562 k579 k618 k635 k686 k703 k794 k811 k862 k879 k942 k959 k1050 k1067 k1146 k1163 k1242 k1259 k1310 k1327 k1366 k1383 k1422 k1439 k1478 k1495 k1534 k1551 k1567 k1603 k1620 k1659 k1676 k1715 k1732 k1771 k1788 k1827 k1844 k1883 k1900 k1916 k1954 k1971 k1998 k2015 k2031 k2095 k2112 k2151 k2168 k2184 k2220 k2237 k2276 k2293 k2321 k2358 k2386 k2424 k2451 k2468 k2484 k2508 k2525 k2536 F v0 v1 v2 v3 v4 v5 w) (fun v0 v1 v2 v3 v4 v5 w => ih v0 v1 v2 v3 v4 v5 w) k1827 h1827 k1844 h1844  v0 v1 v2 v3 v4 v5 w)
    refine r_if (fun hs => ?_) (fun hs23 => ?_)
    · refine r_tswIn 1849 dL_law_45 (z := 23) (by rw [hs]; rfl) (by decide) (by decide) rfl (by decide) ?_
      exact r_lsP [0, 1, 2, 3, 4, 5] rfl (t_L_law_b1849 hl G (fun v0 v1 v2 v3 v4 v5 w => f_L_law_l28 G k258 k275 k376 k393 k444 k461 k562 k579 k618 k635 k686 k703 k794 k811 k862 k879 k942 k959 k1050 k1067 k1146 k1163 k1242 k1259 k1310 k1327 k1366 k1383 k1422 k1439 k1478 k1495 k1534 k1551 k1567 k1603 k1620 k1659 k1676 k1715 k1732 k1771 k1788 k1827 k1844 k1883 k1900 k1916 k1954 k1971 k1998 k2015 k2031 k2095 k2112 k2151 k2168 k2184 k2220 k2237 k2276 k2293 k2321 k2358 k2386 k2424 k2451 k2468 k2484 k2508 k2525 k2536 F v0 v1 v2 v3 v4 v5 w) (fun v0 v1 v2 v3 v4 v5 w => ih v0 v1 v2 v3 v4 v5 w) k1883 h1883 k1900 h1900  v0 v1 v2 v3 v4 v5 w)
    refine r_if (fun hs => ?_) (fun hs24 => ?_)
    · refine r_tswIn 1905 dL_law_45 (z := 24) (by rw [hs]; rfl) (by decide) (by decide) rfl (by decide) ?_
      exact r_lsP [0, 1, 2, 3, 4, 5] rfl (t_L_law_b1905 hl G (fun v0 v1 v2 v3 v4 v5 w => f_L_law_l28 G k258 k275 k376 k393 k444 k461 k562 k579 k618 k635 k686 k703 k794 k811 k862 k879 k942 k959 k1050 k1067 k1146 k1163 k1242 k1259 k1310 k1327 k1366 k1383 k1422 k1439 k1478 k1495 k1534 k1551 k1567 k1603 k1620 k1659 k1676 k1715 k1732 k1771 k1788 k1827 k1844 k1883 k1900 k1916 k1954 k1971 k1998 k2015 k2031 k2095 k2112 k2151 k2168 k2184 k2220 k2237 k2276 k2293 k2321 k2358 k2386 k2424 k2451 k2468 k2484 k2508 k2525 k2536 F v0 v1 v2 v3 v4 v5 w) (fun v0 v1 v2 v3 v4 v5 w => ih v0 v1 v2 v3 v4 v5 w) k1916 h1916  v0 v1 v2 v3 v4 v5 w)
    refine r_if (fun hs => ?_) (fun hs25 => ?_)
    · refine r_tswIn 1918 dL_law_45 (z := 25) (by rw [hs]; rfl) (by decide) (by decide) rfl (by decide) ?_
      exact r_lsP [0, 1, 2, 3, 4, 5] rfl (t_L_law_b1918 hl G (fun v0 v1 v2 v3 v4 v5 w => f_L_law_l28 G k258 k275 k376 k393 k444 k461 k562 k579 k618 k635 k686 k703 k794 k811 k862 k879 k942 k959 k1050 k1067 k1146 k1163 k1242 k1259 k1310 k1327 k1366 k1383 k1422 k1439 k1478 k1495 k1534 k1551 k1567 k1603 k1620 k1659 k1676 k1715 k1732 k1771 k1788 k1827 k1844 k1883 k1900 k1916 k1954 k1971 k1998 k2015 k2031 k2095 k2112 k2151 k2168 k2184 k2220 k2237 k2276 k2293 k2321 k2358 k2386 k2424 k2451 k2468 k2484 k2508 k2525 k2536 F v0 v1 v2 v3 v4 v5 w) (fun v0 v1 v2 v3 v4 v5 w => ih v0 v1 v2 v3 v4 v5 w) k1954 h1954 k1971 h1971  v0 v1 v2 v3 v4 v5 w)
    refine r_if (fun hs => ?_) (fun hs26 => ?_)
    · refine r_tswIn 1976 dL_law_45 (z := 26) (by rw [hs]; rfl) (by decide) (by decide) rfl (by decide) ?_
      exact r_lsP [0, 1, 2, 3, 4, 5] rfl (t_L_law_b1976 hl G (fun v0 v1 v2 v3 v4 v5 w => f_L_law_l28 G k258 k275 k376 k393 k444 k461 k562 k579 k618 k635 k686 k703 k794 k811 k862 k879 k942 k959 k1050 k1067 k1146 k1163 k1242 k1259 k1310 k1327 k1366 k1383 k1422 k1439 k1478 k1495 k1534 k1551 k1567 k1603 k1620 k1659 k1676 k1715 k1732 k1771 k1788 k1827 k1844 k1883 k1900 k1916 k1954 k1971 k1998 k2015 k2031 k2095 k2112 k2151 k2168 k2184 k2220 k2237 k2276 k2293 k2321 k2358 k2386 k2424 k2451 k2468 k2484 k2508 k2525 k2536 F v0 v1 v2 v3 v4 v5 w) (fun v0 v1 v2 v3 v4 v5 w => ih v0 v1 v2 v3 v4 v5 w) k1998 h1998 k2015 h2015  v0 v1 v2 v3 v4 v5 w)
    refine r_if (fun hs => ?_) (fun hs27 => ?_)
    · refine r_tswIn 2020 dL_law_45 (z := 27) (by rw [hs]; rfl) (by decide) (by decide) rfl (by decide) ?_
      exact r_lsP [0, 1, 2, 3, 4, 5] rfl (t_L_law_b2020 hl G (fun v0 v1 v2 v3 v4 v5 w => f_L_law_l28 G k258 k275 k376 k393 k444 k461 k562 k579 k618 k635 k686 k703 k794 k811 k862 k879 k942 k959 k1050 k1067 k1146 k1163 k1242 k1259 k1310 k1327 k1366 k1383 k1422 k1439 k1478 k1495 k1534 k1551 k1567 k1603 k1620 k1659 k1676 k1715 k1732 k1771 k1788 k1827 k1844 k1883 k1900 k1916 k1954 k1971 k1998 k2015 k2031 k2095 k2112 k2151 k2168 k2184 k2220 k2237 k2276 k2293 k2321 k2358 k2386 k2424 k2451 k2468 k2484 k2508 k2525 k2536 F v0 v1 v2 v3 v4 v5 w) (fun v0 v1 v2 v3 v4 v5 w => ih v0 v1 v2 v3 v4 v5 w) k2031 h2031  v0 v1 v2 v3 v4 v5 w)
    refine r_if (fun hs => ?_) (fun hs28 => ?_)
    · refine r_tswIn 2033 dL_law_45 (z := 28) (by rw [hs]; rfl) (by decide) (by decide) rfl (by decide) ?_
      exact r_lsP [0, 1, 2, 3, 4, 5] rfl (t_L_law_b2033 hl G (fun v0 v1 v2 v3 v4 v5 w => f_L_law_l28 G k258 k275 k376 k393 k444 k461 k562 k579 k618 k635 k686 k703 k794 k811 k862 k879 k942 k959 k1050 k1067 k1146 k1163 k1242 k1259 k1310 k1327 k1366 k1383 k1422 k1439 k1478 k1495 k1534 k1551 k1567 k1603 k1620 k1659 k1676 k1715 k1732 k1771 k1788 k1827 k1844 k1883 k1900 k1916 k1954 k1971 k1998 k2015 k2031 k2095 k2112 k2151 k2168 k2184 k2220 k2237 k2276 k2293 k2321 k2358 k2386 k2424 k2451 k2468 k2484 k2508 k2525 k2536 F v0 v1 v2 v3 v4 v5 w) (fun v0 v1 v2 v3 v4 v5 w => ih v0 v1 v2 v3 v4 v5 w) k2095 h2095 k2112 h2112  v0 v1 v2 v3 v4 v5 w)
    refine r_if (fun hs => ?_) (fun hs29 => ?_)
    · refine r_tswIn 2117 dL_law_45 (z := 29) (by rw [hs]; rfl) (by decide) (by decide) rfl (by decide) ?_
      exact r_lsP [0, 1, 2, 3, 4, 5] rfl (t_L_law_b2117 hl G (fun v0 v1 v2 v3 v4 v5 w => f_L_law_l28 G k258 k275 k376 k393 k444 k461 k562 k579 k618 k635 k686 k703 k794 k811 k862 k879 k942 k959 k1050 k1067 k1146 k1163 k1242 k1259 k1310 k1327 k1366 k1383 k1422 k1439 k1478 k1495 k1534 k1551 k1567 k1603 k1620 k1659 k1676 k1715 k1732 k1771 k1788 k1827 k1844 k1883 k1900 k1916 k1954 k1971 k1998 k2015 k2031 k2095 k2112 k2151 k2168 k2184 k2220 k2237 k2276 k2293 k2321 k2358 k2386 k2424 k2451 k2468 k2484 k2508 k2525 k2536 F v0 v1 v2 v3 v4 v5 w) (fun v0 v1 v2 v3 v4 v5 w => ih v0 v1 v2 v3 v4 v5 w) k2151 h2151 k2168 h2168  v0 v1 v2 v3 v4 v5 w)
    refine r_if (fun hs => ?_) (fun hs30 => ?_)
    · refine r_tswIn 2173 dL_law_45 (z := 30) (by rw [hs]; rfl) (by decide) (by decide) rfl (by decide) ?_
      exact r_lsP [0, 1, 2, 3, 4, 5] rfl (t_L_law_b2173 hl G (fun v0 v1 v2 v3 v4 v5 w => f_L_law_l28 G k258 k275 k376 k393 k444 k461 k562 k579 k618 k635 k686 k703 k794 k811 k862 k879 k942 k959 k1050 k1067 k1146 k1163 k1242 k1259 k1310 k1327 k1366 k1383 k1422 k1439 k1478 k1495 k1534 k1551 k1567 k1603 k1620 k1659 k1676 k1715 k1732 k1771 k1788 k1827 k1844 k1883 k1900 k1916 k1954 k1971 k1998 k2015 k2031 k2095 k2112 k2151 k2168 k2184 k2220 k2237 k2276 k2293 k2321 k2358 k2386 k2424 k2451 k2468 k2484 k2508 k2525 k2536 F v0 v1 v2 v3 v4 v5 w) (fun v0 v1 v2 v3 v4 v5 w => ih v0 v1 v2 v3 v4 v5 w) k2184 h2184  v0 v1 v2 v3 v4 v5 w)
    refine r_if (fun hs => ?_) (fun hs31 => ?_)
    · refine r_tswIn 2186 dL_law_45 (z := 31) (by rw [hs]; rfl) (by decide) (by decide) rfl (by decide) ?_
      exact r_lsP [0, 1, 2, 3, 4, 5] rfl (t_L_law_b2186 hl G (fun v0 v1 v2 v3 v4 v5 w => f_L_law_l28 G k258 k275 k376 k393 k444 k461 k562 k579 k618 k635 k686 k703 k794 k811 k862 k879 k942 k959 k1050 k1067 k1146 k1163 k1242 k1259 k1310 k1327 k1366 k1383 k1422 k1439 k1478 k1495 k1534 k1551 k1567 k1603 k1620 k1659 k1676 k1715 k1732 k1771 k1788 k1827 k1844 k1883 k1900 k1916 k1954 k1971 k1998 k2015 k2031 k2095 k2112 k2151 k2168 k2184 k2220 k2237 k2276 k2293 k2321 k2358 k2386 k2424 k2451 k2468 k2484 k2508 k2525 k2536 F v0 v1 v2 v3 v4 v5 w) (fun v0 v1 v2 v3 v4 v5 w => ih v0 v1 v2 v3 v4 v5 w) k2220 h2220 k2237 h2237  v0 v1 v2 v3 v4 v5 w)
    refine r_if (fun hs => ?_) (fun hs32 => ?_)
    · refine r_tswIn 2242 dL_law_45 (z := 32) (by rw [hs]; rfl) (by decide) (by decide) rfl (by decide) ?_
      exact r_lsP [0, 1, 2, 3, 4, 5] rfl (t_L_law_b2242 hl G (fun v0 v1 v2 v3 v4 v5 w => f_L_law_l28 G k258 k275 k376 k393 k444 k461 k562 k579 k618 k635 k686 k703 k794 k811 k862 k879 k942 k959 k1050 k1067 k1146 k1163 k1242 k1259 k1310 k1327 k1366 k1383 k1422 k1439 k1478 k1495 k1534 k1551 k1567 k1603 k1620 k1659 k1676 k1715 k1732 k1771 k1788 k1827 k1844 k1883 k1900 k1916 k1954 k1971 k1998 k2015 k2031 k2095 k2112 k2151 k2168 k2184 k2220 k2237 k2276 k2293 k2321 k2358 k2386 k2424 k2451 k2468 k2484 k2508 k2525 k2536 F v0 v1 v2 v3 v4 v5 w) (fun v0 v1 v2 v3 v4 v5 w => ih v0 v1 v2 v3 v4 v5 w) k2276 h2276 k2293 h2293  v0 v1 v2 v3 v4 v5 w)
    refine r_if (fun hs => ?_) (fun hs33 => ?_)
    · refine r_tswIn 2298 dL_law_45 (z := 33) (by rw [hs]; rfl) (by decide) (by decide) rfl (by decide) ?_
      exact r_lsP [0, 1, 2, 3, 4, 5] rfl (t_L_law_b2298 hl G (fun v0 v1 v2 v3 v4 v5 w => f_L_law_l28 G k258 k275 k376 k393 k444 k461 k562 k579 k618 k635 k686 k703 k794 k811 k862 k879 k942 k959 k1050 k1067 k1146 k1163 k1242 k1259 k1310 k1327 k1366 k1383 k1422 k1439 k1478 k1495 k1534 k1551 k1567 k1603 k1620 k1659 k1676 k1715 k1732 k1771 k1788 k1827 k1844 k1883 k1900 k1916 k1954 k1971 k1998 k2015 k2031 k2095 k2112 k2151 k2168 k2184 k2220 k2237 k2276 k2293 k2321 k2358 k2386 k2424 k2451 k2468 k2484 k2508 k2525 k2536 F v0 v1 v2 v3 v4 v5 w) (fun v0 v1 v2 v3 v4 v5 w => ih v0 v1 v2 v3 v4 v5 w) k2321 h2321 k2358 h2358  v0 v1 v2 v3 v4 v5 w)
    refine r_if (fun hs => ?_) (fun hs34 => ?_)
    · refine r_tswIn 2363 dL_law_45 (z := 34) (by rw [hs]; rfl) (by decide) (by decide) rfl (by decide) ?_
      exact r_lsP [0, 1, 2, 3, 4, 5] rfl (t_L_law_b2363 hl G (fun v0 v1 v2 v3 v4 v5 w => f_L_law_l28 G k258 k275 k376 k393 k444 k461 k562 k579 k618 k635 k686 k703 k794 k811 k862 k879 k942 k959 k1050 k1067 k1146 k1163 k1242 k1259 k1310 k1327 k1366 k1383 k1422 k1439 k1478 k1495 k1534 k1551 k1567 k1603 k1620 k1659 k1676 k1715 k1732 k1771 k1788 k1827 k1844 k1883 k1900 k1916 k1954 k1971 k1998 k2015 k2031 k2095 k2112 k2151 k2168 k2184 k2220 k2237 k2276 k2293 k2321 k2358 k2386 k2424 k2451 k2468 k2484 k2508 k2525 k2536 F v0 v1 v2 v3 v4 v5 w) (fun v0 v1 v2 v3 v4 v5 w => ih v0 v1 v2 v3 v4 v5 w) k2386 h2386 k2424 h2424  v0 v1 v2 v3 v4 v5 w)
    refine r_if (fun hs => ?_) (fun hs35 => ?_)
    · refine r_tswIn 2429 dL_law_45 (z := 35) (by rw [hs]; rfl) (by decide) (by decide) rfl (by decide) ?_
      exact r_lsP [0, 1, 2, 3, 4, 5] rfl (t_L_law_b2429 hl G (fun v0 v1 v2 v3 v4 v5 w => f_L_law_l28 G k258 k275 k376 k393 k444 k461 k562 k579 k618 k635 k686 k703 k794 k811 k862 k879 k942 k959 k1050 k1067 k1146 k1163 k1242 k1259 k1310 k1327 k1366 k1383 k1422 k1439 k1478 k1495 k1534 k1551 k1567 k1603 k1620 k1659 k1676 k1715 k1732 k1771 k1788 k1827 k1844 k1883 k1900 k1916 k1954 k1971 k1998 k2015 k2031 k2095 k2112 k2151 k2168 k2184 k2220 k2237 k2276 k2293 k2321 k2358 k2386 k2424 k2451 k2468 k2484 k2508 k2525 k2536 F v0 v1 v2 v3 v4 v5 w) (fun v0 v1 v2 v3 v4 v5 w => ih v0 v1 v2 v3 v4 v5 w) k2451 h2451 k2468 h2468  v0 v1 v2 v3 v4 v5 w)
    refine r_if (fun hs => ?_) (fun hs36 => ?_)
    · refine r_tswIn 2473 dL_law_45 (z := 36) (by rw [hs]; rfl) (by decide) (by decide) rfl (by decide) ?_
      exact r_lsP [0, 1, 2, 3, 4, 5] rfl (t_L_law_b2473 hl G (fun v0 v1 v2 v3 v4 v5 w => f_L_law_l28 G k258 k275 k376 k393 k444 k461 k562 k579 k618 k635 k686 k703 k794 k811 k862 k879 k942 k959 k1050 k1067 k1146 k1163 k1242 k1259 k1310 k1327 k1366 k1383 k1422 k1439 k1478 k1495 k1534 k1551 k1567 k1603 k1620 k1659 k1676 k1715 k1732 k1771 k1788 k1827 k1844 k1883 k1900 k1916 k1954 k1971 k1998 k2015 k2031 k2095 k2112 k2151 k2168 k2184 k2220 k2237 k2276 k2293 k2321 k2358 k2386 k2424 k2451 k2468 k2484 k2508 k2525 k2536 F v0 v1 v2 v3 v4 v5 w) (fun v0 v1 v2 v3 v4 v5 w => ih v0 v1 v2 v3 v4 v5 w) k2484 h2484  v0 v1 v2 v3 v4 v5 w)
    refine r_if (fun hs => ?_) (fun hs37 => ?_)
    · refine r_tswIn 2486 dL_law_45 (z := 37) (by rw [hs]; rfl) (by decide) (by decide) rfl (by decide) ?_
      exact r_lsP [0, 1, 2, 3, 4, 5] rfl (t_L_law_b2486 hl G (fun v0 v1 v2 v3 v4 v5 w => f_L_law_l28 G k258 k275 k376 k393 k444 k461 k562 k579 k618 k635 k686 k703 k794 k811 k862 k879 k942 k959 k1050 k1067 k1146 k1163 k1242 k1259 k1310 k1327 k1366 k1383 k1422 k1439 k1478 k1495 k1534 k1551 k1567 k1603 k1620 k1659 k1676 k1715 k1732 k1771 k1788 k1827 k1844 k1883 k1900 k1916 k1954 k1971 k1998 k2015 k2031 k2095 k2112 k2151 k2168 k2184 k2220 k2237 k2276 k2293 k2321 k2358 k2386 k2424 k2451 k2468 k2484 k2508 k2525 k2536 F v0 v1 v2 v3 v4 v5 w) (fun v0 v1 v2 v3 v4 v5 w => ih v0 v1 v2 v3 v4 v5 w) k2508 h2508 k2525 h2525  v0 v1 v2 v3 v4 v5 w)
    have hs0 := neI hs0 (z := 0) rfl
    have hs1 := neI hs1 (z := 1) rfl
    have hs2 := neI hs2 (z := 2) rfl
    have hs3 := neI hs3 (z := 3) rfl
    have hs4 := neI hs4 (z := 4) rfl
    have hs5 := neI hs5 (z := 5) rfl
    have hs6 := neI hs6 (z := 6) rfl
    have hs7 := neI hs7 (z := 7) rfl
    have hs8 := neI hs8 (z := 8) rfl
    have hs9 := neI hs9 (z := 9) rfl
    have hs10 := neI hs10 (z := 10) rfl
    have hs11 := neI hs11 (z := 11) rfl
    have hs12 := neI hs12 (z := 12) rfl
    have hs13 := neI hs13 (z := 13) rfl
    have hs14 := neI hs14 (z := 14) rfl
    have hs15 := neI hs15 (z := 15) rfl
    have hs16 := neI hs16 (z := 16) rfl
    have hs17 := neI hs17 (z := 17) rfl
    have hs18 := neI hs18 (z := 18) rfl
    have hs19 := neI hs19 (z := 19) rfl
    have hs20 := neI hs20 (z := 20) rfl
    have hs21 := neI hs21 (z := 21) rfl
    have hs22 := neI hs22 (z := 22) rfl
    have hs23 := neI hs23 (z := 23) rfl
    have hs24 := neI hs24 (z := 24) rfl
    have hs25 := neI hs25 (z := 25) rfl
    have hs26 := neI hs26 (z := 26) rfl
    have hs27 := neI hs27 (z := 27) rfl
    have hs28 := neI hs28 (z := 28) rfl
    have hs29 := neI hs29 (z := 29) rfl
    have hs30 := neI hs30 (z := 30) rfl
    have hs31 := neI hs31 (z := 31) rfl
    have hs32 := neI hs32 (z := 32) rfl
    have hs33 := neI hs33 (z := 33) rfl
    have hs34 := neI hs34 (z := 34) rfl
    have hs35 := neI hs35 (z := 35) rfl
    have hs36 := neI hs36 (z := 36) rfl
    have hs37 := neI hs37 (z := 37) rfl
    refine r_tswOut 2530 dL_law_45 (by omega) (by decide) ?_
    exact r_lsP [0, 1, 2, 3, 4, 5] rfl (t_L_law_b2530 hl G (fun v0 v1 v2 v3 v4 v5 w => f_L_law_l28 G k258 k275 k376 k393 k444 k461 k562 k579 k618 k635 k686 k703 k794 k811 k862 k879 k942 k959 k1050 k1067 k1146 k1163 k1242 k1259 k1310 k1327 k1366 k1383 k1422 k1439 k1478 k1495 k1534 k1551 k1567 k1603 k1620 k1659 k1676 k1715 k1732 k1771 k1788 k1827 k1844 k1883 k1900 k1916 k1954 k1971 k1998 k2015 k2031 k2095 k2112 k2151 k2168 k2184 k2220 k2237 k2276 k2293 k2321 k2358 k2386 k2424 k2451 k2468 k2484 k2508 k2525 k2536 F v0 v1 v2 v3 v4 v5 w) (fun v0 v1 v2 v3 v4 v5 w => ih v0 v1 v2 v3 v4 v5 w)  v0 v1 v2 v3 v4 v5 w)
theorem t_L_law_b258 {l : Launch} {D : Dn} {H0 : Heap} {w0 : St} (hl : l.stackTraces = false) (G : Nat) (w : St) : V_L_law l D H0 w0 (f_L_law_b258 G  w) 258 [] [] w := by
  unfold f_L_law_b258
  refine r_iconst (v := 0) 259 dL_law_258 rfl rfl ?_
  exact r_zret rfl rfl rfl dL_law_259
theorem t_L_law_b275 {l : Launch} {D : Dn} {H0 : Heap} {w0 : St} (hl : l.stackTraces = false) (G : Nat) (w : St) : V_L_law l D H0 w0 (f_L_law_b275 G  w) 275 [] [] w := by
  unfold f_L_law_b275
  refine r_iconst (v := 0) 276 dL_law_275 rfl rfl ?_
  exact r_zret rfl rfl rfl dL_law_276
theorem t_L_law_b376 {l : Launch} {D : Dn} {H0 : Heap} {w0 : St} (hl : l.stackTraces = false) (G : Nat) (w : St) : V_L_law l D H0 w0 (f_L_law_b376 G  w) 376 [] [] w := by
  unfold f_L_law_b376
  refine r_iconst (v := 0) 377 dL_law_376 rfl rfl ?_
  exact r_zret rfl rfl rfl dL_law_377
theorem t_L_law_b393 {l : Launch} {D : Dn} {H0 : Heap} {w0 : St} (hl : l.stackTraces = false) (G : Nat) (w : St) : V_L_law l D H0 w0 (f_L_law_b393 G  w) 393 [] [] w := by
  unfold f_L_law_b393
  refine r_iconst (v := 0) 394 dL_law_393 rfl rfl ?_
  exact r_zret rfl rfl rfl dL_law_394
theorem t_L_law_b444 {l : Launch} {D : Dn} {H0 : Heap} {w0 : St} (hl : l.stackTraces = false) (G : Nat) (w : St) : V_L_law l D H0 w0 (f_L_law_b444 G  w) 444 [] [] w := by
  unfold f_L_law_b444
  refine r_iconst (v := 0) 445 dL_law_444 rfl rfl ?_
  exact r_zret rfl rfl rfl dL_law_445
theorem t_L_law_b461 {l : Launch} {D : Dn} {H0 : Heap} {w0 : St} (hl : l.stackTraces = false) (G : Nat) (w : St) : V_L_law l D H0 w0 (f_L_law_b461 G  w) 461 [] [] w := by
  unfold f_L_law_b461
  refine r_iconst (v := 0) 462 dL_law_461 rfl rfl ?_
  exact r_zret rfl rfl rfl dL_law_462
theorem t_L_law_b562 {l : Launch} {D : Dn} {H0 : Heap} {w0 : St} (hl : l.stackTraces = false) (G : Nat) (w : St) : V_L_law l D H0 w0 (f_L_law_b562 G  w) 562 [] [] w := by
  unfold f_L_law_b562
  refine r_iconst (v := 0) 563 dL_law_562 rfl rfl ?_
  exact r_zret rfl rfl rfl dL_law_563
theorem t_L_law_b579 {l : Launch} {D : Dn} {H0 : Heap} {w0 : St} (hl : l.stackTraces = false) (G : Nat) (w : St) : V_L_law l D H0 w0 (f_L_law_b579 G  w) 579 [] [] w := by
  unfold f_L_law_b579
  refine r_iconst (v := 0) 580 dL_law_579 rfl rfl ?_
  exact r_zret rfl rfl rfl dL_law_580
theorem t_L_law_b618 {l : Launch} {D : Dn} {H0 : Heap} {w0 : St} (hl : l.stackTraces = false) (G : Nat) (w : St) : V_L_law l D H0 w0 (f_L_law_b618 G  w) 618 [] [] w := by
  unfold f_L_law_b618
  refine r_iconst (v := 0) 619 dL_law_618 rfl rfl ?_
  exact r_zret rfl rfl rfl dL_law_619
theorem t_L_law_b635 {l : Launch} {D : Dn} {H0 : Heap} {w0 : St} (hl : l.stackTraces = false) (G : Nat) (w : St) : V_L_law l D H0 w0 (f_L_law_b635 G  w) 635 [] [] w := by
  unfold f_L_law_b635
  refine r_iconst (v := 0) 636 dL_law_635 rfl rfl ?_
  exact r_zret rfl rfl rfl dL_law_636
theorem t_L_law_b686 {l : Launch} {D : Dn} {H0 : Heap} {w0 : St} (hl : l.stackTraces = false) (G : Nat) (w : St) : V_L_law l D H0 w0 (f_L_law_b686 G  w) 686 [] [] w := by
  unfold f_L_law_b686
  refine r_iconst (v := 0) 687 dL_law_686 rfl rfl ?_
  exact r_zret rfl rfl rfl dL_law_687
theorem t_L_law_b703 {l : Launch} {D : Dn} {H0 : Heap} {w0 : St} (hl : l.stackTraces = false) (G : Nat) (w : St) : V_L_law l D H0 w0 (f_L_law_b703 G  w) 703 [] [] w := by
  unfold f_L_law_b703
  refine r_iconst (v := 0) 704 dL_law_703 rfl rfl ?_
  exact r_zret rfl rfl rfl dL_law_704
theorem t_L_law_b794 {l : Launch} {D : Dn} {H0 : Heap} {w0 : St} (hl : l.stackTraces = false) (G : Nat) (w : St) : V_L_law l D H0 w0 (f_L_law_b794 G  w) 794 [] [] w := by
  unfold f_L_law_b794
  refine r_iconst (v := 0) 795 dL_law_794 rfl rfl ?_
  exact r_zret rfl rfl rfl dL_law_795
theorem t_L_law_b811 {l : Launch} {D : Dn} {H0 : Heap} {w0 : St} (hl : l.stackTraces = false) (G : Nat) (w : St) : V_L_law l D H0 w0 (f_L_law_b811 G  w) 811 [] [] w := by
  unfold f_L_law_b811
  refine r_iconst (v := 0) 812 dL_law_811 rfl rfl ?_
  exact r_zret rfl rfl rfl dL_law_812
theorem t_L_law_b862 {l : Launch} {D : Dn} {H0 : Heap} {w0 : St} (hl : l.stackTraces = false) (G : Nat) (w : St) : V_L_law l D H0 w0 (f_L_law_b862 G  w) 862 [] [] w := by
  unfold f_L_law_b862
  refine r_iconst (v := 0) 863 dL_law_862 rfl rfl ?_
  exact r_zret rfl rfl rfl dL_law_863
theorem t_L_law_b879 {l : Launch} {D : Dn} {H0 : Heap} {w0 : St} (hl : l.stackTraces = false) (G : Nat) (w : St) : V_L_law l D H0 w0 (f_L_law_b879 G  w) 879 [] [] w := by
  unfold f_L_law_b879
  refine r_iconst (v := 0) 880 dL_law_879 rfl rfl ?_
  exact r_zret rfl rfl rfl dL_law_880
theorem t_L_law_b942 {l : Launch} {D : Dn} {H0 : Heap} {w0 : St} (hl : l.stackTraces = false) (G : Nat) (w : St) : V_L_law l D H0 w0 (f_L_law_b942 G  w) 942 [] [] w := by
  unfold f_L_law_b942
  refine r_iconst (v := 0) 943 dL_law_942 rfl rfl ?_
  exact r_zret rfl rfl rfl dL_law_943
theorem t_L_law_b959 {l : Launch} {D : Dn} {H0 : Heap} {w0 : St} (hl : l.stackTraces = false) (G : Nat) (w : St) : V_L_law l D H0 w0 (f_L_law_b959 G  w) 959 [] [] w := by
  unfold f_L_law_b959
  refine r_iconst (v := 0) 960 dL_law_959 rfl rfl ?_
  exact r_zret rfl rfl rfl dL_law_960
theorem t_L_law_b1050 {l : Launch} {D : Dn} {H0 : Heap} {w0 : St} (hl : l.stackTraces = false) (G : Nat) (w : St) : V_L_law l D H0 w0 (f_L_law_b1050 G  w) 1050 [] [] w := by
  unfold f_L_law_b1050
  refine r_iconst (v := 0) 1051 dL_law_1050 rfl rfl ?_
  exact r_zret rfl rfl rfl dL_law_1051
theorem t_L_law_b1067 {l : Launch} {D : Dn} {H0 : Heap} {w0 : St} (hl : l.stackTraces = false) (G : Nat) (w : St) : V_L_law l D H0 w0 (f_L_law_b1067 G  w) 1067 [] [] w := by
  unfold f_L_law_b1067
  refine r_iconst (v := 0) 1068 dL_law_1067 rfl rfl ?_
  exact r_zret rfl rfl rfl dL_law_1068
theorem t_L_law_b1146 {l : Launch} {D : Dn} {H0 : Heap} {w0 : St} (hl : l.stackTraces = false) (G : Nat) (w : St) : V_L_law l D H0 w0 (f_L_law_b1146 G  w) 1146 [] [] w := by
  unfold f_L_law_b1146
  refine r_iconst (v := 0) 1147 dL_law_1146 rfl rfl ?_
  exact r_zret rfl rfl rfl dL_law_1147
theorem t_L_law_b1163 {l : Launch} {D : Dn} {H0 : Heap} {w0 : St} (hl : l.stackTraces = false) (G : Nat) (w : St) : V_L_law l D H0 w0 (f_L_law_b1163 G  w) 1163 [] [] w := by
  unfold f_L_law_b1163
  refine r_iconst (v := 0) 1164 dL_law_1163 rfl rfl ?_
  exact r_zret rfl rfl rfl dL_law_1164
theorem t_L_law_b1242 {l : Launch} {D : Dn} {H0 : Heap} {w0 : St} (hl : l.stackTraces = false) (G : Nat) (w : St) : V_L_law l D H0 w0 (f_L_law_b1242 G  w) 1242 [] [] w := by
  unfold f_L_law_b1242
  refine r_iconst (v := 0) 1243 dL_law_1242 rfl rfl ?_
  exact r_zret rfl rfl rfl dL_law_1243
theorem t_L_law_b1259 {l : Launch} {D : Dn} {H0 : Heap} {w0 : St} (hl : l.stackTraces = false) (G : Nat) (w : St) : V_L_law l D H0 w0 (f_L_law_b1259 G  w) 1259 [] [] w := by
  unfold f_L_law_b1259
  refine r_iconst (v := 0) 1260 dL_law_1259 rfl rfl ?_
  exact r_zret rfl rfl rfl dL_law_1260
theorem t_L_law_b1310 {l : Launch} {D : Dn} {H0 : Heap} {w0 : St} (hl : l.stackTraces = false) (G : Nat) (w : St) : V_L_law l D H0 w0 (f_L_law_b1310 G  w) 1310 [] [] w := by
  unfold f_L_law_b1310
  refine r_iconst (v := 0) 1311 dL_law_1310 rfl rfl ?_
  exact r_zret rfl rfl rfl dL_law_1311
theorem t_L_law_b1327 {l : Launch} {D : Dn} {H0 : Heap} {w0 : St} (hl : l.stackTraces = false) (G : Nat) (w : St) : V_L_law l D H0 w0 (f_L_law_b1327 G  w) 1327 [] [] w := by
  unfold f_L_law_b1327
  refine r_iconst (v := 0) 1328 dL_law_1327 rfl rfl ?_
  exact r_zret rfl rfl rfl dL_law_1328
theorem t_L_law_b1366 {l : Launch} {D : Dn} {H0 : Heap} {w0 : St} (hl : l.stackTraces = false) (G : Nat) (w : St) : V_L_law l D H0 w0 (f_L_law_b1366 G  w) 1366 [] [] w := by
  unfold f_L_law_b1366
  refine r_iconst (v := 0) 1367 dL_law_1366 rfl rfl ?_
  exact r_zret rfl rfl rfl dL_law_1367
theorem t_L_law_b1383 {l : Launch} {D : Dn} {H0 : Heap} {w0 : St} (hl : l.stackTraces = false) (G : Nat) (w : St) : V_L_law l D H0 w0 (f_L_law_b1383 G  w) 1383 [] [] w := by
  unfold f_L_law_b1383
  refine r_iconst (v := 0) 1384 dL_law_1383 rfl rfl ?_
  exact r_zret rfl rfl rfl dL_law_1384
theorem t_L_law_b1422 {l : Launch} {D : Dn} {H0 : Heap} {w0 : St} (hl : l.stackTraces = false) (G : Nat) (w : St) : V_L_law l D H0 w0 (f_L_law_b1422 G  w) 1422 [] [] w := by
  unfold f_L_law_b1422
  refine r_iconst (v := 0) 1423 dL_law_1422 rfl rfl ?_
  exact r_zret rfl rfl rfl dL_law_1423
theorem t_L_law_b1439 {l : Launch} {D : Dn} {H0 : Heap} {w0 : St} (hl : l.stackTraces = false) (G : Nat) (w : St) : V_L_law l D H0 w0 (f_L_law_b1439 G  w) 1439 [] [] w := by
  unfold f_L_law_b1439
  refine r_iconst (v := 0) 1440 dL_law_1439 rfl rfl ?_
  exact r_zret rfl rfl rfl dL_law_1440
theorem t_L_law_b1478 {l : Launch} {D : Dn} {H0 : Heap} {w0 : St} (hl : l.stackTraces = false) (G : Nat) (w : St) : V_L_law l D H0 w0 (f_L_law_b1478 G  w) 1478 [] [] w := by
  unfold f_L_law_b1478
  refine r_iconst (v := 0) 1479 dL_law_1478 rfl rfl ?_
  exact r_zret rfl rfl rfl dL_law_1479
theorem t_L_law_b1495 {l : Launch} {D : Dn} {H0 : Heap} {w0 : St} (hl : l.stackTraces = false) (G : Nat) (w : St) : V_L_law l D H0 w0 (f_L_law_b1495 G  w) 1495 [] [] w := by
  unfold f_L_law_b1495
  refine r_iconst (v := 0) 1496 dL_law_1495 rfl rfl ?_
  exact r_zret rfl rfl rfl dL_law_1496
theorem t_L_law_b1534 {l : Launch} {D : Dn} {H0 : Heap} {w0 : St} (hl : l.stackTraces = false) (G : Nat) (w : St) : V_L_law l D H0 w0 (f_L_law_b1534 G  w) 1534 [] [] w := by
  unfold f_L_law_b1534
  refine r_iconst (v := 0) 1535 dL_law_1534 rfl rfl ?_
  exact r_zret rfl rfl rfl dL_law_1535
theorem t_L_law_b1551 {l : Launch} {D : Dn} {H0 : Heap} {w0 : St} (hl : l.stackTraces = false) (G : Nat) (w : St) : V_L_law l D H0 w0 (f_L_law_b1551 G  w) 1551 [] [] w := by
  unfold f_L_law_b1551
  refine r_iconst (v := 0) 1552 dL_law_1551 rfl rfl ?_
  exact r_zret rfl rfl rfl dL_law_1552
theorem t_L_law_b1567 {l : Launch} {D : Dn} {H0 : Heap} {w0 : St} (hl : l.stackTraces = false) (G : Nat) (w : St) : V_L_law l D H0 w0 (f_L_law_b1567 G  w) 1567 [] [] w := by
  unfold f_L_law_b1567
  refine r_iconst (v := 0) 1568 dL_law_1567 rfl rfl ?_
  exact r_zret rfl rfl rfl dL_law_1568
theorem t_L_law_b1603 {l : Launch} {D : Dn} {H0 : Heap} {w0 : St} (hl : l.stackTraces = false) (G : Nat) (w : St) : V_L_law l D H0 w0 (f_L_law_b1603 G  w) 1603 [] [] w := by
  unfold f_L_law_b1603
  refine r_iconst (v := 0) 1604 dL_law_1603 rfl rfl ?_
  exact r_zret rfl rfl rfl dL_law_1604
theorem t_L_law_b1620 {l : Launch} {D : Dn} {H0 : Heap} {w0 : St} (hl : l.stackTraces = false) (G : Nat) (w : St) : V_L_law l D H0 w0 (f_L_law_b1620 G  w) 1620 [] [] w := by
  unfold f_L_law_b1620
  refine r_iconst (v := 0) 1621 dL_law_1620 rfl rfl ?_
  exact r_zret rfl rfl rfl dL_law_1621
theorem t_L_law_b1659 {l : Launch} {D : Dn} {H0 : Heap} {w0 : St} (hl : l.stackTraces = false) (G : Nat) (w : St) : V_L_law l D H0 w0 (f_L_law_b1659 G  w) 1659 [] [] w := by
  unfold f_L_law_b1659
  refine r_iconst (v := 0) 1660 dL_law_1659 rfl rfl ?_
  exact r_zret rfl rfl rfl dL_law_1660
theorem t_L_law_b1676 {l : Launch} {D : Dn} {H0 : Heap} {w0 : St} (hl : l.stackTraces = false) (G : Nat) (w : St) : V_L_law l D H0 w0 (f_L_law_b1676 G  w) 1676 [] [] w := by
  unfold f_L_law_b1676
  refine r_iconst (v := 0) 1677 dL_law_1676 rfl rfl ?_
  exact r_zret rfl rfl rfl dL_law_1677
theorem t_L_law_b1715 {l : Launch} {D : Dn} {H0 : Heap} {w0 : St} (hl : l.stackTraces = false) (G : Nat) (w : St) : V_L_law l D H0 w0 (f_L_law_b1715 G  w) 1715 [] [] w := by
  unfold f_L_law_b1715
  refine r_iconst (v := 0) 1716 dL_law_1715 rfl rfl ?_
  exact r_zret rfl rfl rfl dL_law_1716
theorem t_L_law_b1732 {l : Launch} {D : Dn} {H0 : Heap} {w0 : St} (hl : l.stackTraces = false) (G : Nat) (w : St) : V_L_law l D H0 w0 (f_L_law_b1732 G  w) 1732 [] [] w := by
  unfold f_L_law_b1732
  refine r_iconst (v := 0) 1733 dL_law_1732 rfl rfl ?_
  exact r_zret rfl rfl rfl dL_law_1733
theorem t_L_law_b1771 {l : Launch} {D : Dn} {H0 : Heap} {w0 : St} (hl : l.stackTraces = false) (G : Nat) (w : St) : V_L_law l D H0 w0 (f_L_law_b1771 G  w) 1771 [] [] w := by
  unfold f_L_law_b1771
  refine r_iconst (v := 0) 1772 dL_law_1771 rfl rfl ?_
  exact r_zret rfl rfl rfl dL_law_1772
theorem t_L_law_b1788 {l : Launch} {D : Dn} {H0 : Heap} {w0 : St} (hl : l.stackTraces = false) (G : Nat) (w : St) : V_L_law l D H0 w0 (f_L_law_b1788 G  w) 1788 [] [] w := by
  unfold f_L_law_b1788
  refine r_iconst (v := 0) 1789 dL_law_1788 rfl rfl ?_
  exact r_zret rfl rfl rfl dL_law_1789
theorem t_L_law_b1827 {l : Launch} {D : Dn} {H0 : Heap} {w0 : St} (hl : l.stackTraces = false) (G : Nat) (w : St) : V_L_law l D H0 w0 (f_L_law_b1827 G  w) 1827 [] [] w := by
  unfold f_L_law_b1827
  refine r_iconst (v := 0) 1828 dL_law_1827 rfl rfl ?_
  exact r_zret rfl rfl rfl dL_law_1828
theorem t_L_law_b1844 {l : Launch} {D : Dn} {H0 : Heap} {w0 : St} (hl : l.stackTraces = false) (G : Nat) (w : St) : V_L_law l D H0 w0 (f_L_law_b1844 G  w) 1844 [] [] w := by
  unfold f_L_law_b1844
  refine r_iconst (v := 0) 1845 dL_law_1844 rfl rfl ?_
  exact r_zret rfl rfl rfl dL_law_1845
theorem t_L_law_b1883 {l : Launch} {D : Dn} {H0 : Heap} {w0 : St} (hl : l.stackTraces = false) (G : Nat) (w : St) : V_L_law l D H0 w0 (f_L_law_b1883 G  w) 1883 [] [] w := by
  unfold f_L_law_b1883
  refine r_iconst (v := 0) 1884 dL_law_1883 rfl rfl ?_
  exact r_zret rfl rfl rfl dL_law_1884
theorem t_L_law_b1900 {l : Launch} {D : Dn} {H0 : Heap} {w0 : St} (hl : l.stackTraces = false) (G : Nat) (w : St) : V_L_law l D H0 w0 (f_L_law_b1900 G  w) 1900 [] [] w := by
  unfold f_L_law_b1900
  refine r_iconst (v := 0) 1901 dL_law_1900 rfl rfl ?_
  exact r_zret rfl rfl rfl dL_law_1901
theorem t_L_law_b1916 {l : Launch} {D : Dn} {H0 : Heap} {w0 : St} (hl : l.stackTraces = false) (G : Nat) (w : St) : V_L_law l D H0 w0 (f_L_law_b1916 G  w) 1916 [] [] w := by
  unfold f_L_law_b1916
  refine r_iconst (v := 0) 1917 dL_law_1916 rfl rfl ?_
  exact r_zret rfl rfl rfl dL_law_1917
theorem t_L_law_b1954 {l : Launch} {D : Dn} {H0 : Heap} {w0 : St} (hl : l.stackTraces = false) (G : Nat) (w : St) : V_L_law l D H0 w0 (f_L_law_b1954 G  w) 1954 [] [] w := by
  unfold f_L_law_b1954
  refine r_iconst (v := 0) 1955 dL_law_1954 rfl rfl ?_
  exact r_zret rfl rfl rfl dL_law_1955
theorem t_L_law_b1971 {l : Launch} {D : Dn} {H0 : Heap} {w0 : St} (hl : l.stackTraces = false) (G : Nat) (w : St) : V_L_law l D H0 w0 (f_L_law_b1971 G  w) 1971 [] [] w := by
  unfold f_L_law_b1971
  refine r_iconst (v := 0) 1972 dL_law_1971 rfl rfl ?_
  exact r_zret rfl rfl rfl dL_law_1972
theorem t_L_law_b1998 {l : Launch} {D : Dn} {H0 : Heap} {w0 : St} (hl : l.stackTraces = false) (G : Nat) (w : St) : V_L_law l D H0 w0 (f_L_law_b1998 G  w) 1998 [] [] w := by
  unfold f_L_law_b1998
  refine r_iconst (v := 0) 1999 dL_law_1998 rfl rfl ?_
  exact r_zret rfl rfl rfl dL_law_1999
theorem t_L_law_b2015 {l : Launch} {D : Dn} {H0 : Heap} {w0 : St} (hl : l.stackTraces = false) (G : Nat) (w : St) : V_L_law l D H0 w0 (f_L_law_b2015 G  w) 2015 [] [] w := by
  unfold f_L_law_b2015
  refine r_iconst (v := 0) 2016 dL_law_2015 rfl rfl ?_
  exact r_zret rfl rfl rfl dL_law_2016
theorem t_L_law_b2031 {l : Launch} {D : Dn} {H0 : Heap} {w0 : St} (hl : l.stackTraces = false) (G : Nat) (w : St) : V_L_law l D H0 w0 (f_L_law_b2031 G  w) 2031 [] [] w := by
  unfold f_L_law_b2031
  refine r_iconst (v := 0) 2032 dL_law_2031 rfl rfl ?_
  exact r_zret rfl rfl rfl dL_law_2032
theorem t_L_law_b2095 {l : Launch} {D : Dn} {H0 : Heap} {w0 : St} (hl : l.stackTraces = false) (G : Nat) (w : St) : V_L_law l D H0 w0 (f_L_law_b2095 G  w) 2095 [] [] w := by
  unfold f_L_law_b2095
  refine r_iconst (v := 0) 2096 dL_law_2095 rfl rfl ?_
  exact r_zret rfl rfl rfl dL_law_2096
theorem t_L_law_b2112 {l : Launch} {D : Dn} {H0 : Heap} {w0 : St} (hl : l.stackTraces = false) (G : Nat) (w : St) : V_L_law l D H0 w0 (f_L_law_b2112 G  w) 2112 [] [] w := by
  unfold f_L_law_b2112
  refine r_iconst (v := 0) 2113 dL_law_2112 rfl rfl ?_
  exact r_zret rfl rfl rfl dL_law_2113
theorem t_L_law_b2151 {l : Launch} {D : Dn} {H0 : Heap} {w0 : St} (hl : l.stackTraces = false) (G : Nat) (w : St) : V_L_law l D H0 w0 (f_L_law_b2151 G  w) 2151 [] [] w := by
  unfold f_L_law_b2151
  refine r_iconst (v := 0) 2152 dL_law_2151 rfl rfl ?_
  exact r_zret rfl rfl rfl dL_law_2152
theorem t_L_law_b2168 {l : Launch} {D : Dn} {H0 : Heap} {w0 : St} (hl : l.stackTraces = false) (G : Nat) (w : St) : V_L_law l D H0 w0 (f_L_law_b2168 G  w) 2168 [] [] w := by
  unfold f_L_law_b2168
  refine r_iconst (v := 0) 2169 dL_law_2168 rfl rfl ?_
  exact r_zret rfl rfl rfl dL_law_2169
theorem t_L_law_b2184 {l : Launch} {D : Dn} {H0 : Heap} {w0 : St} (hl : l.stackTraces = false) (G : Nat) (w : St) : V_L_law l D H0 w0 (f_L_law_b2184 G  w) 2184 [] [] w := by
  unfold f_L_law_b2184
  refine r_iconst (v := 0) 2185 dL_law_2184 rfl rfl ?_
  exact r_zret rfl rfl rfl dL_law_2185
theorem t_L_law_b2220 {l : Launch} {D : Dn} {H0 : Heap} {w0 : St} (hl : l.stackTraces = false) (G : Nat) (w : St) : V_L_law l D H0 w0 (f_L_law_b2220 G  w) 2220 [] [] w := by
  unfold f_L_law_b2220
  refine r_iconst (v := 0) 2221 dL_law_2220 rfl rfl ?_
  exact r_zret rfl rfl rfl dL_law_2221
theorem t_L_law_b2237 {l : Launch} {D : Dn} {H0 : Heap} {w0 : St} (hl : l.stackTraces = false) (G : Nat) (w : St) : V_L_law l D H0 w0 (f_L_law_b2237 G  w) 2237 [] [] w := by
  unfold f_L_law_b2237
  refine r_iconst (v := 0) 2238 dL_law_2237 rfl rfl ?_
  exact r_zret rfl rfl rfl dL_law_2238
theorem t_L_law_b2276 {l : Launch} {D : Dn} {H0 : Heap} {w0 : St} (hl : l.stackTraces = false) (G : Nat) (w : St) : V_L_law l D H0 w0 (f_L_law_b2276 G  w) 2276 [] [] w := by
  unfold f_L_law_b2276
  refine r_iconst (v := 0) 2277 dL_law_2276 rfl rfl ?_
  exact r_zret rfl rfl rfl dL_law_2277
theorem t_L_law_b2293 {l : Launch} {D : Dn} {H0 : Heap} {w0 : St} (hl : l.stackTraces = false) (G : Nat) (w : St) : V_L_law l D H0 w0 (f_L_law_b2293 G  w) 2293 [] [] w := by
  unfold f_L_law_b2293
  refine r_iconst (v := 0) 2294 dL_law_2293 rfl rfl ?_
  exact r_zret rfl rfl rfl dL_law_2294
theorem t_L_law_b2321 {l : Launch} {D : Dn} {H0 : Heap} {w0 : St} (hl : l.stackTraces = false) (G : Nat) (w : St) : V_L_law l D H0 w0 (f_L_law_b2321 G  w) 2321 [] [] w := by
  unfold f_L_law_b2321
  refine r_iconst (v := 0) 2322 dL_law_2321 rfl rfl ?_
  exact r_zret rfl rfl rfl dL_law_2322
theorem t_L_law_b2358 {l : Launch} {D : Dn} {H0 : Heap} {w0 : St} (hl : l.stackTraces = false) (G : Nat) (w : St) : V_L_law l D H0 w0 (f_L_law_b2358 G  w) 2358 [] [] w := by
  unfold f_L_law_b2358
  refine r_iconst (v := 0) 2359 dL_law_2358 rfl rfl ?_
  exact r_zret rfl rfl rfl dL_law_2359
theorem t_L_law_b2386 {l : Launch} {D : Dn} {H0 : Heap} {w0 : St} (hl : l.stackTraces = false) (G : Nat) (w : St) : V_L_law l D H0 w0 (f_L_law_b2386 G  w) 2386 [] [] w := by
  unfold f_L_law_b2386
  refine r_iconst (v := 0) 2387 dL_law_2386 rfl rfl ?_
  exact r_zret rfl rfl rfl dL_law_2387
theorem t_L_law_b2424 {l : Launch} {D : Dn} {H0 : Heap} {w0 : St} (hl : l.stackTraces = false) (G : Nat) (w : St) : V_L_law l D H0 w0 (f_L_law_b2424 G  w) 2424 [] [] w := by
  unfold f_L_law_b2424
  refine r_iconst (v := 0) 2425 dL_law_2424 rfl rfl ?_
  exact r_zret rfl rfl rfl dL_law_2425
theorem t_L_law_b2451 {l : Launch} {D : Dn} {H0 : Heap} {w0 : St} (hl : l.stackTraces = false) (G : Nat) (w : St) : V_L_law l D H0 w0 (f_L_law_b2451 G  w) 2451 [] [] w := by
  unfold f_L_law_b2451
  refine r_iconst (v := 0) 2452 dL_law_2451 rfl rfl ?_
  exact r_zret rfl rfl rfl dL_law_2452
theorem t_L_law_b2468 {l : Launch} {D : Dn} {H0 : Heap} {w0 : St} (hl : l.stackTraces = false) (G : Nat) (w : St) : V_L_law l D H0 w0 (f_L_law_b2468 G  w) 2468 [] [] w := by
  unfold f_L_law_b2468
  refine r_iconst (v := 0) 2469 dL_law_2468 rfl rfl ?_
  exact r_zret rfl rfl rfl dL_law_2469
theorem t_L_law_b2484 {l : Launch} {D : Dn} {H0 : Heap} {w0 : St} (hl : l.stackTraces = false) (G : Nat) (w : St) : V_L_law l D H0 w0 (f_L_law_b2484 G  w) 2484 [] [] w := by
  unfold f_L_law_b2484
  refine r_iconst (v := 0) 2485 dL_law_2484 rfl rfl ?_
  exact r_zret rfl rfl rfl dL_law_2485
theorem t_L_law_b2508 {l : Launch} {D : Dn} {H0 : Heap} {w0 : St} (hl : l.stackTraces = false) (G : Nat) (w : St) : V_L_law l D H0 w0 (f_L_law_b2508 G  w) 2508 [] [] w := by
  unfold f_L_law_b2508
  refine r_iconst (v := 0) 2509 dL_law_2508 rfl rfl ?_
  exact r_zret rfl rfl rfl dL_law_2509
theorem t_L_law_b2525 {l : Launch} {D : Dn} {H0 : Heap} {w0 : St} (hl : l.stackTraces = false) (G : Nat) (w : St) : V_L_law l D H0 w0 (f_L_law_b2525 G  w) 2525 [] [] w := by
  unfold f_L_law_b2525
  refine r_iconst (v := 0) 2526 dL_law_2525 rfl rfl ?_
  exact r_zret rfl rfl rfl dL_law_2526
theorem t_L_law_b2536 {l : Launch} {D : Dn} {H0 : Heap} {w0 : St} (hl : l.stackTraces = false) (G : Nat) (w : St) : V_L_law l D H0 w0 (f_L_law_b2536 G  w) 2536 [] [] w := by
  unfold f_L_law_b2536
  refine r_iconst (v := 1) 2537 dL_law_2536 rfl rfl ?_
  exact r_zret rfl rfl rfl dL_law_2537
theorem t_L_law {l : Launch} {D : Dn} {H0 : Heap} {w0 : St} (hl : l.stackTraces = false) (G : Nat) (a0 : Rf) (w : St) : V_L_law l D H0 w0 (f_L_law G a0 w) 0 [(0, lR a0)] [] w := by
  unfold f_L_law
  refine r_nw (C := RX1) (T := TX1) (N := 8) (ty := tyX1) 3 0 rfl rfl in_X1 tyX1_ok q148 q149 q100 rfl (by decide) dL_law_0 rfl (fun b0 w0 => ?_)
  refine r_dup_r 4 dL_law_3 rfl ?_
  refine r_callI (b := b0) (n := 0) (as := []) (rest := [rf ((some b0))]) 7 (s_X1_init hl G b0 w0) (lw_meth q152) q100 q150 q151 rfl (by decide +kernel) (by decide) rfl rfl (cat2_r (cat2_nil (k := 0))) rfl dL_law_4 rfl (fun _ w4 => ?_)
  refine r_astore_n (ls2 := [(1, lR ((some b0))), (0, lR a0)]) 8 dL_law_7 rfl (by decide) rfl rfl ?_
  refine r_nw (C := RX3) (T := TX3) (N := 34) (ty := tyX3) 11 26 rfl rfl in_X3 tyX3_ok q2163 q2164 q110 rfl (by decide) dL_law_8 rfl (fun b8 w8 => ?_)
  refine r_dup_r 12 dL_law_11 rfl ?_
  refine r_callI (b := b8) (n := 0) (as := []) (rest := [rf ((some b8))]) 15 (s_X3_init hl G b8 w8) (lw_meth q2167) q110 q2165 q2166 rfl (by decide +kernel) (by decide) rfl rfl (cat2_r (cat2_nil (k := 0))) rfl dL_law_12 rfl (fun _ w12 => ?_)
  refine r_toM (fun wM => ?_)
  refine r_astore_n (ls2 := [(2, lR ((some b8))), (1, lR ((some b0))), (0, lR a0)]) 16 dL_law_15 rfl (by decide) rfl rfl ?_
  refine r_iconst (v := 1) 17 dL_law_16 rfl rfl ?_
  refine r_newa (atype := .long) 19 4 rfl rfl rfl q2693 dL_law_17 rfl (fun w17 => ?_)
  refine r_astore_n (ls2 := [(3, lR ((some wM.n))), (2, lR ((some b8))), (1, lR ((some b0))), (0, lR a0)]) 20 dL_law_19 rfl (by decide) rfl rfl ?_
  refine r_iconst (v := 1) 21 dL_law_20 rfl rfl ?_
  refine r_newa (atype := .double) 23 5 rfl rfl rfl q2694 dL_law_21 rfl (fun w21 => ?_)
  refine r_astore (ls2 := [(4, lR ((some w17.n))), (3, lR ((some wM.n))), (2, lR ((some b8))), (1, lR ((some b0))), (0, lR a0)]) 25 dL_law_23 (by decide) rfl rfl ?_
  refine r_iconst (v := 0) 26 dL_law_25 rfl rfl ?_
  refine r_istore (ls2 := [(5, lI 0), (4, lR ((some w17.n))), (3, lR ((some wM.n))), (2, lR ((some b8))), (1, lR ((some b0))), (0, lR a0)]) 28 dL_law_26 (by decide) rfl rfl ?_
  exact r_lsP [5, 4, 3, 2, 1, 0] rfl (t_L_law_l28 hl G (fun w => f_L_law_b258 G  w) (fun w => t_L_law_b258 hl G  w) (fun w => f_L_law_b275 G  w) (fun w => t_L_law_b275 hl G  w) (fun w => f_L_law_b376 G  w) (fun w => t_L_law_b376 hl G  w) (fun w => f_L_law_b393 G  w) (fun w => t_L_law_b393 hl G  w) (fun w => f_L_law_b444 G  w) (fun w => t_L_law_b444 hl G  w) (fun w => f_L_law_b461 G  w) (fun w => t_L_law_b461 hl G  w) (fun w => f_L_law_b562 G  w) (fun w => t_L_law_b562 hl G  w) (fun w => f_L_law_b579 G  w) (fun w => t_L_law_b579 hl G  w) (fun w => f_L_law_b618 G  w) (fun w => t_L_law_b618 hl G  w) (fun w => f_L_law_b635 G  w) (fun w => t_L_law_b635 hl G  w) (fun w => f_L_law_b686 G  w) (fun w => t_L_law_b686 hl G  w) (fun w => f_L_law_b703 G  w) (fun w => t_L_law_b703 hl G  w) (fun w => f_L_law_b794 G  w) (fun w => t_L_law_b794 hl G  w) (fun w => f_L_law_b811 G  w) (fun w => t_L_law_b811 hl G  w) (fun w => f_L_law_b862 G  w) (fun w => t_L_law_b862 hl G  w) (fun w => f_L_law_b879 G  w) (fun w => t_L_law_b879 hl G  w) (fun w => f_L_law_b942 G  w) (fun w => t_L_law_b942 hl G  w) (fun w => f_L_law_b959 G  w) (fun w => t_L_law_b959 hl G  w) (fun w => f_L_law_b1050 G  w) (fun w => t_L_law_b1050 hl G  w) (fun w => f_L_law_b1067 G  w) (fun w => t_L_law_b1067 hl G  w) (fun w => f_L_law_b1146 G  w) (fun w => t_L_law_b1146 hl G  w) (fun w => f_L_law_b1163 G  w) (fun w => t_L_law_b1163 hl G  w) (fun w => f_L_law_b1242 G  w) (fun w => t_L_law_b1242 hl G  w) (fun w => f_L_law_b1259 G  w) (fun w => t_L_law_b1259 hl G  w) (fun w => f_L_law_b1310 G  w) (fun w => t_L_law_b1310 hl G  w) (fun w => f_L_law_b1327 G  w) (fun w => t_L_law_b1327 hl G  w) (fun w => f_L_law_b1366 G  w) (fun w => t_L_law_b1366 hl G  w) (fun w => f_L_law_b1383 G  w) (fun w => t_L_law_b1383 hl G  w) (fun w => f_L_law_b1422 G  w) (fun w => t_L_law_b1422 hl G  w) (fun w => f_L_law_b1439 G  w) (fun w => t_L_law_b1439 hl G  w) (fun w => f_L_law_b1478 G  w) (fun w => t_L_law_b1478 hl G  w) (fun w => f_L_law_b1495 G  w) (fun w => t_L_law_b1495 hl G  w) (fun w => f_L_law_b1534 G  w) (fun w => t_L_law_b1534 hl G  w) (fun w => f_L_law_b1551 G  w) (fun w => t_L_law_b1551 hl G  w) (fun w => f_L_law_b1567 G  w) (fun w => t_L_law_b1567 hl G  w) (fun w => f_L_law_b1603 G  w) (fun w => t_L_law_b1603 hl G  w) (fun w => f_L_law_b1620 G  w) (fun w => t_L_law_b1620 hl G  w) (fun w => f_L_law_b1659 G  w) (fun w => t_L_law_b1659 hl G  w) (fun w => f_L_law_b1676 G  w) (fun w => t_L_law_b1676 hl G  w) (fun w => f_L_law_b1715 G  w) (fun w => t_L_law_b1715 hl G  w) (fun w => f_L_law_b1732 G  w) (fun w => t_L_law_b1732 hl G  w) (fun w => f_L_law_b1771 G  w) (fun w => t_L_law_b1771 hl G  w) (fun w => f_L_law_b1788 G  w) (fun w => t_L_law_b1788 hl G  w) (fun w => f_L_law_b1827 G  w) (fun w => t_L_law_b1827 hl G  w) (fun w => f_L_law_b1844 G  w) (fun w => t_L_law_b1844 hl G  w) (fun w => f_L_law_b1883 G  w) (fun w => t_L_law_b1883 hl G  w) (fun w => f_L_law_b1900 G  w) (fun w => t_L_law_b1900 hl G  w) (fun w => f_L_law_b1916 G  w) (fun w => t_L_law_b1916 hl G  w) (fun w => f_L_law_b1954 G  w) (fun w => t_L_law_b1954 hl G  w) (fun w => f_L_law_b1971 G  w) (fun w => t_L_law_b1971 hl G  w) (fun w => f_L_law_b1998 G  w) (fun w => t_L_law_b1998 hl G  w) (fun w => f_L_law_b2015 G  w) (fun w => t_L_law_b2015 hl G  w) (fun w => f_L_law_b2031 G  w) (fun w => t_L_law_b2031 hl G  w) (fun w => f_L_law_b2095 G  w) (fun w => t_L_law_b2095 hl G  w) (fun w => f_L_law_b2112 G  w) (fun w => t_L_law_b2112 hl G  w) (fun w => f_L_law_b2151 G  w) (fun w => t_L_law_b2151 hl G  w) (fun w => f_L_law_b2168 G  w) (fun w => t_L_law_b2168 hl G  w) (fun w => f_L_law_b2184 G  w) (fun w => t_L_law_b2184 hl G  w) (fun w => f_L_law_b2220 G  w) (fun w => t_L_law_b2220 hl G  w) (fun w => f_L_law_b2237 G  w) (fun w => t_L_law_b2237 hl G  w) (fun w => f_L_law_b2276 G  w) (fun w => t_L_law_b2276 hl G  w) (fun w => f_L_law_b2293 G  w) (fun w => t_L_law_b2293 hl G  w) (fun w => f_L_law_b2321 G  w) (fun w => t_L_law_b2321 hl G  w) (fun w => f_L_law_b2358 G  w) (fun w => t_L_law_b2358 hl G  w) (fun w => f_L_law_b2386 G  w) (fun w => t_L_law_b2386 hl G  w) (fun w => f_L_law_b2424 G  w) (fun w => t_L_law_b2424 hl G  w) (fun w => f_L_law_b2451 G  w) (fun w => t_L_law_b2451 hl G  w) (fun w => f_L_law_b2468 G  w) (fun w => t_L_law_b2468 hl G  w) (fun w => f_L_law_b2484 G  w) (fun w => t_L_law_b2484 hl G  w) (fun w => f_L_law_b2508 G  w) (fun w => t_L_law_b2508 hl G  w) (fun w => f_L_law_b2525 G  w) (fun w => t_L_law_b2525 hl G  w) (fun w => f_L_law_b2536 G  w) (fun w => t_L_law_b2536 hl G  w) G a0 ((some b0)) ((some b8)) ((some wM.n)) ((some w17.n)) 0 w21)
