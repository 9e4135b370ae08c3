set_option maxRecDepth 100000
set_option maxHeartbeats 4000000
noncomputable def f_X0_coach_b13 (G : Nat) (s0 : Rf) (w : St) : Option (Int32 × St) :=
  some (1, w)
noncomputable def f_X0_coach (G : Nat) (a0 : Rf) (a1 : Int32) (a2 : Int32) (a3 : Rf) (w : St) : Option (Int32 × St) :=
  gd (cls a0 w = some 0) <|
  bh (f_X1_coach G a0 a1 a2 w) (fun q9 w5 => if cls (some q9) w5 = some 20 then (f_X0_coach_b13 G  ((some q9)) w5) else none) fun x5 w5 =>
  bo (jast a3 0 x5.toInt64 w5) fun w9 =>
  some (0, w9)
noncomputable def f_X0_leg_b21 (G : Nat) (s0 : Rf) (w : St) : Option (Int32 × St) :=
  some (1, w)
noncomputable def f_X0_leg (G : Nat) (a0 : Rf) (a1 : Int32) (a2 : Int32) (a3 : Int32) (a4 : Int32) (a5 : Int32) (a6 : Int32) (a7 : Rf) (w : St) : Option (Int32 × St) :=
  gd (cls a0 w = some 0) <|
  bh (f_X1_leg G a0 a1 a2 a3 a4 a5 a6 w) (fun q9 w13 => if cls (some q9) w13 = some 20 then (f_X0_leg_b21 G  ((some q9)) w13) else none) fun x13 w13 =>
  bo (jast a7 0 x13.toInt64 w13) fun w17 =>
  some (0, w17)
noncomputable def f_X0_turn_b13 (G : Nat) (s0 : Rf) (w : St) : Option (Int32 × St) :=
  some (1, w)
noncomputable def f_X0_turn (G : Nat) (a0 : Rf) (a1 : Int32) (a2 : Int32) (a3 : Rf) (w : St) : Option (Int32 × St) :=
  gd (cls a0 w = some 0) <|
  bh (f_X1_turn G a0 a1 a2 w) (fun q9 w5 => if cls (some q9) w5 = some 20 then (f_X0_turn_b13 G  ((some q9)) w5) else none) fun x5 w5 =>
  bo (jast a3 0 x5.toInt64 w5) fun w9 =>
  some (0, w9)
noncomputable def f_X0_link_b21 (G : Nat) (s0 : Rf) (w : St) : Option (Int32 × St) :=
  some (1, w)
noncomputable def f_X0_link (G : Nat) (a0 : Rf) (a1 : Int32) (a2 : Int32) (a3 : Int32) (a4 : Int32) (a5 : Int32) (a6 : Int32) (a7 : Rf) (w : St) : Option (Int32 × St) :=
  gd (cls a0 w = some 0) <|
  bh (f_X1_link G a0 a1 a2 a3 a4 a5 a6 w) (fun q9 w13 => if cls (some q9) w13 = some 20 then (f_X0_link_b21 G  ((some q9)) w13) else none) fun x13 w13 =>
  bo (jast a7 0 x13.toInt64 w13) fun w17 =>
  some (0, w17)
noncomputable def f_X0_cut_b12 (G : Nat) (s0 : Rf) (w : St) : Option (Int32 × St) :=
  some (1, w)
noncomputable def f_X0_cut (G : Nat) (a0 : Rf) (a1 : Int32) (a2 : Rf) (w : St) : Option (Int32 × St) :=
  gd (cls a0 w = some 0) <|
  bh (f_X1_cut G a0 a1 w) (fun q9 w4 => if cls (some q9) w4 = some 20 then (f_X0_cut_b12 G  ((some q9)) w4) else none) fun x4 w4 =>
  bo (jast a2 0 x4.toInt64 w4) fun w8 =>
  some (0, w8)
noncomputable def f_X0_limit_b13 (G : Nat) (s0 : Rf) (w : St) : Option (Int32 × St) :=
  some (1, w)
noncomputable def f_X0_limit (G : Nat) (a0 : Rf) (a1 : Int32) (a2 : Int32) (a3 : Rf) (w : St) : Option (Int32 × St) :=
  gd (cls a0 w = some 0) <|
  bh (f_X1_limit G a0 a1 a2 w) (fun q9 w5 => if cls (some q9) w5 = some 20 then (f_X0_limit_b13 G  ((some q9)) w5) else none) fun x5 w5 =>
  bo (jast a3 0 x5.toInt64 w5) fun w9 =>
  some (0, w9)
noncomputable def f_X0_late_b17 (G : Nat) (s0 : Rf) (w : St) : Option (Int32 × St) :=
  some (1, w)
noncomputable def f_X0_late (G : Nat) (a0 : Rf) (a1 : Int32) (a2 : Int32) (a3 : Int32) (a4 : Int32) (a5 : Rf) (w : St) : Option (Int32 × St) :=
  gd (cls a0 w = some 0) <|
  bh (f_X1_late G a0 a1 a2 a3 a4 w) (fun q9 w9 => if cls (some q9) w9 = some 20 then (f_X0_late_b17 G  ((some q9)) w9) else none) fun x9 w9 =>
  bo (jast a5 0 x9.toInt64 w9) fun w13 =>
  some (0, w13)
noncomputable def f_X0_coachOf_b13 (G : Nat) (s0 : Rf) (w : St) : Option (Int32 × St) :=
  some (1, w)
noncomputable def f_X0_coachOf_b17 (G : Nat) (s0 : Rf) (w : St) : Option (Int32 × St) :=
  some (2, w)
noncomputable def f_X0_coachOf (G : Nat) (a0 : Rf) (a1 : Int32) (a2 : Int32) (a3 : Rf) (w : St) : Option (Int32 × St) :=
  gd (cls a0 w = some 0) <|
  bh (f_X1_coachOf G a0 a1 a2 w) (fun q9 w5 => if cls (some q9) w5 = some 23 then (f_X0_coachOf_b13 G  ((some q9)) w5) else if cls (some q9) w5 = some 24 then (f_X0_coachOf_b17 G  ((some q9)) w5) else none) fun x5 w5 =>
  bo (jast a3 0 x5.toInt64 w5) fun w9 =>
  some (0, w9)
noncomputable def f_X0_stopOf_b15 (G : Nat) (s0 : Rf) (w : St) : Option (Int32 × St) :=
  some (1, w)
noncomputable def f_X0_stopOf_b19 (G : Nat) (s0 : Rf) (w : St) : Option (Int32 × St) :=
  some (2, w)
noncomputable def f_X0_stopOf (G : Nat) (a0 : Rf) (a1 : Int32) (a2 : Int32) (a3 : Int32) (a4 : Rf) (w : St) : Option (Int32 × St) :=
  gd (cls a0 w = some 0) <|
  bh (f_X1_stopOf G a0 a1 a2 a3 w) (fun q9 w7 => if cls (some q9) w7 = some 23 then (f_X0_stopOf_b15 G  ((some q9)) w7) else if cls (some q9) w7 = some 24 then (f_X0_stopOf_b19 G  ((some q9)) w7) else none) fun x7 w7 =>
  bo (jast a4 0 x7.toInt64 w7) fun w11 =>
  some (0, w11)
noncomputable def f_X0_eventOf_b17 (G : Nat) (s0 : Rf) (w : St) : Option (Int32 × St) :=
  some (1, w)
noncomputable def f_X0_eventOf_b21 (G : Nat) (s0 : Rf) (w : St) : Option (Int32 × St) :=
  some (2, w)
noncomputable def f_X0_eventOf (G : Nat) (a0 : Rf) (a1 : Int32) (a2 : Int32) (a3 : Int32) (a4 : Int32) (a5 : Rf) (w : St) : Option (Int32 × St) :=
  gd (cls a0 w = some 0) <|
  bh (f_X1_eventOf G a0 a1 a2 a3 a4 w) (fun q9 w9 => if cls (some q9) w9 = some 23 then (f_X0_eventOf_b17 G  ((some q9)) w9) else if cls (some q9) w9 = some 24 then (f_X0_eventOf_b21 G  ((some q9)) w9) else none) fun x9 w9 =>
  bo (jast a5 0 x9.toInt64 w9) fun w13 =>
  some (0, w13)
noncomputable def f_X0_minute_b15 (G : Nat) (s0 : Rf) (w : St) : Option (Int32 × St) :=
  some (1, w)
noncomputable def f_X0_minute (G : Nat) (a0 : Rf) (a1 : Int32) (a2 : Int32) (a3 : Int32) (a4 : Rf) (w : St) : Option (Int32 × St) :=
  gd (cls a0 w = some 0) <|
  bh (f_X1_minute G a0 a1 a2 a3 w) (fun q9 w7 => if cls (some q9) w7 = some 23 then (f_X0_minute_b15 G  ((some q9)) w7) else none) fun x7 w7 =>
  bo (jast a4 0 x7.toInt64 w7) fun w11 =>
  some (0, w11)
noncomputable def f_X0_minuteAgain_b15 (G : Nat) (s0 : Rf) (w : St) : Option (Int32 × St) :=
  some (1, w)
noncomputable def f_X0_minuteAgain (G : Nat) (a0 : Rf) (a1 : Int32) (a2 : Int32) (a3 : Int32) (a4 : Rf) (w : St) : Option (Int32 × St) :=
  gd (cls a0 w = some 0) <|
  bh (f_X1_minuteAgain G a0 a1 a2 a3 w) (fun q9 w7 => if cls (some q9) w7 = some 23 then (f_X0_minuteAgain_b15 G  ((some q9)) w7) else none) fun x7 w7 =>
  bo (jast a4 0 x7.toInt64 w7) fun w11 =>
  some (0, w11)
noncomputable def f_X0_linkOf_b13 (G : Nat) (s0 : Rf) (w : St) : Option (Int32 × St) :=
  some (1, w)
noncomputable def f_X0_linkOf_b17 (G : Nat) (s0 : Rf) (w : St) : Option (Int32 × St) :=
  some (2, w)
noncomputable def f_X0_linkOf (G : Nat) (a0 : Rf) (a1 : Int32) (a2 : Int32) (a3 : Rf) (w : St) : Option (Int32 × St) :=
  gd (cls a0 w = some 0) <|
  bh (f_X1_linkOf G a0 a1 a2 w) (fun q9 w5 => if cls (some q9) w5 = some 23 then (f_X0_linkOf_b13 G  ((some q9)) w5) else if cls (some q9) w5 = some 24 then (f_X0_linkOf_b17 G  ((some q9)) w5) else none) fun x5 w5 =>
  bo (jast a3 0 x5.toInt64 w5) fun w9 =>
  some (0, w9)
noncomputable def f_X0_missed_b12 (G : Nat) (s0 : Rf) (w : St) : Option (Int32 × St) :=
  some (1, w)
noncomputable def f_X0_missed (G : Nat) (a0 : Rf) (a1 : Int32) (a2 : Rf) (w : St) : Option (Int32 × St) :=
  gd (cls a0 w = some 0) <|
  bh (f_X1_missed G a0 a1 w) (fun q9 w4 => if cls (some q9) w4 = some 21 then (f_X0_missed_b12 G  ((some q9)) w4) else none) fun x4 w4 =>
  bo (jast a2 0 x4.toInt64 w4) fun w8 =>
  some (0, w8)
noncomputable def f_X0_waits_b12 (G : Nat) (s0 : Rf) (w : St) : Option (Int32 × St) :=
  some (1, w)
noncomputable def f_X0_waits (G : Nat) (a0 : Rf) (a1 : Int32) (a2 : Rf) (w : St) : Option (Int32 × St) :=
  gd (cls a0 w = some 0) <|
  bh (f_X1_waits G a0 a1 w) (fun q9 w4 => if cls (some q9) w4 = some 23 then (f_X0_waits_b12 G  ((some q9)) w4) else none) fun x4 w4 =>
  bo (jast a2 0 x4.toInt64 w4) fun w8 =>
  some (0, w8)
noncomputable def f_X0_knocks_b12 (G : Nat) (s0 : Rf) (w : St) : Option (Int32 × St) :=
  some (1, w)
noncomputable def f_X0_knocks (G : Nat) (a0 : Rf) (a1 : Int32) (a2 : Rf) (w : St) : Option (Int32 × St) :=
  gd (cls a0 w = some 0) <|
  bh (f_X1_knocks G a0 a1 w) (fun q9 w4 => if cls (some q9) w4 = some 23 then (f_X0_knocks_b12 G  ((some q9)) w4) else none) fun x4 w4 =>
  bo (jast a2 0 x4.toInt64 w4) fun w8 =>
  some (0, w8)
noncomputable def f_X0_reaches_b12 (G : Nat) (s0 : Rf) (w : St) : Option (Int32 × St) :=
  some (1, w)
noncomputable def f_X0_reaches (G : Nat) (a0 : Rf) (a1 : Int32) (a2 : Rf) (w : St) : Option (Int32 × St) :=
  gd (cls a0 w = some 0) <|
  bh (f_X1_reaches G a0 a1 w) (fun q9 w4 => if cls (some q9) w4 = some 23 then (f_X0_reaches_b12 G  ((some q9)) w4) else none) fun x4 w4 =>
  bo (jast a2 0 x4.toInt64 w4) fun w8 =>
  some (0, w8)
noncomputable def f_X0_totalWith_b12 (G : Nat) (s0 : Rf) (w : St) : Option (Int32 × St) :=
  some (1, w)
noncomputable def f_X0_totalWith (G : Nat) (a0 : Rf) (a1 : Int32) (a2 : Rf) (w : St) : Option (Int32 × St) :=
  gd (cls a0 w = some 0) <|
  bh (f_X1_totalWith G a0 a1 w) (fun q9 w4 => if cls (some q9) w4 = some 24 then (f_X0_totalWith_b12 G  ((some q9)) w4) else none) fun x4 w4 =>
  bo (jast a2 0 x4.toInt64 w4) fun w8 =>
  some (0, w8)
noncomputable def f_X0_missedWith_b12 (G : Nat) (s0 : Rf) (w : St) : Option (Int32 × St) :=
  some (1, w)
noncomputable def f_X0_missedWith (G : Nat) (a0 : Rf) (a1 : Int32) (a2 : Rf) (w : St) : Option (Int32 × St) :=
  gd (cls a0 w = some 0) <|
  bh (f_X1_missedWith G a0 a1 w) (fun q9 w4 => if cls (some q9) w4 = some 24 then (f_X0_missedWith_b12 G  ((some q9)) w4) else none) fun x4 w4 =>
  bo (jast a2 0 x4.toInt64 w4) fun w8 =>
  some (0, w8)
noncomputable def f_X0_bestLimit_b12 (G : Nat) (s0 : Rf) (w : St) : Option (Int32 × St) :=
  some (1, w)
noncomputable def f_X0_bestLimit (G : Nat) (a0 : Rf) (a1 : Int32) (a2 : Rf) (w : St) : Option (Int32 × St) :=
  gd (cls a0 w = some 0) <|
  bh (f_X1_bestLimit G a0 a1 w) (fun q9 w4 => if cls (some q9) w4 = some 24 then (f_X0_bestLimit_b12 G  ((some q9)) w4) else none) fun x4 w4 =>
  bo (jast a2 0 x4.toInt64 w4) fun w8 =>
  some (0, w8)
noncomputable def f_X0_ranked_b12 (G : Nat) (s0 : Rf) (w : St) : Option (Int32 × St) :=
  some (1, w)
noncomputable def f_X0_ranked (G : Nat) (a0 : Rf) (a1 : Int32) (a2 : Rf) (w : St) : Option (Int32 × St) :=
  gd (cls a0 w = some 0) <|
  bh (f_X1_ranked G a0 a1 w) (fun q9 w4 => if cls (some q9) w4 = some 21 then (f_X0_ranked_b12 G  ((some q9)) w4) else none) fun x4 w4 =>
  bo (jast a2 0 x4.toInt64 w4) fun w8 =>
  some (0, w8)
noncomputable def f_X0_tightest_b12 (G : Nat) (s0 : Rf) (w : St) : Option (Int32 × St) :=
  some (1, w)
noncomputable def f_X0_tightest (G : Nat) (a0 : Rf) (a1 : Int32) (a2 : Rf) (w : St) : Option (Int32 × St) :=
  gd (cls a0 w = some 0) <|
  bh (f_X1_tightest G a0 a1 w) (fun q9 w4 => if cls (some q9) w4 = some 21 then (f_X0_tightest_b12 G  ((some q9)) w4) else none) fun x4 w4 =>
  bo (jast a2 0 x4.toInt64 w4) fun w8 =>
  some (0, w8)
noncomputable def f_X0_event_b12 (G : Nat) (s0 : Rf) (w : St) : Option (Int32 × St) :=
  some (1, w)
noncomputable def f_X0_event (G : Nat) (a0 : Rf) (a1 : Int32) (a2 : Rf) (w : St) : Option (Int32 × St) :=
  gd (cls a0 w = some 0) <|
  bh (f_X1_event G a0 a1 w) (fun q9 w4 => if cls (some q9) w4 = some 21 then (f_X0_event_b12 G  ((some q9)) w4) else none) fun x4 w4 =>
  bo (jast a2 0 x4.toInt64 w4) fun w8 =>
  some (0, w8)
noncomputable def f_X0_append_b12 (G : Nat) (s0 : Rf) (w : St) : Option (Int32 × St) :=
  some (1, w)
noncomputable def f_X0_append_b15 (G : Nat) (s0 : Rf) (w : St) : Option (Int32 × St) :=
  some (2, w)
noncomputable def f_X0_append (G : Nat) (a0 : Rf) (a1 : Int32) (a2 : Rf) (w : St) : Option (Int32 × St) :=
  gd (cls a0 w = some 0) <|
  bh (f_X1_append G a0 a1 w) (fun q9 w4 => if cls (some q9) w4 = some 24 then (f_X0_append_b12 G  ((some q9)) w4) else if cls (some q9) w4 = some 22 then (f_X0_append_b15 G  ((some q9)) w4) else none) fun x4 w4 =>
  bo (jast a2 0 x4.toInt64 w4) fun w8 =>
  some (0, w8)
noncomputable def f_X0_run_b11 (G : Nat) (s0 : Rf) (w : St) : Option (Int32 × St) :=
  some (1, w)
noncomputable def f_X0_run_b14 (G : Nat) (s0 : Rf) (w : St) : Option (Int32 × St) :=
  some (2, w)
noncomputable def f_X0_run (G : Nat) (a0 : Rf) (a1 : Rf) (w : St) : Option (Int32 × St) :=
  gd (cls a0 w = some 0) <|
  bh (f_X1_run G a0 w) (fun q9 w3 => if cls (some q9) w3 = some 24 then (f_X0_run_b11 G  ((some q9)) w3) else if cls (some q9) w3 = some 20 then (f_X0_run_b14 G  ((some q9)) w3) else none) fun x3 w3 =>
  bo (jast a1 0 x3.toInt64 w3) fun w7 =>
  some (0, w7)
noncomputable def f_X0_reason_b13 (G : Nat) (s0 : Rf) (w : St) : Option (Int32 × St) :=
  some (1, w)
noncomputable def f_X0_reason_b17 (G : Nat) (s0 : Rf) (w : St) : Option (Int32 × St) :=
  some (2, w)
noncomputable def f_X0_reason (G : Nat) (a0 : Rf) (a1 : Int32) (a2 : Int32) (a3 : Rf) (w : St) : Option (Int32 × St) :=
  gd (cls a0 w = some 0) <|
  bh (f_X1_reason G a0 a1 a2 w) (fun q9 w5 => if cls (some q9) w5 = some 24 then (f_X0_reason_b13 G  ((some q9)) w5) else if cls (some q9) w5 = some 21 then (f_X0_reason_b17 G  ((some q9)) w5) else none) fun x5 w5 =>
  bo (jast a3 0 x5.toInt64 w5) fun w9 =>
  some (0, w9)
noncomputable def f_X0_tell_b12 (G : Nat) (s0 : Rf) (w : St) : Option (Int32 × St) :=
  some (1, w)
noncomputable def f_X0_tell (G : Nat) (a0 : Rf) (a1 : Int32) (a2 : Rf) (w : St) : Option (Int32 × St) :=
  gd (cls a0 w = some 0) <|
  bh (f_X1_tell G a0 a1 w) (fun q9 w4 => if cls (some q9) w4 = some 23 then (f_X0_tell_b12 G  ((some q9)) w4) else none) fun x4 w4 =>
  bo (jast a2 0 x4.toInt64 w4) fun w8 =>
  some (0, w8)
noncomputable def f_X0_character_b12 (G : Nat) (s0 : Rf) (w : St) : Option (Int32 × St) :=
  some (1, w)
noncomputable def f_X0_character (G : Nat) (a0 : Rf) (a1 : Int32) (a2 : Rf) (w : St) : Option (Int32 × St) :=
  gd (cls a0 w = some 0) <|
  bh (f_X1_character G a0 a1 w) (fun q9 w4 => if cls (some q9) w4 = some 23 then (f_X0_character_b12 G  ((some q9)) w4) else none) fun x4 w4 =>
  bo (jast a2 0 x4.toInt64 w4) fun w8 =>
  some (0, w8)
noncomputable def f_X0_account_b12 (G : Nat) (s0 : Rf) (w : St) : Option (Int32 × St) :=
  some (1, w)
noncomputable def f_X0_account (G : Nat) (a0 : Rf) (a1 : Int32) (a2 : Rf) (w : St) : Option (Int32 × St) :=
  gd (cls a0 w = some 0) <|
  bh (f_X1_account G a0 a1 w) (fun q9 w4 => if cls (some q9) w4 = some 24 then (f_X0_account_b12 G  ((some q9)) w4) else none) fun x4 w4 =>
  bo (jast a2 0 x4.toInt64 w4) fun w8 =>
  some (0, w8)
noncomputable def f_X0_meanLate_b10 (G : Nat) (s0 : Rf) (w : St) : Option (Int32 × St) :=
  some (1, w)
noncomputable def f_X0_meanLate (G : Nat) (a0 : Rf) (a1 : Rf) (w : St) : Option (Int32 × St) :=
  gd (cls a0 w = some 0) <|
  bh (f_X1_meanLate G a0 w) (fun q9 w3 => if cls (some q9) w3 = some 25 then (f_X0_meanLate_b10 G  ((some q9)) w3) else none) fun x3 w3 =>
  bo (dast a1 0 x3 w3) fun w6 =>
  some (0, w6)
noncomputable def f_X0_keptShare_b11 (G : Nat) (s0 : Rf) (w : St) : Option (Int32 × St) :=
  some (1, w)
noncomputable def f_X0_keptShare (G : Nat) (a0 : Rf) (a1 : Rf) (w : St) : Option (Int32 × St) :=
  gd (cls a0 w = some 0) <|
  bh (f_X1_keptShare G a0 w) (fun q9 w3 => if cls (some q9) w3 = some 25 then (f_X0_keptShare_b11 G  ((some q9)) w3) else none) fun x3 w3 =>
  gdC (vf_n64 (FP.f2d x3)) <|
  bo (dast a1 0 (FP.f2d x3) w3) fun w7 =>
  some (0, w7)
noncomputable def f_X0_undo_b11 (G : Nat) (s0 : Rf) (w : St) : Option (Int32 × St) :=
  some (1, w)
noncomputable def f_X0_undo (G : Nat) (a0 : Rf) (a1 : Rf) (w : St) : Option (Int32 × St) :=
  gd (cls a0 w = some 0) <|
  bh (f_X1_undo G a0 w) (fun q9 w3 => if cls (some q9) w3 = some 22 then (f_X0_undo_b11 G  ((some q9)) w3) else none) fun x3 w3 =>
  bo (jast a1 0 x3.toInt64 w3) fun w7 =>
  some (0, w7)
noncomputable def f_X0_restore_b11 (G : Nat) (s0 : Rf) (w : St) : Option (Int32 × St) :=
  some (1, w)
noncomputable def f_X0_restore (G : Nat) (a0 : Rf) (a1 : Rf) (w : St) : Option (Int32 × St) :=
  gd (cls a0 w = some 0) <|
  bh (f_X1_restore G a0 w) (fun q9 w3 => if cls (some q9) w3 = some 22 then (f_X0_restore_b11 G  ((some q9)) w3) else none) fun x3 w3 =>
  bo (jast a1 0 x3.toInt64 w3) fun w7 =>
  some (0, w7)
abbrev V_X0_coach (l : Launch) (D : Dn) (H0 : Heap) (w0 : St) (res : Option (Int32 × St)) (pc : Nat) (ls : List (Nat × LV)) (st : List Value) (w : St) : Prop := V l D H0 RX0 "coach" cX0_coach 5 (some (.int)) [(0, 10, 13, 13)] 36 3129 (fun x => .inr (rvI x)) w0 res pc ls st w
theorem t_X0_coach_b13 {l : Launch} {D : Dn} {H0 : Heap} {w0 : St} (hl : l.stackTraces = false) (G : Nat) (s0 : Rf) (w : St) : V_X0_coach l D H0 w0 (f_X0_coach_b13 G s0 w) 13 [] [rf s0] w := by
  unfold f_X0_coach_b13
  refine r_astore (ls2 := [(4, lR s0)]) 15 dX0_coach_13 (by decide) rfl rfl ?_
  refine r_iconst (v := 1) 16 dX0_coach_15 rfl rfl ?_
  exact r_iret rfl rfl dX0_coach_16
theorem t_X0_coach {l : Launch} {D : Dn} {H0 : Heap} {w0 : St} (hl : l.stackTraces = false) (G : Nat) (a0 : Rf) (a1 : Int32) (a2 : Int32) (a3 : Rf) (w : St) : V_X0_coach l D H0 w0 (f_X0_coach G a0 a1 a2 a3 w) 0 [(0, lR a0), (1, lI a1), (2, lI a2), (3, lR a3)] [] w := by
  unfold f_X0_coach
  refine r_aload_n 1 3 dX0_coach_0 rfl rfl rfl ?_
  refine r_iconst (v := 0) 2 dX0_coach_1 rfl rfl ?_
  refine r_aload_n 3 0 dX0_coach_2 rfl rfl rfl ?_
  refine r_iload_n 4 1 dX0_coach_3 rfl rfl rfl ?_
  refine r_iload_n 5 2 dX0_coach_4 rfl rfl rfl ?_
  refine r_gd (fun hc5 => ?_)
  refine r_callHV (n := 2) (as := [lI a1, lI a2]) (rest := [.int 0, rf a3]) 8 0 (s_X1_coach hl G a0 a1 a2 w) hc5 rfl (lw_V q1355 q1356 q1357 q100 q1358) (by decide +kernel) (by decide) rfl rfl (cat2_i (cat2_r (cat2_nil (k := 0)))) rfl dX0_coach_5 rfl (fun q9 w5 => ?_) (fun x5 w5 => ?_)
  · refine r_vif (fun he => ?_) (fun _ => ?_)
    · refine r_catch (ci := 20) 0 he rfl rfl (al_nil) rfl (by decide) q1354 q1391 ?_
      exact r_lsP [] rfl (t_X0_coach_b13 hl G  ((some q9)) w5)
    exact r_tnone
  refine r_i2l 9 dX0_coach_8 rfl ?_
  refine r_jast 10 dX0_coach_9 rfl (fun w9 => ?_)
  refine r_goto 17 dX0_coach_10 (by decide) ?_
  refine r_iconst (v := 0) 18 dX0_coach_17 rfl rfl ?_
  exact r_iret rfl rfl dX0_coach_18
theorem s_X0_coach {l : Launch} {D : Dn} {H0 : Heap} (hl : l.stackTraces = false) (G : Nat) (a0 : Rf) (a1 : Int32) (a2 : Int32) (a3 : Rf) (w : St) : SimN l D H0 yX0_coach (wsW_ yX0_coach cX0_coach 5 (some (.int)) [(0, 10, 13, 13)]) 36 3129 rvI [lR a0, lI a1, lI a2, lR a3] w (f_X0_coach G a0 a1 a2 a3 w) := SimX.N (SimX.ofVH (y := yX0_coach) (by decide) rfl (t_X0_coach hl G a0 a1 a2 a3 w))
abbrev V_X0_leg (l : Launch) (D : Dn) (H0 : Heap) (w0 : St) (res : Option (Int32 × St)) (pc : Nat) (ls : List (Nat × LV)) (st : List Value) (w : St) : Prop := V l D H0 RX0 "leg" cX0_leg 9 (some (.int)) [(0, 18, 21, 13)] 36 3134 (fun x => .inr (rvI x)) w0 res pc ls st w
theorem t_X0_leg_b21 {l : Launch} {D : Dn} {H0 : Heap} {w0 : St} (hl : l.stackTraces = false) (G : Nat) (s0 : Rf) (w : St) : V_X0_leg l D H0 w0 (f_X0_leg_b21 G s0 w) 21 [] [rf s0] w := by
  unfold f_X0_leg_b21
  refine r_astore (ls2 := [(8, lR s0)]) 23 dX0_leg_21 (by decide) rfl rfl ?_
  refine r_iconst (v := 1) 24 dX0_leg_23 rfl rfl ?_
  exact r_iret rfl rfl dX0_leg_24
theorem t_X0_leg {l : Launch} {D : Dn} {H0 : Heap} {w0 : St} (hl : l.stackTraces = false) (G : Nat) (a0 : Rf) (a1 : Int32) (a2 : Int32) (a3 : Int32) (a4 : Int32) (a5 : Int32) (a6 : Int32) (a7 : Rf) (w : St) : V_X0_leg l D H0 w0 (f_X0_leg G a0 a1 a2 a3 a4 a5 a6 a7 w) 0 [(0, lR a0), (1, lI a1), (2, lI a2), (3, lI a3), (4, lI a4), (5, lI a5), (6, lI a6), (7, lR a7)] [] w := by
  unfold f_X0_leg
  refine r_aload 2 7 dX0_leg_0 rfl rfl ?_
  refine r_iconst (v := 0) 3 dX0_leg_2 rfl rfl ?_
  refine r_aload_n 4 0 dX0_leg_3 rfl rfl rfl ?_
  refine r_iload_n 5 1 dX0_leg_4 rfl rfl rfl ?_
  refine r_iload_n 6 2 dX0_leg_5 rfl rfl rfl ?_
  refine r_iload_n 7 3 dX0_leg_6 rfl rfl rfl ?_
  refine r_iload 9 4 dX0_leg_7 rfl rfl ?_
  refine r_iload 11 5 dX0_leg_9 rfl rfl ?_
  refine r_iload 13 6 dX0_leg_11 rfl rfl ?_
  refine r_gd (fun hc13 => ?_)
  refine r_callHV (n := 6) (as := [lI a1, lI a2, lI a3, lI a4, lI a5, lI a6]) (rest := [.int 0, rf a7]) 16 0 (s_X1_leg hl G a0 a1 a2 a3 a4 a5 a6 w) hc13 rfl (lw_V q1471 q1472 q1473 q100 q1474) (by decide +kernel) (by decide) rfl rfl (cat2_i (cat2_r (cat2_nil (k := 0)))) rfl dX0_leg_13 rfl (fun q9 w13 => ?_) (fun x13 w13 => ?_)
  · refine r_vif (fun he => ?_) (fun _ => ?_)
    · refine r_catch (ci := 20) 0 he rfl rfl (al_nil) rfl (by decide) q1354 q1391 ?_
      exact r_lsP [] rfl (t_X0_leg_b21 hl G  ((some q9)) w13)
    exact r_tnone
  refine r_i2l 17 dX0_leg_16 rfl ?_
  refine r_jast 18 dX0_leg_17 rfl (fun w17 => ?_)
  refine r_goto 25 dX0_leg_18 (by decide) ?_
  refine r_iconst (v := 0) 26 dX0_leg_25 rfl rfl ?_
  exact r_iret rfl rfl dX0_leg_26
theorem s_X0_leg {l : Launch} {D : Dn} {H0 : Heap} (hl : l.stackTraces = false) (G : Nat) (a0 : Rf) (a1 : Int32) (a2 : Int32) (a3 : Int32) (a4 : Int32) (a5 : Int32) (a6 : Int32) (a7 : Rf) (w : St) : SimN l D H0 yX0_leg (wsW_ yX0_leg cX0_leg 9 (some (.int)) [(0, 18, 21, 13)]) 36 3134 rvI [lR a0, lI a1, lI a2, lI a3, lI a4, lI a5, lI a6, lR a7] w (f_X0_leg G a0 a1 a2 a3 a4 a5 a6 a7 w) := SimX.N (SimX.ofVH (y := yX0_leg) (by decide) rfl (t_X0_leg hl G a0 a1 a2 a3 a4 a5 a6 a7 w))
abbrev V_X0_turn (l : Launch) (D : Dn) (H0 : Heap) (w0 : St) (res : Option (Int32 × St)) (pc : Nat) (ls : List (Nat × LV)) (st : List Value) (w : St) : Prop := V l D H0 RX0 "turn" cX0_turn 5 (some (.int)) [(0, 10, 13, 13)] 36 3129 (fun x => .inr (rvI x)) w0 res pc ls st w
theorem t_X0_turn_b13 {l : Launch} {D : Dn} {H0 : Heap} {w0 : St} (hl : l.stackTraces = false) (G : Nat) (s0 : Rf) (w : St) : V_X0_turn l D H0 w0 (f_X0_turn_b13 G s0 w) 13 [] [rf s0] w := by
  unfold f_X0_turn_b13
  refine r_astore (ls2 := [(4, lR s0)]) 15 dX0_turn_13 (by decide) rfl rfl ?_
  refine r_iconst (v := 1) 16 dX0_turn_15 rfl rfl ?_
  exact r_iret rfl rfl dX0_turn_16
theorem t_X0_turn {l : Launch} {D : Dn} {H0 : Heap} {w0 : St} (hl : l.stackTraces = false) (G : Nat) (a0 : Rf) (a1 : Int32) (a2 : Int32) (a3 : Rf) (w : St) : V_X0_turn l D H0 w0 (f_X0_turn G a0 a1 a2 a3 w) 0 [(0, lR a0), (1, lI a1), (2, lI a2), (3, lR a3)] [] w := by
  unfold f_X0_turn
  refine r_aload_n 1 3 dX0_turn_0 rfl rfl rfl ?_
  refine r_iconst (v := 0) 2 dX0_turn_1 rfl rfl ?_
  refine r_aload_n 3 0 dX0_turn_2 rfl rfl rfl ?_
  refine r_iload_n 4 1 dX0_turn_3 rfl rfl rfl ?_
  refine r_iload_n 5 2 dX0_turn_4 rfl rfl rfl ?_
  refine r_gd (fun hc5 => ?_)
  refine r_callHV (n := 2) (as := [lI a1, lI a2]) (rest := [.int 0, rf a3]) 8 0 (s_X1_turn hl G a0 a1 a2 w) hc5 rfl (lw_V q1494 q1495 q1496 q100 q1497) (by decide +kernel) (by decide) rfl rfl (cat2_i (cat2_r (cat2_nil (k := 0)))) rfl dX0_turn_5 rfl (fun q9 w5 => ?_) (fun x5 w5 => ?_)
  · refine r_vif (fun he => ?_) (fun _ => ?_)
    · refine r_catch (ci := 20) 0 he rfl rfl (al_nil) rfl (by decide) q1354 q1391 ?_
      exact r_lsP [] rfl (t_X0_turn_b13 hl G  ((some q9)) w5)
    exact r_tnone
  refine r_i2l 9 dX0_turn_8 rfl ?_
  refine r_jast 10 dX0_turn_9 rfl (fun w9 => ?_)
  refine r_goto 17 dX0_turn_10 (by decide) ?_
  refine r_iconst (v := 0) 18 dX0_turn_17 rfl rfl ?_
  exact r_iret rfl rfl dX0_turn_18
theorem s_X0_turn {l : Launch} {D : Dn} {H0 : Heap} (hl : l.stackTraces = false) (G : Nat) (a0 : Rf) (a1 : Int32) (a2 : Int32) (a3 : Rf) (w : St) : SimN l D H0 yX0_turn (wsW_ yX0_turn cX0_turn 5 (some (.int)) [(0, 10, 13, 13)]) 36 3129 rvI [lR a0, lI a1, lI a2, lR a3] w (f_X0_turn G a0 a1 a2 a3 w) := SimX.N (SimX.ofVH (y := yX0_turn) (by decide) rfl (t_X0_turn hl G a0 a1 a2 a3 w))
abbrev V_X0_link (l : Launch) (D : Dn) (H0 : Heap) (w0 : St) (res : Option (Int32 × St)) (pc : Nat) (ls : List (Nat × LV)) (st : List Value) (w : St) : Prop := V l D H0 RX0 "link" cX0_link 9 (some (.int)) [(0, 18, 21, 13)] 36 3132 (fun x => .inr (rvI x)) w0 res pc ls st w
theorem t_X0_link_b21 {l : Launch} {D : Dn} {H0 : Heap} {w0 : St} (hl : l.stackTraces = false) (G : Nat) (s0 : Rf) (w : St) : V_X0_link l D H0 w0 (f_X0_link_b21 G s0 w) 21 [] [rf s0] w := by
  unfold f_X0_link_b21
  refine r_astore (ls2 := [(8, lR s0)]) 23 dX0_link_21 (by decide) rfl rfl ?_
  refine r_iconst (v := 1) 24 dX0_link_23 rfl rfl ?_
  exact r_iret rfl rfl dX0_link_24
theorem t_X0_link {l : Launch} {D : Dn} {H0 : Heap} {w0 : St} (hl : l.stackTraces = false) (G : Nat) (a0 : Rf) (a1 : Int32) (a2 : Int32) (a3 : Int32) (a4 : Int32) (a5 : Int32) (a6 : Int32) (a7 : Rf) (w : St) : V_X0_link l D H0 w0 (f_X0_link G a0 a1 a2 a3 a4 a5 a6 a7 w) 0 [(0, lR a0), (1, lI a1), (2, lI a2), (3, lI a3), (4, lI a4), (5, lI a5), (6, lI a6), (7, lR a7)] [] w := by
  unfold f_X0_link
  refine r_aload 2 7 dX0_link_0 rfl rfl ?_
  refine r_iconst (v := 0) 3 dX0_link_2 rfl rfl ?_
  refine r_aload_n 4 0 dX0_link_3 rfl rfl rfl ?_
  refine r_iload_n 5 1 dX0_link_4 rfl rfl rfl ?_
  refine r_iload_n 6 2 dX0_link_5 rfl rfl rfl ?_
  refine r_iload_n 7 3 dX0_link_6 rfl rfl rfl ?_
  refine r_iload 9 4 dX0_link_7 rfl rfl ?_
  refine r_iload 11 5 dX0_link_9 rfl rfl ?_
  refine r_iload 13 6 dX0_link_11 rfl rfl ?_
  refine r_gd (fun hc13 => ?_)
  refine r_callHV (n := 6) (as := [lI a1, lI a2, lI a3, lI a4, lI a5, lI a6]) (rest := [.int 0, rf a7]) 16 0 (s_X1_link hl G a0 a1 a2 a3 a4 a5 a6 w) hc13 rfl (lw_V q1539 q1540 q1541 q100 q1542) (by decide +kernel) (by decide) rfl rfl (cat2_i (cat2_r (cat2_nil (k := 0)))) rfl dX0_link_13 rfl (fun q9 w13 => ?_) (fun x13 w13 => ?_)
  · refine r_vif (fun he => ?_) (fun _ => ?_)
    · refine r_catch (ci := 20) 0 he rfl rfl (al_nil) rfl (by decide) q1354 q1391 ?_
      exact r_lsP [] rfl (t_X0_link_b21 hl G  ((some q9)) w13)
    exact r_tnone
  refine r_i2l 17 dX0_link_16 rfl ?_
  refine r_jast 18 dX0_link_17 rfl (fun w17 => ?_)
  refine r_goto 25 dX0_link_18 (by decide) ?_
  refine r_iconst (v := 0) 26 dX0_link_25 rfl rfl ?_
  exact r_iret rfl rfl dX0_link_26
theorem s_X0_link {l : Launch} {D : Dn} {H0 : Heap} (hl : l.stackTraces = false) (G : Nat) (a0 : Rf) (a1 : Int32) (a2 : Int32) (a3 : Int32) (a4 : Int32) (a5 : Int32) (a6 : Int32) (a7 : Rf) (w : St) : SimN l D H0 yX0_link (wsW_ yX0_link cX0_link 9 (some (.int)) [(0, 18, 21, 13)]) 36 3132 rvI [lR a0, lI a1, lI a2, lI a3, lI a4, lI a5, lI a6, lR a7] w (f_X0_link G a0 a1 a2 a3 a4 a5 a6 a7 w) := SimX.N (SimX.ofVH (y := yX0_link) (by decide) rfl (t_X0_link hl G a0 a1 a2 a3 a4 a5 a6 a7 w))
abbrev V_X0_cut (l : Launch) (D : Dn) (H0 : Heap) (w0 : St) (res : Option (Int32 × St)) (pc : Nat) (ls : List (Nat × LV)) (st : List Value) (w : St) : Prop := V l D H0 RX0 "cut" cX0_cut 4 (some (.int)) [(0, 9, 12, 13)] 36 3127 (fun x => .inr (rvI x)) w0 res pc ls st w
theorem t_X0_cut_b12 {l : Launch} {D : Dn} {H0 : Heap} {w0 : St} (hl : l.stackTraces = false) (G : Nat) (s0 : Rf) (w : St) : V_X0_cut l D H0 w0 (f_X0_cut_b12 G s0 w) 12 [] [rf s0] w := by
  unfold f_X0_cut_b12
  refine r_astore_n (ls2 := [(3, lR s0)]) 13 dX0_cut_12 rfl (by decide) rfl rfl ?_
  refine r_iconst (v := 1) 14 dX0_cut_13 rfl rfl ?_
  exact r_iret rfl rfl dX0_cut_14
theorem t_X0_cut {l : Launch} {D : Dn} {H0 : Heap} {w0 : St} (hl : l.stackTraces = false) (G : Nat) (a0 : Rf) (a1 : Int32) (a2 : Rf) (w : St) : V_X0_cut l D H0 w0 (f_X0_cut G a0 a1 a2 w) 0 [(0, lR a0), (1, lI a1), (2, lR a2)] [] w := by
  unfold f_X0_cut
  refine r_aload_n 1 2 dX0_cut_0 rfl rfl rfl ?_
  refine r_iconst (v := 0) 2 dX0_cut_1 rfl rfl ?_
  refine r_aload_n 3 0 dX0_cut_2 rfl rfl rfl ?_
  refine r_iload_n 4 1 dX0_cut_3 rfl rfl rfl ?_
  refine r_gd (fun hc4 => ?_)
  refine r_callHV (n := 1) (as := [lI a1]) (rest := [.int 0, rf a2]) 7 0 (s_X1_cut hl G a0 a1 w) hc4 rfl (lw_V q1547 q1548 q1549 q100 q1550) (by decide +kernel) (by decide) rfl rfl (cat2_i (cat2_r (cat2_nil (k := 0)))) rfl dX0_cut_4 rfl (fun q9 w4 => ?_) (fun x4 w4 => ?_)
  · refine r_vif (fun he => ?_) (fun _ => ?_)
    · refine r_catch (ci := 20) 0 he rfl rfl (al_nil) rfl (by decide) q1354 q1391 ?_
      exact r_lsP [] rfl (t_X0_cut_b12 hl G  ((some q9)) w4)
    exact r_tnone
  refine r_i2l 8 dX0_cut_7 rfl ?_
  refine r_jast 9 dX0_cut_8 rfl (fun w8 => ?_)
  refine r_goto 15 dX0_cut_9 (by decide) ?_
  refine r_iconst (v := 0) 16 dX0_cut_15 rfl rfl ?_
  exact r_iret rfl rfl dX0_cut_16
theorem s_X0_cut {l : Launch} {D : Dn} {H0 : Heap} (hl : l.stackTraces = false) (G : Nat) (a0 : Rf) (a1 : Int32) (a2 : Rf) (w : St) : SimN l D H0 yX0_cut (wsW_ yX0_cut cX0_cut 4 (some (.int)) [(0, 9, 12, 13)]) 36 3127 rvI [lR a0, lI a1, lR a2] w (f_X0_cut G a0 a1 a2 w) := SimX.N (SimX.ofVH (y := yX0_cut) (by decide) rfl (t_X0_cut hl G a0 a1 a2 w))
abbrev V_X0_limit (l : Launch) (D : Dn) (H0 : Heap) (w0 : St) (res : Option (Int32 × St)) (pc : Nat) (ls : List (Nat × LV)) (st : List Value) (w : St) : Prop := V l D H0 RX0 "limit" cX0_limit 5 (some (.int)) [(0, 10, 13, 13)] 36 3129 (fun x => .inr (rvI x)) w0 res pc ls st w
theorem t_X0_limit_b13 {l : Launch} {D : Dn} {H0 : Heap} {w0 : St} (hl : l.stackTraces = false) (G : Nat) (s0 : Rf) (w : St) : V_X0_limit l D H0 w0 (f_X0_limit_b13 G s0 w) 13 [] [rf s0] w := by
  unfold f_X0_limit_b13
  refine r_astore (ls2 := [(4, lR s0)]) 15 dX0_limit_13 (by decide) rfl rfl ?_
  refine r_iconst (v := 1) 16 dX0_limit_15 rfl rfl ?_
  exact r_iret rfl rfl dX0_limit_16
theorem t_X0_limit {l : Launch} {D : Dn} {H0 : Heap} {w0 : St} (hl : l.stackTraces = false) (G : Nat) (a0 : Rf) (a1 : Int32) (a2 : Int32) (a3 : Rf) (w : St) : V_X0_limit l D H0 w0 (f_X0_limit G a0 a1 a2 a3 w) 0 [(0, lR a0), (1, lI a1), (2, lI a2), (3, lR a3)] [] w := by
  unfold f_X0_limit
  refine r_aload_n 1 3 dX0_limit_0 rfl rfl rfl ?_
  refine r_iconst (v := 0) 2 dX0_limit_1 rfl rfl ?_
  refine r_aload_n 3 0 dX0_limit_2 rfl rfl rfl ?_
  refine r_iload_n 4 1 dX0_limit_3 rfl rfl rfl ?_
  refine r_iload_n 5 2 dX0_limit_4 rfl rfl rfl ?_
  refine r_gd (fun hc5 => ?_)
  refine r_callHV (n := 2) (as := [lI a1, lI a2]) (rest := [.int 0, rf a3]) 8 0 (s_X1_limit hl G a0 a1 a2 w) hc5 rfl (lw_V q1567 q1568 q1569 q100 q1570) (by decide +kernel) (by decide) rfl rfl (cat2_i (cat2_r (cat2_nil (k := 0)))) rfl dX0_limit_5 rfl (fun q9 w5 => ?_) (fun x5 w5 => ?_)
  · refine r_vif (fun he => ?_) (fun _ => ?_)
    · refine r_catch (ci := 20) 0 he rfl rfl (al_nil) rfl (by decide) q1354 q1391 ?_
      exact r_lsP [] rfl (t_X0_limit_b13 hl G  ((some q9)) w5)
    exact r_tnone
  refine r_i2l 9 dX0_limit_8 rfl ?_
  refine r_jast 10 dX0_limit_9 rfl (fun w9 => ?_)
  refine r_goto 17 dX0_limit_10 (by decide) ?_
  refine r_iconst (v := 0) 18 dX0_limit_17 rfl rfl ?_
  exact r_iret rfl rfl dX0_limit_18
theorem s_X0_limit {l : Launch} {D : Dn} {H0 : Heap} (hl : l.stackTraces = false) (G : Nat) (a0 : Rf) (a1 : Int32) (a2 : Int32) (a3 : Rf) (w : St) : SimN l D H0 yX0_limit (wsW_ yX0_limit cX0_limit 5 (some (.int)) [(0, 10, 13, 13)]) 36 3129 rvI [lR a0, lI a1, lI a2, lR a3] w (f_X0_limit G a0 a1 a2 a3 w) := SimX.N (SimX.ofVH (y := yX0_limit) (by decide) rfl (t_X0_limit hl G a0 a1 a2 a3 w))
abbrev V_X0_late (l : Launch) (D : Dn) (H0 : Heap) (w0 : St) (res : Option (Int32 × St)) (pc : Nat) (ls : List (Nat × LV)) (st : List Value) (w : St) : Prop := V l D H0 RX0 "late" cX0_late 7 (some (.int)) [(0, 14, 17, 13)] 38 3174 (fun x => .inr (rvI x)) w0 res pc ls st w
theorem t_X0_late_b17 {l : Launch} {D : Dn} {H0 : Heap} {w0 : St} (hl : l.stackTraces = false) (G : Nat) (s0 : Rf) (w : St) : V_X0_late l D H0 w0 (f_X0_late_b17 G s0 w) 17 [] [rf s0] w := by
  unfold f_X0_late_b17
  refine r_astore (ls2 := [(6, lR s0)]) 19 dX0_late_17 (by decide) rfl rfl ?_
  refine r_iconst (v := 1) 20 dX0_late_19 rfl rfl ?_
  exact r_iret rfl rfl dX0_late_20
theorem t_X0_late {l : Launch} {D : Dn} {H0 : Heap} {w0 : St} (hl : l.stackTraces = false) (G : Nat) (a0 : Rf) (a1 : Int32) (a2 : Int32) (a3 : Int32) (a4 : Int32) (a5 : Rf) (w : St) : V_X0_late l D H0 w0 (f_X0_late G a0 a1 a2 a3 a4 a5 w) 0 [(0, lR a0), (1, lI a1), (2, lI a2), (3, lI a3), (4, lI a4), (5, lR a5)] [] w := by
  unfold f_X0_late
  refine r_aload 2 5 dX0_late_0 rfl rfl ?_
  refine r_iconst (v := 0) 3 dX0_late_2 rfl rfl ?_
  refine r_aload_n 4 0 dX0_late_3 rfl rfl rfl ?_
  refine r_iload_n 5 1 dX0_late_4 rfl rfl rfl ?_
  refine r_iload_n 6 2 dX0_late_5 rfl rfl rfl ?_
  refine r_iload_n 7 3 dX0_late_6 rfl rfl rfl ?_
  refine r_iload 9 4 dX0_late_7 rfl rfl ?_
  refine r_gd (fun hc9 => ?_)
  refine r_callHV (n := 4) (as := [lI a1, lI a2, lI a3, lI a4]) (rest := [.int 0, rf a5]) 12 0 (s_X1_late hl G a0 a1 a2 a3 a4 w) hc9 rfl (lw_V q1574 q1575 q1576 q100 q1577) (by decide +kernel) (by decide) rfl rfl (cat2_i (cat2_r (cat2_nil (k := 0)))) rfl dX0_late_9 rfl (fun q9 w9 => ?_) (fun x9 w9 => ?_)
  · refine r_vif (fun he => ?_) (fun _ => ?_)
    · refine r_catch (ci := 20) 0 he rfl rfl (al_nil) rfl (by decide) q1354 q1391 ?_
      exact r_lsP [] rfl (t_X0_late_b17 hl G  ((some q9)) w9)
    exact r_tnone
  refine r_i2l 13 dX0_late_12 rfl ?_
  refine r_jast 14 dX0_late_13 rfl (fun w13 => ?_)
  refine r_goto 21 dX0_late_14 (by decide) ?_
  refine r_iconst (v := 0) 22 dX0_late_21 rfl rfl ?_
  exact r_iret rfl rfl dX0_late_22
theorem s_X0_late {l : Launch} {D : Dn} {H0 : Heap} (hl : l.stackTraces = false) (G : Nat) (a0 : Rf) (a1 : Int32) (a2 : Int32) (a3 : Int32) (a4 : Int32) (a5 : Rf) (w : St) : SimN l D H0 yX0_late (wsW_ yX0_late cX0_late 7 (some (.int)) [(0, 14, 17, 13)]) 38 3174 rvI [lR a0, lI a1, lI a2, lI a3, lI a4, lR a5] w (f_X0_late G a0 a1 a2 a3 a4 a5 w) := SimX.N (SimX.ofVH (y := yX0_late) (by decide) rfl (t_X0_late hl G a0 a1 a2 a3 a4 a5 w))
abbrev V_X0_coachOf (l : Launch) (D : Dn) (H0 : Heap) (w0 : St) (res : Option (Int32 × St)) (pc : Nat) (ls : List (Nat × LV)) (st : List Value) (w : St) : Prop := V l D H0 RX0 "coachOf" cX0_coachOf 5 (some (.int)) [(0, 10, 13, 39), (0, 10, 17, 41)] 38 3172 (fun x => .inr (rvI x)) w0 res pc ls st w
theorem t_X0_coachOf_b13 {l : Launch} {D : Dn} {H0 : Heap} {w0 : St} (hl : l.stackTraces = false) (G : Nat) (s0 : Rf) (w : St) : V_X0_coachOf l D H0 w0 (f_X0_coachOf_b13 G s0 w) 13 [] [rf s0] w := by
  unfold f_X0_coachOf_b13
  refine r_astore (ls2 := [(4, lR s0)]) 15 dX0_coachOf_13 (by decide) rfl rfl ?_
  refine r_iconst (v := 1) 16 dX0_coachOf_15 rfl rfl ?_
  exact r_iret rfl rfl dX0_coachOf_16
theorem t_X0_coachOf_b17 {l : Launch} {D : Dn} {H0 : Heap} {w0 : St} (hl : l.stackTraces = false) (G : Nat) (s0 : Rf) (w : St) : V_X0_coachOf l D H0 w0 (f_X0_coachOf_b17 G s0 w) 17 [] [rf s0] w := by
  unfold f_X0_coachOf_b17
  refine r_astore (ls2 := [(4, lR s0)]) 19 dX0_coachOf_17 (by decide) rfl rfl ?_
  refine r_iconst (v := 2) 20 dX0_coachOf_19 rfl rfl ?_
  exact r_iret rfl rfl dX0_coachOf_20
theorem t_X0_coachOf {l : Launch} {D : Dn} {H0 : Heap} {w0 : St} (hl : l.stackTraces = false) (G : Nat) (a0 : Rf) (a1 : Int32) (a2 : Int32) (a3 : Rf) (w : St) : V_X0_coachOf l D H0 w0 (f_X0_coachOf G a0 a1 a2 a3 w) 0 [(0, lR a0), (1, lI a1), (2, lI a2), (3, lR a3)] [] w := by
  unfold f_X0_coachOf
  refine r_aload_n 1 3 dX0_coachOf_0 rfl rfl rfl ?_
  refine r_iconst (v := 0) 2 dX0_coachOf_1 rfl rfl ?_
  refine r_aload_n 3 0 dX0_coachOf_2 rfl rfl rfl ?_
  refine r_iload_n 4 1 dX0_coachOf_3 rfl rfl rfl ?_
  refine r_iload_n 5 2 dX0_coachOf_4 rfl rfl rfl ?_
  refine r_gd (fun hc5 => ?_)
  refine r_callHV (n := 2) (as := [lI a1, lI a2]) (rest := [.int 0, rf a3]) 8 0 (s_X1_coachOf hl G a0 a1 a2 w) hc5 rfl (lw_V q1601 q1602 q1603 q100 q1604) (by decide +kernel) (by decide) rfl rfl (cat2_i (cat2_r (cat2_nil (k := 0)))) rfl dX0_coachOf_5 rfl (fun q9 w5 => ?_) (fun x5 w5 => ?_)
  · refine r_vif (fun he => ?_) (fun _ => ?_)
    · refine r_catch (ci := 23) 0 he rfl rfl (al_nil) rfl (by decide) q1597 q1614 ?_
      exact r_lsP [] rfl (t_X0_coachOf_b13 hl G  ((some q9)) w5)
    refine r_vif (fun he => ?_) (fun _ => ?_)
    · refine r_catch (ci := 24) 1 he rfl rfl (al_cons (Or.inr ⟨by decide, _, q1597, List.mem_of_getElem? (i := 6) rfl⟩) (al_nil)) rfl (by decide) q1600 q1052 ?_
      exact r_lsP [] rfl (t_X0_coachOf_b17 hl G  ((some q9)) w5)
    exact r_tnone
  refine r_i2l 9 dX0_coachOf_8 rfl ?_
  refine r_jast 10 dX0_coachOf_9 rfl (fun w9 => ?_)
  refine r_goto 21 dX0_coachOf_10 (by decide) ?_
  refine r_iconst (v := 0) 22 dX0_coachOf_21 rfl rfl ?_
  exact r_iret rfl rfl dX0_coachOf_22
theorem s_X0_coachOf {l : Launch} {D : Dn} {H0 : Heap} (hl : l.stackTraces = false) (G : Nat) (a0 : Rf) (a1 : Int32) (a2 : Int32) (a3 : Rf) (w : St) : SimN l D H0 yX0_coachOf (wsW_ yX0_coachOf cX0_coachOf 5 (some (.int)) [(0, 10, 13, 39), (0, 10, 17, 41)]) 38 3172 rvI [lR a0, lI a1, lI a2, lR a3] w (f_X0_coachOf G a0 a1 a2 a3 w) := SimX.N (SimX.ofVH (y := yX0_coachOf) (by decide) rfl (t_X0_coachOf hl G a0 a1 a2 a3 w))
abbrev V_X0_stopOf (l : Launch) (D : Dn) (H0 : Heap) (w0 : St) (res : Option (Int32 × St)) (pc : Nat) (ls : List (Nat × LV)) (st : List Value) (w : St) : Prop := V l D H0 RX0 "stopOf" cX0_stopOf 6 (some (.int)) [(0, 12, 15, 39), (0, 12, 19, 41)] 34 3087 (fun x => .inr (rvI x)) w0 res pc ls st w
theorem t_X0_stopOf_b15 {l : Launch} {D : Dn} {H0 : Heap} {w0 : St} (hl : l.stackTraces = false) (G : Nat) (s0 : Rf) (w : St) : V_X0_stopOf l D H0 w0 (f_X0_stopOf_b15 G s0 w) 15 [] [rf s0] w := by
  unfold f_X0_stopOf_b15
  refine r_astore (ls2 := [(5, lR s0)]) 17 dX0_stopOf_15 (by decide) rfl rfl ?_
  refine r_iconst (v := 1) 18 dX0_stopOf_17 rfl rfl ?_
  exact r_iret rfl rfl dX0_stopOf_18
theorem t_X0_stopOf_b19 {l : Launch} {D : Dn} {H0 : Heap} {w0 : St} (hl : l.stackTraces = false) (G : Nat) (s0 : Rf) (w : St) : V_X0_stopOf l D H0 w0 (f_X0_stopOf_b19 G s0 w) 19 [] [rf s0] w := by
  unfold f_X0_stopOf_b19
  refine r_astore (ls2 := [(5, lR s0)]) 21 dX0_stopOf_19 (by decide) rfl rfl ?_
  refine r_iconst (v := 2) 22 dX0_stopOf_21 rfl rfl ?_
  exact r_iret rfl rfl dX0_stopOf_22
theorem t_X0_stopOf {l : Launch} {D : Dn} {H0 : Heap} {w0 : St} (hl : l.stackTraces = false) (G : Nat) (a0 : Rf) (a1 : Int32) (a2 : Int32) (a3 : Int32) (a4 : Rf) (w : St) : V_X0_stopOf l D H0 w0 (f_X0_stopOf G a0 a1 a2 a3 a4 w) 0 [(0, lR a0), (1, lI a1), (2, lI a2), (3, lI a3), (4, lR a4)] [] w := by
  unfold f_X0_stopOf
  refine r_aload 2 4 dX0_stopOf_0 rfl rfl ?_
  refine r_iconst (v := 0) 3 dX0_stopOf_2 rfl rfl ?_
  refine r_aload_n 4 0 dX0_stopOf_3 rfl rfl rfl ?_
  refine r_iload_n 5 1 dX0_stopOf_4 rfl rfl rfl ?_
  refine r_iload_n 6 2 dX0_stopOf_5 rfl rfl rfl ?_
  refine r_iload_n 7 3 dX0_stopOf_6 rfl rfl rfl ?_
  refine r_gd (fun hc7 => ?_)
  refine r_callHV (n := 3) (as := [lI a1, lI a2, lI a3]) (rest := [.int 0, rf a4]) 10 0 (s_X1_stopOf hl G a0 a1 a2 a3 w) hc7 rfl (lw_V q1659 q1660 q1661 q100 q1662) (by decide +kernel) (by decide) rfl rfl (cat2_i (cat2_r (cat2_nil (k := 0)))) rfl dX0_stopOf_7 rfl (fun q9 w7 => ?_) (fun x7 w7 => ?_)
  · refine r_vif (fun he => ?_) (fun _ => ?_)
    · refine r_catch (ci := 23) 0 he rfl rfl (al_nil) rfl (by decide) q1597 q1614 ?_
      exact r_lsP [] rfl (t_X0_stopOf_b15 hl G  ((some q9)) w7)
    refine r_vif (fun he => ?_) (fun _ => ?_)
    · refine r_catch (ci := 24) 1 he rfl rfl (al_cons (Or.inr ⟨by decide, _, q1597, List.mem_of_getElem? (i := 6) rfl⟩) (al_nil)) rfl (by decide) q1600 q1052 ?_
      exact r_lsP [] rfl (t_X0_stopOf_b19 hl G  ((some q9)) w7)
    exact r_tnone
  refine r_i2l 11 dX0_stopOf_10 rfl ?_
  refine r_jast 12 dX0_stopOf_11 rfl (fun w11 => ?_)
  refine r_goto 23 dX0_stopOf_12 (by decide) ?_
  refine r_iconst (v := 0) 24 dX0_stopOf_23 rfl rfl ?_
  exact r_iret rfl rfl dX0_stopOf_24
theorem s_X0_stopOf {l : Launch} {D : Dn} {H0 : Heap} (hl : l.stackTraces = false) (G : Nat) (a0 : Rf) (a1 : Int32) (a2 : Int32) (a3 : Int32) (a4 : Rf) (w : St) : SimN l D H0 yX0_stopOf (wsW_ yX0_stopOf cX0_stopOf 6 (some (.int)) [(0, 12, 15, 39), (0, 12, 19, 41)]) 34 3087 rvI [lR a0, lI a1, lI a2, lI a3, lR a4] w (f_X0_stopOf G a0 a1 a2 a3 a4 w) := SimX.N (SimX.ofVH (y := yX0_stopOf) (by decide) rfl (t_X0_stopOf hl G a0 a1 a2 a3 a4 w))
abbrev V_X0_eventOf (l : Launch) (D : Dn) (H0 : Heap) (w0 : St) (res : Option (Int32 × St)) (pc : Nat) (ls : List (Nat × LV)) (st : List Value) (w : St) : Prop := V l D H0 RX0 "eventOf" cX0_eventOf 7 (some (.int)) [(0, 14, 17, 39), (0, 14, 21, 41)] 38 3174 (fun x => .inr (rvI x)) w0 res pc ls st w
theorem t_X0_eventOf_b17 {l : Launch} {D : Dn} {H0 : Heap} {w0 : St} (hl : l.stackTraces = false) (G : Nat) (s0 : Rf) (w : St) : V_X0_eventOf l D H0 w0 (f_X0_eventOf_b17 G s0 w) 17 [] [rf s0] w := by
  unfold f_X0_eventOf_b17
  refine r_astore (ls2 := [(6, lR s0)]) 19 dX0_eventOf_17 (by decide) rfl rfl ?_
  refine r_iconst (v := 1) 20 dX0_eventOf_19 rfl rfl ?_
  exact r_iret rfl rfl dX0_eventOf_20
theorem t_X0_eventOf_b21 {l : Launch} {D : Dn} {H0 : Heap} {w0 : St} (hl : l.stackTraces = false) (G : Nat) (s0 : Rf) (w : St) : V_X0_eventOf l D H0 w0 (f_X0_eventOf_b21 G s0 w) 21 [] [rf s0] w := by
  unfold f_X0_eventOf_b21
  refine r_astore (ls2 := [(6, lR s0)]) 23 dX0_eventOf_21 (by decide) rfl rfl ?_
  refine r_iconst (v := 2) 24 dX0_eventOf_23 rfl rfl ?_
  exact r_iret rfl rfl dX0_eventOf_24
theorem t_X0_eventOf {l : Launch} {D : Dn} {H0 : Heap} {w0 : St} (hl : l.stackTraces = false) (G : Nat) (a0 : Rf) (a1 : Int32) (a2 : Int32) (a3 : Int32) (a4 : Int32) (a5 : Rf) (w : St) : V_X0_eventOf l D H0 w0 (f_X0_eventOf G a0 a1 a2 a3 a4 a5 w) 0 [(0, lR a0), (1, lI a1), (2, lI a2), (3, lI a3), (4, lI a4), (5, lR a5)] [] w := by
  unfold f_X0_eventOf
  refine r_aload 2 5 dX0_eventOf_0 rfl rfl ?_
  refine r_iconst (v := 0) 3 dX0_eventOf_2 rfl rfl ?_
  refine r_aload_n 4 0 dX0_eventOf_3 rfl rfl rfl ?_
  refine r_iload_n 5 1 dX0_eventOf_4 rfl rfl rfl ?_
  refine r_iload_n 6 2 dX0_eventOf_5 rfl rfl rfl ?_
  refine r_iload_n 7 3 dX0_eventOf_6 rfl rfl rfl ?_
  refine r_iload 9 4 dX0_eventOf_7 rfl rfl ?_
  refine r_gd (fun hc9 => ?_)
  refine r_callHV (n := 4) (as := [lI a1, lI a2, lI a3, lI a4]) (rest := [.int 0, rf a5]) 12 0 (s_X1_eventOf hl G a0 a1 a2 a3 a4 w) hc9 rfl (lw_V q1666 q1667 q1668 q100 q1669) (by decide +kernel) (by decide) rfl rfl (cat2_i (cat2_r (cat2_nil (k := 0)))) rfl dX0_eventOf_9 rfl (fun q9 w9 => ?_) (fun x9 w9 => ?_)
  · refine r_vif (fun he => ?_) (fun _ => ?_)
    · refine r_catch (ci := 23) 0 he rfl rfl (al_nil) rfl (by decide) q1597 q1614 ?_
      exact r_lsP [] rfl (t_X0_eventOf_b17 hl G  ((some q9)) w9)
    refine r_vif (fun he => ?_) (fun _ => ?_)
    · refine r_catch (ci := 24) 1 he rfl rfl (al_cons (Or.inr ⟨by decide, _, q1597, List.mem_of_getElem? (i := 6) rfl⟩) (al_nil)) rfl (by decide) q1600 q1052 ?_
      exact r_lsP [] rfl (t_X0_eventOf_b21 hl G  ((some q9)) w9)
    exact r_tnone
  refine r_i2l 13 dX0_eventOf_12 rfl ?_
  refine r_jast 14 dX0_eventOf_13 rfl (fun w13 => ?_)
  refine r_goto 25 dX0_eventOf_14 (by decide) ?_
  refine r_iconst (v := 0) 26 dX0_eventOf_25 rfl rfl ?_
  exact r_iret rfl rfl dX0_eventOf_26
theorem s_X0_eventOf {l : Launch} {D : Dn} {H0 : Heap} (hl : l.stackTraces = false) (G : Nat) (a0 : Rf) (a1 : Int32) (a2 : Int32) (a3 : Int32) (a4 : Int32) (a5 : Rf) (w : St) : SimN l D H0 yX0_eventOf (wsW_ yX0_eventOf cX0_eventOf 7 (some (.int)) [(0, 14, 17, 39), (0, 14, 21, 41)]) 38 3174 rvI [lR a0, lI a1, lI a2, lI a3, lI a4, lR a5] w (f_X0_eventOf G a0 a1 a2 a3 a4 a5 w) := SimX.N (SimX.ofVH (y := yX0_eventOf) (by decide) rfl (t_X0_eventOf hl G a0 a1 a2 a3 a4 a5 w))
abbrev V_X0_minute (l : Launch) (D : Dn) (H0 : Heap) (w0 : St) (res : Option (Int32 × St)) (pc : Nat) (ls : List (Nat × LV)) (st : List Value) (w : St) : Prop := V l D H0 RX0 "minute" cX0_minute 6 (some (.int)) [(0, 12, 15, 39)] 38 3172 (fun x => .inr (rvI x)) w0 res pc ls st w
theorem t_X0_minute_b15 {l : Launch} {D : Dn} {H0 : Heap} {w0 : St} (hl : l.stackTraces = false) (G : Nat) (s0 : Rf) (w : St) : V_X0_minute l D H0 w0 (f_X0_minute_b15 G s0 w) 15 [] [rf s0] w := by
  unfold f_X0_minute_b15
  refine r_astore (ls2 := [(5, lR s0)]) 17 dX0_minute_15 (by decide) rfl rfl ?_
  refine r_iconst (v := 1) 18 dX0_minute_17 rfl rfl ?_
  exact r_iret rfl rfl dX0_minute_18
theorem t_X0_minute {l : Launch} {D : Dn} {H0 : Heap} {w0 : St} (hl : l.stackTraces = false) (G : Nat) (a0 : Rf) (a1 : Int32) (a2 : Int32) (a3 : Int32) (a4 : Rf) (w : St) : V_X0_minute l D H0 w0 (f_X0_minute G a0 a1 a2 a3 a4 w) 0 [(0, lR a0), (1, lI a1), (2, lI a2), (3, lI a3), (4, lR a4)] [] w := by
  unfold f_X0_minute
  refine r_aload 2 4 dX0_minute_0 rfl rfl ?_
  refine r_iconst (v := 0) 3 dX0_minute_2 rfl rfl ?_
  refine r_aload_n 4 0 dX0_minute_3 rfl rfl rfl ?_
  refine r_iload_n 5 1 dX0_minute_4 rfl rfl rfl ?_
  refine r_iload_n 6 2 dX0_minute_5 rfl rfl rfl ?_
  refine r_iload_n 7 3 dX0_minute_6 rfl rfl rfl ?_
  refine r_gd (fun hc7 => ?_)
  refine r_callHV (n := 3) (as := [lI a1, lI a2, lI a3]) (rest := [.int 0, rf a4]) 10 0 (s_X1_minute hl G a0 a1 a2 a3 w) hc7 rfl (lw_V q1677 q1678 q1679 q100 q1680) (by decide +kernel) (by decide) rfl rfl (cat2_i (cat2_r (cat2_nil (k := 0)))) rfl dX0_minute_7 rfl (fun q9 w7 => ?_) (fun x7 w7 => ?_)
  · refine r_vif (fun he => ?_) (fun _ => ?_)
    · refine r_catch (ci := 23) 0 he rfl rfl (al_nil) rfl (by decide) q1597 q1614 ?_
      exact r_lsP [] rfl (t_X0_minute_b15 hl G  ((some q9)) w7)
    exact r_tnone
  refine r_i2l 11 dX0_minute_10 rfl ?_
  refine r_jast 12 dX0_minute_11 rfl (fun w11 => ?_)
  refine r_goto 19 dX0_minute_12 (by decide) ?_
  refine r_iconst (v := 0) 20 dX0_minute_19 rfl rfl ?_
  exact r_iret rfl rfl dX0_minute_20
theorem s_X0_minute {l : Launch} {D : Dn} {H0 : Heap} (hl : l.stackTraces = false) (G : Nat) (a0 : Rf) (a1 : Int32) (a2 : Int32) (a3 : Int32) (a4 : Rf) (w : St) : SimN l D H0 yX0_minute (wsW_ yX0_minute cX0_minute 6 (some (.int)) [(0, 12, 15, 39)]) 38 3172 rvI [lR a0, lI a1, lI a2, lI a3, lR a4] w (f_X0_minute G a0 a1 a2 a3 a4 w) := SimX.N (SimX.ofVH (y := yX0_minute) (by decide) rfl (t_X0_minute hl G a0 a1 a2 a3 a4 w))
abbrev V_X0_minuteAgain (l : Launch) (D : Dn) (H0 : Heap) (w0 : St) (res : Option (Int32 × St)) (pc : Nat) (ls : List (Nat × LV)) (st : List Value) (w : St) : Prop := V l D H0 RX0 "minuteAgain" cX0_minuteAgain 6 (some (.int)) [(0, 12, 15, 39)] 37 3151 (fun x => .inr (rvI x)) w0 res pc ls st w
theorem t_X0_minuteAgain_b15 {l : Launch} {D : Dn} {H0 : Heap} {w0 : St} (hl : l.stackTraces = false) (G : Nat) (s0 : Rf) (w : St) : V_X0_minuteAgain l D H0 w0 (f_X0_minuteAgain_b15 G s0 w) 15 [] [rf s0] w := by
  unfold f_X0_minuteAgain_b15
  refine r_astore (ls2 := [(5, lR s0)]) 17 dX0_minuteAgain_15 (by decide) rfl rfl ?_
  refine r_iconst (v := 1) 18 dX0_minuteAgain_17 rfl rfl ?_
  exact r_iret rfl rfl dX0_minuteAgain_18
theorem t_X0_minuteAgain {l : Launch} {D : Dn} {H0 : Heap} {w0 : St} (hl : l.stackTraces = false) (G : Nat) (a0 : Rf) (a1 : Int32) (a2 : Int32) (a3 : Int32) (a4 : Rf) (w : St) : V_X0_minuteAgain l D H0 w0 (f_X0_minuteAgain G a0 a1 a2 a3 a4 w) 0 [(0, lR a0), (1, lI a1), (2, lI a2), (3, lI a3), (4, lR a4)] [] w := by
  unfold f_X0_minuteAgain
  refine r_aload 2 4 dX0_minuteAgain_0 rfl rfl ?_
  refine r_iconst (v := 0) 3 dX0_minuteAgain_2 rfl rfl ?_
  refine r_aload_n 4 0 dX0_minuteAgain_3 rfl rfl rfl ?_
  refine r_iload_n 5 1 dX0_minuteAgain_4 rfl rfl rfl ?_
  refine r_iload_n 6 2 dX0_minuteAgain_5 rfl rfl rfl ?_
  refine r_iload_n 7 3 dX0_minuteAgain_6 rfl rfl rfl ?_
  refine r_gd (fun hc7 => ?_)
  refine r_callHV (n := 3) (as := [lI a1, lI a2, lI a3]) (rest := [.int 0, rf a4]) 10 0 (s_X1_minuteAgain hl G a0 a1 a2 a3 w) hc7 rfl (lw_V q1684 q1685 q1686 q100 q1687) (by decide +kernel) (by decide) rfl rfl (cat2_i (cat2_r (cat2_nil (k := 0)))) rfl dX0_minuteAgain_7 rfl (fun q9 w7 => ?_) (fun x7 w7 => ?_)
  · refine r_vif (fun he => ?_) (fun _ => ?_)
    · refine r_catch (ci := 23) 0 he rfl rfl (al_nil) rfl (by decide) q1597 q1614 ?_
      exact r_lsP [] rfl (t_X0_minuteAgain_b15 hl G  ((some q9)) w7)
    exact r_tnone
  refine r_i2l 11 dX0_minuteAgain_10 rfl ?_
  refine r_jast 12 dX0_minuteAgain_11 rfl (fun w11 => ?_)
  refine r_goto 19 dX0_minuteAgain_12 (by decide) ?_
  refine r_iconst (v := 0) 20 dX0_minuteAgain_19 rfl rfl ?_
  exact r_iret rfl rfl dX0_minuteAgain_20
theorem s_X0_minuteAgain {l : Launch} {D : Dn} {H0 : Heap} (hl : l.stackTraces = false) (G : Nat) (a0 : Rf) (a1 : Int32) (a2 : Int32) (a3 : Int32) (a4 : Rf) (w : St) : SimN l D H0 yX0_minuteAgain (wsW_ yX0_minuteAgain cX0_minuteAgain 6 (some (.int)) [(0, 12, 15, 39)]) 37 3151 rvI [lR a0, lI a1, lI a2, lI a3, lR a4] w (f_X0_minuteAgain G a0 a1 a2 a3 a4 w) := SimX.N (SimX.ofVH (y := yX0_minuteAgain) (by decide) rfl (t_X0_minuteAgain hl G a0 a1 a2 a3 a4 w))
abbrev V_X0_linkOf (l : Launch) (D : Dn) (H0 : Heap) (w0 : St) (res : Option (Int32 × St)) (pc : Nat) (ls : List (Nat × LV)) (st : List Value) (w : St) : Prop := V l D H0 RX0 "linkOf" cX0_linkOf 5 (some (.int)) [(0, 10, 13, 39), (0, 10, 17, 41)] 38 3172 (fun x => .inr (rvI x)) w0 res pc ls st w
theorem t_X0_linkOf_b13 {l : Launch} {D : Dn} {H0 : Heap} {w0 : St} (hl : l.stackTraces = false) (G : Nat) (s0 : Rf) (w : St) : V_X0_linkOf l D H0 w0 (f_X0_linkOf_b13 G s0 w) 13 [] [rf s0] w := by
  unfold f_X0_linkOf_b13
  refine r_astore (ls2 := [(4, lR s0)]) 15 dX0_linkOf_13 (by decide) rfl rfl ?_
  refine r_iconst (v := 1) 16 dX0_linkOf_15 rfl rfl ?_
  exact r_iret rfl rfl dX0_linkOf_16
theorem t_X0_linkOf_b17 {l : Launch} {D : Dn} {H0 : Heap} {w0 : St} (hl : l.stackTraces = false) (G : Nat) (s0 : Rf) (w : St) : V_X0_linkOf l D H0 w0 (f_X0_linkOf_b17 G s0 w) 17 [] [rf s0] w := by
  unfold f_X0_linkOf_b17
  refine r_astore (ls2 := [(4, lR s0)]) 19 dX0_linkOf_17 (by decide) rfl rfl ?_
  refine r_iconst (v := 2) 20 dX0_linkOf_19 rfl rfl ?_
  exact r_iret rfl rfl dX0_linkOf_20
theorem t_X0_linkOf {l : Launch} {D : Dn} {H0 : Heap} {w0 : St} (hl : l.stackTraces = false) (G : Nat) (a0 : Rf) (a1 : Int32) (a2 : Int32) (a3 : Rf) (w : St) : V_X0_linkOf l D H0 w0 (f_X0_linkOf G a0 a1 a2 a3 w) 0 [(0, lR a0), (1, lI a1), (2, lI a2), (3, lR a3)] [] w := by
  unfold f_X0_linkOf
  refine r_aload_n 1 3 dX0_linkOf_0 rfl rfl rfl ?_
  refine r_iconst (v := 0) 2 dX0_linkOf_1 rfl rfl ?_
  refine r_aload_n 3 0 dX0_linkOf_2 rfl rfl rfl ?_
  refine r_iload_n 4 1 dX0_linkOf_3 rfl rfl rfl ?_
  refine r_iload_n 5 2 dX0_linkOf_4 rfl rfl rfl ?_
  refine r_gd (fun hc5 => ?_)
  refine r_callHV (n := 2) (as := [lI a1, lI a2]) (rest := [.int 0, rf a3]) 8 0 (s_X1_linkOf hl G a0 a1 a2 w) hc5 rfl (lw_V q1691 q1692 q1693 q100 q1694) (by decide +kernel) (by decide) rfl rfl (cat2_i (cat2_r (cat2_nil (k := 0)))) rfl dX0_linkOf_5 rfl (fun q9 w5 => ?_) (fun x5 w5 => ?_)
  · refine r_vif (fun he => ?_) (fun _ => ?_)
    · refine r_catch (ci := 23) 0 he rfl rfl (al_nil) rfl (by decide) q1597 q1614 ?_
      exact r_lsP [] rfl (t_X0_linkOf_b13 hl G  ((some q9)) w5)
    refine r_vif (fun he => ?_) (fun _ => ?_)
    · refine r_catch (ci := 24) 1 he rfl rfl (al_cons (Or.inr ⟨by decide, _, q1597, List.mem_of_getElem? (i := 6) rfl⟩) (al_nil)) rfl (by decide) q1600 q1052 ?_
      exact r_lsP [] rfl (t_X0_linkOf_b17 hl G  ((some q9)) w5)
    exact r_tnone
  refine r_i2l 9 dX0_linkOf_8 rfl ?_
  refine r_jast 10 dX0_linkOf_9 rfl (fun w9 => ?_)
  refine r_goto 21 dX0_linkOf_10 (by decide) ?_
  refine r_iconst (v := 0) 22 dX0_linkOf_21 rfl rfl ?_
  exact r_iret rfl rfl dX0_linkOf_22
theorem s_X0_linkOf {l : Launch} {D : Dn} {H0 : Heap} (hl : l.stackTraces = false) (G : Nat) (a0 : Rf) (a1 : Int32) (a2 : Int32) (a3 : Rf) (w : St) : SimN l D H0 yX0_linkOf (wsW_ yX0_linkOf cX0_linkOf 5 (some (.int)) [(0, 10, 13, 39), (0, 10, 17, 41)]) 38 3172 rvI [lR a0, lI a1, lI a2, lR a3] w (f_X0_linkOf G a0 a1 a2 a3 w) := SimX.N (SimX.ofVH (y := yX0_linkOf) (by decide) rfl (t_X0_linkOf hl G a0 a1 a2 a3 w))
abbrev V_X0_missed (l : Launch) (D : Dn) (H0 : Heap) (w0 : St) (res : Option (Int32 × St)) (pc : Nat) (ls : List (Nat × LV)) (st : List Value) (w : St) : Prop := V l D H0 RX0 "missed" cX0_missed 4 (some (.int)) [(0, 9, 12, 63)] 38 3173 (fun x => .inr (rvI x)) w0 res pc ls st w
theorem t_X0_missed_b12 {l : Launch} {D : Dn} {H0 : Heap} {w0 : St} (hl : l.stackTraces = false) (G : Nat) (s0 : Rf) (w : St) : V_X0_missed l D H0 w0 (f_X0_missed_b12 G s0 w) 12 [] [rf s0] w := by
  unfold f_X0_missed_b12
  refine r_astore_n (ls2 := [(3, lR s0)]) 13 dX0_missed_12 rfl (by decide) rfl rfl ?_
  refine r_iconst (v := 1) 14 dX0_missed_13 rfl rfl ?_
  exact r_iret rfl rfl dX0_missed_14
theorem t_X0_missed {l : Launch} {D : Dn} {H0 : Heap} {w0 : St} (hl : l.stackTraces = false) (G : Nat) (a0 : Rf) (a1 : Int32) (a2 : Rf) (w : St) : V_X0_missed l D H0 w0 (f_X0_missed G a0 a1 a2 w) 0 [(0, lR a0), (1, lI a1), (2, lR a2)] [] w := by
  unfold f_X0_missed
  refine r_aload_n 1 2 dX0_missed_0 rfl rfl rfl ?_
  refine r_iconst (v := 0) 2 dX0_missed_1 rfl rfl ?_
  refine r_aload_n 3 0 dX0_missed_2 rfl rfl rfl ?_
  refine r_iload_n 4 1 dX0_missed_3 rfl rfl rfl ?_
  refine r_gd (fun hc4 => ?_)
  refine r_callHV (n := 1) (as := [lI a1]) (rest := [.int 0, rf a2]) 7 0 (s_X1_missed hl G a0 a1 w) hc4 rfl (lw_V q1707 q1708 q1709 q100 q1710) (by decide +kernel) (by decide) rfl rfl (cat2_i (cat2_r (cat2_nil (k := 0)))) rfl dX0_missed_4 rfl (fun q9 w4 => ?_) (fun x4 w4 => ?_)
  · refine r_vif (fun he => ?_) (fun _ => ?_)
    · refine r_catch (ci := 21) 0 he rfl rfl (al_nil) rfl (by decide) q1706 q604 ?_
      exact r_lsP [] rfl (t_X0_missed_b12 hl G  ((some q9)) w4)
    exact r_tnone
  refine r_i2l 8 dX0_missed_7 rfl ?_
  refine r_jast 9 dX0_missed_8 rfl (fun w8 => ?_)
  refine r_goto 15 dX0_missed_9 (by decide) ?_
  refine r_iconst (v := 0) 16 dX0_missed_15 rfl rfl ?_
  exact r_iret rfl rfl dX0_missed_16
theorem s_X0_missed {l : Launch} {D : Dn} {H0 : Heap} (hl : l.stackTraces = false) (G : Nat) (a0 : Rf) (a1 : Int32) (a2 : Rf) (w : St) : SimN l D H0 yX0_missed (wsW_ yX0_missed cX0_missed 4 (some (.int)) [(0, 9, 12, 63)]) 38 3173 rvI [lR a0, lI a1, lR a2] w (f_X0_missed G a0 a1 a2 w) := SimX.N (SimX.ofVH (y := yX0_missed) (by decide) rfl (t_X0_missed hl G a0 a1 a2 w))
abbrev V_X0_waits (l : Launch) (D : Dn) (H0 : Heap) (w0 : St) (res : Option (Int32 × St)) (pc : Nat) (ls : List (Nat × LV)) (st : List Value) (w : St) : Prop := V l D H0 RX0 "waits" cX0_waits 4 (some (.int)) [(0, 9, 12, 39)] 38 3173 (fun x => .inr (rvI x)) w0 res pc ls st w
theorem t_X0_waits_b12 {l : Launch} {D : Dn} {H0 : Heap} {w0 : St} (hl : l.stackTraces = false) (G : Nat) (s0 : Rf) (w : St) : V_X0_waits l D H0 w0 (f_X0_waits_b12 G s0 w) 12 [] [rf s0] w := by
  unfold f_X0_waits_b12
  refine r_astore_n (ls2 := [(3, lR s0)]) 13 dX0_waits_12 rfl (by decide) rfl rfl ?_
  refine r_iconst (v := 1) 14 dX0_waits_13 rfl rfl ?_
  exact r_iret rfl rfl dX0_waits_14
theorem t_X0_waits {l : Launch} {D : Dn} {H0 : Heap} {w0 : St} (hl : l.stackTraces = false) (G : Nat) (a0 : Rf) (a1 : Int32) (a2 : Rf) (w : St) : V_X0_waits l D H0 w0 (f_X0_waits G a0 a1 a2 w) 0 [(0, lR a0), (1, lI a1), (2, lR a2)] [] w := by
  unfold f_X0_waits
  refine r_aload_n 1 2 dX0_waits_0 rfl rfl rfl ?_
  refine r_iconst (v := 0) 2 dX0_waits_1 rfl rfl ?_
  refine r_aload_n 3 0 dX0_waits_2 rfl rfl rfl ?_
  refine r_iload_n 4 1 dX0_waits_3 rfl rfl rfl ?_
  refine r_gd (fun hc4 => ?_)
  refine r_callHV (n := 1) (as := [lI a1]) (rest := [.int 0, rf a2]) 7 0 (s_X1_waits hl G a0 a1 w) hc4 rfl (lw_V q1716 q1717 q1718 q100 q1719) (by decide +kernel) (by decide) rfl rfl (cat2_i (cat2_r (cat2_nil (k := 0)))) rfl dX0_waits_4 rfl (fun q9 w4 => ?_) (fun x4 w4 => ?_)
  · refine r_vif (fun he => ?_) (fun _ => ?_)
    · refine r_catch (ci := 23) 0 he rfl rfl (al_nil) rfl (by decide) q1597 q1614 ?_
      exact r_lsP [] rfl (t_X0_waits_b12 hl G  ((some q9)) w4)
    exact r_tnone
  refine r_i2l 8 dX0_waits_7 rfl ?_
  refine r_jast 9 dX0_waits_8 rfl (fun w8 => ?_)
  refine r_goto 15 dX0_waits_9 (by decide) ?_
  refine r_iconst (v := 0) 16 dX0_waits_15 rfl rfl ?_
  exact r_iret rfl rfl dX0_waits_16
theorem s_X0_waits {l : Launch} {D : Dn} {H0 : Heap} (hl : l.stackTraces = false) (G : Nat) (a0 : Rf) (a1 : Int32) (a2 : Rf) (w : St) : SimN l D H0 yX0_waits (wsW_ yX0_waits cX0_waits 4 (some (.int)) [(0, 9, 12, 39)]) 38 3173 rvI [lR a0, lI a1, lR a2] w (f_X0_waits G a0 a1 a2 w) := SimX.N (SimX.ofVH (y := yX0_waits) (by decide) rfl (t_X0_waits hl G a0 a1 a2 w))
abbrev V_X0_knocks (l : Launch) (D : Dn) (H0 : Heap) (w0 : St) (res : Option (Int32 × St)) (pc : Nat) (ls : List (Nat × LV)) (st : List Value) (w : St) : Prop := V l D H0 RX0 "knocks" cX0_knocks 4 (some (.int)) [(0, 9, 12, 39)] 38 3174 (fun x => .inr (rvI x)) w0 res pc ls st w
theorem t_X0_knocks_b12 {l : Launch} {D : Dn} {H0 : Heap} {w0 : St} (hl : l.stackTraces = false) (G : Nat) (s0 : Rf) (w : St) : V_X0_knocks l D H0 w0 (f_X0_knocks_b12 G s0 w) 12 [] [rf s0] w := by
  unfold f_X0_knocks_b12
  refine r_astore_n (ls2 := [(3, lR s0)]) 13 dX0_knocks_12 rfl (by decide) rfl rfl ?_
  refine r_iconst (v := 1) 14 dX0_knocks_13 rfl rfl ?_
  exact r_iret rfl rfl dX0_knocks_14
theorem t_X0_knocks {l : Launch} {D : Dn} {H0 : Heap} {w0 : St} (hl : l.stackTraces = false) (G : Nat) (a0 : Rf) (a1 : Int32) (a2 : Rf) (w : St) : V_X0_knocks l D H0 w0 (f_X0_knocks G a0 a1 a2 w) 0 [(0, lR a0), (1, lI a1), (2, lR a2)] [] w := by
  unfold f_X0_knocks
  refine r_aload_n 1 2 dX0_knocks_0 rfl rfl rfl ?_
  refine r_iconst (v := 0) 2 dX0_knocks_1 rfl rfl ?_
  refine r_aload_n 3 0 dX0_knocks_2 rfl rfl rfl ?_
  refine r_iload_n 4 1 dX0_knocks_3 rfl rfl rfl ?_
  refine r_gd (fun hc4 => ?_)
  refine r_callHV (n := 1) (as := [lI a1]) (rest := [.int 0, rf a2]) 7 0 (s_X1_knocks hl G a0 a1 w) hc4 rfl (lw_V q1723 q1724 q1725 q100 q1726) (by decide +kernel) (by decide) rfl rfl (cat2_i (cat2_r (cat2_nil (k := 0)))) rfl dX0_knocks_4 rfl (fun q9 w4 => ?_) (fun x4 w4 => ?_)
  · refine r_vif (fun he => ?_) (fun _ => ?_)
    · refine r_catch (ci := 23) 0 he rfl rfl (al_nil) rfl (by decide) q1597 q1614 ?_
      exact r_lsP [] rfl (t_X0_knocks_b12 hl G  ((some q9)) w4)
    exact r_tnone
  refine r_i2l 8 dX0_knocks_7 rfl ?_
  refine r_jast 9 dX0_knocks_8 rfl (fun w8 => ?_)
  refine r_goto 15 dX0_knocks_9 (by decide) ?_
  refine r_iconst (v := 0) 16 dX0_knocks_15 rfl rfl ?_
  exact r_iret rfl rfl dX0_knocks_16
theorem s_X0_knocks {l : Launch} {D : Dn} {H0 : Heap} (hl : l.stackTraces = false) (G : Nat) (a0 : Rf) (a1 : Int32) (a2 : Rf) (w : St) : SimN l D H0 yX0_knocks (wsW_ yX0_knocks cX0_knocks 4 (some (.int)) [(0, 9, 12, 39)]) 38 3174 rvI [lR a0, lI a1, lR a2] w (f_X0_knocks G a0 a1 a2 w) := SimX.N (SimX.ofVH (y := yX0_knocks) (by decide) rfl (t_X0_knocks hl G a0 a1 a2 w))
abbrev V_X0_reaches (l : Launch) (D : Dn) (H0 : Heap) (w0 : St) (res : Option (Int32 × St)) (pc : Nat) (ls : List (Nat × LV)) (st : List Value) (w : St) : Prop := V l D H0 RX0 "reaches" cX0_reaches 4 (some (.int)) [(0, 9, 12, 39)] 38 3174 (fun x => .inr (rvI x)) w0 res pc ls st w
theorem t_X0_reaches_b12 {l : Launch} {D : Dn} {H0 : Heap} {w0 : St} (hl : l.stackTraces = false) (G : Nat) (s0 : Rf) (w : St) : V_X0_reaches l D H0 w0 (f_X0_reaches_b12 G s0 w) 12 [] [rf s0] w := by
  unfold f_X0_reaches_b12
  refine r_astore_n (ls2 := [(3, lR s0)]) 13 dX0_reaches_12 rfl (by decide) rfl rfl ?_
  refine r_iconst (v := 1) 14 dX0_reaches_13 rfl rfl ?_
  exact r_iret rfl rfl dX0_reaches_14
theorem t_X0_reaches {l : Launch} {D : Dn} {H0 : Heap} {w0 : St} (hl : l.stackTraces = false) (G : Nat) (a0 : Rf) (a1 : Int32) (a2 : Rf) (w : St) : V_X0_reaches l D H0 w0 (f_X0_reaches G a0 a1 a2 w) 0 [(0, lR a0), (1, lI a1), (2, lR a2)] [] w := by
  unfold f_X0_reaches
  refine r_aload_n 1 2 dX0_reaches_0 rfl rfl rfl ?_
  refine r_iconst (v := 0) 2 dX0_reaches_1 rfl rfl ?_
  refine r_aload_n 3 0 dX0_reaches_2 rfl rfl rfl ?_
  refine r_iload_n 4 1 dX0_reaches_3 rfl rfl rfl ?_
  refine r_gd (fun hc4 => ?_)
  refine r_callHV (n := 1) (as := [lI a1]) (rest := [.int 0, rf a2]) 7 0 (s_X1_reaches hl G a0 a1 w) hc4 rfl (lw_V q1730 q1731 q1732 q100 q1733) (by decide +kernel) (by decide) rfl rfl (cat2_i (cat2_r (cat2_nil (k := 0)))) rfl dX0_reaches_4 rfl (fun q9 w4 => ?_) (fun x4 w4 => ?_)
  · refine r_vif (fun he => ?_) (fun _ => ?_)
    · refine r_catch (ci := 23) 0 he rfl rfl (al_nil) rfl (by decide) q1597 q1614 ?_
      exact r_lsP [] rfl (t_X0_reaches_b12 hl G  ((some q9)) w4)
    exact r_tnone
  refine r_i2l 8 dX0_reaches_7 rfl ?_
  refine r_jast 9 dX0_reaches_8 rfl (fun w8 => ?_)
  refine r_goto 15 dX0_reaches_9 (by decide) ?_
  refine r_iconst (v := 0) 16 dX0_reaches_15 rfl rfl ?_
  exact r_iret rfl rfl dX0_reaches_16
theorem s_X0_reaches {l : Launch} {D : Dn} {H0 : Heap} (hl : l.stackTraces = false) (G : Nat) (a0 : Rf) (a1 : Int32) (a2 : Rf) (w : St) : SimN l D H0 yX0_reaches (wsW_ yX0_reaches cX0_reaches 4 (some (.int)) [(0, 9, 12, 39)]) 38 3174 rvI [lR a0, lI a1, lR a2] w (f_X0_reaches G a0 a1 a2 w) := SimX.N (SimX.ofVH (y := yX0_reaches) (by decide) rfl (t_X0_reaches hl G a0 a1 a2 w))
abbrev V_X0_totalWith (l : Launch) (D : Dn) (H0 : Heap) (w0 : St) (res : Option (Int32 × St)) (pc : Nat) (ls : List (Nat × LV)) (st : List Value) (w : St) : Prop := V l D H0 RX0 "totalWith" cX0_totalWith 4 (some (.int)) [(0, 9, 12, 41)] 39 3195 (fun x => .inr (rvI x)) w0 res pc ls st w
theorem t_X0_totalWith_b12 {l : Launch} {D : Dn} {H0 : Heap} {w0 : St} (hl : l.stackTraces = false) (G : Nat) (s0 : Rf) (w : St) : V_X0_totalWith l D H0 w0 (f_X0_totalWith_b12 G s0 w) 12 [] [rf s0] w := by
  unfold f_X0_totalWith_b12
  refine r_astore_n (ls2 := [(3, lR s0)]) 13 dX0_totalWith_12 rfl (by decide) rfl rfl ?_
  refine r_iconst (v := 1) 14 dX0_totalWith_13 rfl rfl ?_
  exact r_iret rfl rfl dX0_totalWith_14
theorem t_X0_totalWith {l : Launch} {D : Dn} {H0 : Heap} {w0 : St} (hl : l.stackTraces = false) (G : Nat) (a0 : Rf) (a1 : Int32) (a2 : Rf) (w : St) : V_X0_totalWith l D H0 w0 (f_X0_totalWith G a0 a1 a2 w) 0 [(0, lR a0), (1, lI a1), (2, lR a2)] [] w := by
  unfold f_X0_totalWith
  refine r_aload_n 1 2 dX0_totalWith_0 rfl rfl rfl ?_
  refine r_iconst (v := 0) 2 dX0_totalWith_1 rfl rfl ?_
  refine r_aload_n 3 0 dX0_totalWith_2 rfl rfl rfl ?_
  refine r_iload_n 4 1 dX0_totalWith_3 rfl rfl rfl ?_
  refine r_gd (fun hc4 => ?_)
  refine r_callHV (n := 1) (as := [lI a1]) (rest := [.int 0, rf a2]) 7 0 (s_X1_totalWith hl G a0 a1 w) hc4 rfl (lw_V q1737 q1738 q1739 q100 q1740) (by decide +kernel) (by decide) rfl rfl (cat2_i (cat2_r (cat2_nil (k := 0)))) rfl dX0_totalWith_4 rfl (fun q9 w4 => ?_) (fun x4 w4 => ?_)
  · refine r_vif (fun he => ?_) (fun _ => ?_)
    · refine r_catch (ci := 24) 0 he rfl rfl (al_nil) rfl (by decide) q1600 q1052 ?_
      exact r_lsP [] rfl (t_X0_totalWith_b12 hl G  ((some q9)) w4)
    exact r_tnone
  refine r_i2l 8 dX0_totalWith_7 rfl ?_
  refine r_jast 9 dX0_totalWith_8 rfl (fun w8 => ?_)
  refine r_goto 15 dX0_totalWith_9 (by decide) ?_
  refine r_iconst (v := 0) 16 dX0_totalWith_15 rfl rfl ?_
  exact r_iret rfl rfl dX0_totalWith_16
theorem s_X0_totalWith {l : Launch} {D : Dn} {H0 : Heap} (hl : l.stackTraces = false) (G : Nat) (a0 : Rf) (a1 : Int32) (a2 : Rf) (w : St) : SimN l D H0 yX0_totalWith (wsW_ yX0_totalWith cX0_totalWith 4 (some (.int)) [(0, 9, 12, 41)]) 39 3195 rvI [lR a0, lI a1, lR a2] w (f_X0_totalWith G a0 a1 a2 w) := SimX.N (SimX.ofVH (y := yX0_totalWith) (by decide) rfl (t_X0_totalWith hl G a0 a1 a2 w))
abbrev V_X0_missedWith (l : Launch) (D : Dn) (H0 : Heap) (w0 : St) (res : Option (Int32 × St)) (pc : Nat) (ls : List (Nat × LV)) (st : List Value) (w : St) : Prop := V l D H0 RX0 "missedWith" cX0_missedWith 4 (some (.int)) [(0, 9, 12, 41)] 39 3195 (fun x => .inr (rvI x)) w0 res pc ls st w
theorem t_X0_missedWith_b12 {l : Launch} {D : Dn} {H0 : Heap} {w0 : St} (hl : l.stackTraces = false) (G : Nat) (s0 : Rf) (w : St) : V_X0_missedWith l D H0 w0 (f_X0_missedWith_b12 G s0 w) 12 [] [rf s0] w := by
  unfold f_X0_missedWith_b12
  refine r_astore_n (ls2 := [(3, lR s0)]) 13 dX0_missedWith_12 rfl (by decide) rfl rfl ?_
  refine r_iconst (v := 1) 14 dX0_missedWith_13 rfl rfl ?_
  exact r_iret rfl rfl dX0_missedWith_14
theorem t_X0_missedWith {l : Launch} {D : Dn} {H0 : Heap} {w0 : St} (hl : l.stackTraces = false) (G : Nat) (a0 : Rf) (a1 : Int32) (a2 : Rf) (w : St) : V_X0_missedWith l D H0 w0 (f_X0_missedWith G a0 a1 a2 w) 0 [(0, lR a0), (1, lI a1), (2, lR a2)] [] w := by
  unfold f_X0_missedWith
  refine r_aload_n 1 2 dX0_missedWith_0 rfl rfl rfl ?_
  refine r_iconst (v := 0) 2 dX0_missedWith_1 rfl rfl ?_
  refine r_aload_n 3 0 dX0_missedWith_2 rfl rfl rfl ?_
  refine r_iload_n 4 1 dX0_missedWith_3 rfl rfl rfl ?_
  refine r_gd (fun hc4 => ?_)
  refine r_callHV (n := 1) (as := [lI a1]) (rest := [.int 0, rf a2]) 7 0 (s_X1_missedWith hl G a0 a1 w) hc4 rfl (lw_V q1753 q1754 q1755 q100 q1756) (by decide +kernel) (by decide) rfl rfl (cat2_i (cat2_r (cat2_nil (k := 0)))) rfl dX0_missedWith_4 rfl (fun q9 w4 => ?_) (fun x4 w4 => ?_)
  · refine r_vif (fun he => ?_) (fun _ => ?_)
    · refine r_catch (ci := 24) 0 he rfl rfl (al_nil) rfl (by decide) q1600 q1052 ?_
      exact r_lsP [] rfl (t_X0_missedWith_b12 hl G  ((some q9)) w4)
    exact r_tnone
  refine r_i2l 8 dX0_missedWith_7 rfl ?_
  refine r_jast 9 dX0_missedWith_8 rfl (fun w8 => ?_)
  refine r_goto 15 dX0_missedWith_9 (by decide) ?_
  refine r_iconst (v := 0) 16 dX0_missedWith_15 rfl rfl ?_
  exact r_iret rfl rfl dX0_missedWith_16
theorem s_X0_missedWith {l : Launch} {D : Dn} {H0 : Heap} (hl : l.stackTraces = false) (G : Nat) (a0 : Rf) (a1 : Int32) (a2 : Rf) (w : St) : SimN l D H0 yX0_missedWith (wsW_ yX0_missedWith cX0_missedWith 4 (some (.int)) [(0, 9, 12, 41)]) 39 3195 rvI [lR a0, lI a1, lR a2] w (f_X0_missedWith G a0 a1 a2 w) := SimX.N (SimX.ofVH (y := yX0_missedWith) (by decide) rfl (t_X0_missedWith hl G a0 a1 a2 w))
abbrev V_X0_bestLimit (l : Launch) (D : Dn) (H0 : Heap) (w0 : St) (res : Option (Int32 × St)) (pc : Nat) (ls : List (Nat × LV)) (st : List Value) (w : St) : Prop := V l D H0 RX0 "bestLimit" cX0_bestLimit 4 (some (.int)) [(0, 9, 12, 41)] 38 3179 (fun x => .inr (rvI x)) w0 res pc ls st w
theorem t_X0_bestLimit_b12 {l : Launch} {D : Dn} {H0 : Heap} {w0 : St} (hl : l.stackTraces = false) (G : Nat) (s0 : Rf) (w : St) : V_X0_bestLimit l D H0 w0 (f_X0_bestLimit_b12 G s0 w) 12 [] [rf s0] w := by
  unfold f_X0_bestLimit_b12
  refine r_astore_n (ls2 := [(3, lR s0)]) 13 dX0_bestLimit_12 rfl (by decide) rfl rfl ?_
  refine r_iconst (v := 1) 14 dX0_bestLimit_13 rfl rfl ?_
  exact r_iret rfl rfl dX0_bestLimit_14
theorem t_X0_bestLimit {l : Launch} {D : Dn} {H0 : Heap} {w0 : St} (hl : l.stackTraces = false) (G : Nat) (a0 : Rf) (a1 : Int32) (a2 : Rf) (w : St) : V_X0_bestLimit l D H0 w0 (f_X0_bestLimit G a0 a1 a2 w) 0 [(0, lR a0), (1, lI a1), (2, lR a2)] [] w := by
  unfold f_X0_bestLimit
  refine r_aload_n 1 2 dX0_bestLimit_0 rfl rfl rfl ?_
  refine r_iconst (v := 0) 2 dX0_bestLimit_1 rfl rfl ?_
  refine r_aload_n 3 0 dX0_bestLimit_2 rfl rfl rfl ?_
  refine r_iload_n 4 1 dX0_bestLimit_3 rfl rfl rfl ?_
  refine r_gd (fun hc4 => ?_)
  refine r_callHV (n := 1) (as := [lI a1]) (rest := [.int 0, rf a2]) 7 0 (s_X1_bestLimit hl G a0 a1 w) hc4 rfl (lw_V q1764 q1765 q1766 q100 q1767) (by decide +kernel) (by decide) rfl rfl (cat2_i (cat2_r (cat2_nil (k := 0)))) rfl dX0_bestLimit_4 rfl (fun q9 w4 => ?_) (fun x4 w4 => ?_)
  · refine r_vif (fun he => ?_) (fun _ => ?_)
    · refine r_catch (ci := 24) 0 he rfl rfl (al_nil) rfl (by decide) q1600 q1052 ?_
      exact r_lsP [] rfl (t_X0_bestLimit_b12 hl G  ((some q9)) w4)
    exact r_tnone
  refine r_i2l 8 dX0_bestLimit_7 rfl ?_
  refine r_jast 9 dX0_bestLimit_8 rfl (fun w8 => ?_)
  refine r_goto 15 dX0_bestLimit_9 (by decide) ?_
  refine r_iconst (v := 0) 16 dX0_bestLimit_15 rfl rfl ?_
  exact r_iret rfl rfl dX0_bestLimit_16
theorem s_X0_bestLimit {l : Launch} {D : Dn} {H0 : Heap} (hl : l.stackTraces = false) (G : Nat) (a0 : Rf) (a1 : Int32) (a2 : Rf) (w : St) : SimN l D H0 yX0_bestLimit (wsW_ yX0_bestLimit cX0_bestLimit 4 (some (.int)) [(0, 9, 12, 41)]) 38 3179 rvI [lR a0, lI a1, lR a2] w (f_X0_bestLimit G a0 a1 a2 w) := SimX.N (SimX.ofVH (y := yX0_bestLimit) (by decide) rfl (t_X0_bestLimit hl G a0 a1 a2 w))
abbrev V_X0_ranked (l : Launch) (D : Dn) (H0 : Heap) (w0 : St) (res : Option (Int32 × St)) (pc : Nat) (ls : List (Nat × LV)) (st : List Value) (w : St) : Prop := V l D H0 RX0 "ranked" cX0_ranked 4 (some (.int)) [(0, 9, 12, 63)] 38 3174 (fun x => .inr (rvI x)) w0 res pc ls st w
theorem t_X0_ranked_b12 {l : Launch} {D : Dn} {H0 : Heap} {w0 : St} (hl : l.stackTraces = false) (G : Nat) (s0 : Rf) (w : St) : V_X0_ranked l D H0 w0 (f_X0_ranked_b12 G s0 w) 12 [] [rf s0] w := by
  unfold f_X0_ranked_b12
  refine r_astore_n (ls2 := [(3, lR s0)]) 13 dX0_ranked_12 rfl (by decide) rfl rfl ?_
  refine r_iconst (v := 1) 14 dX0_ranked_13 rfl rfl ?_
  exact r_iret rfl rfl dX0_ranked_14
theorem t_X0_ranked {l : Launch} {D : Dn} {H0 : Heap} {w0 : St} (hl : l.stackTraces = false) (G : Nat) (a0 : Rf) (a1 : Int32) (a2 : Rf) (w : St) : V_X0_ranked l D H0 w0 (f_X0_ranked G a0 a1 a2 w) 0 [(0, lR a0), (1, lI a1), (2, lR a2)] [] w := by
  unfold f_X0_ranked
  refine r_aload_n 1 2 dX0_ranked_0 rfl rfl rfl ?_
  refine r_iconst (v := 0) 2 dX0_ranked_1 rfl rfl ?_
  refine r_aload_n 3 0 dX0_ranked_2 rfl rfl rfl ?_
  refine r_iload_n 4 1 dX0_ranked_3 rfl rfl rfl ?_
  refine r_gd (fun hc4 => ?_)
  refine r_callHV (n := 1) (as := [lI a1]) (rest := [.int 0, rf a2]) 7 0 (s_X1_ranked hl G a0 a1 w) hc4 rfl (lw_V q1771 q1772 q1773 q100 q1774) (by decide +kernel) (by decide) rfl rfl (cat2_i (cat2_r (cat2_nil (k := 0)))) rfl dX0_ranked_4 rfl (fun q9 w4 => ?_) (fun x4 w4 => ?_)
  · refine r_vif (fun he => ?_) (fun _ => ?_)
    · refine r_catch (ci := 21) 0 he rfl rfl (al_nil) rfl (by decide) q1706 q604 ?_
      exact r_lsP [] rfl (t_X0_ranked_b12 hl G  ((some q9)) w4)
    exact r_tnone
  refine r_i2l 8 dX0_ranked_7 rfl ?_
  refine r_jast 9 dX0_ranked_8 rfl (fun w8 => ?_)
  refine r_goto 15 dX0_ranked_9 (by decide) ?_
  refine r_iconst (v := 0) 16 dX0_ranked_15 rfl rfl ?_
  exact r_iret rfl rfl dX0_ranked_16
theorem s_X0_ranked {l : Launch} {D : Dn} {H0 : Heap} (hl : l.stackTraces = false) (G : Nat) (a0 : Rf) (a1 : Int32) (a2 : Rf) (w : St) : SimN l D H0 yX0_ranked (wsW_ yX0_ranked cX0_ranked 4 (some (.int)) [(0, 9, 12, 63)]) 38 3174 rvI [lR a0, lI a1, lR a2] w (f_X0_ranked G a0 a1 a2 w) := SimX.N (SimX.ofVH (y := yX0_ranked) (by decide) rfl (t_X0_ranked hl G a0 a1 a2 w))
abbrev V_X0_tightest (l : Launch) (D : Dn) (H0 : Heap) (w0 : St) (res : Option (Int32 × St)) (pc : Nat) (ls : List (Nat × LV)) (st : List Value) (w : St) : Prop := V l D H0 RX0 "tightest" cX0_tightest 4 (some (.int)) [(0, 9, 12, 63)] 35 3113 (fun x => .inr (rvI x)) w0 res pc ls st w
theorem t_X0_tightest_b12 {l : Launch} {D : Dn} {H0 : Heap} {w0 : St} (hl : l.stackTraces = false) (G : Nat) (s0 : Rf) (w : St) : V_X0_tightest l D H0 w0 (f_X0_tightest_b12 G s0 w) 12 [] [rf s0] w := by
  unfold f_X0_tightest_b12
  refine r_astore_n (ls2 := [(3, lR s0)]) 13 dX0_tightest_12 rfl (by decide) rfl rfl ?_
  refine r_iconst (v := 1) 14 dX0_tightest_13 rfl rfl ?_
  exact r_iret rfl rfl dX0_tightest_14
theorem t_X0_tightest {l : Launch} {D : Dn} {H0 : Heap} {w0 : St} (hl : l.stackTraces = false) (G : Nat) (a0 : Rf) (a1 : Int32) (a2 : Rf) (w : St) : V_X0_tightest l D H0 w0 (f_X0_tightest G a0 a1 a2 w) 0 [(0, lR a0), (1, lI a1), (2, lR a2)] [] w := by
  unfold f_X0_tightest
  refine r_aload_n 1 2 dX0_tightest_0 rfl rfl rfl ?_
  refine r_iconst (v := 0) 2 dX0_tightest_1 rfl rfl ?_
  refine r_aload_n 3 0 dX0_tightest_2 rfl rfl rfl ?_
  refine r_iload_n 4 1 dX0_tightest_3 rfl rfl rfl ?_
  refine r_gd (fun hc4 => ?_)
  refine r_callHV (n := 1) (as := [lI a1]) (rest := [.int 0, rf a2]) 7 0 (s_X1_tightest hl G a0 a1 w) hc4 rfl (lw_V q1782 q1783 q1784 q100 q1785) (by decide +kernel) (by decide) rfl rfl (cat2_i (cat2_r (cat2_nil (k := 0)))) rfl dX0_tightest_4 rfl (fun q9 w4 => ?_) (fun x4 w4 => ?_)
  · refine r_vif (fun he => ?_) (fun _ => ?_)
    · refine r_catch (ci := 21) 0 he rfl rfl (al_nil) rfl (by decide) q1706 q604 ?_
      exact r_lsP [] rfl (t_X0_tightest_b12 hl G  ((some q9)) w4)
    exact r_tnone
  refine r_i2l 8 dX0_tightest_7 rfl ?_
  refine r_jast 9 dX0_tightest_8 rfl (fun w8 => ?_)
  refine r_goto 15 dX0_tightest_9 (by decide) ?_
  refine r_iconst (v := 0) 16 dX0_tightest_15 rfl rfl ?_
  exact r_iret rfl rfl dX0_tightest_16
theorem s_X0_tightest {l : Launch} {D : Dn} {H0 : Heap} (hl : l.stackTraces = false) (G : Nat) (a0 : Rf) (a1 : Int32) (a2 : Rf) (w : St) : SimN l D H0 yX0_tightest (wsW_ yX0_tightest cX0_tightest 4 (some (.int)) [(0, 9, 12, 63)]) 35 3113 rvI [lR a0, lI a1, lR a2] w (f_X0_tightest G a0 a1 a2 w) := SimX.N (SimX.ofVH (y := yX0_tightest) (by decide) rfl (t_X0_tightest hl G a0 a1 a2 w))
abbrev V_X0_event (l : Launch) (D : Dn) (H0 : Heap) (w0 : St) (res : Option (Int32 × St)) (pc : Nat) (ls : List (Nat × LV)) (st : List Value) (w : St) : Prop := V l D H0 RX0 "event" cX0_event 4 (some (.int)) [(0, 9, 12, 63)] 38 3176 (fun x => .inr (rvI x)) w0 res pc ls st w
theorem t_X0_event_b12 {l : Launch} {D : Dn} {H0 : Heap} {w0 : St} (hl : l.stackTraces = false) (G : Nat) (s0 : Rf) (w : St) : V_X0_event l D H0 w0 (f_X0_event_b12 G s0 w) 12 [] [rf s0] w := by
  unfold f_X0_event_b12
  refine r_astore_n (ls2 := [(3, lR s0)]) 13 dX0_event_12 rfl (by decide) rfl rfl ?_
  refine r_iconst (v := 1) 14 dX0_event_13 rfl rfl ?_
  exact r_iret rfl rfl dX0_event_14
theorem t_X0_event {l : Launch} {D : Dn} {H0 : Heap} {w0 : St} (hl : l.stackTraces = false) (G : Nat) (a0 : Rf) (a1 : Int32) (a2 : Rf) (w : St) : V_X0_event l D H0 w0 (f_X0_event G a0 a1 a2 w) 0 [(0, lR a0), (1, lI a1), (2, lR a2)] [] w := by
  unfold f_X0_event
  refine r_aload_n 1 2 dX0_event_0 rfl rfl rfl ?_
  refine r_iconst (v := 0) 2 dX0_event_1 rfl rfl ?_
  refine r_aload_n 3 0 dX0_event_2 rfl rfl rfl ?_
  refine r_iload_n 4 1 dX0_event_3 rfl rfl rfl ?_
  refine r_gd (fun hc4 => ?_)
  refine r_callHV (n := 1) (as := [lI a1]) (rest := [.int 0, rf a2]) 7 0 (s_X1_event hl G a0 a1 w) hc4 rfl (lw_V q1793 q1794 q1795 q100 q1796) (by decide +kernel) (by decide) rfl rfl (cat2_i (cat2_r (cat2_nil (k := 0)))) rfl dX0_event_4 rfl (fun q9 w4 => ?_) (fun x4 w4 => ?_)
  · refine r_vif (fun he => ?_) (fun _ => ?_)
    · refine r_catch (ci := 21) 0 he rfl rfl (al_nil) rfl (by decide) q1706 q604 ?_
      exact r_lsP [] rfl (t_X0_event_b12 hl G  ((some q9)) w4)
    exact r_tnone
  refine r_i2l 8 dX0_event_7 rfl ?_
  refine r_jast 9 dX0_event_8 rfl (fun w8 => ?_)
  refine r_goto 15 dX0_event_9 (by decide) ?_
  refine r_iconst (v := 0) 16 dX0_event_15 rfl rfl ?_
  exact r_iret rfl rfl dX0_event_16
theorem s_X0_event {l : Launch} {D : Dn} {H0 : Heap} (hl : l.stackTraces = false) (G : Nat) (a0 : Rf) (a1 : Int32) (a2 : Rf) (w : St) : SimN l D H0 yX0_event (wsW_ yX0_event cX0_event 4 (some (.int)) [(0, 9, 12, 63)]) 38 3176 rvI [lR a0, lI a1, lR a2] w (f_X0_event G a0 a1 a2 w) := SimX.N (SimX.ofVH (y := yX0_event) (by decide) rfl (t_X0_event hl G a0 a1 a2 w))
abbrev V_X0_append (l : Launch) (D : Dn) (H0 : Heap) (w0 : St) (res : Option (Int32 × St)) (pc : Nat) (ls : List (Nat × LV)) (st : List Value) (w : St) : Prop := V l D H0 RX0 "append" cX0_append 4 (some (.int)) [(0, 9, 12, 41), (0, 9, 15, 96)] 32 3042 (fun x => .inr (rvI x)) w0 res pc ls st w
theorem t_X0_append_b12 {l : Launch} {D : Dn} {H0 : Heap} {w0 : St} (hl : l.stackTraces = false) (G : Nat) (s0 : Rf) (w : St) : V_X0_append l D H0 w0 (f_X0_append_b12 G s0 w) 12 [] [rf s0] w := by
  unfold f_X0_append_b12
  refine r_astore_n (ls2 := [(3, lR s0)]) 13 dX0_append_12 rfl (by decide) rfl rfl ?_
  refine r_iconst (v := 1) 14 dX0_append_13 rfl rfl ?_
  exact r_iret rfl rfl dX0_append_14
theorem t_X0_append_b15 {l : Launch} {D : Dn} {H0 : Heap} {w0 : St} (hl : l.stackTraces = false) (G : Nat) (s0 : Rf) (w : St) : V_X0_append l D H0 w0 (f_X0_append_b15 G s0 w) 15 [] [rf s0] w := by
  unfold f_X0_append_b15
  refine r_astore_n (ls2 := [(3, lR s0)]) 16 dX0_append_15 rfl (by decide) rfl rfl ?_
  refine r_iconst (v := 2) 17 dX0_append_16 rfl rfl ?_
  exact r_iret rfl rfl dX0_append_17
theorem t_X0_append {l : Launch} {D : Dn} {H0 : Heap} {w0 : St} (hl : l.stackTraces = false) (G : Nat) (a0 : Rf) (a1 : Int32) (a2 : Rf) (w : St) : V_X0_append l D H0 w0 (f_X0_append G a0 a1 a2 w) 0 [(0, lR a0), (1, lI a1), (2, lR a2)] [] w := by
  unfold f_X0_append
  refine r_aload_n 1 2 dX0_append_0 rfl rfl rfl ?_
  refine r_iconst (v := 0) 2 dX0_append_1 rfl rfl ?_
  refine r_aload_n 3 0 dX0_append_2 rfl rfl rfl ?_
  refine r_iload_n 4 1 dX0_append_3 rfl rfl rfl ?_
  refine r_gd (fun hc4 => ?_)
  refine r_callHV (n := 1) (as := [lI a1]) (rest := [.int 0, rf a2]) 7 0 (s_X1_append hl G a0 a1 w) hc4 rfl (lw_V q1805 q1806 q1807 q100 q1808) (by decide +kernel) (by decide) rfl rfl (cat2_i (cat2_r (cat2_nil (k := 0)))) rfl dX0_append_4 rfl (fun q9 w4 => ?_) (fun x4 w4 => ?_)
  · refine r_vif (fun he => ?_) (fun _ => ?_)
    · refine r_catch (ci := 24) 0 he rfl rfl (al_nil) rfl (by decide) q1600 q1052 ?_
      exact r_lsP [] rfl (t_X0_append_b12 hl G  ((some q9)) w4)
    refine r_vif (fun he => ?_) (fun _ => ?_)
    · refine r_catch (ci := 22) 1 he rfl rfl (al_cons (Or.inr ⟨by decide, _, q1600, List.mem_of_getElem? (i := 7) rfl⟩) (al_nil)) rfl (by decide) q1804 q1426 ?_
      exact r_lsP [] rfl (t_X0_append_b15 hl G  ((some q9)) w4)
    exact r_tnone
  refine r_i2l 8 dX0_append_7 rfl ?_
  refine r_jast 9 dX0_append_8 rfl (fun w8 => ?_)
  refine r_goto 18 dX0_append_9 (by decide) ?_
  refine r_iconst (v := 0) 19 dX0_append_18 rfl rfl ?_
  exact r_iret rfl rfl dX0_append_19
theorem s_X0_append {l : Launch} {D : Dn} {H0 : Heap} (hl : l.stackTraces = false) (G : Nat) (a0 : Rf) (a1 : Int32) (a2 : Rf) (w : St) : SimN l D H0 yX0_append (wsW_ yX0_append cX0_append 4 (some (.int)) [(0, 9, 12, 41), (0, 9, 15, 96)]) 32 3042 rvI [lR a0, lI a1, lR a2] w (f_X0_append G a0 a1 a2 w) := SimX.N (SimX.ofVH (y := yX0_append) (by decide) rfl (t_X0_append hl G a0 a1 a2 w))
abbrev V_X0_run (l : Launch) (D : Dn) (H0 : Heap) (w0 : St) (res : Option (Int32 × St)) (pc : Nat) (ls : List (Nat × LV)) (st : List Value) (w : St) : Prop := V l D H0 RX0 "run" cX0_run 3 (some (.int)) [(0, 8, 11, 41), (0, 8, 14, 13)] 41 3245 (fun x => .inr (rvI x)) w0 res pc ls st w
theorem t_X0_run_b11 {l : Launch} {D : Dn} {H0 : Heap} {w0 : St} (hl : l.stackTraces = false) (G : Nat) (s0 : Rf) (w : St) : V_X0_run l D H0 w0 (f_X0_run_b11 G s0 w) 11 [] [rf s0] w := by
  unfold f_X0_run_b11
  refine r_astore_n (ls2 := [(2, lR s0)]) 12 dX0_run_11 rfl (by decide) rfl rfl ?_
  refine r_iconst (v := 1) 13 dX0_run_12 rfl rfl ?_
  exact r_iret rfl rfl dX0_run_13
theorem t_X0_run_b14 {l : Launch} {D : Dn} {H0 : Heap} {w0 : St} (hl : l.stackTraces = false) (G : Nat) (s0 : Rf) (w : St) : V_X0_run l D H0 w0 (f_X0_run_b14 G s0 w) 14 [] [rf s0] w := by
  unfold f_X0_run_b14
  refine r_astore_n (ls2 := [(2, lR s0)]) 15 dX0_run_14 rfl (by decide) rfl rfl ?_
  refine r_iconst (v := 2) 16 dX0_run_15 rfl rfl ?_
  exact r_iret rfl rfl dX0_run_16
theorem t_X0_run {l : Launch} {D : Dn} {H0 : Heap} {w0 : St} (hl : l.stackTraces = false) (G : Nat) (a0 : Rf) (a1 : Rf) (w : St) : V_X0_run l D H0 w0 (f_X0_run G a0 a1 w) 0 [(0, lR a0), (1, lR a1)] [] w := by
  unfold f_X0_run
  refine r_aload_n 1 1 dX0_run_0 rfl rfl rfl ?_
  refine r_iconst (v := 0) 2 dX0_run_1 rfl rfl ?_
  refine r_aload_n 3 0 dX0_run_2 rfl rfl rfl ?_
  refine r_gd (fun hc3 => ?_)
  refine r_callHV (n := 0) (as := []) (rest := [.int 0, rf a1]) 6 0 (s_X1_run hl G a0 w) hc3 rfl (lw_V q1820 q1821 q1822 q100 q1823) (by decide +kernel) (by decide) rfl rfl (cat2_i (cat2_r (cat2_nil (k := 0)))) rfl dX0_run_3 rfl (fun q9 w3 => ?_) (fun x3 w3 => ?_)
  · refine r_vif (fun he => ?_) (fun _ => ?_)
    · refine r_catch (ci := 24) 0 he rfl rfl (al_nil) rfl (by decide) q1600 q1052 ?_
      exact r_lsP [] rfl (t_X0_run_b11 hl G  ((some q9)) w3)
    refine r_vif (fun he => ?_) (fun _ => ?_)
    · refine r_catch (ci := 20) 1 he rfl rfl (al_cons (Or.inr ⟨by decide, _, q1600, List.mem_of_getElem? (i := 8) rfl⟩) (al_nil)) rfl (by decide) q1354 q1391 ?_
      exact r_lsP [] rfl (t_X0_run_b14 hl G  ((some q9)) w3)
    exact r_tnone
  refine r_i2l 7 dX0_run_6 rfl ?_
  refine r_jast 8 dX0_run_7 rfl (fun w7 => ?_)
  refine r_goto 17 dX0_run_8 (by decide) ?_
  refine r_iconst (v := 0) 18 dX0_run_17 rfl rfl ?_
  exact r_iret rfl rfl dX0_run_18
theorem s_X0_run {l : Launch} {D : Dn} {H0 : Heap} (hl : l.stackTraces = false) (G : Nat) (a0 : Rf) (a1 : Rf) (w : St) : SimN l D H0 yX0_run (wsW_ yX0_run cX0_run 3 (some (.int)) [(0, 8, 11, 41), (0, 8, 14, 13)]) 41 3245 rvI [lR a0, lR a1] w (f_X0_run G a0 a1 w) := SimX.N (SimX.ofVH (y := yX0_run) (by decide) rfl (t_X0_run hl G a0 a1 w))
abbrev V_X0_reason (l : Launch) (D : Dn) (H0 : Heap) (w0 : St) (res : Option (Int32 × St)) (pc : Nat) (ls : List (Nat × LV)) (st : List Value) (w : St) : Prop := V l D H0 RX0 "reason" cX0_reason 5 (some (.int)) [(0, 10, 13, 41), (0, 10, 17, 63)] 8 124 (fun x => .inr (rvI x)) w0 res pc ls st w
theorem t_X0_reason_b13 {l : Launch} {D : Dn} {H0 : Heap} {w0 : St} (hl : l.stackTraces = false) (G : Nat) (s0 : Rf) (w : St) : V_X0_reason l D H0 w0 (f_X0_reason_b13 G s0 w) 13 [] [rf s0] w := by
  unfold f_X0_reason_b13
  refine r_astore (ls2 := [(4, lR s0)]) 15 dX0_reason_13 (by decide) rfl rfl ?_
  refine r_iconst (v := 1) 16 dX0_reason_15 rfl rfl ?_
  exact r_iret rfl rfl dX0_reason_16
theorem t_X0_reason_b17 {l : Launch} {D : Dn} {H0 : Heap} {w0 : St} (hl : l.stackTraces = false) (G : Nat) (s0 : Rf) (w : St) : V_X0_reason l D H0 w0 (f_X0_reason_b17 G s0 w) 17 [] [rf s0] w := by
  unfold f_X0_reason_b17
  refine r_astore (ls2 := [(4, lR s0)]) 19 dX0_reason_17 (by decide) rfl rfl ?_
  refine r_iconst (v := 2) 20 dX0_reason_19 rfl rfl ?_
  exact r_iret rfl rfl dX0_reason_20
theorem t_X0_reason {l : Launch} {D : Dn} {H0 : Heap} {w0 : St} (hl : l.stackTraces = false) (G : Nat) (a0 : Rf) (a1 : Int32) (a2 : Int32) (a3 : Rf) (w : St) : V_X0_reason l D H0 w0 (f_X0_reason G a0 a1 a2 a3 w) 0 [(0, lR a0), (1, lI a1), (2, lI a2), (3, lR a3)] [] w := by
  unfold f_X0_reason
  refine r_aload_n 1 3 dX0_reason_0 rfl rfl rfl ?_
  refine r_iconst (v := 0) 2 dX0_reason_1 rfl rfl ?_
  refine r_aload_n 3 0 dX0_reason_2 rfl rfl rfl ?_
  refine r_iload_n 4 1 dX0_reason_3 rfl rfl rfl ?_
  refine r_iload_n 5 2 dX0_reason_4 rfl rfl rfl ?_
  refine r_gd (fun hc5 => ?_)
  refine r_callHV (n := 2) (as := [lI a1, lI a2]) (rest := [.int 0, rf a3]) 8 0 (s_X1_reason hl G a0 a1 a2 w) hc5 rfl (lw_V q2033 q2034 q2035 q100 q2036) (by decide +kernel) (by decide) rfl rfl (cat2_i (cat2_r (cat2_nil (k := 0)))) rfl dX0_reason_5 rfl (fun q9 w5 => ?_) (fun x5 w5 => ?_)
  · refine r_vif (fun he => ?_) (fun _ => ?_)
    · refine r_catch (ci := 24) 0 he rfl rfl (al_nil) rfl (by decide) q1600 q1052 ?_
      exact r_lsP [] rfl (t_X0_reason_b13 hl G  ((some q9)) w5)
    refine r_vif (fun he => ?_) (fun _ => ?_)
    · refine r_catch (ci := 21) 1 he rfl rfl (al_cons (Or.inr ⟨by decide, _, q1600, List.mem_of_getElem? (i := 9) rfl⟩) (al_nil)) rfl (by decide) q1706 q604 ?_
      exact r_lsP [] rfl (t_X0_reason_b17 hl G  ((some q9)) w5)
    exact r_tnone
  refine r_i2l 9 dX0_reason_8 rfl ?_
  refine r_jast 10 dX0_reason_9 rfl (fun w9 => ?_)
  refine r_goto 21 dX0_reason_10 (by decide) ?_
  refine r_iconst (v := 0) 22 dX0_reason_21 rfl rfl ?_
  exact r_iret rfl rfl dX0_reason_22
theorem s_X0_reason {l : Launch} {D : Dn} {H0 : Heap} (hl : l.stackTraces = false) (G : Nat) (a0 : Rf) (a1 : Int32) (a2 : Int32) (a3 : Rf) (w : St) : SimN l D H0 yX0_reason (wsW_ yX0_reason cX0_reason 5 (some (.int)) [(0, 10, 13, 41), (0, 10, 17, 63)]) 8 124 rvI [lR a0, lI a1, lI a2, lR a3] w (f_X0_reason G a0 a1 a2 a3 w) := SimX.N (SimX.ofVH (y := yX0_reason) (by decide) rfl (t_X0_reason hl G a0 a1 a2 a3 w))
abbrev V_X0_tell (l : Launch) (D : Dn) (H0 : Heap) (w0 : St) (res : Option (Int32 × St)) (pc : Nat) (ls : List (Nat × LV)) (st : List Value) (w : St) : Prop := V l D H0 RX0 "tell" cX0_tell 4 (some (.int)) [(0, 9, 12, 39)] 38 3173 (fun x => .inr (rvI x)) w0 res pc ls st w
theorem t_X0_tell_b12 {l : Launch} {D : Dn} {H0 : Heap} {w0 : St} (hl : l.stackTraces = false) (G : Nat) (s0 : Rf) (w : St) : V_X0_tell l D H0 w0 (f_X0_tell_b12 G s0 w) 12 [] [rf s0] w := by
  unfold f_X0_tell_b12
  refine r_astore_n (ls2 := [(3, lR s0)]) 13 dX0_tell_12 rfl (by decide) rfl rfl ?_
  refine r_iconst (v := 1) 14 dX0_tell_13 rfl rfl ?_
  exact r_iret rfl rfl dX0_tell_14
theorem t_X0_tell {l : Launch} {D : Dn} {H0 : Heap} {w0 : St} (hl : l.stackTraces = false) (G : Nat) (a0 : Rf) (a1 : Int32) (a2 : Rf) (w : St) : V_X0_tell l D H0 w0 (f_X0_tell G a0 a1 a2 w) 0 [(0, lR a0), (1, lI a1), (2, lR a2)] [] w := by
  unfold f_X0_tell
  refine r_aload_n 1 2 dX0_tell_0 rfl rfl rfl ?_
  refine r_iconst (v := 0) 2 dX0_tell_1 rfl rfl ?_
  refine r_aload_n 3 0 dX0_tell_2 rfl rfl rfl ?_
  refine r_iload_n 4 1 dX0_tell_3 rfl rfl rfl ?_
  refine r_gd (fun hc4 => ?_)
  refine r_callHV (n := 1) (as := [lI a1]) (rest := [.int 0, rf a2]) 7 0 (s_X1_tell hl G a0 a1 w) hc4 rfl (lw_V q2043 q2044 q2045 q100 q2046) (by decide +kernel) (by decide) rfl rfl (cat2_i (cat2_r (cat2_nil (k := 0)))) rfl dX0_tell_4 rfl (fun q9 w4 => ?_) (fun x4 w4 => ?_)
  · refine r_vif (fun he => ?_) (fun _ => ?_)
    · refine r_catch (ci := 23) 0 he rfl rfl (al_nil) rfl (by decide) q1597 q1614 ?_
      exact r_lsP [] rfl (t_X0_tell_b12 hl G  ((some q9)) w4)
    exact r_tnone
  refine r_i2l 8 dX0_tell_7 rfl ?_
  refine r_jast 9 dX0_tell_8 rfl (fun w8 => ?_)
  refine r_goto 15 dX0_tell_9 (by decide) ?_
  refine r_iconst (v := 0) 16 dX0_tell_15 rfl rfl ?_
  exact r_iret rfl rfl dX0_tell_16
theorem s_X0_tell {l : Launch} {D : Dn} {H0 : Heap} (hl : l.stackTraces = false) (G : Nat) (a0 : Rf) (a1 : Int32) (a2 : Rf) (w : St) : SimN l D H0 yX0_tell (wsW_ yX0_tell cX0_tell 4 (some (.int)) [(0, 9, 12, 39)]) 38 3173 rvI [lR a0, lI a1, lR a2] w (f_X0_tell G a0 a1 a2 w) := SimX.N (SimX.ofVH (y := yX0_tell) (by decide) rfl (t_X0_tell hl G a0 a1 a2 w))
abbrev V_X0_character (l : Launch) (D : Dn) (H0 : Heap) (w0 : St) (res : Option (Int32 × St)) (pc : Nat) (ls : List (Nat × LV)) (st : List Value) (w : St) : Prop := V l D H0 RX0 "character" cX0_character 4 (some (.int)) [(0, 9, 12, 39)] 32 3042 (fun x => .inr (rvI x)) w0 res pc ls st w
theorem t_X0_character_b12 {l : Launch} {D : Dn} {H0 : Heap} {w0 : St} (hl : l.stackTraces = false) (G : Nat) (s0 : Rf) (w : St) : V_X0_character l D H0 w0 (f_X0_character_b12 G s0 w) 12 [] [rf s0] w := by
  unfold f_X0_character_b12
  refine r_astore_n (ls2 := [(3, lR s0)]) 13 dX0_character_12 rfl (by decide) rfl rfl ?_
  refine r_iconst (v := 1) 14 dX0_character_13 rfl rfl ?_
  exact r_iret rfl rfl dX0_character_14
theorem t_X0_character {l : Launch} {D : Dn} {H0 : Heap} {w0 : St} (hl : l.stackTraces = false) (G : Nat) (a0 : Rf) (a1 : Int32) (a2 : Rf) (w : St) : V_X0_character l D H0 w0 (f_X0_character G a0 a1 a2 w) 0 [(0, lR a0), (1, lI a1), (2, lR a2)] [] w := by
  unfold f_X0_character
  refine r_aload_n 1 2 dX0_character_0 rfl rfl rfl ?_
  refine r_iconst (v := 0) 2 dX0_character_1 rfl rfl ?_
  refine r_aload_n 3 0 dX0_character_2 rfl rfl rfl ?_
  refine r_iload_n 4 1 dX0_character_3 rfl rfl rfl ?_
  refine r_gd (fun hc4 => ?_)
  refine r_callHV (n := 1) (as := [lI a1]) (rest := [.int 0, rf a2]) 7 0 (s_X1_character hl G a0 a1 w) hc4 rfl (lw_V q2055 q2056 q2057 q100 q2058) (by decide +kernel) (by decide) rfl rfl (cat2_i (cat2_r (cat2_nil (k := 0)))) rfl dX0_character_4 rfl (fun q9 w4 => ?_) (fun x4 w4 => ?_)
  · refine r_vif (fun he => ?_) (fun _ => ?_)
    · refine r_catch (ci := 23) 0 he rfl rfl (al_nil) rfl (by decide) q1597 q1614 ?_
      exact r_lsP [] rfl (t_X0_character_b12 hl G  ((some q9)) w4)
    exact r_tnone
  refine r_i2l 8 dX0_character_7 rfl ?_
  refine r_jast 9 dX0_character_8 rfl (fun w8 => ?_)
  refine r_goto 15 dX0_character_9 (by decide) ?_
  refine r_iconst (v := 0) 16 dX0_character_15 rfl rfl ?_
  exact r_iret rfl rfl dX0_character_16
theorem s_X0_character {l : Launch} {D : Dn} {H0 : Heap} (hl : l.stackTraces = false) (G : Nat) (a0 : Rf) (a1 : Int32) (a2 : Rf) (w : St) : SimN l D H0 yX0_character (wsW_ yX0_character cX0_character 4 (some (.int)) [(0, 9, 12, 39)]) 32 3042 rvI [lR a0, lI a1, lR a2] w (f_X0_character G a0 a1 a2 w) := SimX.N (SimX.ofVH (y := yX0_character) (by decide) rfl (t_X0_character hl G a0 a1 a2 w))
abbrev V_X0_account (l : Launch) (D : Dn) (H0 : Heap) (w0 : St) (res : Option (Int32 × St)) (pc : Nat) (ls : List (Nat × LV)) (st : List Value) (w : St) : Prop := V l D H0 RX0 "account" cX0_account 4 (some (.int)) [(0, 9, 12, 41)] 38 3170 (fun x => .inr (rvI x)) w0 res pc ls st w
theorem t_X0_account_b12 {l : Launch} {D : Dn} {H0 : Heap} {w0 : St} (hl : l.stackTraces = false) (G : Nat) (s0 : Rf) (w : St) : V_X0_account l D H0 w0 (f_X0_account_b12 G s0 w) 12 [] [rf s0] w := by
  unfold f_X0_account_b12
  refine r_astore_n (ls2 := [(3, lR s0)]) 13 dX0_account_12 rfl (by decide) rfl rfl ?_
  refine r_iconst (v := 1) 14 dX0_account_13 rfl rfl ?_
  exact r_iret rfl rfl dX0_account_14
theorem t_X0_account {l : Launch} {D : Dn} {H0 : Heap} {w0 : St} (hl : l.stackTraces = false) (G : Nat) (a0 : Rf) (a1 : Int32) (a2 : Rf) (w : St) : V_X0_account l D H0 w0 (f_X0_account G a0 a1 a2 w) 0 [(0, lR a0), (1, lI a1), (2, lR a2)] [] w := by
  unfold f_X0_account
  refine r_aload_n 1 2 dX0_account_0 rfl rfl rfl ?_
  refine r_iconst (v := 0) 2 dX0_account_1 rfl rfl ?_
  refine r_aload_n 3 0 dX0_account_2 rfl rfl rfl ?_
  refine r_iload_n 4 1 dX0_account_3 rfl rfl rfl ?_
  refine r_gd (fun hc4 => ?_)
  refine r_callHV (n := 1) (as := [lI a1]) (rest := [.int 0, rf a2]) 7 0 (s_X1_account hl G a0 a1 w) hc4 rfl (lw_V q2072 q2073 q2074 q100 q2075) (by decide +kernel) (by decide) rfl rfl (cat2_i (cat2_r (cat2_nil (k := 0)))) rfl dX0_account_4 rfl (fun q9 w4 => ?_) (fun x4 w4 => ?_)
  · refine r_vif (fun he => ?_) (fun _ => ?_)
    · refine r_catch (ci := 24) 0 he rfl rfl (al_nil) rfl (by decide) q1600 q1052 ?_
      exact r_lsP [] rfl (t_X0_account_b12 hl G  ((some q9)) w4)
    exact r_tnone
  refine r_i2l 8 dX0_account_7 rfl ?_
  refine r_jast 9 dX0_account_8 rfl (fun w8 => ?_)
  refine r_goto 15 dX0_account_9 (by decide) ?_
  refine r_iconst (v := 0) 16 dX0_account_15 rfl rfl ?_
  exact r_iret rfl rfl dX0_account_16
theorem s_X0_account {l : Launch} {D : Dn} {H0 : Heap} (hl : l.stackTraces = false) (G : Nat) (a0 : Rf) (a1 : Int32) (a2 : Rf) (w : St) : SimN l D H0 yX0_account (wsW_ yX0_account cX0_account 4 (some (.int)) [(0, 9, 12, 41)]) 38 3170 rvI [lR a0, lI a1, lR a2] w (f_X0_account G a0 a1 a2 w) := SimX.N (SimX.ofVH (y := yX0_account) (by decide) rfl (t_X0_account hl G a0 a1 a2 w))
abbrev V_X0_meanLate (l : Launch) (D : Dn) (H0 : Heap) (w0 : St) (res : Option (Int32 × St)) (pc : Nat) (ls : List (Nat × LV)) (st : List Value) (w : St) : Prop := V l D H0 RX0 "meanLate" cX0_meanLate 3 (some (.int)) [(0, 7, 10, 120)] 38 3170 (fun x => .inr (rvI x)) w0 res pc ls st w
theorem t_X0_meanLate_b10 {l : Launch} {D : Dn} {H0 : Heap} {w0 : St} (hl : l.stackTraces = false) (G : Nat) (s0 : Rf) (w : St) : V_X0_meanLate l D H0 w0 (f_X0_meanLate_b10 G s0 w) 10 [] [rf s0] w := by
  unfold f_X0_meanLate_b10
  refine r_astore_n (ls2 := [(2, lR s0)]) 11 dX0_meanLate_10 rfl (by decide) rfl rfl ?_
  refine r_iconst (v := 1) 12 dX0_meanLate_11 rfl rfl ?_
  exact r_iret rfl rfl dX0_meanLate_12
theorem t_X0_meanLate {l : Launch} {D : Dn} {H0 : Heap} {w0 : St} (hl : l.stackTraces = false) (G : Nat) (a0 : Rf) (a1 : Rf) (w : St) : V_X0_meanLate l D H0 w0 (f_X0_meanLate G a0 a1 w) 0 [(0, lR a0), (1, lR a1)] [] w := by
  unfold f_X0_meanLate
  refine r_aload_n 1 1 dX0_meanLate_0 rfl rfl rfl ?_
  refine r_iconst (v := 0) 2 dX0_meanLate_1 rfl rfl ?_
  refine r_aload_n 3 0 dX0_meanLate_2 rfl rfl rfl ?_
  refine r_gd (fun hc3 => ?_)
  refine r_callHV (n := 0) (as := []) (rest := [.int 0, rf a1]) 6 0 (s_X1_meanLate hl G a0 w) hc3 rfl (lw_V q2108 q2109 q2110 q100 q2111) (by decide +kernel) (by decide) rfl rfl (cat2_i (cat2_r (cat2_nil (k := 0)))) rfl dX0_meanLate_3 rfl (fun q9 w3 => ?_) (fun x3 w3 => ?_)
  · refine r_vif (fun he => ?_) (fun _ => ?_)
    · refine r_catch (ci := 25) 0 he rfl rfl (al_nil) rfl (by decide) q2094 q2106 ?_
      exact r_lsP [] rfl (t_X0_meanLate_b10 hl G  ((some q9)) w3)
    exact r_tnone
  refine r_dast 7 dX0_meanLate_6 rfl (fun w6 => ?_)
  refine r_goto 13 dX0_meanLate_7 (by decide) ?_
  refine r_iconst (v := 0) 14 dX0_meanLate_13 rfl rfl ?_
  exact r_iret rfl rfl dX0_meanLate_14
theorem s_X0_meanLate {l : Launch} {D : Dn} {H0 : Heap} (hl : l.stackTraces = false) (G : Nat) (a0 : Rf) (a1 : Rf) (w : St) : SimN l D H0 yX0_meanLate (wsW_ yX0_meanLate cX0_meanLate 3 (some (.int)) [(0, 7, 10, 120)]) 38 3170 rvI [lR a0, lR a1] w (f_X0_meanLate G a0 a1 w) := SimX.N (SimX.ofVH (y := yX0_meanLate) (by decide) rfl (t_X0_meanLate hl G a0 a1 w))
abbrev V_X0_keptShare (l : Launch) (D : Dn) (H0 : Heap) (w0 : St) (res : Option (Int32 × St)) (pc : Nat) (ls : List (Nat × LV)) (st : List Value) (w : St) : Prop := V l D H0 RX0 "keptShare" cX0_keptShare 3 (some (.int)) [(0, 8, 11, 120)] 38 3169 (fun x => .inr (rvI x)) w0 res pc ls st w
theorem t_X0_keptShare_b11 {l : Launch} {D : Dn} {H0 : Heap} {w0 : St} (hl : l.stackTraces = false) (G : Nat) (s0 : Rf) (w : St) : V_X0_keptShare l D H0 w0 (f_X0_keptShare_b11 G s0 w) 11 [] [rf s0] w := by
  unfold f_X0_keptShare_b11
  refine r_astore_n (ls2 := [(2, lR s0)]) 12 dX0_keptShare_11 rfl (by decide) rfl rfl ?_
  refine r_iconst (v := 1) 13 dX0_keptShare_12 rfl rfl ?_
  exact r_iret rfl rfl dX0_keptShare_13
theorem t_X0_keptShare {l : Launch} {D : Dn} {H0 : Heap} {w0 : St} (hl : l.stackTraces = false) (G : Nat) (a0 : Rf) (a1 : Rf) (w : St) : V_X0_keptShare l D H0 w0 (f_X0_keptShare G a0 a1 w) 0 [(0, lR a0), (1, lR a1)] [] w := by
  unfold f_X0_keptShare
  refine r_aload_n 1 1 dX0_keptShare_0 rfl rfl rfl ?_
  refine r_iconst (v := 0) 2 dX0_keptShare_1 rfl rfl ?_
  refine r_aload_n 3 0 dX0_keptShare_2 rfl rfl rfl ?_
  refine r_gd (fun hc3 => ?_)
  refine r_callHV (n := 0) (as := []) (rest := [.int 0, rf a1]) 6 0 (s_X1_keptShare hl G a0 w) hc3 rfl (lw_V q2123 q2124 q2125 q100 q2126) (by decide +kernel) (by decide) rfl rfl (cat2_i (cat2_r (cat2_nil (k := 0)))) rfl dX0_keptShare_3 rfl (fun q9 w3 => ?_) (fun x3 w3 => ?_)
  · refine r_vif (fun he => ?_) (fun _ => ?_)
    · refine r_catch (ci := 25) 0 he rfl rfl (al_nil) rfl (by decide) q2094 q2106 ?_
      exact r_lsP [] rfl (t_X0_keptShare_b11 hl G  ((some q9)) w3)
    exact r_tnone
  refine r_gdC (fun hz6 => ?_)
  refine r_f2d 7 dX0_keptShare_6 hz6 rfl ?_
  refine r_dast 8 dX0_keptShare_7 rfl (fun w7 => ?_)
  refine r_goto 14 dX0_keptShare_8 (by decide) ?_
  refine r_iconst (v := 0) 15 dX0_keptShare_14 rfl rfl ?_
  exact r_iret rfl rfl dX0_keptShare_15
theorem s_X0_keptShare {l : Launch} {D : Dn} {H0 : Heap} (hl : l.stackTraces = false) (G : Nat) (a0 : Rf) (a1 : Rf) (w : St) : SimN l D H0 yX0_keptShare (wsW_ yX0_keptShare cX0_keptShare 3 (some (.int)) [(0, 8, 11, 120)]) 38 3169 rvI [lR a0, lR a1] w (f_X0_keptShare G a0 a1 w) := SimX.N (SimX.ofVH (y := yX0_keptShare) (by decide) rfl (t_X0_keptShare hl G a0 a1 w))
abbrev V_X0_undo (l : Launch) (D : Dn) (H0 : Heap) (w0 : St) (res : Option (Int32 × St)) (pc : Nat) (ls : List (Nat × LV)) (st : List Value) (w : St) : Prop := V l D H0 RX0 "undo" cX0_undo 3 (some (.int)) [(0, 8, 11, 96)] 32 3041 (fun x => .inr (rvI x)) w0 res pc ls st w
theorem t_X0_undo_b11 {l : Launch} {D : Dn} {H0 : Heap} {w0 : St} (hl : l.stackTraces = false) (G : Nat) (s0 : Rf) (w : St) : V_X0_undo l D H0 w0 (f_X0_undo_b11 G s0 w) 11 [] [rf s0] w := by
  unfold f_X0_undo_b11
  refine r_astore_n (ls2 := [(2, lR s0)]) 12 dX0_undo_11 rfl (by decide) rfl rfl ?_
  refine r_iconst (v := 1) 13 dX0_undo_12 rfl rfl ?_
  exact r_iret rfl rfl dX0_undo_13
theorem t_X0_undo {l : Launch} {D : Dn} {H0 : Heap} {w0 : St} (hl : l.stackTraces = false) (G : Nat) (a0 : Rf) (a1 : Rf) (w : St) : V_X0_undo l D H0 w0 (f_X0_undo G a0 a1 w) 0 [(0, lR a0), (1, lR a1)] [] w := by
  unfold f_X0_undo
  refine r_aload_n 1 1 dX0_undo_0 rfl rfl rfl ?_
  refine r_iconst (v := 0) 2 dX0_undo_1 rfl rfl ?_
  refine r_aload_n 3 0 dX0_undo_2 rfl rfl rfl ?_
  refine r_gd (fun hc3 => ?_)
  refine r_callHV (n := 0) (as := []) (rest := [.int 0, rf a1]) 6 0 (s_X1_undo hl G a0 w) hc3 rfl (lw_V q2130 q2131 q2132 q100 q2133) (by decide +kernel) (by decide) rfl rfl (cat2_i (cat2_r (cat2_nil (k := 0)))) rfl dX0_undo_3 rfl (fun q9 w3 => ?_) (fun x3 w3 => ?_)
  · refine r_vif (fun he => ?_) (fun _ => ?_)
    · refine r_catch (ci := 22) 0 he rfl rfl (al_nil) rfl (by decide) q1804 q1426 ?_
      exact r_lsP [] rfl (t_X0_undo_b11 hl G  ((some q9)) w3)
    exact r_tnone
  refine r_i2l 7 dX0_undo_6 rfl ?_
  refine r_jast 8 dX0_undo_7 rfl (fun w7 => ?_)
  refine r_goto 14 dX0_undo_8 (by decide) ?_
  refine r_iconst (v := 0) 15 dX0_undo_14 rfl rfl ?_
  exact r_iret rfl rfl dX0_undo_15
theorem s_X0_undo {l : Launch} {D : Dn} {H0 : Heap} (hl : l.stackTraces = false) (G : Nat) (a0 : Rf) (a1 : Rf) (w : St) : SimN l D H0 yX0_undo (wsW_ yX0_undo cX0_undo 3 (some (.int)) [(0, 8, 11, 96)]) 32 3041 rvI [lR a0, lR a1] w (f_X0_undo G a0 a1 w) := SimX.N (SimX.ofVH (y := yX0_undo) (by decide) rfl (t_X0_undo hl G a0 a1 w))
abbrev V_X0_restore (l : Launch) (D : Dn) (H0 : Heap) (w0 : St) (res : Option (Int32 × St)) (pc : Nat) (ls : List (Nat × LV)) (st : List Value) (w : St) : Prop := V l D H0 RX0 "restore" cX0_restore 3 (some (.int)) [(0, 8, 11, 96)] 35 3106 (fun x => .inr (rvI x)) w0 res pc ls st w
theorem t_X0_restore_b11 {l : Launch} {D : Dn} {H0 : Heap} {w0 : St} (hl : l.stackTraces = false) (G : Nat) (s0 : Rf) (w : St) : V_X0_restore l D H0 w0 (f_X0_restore_b11 G s0 w) 11 [] [rf s0] w := by
  unfold f_X0_restore_b11
  refine r_astore_n (ls2 := [(2, lR s0)]) 12 dX0_restore_11 rfl (by decide) rfl rfl ?_
  refine r_iconst (v := 1) 13 dX0_restore_12 rfl rfl ?_
  exact r_iret rfl rfl dX0_restore_13
theorem t_X0_restore {l : Launch} {D : Dn} {H0 : Heap} {w0 : St} (hl : l.stackTraces = false) (G : Nat) (a0 : Rf) (a1 : Rf) (w : St) : V_X0_restore l D H0 w0 (f_X0_restore G a0 a1 w) 0 [(0, lR a0), (1, lR a1)] [] w := by
  unfold f_X0_restore
  refine r_aload_n 1 1 dX0_restore_0 rfl rfl rfl ?_
  refine r_iconst (v := 0) 2 dX0_restore_1 rfl rfl ?_
  refine r_aload_n 3 0 dX0_restore_2 rfl rfl rfl ?_
  refine r_gd (fun hc3 => ?_)
  refine r_callHV (n := 0) (as := []) (rest := [.int 0, rf a1]) 6 0 (s_X1_restore hl G a0 w) hc3 rfl (lw_V q2152 q2153 q2154 q100 q2155) (by decide +kernel) (by decide) rfl rfl (cat2_i (cat2_r (cat2_nil (k := 0)))) rfl dX0_restore_3 rfl (fun q9 w3 => ?_) (fun x3 w3 => ?_)
  · refine r_vif (fun he => ?_) (fun _ => ?_)
    · refine r_catch (ci := 22) 0 he rfl rfl (al_nil) rfl (by decide) q1804 q1426 ?_
      exact r_lsP [] rfl (t_X0_restore_b11 hl G  ((some q9)) w3)
    exact r_tnone
  refine r_i2l 7 dX0_restore_6 rfl ?_
  refine r_jast 8 dX0_restore_7 rfl (fun w7 => ?_)
  refine r_goto 14 dX0_restore_8 (by decide) ?_
  refine r_iconst (v := 0) 15 dX0_restore_14 rfl rfl ?_
  exact r_iret rfl rfl dX0_restore_15
theorem s_X0_restore {l : Launch} {D : Dn} {H0 : Heap} (hl : l.stackTraces = false) (G : Nat) (a0 : Rf) (a1 : Rf) (w : St) : SimN l D H0 yX0_restore (wsW_ yX0_restore cX0_restore 3 (some (.int)) [(0, 8, 11, 96)]) 35 3106 rvI [lR a0, lR a1] w (f_X0_restore G a0 a1 w) := SimX.N (SimX.ofVH (y := yX0_restore) (by decide) rfl (t_X0_restore hl G a0 a1 w))
