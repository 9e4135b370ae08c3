set_option maxRecDepth 100000
set_option maxHeartbeats 4000000
noncomputable def f_J15_max (G : Nat) (a0 : Int32) (a1 : Int32) (w : St) : Option (Int32 × St) :=
  if a0 < a1 then (some (a1, w)) else
  (some (a0, w))
abbrev V_J15_max (l : Launch) (D : Dn) (H0 : Heap) (w0 : St) (res : Option (Int32 × St)) (pc : Nat) (ls : List (Nat × LV)) (st : List Value) (w : St) : Prop := V l D H0 RJ15 "max" cJ15_max 2 (some (.int)) [] 0 0 (fun x => .inr (rvI x)) w0 res pc ls st w
theorem t_J15_max {l : Launch} {D : Dn} {H0 : Heap} {w0 : St} (hl : l.stackTraces = false) (G : Nat) (a0 : Int32) (a1 : Int32) (w : St) : V_J15_max l D H0 w0 (f_J15_max G a0 a1 w) 0 [(0, lI a0), (1, lI a1)] [] w := by
  unfold f_J15_max
  refine r_iload_n 1 0 dJ15_max_0 rfl rfl rfl ?_
  refine r_iload_n 2 1 dJ15_max_1 rfl rfl rfl ?_
  refine r_icmp_lt 9 5 dJ15_max_2 (by decide) rfl ?_ ?_
  · refine r_iload_n 10 1 dJ15_max_9 rfl rfl rfl ?_
    exact r_iret rfl rfl dJ15_max_10
  refine r_iload_n 6 0 dJ15_max_5 rfl rfl rfl ?_
  refine r_goto 10 dJ15_max_6 (by decide) ?_
  exact r_iret rfl rfl dJ15_max_10
theorem s_J15_max {l : Launch} {D : Dn} {H0 : Heap} (hl : l.stackTraces = false) (G : Nat) (a0 : Int32) (a1 : Int32) (w : St) : SimN l D H0 yJ15_max (ws_ yJ15_max cJ15_max 2 (some (.int))) 0 0 rvI [lI a0, lI a1] w (f_J15_max G a0 a1 w) := SimX.N (SimX.ofVF (y := yJ15_max) (by decide +kernel) rfl (t_J15_max hl G a0 a1 w))
