set_option maxRecDepth 100000
set_option maxHeartbeats 4000000
theorem pf_X3_13 : PF RX3 "<init>" 13 [26] 1 (.array (.int)) := PF1 (own := RX3) (nm := "<init>") (idx := 13) (k := 1) (ty := (.array (.int))) (C := RX3) (T := TX3) (N := 34) (ci := 26) rfl in_X3 tyX3_ok nmX3 (by decide) rfl (Or.inr ⟨rfl, rfl, rfl, q2170⟩) (Or.inl q2170) (Or.inl rfl)
theorem pf_X3_16 : PF RX3 "<init>" 16 [26] 2 (.array (.int)) := PF1 (own := RX3) (nm := "<init>") (idx := 16) (k := 2) (ty := (.array (.int))) (C := RX3) (T := TX3) (N := 34) (ci := 26) rfl in_X3 tyX3_ok nmX3 (by decide) rfl (Or.inr ⟨rfl, rfl, rfl, q2171⟩) (Or.inl q2171) (Or.inl rfl)
theorem pf_X3_19 : PF RX3 "<init>" 19 [26] 4 (.array (.int)) := PF1 (own := RX3) (nm := "<init>") (idx := 19) (k := 4) (ty := (.array (.int))) (C := RX3) (T := TX3) (N := 34) (ci := 26) rfl in_X3 tyX3_ok nmX3 (by decide) rfl (Or.inr ⟨rfl, rfl, rfl, q2173⟩) (Or.inl q2173) (Or.inl rfl)
theorem pf_X3_26 : PF RX3 "<init>" 26 [26] 11 (.array (.int)) := PF1 (own := RX3) (nm := "<init>") (idx := 26) (k := 11) (ty := (.array (.int))) (C := RX3) (T := TX3) (N := 34) (ci := 26) rfl in_X3 tyX3_ok nmX3 (by decide) rfl (Or.inr ⟨rfl, rfl, rfl, q2180⟩) (Or.inl q2180) (Or.inl rfl)
theorem pf_X3_29 : PF RX3 "<init>" 29 [26] 14 (.array (.int)) := PF1 (own := RX3) (nm := "<init>") (idx := 29) (k := 14) (ty := (.array (.int))) (C := RX3) (T := TX3) (N := 34) (ci := 26) rfl in_X3 tyX3_ok nmX3 (by decide) rfl (Or.inr ⟨rfl, rfl, rfl, q2183⟩) (Or.inl q2183) (Or.inl rfl)
theorem pf_X3_32 : PF RX3 "<init>" 32 [26] 15 (.array (.int)) := PF1 (own := RX3) (nm := "<init>") (idx := 32) (k := 15) (ty := (.array (.int))) (C := RX3) (T := TX3) (N := 34) (ci := 26) rfl in_X3 tyX3_ok nmX3 (by decide) rfl (Or.inr ⟨rfl, rfl, rfl, q2184⟩) (Or.inl q2184) (Or.inl rfl)
theorem pf_X3_35 : PF RX3 "<init>" 35 [26] 16 (.array (.int)) := PF1 (own := RX3) (nm := "<init>") (idx := 35) (k := 16) (ty := (.array (.int))) (C := RX3) (T := TX3) (N := 34) (ci := 26) rfl in_X3 tyX3_ok nmX3 (by decide) rfl (Or.inr ⟨rfl, rfl, rfl, q2185⟩) (Or.inl q2185) (Or.inl rfl)
theorem pf_X3_38 : PF RX3 "<init>" 38 [26] 17 (.array (.int)) := PF1 (own := RX3) (nm := "<init>") (idx := 38) (k := 17) (ty := (.array (.int))) (C := RX3) (T := TX3) (N := 34) (ci := 26) rfl in_X3 tyX3_ok nmX3 (by decide) rfl (Or.inr ⟨rfl, rfl, rfl, q2186⟩) (Or.inl q2186) (Or.inl rfl)
theorem pf_X3_41 : PF RX3 "<init>" 41 [26] 18 (.array (.int)) := PF1 (own := RX3) (nm := "<init>") (idx := 41) (k := 18) (ty := (.array (.int))) (C := RX3) (T := TX3) (N := 34) (ci := 26) rfl in_X3 tyX3_ok nmX3 (by decide) rfl (Or.inr ⟨rfl, rfl, rfl, q2187⟩) (Or.inl q2187) (Or.inl rfl)
theorem pf_X3_44 : PF RX3 "<init>" 44 [26] 19 (.array (.int)) := PF1 (own := RX3) (nm := "<init>") (idx := 44) (k := 19) (ty := (.array (.int))) (C := RX3) (T := TX3) (N := 34) (ci := 26) rfl in_X3 tyX3_ok nmX3 (by decide) rfl (Or.inr ⟨rfl, rfl, rfl, q2188⟩) (Or.inl q2188) (Or.inl rfl)
theorem pf_X3_47 : PF RX3 "<init>" 47 [26] 22 (.array (.int)) := PF1 (own := RX3) (nm := "<init>") (idx := 47) (k := 22) (ty := (.array (.int))) (C := RX3) (T := TX3) (N := 34) (ci := 26) rfl in_X3 tyX3_ok nmX3 (by decide) rfl (Or.inr ⟨rfl, rfl, rfl, q2191⟩) (Or.inl q2191) (Or.inl rfl)
theorem pf_X3_50 : PF RX3 "<init>" 50 [26] 23 (.array (.char)) := PF1 (own := RX3) (nm := "<init>") (idx := 50) (k := 23) (ty := (.array (.char))) (C := RX3) (T := TX3) (N := 34) (ci := 26) rfl in_X3 tyX3_ok nmX3 (by decide) rfl (Or.inr ⟨rfl, rfl, rfl, q2192⟩) (Or.inl q2192) (Or.inl rfl)
theorem pf_X3_54 : PF RX3 "<init>" 54 [26] 24 (.array (.int)) := PF1 (own := RX3) (nm := "<init>") (idx := 54) (k := 24) (ty := (.array (.int))) (C := RX3) (T := TX3) (N := 34) (ci := 26) rfl in_X3 tyX3_ok nmX3 (by decide) rfl (Or.inr ⟨rfl, rfl, rfl, q2193⟩) (Or.inl q2193) (Or.inl rfl)
theorem pf_X3_57 : PF RX3 "<init>" 57 [26] 25 (.array (.int)) := PF1 (own := RX3) (nm := "<init>") (idx := 57) (k := 25) (ty := (.array (.int))) (C := RX3) (T := TX3) (N := 34) (ci := 26) rfl in_X3 tyX3_ok nmX3 (by decide) rfl (Or.inr ⟨rfl, rfl, rfl, q2194⟩) (Or.inl q2194) (Or.inl rfl)
theorem pf_X3_60 : PF RX3 "<init>" 60 [26] 26 (.array (.int)) := PF1 (own := RX3) (nm := "<init>") (idx := 60) (k := 26) (ty := (.array (.int))) (C := RX3) (T := TX3) (N := 34) (ci := 26) rfl in_X3 tyX3_ok nmX3 (by decide) rfl (Or.inr ⟨rfl, rfl, rfl, q2195⟩) (Or.inl q2195) (Or.inl rfl)
theorem pf_X3_63 : PF RX3 "<init>" 63 [26] 27 (.array (.int)) := PF1 (own := RX3) (nm := "<init>") (idx := 63) (k := 27) (ty := (.array (.int))) (C := RX3) (T := TX3) (N := 34) (ci := 26) rfl in_X3 tyX3_ok nmX3 (by decide) rfl (Or.inr ⟨rfl, rfl, rfl, q2196⟩) (Or.inl q2196) (Or.inl rfl)
theorem pf_X3_66 : PF RX3 "<init>" 66 [26] 32 (.array (.int)) := PF1 (own := RX3) (nm := "<init>") (idx := 66) (k := 32) (ty := (.array (.int))) (C := RX3) (T := TX3) (N := 34) (ci := 26) rfl in_X3 tyX3_ok nmX3 (by decide) rfl (Or.inr ⟨rfl, rfl, rfl, q2201⟩) (Or.inl q2201) (Or.inl rfl)
theorem pf_X3_9 : PF RX3 "<init>" 9 [26] 0 (.array (.int)) := PF1 (own := RX3) (nm := "<init>") (idx := 9) (k := 0) (ty := (.array (.int))) (C := RX3) (T := TX3) (N := 34) (ci := 26) rfl in_X3 tyX3_ok nmX3 (by decide) rfl (Or.inr ⟨rfl, rfl, rfl, q2169⟩) (Or.inl q2169) (Or.inl rfl)
noncomputable def f_X3_init (G : Nat) (a0 : Nat) (w : St) : Option (Unit × St) :=
  bo (anew 3 (.int 0) 412 w) fun w8 =>
  bo (putr [26] ((some a0)) 0 ((some w.n)) w8) fun w10 =>
  bo (anew 3 (.int 0) 412 w10) fun w17 =>
  bo (putr [26] ((some a0)) 1 ((some w10.n)) w17) fun w19 =>
  bo (anew 3 (.int 0) 412 w19) fun w26 =>
  bo (putr [26] ((some a0)) 2 ((some w19.n)) w26) fun w28 =>
  bo (anew 3 (.int 0) 3296 w28) fun w35 =>
  bo (putr [26] ((some a0)) 4 ((some w28.n)) w35) fun w37 =>
  bo (puti [26] ((some a0)) 10 ((-1)) w37) fun w42 =>
  bo (anew 3 (.int 0) 60 w42) fun w48 =>
  bo (putr [26] ((some a0)) 11 ((some w42.n)) w48) fun w50 =>
  bo (anew 3 (.int 0) 5 w50) fun w55 =>
  bo (putr [26] ((some a0)) 14 ((some w50.n)) w55) fun w57 =>
  bo (anew 3 (.int 0) 5 w57) fun w62 =>
  bo (iast ((some w57.n)) 0 0 w62) fun w67 =>
  bo (iast ((some w57.n)) 1 1 w67) fun w71 =>
  bo (iast ((some w57.n)) 2 0 w71) fun w75 =>
  bo (iast ((some w57.n)) 3 0 w75) fun w79 =>
  bo (iast ((some w57.n)) 4 0 w79) fun w83 =>
  bo (putr [26] ((some a0)) 15 ((some w57.n)) w83) fun w84 =>
  bo (anew 3 (.int 0) 5 w84) fun w89 =>
  bo (iast ((some w84.n)) 0 9 w89) fun w95 =>
  bo (iast ((some w84.n)) 1 60 w95) fun w100 =>
  bo (iast ((some w84.n)) 2 30 w100) fun w105 =>
  bo (iast ((some w84.n)) 3 60 w105) fun w110 =>
  bo (iast ((some w84.n)) 4 60 w110) fun w115 =>
  bo (putr [26] ((some a0)) 16 ((some w84.n)) w115) fun w116 =>
  bo (anew 3 (.int 0) 6 w116) fun w122 =>
  bo (putr [26] ((some a0)) 17 ((some w116.n)) w122) fun w124 =>
  bo (anew 3 (.int 0) 72 w124) fun w130 =>
  bo (putr [26] ((some a0)) 18 ((some w124.n)) w130) fun w132 =>
  bo (anew 3 (.int 0) 72 w132) fun w138 =>
  bo (putr [26] ((some a0)) 19 ((some w132.n)) w138) fun w140 =>
  bo (anew 3 (.int 0) 72 w140) fun w146 =>
  bo (putr [26] ((some a0)) 22 ((some w140.n)) w146) fun w148 =>
  bo (anew 2 (.int 0) 28 w148) fun w154 =>
  bo (caast ((some w148.n)) 0 108 w154) fun w160 =>
  bo (caast ((some w148.n)) 1 97 w160) fun w165 =>
  bo (caast ((some w148.n)) 2 116 w165) fun w170 =>
  bo (caast ((some w148.n)) 3 101 w170) fun w175 =>
  bo (caast ((some w148.n)) 4 108 w175) fun w180 =>
  bo (caast ((some w148.n)) 5 105 w180) fun w185 =>
  bo (caast ((some w148.n)) 6 110 w185) fun w191 =>
  bo (caast ((some w148.n)) 7 107 w191) fun w197 =>
  bo (caast ((some w148.n)) 8 108 w197) fun w203 =>
  bo (caast ((some w148.n)) 9 105 w203) fun w209 =>
  bo (caast ((some w148.n)) 10 109 w209) fun w215 =>
  bo (caast ((some w148.n)) 11 105 w215) fun w221 =>
  bo (caast ((some w148.n)) 12 116 w221) fun w227 =>
  bo (caast ((some w148.n)) 13 99 w227) fun w233 =>
  bo (caast ((some w148.n)) 14 117 w233) fun w239 =>
  bo (caast ((some w148.n)) 15 116 w239) fun w245 =>
  bo (caast ((some w148.n)) 16 116 w245) fun w251 =>
  bo (caast ((some w148.n)) 17 117 w251) fun w257 =>
  bo (caast ((some w148.n)) 18 114 w257) fun w263 =>
  bo (caast ((some w148.n)) 19 110 w263) fun w269 =>
  bo (caast ((some w148.n)) 20 108 w269) fun w275 =>
  bo (caast ((some w148.n)) 21 101 w275) fun w281 =>
  bo (caast ((some w148.n)) 22 103 w281) fun w287 =>
  bo (caast ((some w148.n)) 23 99 w287) fun w293 =>
  bo (caast ((some w148.n)) 24 111 w293) fun w299 =>
  bo (caast ((some w148.n)) 25 97 w299) fun w305 =>
  bo (caast ((some w148.n)) 26 99 w305) fun w311 =>
  bo (caast ((some w148.n)) 27 104 w311) fun w317 =>
  bo (putr [26] ((some a0)) 23 ((some w148.n)) w317) fun w318 =>
  bo (anew 3 (.int 0) 8 w318) fun w324 =>
  bo (iast ((some w318.n)) 0 0 w324) fun w329 =>
  bo (iast ((some w318.n)) 1 4 w329) fun w333 =>
  bo (iast ((some w318.n)) 2 8 w333) fun w338 =>
  bo (iast ((some w318.n)) 3 13 w338) fun w343 =>
  bo (iast ((some w318.n)) 4 16 w343) fun w348 =>
  bo (iast ((some w318.n)) 5 20 w348) fun w353 =>
  bo (iast ((some w318.n)) 6 23 w353) fun w359 =>
  bo (iast ((some w318.n)) 7 28 w359) fun w365 =>
  bo (putr [26] ((some a0)) 24 ((some w318.n)) w365) fun w366 =>
  bo (anew 3 (.int 0) 7 w366) fun w372 =>
  bo (iast ((some w366.n)) 0 2 w372) fun w377 =>
  bo (iast ((some w366.n)) 1 4 w377) fun w381 =>
  bo (iast ((some w366.n)) 2 0 w381) fun w385 =>
  bo (iast ((some w366.n)) 3 0 w385) fun w389 =>
  bo (iast ((some w366.n)) 4 2 w389) fun w393 =>
  bo (iast ((some w366.n)) 5 2 w393) fun w397 =>
  bo (iast ((some w366.n)) 6 1 w397) fun w402 =>
  bo (putr [26] ((some a0)) 25 ((some w366.n)) w402) fun w403 =>
  bo (anew 3 (.int 0) 7 w403) fun w409 =>
  bo (iast ((some w403.n)) 0 1 w409) fun w414 =>
  bo (iast ((some w403.n)) 1 2 w414) fun w418 =>
  bo (iast ((some w403.n)) 2 2 w418) fun w422 =>
  bo (iast ((some w403.n)) 3 1 w422) fun w426 =>
  bo (iast ((some w403.n)) 4 0 w426) fun w430 =>
  bo (iast ((some w403.n)) 5 4 w430) fun w434 =>
  bo (iast ((some w403.n)) 6 1 w434) fun w439 =>
  bo (putr [26] ((some a0)) 26 ((some w403.n)) w439) fun w440 =>
  bo (anew 3 (.int 0) 488 w440) fun w447 =>
  bo (putr [26] ((some a0)) 27 ((some w440.n)) w447) fun w449 =>
  bo (anew 3 (.int 0) 256 w449) fun w456 =>
  bo (putr [26] ((some a0)) 32 ((some w449.n)) w456) fun w458 =>
  some ((()), w458)
abbrev V_X3_init (l : Launch) (D : Dn) (H0 : Heap) (w0 : St) (res : Option (Unit × St)) (pc : Nat) (ls : List (Nat × LV)) (st : List Value) (w : St) : Prop := V l D H0 RX3 "<init>" cX3_init 1 none [] 1 20 (fun x => .inr (rvU x)) w0 res pc ls st w
theorem t_X3_init {l : Launch} {D : Dn} {H0 : Heap} {w0 : St} (hl : l.stackTraces = false) (G : Nat) (a0 : Nat) (w : St) : V_X3_init l D H0 w0 (f_X3_init G a0 w) 0 [(0, lR ((some a0)))] [] w := by
  unfold f_X3_init
  refine r_aload_n 1 0 dX3_init_0 rfl rfl rfl ?_
  refine r_objInit 4 q2168 q154 q155 (by decide) (cat2_nil (k := 0)) rfl dX3_init_1 rfl ?_
  refine r_aload_n 5 0 dX3_init_4 rfl rfl rfl ?_
  refine r_sipush (v := 412) 8 dX3_init_5 rfl rfl ?_
  refine r_newa (atype := .int) 10 3 rfl rfl rfl q1916 dX3_init_8 rfl (fun w8 => ?_)
  refine r_putr 13 pf_X3_9 (Or.inr ⟨_, rfl⟩) dX3_init_10 rfl (fun w10 => ?_)
  refine r_aload_n 14 0 dX3_init_13 rfl rfl rfl ?_
  refine r_sipush (v := 412) 17 dX3_init_14 rfl rfl ?_
  refine r_newa (atype := .int) 19 3 rfl rfl rfl q1916 dX3_init_17 rfl (fun w17 => ?_)
  refine r_putr 22 pf_X3_13 (Or.inr ⟨_, rfl⟩) dX3_init_19 rfl (fun w19 => ?_)
  refine r_aload_n 23 0 dX3_init_22 rfl rfl rfl ?_
  refine r_sipush (v := 412) 26 dX3_init_23 rfl rfl ?_
  refine r_newa (atype := .int) 28 3 rfl rfl rfl q1916 dX3_init_26 rfl (fun w26 => ?_)
  refine r_putr 31 pf_X3_16 (Or.inr ⟨_, rfl⟩) dX3_init_28 rfl (fun w28 => ?_)
  refine r_aload_n 32 0 dX3_init_31 rfl rfl rfl ?_
  refine r_sipush (v := 3296) 35 dX3_init_32 rfl rfl ?_
  refine r_newa (atype := .int) 37 3 rfl rfl rfl q1916 dX3_init_35 rfl (fun w35 => ?_)
  refine r_putr 40 pf_X3_19 (Or.inr ⟨_, rfl⟩) dX3_init_37 rfl (fun w37 => ?_)
  refine r_aload_n 41 0 dX3_init_40 rfl rfl rfl ?_
  refine r_iconst (v := (-1)) 42 dX3_init_41 rfl rfl ?_
  refine r_puti 45 pf_X3_22 dX3_init_42 rfl (fun w42 => ?_)
  refine r_aload_n 46 0 dX3_init_45 rfl rfl rfl ?_
  refine r_bipush (v := 60) 48 dX3_init_46 rfl rfl ?_
  refine r_newa (atype := .int) 50 3 rfl rfl rfl q1916 dX3_init_48 rfl (fun w48 => ?_)
  refine r_putr 53 pf_X3_26 (Or.inr ⟨_, rfl⟩) dX3_init_50 rfl (fun w50 => ?_)
  refine r_aload_n 54 0 dX3_init_53 rfl rfl rfl ?_
  refine r_iconst (v := 5) 55 dX3_init_54 rfl rfl ?_
  refine r_newa (atype := .int) 57 3 rfl rfl rfl q1916 dX3_init_55 rfl (fun w55 => ?_)
  refine r_putr 60 pf_X3_29 (Or.inr ⟨_, rfl⟩) dX3_init_57 rfl (fun w57 => ?_)
  refine r_aload_n 61 0 dX3_init_60 rfl rfl rfl ?_
  refine r_iconst (v := 5) 62 dX3_init_61 rfl rfl ?_
  refine r_newa (atype := .int) 64 3 rfl rfl rfl q1916 dX3_init_62 rfl (fun w62 => ?_)
  refine r_dup_r 65 dX3_init_64 rfl ?_
  refine r_iconst (v := 0) 66 dX3_init_65 rfl rfl ?_
  refine r_iconst (v := 0) 67 dX3_init_66 rfl rfl ?_
  refine r_iast 68 dX3_init_67 rfl (fun w67 => ?_)
  refine r_dup_r 69 dX3_init_68 rfl ?_
  refine r_iconst (v := 1) 70 dX3_init_69 rfl rfl ?_
  refine r_iconst (v := 1) 71 dX3_init_70 rfl rfl ?_
  refine r_iast 72 dX3_init_71 rfl (fun w71 => ?_)
  refine r_dup_r 73 dX3_init_72 rfl ?_
  refine r_iconst (v := 2) 74 dX3_init_73 rfl rfl ?_
  refine r_iconst (v := 0) 75 dX3_init_74 rfl rfl ?_
  refine r_iast 76 dX3_init_75 rfl (fun w75 => ?_)
  refine r_dup_r 77 dX3_init_76 rfl ?_
  refine r_iconst (v := 3) 78 dX3_init_77 rfl rfl ?_
  refine r_iconst (v := 0) 79 dX3_init_78 rfl rfl ?_
  refine r_iast 80 dX3_init_79 rfl (fun w79 => ?_)
  refine r_dup_r 81 dX3_init_80 rfl ?_
  refine r_iconst (v := 4) 82 dX3_init_81 rfl rfl ?_
  refine r_iconst (v := 0) 83 dX3_init_82 rfl rfl ?_
  refine r_iast 84 dX3_init_83 rfl (fun w83 => ?_)
  refine r_putr 87 pf_X3_32 (Or.inr ⟨_, rfl⟩) dX3_init_84 rfl (fun w84 => ?_)
  refine r_aload_n 88 0 dX3_init_87 rfl rfl rfl ?_
  refine r_iconst (v := 5) 89 dX3_init_88 rfl rfl ?_
  refine r_newa (atype := .int) 91 3 rfl rfl rfl q1916 dX3_init_89 rfl (fun w89 => ?_)
  refine r_dup_r 92 dX3_init_91 rfl ?_
  refine r_iconst (v := 0) 93 dX3_init_92 rfl rfl ?_
  refine r_bipush (v := 9) 95 dX3_init_93 rfl rfl ?_
  refine r_iast 96 dX3_init_95 rfl (fun w95 => ?_)
  refine r_dup_r 97 dX3_init_96 rfl ?_
  refine r_iconst (v := 1) 98 dX3_init_97 rfl rfl ?_
  refine r_bipush (v := 60) 100 dX3_init_98 rfl rfl ?_
  refine r_iast 101 dX3_init_100 rfl (fun w100 => ?_)
  refine r_dup_r 102 dX3_init_101 rfl ?_
  refine r_iconst (v := 2) 103 dX3_init_102 rfl rfl ?_
  refine r_bipush (v := 30) 105 dX3_init_103 rfl rfl ?_
  refine r_iast 106 dX3_init_105 rfl (fun w105 => ?_)
  refine r_dup_r 107 dX3_init_106 rfl ?_
  refine r_iconst (v := 3) 108 dX3_init_107 rfl rfl ?_
  refine r_bipush (v := 60) 110 dX3_init_108 rfl rfl ?_
  refine r_iast 111 dX3_init_110 rfl (fun w110 => ?_)
  refine r_dup_r 112 dX3_init_111 rfl ?_
  refine r_iconst (v := 4) 113 dX3_init_112 rfl rfl ?_
  refine r_bipush (v := 60) 115 dX3_init_113 rfl rfl ?_
  refine r_iast 116 dX3_init_115 rfl (fun w115 => ?_)
  refine r_putr 119 pf_X3_35 (Or.inr ⟨_, rfl⟩) dX3_init_116 rfl (fun w116 => ?_)
  refine r_aload_n 120 0 dX3_init_119 rfl rfl rfl ?_
  refine r_bipush (v := 6) 122 dX3_init_120 rfl rfl ?_
  refine r_newa (atype := .int) 124 3 rfl rfl rfl q1916 dX3_init_122 rfl (fun w122 => ?_)
  refine r_putr 127 pf_X3_38 (Or.inr ⟨_, rfl⟩) dX3_init_124 rfl (fun w124 => ?_)
  refine r_aload_n 128 0 dX3_init_127 rfl rfl rfl ?_
  refine r_bipush (v := 72) 130 dX3_init_128 rfl rfl ?_
  refine r_newa (atype := .int) 132 3 rfl rfl rfl q1916 dX3_init_130 rfl (fun w130 => ?_)
  refine r_putr 135 pf_X3_41 (Or.inr ⟨_, rfl⟩) dX3_init_132 rfl (fun w132 => ?_)
  refine r_aload_n 136 0 dX3_init_135 rfl rfl rfl ?_
  refine r_bipush (v := 72) 138 dX3_init_136 rfl rfl ?_
  refine r_newa (atype := .int) 140 3 rfl rfl rfl q1916 dX3_init_138 rfl (fun w138 => ?_)
  refine r_putr 143 pf_X3_44 (Or.inr ⟨_, rfl⟩) dX3_init_140 rfl (fun w140 => ?_)
  refine r_aload_n 144 0 dX3_init_143 rfl rfl rfl ?_
  refine r_bipush (v := 72) 146 dX3_init_144 rfl rfl ?_
  refine r_newa (atype := .int) 148 3 rfl rfl rfl q1916 dX3_init_146 rfl (fun w146 => ?_)
  refine r_putr 151 pf_X3_47 (Or.inr ⟨_, rfl⟩) dX3_init_148 rfl (fun w148 => ?_)
  refine r_aload_n 152 0 dX3_init_151 rfl rfl rfl ?_
  refine r_bipush (v := 28) 154 dX3_init_152 rfl rfl ?_
  refine r_newa (atype := .char) 156 2 rfl rfl rfl q2272 dX3_init_154 rfl (fun w154 => ?_)
  refine r_dup_r 157 dX3_init_156 rfl ?_
  refine r_iconst (v := 0) 158 dX3_init_157 rfl rfl ?_
  refine r_bipush (v := 108) 160 dX3_init_158 rfl rfl ?_
  refine r_caast 161 dX3_init_160 rfl (fun w160 => ?_)
  refine r_dup_r 162 dX3_init_161 rfl ?_
  refine r_iconst (v := 1) 163 dX3_init_162 rfl rfl ?_
  refine r_bipush (v := 97) 165 dX3_init_163 rfl rfl ?_
  refine r_caast 166 dX3_init_165 rfl (fun w165 => ?_)
  refine r_dup_r 167 dX3_init_166 rfl ?_
  refine r_iconst (v := 2) 168 dX3_init_167 rfl rfl ?_
  refine r_bipush (v := 116) 170 dX3_init_168 rfl rfl ?_
  refine r_caast 171 dX3_init_170 rfl (fun w170 => ?_)
  refine r_dup_r 172 dX3_init_171 rfl ?_
  refine r_iconst (v := 3) 173 dX3_init_172 rfl rfl ?_
  refine r_bipush (v := 101) 175 dX3_init_173 rfl rfl ?_
  refine r_caast 176 dX3_init_175 rfl (fun w175 => ?_)
  refine r_dup_r 177 dX3_init_176 rfl ?_
  refine r_iconst (v := 4) 178 dX3_init_177 rfl rfl ?_
  refine r_bipush (v := 108) 180 dX3_init_178 rfl rfl ?_
  refine r_caast 181 dX3_init_180 rfl (fun w180 => ?_)
  refine r_dup_r 182 dX3_init_181 rfl ?_
  refine r_iconst (v := 5) 183 dX3_init_182 rfl rfl ?_
  refine r_bipush (v := 105) 185 dX3_init_183 rfl rfl ?_
  refine r_caast 186 dX3_init_185 rfl (fun w185 => ?_)
  refine r_dup_r 187 dX3_init_186 rfl ?_
  refine r_bipush (v := 6) 189 dX3_init_187 rfl rfl ?_
  refine r_bipush (v := 110) 191 dX3_init_189 rfl rfl ?_
  refine r_caast 192 dX3_init_191 rfl (fun w191 => ?_)
  refine r_dup_r 193 dX3_init_192 rfl ?_
  refine r_bipush (v := 7) 195 dX3_init_193 rfl rfl ?_
  refine r_bipush (v := 107) 197 dX3_init_195 rfl rfl ?_
  refine r_caast 198 dX3_init_197 rfl (fun w197 => ?_)
  refine r_dup_r 199 dX3_init_198 rfl ?_
  refine r_bipush (v := 8) 201 dX3_init_199 rfl rfl ?_
  refine r_bipush (v := 108) 203 dX3_init_201 rfl rfl ?_
  refine r_caast 204 dX3_init_203 rfl (fun w203 => ?_)
  refine r_dup_r 205 dX3_init_204 rfl ?_
  refine r_bipush (v := 9) 207 dX3_init_205 rfl rfl ?_
  refine r_bipush (v := 105) 209 dX3_init_207 rfl rfl ?_
  refine r_caast 210 dX3_init_209 rfl (fun w209 => ?_)
  refine r_dup_r 211 dX3_init_210 rfl ?_
  refine r_bipush (v := 10) 213 dX3_init_211 rfl rfl ?_
  refine r_bipush (v := 109) 215 dX3_init_213 rfl rfl ?_
  refine r_caast 216 dX3_init_215 rfl (fun w215 => ?_)
  refine r_dup_r 217 dX3_init_216 rfl ?_
  refine r_bipush (v := 11) 219 dX3_init_217 rfl rfl ?_
  refine r_bipush (v := 105) 221 dX3_init_219 rfl rfl ?_
  refine r_caast 222 dX3_init_221 rfl (fun w221 => ?_)
  refine r_dup_r 223 dX3_init_222 rfl ?_
  refine r_bipush (v := 12) 225 dX3_init_223 rfl rfl ?_
  refine r_bipush (v := 116) 227 dX3_init_225 rfl rfl ?_
  refine r_caast 228 dX3_init_227 rfl (fun w227 => ?_)
  refine r_dup_r 229 dX3_init_228 rfl ?_
  refine r_bipush (v := 13) 231 dX3_init_229 rfl rfl ?_
  refine r_bipush (v := 99) 233 dX3_init_231 rfl rfl ?_
  refine r_caast 234 dX3_init_233 rfl (fun w233 => ?_)
  refine r_dup_r 235 dX3_init_234 rfl ?_
  refine r_bipush (v := 14) 237 dX3_init_235 rfl rfl ?_
  refine r_bipush (v := 117) 239 dX3_init_237 rfl rfl ?_
  refine r_caast 240 dX3_init_239 rfl (fun w239 => ?_)
  refine r_dup_r 241 dX3_init_240 rfl ?_
  refine r_bipush (v := 15) 243 dX3_init_241 rfl rfl ?_
  refine r_bipush (v := 116) 245 dX3_init_243 rfl rfl ?_
  refine r_caast 246 dX3_init_245 rfl (fun w245 => ?_)
  refine r_dup_r 247 dX3_init_246 rfl ?_
  refine r_bipush (v := 16) 249 dX3_init_247 rfl rfl ?_
  refine r_bipush (v := 116) 251 dX3_init_249 rfl rfl ?_
  refine r_caast 252 dX3_init_251 rfl (fun w251 => ?_)
  refine r_dup_r 253 dX3_init_252 rfl ?_
  refine r_bipush (v := 17) 255 dX3_init_253 rfl rfl ?_
  refine r_bipush (v := 117) 257 dX3_init_255 rfl rfl ?_
  refine r_caast 258 dX3_init_257 rfl (fun w257 => ?_)
  refine r_dup_r 259 dX3_init_258 rfl ?_
  refine r_bipush (v := 18) 261 dX3_init_259 rfl rfl ?_
  refine r_bipush (v := 114) 263 dX3_init_261 rfl rfl ?_
  refine r_caast 264 dX3_init_263 rfl (fun w263 => ?_)
  refine r_dup_r 265 dX3_init_264 rfl ?_
  refine r_bipush (v := 19) 267 dX3_init_265 rfl rfl ?_
  refine r_bipush (v := 110) 269 dX3_init_267 rfl rfl ?_
  refine r_caast 270 dX3_init_269 rfl (fun w269 => ?_)
  refine r_dup_r 271 dX3_init_270 rfl ?_
  refine r_bipush (v := 20) 273 dX3_init_271 rfl rfl ?_
  refine r_bipush (v := 108) 275 dX3_init_273 rfl rfl ?_
  refine r_caast 276 dX3_init_275 rfl (fun w275 => ?_)
  refine r_dup_r 277 dX3_init_276 rfl ?_
  refine r_bipush (v := 21) 279 dX3_init_277 rfl rfl ?_
  refine r_bipush (v := 101) 281 dX3_init_279 rfl rfl ?_
  refine r_caast 282 dX3_init_281 rfl (fun w281 => ?_)
  refine r_dup_r 283 dX3_init_282 rfl ?_
  refine r_bipush (v := 22) 285 dX3_init_283 rfl rfl ?_
  refine r_bipush (v := 103) 287 dX3_init_285 rfl rfl ?_
  refine r_caast 288 dX3_init_287 rfl (fun w287 => ?_)
  refine r_dup_r 289 dX3_init_288 rfl ?_
  refine r_bipush (v := 23) 291 dX3_init_289 rfl rfl ?_
  refine r_bipush (v := 99) 293 dX3_init_291 rfl rfl ?_
  refine r_caast 294 dX3_init_293 rfl (fun w293 => ?_)
  refine r_dup_r 295 dX3_init_294 rfl ?_
  refine r_bipush (v := 24) 297 dX3_init_295 rfl rfl ?_
  refine r_bipush (v := 111) 299 dX3_init_297 rfl rfl ?_
  refine r_caast 300 dX3_init_299 rfl (fun w299 => ?_)
  refine r_dup_r 301 dX3_init_300 rfl ?_
  refine r_bipush (v := 25) 303 dX3_init_301 rfl rfl ?_
  refine r_bipush (v := 97) 305 dX3_init_303 rfl rfl ?_
  refine r_caast 306 dX3_init_305 rfl (fun w305 => ?_)
  refine r_dup_r 307 dX3_init_306 rfl ?_
  refine r_bipush (v := 26) 309 dX3_init_307 rfl rfl ?_
  refine r_bipush (v := 99) 311 dX3_init_309 rfl rfl ?_
  refine r_caast 312 dX3_init_311 rfl (fun w311 => ?_)
  refine r_dup_r 313 dX3_init_312 rfl ?_
  refine r_bipush (v := 27) 315 dX3_init_313 rfl rfl ?_
  refine r_bipush (v := 104) 317 dX3_init_315 rfl rfl ?_
  refine r_caast 318 dX3_init_317 rfl (fun w317 => ?_)
  refine r_putr 321 pf_X3_50 (Or.inr ⟨_, rfl⟩) dX3_init_318 rfl (fun w318 => ?_)
  refine r_aload_n 322 0 dX3_init_321 rfl rfl rfl ?_
  refine r_bipush (v := 8) 324 dX3_init_322 rfl rfl ?_
  refine r_newa (atype := .int) 326 3 rfl rfl rfl q1916 dX3_init_324 rfl (fun w324 => ?_)
  refine r_dup_r 327 dX3_init_326 rfl ?_
  refine r_iconst (v := 0) 328 dX3_init_327 rfl rfl ?_
  refine r_iconst (v := 0) 329 dX3_init_328 rfl rfl ?_
  refine r_iast 330 dX3_init_329 rfl (fun w329 => ?_)
  refine r_dup_r 331 dX3_init_330 rfl ?_
  refine r_iconst (v := 1) 332 dX3_init_331 rfl rfl ?_
  refine r_iconst (v := 4) 333 dX3_init_332 rfl rfl ?_
  refine r_iast 334 dX3_init_333 rfl (fun w333 => ?_)
  refine r_dup_r 335 dX3_init_334 rfl ?_
  refine r_iconst (v := 2) 336 dX3_init_335 rfl rfl ?_
  refine r_bipush (v := 8) 338 dX3_init_336 rfl rfl ?_
  refine r_iast 339 dX3_init_338 rfl (fun w338 => ?_)
  refine r_dup_r 340 dX3_init_339 rfl ?_
  refine r_iconst (v := 3) 341 dX3_init_340 rfl rfl ?_
  refine r_bipush (v := 13) 343 dX3_init_341 rfl rfl ?_
  refine r_iast 344 dX3_init_343 rfl (fun w343 => ?_)
  refine r_dup_r 345 dX3_init_344 rfl ?_
  refine r_iconst (v := 4) 346 dX3_init_345 rfl rfl ?_
  refine r_bipush (v := 16) 348 dX3_init_346 rfl rfl ?_
  refine r_iast 349 dX3_init_348 rfl (fun w348 => ?_)
  refine r_dup_r 350 dX3_init_349 rfl ?_
  refine r_iconst (v := 5) 351 dX3_init_350 rfl rfl ?_
  refine r_bipush (v := 20) 353 dX3_init_351 rfl rfl ?_
  refine r_iast 354 dX3_init_353 rfl (fun w353 => ?_)
  refine r_dup_r 355 dX3_init_354 rfl ?_
  refine r_bipush (v := 6) 357 dX3_init_355 rfl rfl ?_
  refine r_bipush (v := 23) 359 dX3_init_357 rfl rfl ?_
  refine r_iast 360 dX3_init_359 rfl (fun w359 => ?_)
  refine r_dup_r 361 dX3_init_360 rfl ?_
  refine r_bipush (v := 7) 363 dX3_init_361 rfl rfl ?_
  refine r_bipush (v := 28) 365 dX3_init_363 rfl rfl ?_
  refine r_iast 366 dX3_init_365 rfl (fun w365 => ?_)
  refine r_putr 369 pf_X3_54 (Or.inr ⟨_, rfl⟩) dX3_init_366 rfl (fun w366 => ?_)
  refine r_aload_n 370 0 dX3_init_369 rfl rfl rfl ?_
  refine r_bipush (v := 7) 372 dX3_init_370 rfl rfl ?_
  refine r_newa (atype := .int) 374 3 rfl rfl rfl q1916 dX3_init_372 rfl (fun w372 => ?_)
  refine r_dup_r 375 dX3_init_374 rfl ?_
  refine r_iconst (v := 0) 376 dX3_init_375 rfl rfl ?_
  refine r_iconst (v := 2) 377 dX3_init_376 rfl rfl ?_
  refine r_iast 378 dX3_init_377 rfl (fun w377 => ?_)
  refine r_dup_r 379 dX3_init_378 rfl ?_
  refine r_iconst (v := 1) 380 dX3_init_379 rfl rfl ?_
  refine r_iconst (v := 4) 381 dX3_init_380 rfl rfl ?_
  refine r_iast 382 dX3_init_381 rfl (fun w381 => ?_)
  refine r_dup_r 383 dX3_init_382 rfl ?_
  refine r_iconst (v := 2) 384 dX3_init_383 rfl rfl ?_
  refine r_iconst (v := 0) 385 dX3_init_384 rfl rfl ?_
  refine r_iast 386 dX3_init_385 rfl (fun w385 => ?_)
  refine r_dup_r 387 dX3_init_386 rfl ?_
  refine r_iconst (v := 3) 388 dX3_init_387 rfl rfl ?_
  refine r_iconst (v := 0) 389 dX3_init_388 rfl rfl ?_
  refine r_iast 390 dX3_init_389 rfl (fun w389 => ?_)
  refine r_dup_r 391 dX3_init_390 rfl ?_
  refine r_iconst (v := 4) 392 dX3_init_391 rfl rfl ?_
  refine r_iconst (v := 2) 393 dX3_init_392 rfl rfl ?_
  refine r_iast 394 dX3_init_393 rfl (fun w393 => ?_)
  refine r_dup_r 395 dX3_init_394 rfl ?_
  refine r_iconst (v := 5) 396 dX3_init_395 rfl rfl ?_
  refine r_iconst (v := 2) 397 dX3_init_396 rfl rfl ?_
  refine r_iast 398 dX3_init_397 rfl (fun w397 => ?_)
  refine r_dup_r 399 dX3_init_398 rfl ?_
  refine r_bipush (v := 6) 401 dX3_init_399 rfl rfl ?_
  refine r_iconst (v := 1) 402 dX3_init_401 rfl rfl ?_
  refine r_iast 403 dX3_init_402 rfl (fun w402 => ?_)
  refine r_putr 406 pf_X3_57 (Or.inr ⟨_, rfl⟩) dX3_init_403 rfl (fun w403 => ?_)
  refine r_aload_n 407 0 dX3_init_406 rfl rfl rfl ?_
  refine r_bipush (v := 7) 409 dX3_init_407 rfl rfl ?_
  refine r_newa (atype := .int) 411 3 rfl rfl rfl q1916 dX3_init_409 rfl (fun w409 => ?_)
  refine r_dup_r 412 dX3_init_411 rfl ?_
  refine r_iconst (v := 0) 413 dX3_init_412 rfl rfl ?_
  refine r_iconst (v := 1) 414 dX3_init_413 rfl rfl ?_
  refine r_iast 415 dX3_init_414 rfl (fun w414 => ?_)
  refine r_dup_r 416 dX3_init_415 rfl ?_
  refine r_iconst (v := 1) 417 dX3_init_416 rfl rfl ?_
  refine r_iconst (v := 2) 418 dX3_init_417 rfl rfl ?_
  refine r_iast 419 dX3_init_418 rfl (fun w418 => ?_)
  refine r_dup_r 420 dX3_init_419 rfl ?_
  refine r_iconst (v := 2) 421 dX3_init_420 rfl rfl ?_
  refine r_iconst (v := 2) 422 dX3_init_421 rfl rfl ?_
  refine r_iast 423 dX3_init_422 rfl (fun w422 => ?_)
  refine r_dup_r 424 dX3_init_423 rfl ?_
  refine r_iconst (v := 3) 425 dX3_init_424 rfl rfl ?_
  refine r_iconst (v := 1) 426 dX3_init_425 rfl rfl ?_
  refine r_iast 427 dX3_init_426 rfl (fun w426 => ?_)
  refine r_dup_r 428 dX3_init_427 rfl ?_
  refine r_iconst (v := 4) 429 dX3_init_428 rfl rfl ?_
  refine r_iconst (v := 0) 430 dX3_init_429 rfl rfl ?_
  refine r_iast 431 dX3_init_430 rfl (fun w430 => ?_)
  refine r_dup_r 432 dX3_init_431 rfl ?_
  refine r_iconst (v := 5) 433 dX3_init_432 rfl rfl ?_
  refine r_iconst (v := 4) 434 dX3_init_433 rfl rfl ?_
  refine r_iast 435 dX3_init_434 rfl (fun w434 => ?_)
  refine r_dup_r 436 dX3_init_435 rfl ?_
  refine r_bipush (v := 6) 438 dX3_init_436 rfl rfl ?_
  refine r_iconst (v := 1) 439 dX3_init_438 rfl rfl ?_
  refine r_iast 440 dX3_init_439 rfl (fun w439 => ?_)
  refine r_putr 443 pf_X3_60 (Or.inr ⟨_, rfl⟩) dX3_init_440 rfl (fun w440 => ?_)
  refine r_aload_n 444 0 dX3_init_443 rfl rfl rfl ?_
  refine r_sipush (v := 488) 447 dX3_init_444 rfl rfl ?_
  refine r_newa (atype := .int) 449 3 rfl rfl rfl q1916 dX3_init_447 rfl (fun w447 => ?_)
  refine r_putr 452 pf_X3_63 (Or.inr ⟨_, rfl⟩) dX3_init_449 rfl (fun w449 => ?_)
  refine r_aload_n 453 0 dX3_init_452 rfl rfl rfl ?_
  refine r_sipush (v := 256) 456 dX3_init_453 rfl rfl ?_
  refine r_newa (atype := .int) 458 3 rfl rfl rfl q1916 dX3_init_456 rfl (fun w456 => ?_)
  refine r_putr 461 pf_X3_66 (Or.inr ⟨_, rfl⟩) dX3_init_458 rfl (fun w458 => ?_)
  exact r_vret rfl rfl dX3_init_461
theorem s_X3_init {l : Launch} {D : Dn} {H0 : Heap} (hl : l.stackTraces = false) (G : Nat) (a0 : Nat) (w : St) : SimN l D H0 yX3_init (ws_ yX3_init cX3_init 1 none) 1 20 rvU [lR (some a0)] w (f_X3_init G a0 w) := SimX.N (SimX.ofV (y := yX3_init) (by decide) rfl (t_X3_init hl G a0 w))
