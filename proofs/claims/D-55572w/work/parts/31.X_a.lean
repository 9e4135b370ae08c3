set_option maxRecDepth 100000
set_option maxHeartbeats 4000000
theorem gf_X10_12 : GF RX10 12 [7, 9] 5 := (GF.app (GF1 (C := RX10) (T := TX10) (N := 11) (ci := 7) rfl in_X10 (by decide) (Or.inl q371) (Or.inl rfl)) (GF1 (C := RX12) (T := TX12) (N := 14) (ci := 9) rfl in_X12 (by decide) (Or.inl q371) (Or.inl rfl)))
theorem gf_X10_18 : GF RX10 18 [7, 9] 6 := (GF.app (GF1 (C := RX10) (T := TX10) (N := 11) (ci := 7) rfl in_X10 (by decide) (Or.inl q373) (Or.inl rfl)) (GF1 (C := RX12) (T := TX12) (N := 14) (ci := 9) rfl in_X12 (by decide) (Or.inl q373) (Or.inl rfl)))
theorem gf_X10_21 : GF RX10 21 [7, 9] 0 := (GF.app (GF1 (C := RX10) (T := TX10) (N := 11) (ci := 7) rfl in_X10 (by decide) (Or.inl q358) (Or.inl rfl)) (GF1 (C := RX12) (T := TX12) (N := 14) (ci := 9) rfl in_X12 (by decide) (Or.inl q358) (Or.inl rfl)))
theorem gf_X10_25 : GF RX10 25 [7, 9] 1 := (GF.app (GF1 (C := RX10) (T := TX10) (N := 11) (ci := 7) rfl in_X10 (by decide) (Or.inl q361) (Or.inl rfl)) (GF1 (C := RX12) (T := TX12) (N := 14) (ci := 9) rfl in_X12 (by decide) (Or.inl q361) (Or.inl rfl)))
theorem gf_X10_28 : GF RX10 28 [7, 9] 2 := (GF.app (GF1 (C := RX10) (T := TX10) (N := 11) (ci := 7) rfl in_X10 (by decide) (Or.inl q363) (Or.inl rfl)) (GF1 (C := RX12) (T := TX12) (N := 14) (ci := 9) rfl in_X12 (by decide) (Or.inl q363) (Or.inl rfl)))
theorem gf_X10_38 : GF RX10 38 [7, 9] 3 := (GF.app (GF1 (C := RX10) (T := TX10) (N := 11) (ci := 7) rfl in_X10 (by decide) (Or.inl q366) (Or.inl rfl)) (GF1 (C := RX12) (T := TX12) (N := 14) (ci := 9) rfl in_X12 (by decide) (Or.inl q366) (Or.inl rfl)))
theorem gf_X10_46 : GF RX10 46 [7, 9] 4 := (GF.app (GF1 (C := RX10) (T := TX10) (N := 11) (ci := 7) rfl in_X10 (by decide) (Or.inl q369) (Or.inl rfl)) (GF1 (C := RX12) (T := TX12) (N := 14) (ci := 9) rfl in_X12 (by decide) (Or.inl q369) (Or.inl rfl)))
theorem gf_X10_48 : GF RX10 48 [7, 9] 7 := (GF.app (GF1 (C := RX10) (T := TX10) (N := 11) (ci := 7) rfl in_X10 (by decide) (Or.inl q374) (Or.inl rfl)) (GF1 (C := RX12) (T := TX12) (N := 14) (ci := 9) rfl in_X12 (by decide) (Or.inl q374) (Or.inl rfl)))
theorem gf_X10_65 : GF RX10 65 [7, 9] 8 := (GF.app (GF1 (C := RX10) (T := TX10) (N := 11) (ci := 7) rfl in_X10 (by decide) (Or.inl q376) (Or.inl rfl)) (GF1 (C := RX12) (T := TX12) (N := 14) (ci := 9) rfl in_X12 (by decide) (Or.inl q376) (Or.inl rfl)))
theorem gf_X10_77 : GF RX10 77 [12] 0 := GF1 (C := RX15) (T := TX15) (N := 2) (ci := 12) rfl in_X15 (by decide) (Or.inr ⟨_, q694⟩) (Or.inl rfl)
theorem gf_X11_7 : GF RX11 7 [8] 0 := GF1 (C := RX11) (T := TX11) (N := 1) (ci := 8) rfl in_X11 (by decide) (Or.inl q411) (Or.inl rfl)
theorem gf_X12_20 : GF RX12 20 [9] 11 := GF1 (C := RX12) (T := TX12) (N := 14) (ci := 9) rfl in_X12 (by decide) (Or.inl q511) (Or.inl rfl)
theorem gf_X12_26 : GF RX12 26 [9] 12 := GF1 (C := RX12) (T := TX12) (N := 14) (ci := 9) rfl in_X12 (by decide) (Or.inl q512) (Or.inl rfl)
theorem gf_X12_34 : GF RX12 34 [7, 9] 5 := (GF.app (GF1 (C := RX10) (T := TX10) (N := 11) (ci := 7) rfl in_X10 (by decide) (Or.inr ⟨_, q372⟩) (Or.inl rfl)) (GF1 (C := RX12) (T := TX12) (N := 14) (ci := 9) rfl in_X12 (by decide) (Or.inr ⟨_, q372⟩) (Or.inl rfl)))
theorem gf_X12_55 : GF RX12 55 [9] 13 := GF1 (C := RX12) (T := TX12) (N := 14) (ci := 9) rfl in_X12 (by decide) (Or.inl q514) (Or.inl rfl)
theorem gf_X12_67 : GF RX12 67 [7, 9] 8 := (GF.app (GF1 (C := RX10) (T := TX10) (N := 11) (ci := 7) rfl in_X10 (by decide) (Or.inr ⟨_, q377⟩) (Or.inl rfl)) (GF1 (C := RX12) (T := TX12) (N := 14) (ci := 9) rfl in_X12 (by decide) (Or.inr ⟨_, q377⟩) (Or.inl rfl)))
theorem gf_X12_82 : GF RX12 82 [12] 0 := GF1 (C := RX15) (T := TX15) (N := 2) (ci := 12) rfl in_X15 (by decide) (Or.inr ⟨_, q695⟩) (Or.inl rfl)
theorem gf_X13_7 : GF RX13 7 [10] 0 := GF1 (C := RX13) (T := TX13) (N := 1) (ci := 10) rfl in_X13 (by decide) (Or.inl q539) (Or.inl rfl)
theorem gf_X15_13 : GF RX15 13 [12] 1 := GF1 (C := RX15) (T := TX15) (N := 2) (ci := 12) rfl in_X15 (by decide) (Or.inl q696) (Or.inl rfl)
theorem gf_X18_13 : GF RX18 13 [4] 7 := GF1 (C := RX6) (T := TX6) (N := 9) (ci := 4) rfl in_X6 (by decide) (Or.inr ⟨_, q1283⟩) (Or.inl rfl)
theorem gf_X18_7 : GF RX18 7 [4] 5 := GF1 (C := RX6) (T := TX6) (N := 9) (ci := 4) rfl in_X6 (by decide) (Or.inr ⟨_, q1277⟩) (Or.inl rfl)
theorem gf_X19_13 : GF RX19 13 [4] 8 := GF1 (C := RX6) (T := TX6) (N := 9) (ci := 4) rfl in_X6 (by decide) (Or.inr ⟨_, q1286⟩) (Or.inl rfl)
theorem gf_X19_7 : GF RX19 7 [4] 6 := GF1 (C := RX6) (T := TX6) (N := 9) (ci := 4) rfl in_X6 (by decide) (Or.inr ⟨_, q1280⟩) (Or.inl rfl)
theorem gf_X1_10 : GF RX1 10 [0] 0 := GF1 (C := RX1) (T := TX1) (N := 8) (ci := 0) rfl in_X1 (by decide) (Or.inl q261) (Or.inl rfl)
theorem gf_X1_191 : GF RX1 191 [1] 1 := GF1 (C := RX2) (T := TX2) (N := 4) (ci := 1) rfl in_X2 (by decide) (Or.inr ⟨_, q196⟩) (Or.inl rfl)
theorem gf_X1_255 : GF RX1 255 [5] 0 := GF1 (C := RX7) (T := TX7) (N := 6) (ci := 5) rfl in_X7 (by decide) (Or.inr ⟨_, q1322⟩) (Or.inl rfl)
theorem gf_X1_258 : GF RX1 258 [5] 2 := GF1 (C := RX7) (T := TX7) (N := 6) (ci := 5) rfl in_X7 (by decide) (Or.inr ⟨_, q1328⟩) (Or.inl rfl)
theorem gf_X1_297 : GF RX1 297 [7, 9] 7 := (GF.app (GF1 (C := RX10) (T := TX10) (N := 11) (ci := 7) rfl in_X10 (by decide) (Or.inr ⟨_, q375⟩) (Or.inl rfl)) (GF1 (C := RX12) (T := TX12) (N := 14) (ci := 9) rfl in_X12 (by decide) (Or.inr ⟨_, q375⟩) (Or.inl rfl)))
theorem gf_X1_30 : GF RX1 30 [0] 4 := GF1 (C := RX1) (T := TX1) (N := 8) (ci := 0) rfl in_X1 (by decide) (Or.inl q265) (Or.inl rfl)
theorem gf_X1_311 : GF RX1 311 [5] 3 := GF1 (C := RX7) (T := TX7) (N := 6) (ci := 5) rfl in_X7 (by decide) (Or.inr ⟨_, q1331⟩) (Or.inl rfl)
theorem gf_X1_314 : GF RX1 314 [5] 1 := GF1 (C := RX7) (T := TX7) (N := 6) (ci := 5) rfl in_X7 (by decide) (Or.inr ⟨_, q1325⟩) (Or.inl rfl)
theorem gf_X1_33 : GF RX1 33 [0] 6 := GF1 (C := RX1) (T := TX1) (N := 8) (ci := 0) rfl in_X1 (by decide) (Or.inl q267) (Or.inl rfl)
theorem gf_X1_331 : GF RX1 331 [6] 0 := GF1 (C := RX9) (T := TX9) (N := 3) (ci := 6) rfl in_X9 (by decide) (Or.inr ⟨_, q730⟩) (Or.inl rfl)
theorem gf_X2_10 : GF RX2 10 [1] 0 := GF1 (C := RX2) (T := TX2) (N := 4) (ci := 1) rfl in_X2 (by decide) (Or.inl q191) (Or.inl rfl)
theorem gf_X2_16 : GF RX2 16 [1] 1 := GF1 (C := RX2) (T := TX2) (N := 4) (ci := 1) rfl in_X2 (by decide) (Or.inl q194) (Or.inl rfl)
theorem gf_X2_49 : GF RX2 49 [1] 2 := GF1 (C := RX2) (T := TX2) (N := 4) (ci := 1) rfl in_X2 (by decide) (Or.inl q197) (Or.inl rfl)
theorem gf_X2_53 : GF RX2 53 [1] 3 := GF1 (C := RX2) (T := TX2) (N := 4) (ci := 1) rfl in_X2 (by decide) (Or.inl q199) (Or.inl rfl)
theorem gf_X5_12 : GF RX5 12 [3] 0 := GF1 (C := RX5) (T := TX5) (N := 3) (ci := 3) rfl in_X5 (by decide) (Or.inl q1232) (Or.inl rfl)
theorem gf_X5_18 : GF RX5 18 [3] 1 := GF1 (C := RX5) (T := TX5) (N := 3) (ci := 3) rfl in_X5 (by decide) (Or.inl q1236) (Or.inl rfl)
theorem gf_X5_22 : GF RX5 22 [3] 2 := GF1 (C := RX5) (T := TX5) (N := 3) (ci := 3) rfl in_X5 (by decide) (Or.inl q1239) (Or.inl rfl)
theorem gf_X6_13 : GF RX6 13 [4] 1 := GF1 (C := RX6) (T := TX6) (N := 9) (ci := 4) rfl in_X6 (by decide) (Or.inl q1266) (Or.inl rfl)
theorem gf_X6_16 : GF RX6 16 [4] 2 := GF1 (C := RX6) (T := TX6) (N := 9) (ci := 4) rfl in_X6 (by decide) (Or.inl q1269) (Or.inl rfl)
theorem gf_X6_19 : GF RX6 19 [4] 3 := GF1 (C := RX6) (T := TX6) (N := 9) (ci := 4) rfl in_X6 (by decide) (Or.inl q1271) (Or.inl rfl)
theorem gf_X6_22 : GF RX6 22 [4] 4 := GF1 (C := RX6) (T := TX6) (N := 9) (ci := 4) rfl in_X6 (by decide) (Or.inl q1273) (Or.inl rfl)
theorem gf_X6_25 : GF RX6 25 [4] 5 := GF1 (C := RX6) (T := TX6) (N := 9) (ci := 4) rfl in_X6 (by decide) (Or.inl q1276) (Or.inl rfl)
theorem gf_X6_28 : GF RX6 28 [4] 6 := GF1 (C := RX6) (T := TX6) (N := 9) (ci := 4) rfl in_X6 (by decide) (Or.inl q1279) (Or.inl rfl)
theorem gf_X6_34 : GF RX6 34 [4] 7 := GF1 (C := RX6) (T := TX6) (N := 9) (ci := 4) rfl in_X6 (by decide) (Or.inl q1282) (Or.inl rfl)
theorem gf_X6_37 : GF RX6 37 [4] 8 := GF1 (C := RX6) (T := TX6) (N := 9) (ci := 4) rfl in_X6 (by decide) (Or.inl q1285) (Or.inl rfl)
theorem gf_X6_7 : GF RX6 7 [4] 0 := GF1 (C := RX6) (T := TX6) (N := 9) (ci := 4) rfl in_X6 (by decide) (Or.inl q1264) (Or.inl rfl)
theorem gf_X7_13 : GF RX7 13 [5] 1 := GF1 (C := RX7) (T := TX7) (N := 6) (ci := 5) rfl in_X7 (by decide) (Or.inl q1323) (Or.inl rfl)
theorem gf_X7_16 : GF RX7 16 [5] 2 := GF1 (C := RX7) (T := TX7) (N := 6) (ci := 5) rfl in_X7 (by decide) (Or.inl q1326) (Or.inl rfl)
theorem gf_X7_19 : GF RX7 19 [5] 3 := GF1 (C := RX7) (T := TX7) (N := 6) (ci := 5) rfl in_X7 (by decide) (Or.inl q1329) (Or.inl rfl)
theorem gf_X7_22 : GF RX7 22 [5] 4 := GF1 (C := RX7) (T := TX7) (N := 6) (ci := 5) rfl in_X7 (by decide) (Or.inl q1332) (Or.inl rfl)
theorem gf_X7_25 : GF RX7 25 [5] 5 := GF1 (C := RX7) (T := TX7) (N := 6) (ci := 5) rfl in_X7 (by decide) (Or.inl q1335) (Or.inl rfl)
theorem gf_X7_7 : GF RX7 7 [5] 0 := GF1 (C := RX7) (T := TX7) (N := 6) (ci := 5) rfl in_X7 (by decide) (Or.inl q1320) (Or.inl rfl)
theorem gf_X9_115 : GF RX9 115 [5] 0 := GF1 (C := RX7) (T := TX7) (N := 6) (ci := 5) rfl in_X7 (by decide) (Or.inr ⟨_, q1321⟩) (Or.inl rfl)
theorem gf_X9_118 : GF RX9 118 [5] 1 := GF1 (C := RX7) (T := TX7) (N := 6) (ci := 5) rfl in_X7 (by decide) (Or.inr ⟨_, q1324⟩) (Or.inl rfl)
theorem gf_X9_12 : GF RX9 12 [6] 0 := GF1 (C := RX9) (T := TX9) (N := 3) (ci := 6) rfl in_X9 (by decide) (Or.inl q729) (Or.inl rfl)
theorem gf_X9_123 : GF RX9 123 [5] 4 := GF1 (C := RX7) (T := TX7) (N := 6) (ci := 5) rfl in_X7 (by decide) (Or.inr ⟨_, q1333⟩) (Or.inl rfl)
theorem gf_X9_127 : GF RX9 127 [5] 5 := GF1 (C := RX7) (T := TX7) (N := 6) (ci := 5) rfl in_X7 (by decide) (Or.inr ⟨_, q1336⟩) (Or.inl rfl)
theorem gf_X9_134 : GF RX9 134 [5] 2 := GF1 (C := RX7) (T := TX7) (N := 6) (ci := 5) rfl in_X7 (by decide) (Or.inr ⟨_, q1327⟩) (Or.inl rfl)
theorem gf_X9_137 : GF RX9 137 [5] 3 := GF1 (C := RX7) (T := TX7) (N := 6) (ci := 5) rfl in_X7 (by decide) (Or.inr ⟨_, q1330⟩) (Or.inl rfl)
theorem gf_X9_154 : GF RX9 154 [7, 9] 0 := (GF.app (GF1 (C := RX10) (T := TX10) (N := 11) (ci := 7) rfl in_X10 (by decide) (Or.inr ⟨_, q359⟩) (Or.inl rfl)) (GF1 (C := RX12) (T := TX12) (N := 14) (ci := 9) rfl in_X12 (by decide) (Or.inr ⟨_, q359⟩) (Or.inl rfl)))
theorem gf_X9_155 : GF RX9 155 [7, 9] 1 := (GF.app (GF1 (C := RX10) (T := TX10) (N := 11) (ci := 7) rfl in_X10 (by decide) (Or.inr ⟨_, q362⟩) (Or.inl rfl)) (GF1 (C := RX12) (T := TX12) (N := 14) (ci := 9) rfl in_X12 (by decide) (Or.inr ⟨_, q362⟩) (Or.inl rfl)))
theorem gf_X9_156 : GF RX9 156 [7, 9] 2 := (GF.app (GF1 (C := RX10) (T := TX10) (N := 11) (ci := 7) rfl in_X10 (by decide) (Or.inr ⟨_, q364⟩) (Or.inl rfl)) (GF1 (C := RX12) (T := TX12) (N := 14) (ci := 9) rfl in_X12 (by decide) (Or.inr ⟨_, q364⟩) (Or.inl rfl)))
theorem gf_X9_159 : GF RX9 159 [7, 9] 3 := (GF.app (GF1 (C := RX10) (T := TX10) (N := 11) (ci := 7) rfl in_X10 (by decide) (Or.inr ⟨_, q367⟩) (Or.inl rfl)) (GF1 (C := RX12) (T := TX12) (N := 14) (ci := 9) rfl in_X12 (by decide) (Or.inr ⟨_, q367⟩) (Or.inl rfl)))
theorem gf_X9_18 : GF RX9 18 [6] 1 := GF1 (C := RX9) (T := TX9) (N := 3) (ci := 6) rfl in_X9 (by decide) (Or.inl q731) (Or.inl rfl)
theorem gf_X9_22 : GF RX9 22 [6] 2 := GF1 (C := RX9) (T := TX9) (N := 3) (ci := 6) rfl in_X9 (by decide) (Or.inl q732) (Or.inl rfl)
theorem gf_X9_26 : GF RX9 26 [1] 0 := GF1 (C := RX2) (T := TX2) (N := 4) (ci := 1) rfl in_X2 (by decide) (Or.inr ⟨_, q192⟩) (Or.inl rfl)
theorem gf_X9_42 : GF RX9 42 [1] 1 := GF1 (C := RX2) (T := TX2) (N := 4) (ci := 1) rfl in_X2 (by decide) (Or.inr ⟨_, q195⟩) (Or.inl rfl)
theorem gf_X9_53 : GF RX9 53 [3] 0 := GF1 (C := RX5) (T := TX5) (N := 3) (ci := 3) rfl in_X5 (by decide) (Or.inr ⟨_, q1233⟩) (Or.inl rfl)
theorem gf_X9_71 : GF RX9 71 [4] 1 := GF1 (C := RX6) (T := TX6) (N := 9) (ci := 4) rfl in_X6 (by decide) (Or.inr ⟨_, q1267⟩) (Or.inl rfl)
theorem gf_X9_91 : GF RX9 91 [4] 4 := GF1 (C := RX6) (T := TX6) (N := 9) (ci := 4) rfl in_X6 (by decide) (Or.inr ⟨_, q1274⟩) (Or.inl rfl)
theorem gf_X9_96 : GF RX9 96 [3] 1 := GF1 (C := RX5) (T := TX5) (N := 3) (ci := 3) rfl in_X5 (by decide) (Or.inr ⟨_, q1237⟩) (Or.inl rfl)
theorem pf_X10_12 : PF RX10 "<init>" 12 [7, 9] 5 (.object "java/util/ArrayList") := (PF.app (PF1 (own := RX10) (nm := "<init>") (idx := 12) (k := 5) (ty := (.object "java/util/ArrayList")) (C := RX10) (T := TX10) (N := 11) (ci := 7) rfl in_X10 tyX10_ok nmX10 (by decide) rfl (Or.inr ⟨rfl, rfl, rfl, q371⟩) (Or.inl q371) (Or.inl rfl)) (PF1 (own := RX10) (nm := "<init>") (idx := 12) (k := 5) (ty := (.object "java/util/ArrayList")) (C := RX12) (T := TX12) (N := 14) (ci := 9) rfl in_X12 tyX12_ok nmX12 (by decide) rfl (Or.inr ⟨rfl, rfl, rfl, q371⟩) (Or.inl q371) (Or.inl rfl)))
theorem pf_X10_18 : PF RX10 "<init>" 18 [7, 9] 6 (.object "java/util/ArrayList") := (PF.app (PF1 (own := RX10) (nm := "<init>") (idx := 18) (k := 6) (ty := (.object "java/util/ArrayList")) (C := RX10) (T := TX10) (N := 11) (ci := 7) rfl in_X10 tyX10_ok nmX10 (by decide) rfl (Or.inr ⟨rfl, rfl, rfl, q373⟩) (Or.inl q373) (Or.inl rfl)) (PF1 (own := RX10) (nm := "<init>") (idx := 18) (k := 6) (ty := (.object "java/util/ArrayList")) (C := RX12) (T := TX12) (N := 14) (ci := 9) rfl in_X12 tyX12_ok nmX12 (by decide) rfl (Or.inr ⟨rfl, rfl, rfl, q373⟩) (Or.inl q373) (Or.inl rfl)))
theorem pf_X10_21 : PF RX10 "<init>" 21 [7, 9] 0 (.int) := (PF.app (PF1 (own := RX10) (nm := "<init>") (idx := 21) (k := 0) (ty := .int) (C := RX10) (T := TX10) (N := 11) (ci := 7) rfl in_X10 tyX10_ok nmX10 (by decide) rfl (Or.inr ⟨rfl, rfl, rfl, q358⟩) (Or.inl q358) (Or.inl rfl)) (PF1 (own := RX10) (nm := "<init>") (idx := 21) (k := 0) (ty := .int) (C := RX12) (T := TX12) (N := 14) (ci := 9) rfl in_X12 tyX12_ok nmX12 (by decide) rfl (Or.inr ⟨rfl, rfl, rfl, q358⟩) (Or.inl q358) (Or.inl rfl)))
theorem pf_X10_25 : PF RX10 "<init>" 25 [7, 9] 1 (.int) := (PF.app (PF1 (own := RX10) (nm := "<init>") (idx := 25) (k := 1) (ty := .int) (C := RX10) (T := TX10) (N := 11) (ci := 7) rfl in_X10 tyX10_ok nmX10 (by decide) rfl (Or.inr ⟨rfl, rfl, rfl, q361⟩) (Or.inl q361) (Or.inl rfl)) (PF1 (own := RX10) (nm := "<init>") (idx := 25) (k := 1) (ty := .int) (C := RX12) (T := TX12) (N := 14) (ci := 9) rfl in_X12 tyX12_ok nmX12 (by decide) rfl (Or.inr ⟨rfl, rfl, rfl, q361⟩) (Or.inl q361) (Or.inl rfl)))
theorem pf_X10_28 : PF RX10 "<init>" 28 [7, 9] 2 (.object "CoachTimetable$Side") := (PF.app (PF1 (own := RX10) (nm := "<init>") (idx := 28) (k := 2) (ty := (.object "CoachTimetable$Side")) (C := RX10) (T := TX10) (N := 11) (ci := 7) rfl in_X10 tyX10_ok nmX10 (by decide) rfl (Or.inr ⟨rfl, rfl, rfl, q363⟩) (Or.inl q363) (Or.inl rfl)) (PF1 (own := RX10) (nm := "<init>") (idx := 28) (k := 2) (ty := (.object "CoachTimetable$Side")) (C := RX12) (T := TX12) (N := 14) (ci := 9) rfl in_X12 tyX12_ok nmX12 (by decide) rfl (Or.inr ⟨rfl, rfl, rfl, q363⟩) (Or.inl q363) (Or.inl rfl)))
theorem pf_X10_38 : PF RX10 "<init>" 38 [7, 9] 3 (.int) := (PF.app (PF1 (own := RX10) (nm := "<init>") (idx := 38) (k := 3) (ty := .int) (C := RX10) (T := TX10) (N := 11) (ci := 7) rfl in_X10 tyX10_ok nmX10 (by decide) rfl (Or.inr ⟨rfl, rfl, rfl, q366⟩) (Or.inl q366) (Or.inl rfl)) (PF1 (own := RX10) (nm := "<init>") (idx := 38) (k := 3) (ty := .int) (C := RX12) (T := TX12) (N := 14) (ci := 9) rfl in_X12 tyX12_ok nmX12 (by decide) rfl (Or.inr ⟨rfl, rfl, rfl, q366⟩) (Or.inl q366) (Or.inl rfl)))
theorem pf_X10_46 : PF RX10 "<init>" 46 [7, 9] 4 (.int) := (PF.app (PF1 (own := RX10) (nm := "<init>") (idx := 46) (k := 4) (ty := .int) (C := RX10) (T := TX10) (N := 11) (ci := 7) rfl in_X10 tyX10_ok nmX10 (by decide) rfl (Or.inr ⟨rfl, rfl, rfl, q369⟩) (Or.inl q369) (Or.inl rfl)) (PF1 (own := RX10) (nm := "<init>") (idx := 46) (k := 4) (ty := .int) (C := RX12) (T := TX12) (N := 14) (ci := 9) rfl in_X12 tyX12_ok nmX12 (by decide) rfl (Or.inr ⟨rfl, rfl, rfl, q369⟩) (Or.inl q369) (Or.inl rfl)))
theorem pf_X10_48 {nm9 : String} : PF RX10 nm9 48 [7, 9] 7 (.int) := (PF.app (PF1 (own := RX10) (nm := nm9) (idx := 48) (k := 7) (ty := .int) (C := RX10) (T := TX10) (N := 11) (ci := 7) rfl in_X10 tyX10_ok nmX10 (by decide) rfl (Or.inl rfl) (Or.inl q374) (Or.inl rfl)) (PF1 (own := RX10) (nm := nm9) (idx := 48) (k := 7) (ty := .int) (C := RX12) (T := TX12) (N := 14) (ci := 9) rfl in_X12 tyX12_ok nmX12 (by decide) rfl (Or.inl rfl) (Or.inl q374) (Or.inl rfl)))
theorem pf_X10_65 {nm9 : String} : PF RX10 nm9 65 [7, 9] 8 (.int) := (PF.app (PF1 (own := RX10) (nm := nm9) (idx := 65) (k := 8) (ty := .int) (C := RX10) (T := TX10) (N := 11) (ci := 7) rfl in_X10 tyX10_ok nmX10 (by decide) rfl (Or.inl rfl) (Or.inl q376) (Or.inl rfl)) (PF1 (own := RX10) (nm := nm9) (idx := 65) (k := 8) (ty := .int) (C := RX12) (T := TX12) (N := 14) (ci := 9) rfl in_X12 tyX12_ok nmX12 (by decide) rfl (Or.inl rfl) (Or.inl q376) (Or.inl rfl)))
theorem pf_X10_72 {nm9 : String} : PF RX10 nm9 72 [7, 9] 9 (.int) := (PF.app (PF1 (own := RX10) (nm := nm9) (idx := 72) (k := 9) (ty := .int) (C := RX10) (T := TX10) (N := 11) (ci := 7) rfl in_X10 tyX10_ok nmX10 (by decide) rfl (Or.inl rfl) (Or.inl q378) (Or.inl rfl)) (PF1 (own := RX10) (nm := nm9) (idx := 72) (k := 9) (ty := .int) (C := RX12) (T := TX12) (N := 14) (ci := 9) rfl in_X12 tyX12_ok nmX12 (by decide) rfl (Or.inl rfl) (Or.inl q378) (Or.inl rfl)))
theorem pf_X10_80 {nm9 : String} : PF RX10 nm9 80 [7, 9] 10 (.int) := (PF.app (PF1 (own := RX10) (nm := nm9) (idx := 80) (k := 10) (ty := .int) (C := RX10) (T := TX10) (N := 11) (ci := 7) rfl in_X10 tyX10_ok nmX10 (by decide) rfl (Or.inl rfl) (Or.inl q380) (Or.inl rfl)) (PF1 (own := RX10) (nm := nm9) (idx := 80) (k := 10) (ty := .int) (C := RX12) (T := TX12) (N := 14) (ci := 9) rfl in_X12 tyX12_ok nmX12 (by decide) rfl (Or.inl rfl) (Or.inl q380) (Or.inl rfl)))
theorem pf_X11_7 : PF RX11 "<init>" 7 [8] 0 (.int) := PF1 (own := RX11) (nm := "<init>") (idx := 7) (k := 0) (ty := .int) (C := RX11) (T := TX11) (N := 1) (ci := 8) rfl in_X11 tyX11_ok nmX11 (by decide) rfl (Or.inr ⟨rfl, rfl, rfl, q411⟩) (Or.inl q411) (Or.inl rfl)
theorem pf_X12_20 : PF RX12 "<init>" 20 [9] 11 (.object "java/util/ArrayList") := PF1 (own := RX12) (nm := "<init>") (idx := 20) (k := 11) (ty := (.object "java/util/ArrayList")) (C := RX12) (T := TX12) (N := 14) (ci := 9) rfl in_X12 tyX12_ok nmX12 (by decide) rfl (Or.inr ⟨rfl, rfl, rfl, q511⟩) (Or.inl q511) (Or.inl rfl)
theorem pf_X12_26 {nm9 : String} : PF RX12 nm9 26 [9] 12 (.int) := PF1 (own := RX12) (nm := nm9) (idx := 26) (k := 12) (ty := .int) (C := RX12) (T := TX12) (N := 14) (ci := 9) rfl in_X12 tyX12_ok nmX12 (by decide) rfl (Or.inl rfl) (Or.inl q512) (Or.inl rfl)
theorem pf_X12_55 {nm9 : String} : PF RX12 nm9 55 [9] 13 (.int) := PF1 (own := RX12) (nm := nm9) (idx := 55) (k := 13) (ty := .int) (C := RX12) (T := TX12) (N := 14) (ci := 9) rfl in_X12 tyX12_ok nmX12 (by decide) rfl (Or.inl rfl) (Or.inl q514) (Or.inl rfl)
theorem pf_X13_7 : PF RX13 "<init>" 7 [10] 0 (.int) := PF1 (own := RX13) (nm := "<init>") (idx := 7) (k := 0) (ty := .int) (C := RX13) (T := TX13) (N := 1) (ci := 10) rfl in_X13 tyX13_ok nmX13 (by decide) rfl (Or.inr ⟨rfl, rfl, rfl, q539⟩) (Or.inl q539) (Or.inl rfl)
theorem pf_X15_13 : PF RX15 "<init>" 13 [12] 1 (.int) := PF1 (own := RX15) (nm := "<init>") (idx := 13) (k := 1) (ty := .int) (C := RX15) (T := TX15) (N := 2) (ci := 12) rfl in_X15 tyX15_ok nmX15 (by decide) rfl (Or.inr ⟨rfl, rfl, rfl, q696⟩) (Or.inl q696) (Or.inl rfl)
theorem pf_X15_7 : PF RX15 "<init>" 7 [12] 0 (.int) := PF1 (own := RX15) (nm := "<init>") (idx := 7) (k := 0) (ty := .int) (C := RX15) (T := TX15) (N := 2) (ci := 12) rfl in_X15 tyX15_ok nmX15 (by decide) rfl (Or.inr ⟨rfl, rfl, rfl, q693⟩) (Or.inl q693) (Or.inl rfl)
theorem pf_X1_10 {nm9 : String} : PF RX1 nm9 10 [0] 0 (.object "CoachTimetable$State") := PF1 (own := RX1) (nm := nm9) (idx := 10) (k := 0) (ty := (.object "CoachTimetable$State")) (C := RX1) (T := TX1) (N := 8) (ci := 0) rfl in_X1 tyX1_ok nmX1 (by decide) rfl (Or.inl rfl) (Or.inl q261) (Or.inl rfl)
theorem pf_X1_19 : PF RX1 "<init>" 19 [0] 2 (.object "java/util/ArrayDeque") := PF1 (own := RX1) (nm := "<init>") (idx := 19) (k := 2) (ty := (.object "java/util/ArrayDeque")) (C := RX1) (T := TX1) (N := 8) (ci := 0) rfl in_X1 tyX1_ok nmX1 (by decide) rfl (Or.inr ⟨rfl, rfl, rfl, q263⟩) (Or.inl q263) (Or.inl rfl)
theorem pf_X1_26 : PF RX1 "<init>" 26 [0] 3 (.object "java/lang/StringBuilder") := PF1 (own := RX1) (nm := "<init>") (idx := 26) (k := 3) (ty := (.object "java/lang/StringBuilder")) (C := RX1) (T := TX1) (N := 8) (ci := 0) rfl in_X1 tyX1_ok nmX1 (by decide) rfl (Or.inr ⟨rfl, rfl, rfl, q264⟩) (Or.inl q264) (Or.inl rfl)
theorem pf_X1_30 : PF RX1 "<init>" 30 [0] 4 (.object "java/lang/StringBuilder") := PF1 (own := RX1) (nm := "<init>") (idx := 30) (k := 4) (ty := (.object "java/lang/StringBuilder")) (C := RX1) (T := TX1) (N := 8) (ci := 0) rfl in_X1 tyX1_ok nmX1 (by decide) rfl (Or.inr ⟨rfl, rfl, rfl, q265⟩) (Or.inl q265) (Or.inl rfl)
theorem pf_X1_33 {nm9 : String} : PF RX1 nm9 33 [0] 6 (.int) := PF1 (own := RX1) (nm := nm9) (idx := 33) (k := 6) (ty := .int) (C := RX1) (T := TX1) (N := 8) (ci := 0) rfl in_X1 tyX1_ok nmX1 (by decide) rfl (Or.inl rfl) (Or.inl q267) (Or.inl rfl)
theorem pf_X2_10 : PF RX2 "<init>" 10 [1] 0 (.object "java/util/ArrayList") := PF1 (own := RX2) (nm := "<init>") (idx := 10) (k := 0) (ty := (.object "java/util/ArrayList")) (C := RX2) (T := TX2) (N := 4) (ci := 1) rfl in_X2 tyX2_ok nmX2 (by decide) rfl (Or.inr ⟨rfl, rfl, rfl, q191⟩) (Or.inl q191) (Or.inl rfl)
theorem pf_X2_16 : PF RX2 "<init>" 16 [1] 1 (.object "java/util/ArrayList") := PF1 (own := RX2) (nm := "<init>") (idx := 16) (k := 1) (ty := (.object "java/util/ArrayList")) (C := RX2) (T := TX2) (N := 4) (ci := 1) rfl in_X2 tyX2_ok nmX2 (by decide) rfl (Or.inr ⟨rfl, rfl, rfl, q194⟩) (Or.inl q194) (Or.inl rfl)
theorem pf_X2_49 {nm9 : String} : PF RX2 nm9 49 [1] 2 (.int) := PF1 (own := RX2) (nm := nm9) (idx := 49) (k := 2) (ty := .int) (C := RX2) (T := TX2) (N := 4) (ci := 1) rfl in_X2 tyX2_ok nmX2 (by decide) rfl (Or.inl rfl) (Or.inl q197) (Or.inl rfl)
theorem pf_X2_53 {nm9 : String} : PF RX2 nm9 53 [1] 3 (.int) := PF1 (own := RX2) (nm := nm9) (idx := 53) (k := 3) (ty := .int) (C := RX2) (T := TX2) (N := 4) (ci := 1) rfl in_X2 tyX2_ok nmX2 (by decide) rfl (Or.inl rfl) (Or.inl q199) (Or.inl rfl)
theorem pf_X5_12 : PF RX5 "<init>" 12 [3] 0 (.object "java/util/ArrayList") := PF1 (own := RX5) (nm := "<init>") (idx := 12) (k := 0) (ty := (.object "java/util/ArrayList")) (C := RX5) (T := TX5) (N := 3) (ci := 3) rfl in_X5 tyX5_ok nmX5 (by decide) rfl (Or.inr ⟨rfl, rfl, rfl, q1232⟩) (Or.inl q1232) (Or.inl rfl)
theorem pf_X5_18 {nm9 : String} : PF RX5 nm9 18 [3] 1 (.int) := PF1 (own := RX5) (nm := nm9) (idx := 18) (k := 1) (ty := .int) (C := RX5) (T := TX5) (N := 3) (ci := 3) rfl in_X5 tyX5_ok nmX5 (by decide) rfl (Or.inl rfl) (Or.inl q1236) (Or.inl rfl)
theorem pf_X5_22 {nm9 : String} : PF RX5 nm9 22 [3] 2 (.int) := PF1 (own := RX5) (nm := nm9) (idx := 22) (k := 2) (ty := .int) (C := RX5) (T := TX5) (N := 3) (ci := 3) rfl in_X5 tyX5_ok nmX5 (by decide) rfl (Or.inl rfl) (Or.inl q1239) (Or.inl rfl)
theorem pf_X6_13 : PF RX6 "<init>" 13 [4] 1 (.int) := PF1 (own := RX6) (nm := "<init>") (idx := 13) (k := 1) (ty := .int) (C := RX6) (T := TX6) (N := 9) (ci := 4) rfl in_X6 tyX6_ok nmX6 (by decide) rfl (Or.inr ⟨rfl, rfl, rfl, q1266⟩) (Or.inl q1266) (Or.inl rfl)
theorem pf_X6_16 : PF RX6 "<init>" 16 [4] 2 (.int) := PF1 (own := RX6) (nm := "<init>") (idx := 16) (k := 2) (ty := .int) (C := RX6) (T := TX6) (N := 9) (ci := 4) rfl in_X6 tyX6_ok nmX6 (by decide) rfl (Or.inr ⟨rfl, rfl, rfl, q1269⟩) (Or.inl q1269) (Or.inl rfl)
theorem pf_X6_19 : PF RX6 "<init>" 19 [4] 3 (.int) := PF1 (own := RX6) (nm := "<init>") (idx := 19) (k := 3) (ty := .int) (C := RX6) (T := TX6) (N := 9) (ci := 4) rfl in_X6 tyX6_ok nmX6 (by decide) rfl (Or.inr ⟨rfl, rfl, rfl, q1271⟩) (Or.inl q1271) (Or.inl rfl)
theorem pf_X6_22 : PF RX6 "<init>" 22 [4] 4 (.int) := PF1 (own := RX6) (nm := "<init>") (idx := 22) (k := 4) (ty := .int) (C := RX6) (T := TX6) (N := 9) (ci := 4) rfl in_X6 tyX6_ok nmX6 (by decide) rfl (Or.inr ⟨rfl, rfl, rfl, q1273⟩) (Or.inl q1273) (Or.inl rfl)
theorem pf_X6_25 : PF RX6 "<init>" 25 [4] 5 (.int) := PF1 (own := RX6) (nm := "<init>") (idx := 25) (k := 5) (ty := .int) (C := RX6) (T := TX6) (N := 9) (ci := 4) rfl in_X6 tyX6_ok nmX6 (by decide) rfl (Or.inr ⟨rfl, rfl, rfl, q1276⟩) (Or.inl q1276) (Or.inl rfl)
theorem pf_X6_28 : PF RX6 "<init>" 28 [4] 6 (.int) := PF1 (own := RX6) (nm := "<init>") (idx := 28) (k := 6) (ty := .int) (C := RX6) (T := TX6) (N := 9) (ci := 4) rfl in_X6 tyX6_ok nmX6 (by decide) rfl (Or.inr ⟨rfl, rfl, rfl, q1279⟩) (Or.inl q1279) (Or.inl rfl)
theorem pf_X6_34 {nm9 : String} : PF RX6 nm9 34 [4] 7 (.int) := PF1 (own := RX6) (nm := nm9) (idx := 34) (k := 7) (ty := .int) (C := RX6) (T := TX6) (N := 9) (ci := 4) rfl in_X6 tyX6_ok nmX6 (by decide) rfl (Or.inl rfl) (Or.inl q1282) (Or.inl rfl)
theorem pf_X6_37 {nm9 : String} : PF RX6 nm9 37 [4] 8 (.int) := PF1 (own := RX6) (nm := nm9) (idx := 37) (k := 8) (ty := .int) (C := RX6) (T := TX6) (N := 9) (ci := 4) rfl in_X6 tyX6_ok nmX6 (by decide) rfl (Or.inl rfl) (Or.inl q1285) (Or.inl rfl)
theorem pf_X6_7 : PF RX6 "<init>" 7 [4] 0 (.int) := PF1 (own := RX6) (nm := "<init>") (idx := 7) (k := 0) (ty := .int) (C := RX6) (T := TX6) (N := 9) (ci := 4) rfl in_X6 tyX6_ok nmX6 (by decide) rfl (Or.inr ⟨rfl, rfl, rfl, q1264⟩) (Or.inl q1264) (Or.inl rfl)
theorem pf_X7_13 : PF RX7 "<init>" 13 [5] 1 (.int) := PF1 (own := RX7) (nm := "<init>") (idx := 13) (k := 1) (ty := .int) (C := RX7) (T := TX7) (N := 6) (ci := 5) rfl in_X7 tyX7_ok nmX7 (by decide) rfl (Or.inr ⟨rfl, rfl, rfl, q1323⟩) (Or.inl q1323) (Or.inl rfl)
theorem pf_X7_16 : PF RX7 "<init>" 16 [5] 2 (.int) := PF1 (own := RX7) (nm := "<init>") (idx := 16) (k := 2) (ty := .int) (C := RX7) (T := TX7) (N := 6) (ci := 5) rfl in_X7 tyX7_ok nmX7 (by decide) rfl (Or.inr ⟨rfl, rfl, rfl, q1326⟩) (Or.inl q1326) (Or.inl rfl)
theorem pf_X7_19 : PF RX7 "<init>" 19 [5] 3 (.int) := PF1 (own := RX7) (nm := "<init>") (idx := 19) (k := 3) (ty := .int) (C := RX7) (T := TX7) (N := 6) (ci := 5) rfl in_X7 tyX7_ok nmX7 (by decide) rfl (Or.inr ⟨rfl, rfl, rfl, q1329⟩) (Or.inl q1329) (Or.inl rfl)
theorem pf_X7_22 : PF RX7 "<init>" 22 [5] 4 (.int) := PF1 (own := RX7) (nm := "<init>") (idx := 22) (k := 4) (ty := .int) (C := RX7) (T := TX7) (N := 6) (ci := 5) rfl in_X7 tyX7_ok nmX7 (by decide) rfl (Or.inr ⟨rfl, rfl, rfl, q1332⟩) (Or.inl q1332) (Or.inl rfl)
theorem pf_X7_25 {nm9 : String} : PF RX7 nm9 25 [5] 5 (.int) := PF1 (own := RX7) (nm := nm9) (idx := 25) (k := 5) (ty := .int) (C := RX7) (T := TX7) (N := 6) (ci := 5) rfl in_X7 tyX7_ok nmX7 (by decide) rfl (Or.inl rfl) (Or.inl q1335) (Or.inl rfl)
theorem pf_X7_7 : PF RX7 "<init>" 7 [5] 0 (.int) := PF1 (own := RX7) (nm := "<init>") (idx := 7) (k := 0) (ty := .int) (C := RX7) (T := TX7) (N := 6) (ci := 5) rfl in_X7 tyX7_ok nmX7 (by decide) rfl (Or.inr ⟨rfl, rfl, rfl, q1320⟩) (Or.inl q1320) (Or.inl rfl)
theorem pf_X9_12 : PF RX9 "<init>" 12 [6] 0 (.object "java/util/ArrayList") := PF1 (own := RX9) (nm := "<init>") (idx := 12) (k := 0) (ty := (.object "java/util/ArrayList")) (C := RX9) (T := TX9) (N := 3) (ci := 6) rfl in_X9 tyX9_ok nmX9 (by decide) rfl (Or.inr ⟨rfl, rfl, rfl, q729⟩) (Or.inl q729) (Or.inl rfl)
theorem pf_X9_18 : PF RX9 "<init>" 18 [6] 1 (.object "CoachTimetable$State") := PF1 (own := RX9) (nm := "<init>") (idx := 18) (k := 1) (ty := (.object "CoachTimetable$State")) (C := RX9) (T := TX9) (N := 3) (ci := 6) rfl in_X9 tyX9_ok nmX9 (by decide) rfl (Or.inr ⟨rfl, rfl, rfl, q731⟩) (Or.inl q731) (Or.inl rfl)
theorem pf_X9_22 : PF RX9 "<init>" 22 [6] 2 (.int) := PF1 (own := RX9) (nm := "<init>") (idx := 22) (k := 2) (ty := .int) (C := RX9) (T := TX9) (N := 3) (ci := 6) rfl in_X9 tyX9_ok nmX9 (by decide) rfl (Or.inr ⟨rfl, rfl, rfl, q732⟩) (Or.inl q732) (Or.inl rfl)
noncomputable def f_X2_init (G : Nat) (a0 : Nat) (w : St) : Option (Unit × St) :=
  bd (nw 15 [.int 0, .null, .int 0] 3 w) fun b5 w5 =>
  bd (fL_init b5 w5) fun _ w9 =>
  bo (putr [1] ((some a0)) 0 ((some b5)) w9) fun w12 =>
  bd (nw 15 [.int 0, .null, .int 0] 3 w12) fun b16 w16 =>
  bd (fL_init b16 w16) fun _ w20 =>
  bo (putr [1] ((some a0)) 1 ((some b16)) w20) fun w23 =>
  some ((()), w23)
noncomputable def f_X1_init (G : Nat) (a0 : Nat) (w : St) : Option (Unit × St) :=
  bd (nw 1 [.null, .null, .int 0, .int 0] 4 w) fun b5 w5 =>
  bd (f_X2_init G b5 w5) fun _ w9 =>
  bo (putr [0] ((some a0)) 0 ((some b5)) w9) fun w12 =>
  bd (nw 17 [.null, .int 0, .int 0] 3 w12) fun b16 w16 =>
  bd (fD_init b16 w16) fun _ w20 =>
  bo (putr [0] ((some a0)) 2 ((some b16)) w20) fun w23 =>
  bd (nw 18 [.null, .int 0, .int 0, .int 0] 4 w23) fun b27 w27 =>
  bd (fB_init b27 w27) fun _ w31 =>
  bo (putr [0] ((some a0)) 3 ((some b27)) w31) fun w34 =>
  bd (nw 18 [.null, .int 0, .int 0, .int 0] 4 w34) fun b38 w38 =>
  bd (fB_init b38 w38) fun _ w42 =>
  bo (putr [0] ((some a0)) 4 ((some b38)) w42) fun w45 =>
  bo (puti [0] ((some a0)) 6 ((-1)) w45) fun w50 =>
  some ((()), w50)
noncomputable def f_X18_own (G : Nat) (a0 : Rf) (a1 : Rf) (w : St) : Option (Int32 × St) :=
  bo (geti [4] a1 7 w) fun x1 =>
  some (x1, w)
noncomputable def f_X19_own (G : Nat) (a0 : Rf) (a1 : Rf) (w : St) : Option (Int32 × St) :=
  bo (geti [4] a1 8 w) fun x1 =>
  some (x1, w)
noncomputable def f_X6_own (G : Nat) (a0 : Rf) (a1 : Rf) (w : St) : Option (Int32 × St) :=
  bd (dsp a1 w fun c2 => if c2 = 28 then (f_X18_own G a1 a0 w) else if c2 = 29 then (f_X19_own G a1 a0 w) else none) fun x2 w2 =>
  some (x2, w2)
noncomputable def f_X18_planned (G : Nat) (a0 : Rf) (a1 : Rf) (w : St) : Option (Int32 × St) :=
  bo (geti [4] a1 5 w) fun x1 =>
  some (x1, w)
noncomputable def f_X19_planned (G : Nat) (a0 : Rf) (a1 : Rf) (w : St) : Option (Int32 × St) :=
  bo (geti [4] a1 6 w) fun x1 =>
  some (x1, w)
noncomputable def f_X10_init_b67 (G : Nat) (v0 : Rf) (s0 : Int32) (s1 : Rf) (w : St) : Option (Unit × St) :=
  bo (puti [7, 9] s1 4 s0 w) fun w67 =>
  bo (geti [7, 9] v0 3 w67) fun x72 =>
  bo (puti [7, 9] v0 7 x72 w67) fun w75 =>
  some ((()), w75)
noncomputable def f_X10_init (G : Nat) (a0 : Nat) (a1 : Int32) (a2 : Int32) (a3 : Rf) (a4 : Rf) (a5 : Int32) (w : St) : Option (Unit × St) :=
  bd (nw 15 [.int 0, .null, .int 0] 3 w) fun b5 w5 =>
  bd (fL_init b5 w5) fun _ w9 =>
  bo (putr [7, 9] ((some a0)) 5 ((some b5)) w9) fun w12 =>
  bd (nw 15 [.int 0, .null, .int 0] 3 w12) fun b16 w16 =>
  bd (fL_init b16 w16) fun _ w20 =>
  bo (putr [7, 9] ((some a0)) 6 ((some b16)) w20) fun w23 =>
  bo (puti [7, 9] ((some a0)) 0 a1 w23) fun w28 =>
  bo (puti [7, 9] ((some a0)) 1 a2 w28) fun w33 =>
  bo (putr [7, 9] ((some a0)) 2 a3 w33) fun w38 =>
  bd (dsp a3 w38 fun c45 => if c45 = 28 then (f_X18_planned G a3 a4 w38) else if c45 = 29 then (f_X19_planned G a3 a4 w38) else none) fun x45 w45 =>
  bo (puti [7, 9] ((some a0)) 3 x45 w45) fun w48 =>
  if a5 = 0 then (f_X10_init_b67 G  ((some a0)) 0 ((some a0)) w48) else
  (gd (cls a4 w48 = some 4) <|
  bd (f_X6_own G a4 a3 w48) fun x60 w60 =>
  f_X10_init_b67 G  ((some a0)) x60 ((some a0)) w60)
noncomputable def f_X12_init (G : Nat) (a0 : Nat) (a1 : Int32) (a2 : Int32) (a3 : Rf) (a4 : Int32) (w : St) : Option (Unit × St) :=
  bd (f_X10_init G a0 a1 a2 ((some (w.g 2))) a3 a4 w) fun _ w9 =>
  bd (nw 15 [.int 0, .null, .int 0] 3 w9) fun b13 w13 =>
  bd (fL_init b13 w13) fun _ w17 =>
  bo (putr [9] ((some a0)) 11 ((some b13)) w17) fun w20 =>
  bo (puti [9] ((some a0)) 12 ((-1)) w20) fun w25 =>
  some ((()), w25)
noncomputable def f_X13_init (G : Nat) (a0 : Nat) (a1 : Int32) (w : St) : Option (Unit × St) :=
  bo (puti [10] ((some a0)) 0 a1 w) fun w6 =>
  some ((()), w6)
noncomputable def f_X10_follows (G : Nat) (a0 : Rf) (a1 : Rf) (a2 : Rf) (w : St) : Option (Unit × St) :=
  bo (getr [7, 9] a0 5 w) fun x1 =>
  gd (cls x1 w = some 15) <|
  bd (fL_add x1 a2 w) fun x5 w5 =>
  bo (getr [7, 9] a0 6 w5) fun x10 =>
  gd (cls x10 w5 = some 15) <|
  bd (fL_add x10 a1 w5) fun x14 w14 =>
  some ((()), w14)
noncomputable def f_X11_init (G : Nat) (a0 : Nat) (a1 : Int32) (w : St) : Option (Unit × St) :=
  bo (puti [8] ((some a0)) 0 a1 w) fun w6 =>
  some ((()), w6)
noncomputable def f_X9_adds_b183 (G : Nat) (k23 : Rf → Int32 → Rf → Rf → Int32 → St → Option (Unit × St)) (v0 : Rf) (v1 : Int32) (v2 : Rf) (v3 : Rf) (v4 : Int32) (w : St) : Option (Unit × St) :=
  k23 v0 v1 v2 v3 (v4 + 1) w
noncomputable def f_X9_adds_b170 (G : Nat) (k23 : Rf → Int32 → Rf → Rf → Int32 → St → Option (Unit × St)) (v0 : Rf) (v1 : Int32) (v2 : Rf) (v4 : Int32) (v6 : Rf) (w : St) : Option (Unit × St) :=
  bo (getr [6] v0 0 w) fun x171 =>
  gd (cls x171 w = some 15) <|
  bd (fL_add x171 v6 w) fun x176 w176 =>
  f_X9_adds_b183 G k23  v0 v1 v2 v6 v4 w176
noncomputable def f_X9_adds_b142 (G : Nat) (k23 : Rf → Int32 → Rf → Rf → Int32 → St → Option (Unit × St)) (v0 : Rf) (v1 : Int32) (v2 : Rf) (v3 : Rf) (v4 : Int32) (v5 : Rf) (s0 : Int32) (s1 : Rf) (s2 : Int32) (s3 : Int32) (s4 : Nat) (s5 : Nat) (w : St) : Option (Unit × St) :=
  bd (f_X12_init G s4 s3 s2 s1 s0 w) fun _ w142 =>
  if v4 ≤ 0 then (f_X9_adds_b170 G k23  v0 v1 v2 v4 ((some s5)) w142) else
  (bd (nw 10 [.int 0] 1 w142) fun b155 w155 =>
  bo (geti [4] v5 4 w155) fun x161 =>
  bd (f_X13_init G b155 x161 w155) fun _ w164 =>
  gd (cls ((some s5)) w164 = some 9) <|
  bd (f_X10_follows G ((some s5)) v3 ((some b155)) w164) fun _ w167 =>
  f_X9_adds_b170 G k23  v0 v1 v2 v4 ((some s5)) w167)
noncomputable def f_X9_adds_b109 (G : Nat) (k23 : Rf → Int32 → Rf → Rf → Int32 → St → Option (Unit × St)) (v0 : Rf) (v1 : Int32) (v2 : Rf) (v3 : Rf) (v4 : Int32) (v5 : Rf) (w : St) : Option (Unit × St) :=
  gd (cls v2 w = some 15) <|
  bd (fL_size v2 w) fun x112 w112 =>
  if (x112 - 1) ≤ v4 then (f_X9_adds_b183 G k23  v0 v1 v2 v3 v4 w112) else
  (bd (nw 9 [.int 0, .int 0, .null, .int 0, .int 0, .null, .null, .int 0, .int 0, .int 0, .int 0, .null, .int 0, .int 0] 14 w112) fun b120 w120 =>
  bo (geti [6] v0 2 w120) fun x131 =>
  if v1 = x131 then (f_X9_adds_b142 G k23  v0 v1 v2 v3 v4 v5 0 v5 v4 v1 b120 b120 w120) else
  (f_X9_adds_b142 G k23  v0 v1 v2 v3 v4 v5 1 v5 v4 v1 b120 b120 w120))
noncomputable def f_X9_adds_b73 (G : Nat) (k23 : Rf → Int32 → Rf → Rf → Int32 → St → Option (Unit × St)) (v0 : Rf) (v1 : Int32) (v2 : Rf) (v3 : Rf) (v4 : Int32) (v5 : Rf) (s0 : Int32) (s1 : Rf) (s2 : Rf) (s3 : Int32) (s4 : Int32) (s5 : Nat) (s6 : Nat) (w : St) : Option (Unit × St) :=
  bd (f_X10_init G s5 s4 s3 s2 s1 s0 w) fun _ w73 =>
  bd (nw 8 [.int 0] 1 w73) fun b81 w81 =>
  bo (geti [4] v5 1 w81) fun x87 =>
  bd (f_X11_init G b81 x87 w81) fun _ w90 =>
  bd (dsp ((some s6)) w90 fun c93 => if c93 = 7 then (f_X10_follows G ((some s6)) v3 ((some b81)) w90) else if c93 = 9 then (f_X10_follows G ((some s6)) v3 ((some b81)) w90) else none) fun _ w93 =>
  bo (getr [6] v0 0 w93) fun x97 =>
  gd (cls x97 w93 = some 15) <|
  bd (fL_add x97 ((some s6)) w93) fun x102 w102 =>
  f_X9_adds_b109 G k23  v0 v1 v2 ((some s6)) v4 v5 w102
noncomputable def f_X9_adds_l23 (G : Nat) (k189 : St → Option (Unit × St)) : Nat → Rf → Int32 → Rf → Rf → Int32 → St → Option (Unit × St)
  | 0, _, _, _, _, _, _ => none
  | F + 1, v0, v1, v2, v3, v4, w =>
  gd (cls v2 w = some 15) <|
  bd (fL_size v2 w) fun x26 w26 =>
  if x26 ≤ v4 then (k189 w26) else
  (gd (cls v2 w26 = some 15) <|
  bd (fL_get v2 v4 w26) fun x35 w35 =>
  gd (okc [4] x35 w35 = true) <|
  if v4 ≤ 0 then (f_X9_adds_b109 G (fun v0 v1 v2 v3 v4 w => f_X9_adds_l23 G k189 F v0 v1 v2 v3 v4 w)  v0 v1 v2 v3 v4 x35 w35) else
  (bd (nw 7 [.int 0, .int 0, .null, .int 0, .int 0, .null, .null, .int 0, .int 0, .int 0, .int 0] 11 w35) fun b48 w48 =>
  bo (geti [6] v0 2 w48) fun x62 =>
  if v1 = x62 then (f_X9_adds_b73 G (fun v0 v1 v2 v3 v4 w => f_X9_adds_l23 G k189 F v0 v1 v2 v3 v4 w)  v0 v1 v2 v3 v4 x35 0 x35 ((some (w48.g 1))) v4 v1 b48 b48 w48) else
  (f_X9_adds_b73 G (fun v0 v1 v2 v3 v4 w => f_X9_adds_l23 G k189 F v0 v1 v2 v3 v4 w)  v0 v1 v2 v3 v4 x35 1 x35 ((some (w48.g 1))) v4 v1 b48 b48 w48)))
noncomputable def f_X9_adds_b189 (G : Nat) (w : St) : Option (Unit × St) :=
  some ((()), w)
noncomputable def f_X9_adds (G : Nat) (a0 : Rf) (a1 : Int32) (w : St) : Option (Unit × St) :=
  bo (getr [6] a0 1 w) fun x1 =>
  bo (getr [1] x1 0 w) fun x4 =>
  gd (cls x4 w = some 15) <|
  bd (fL_get x4 a1 w) fun x8 w8 =>
  gd (okc [3] x8 w8 = true) <|
  bo (getr [3] x8 0 w8) fun x14 =>
  f_X9_adds_l23 G (fun w => f_X9_adds_b189 G  w) G a0 a1 x14 none 0 w8
noncomputable def f_X9_event_b61 (G : Nat) (k9 : Int32 → Int32 → Rf → Rf → St → Option (Rf × St)) (v1 : Int32) (v2 : Int32) (v3 : Rf) (v4 : Rf) (w : St) : Option (Rf × St) :=
  k9 v1 v2 v3 v4 w
noncomputable def f_X9_event_l9 (G : Nat) (k58 : Rf → St → Option (Rf × St)) (k64 : St → Option (Rf × St)) : Nat → Int32 → Int32 → Rf → Rf → St → Option (Rf × St)
  | 0, _, _, _, _, _ => none
  | F + 1, v1, v2, v3, v4, w =>
  gd (cls v4 w = some 16) <|
  bd (fI_hasNext v4 w) fun x11 w11 =>
  if x11 = 0 then (k64 w11) else
  (gd (cls v4 w11 = some 16) <|
  bd (fI_next v4 w11) fun x21 w21 =>
  gd (okc [7, 9] x21 w21 = true) <|
  bo (geti [7, 9] x21 0 w21) fun x33 =>
  if x33 = v1 then (bo (geti [7, 9] x21 1 w21) fun x42 =>
  if x42 = v2 then (bo (getr [7, 9] x21 2 w21) fun x51 =>
  if x51 = v3 then (k58 x21 w21) else
  (f_X9_event_b61 G (fun v1 v2 v3 v4 w => f_X9_event_l9 G k58 k64 F v1 v2 v3 v4 w)  v1 v2 v3 v4 w21)) else
  (f_X9_event_b61 G (fun v1 v2 v3 v4 w => f_X9_event_l9 G k58 k64 F v1 v2 v3 v4 w)  v1 v2 v3 v4 w21)) else
  (f_X9_event_b61 G (fun v1 v2 v3 v4 w => f_X9_event_l9 G k58 k64 F v1 v2 v3 v4 w)  v1 v2 v3 v4 w21))
noncomputable def f_X9_event_b58 (G : Nat) (v5 : Rf) (w : St) : Option (Rf × St) :=
  some (v5, w)
noncomputable def f_X9_event_b64 (G : Nat) (w : St) : Option (Rf × St) :=
  some (none, w)
noncomputable def f_X9_event (G : Nat) (a0 : Rf) (a1 : Int32) (a2 : Int32) (a3 : Rf) (w : St) : Option (Rf × St) :=
  bo (getr [6] a0 0 w) fun x1 =>
  gd (cls x1 w = some 15) <|
  bd (fL_iterator x1 w) fun x4 w4 =>
  f_X9_event_l9 G (fun v5 w => f_X9_event_b58 G  v5 w) (fun w => f_X9_event_b64 G  w) G a1 a2 a3 x4 w4
noncomputable def f_X14_init (G : Nat) (a0 : Nat) (w : St) : Option (Unit × St) :=
  some ((()), w)
noncomputable def f_X9_turns (G : Nat) (a0 : Rf) (a1 : Int32) (w : St) : Option (Unit × St) :=
  bo (getr [6] a0 1 w) fun x1 =>
  bo (getr [1] x1 0 w) fun x4 =>
  gd (cls x4 w = some 15) <|
  bd (fL_get x4 a1 w) fun x8 w8 =>
  gd (okc [3] x8 w8 = true) <|
  bo (geti [3] x8 1 w8) fun x14 =>
  if x14 = ((-1)) then (some ((()), w8)) else
  (bo (getr [6] a0 1 w8) fun x24 =>
  bo (getr [1] x24 0 w8) fun x27 =>
  gd (cls x27 w8 = some 15) <|
  bd (fL_get x27 a1 w8) fun x31 w31 =>
  gd (okc [3] x31 w31 = true) <|
  bo (getr [3] x31 0 w31) fun x37 =>
  gd (cls x37 w31 = some 15) <|
  bd (fL_size x37 w31) fun x40 w40 =>
  gd (cls a0 w40 = some 6) <|
  bd (f_X9_event G a0 x14 0 ((some (w40.g 2))) w40) fun x52 w52 =>
  gd (cls a0 w52 = some 6) <|
  bd (f_X9_event G a0 a1 (x40 - 1) ((some (w52.g 1))) w52) fun x61 w61 =>
  bd (nw 11 [] 0 w61) fun b64 w64 =>
  bd (f_X14_init G b64 w64) fun _ w68 =>
  bd (dsp x52 w68 fun c71 => if c71 = 7 then (f_X10_follows G x52 x61 ((some b64)) w68) else if c71 = 9 then (f_X10_follows G x52 x61 ((some b64)) w68) else none) fun _ w71 =>
  some ((()), w71))
noncomputable def f_X9_departureOf (G : Nat) (a0 : Rf) (a1 : Rf) (w : St) : Option (Rf × St) :=
  bo (geti [5] a1 2 w) fun x2 =>
  bo (geti [5] a1 3 w) fun x6 =>
  gd (cls a0 w = some 6) <|
  bd (f_X9_event G a0 x2 x6 ((some (w.g 2))) w) fun x12 w12 =>
  bo (isIn [9] [7] x12 w12) fun x17 =>
  if x17 = 0 then (some (none, w12)) else
  (gd (okc [9] x12 w12 = true) <|
  some (x12, w12))
noncomputable def f_X15_init (G : Nat) (a0 : Nat) (a1 : Int32) (a2 : Int32) (w : St) : Option (Unit × St) :=
  bo (puti [12] ((some a0)) 0 a1 w) fun w6 =>
  bo (puti [12] ((some a0)) 1 a2 w6) fun w11 =>
  some ((()), w11)
noncomputable def f_X12_waits_l0 (G : Nat) (k32 : Rf → Rf → Rf → Int32 → St → Option (Unit × St)) : Nat → Rf → Rf → Rf → Int32 → St → Option (Unit × St)
  | 0, _, _, _, _, _ => none
  | F + 1, v0, v1, v2, v3, w =>
  bo (getr [9] v0 11 w) fun x1 =>
  gd (cls x1 w = some 15) <|
  bd (fL_size x1 w) fun x4 w4 =>
  bo (getr [7, 9] v0 5 w4) fun x8 =>
  gd (cls x8 w4 = some 15) <|
  bd (fL_size x8 w4) fun x11 w11 =>
  if x11 ≤ x4 then (k32 v0 v1 v2 v3 w11) else
  (bo (getr [9] v0 11 w11) fun x18 =>
  bd (fN_valueOf ((-1)) w11) fun x22 w22 =>
  gd (cls x18 w22 = some 15) <|
  bd (fL_add x18 x22 w22) fun x25 w25 =>
  f_X12_waits_l0 G k32 F v0 v1 v2 v3 w25)
noncomputable def f_X12_waits_b32 (G : Nat) (v0 : Rf) (v1 : Rf) (v2 : Rf) (v3 : Int32) (w : St) : Option (Unit × St) :=
  gd (cls v0 w = some 9) <|
  bd (f_X10_follows G v0 v1 v2 w) fun _ w35 =>
  bo (getr [9] v0 11 w35) fun x39 =>
  bd (fN_valueOf v3 w35) fun x43 w43 =>
  gd (cls x39 w43 = some 15) <|
  bd (fL_add x39 x43 w43) fun x46 w46 =>
  some ((()), w46)
noncomputable def f_X12_waits (G : Nat) (a0 : Rf) (a1 : Rf) (a2 : Rf) (a3 : Int32) (w : St) : Option (Unit × St) := f_X12_waits_l0 G (fun v0 v1 v2 v3 w => f_X12_waits_b32 G  v0 v1 v2 v3 w) G a0 a1 a2 a3 w
noncomputable def f_X9_links (G : Nat) (a0 : Rf) (a1 : Int32) (w : St) : Option (Unit × St) :=
  bo (getr [6] a0 1 w) fun x1 =>
  bo (getr [1] x1 1 w) fun x4 =>
  gd (cls x4 w = some 15) <|
  bd (fL_get x4 a1 w) fun x8 w8 =>
  gd (okc [5] x8 w8 = true) <|
  gd (cls a0 w8 = some 6) <|
  bd (f_X9_departureOf G a0 x8 w8) fun x17 w17 =>
  bo (geti [5] x8 0 w17) fun x24 =>
  bo (geti [5] x8 1 w17) fun x28 =>
  gd (cls a0 w17 = some 6) <|
  bd (f_X9_event G a0 x24 x28 ((some (w17.g 1))) w17) fun x34 w34 =>
  bd (nw 12 [.int 0, .int 0] 2 w34) fun b37 w37 =>
  bo (geti [5] x8 4 w37) fun x43 =>
  bd (f_X15_init G b37 a1 x43 w37) fun _ w46 =>
  bo (geti [5] x8 5 w46) fun x50 =>
  gd (cls x17 w46 = some 9) <|
  bd (f_X12_waits G x17 x34 ((some b37)) x50 w46) fun _ w53 =>
  some ((()), w53)
noncomputable def f_X9_init_l27 (G : Nat) (k49 : Rf → Rf → St → Option (Unit × St)) : Nat → Rf → Rf → Int32 → St → Option (Unit × St)
  | 0, _, _, _, _ => none
  | F + 1, v0, v1, v3, w =>
  bo (getr [1] v1 0 w) fun x29 =>
  gd (cls x29 w = some 15) <|
  bd (fL_size x29 w) fun x32 w32 =>
  if x32 ≤ v3 then (k49 v0 v1 w32) else
  (gd (cls v0 w32 = some 6) <|
  bd (f_X9_adds G v0 v3 w32) fun _ w40 =>
  f_X9_init_l27 G k49 F v0 v1 (v3 + 1) w40)
noncomputable def f_X9_init_l51 (G : Nat) (k73 : Rf → Rf → St → Option (Unit × St)) : Nat → Rf → Rf → Int32 → St → Option (Unit × St)
  | 0, _, _, _, _ => none
  | F + 1, v0, v1, v3, w =>
  bo (getr [1] v1 0 w) fun x53 =>
  gd (cls x53 w = some 15) <|
  bd (fL_size x53 w) fun x56 w56 =>
  if x56 ≤ v3 then (k73 v0 v1 w56) else
  (gd (cls v0 w56 = some 6) <|
  bd (f_X9_turns G v0 v3 w56) fun _ w64 =>
  f_X9_init_l51 G k73 F v0 v1 (v3 + 1) w64)
noncomputable def f_X9_init_l75 (G : Nat) (k97 : St → Option (Unit × St)) : Nat → Rf → Rf → Int32 → St → Option (Unit × St)
  | 0, _, _, _, _ => none
  | F + 1, v0, v1, v3, w =>
  bo (getr [1] v1 1 w) fun x77 =>
  gd (cls x77 w = some 15) <|
  bd (fL_size x77 w) fun x80 w80 =>
  if x80 ≤ v3 then (k97 w80) else
  (gd (cls v0 w80 = some 6) <|
  bd (f_X9_links G v0 v3 w80) fun _ w88 =>
  f_X9_init_l75 G k97 F v0 v1 (v3 + 1) w88)
noncomputable def f_X9_init_b97 (G : Nat) (w : St) : Option (Unit × St) :=
  some ((()), w)
noncomputable def f_X9_init_b73 (G : Nat) (v0 : Rf) (v1 : Rf) (w : St) : Option (Unit × St) :=
  f_X9_init_l75 G (fun w => f_X9_init_b97 G  w) G v0 v1 0 w
noncomputable def f_X9_init_b49 (G : Nat) (v0 : Rf) (v1 : Rf) (w : St) : Option (Unit × St) :=
  f_X9_init_l51 G (fun v0 v1 w => f_X9_init_b73 G  v0 v1 w) G v0 v1 0 w
noncomputable def f_X9_init (G : Nat) (a0 : Nat) (a1 : Rf) (a2 : Int32) (w : St) : Option (Unit × St) :=
  bd (nw 15 [.int 0, .null, .int 0] 3 w) fun b5 w5 =>
  bd (fL_init b5 w5) fun _ w9 =>
  bo (putr [6] ((some a0)) 0 ((some b5)) w9) fun w12 =>
  bo (putr [6] ((some a0)) 1 a1 w12) fun w17 =>
  bo (puti [6] ((some a0)) 2 a2 w17) fun w22 =>
  f_X9_init_l27 G (fun v0 v1 w => f_X9_init_b49 G  v0 v1 w) G ((some a0)) a1 0 w22
noncomputable def f_X10_key (G : Nat) (a0 : Rf) (w : St) : Option (Int32 × St) :=
  bo (geti [7, 9] a0 0 w) fun x3 =>
  bo (geti [7, 9] a0 1 w) fun x9 =>
  bo (getr [7, 9] a0 2 w) fun x15 =>
  if x15 = ((some (w.g 1))) then (some ((((20 * x3) + (2 * x9)) + 0), w)) else
  (some ((((20 * x3) + (2 * x9)) + 1), w))
noncomputable def f_X9_isAhead_b60 (G : Nat) (v0 : Rf) (v1 : Rf) (v2 : Int32) (s0 : Int32) (s1 : Int32) (w : St) : Option (Int32 × St) :=
  if s1 = s0 then (bd (dsp v0 w fun c68 => if c68 = 7 then (f_X10_key G v0 w) else if c68 = 9 then (f_X10_key G v0 w) else none) fun x68 w68 =>
  bd (dsp v1 w68 fun c72 => if c72 = 7 then (f_X10_key G v1 w68) else if c72 = 9 then (f_X10_key G v1 w68) else none) fun x72 w72 =>
  if x72 ≤ x68 then (some (0, w72)) else
  (some (1, w72))) else
  (gd (v2 = 0 ∨ v2 = 1) (some (v2, w)))
noncomputable def f_X9_isAhead_b43 (G : Nat) (v0 : Rf) (v1 : Rf) (s0 : Int32) (w : St) : Option (Int32 × St) :=
  bo (getr [7, 9] v1 2 w) fun x46 =>
  if x46 = ((some (w.g 1))) then (f_X9_isAhead_b60 G  v0 v1 s0 1 s0 w) else
  (f_X9_isAhead_b60 G  v0 v1 s0 0 s0 w)
noncomputable def f_X9_isAhead (G : Nat) (a0 : Rf) (a1 : Rf) (w : St) : Option (Int32 × St) :=
  bo (geti [7, 9] a0 3 w) fun x1 =>
  bo (geti [7, 9] a1 3 w) fun x5 =>
  if x1 = x5 then (bo (getr [7, 9] a0 2 w) fun x29 =>
  if x29 = ((some (w.g 1))) then (f_X9_isAhead_b43 G  a0 a1 1 w) else
  (f_X9_isAhead_b43 G  a0 a1 0 w)) else
  (bo (geti [7, 9] a0 3 w) fun x12 =>
  bo (geti [7, 9] a1 3 w) fun x16 =>
  if x16 ≤ x12 then (some (0, w)) else
  (some (1, w)))
noncomputable def f_X1_causeOf (G : Nat) (a0 : Rf) (w : St) : Option (Int32 × St) :=
  bo (isIn [12] [8, 10, 11] a0 w) fun x1 =>
  if x1 = 0 then (bo (isIn [11] [8, 10] a0 w) fun x10 =>
  if x10 = 0 then (some (1, w)) else
  (some (2, w))) else
  (some (3, w))
noncomputable def f_X10_becomes (G : Nat) (a0 : Rf) (a1 : Int32) (a2 : Rf) (w : St) : Option (Unit × St) :=
  bo (geti [7, 9] a0 8 w) fun x2 =>
  if a1 ≤ x2 then (some ((()), w)) else
  (bo (puti [7, 9] a0 8 a1 w) fun w10 =>
  bd (f_X1_causeOf G a2 w10) fun x15 w15 =>
  bo (puti [7, 9] a0 9 x15 w15) fun w18 =>
  bo (isIn [12] [8, 10, 11] a2 w18) fun x23 =>
  if x23 = 0 then (bo (puti [7, 9] a0 10 ((-1)) w18) fun w42 =>
  some ((()), w42)) else
  (gd (okc [12] a2 w18 = true) <|
  bo (geti [12] a2 0 w18) fun x35 =>
  bo (puti [7, 9] a0 10 x35 w18) fun w42 =>
  some ((()), w42)))
noncomputable def f_X11_due (G : Nat) (a0 : Rf) (a1 : Int32) (w : St) : Option (Int32 × St) :=
  bo (geti [8] a0 0 w) fun x2 =>
  some ((a1 + x2), w)
noncomputable def f_X13_due (G : Nat) (a0 : Rf) (a1 : Int32) (w : St) : Option (Int32 × St) :=
  bo (geti [10] a0 0 w) fun x2 =>
  some ((a1 + x2), w)
noncomputable def f_X14_due (G : Nat) (a0 : Rf) (a1 : Int32) (w : St) : Option (Int32 × St) :=
  some ((a1 + 10), w)
noncomputable def f_X15_due (G : Nat) (a0 : Rf) (a1 : Int32) (w : St) : Option (Int32 × St) :=
  bo (geti [12] a0 1 w) fun x2 =>
  some ((a1 + x2), w)
noncomputable def f_X10_due (G : Nat) (a0 : Rf) (a1 : Int32) (w : St) : Option (Int32 × St) :=
  bo (getr [7, 9] a0 5 w) fun x1 =>
  gd (cls x1 w = some 15) <|
  bd (fL_get x1 a1 w) fun x5 w5 =>
  gd (okc [8, 10, 11, 12] x5 w5 = true) <|
  bo (getr [7, 9] a0 6 w5) fun x12 =>
  gd (cls x12 w5 = some 15) <|
  bd (fL_get x12 a1 w5) fun x16 w16 =>
  gd (okc [7, 9] x16 w16 = true) <|
  bo (geti [7, 9] x16 7 w16) fun x22 =>
  bd (dsp x5 w16 fun c25 => if c25 = 8 then (f_X11_due G x5 x22 w16) else if c25 = 10 then (f_X13_due G x5 x22 w16) else if c25 = 11 then (f_X14_due G x5 x22 w16) else if c25 = 12 then (f_X15_due G x5 x22 w16) else none) fun x25 w25 =>
  some (x25, w25)
noncomputable def f_X10_bases_b65 (G : Nat) (k20 : Rf → Int32 → St → Option (Unit × St)) (v0 : Rf) (v1 : Int32) (w : St) : Option (Unit × St) :=
  k20 v0 (v1 + 1) w
noncomputable def f_X10_bases_l20 (G : Nat) (k71 : St → Option (Unit × St)) : Nat → Rf → Int32 → St → Option (Unit × St)
  | 0, _, _, _ => none
  | F + 1, v0, v1, w =>
  bo (getr [7, 9] v0 5 w) fun x22 =>
  gd (cls x22 w = some 15) <|
  bd (fL_size x22 w) fun x25 w25 =>
  if x25 ≤ v1 then (k71 w25) else
  (bo (getr [7, 9] v0 5 w25) fun x32 =>
  gd (cls x32 w25 = some 15) <|
  bd (fL_get x32 v1 w25) fun x36 w36 =>
  bo (isIn [12] [8, 10, 11] x36 w36) fun x39 =>
  if x39 = 0 then (bd (dsp v0 w36 fun c48 => if c48 = 7 then (f_X10_due G v0 v1 w36) else if c48 = 9 then (f_X10_due G v0 v1 w36) else none) fun x48 w48 =>
  bo (getr [7, 9] v0 5 w48) fun x52 =>
  gd (cls x52 w48 = some 15) <|
  bd (fL_get x52 v1 w48) fun x56 w56 =>
  gd (okc [8, 10, 11, 12] x56 w56 = true) <|
  bd (dsp v0 w56 fun c62 => if c62 = 7 then (f_X10_becomes G v0 x48 x56 w56) else if c62 = 9 then (f_X10_becomes G v0 x48 x56 w56) else none) fun _ w62 =>
  f_X10_bases_b65 G (fun v0 v1 w => f_X10_bases_l20 G k71 F v0 v1 w)  v0 v1 w62) else
  (f_X10_bases_b65 G (fun v0 v1 w => f_X10_bases_l20 G k71 F v0 v1 w)  v0 v1 w36))
noncomputable def f_X10_bases_b71 (G : Nat) (w : St) : Option (Unit × St) :=
  some ((()), w)
noncomputable def f_X10_bases (G : Nat) (a0 : Rf) (w : St) : Option (Unit × St) :=
  bo (geti [7, 9] a0 3 w) fun x2 =>
  bo (puti [7, 9] a0 8 x2 w) fun w5 =>
  bo (puti [7, 9] a0 9 0 w5) fun w10 =>
  bo (puti [7, 9] a0 10 ((-1)) w10) fun w15 =>
  f_X10_bases_l20 G (fun w => f_X10_bases_b71 G  w) G a0 0 w15
noncomputable def f_X12_isKept_b38 (G : Nat) (s0 : Int32) (s1 : Int32) (s2 : Int32) (w : St) : Option (Int32 × St) :=
  if (s1 + s0) < s2 then (some (0, w)) else
  (some (1, w))
noncomputable def f_X12_isKept (G : Nat) (a0 : Rf) (a1 : Int32) (w : St) : Option (Int32 × St) :=
  gd (cls a0 w = some 9) <|
  bd (f_X10_due G a0 a1 w) fun x2 w2 =>
  bo (geti [9] a0 13 w2) fun x6 =>
  bo (geti [9] a0 12 w2) fun x10 =>
  if x10 = ((-1)) then (bo (getr [9] a0 11 w2) fun x18 =>
  gd (cls x18 w2 = some 15) <|
  bd (fL_get x18 a1 w2) fun x22 w22 =>
  gd (okc [30] x22 w22 = true) <|
  gd (cls x22 w22 = some 30) <|
  bd (fN_intValue x22 w22) fun x28 w28 =>
  f_X12_isKept_b38 G  x28 x6 x2 w28) else
  (bo (geti [9] a0 12 w2) fun x35 =>
  f_X12_isKept_b38 G  x35 x6 x2 w2)
noncomputable def f_X12_bases_b71 (G : Nat) (k14 : Rf → Int32 → St → Option (Unit × St)) (v0 : Rf) (v1 : Int32) (w : St) : Option (Unit × St) :=
  k14 v0 (v1 + 1) w
noncomputable def f_X12_bases_l14 (G : Nat) (k77 : St → Option (Unit × St)) : Nat → Rf → Int32 → St → Option (Unit × St)
  | 0, _, _, _ => none
  | F + 1, v0, v1, w =>
  bo (getr [9] v0 11 w) fun x16 =>
  gd (cls x16 w = some 15) <|
  bd (fL_size x16 w) fun x19 w19 =>
  if x19 ≤ v1 then (k77 w19) else
  (bo (getr [9] v0 11 w19) fun x26 =>
  gd (cls x26 w19 = some 15) <|
  bd (fL_get x26 v1 w19) fun x30 w30 =>
  gd (okc [30] x30 w30 = true) <|
  gd (cls x30 w30 = some 30) <|
  bd (fN_intValue x30 w30) fun x36 w36 =>
  if x36 = ((-1)) then (f_X12_bases_b71 G (fun v0 v1 w => f_X12_bases_l14 G k77 F v0 v1 w)  v0 v1 w36) else
  (gd (cls v0 w36 = some 9) <|
  bd (f_X12_isKept G v0 v1 w36) fun x45 w45 =>
  if x45 = 0 then (f_X12_bases_b71 G (fun v0 v1 w => f_X12_bases_l14 G k77 F v0 v1 w)  v0 v1 w45) else
  (gd (cls v0 w45 = some 9) <|
  bd (f_X10_due G v0 v1 w45) fun x54 w54 =>
  bo (getr [7, 9] v0 5 w54) fun x58 =>
  gd (cls x58 w54 = some 15) <|
  bd (fL_get x58 v1 w54) fun x62 w62 =>
  gd (okc [8, 10, 11, 12] x62 w62 = true) <|
  gd (cls v0 w62 = some 9) <|
  bd (f_X10_becomes G v0 x54 x62 w62) fun _ w68 =>
  f_X12_bases_b71 G (fun v0 v1 w => f_X12_bases_l14 G k77 F v0 v1 w)  v0 v1 w68)))
noncomputable def f_X12_bases_b77 (G : Nat) (w : St) : Option (Unit × St) :=
  some ((()), w)
noncomputable def f_X12_bases (G : Nat) (a0 : Rf) (w : St) : Option (Unit × St) :=
  gd (cls a0 w = some 9) <|
  bd (f_X10_bases G a0 w) fun _ w1 =>
  bo (geti [7, 9] a0 8 w1) fun x6 =>
  bo (puti [9] a0 13 x6 w1) fun w9 =>
  f_X12_bases_l14 G (fun w => f_X12_bases_b77 G  w) G a0 0 w9
noncomputable def f_X10_tells (G : Nat) (a0 : Rf) (w : St) : Option (Int32 × St) :=
  bo (geti [7, 9] a0 7 w) fun x1 =>
  bd (dsp a0 w fun c6 => if c6 = 7 then (f_X10_bases G a0 w) else if c6 = 9 then (f_X12_bases G a0 w) else none) fun _ w6 =>
  bo (geti [7, 9] a0 8 w6) fun x11 =>
  bo (geti [7, 9] a0 4 w6) fun x15 =>
  bo (puti [7, 9] a0 7 (x11 + x15) w6) fun w19 =>
  bo (geti [7, 9] a0 7 w19) fun x23 =>
  if x23 = x1 then (some (0, w19)) else
  (some (1, w19))
noncomputable def f_X9_inTurn_b84 (G : Nat) (k28 : Rf → Rf → Int32 → Int32 → Int32 → St → Option (Rf × St)) (v0 : Rf) (v1 : Rf) (v2 : Int32) (v3 : Int32) (v4 : Int32) (w : St) : Option (Rf × St) :=
  k28 v0 v1 v2 v3 (v4 + 1) w
noncomputable def f_X9_inTurn_b81 (G : Nat) (k28 : Rf → Rf → Int32 → Int32 → Int32 → St → Option (Rf × St)) (v0 : Rf) (v1 : Rf) (v2 : Int32) (v4 : Int32) (w : St) : Option (Rf × St) :=
  f_X9_inTurn_b84 G k28  v0 v1 v2 v4 v4 w
noncomputable def f_X9_inTurn_l28 (G : Nat) (k90 : Rf → Rf → Int32 → Int32 → St → Option (Rf × St)) : Nat → Rf → Rf → Int32 → Int32 → Int32 → St → Option (Rf × St)
  | 0, _, _, _, _, _, _ => none
  | F + 1, v0, v1, v2, v3, v4, w =>
  bo (getr [6] v0 0 w) fun x31 =>
  gd (cls x31 w = some 15) <|
  bd (fL_size x31 w) fun x34 w34 =>
  if x34 ≤ v4 then (k90 v0 v1 v2 v3 w34) else
  (bo (zald v1 v4 w34) fun x43 =>
  if x43 = 0 then (if v3 = ((-1)) then (f_X9_inTurn_b81 G (fun v0 v1 v2 v3 v4 w => f_X9_inTurn_l28 G k90 F v0 v1 v2 v3 v4 w)  v0 v1 v2 v4 w34) else
  (bo (getr [6] v0 0 w34) fun x53 =>
  gd (cls x53 w34 = some 15) <|
  bd (fL_get x53 v4 w34) fun x58 w58 =>
  gd (okc [7, 9] x58 w58 = true) <|
  bo (getr [6] v0 0 w58) fun x65 =>
  gd (cls x65 w58 = some 15) <|
  bd (fL_get x65 v3 w58) fun x69 w69 =>
  gd (okc [7, 9] x69 w69 = true) <|
  bd (f_X9_isAhead G x58 x69 w69) fun x75 w75 =>
  if x75 = 0 then (f_X9_inTurn_b84 G (fun v0 v1 v2 v3 v4 w => f_X9_inTurn_l28 G k90 F v0 v1 v2 v3 v4 w)  v0 v1 v2 v3 v4 w75) else
  (f_X9_inTurn_b81 G (fun v0 v1 v2 v3 v4 w => f_X9_inTurn_l28 G k90 F v0 v1 v2 v3 v4 w)  v0 v1 v2 v4 w75))) else
  (f_X9_inTurn_b84 G (fun v0 v1 v2 v3 v4 w => f_X9_inTurn_l28 G k90 F v0 v1 v2 v3 v4 w)  v0 v1 v2 v3 v4 w34))
noncomputable def f_X9_inTurn_b90 (G : Nat) (k12 : Rf → Rf → Int32 → St → Option (Rf × St)) (v0 : Rf) (v1 : Rf) (v2 : Int32) (v3 : Int32) (w : St) : Option (Rf × St) :=
  bo (zast v1 v3 1 w) fun w93 =>
  bo (getr [6] v0 0 w93) fun x95 =>
  gd (cls x95 w93 = some 15) <|
  bd (fL_get x95 v3 w93) fun x99 w99 =>
  gd (okc [7, 9] x99 w99 = true) <|
  bd (dsp x99 w99 fun c105 => if c105 = 7 then (f_X10_tells G x99 w99) else if c105 = 9 then (f_X10_tells G x99 w99) else none) fun x105 w105 =>
  k12 v0 v1 (v2 + 1) w105
noncomputable def f_X9_inTurn_l12 (G : Nat) (k115 : Rf → St → Option (Rf × St)) : Nat → Rf → Rf → Int32 → St → Option (Rf × St)
  | 0, _, _, _, _ => none
  | F + 1, v0, v1, v2, w =>
  bo (getr [6] v0 0 w) fun x14 =>
  gd (cls x14 w = some 15) <|
  bd (fL_size x14 w) fun x17 w17 =>
  if x17 ≤ v2 then (k115 v0 w17) else
  (f_X9_inTurn_l28 G (fun v0 v1 v2 v3 w => f_X9_inTurn_b90 G (fun v0 v1 v2 w => f_X9_inTurn_l12 G k115 F v0 v1 v2 w)  v0 v1 v2 v3 w) G v0 v1 v2 ((-1)) 0 w17)
noncomputable def f_X9_inTurn_b115 (G : Nat) (v0 : Rf) (w : St) : Option (Rf × St) :=
  some (v0, w)
noncomputable def f_X9_inTurn (G : Nat) (a0 : Rf) (w : St) : Option (Rf × St) :=
  bo (getr [6] a0 0 w) fun x1 =>
  gd (cls x1 w = some 15) <|
  bd (fL_size x1 w) fun x4 w4 =>
  bo (anew 0 (.int 0) x4 w4) fun w7 =>
  f_X9_inTurn_l12 G (fun v0 w => f_X9_inTurn_b115 G  v0 w) G a0 ((some w4.n)) 0 w7
noncomputable def f_X1_net (G : Nat) (a0 : Rf) (w : St) : Option (Rf × St) :=
  bd (nw 6 [.null, .null, .int 0] 3 w) fun b0 w0 =>
  bo (getr [0] a0 0 w0) fun x5 =>
  bd (f_X9_init G b0 x5 ((-1)) w0) fun _ w9 =>
  gd (cls ((some b0)) w9 = some 6) <|
  bd (f_X9_inTurn G ((some b0)) w9) fun x12 w12 =>
  some (x12, w12)
noncomputable def f_X10_late (G : Nat) (a0 : Rf) (w : St) : Option (Int32 × St) :=
  bo (geti [7, 9] a0 7 w) fun x1 =>
  bo (geti [7, 9] a0 3 w) fun x5 =>
  some ((x1 - x5), w)
noncomputable def f_X9_total_l10 (G : Nat) (k39 : Int32 → St → Option (Int32 × St)) : Nat → Int32 → Rf → St → Option (Int32 × St)
  | 0, _, _, _ => none
  | F + 1, v1, v2, w =>
  gd (cls v2 w = some 16) <|
  bd (fI_hasNext v2 w) fun x11 w11 =>
  if x11 = 0 then (k39 v1 w11) else
  (gd (cls v2 w11 = some 16) <|
  bd (fI_next v2 w11) fun x20 w20 =>
  gd (okc [7, 9] x20 w20 = true) <|
  bd (dsp x20 w20 fun c31 => if c31 = 7 then (f_X10_late G x20 w20) else if c31 = 9 then (f_X10_late G x20 w20) else none) fun x31 w31 =>
  f_X9_total_l10 G k39 F (v1 + x31) v2 w31)
noncomputable def f_X9_total_b39 (G : Nat) (v1 : Int32) (w : St) : Option (Int32 × St) :=
  some (v1, w)
noncomputable def f_X9_total (G : Nat) (a0 : Rf) (w : St) : Option (Int32 × St) :=
  bo (getr [6] a0 0 w) fun x3 =>
  gd (cls x3 w = some 15) <|
  bd (fL_iterator x3 w) fun x6 w6 =>
  f_X9_total_l10 G (fun v1 w => f_X9_total_b39 G  v1 w) G 0 x6 w6
noncomputable def f_X1_total (G : Nat) (a0 : Rf) (w : St) : Option (Int32 × St) :=
  gd (cls a0 w = some 0) <|
  bd (f_X1_net G a0 w) fun x1 w1 =>
  gd (cls x1 w1 = some 6) <|
  bd (f_X9_total G x1 w1) fun x4 w4 =>
  some (x4, w4)
noncomputable def f_X9_inRounds_l16 (G : Nat) (k45 : Rf → Int32 → St → Option (Rf × St)) : Nat → Rf → Int32 → Rf → St → Option (Rf × St)
  | 0, _, _, _, _ => none
  | F + 1, v0, v1, v2, w =>
  gd (cls v2 w = some 16) <|
  bd (fI_hasNext v2 w) fun x17 w17 =>
  if x17 = 0 then (k45 v0 v1 w17) else
  (gd (cls v2 w17 = some 16) <|
  bd (fI_next v2 w17) fun x26 w26 =>
  gd (okc [7, 9] x26 w26 = true) <|
  bd (dsp x26 w26 fun c37 => if c37 = 7 then (f_X10_tells G x26 w26) else if c37 = 9 then (f_X10_tells G x26 w26) else none) fun x37 w37 =>
  f_X9_inRounds_l16 G k45 F v0 (v1 ||| x37) v2 w37)
noncomputable def f_X9_inRounds_b45 (G : Nat) (k2 : Rf → Int32 → St → Option (Rf × St)) (v0 : Rf) (v1 : Int32) (w : St) : Option (Rf × St) :=
  k2 v0 v1 w
noncomputable def f_X9_inRounds_l2 (G : Nat) (k48 : Rf → St → Option (Rf × St)) : Nat → Rf → Int32 → St → Option (Rf × St)
  | 0, _, _, _ => none
  | F + 1, v0, v1, w =>
  if v1 = 0 then (k48 v0 w) else
  (bo (getr [6] v0 0 w) fun x9 =>
  gd (cls x9 w = some 15) <|
  bd (fL_iterator x9 w) fun x12 w12 =>
  f_X9_inRounds_l16 G (fun v0 v1 w => f_X9_inRounds_b45 G (fun v0 v1 w => f_X9_inRounds_l2 G k48 F v0 v1 w)  v0 v1 w) G v0 0 x12 w12)
noncomputable def f_X9_inRounds_b48 (G : Nat) (v0 : Rf) (w : St) : Option (Rf × St) :=
  some (v0, w)
noncomputable def f_X9_inRounds (G : Nat) (a0 : Rf) (w : St) : Option (Rf × St) :=
  f_X9_inRounds_l2 G (fun v0 w => f_X9_inRounds_b48 G  v0 w) G a0 1 w
noncomputable def f_X1_isTold_l29 (G : Nat) (k76 : St → Option (Int32 × St)) (k84 : St → Option (Int32 × St)) : Nat → Rf → Rf → Int32 → St → Option (Int32 × St)
  | 0, _, _, _, _ => none
  | F + 1, v1, v2, v3, w =>
  gd (cls v1 w = some 15) <|
  bd (fL_size v1 w) fun x31 w31 =>
  if x31 ≤ v3 then (k84 w31) else
  (gd (cls v1 w31 = some 15) <|
  bd (fL_get v1 v3 w31) fun x39 w39 =>
  gd (okc [7, 9] x39 w39 = true) <|
  bo (geti [7, 9] x39 7 w39) fun x45 =>
  gd (cls v2 w39 = some 15) <|
  bd (fL_get v2 v3 w39) fun x50 w50 =>
  gd (okc [7, 9] x50 w50 = true) <|
  bo (geti [7, 9] x50 7 w50) fun x56 =>
  if x45 = x56 then (gd (cls v1 w50 = some 15) <|
  bd (fL_get v1 v3 w50) fun x64 w64 =>
  gd (okc [7, 9] x64 w64 = true) <|
  bd (dsp x64 w64 fun c70 => if c70 = 7 then (f_X10_late G x64 w64) else if c70 = 9 then (f_X10_late G x64 w64) else none) fun x70 w70 =>
  if 0 ≤ x70 then (f_X1_isTold_l29 G k76 k84 F v1 v2 (v3 + 1) w70) else
  (k76 w70)) else
  (k76 w50))
noncomputable def f_X1_isTold_b76 (G : Nat) (w : St) : Option (Int32 × St) :=
  some (0, w)
noncomputable def f_X1_isTold_b84 (G : Nat) (w : St) : Option (Int32 × St) :=
  some (1, w)
noncomputable def f_X1_isTold (G : Nat) (a0 : Rf) (w : St) : Option (Int32 × St) :=
  gd (cls a0 w = some 0) <|
  bd (f_X1_net G a0 w) fun x1 w1 =>
  bo (getr [6] x1 0 w1) fun x4 =>
  bd (nw 6 [.null, .null, .int 0] 3 w1) fun b8 w8 =>
  bo (getr [0] a0 0 w8) fun x13 =>
  bd (f_X9_init G b8 x13 ((-1)) w8) fun _ w17 =>
  gd (cls ((some b8)) w17 = some 6) <|
  bd (f_X9_inRounds G ((some b8)) w17) fun x20 w20 =>
  bo (getr [6] x20 0 w20) fun x23 =>
  f_X1_isTold_l29 G (fun w => f_X1_isTold_b76 G  w) (fun w => f_X1_isTold_b84 G  w) G x4 x23 0 w20
noncomputable def f_X1_faultPosition (G : Nat) (a0 : Rf) (w : St) : Option (Int32 × St) :=
  bo (geti [0] a0 6 w) fun x1 =>
  some (x1, w)
noncomputable def f_X12_leadOf_b47 (G : Nat) (k2 : Rf → Int32 → Int32 → St → Option (Int32 × St)) (v0 : Rf) (v1 : Int32) (v2 : Int32) (w : St) : Option (Int32 × St) :=
  k2 v0 v1 (v2 + 1) w
noncomputable def f_X12_leadOf_l2 (G : Nat) (k45 : Int32 → St → Option (Int32 × St)) (k53 : St → Option (Int32 × St)) : Nat → Rf → Int32 → Int32 → St → Option (Int32 × St)
  | 0, _, _, _, _ => none
  | F + 1, v0, v1, v2, w =>
  bo (getr [7, 9] v0 5 w) fun x4 =>
  gd (cls x4 w = some 15) <|
  bd (fL_size x4 w) fun x7 w7 =>
  if x7 ≤ v2 then (k53 w7) else
  (bo (getr [7, 9] v0 5 w7) fun x14 =>
  gd (cls x14 w7 = some 15) <|
  bd (fL_get x14 v2 w7) fun x18 w18 =>
  bo (isIn [12] [8, 10, 11] x18 w18) fun x25 =>
  if x25 = 0 then (f_X12_leadOf_b47 G (fun v0 v1 v2 w => f_X12_leadOf_l2 G k45 k53 F v0 v1 v2 w)  v0 v1 v2 w18) else
  (gd (okc [12] x18 w18 = true) <|
  bo (geti [12] x18 0 w18) fun x38 =>
  if x38 = v1 then (k45 v2 w18) else
  (f_X12_leadOf_b47 G (fun v0 v1 v2 w => f_X12_leadOf_l2 G k45 k53 F v0 v1 v2 w)  v0 v1 v2 w18)))
noncomputable def f_X12_leadOf_b45 (G : Nat) (v2 : Int32) (w : St) : Option (Int32 × St) :=
  some (v2, w)
noncomputable def f_X12_leadOf_b53 (G : Nat) (w : St) : Option (Int32 × St) :=
  some (((-1)), w)
noncomputable def f_X12_leadOf (G : Nat) (a0 : Rf) (a1 : Int32) (w : St) : Option (Int32 × St) :=
  f_X12_leadOf_l2 G (fun v2 w => f_X12_leadOf_b45 G  v2 w) (fun w => f_X12_leadOf_b53 G  w) G a0 a1 0 w
noncomputable def f_X9_isKept (G : Nat) (a0 : Rf) (a1 : Int32) (w : St) : Option (Int32 × St) :=
  bo (getr [6] a0 1 w) fun x2 =>
  bo (getr [1] x2 1 w) fun x5 =>
  gd (cls x5 w = some 15) <|
  bd (fL_get x5 a1 w) fun x9 w9 =>
  gd (okc [5] x9 w9 = true) <|
  gd (cls a0 w9 = some 6) <|
  bd (f_X9_departureOf G a0 x9 w9) fun x15 w15 =>
  gd (cls x15 w15 = some 9) <|
  bd (f_X12_leadOf G x15 a1 w15) fun x22 w22 =>
  gd (cls x15 w22 = some 9) <|
  bd (f_X12_isKept G x15 x22 w22) fun x25 w25 =>
  gd (x25 = 0 ∨ x25 = 1) (some (x25, w25))
noncomputable def f_X12_baseWithout_b63 (G : Nat) (k7 : Rf → Int32 → Int32 → Int32 → St → Option (Int32 × St)) (v0 : Rf) (v1 : Int32) (v2 : Int32) (v3 : Int32) (w : St) : Option (Int32 × St) :=
  k7 v0 v1 v2 (v3 + 1) w
noncomputable def f_X12_baseWithout_l7 (G : Nat) (k69 : Int32 → St → Option (Int32 × St)) : Nat → Rf → Int32 → Int32 → Int32 → St → Option (Int32 × St)
  | 0, _, _, _, _, _ => none
  | F + 1, v0, v1, v2, v3, w =>
  bo (getr [9] v0 11 w) fun x9 =>
  gd (cls x9 w = some 15) <|
  bd (fL_size x9 w) fun x12 w12 =>
  if x12 ≤ v3 then (k69 v2 w12) else
  (bo (getr [9] v0 11 w12) fun x19 =>
  gd (cls x19 w12 = some 15) <|
  bd (fL_get x19 v3 w12) fun x23 w23 =>
  gd (okc [30] x23 w23 = true) <|
  gd (cls x23 w23 = some 30) <|
  bd (fN_intValue x23 w23) fun x29 w29 =>
  if x29 = ((-1)) then (f_X12_baseWithout_b63 G (fun v0 v1 v2 v3 w => f_X12_baseWithout_l7 G k69 F v0 v1 v2 v3 w)  v0 v1 v2 v3 w29) else
  (gd (cls v0 w29 = some 9) <|
  bd (f_X12_leadOf G v0 v1 w29) fun x39 w39 =>
  if v3 = x39 then (f_X12_baseWithout_b63 G (fun v0 v1 v2 v3 w => f_X12_baseWithout_l7 G k69 F v0 v1 v2 v3 w)  v0 v1 v2 v3 w39) else
  (gd (cls v0 w39 = some 9) <|
  bd (f_X12_isKept G v0 v3 w39) fun x47 w47 =>
  if x47 = 0 then (f_X12_baseWithout_b63 G (fun v0 v1 v2 v3 w => f_X12_baseWithout_l7 G k69 F v0 v1 v2 v3 w)  v0 v1 v2 v3 w47) else
  (gd (cls v0 w47 = some 9) <|
  bd (f_X10_due G v0 v3 w47) fun x56 w56 =>
  bd (f_J15_max G v2 x56 w56) fun x59 w59 =>
  f_X12_baseWithout_b63 G (fun v0 v1 v2 v3 w => f_X12_baseWithout_l7 G k69 F v0 v1 v2 v3 w)  v0 v1 x59 v3 w59))))
noncomputable def f_X12_baseWithout_b69 (G : Nat) (v2 : Int32) (w : St) : Option (Int32 × St) :=
  some (v2, w)
noncomputable def f_X12_baseWithout (G : Nat) (a0 : Rf) (a1 : Int32) (w : St) : Option (Int32 × St) :=
  bo (geti [9] a0 13 w) fun x1 =>
  f_X12_baseWithout_l7 G (fun v2 w => f_X12_baseWithout_b69 G  v2 w) G a0 a1 x1 0 w
noncomputable def f_X9_waited (G : Nat) (a0 : Rf) (a1 : Int32) (w : St) : Option (Int32 × St) :=
  bo (getr [6] a0 1 w) fun x2 =>
  bo (getr [1] x2 1 w) fun x5 =>
  gd (cls x5 w = some 15) <|
  bd (fL_get x5 a1 w) fun x9 w9 =>
  gd (okc [5] x9 w9 = true) <|
  gd (cls a0 w9 = some 6) <|
  bd (f_X9_departureOf G a0 x9 w9) fun x15 w15 =>
  gd (cls a0 w15 = some 6) <|
  bd (f_X9_isKept G a0 a1 w15) fun x21 w21 =>
  if x21 = 0 then (some (0, w21)) else
  (gd (cls x15 w21 = some 9) <|
  bd (f_X12_leadOf G x15 a1 w21) fun x31 w31 =>
  gd (cls x15 w31 = some 9) <|
  bd (f_X10_due G x15 x31 w31) fun x34 w34 =>
  gd (cls x15 w34 = some 9) <|
  bd (f_X12_baseWithout G x15 a1 w34) fun x39 w39 =>
  bd (f_J15_max G 0 (x34 - x39) w39) fun x43 w43 =>
  some (x43, w43))
noncomputable def f_X1_tellLinks_b155 (G : Nat) (k15 : Rf → Rf → Int32 → St → Option (Int32 × St)) (v0 : Rf) (v1 : Rf) (v2 : Int32) (w : St) : Option (Int32 × St) :=
  k15 v0 v1 (v2 + 1) w
noncomputable def f_X1_tellLinks_b61 (G : Nat) (k15 : Rf → Rf → Int32 → St → Option (Int32 × St)) (v0 : Rf) (v1 : Rf) (v2 : Int32) (v3 : Rf) (s0 : Rf) (s1 : Rf) (w : St) : Option (Int32 × St) :=
  gd (cls s1 w = some 18) <|
  bd (fB_appendS s1 s0 w) fun x61 w61 =>
  bo (geti [5] v3 0 w61) fun x65 =>
  gd (cls x61 w61 = some 18) <|
  bd (fB_appendI x61 x65 w61) fun x68 w68 =>
  gd (cls x68 w68 = some 18) <|
  bd (fB_appendC x68 46 w68) fun x73 w73 =>
  bo (geti [5] v3 1 w73) fun x77 =>
  gd (cls x73 w73 = some 18) <|
  bd (fB_appendI x73 x77 w73) fun x80 w80 =>
  gd (cls x80 w80 = some 18) <|
  bd (fB_appendC x80 62 w80) fun x85 w85 =>
  bo (geti [5] v3 2 w85) fun x89 =>
  gd (cls x85 w85 = some 18) <|
  bd (fB_appendI x85 x89 w85) fun x92 w92 =>
  gd (cls x92 w92 = some 18) <|
  bd (fB_appendC x92 46 w92) fun x97 w97 =>
  bo (geti [5] v3 3 w97) fun x101 =>
  gd (cls x97 w97 = some 18) <|
  bd (fB_appendI x97 x101 w97) fun x104 w104 =>
  gd (cls v1 w104 = some 6) <|
  bd (f_X9_isKept G v1 v2 w104) fun x110 w110 =>
  if x110 = 0 then (bo (getr [0] v0 4 w110) fun x117 =>
  gd (cls x117 w110 = some 18) <|
  bd (fB_appendC x117 33 w110) fun x122 w122 =>
  f_X1_tellLinks_b155 G k15  v0 v1 v2 w122) else
  (gd (cls v1 w110 = some 6) <|
  bd (f_X9_waited G v1 v2 w110) fun x131 w131 =>
  if x131 ≤ 0 then (f_X1_tellLinks_b155 G k15  v0 v1 v2 w131) else
  (bo (getr [0] v0 4 w131) fun x138 =>
  gd (cls x138 w131 = some 18) <|
  bd (fB_appendC x138 119 w131) fun x143 w143 =>
  gd (cls v1 w143 = some 6) <|
  bd (f_X9_waited G v1 v2 w143) fun x148 w148 =>
  gd (cls x143 w148 = some 18) <|
  bd (fB_appendI x143 x148 w148) fun x151 w151 =>
  f_X1_tellLinks_b155 G k15  v0 v1 v2 w151))
noncomputable def f_X1_tellLinks_l15 (G : Nat) (k161 : Rf → St → Option (Int32 × St)) : Nat → Rf → Rf → Int32 → St → Option (Int32 × St)
  | 0, _, _, _, _ => none
  | F + 1, v0, v1, v2, w =>
  bo (getr [0] v0 0 w) fun x17 =>
  bo (getr [1] x17 1 w) fun x20 =>
  gd (cls x20 w = some 15) <|
  bd (fL_size x20 w) fun x23 w23 =>
  if x23 ≤ v2 then (k161 v0 w23) else
  (bo (getr [0] v0 0 w23) fun x30 =>
  bo (getr [1] x30 1 w23) fun x33 =>
  gd (cls x33 w23 = some 15) <|
  bd (fL_get x33 v2 w23) fun x37 w37 =>
  gd (okc [5] x37 w37 = true) <|
  bo (getr [0] v0 4 w37) fun x45 =>
  if v2 ≤ 0 then (f_X1_tellLinks_b61 G (fun v0 v1 v2 w => f_X1_tellLinks_l15 G k161 F v0 v1 v2 w)  v0 v1 v2 x37 ((some (w37.g 11))) x45 w37) else
  (f_X1_tellLinks_b61 G (fun v0 v1 v2 w => f_X1_tellLinks_l15 G k161 F v0 v1 v2 w)  v0 v1 v2 x37 ((some (w37.g 10))) x45 w37))
noncomputable def f_X1_tellLinks_b161 (G : Nat) (v0 : Rf) (w : St) : Option (Int32 × St) :=
  bo (getr [0] v0 4 w) fun x162 =>
  gd (cls x162 w = some 18) <|
  bd (fB_length x162 w) fun x165 w165 =>
  some (x165, w165)
noncomputable def f_X1_tellLinks (G : Nat) (a0 : Rf) (w : St) : Option (Int32 × St) :=
  gd (cls a0 w = some 0) <|
  bd (f_X1_net G a0 w) fun x1 w1 =>
  bo (getr [0] a0 4 w1) fun x6 =>
  gd (cls x6 w1 = some 18) <|
  bd (fB_setLength x6 0 w1) fun _ w10 =>
  f_X1_tellLinks_l15 G (fun v0 w => f_X1_tellLinks_b161 G  v0 w) G a0 x1 0 w10
noncomputable def f_X6_init (G : Nat) (a0 : Nat) (a1 : Int32) (a2 : Int32) (a3 : Int32) (a4 : Int32) (a5 : Int32) (a6 : Int32) (a7 : Int32) (w : St) : Option (Unit × St) :=
  bo (puti [4] ((some a0)) 0 a1 w) fun w6 =>
  bo (puti [4] ((some a0)) 1 a2 w6) fun w11 =>
  bo (puti [4] ((some a0)) 2 a3 w11) fun w16 =>
  bo (puti [4] ((some a0)) 3 a4 w16) fun w22 =>
  bo (puti [4] ((some a0)) 4 a5 w22) fun w28 =>
  bo (puti [4] ((some a0)) 5 a6 w28) fun w34 =>
  bo (puti [4] ((some a0)) 6 a7 w34) fun w40 =>
  some ((()), w40)
noncomputable def f_X6_copy (G : Nat) (a0 : Rf) (w : St) : Option (Rf × St) :=
  bd (nw 4 [.int 0, .int 0, .int 0, .int 0, .int 0, .int 0, .int 0, .int 0, .int 0] 9 w) fun b0 w0 =>
  bo (geti [4] a0 0 w0) fun x5 =>
  bo (geti [4] a0 1 w0) fun x9 =>
  bo (geti [4] a0 2 w0) fun x13 =>
  bo (geti [4] a0 3 w0) fun x17 =>
  bo (geti [4] a0 4 w0) fun x21 =>
  bo (geti [4] a0 5 w0) fun x25 =>
  bo (geti [4] a0 6 w0) fun x29 =>
  bd (f_X6_init G b0 x5 x9 x13 x17 x21 x25 x29 w0) fun _ w32 =>
  bo (geti [4] a0 7 w32) fun x38 =>
  bo (puti [4] ((some b0)) 7 x38 w32) fun w41 =>
  bo (geti [4] a0 8 w41) fun x46 =>
  bo (puti [4] ((some b0)) 8 x46 w41) fun w49 =>
  some (((some b0)), w49)
noncomputable def f_X5_init (G : Nat) (a0 : Nat) (w : St) : Option (Unit × St) :=
  bd (nw 15 [.int 0, .null, .int 0] 3 w) fun b5 w5 =>
  bd (fL_init b5 w5) fun _ w9 =>
  bo (putr [3] ((some a0)) 0 ((some b5)) w9) fun w12 =>
  bo (puti [3] ((some a0)) 1 ((-1)) w12) fun w17 =>
  bo (puti [3] ((some a0)) 2 ((-1)) w17) fun w22 =>
  some ((()), w22)
noncomputable def f_X5_copy_l16 (G : Nat) (k50 : Rf → Rf → St → Option (Rf × St)) : Nat → Rf → Rf → Rf → St → Option (Rf × St)
  | 0, _, _, _, _ => none
  | F + 1, v0, v1, v2, w =>
  gd (cls v2 w = some 16) <|
  bd (fI_hasNext v2 w) fun x17 w17 =>
  if x17 = 0 then (k50 v0 v1 w17) else
  (gd (cls v2 w17 = some 16) <|
  bd (fI_next v2 w17) fun x26 w26 =>
  gd (okc [4] x26 w26 = true) <|
  bo (getr [3] v1 0 w26) fun x36 =>
  gd (cls x26 w26 = some 4) <|
  bd (f_X6_copy G x26 w26) fun x40 w40 =>
  gd (cls x36 w40 = some 15) <|
  bd (fL_add x36 x40 w40) fun x43 w43 =>
  f_X5_copy_l16 G k50 F v0 v1 v2 w43)
noncomputable def f_X5_copy_b50 (G : Nat) (v0 : Rf) (v1 : Rf) (w : St) : Option (Rf × St) :=
  bo (geti [3] v0 1 w) fun x52 =>
  bo (puti [3] v1 1 x52 w) fun w55 =>
  bo (geti [3] v0 2 w55) fun x60 =>
  bo (puti [3] v1 2 x60 w55) fun w63 =>
  some (v1, w63)
noncomputable def f_X5_copy (G : Nat) (a0 : Rf) (w : St) : Option (Rf × St) :=
  bd (nw 3 [.null, .int 0, .int 0] 3 w) fun b0 w0 =>
  bd (f_X5_init G b0 w0) fun _ w4 =>
  bo (getr [3] a0 0 w4) fun x9 =>
  gd (cls x9 w4 = some 15) <|
  bd (fL_iterator x9 w4) fun x12 w12 =>
  f_X5_copy_l16 G (fun v0 v1 w => f_X5_copy_b50 G  v0 v1 w) G a0 ((some b0)) x12 w12
noncomputable def f_X7_init (G : Nat) (a0 : Nat) (a1 : Int32) (a2 : Int32) (a3 : Int32) (a4 : Int32) (a5 : Int32) (a6 : Int32) (w : St) : Option (Unit × St) :=
  bo (puti [5] ((some a0)) 0 a1 w) fun w6 =>
  bo (puti [5] ((some a0)) 1 a2 w6) fun w11 =>
  bo (puti [5] ((some a0)) 2 a3 w11) fun w16 =>
  bo (puti [5] ((some a0)) 3 a4 w16) fun w22 =>
  bo (puti [5] ((some a0)) 4 a5 w22) fun w28 =>
  bo (puti [5] ((some a0)) 5 a6 w28) fun w34 =>
  some ((()), w34)
noncomputable def f_X7_copy (G : Nat) (a0 : Rf) (w : St) : Option (Rf × St) :=
  bd (nw 5 [.int 0, .int 0, .int 0, .int 0, .int 0, .int 0] 6 w) fun b0 w0 =>
  bo (geti [5] a0 0 w0) fun x5 =>
  bo (geti [5] a0 1 w0) fun x9 =>
  bo (geti [5] a0 2 w0) fun x13 =>
  bo (geti [5] a0 3 w0) fun x17 =>
  bo (geti [5] a0 4 w0) fun x21 =>
  bo (geti [5] a0 5 w0) fun x25 =>
  bd (f_X7_init G b0 x5 x9 x13 x17 x21 x25 w0) fun _ w28 =>
  some (((some b0)), w28)
noncomputable def f_X2_copy_l16 (G : Nat) (k50 : Rf → Rf → St → Option (Rf × St)) : Nat → Rf → Rf → Rf → St → Option (Rf × St)
  | 0, _, _, _, _ => none
  | F + 1, v0, v1, v2, w =>
  gd (cls v2 w = some 16) <|
  bd (fI_hasNext v2 w) fun x17 w17 =>
  if x17 = 0 then (k50 v0 v1 w17) else
  (gd (cls v2 w17 = some 16) <|
  bd (fI_next v2 w17) fun x26 w26 =>
  gd (okc [3] x26 w26 = true) <|
  bo (getr [1] v1 0 w26) fun x36 =>
  gd (cls x26 w26 = some 3) <|
  bd (f_X5_copy G x26 w26) fun x40 w40 =>
  gd (cls x36 w40 = some 15) <|
  bd (fL_add x36 x40 w40) fun x43 w43 =>
  f_X2_copy_l16 G k50 F v0 v1 v2 w43)
noncomputable def f_X2_copy_l58 (G : Nat) (k92 : Rf → Rf → St → Option (Rf × St)) : Nat → Rf → Rf → Rf → St → Option (Rf × St)
  | 0, _, _, _, _ => none
  | F + 1, v0, v1, v2, w =>
  gd (cls v2 w = some 16) <|
  bd (fI_hasNext v2 w) fun x59 w59 =>
  if x59 = 0 then (k92 v0 v1 w59) else
  (gd (cls v2 w59 = some 16) <|
  bd (fI_next v2 w59) fun x68 w68 =>
  gd (okc [5] x68 w68 = true) <|
  bo (getr [1] v1 1 w68) fun x78 =>
  gd (cls x68 w68 = some 5) <|
  bd (f_X7_copy G x68 w68) fun x82 w82 =>
  gd (cls x78 w82 = some 15) <|
  bd (fL_add x78 x82 w82) fun x85 w85 =>
  f_X2_copy_l58 G k92 F v0 v1 v2 w85)
noncomputable def f_X2_copy_b92 (G : Nat) (v0 : Rf) (v1 : Rf) (w : St) : Option (Rf × St) :=
  bo (geti [1] v0 2 w) fun x94 =>
  bo (puti [1] v1 2 x94 w) fun w97 =>
  bo (geti [1] v0 3 w97) fun x102 =>
  bo (puti [1] v1 3 x102 w97) fun w105 =>
  some (v1, w105)
noncomputable def f_X2_copy_b50 (G : Nat) (v0 : Rf) (v1 : Rf) (w : St) : Option (Rf × St) :=
  bo (getr [1] v0 1 w) fun x51 =>
  gd (cls x51 w = some 15) <|
  bd (fL_iterator x51 w) fun x54 w54 =>
  f_X2_copy_l58 G (fun v0 v1 w => f_X2_copy_b92 G  v0 v1 w) G v0 v1 x54 w54
noncomputable def f_X2_copy (G : Nat) (a0 : Rf) (w : St) : Option (Rf × St) :=
  bd (nw 1 [.null, .null, .int 0, .int 0] 4 w) fun b0 w0 =>
  bd (f_X2_init G b0 w0) fun _ w4 =>
  bo (getr [1] a0 0 w4) fun x9 =>
  gd (cls x9 w4 = some 15) <|
  bd (fL_iterator x9 w4) fun x12 w12 =>
  f_X2_copy_l16 G (fun v0 v1 w => f_X2_copy_b50 G  v0 v1 w) G a0 ((some b0)) x12 w12
abbrev V_X2_init (l : Launch) (D : Dn) (H0 : Heap) (w0 : St) (res : Option (Unit × St)) (pc : Nat) (ls : List (Nat × LV)) (st : List Value) (w : St) : Prop := V l D H0 RX2 "<init>" cX2_init 1 none [] 31 3020 (fun x => .inr (rvU x)) w0 res pc ls st w
theorem t_X2_init {l : Launch} {D : Dn} {H0 : Heap} {w0 : St} (hl : l.stackTraces = false) (G : Nat) (a0 : Nat) (w : St) : V_X2_init l D H0 w0 (f_X2_init G a0 w) 0 [(0, lR ((some a0)))] [] w := by
  unfold f_X2_init
  refine r_aload_n 1 0 dX2_init_0 rfl rfl rfl ?_
  refine r_objInit 4 q161 q154 q155 (by decide) (cat2_nil (k := 0)) rfl dX2_init_1 rfl ?_
  refine r_aload_n 5 0 dX2_init_4 rfl rfl rfl ?_
  refine r_nw (C := RJ2) (T := TJ2) (N := 3) (ty := tyJ2) 8 15 rfl rfl in_J2 tyJ2_ok q162 q163 q104 rfl (by decide) dX2_init_5 rfl (fun b5 w5 => ?_)
  refine r_dup_r 9 dX2_init_8 rfl ?_
  refine r_callI (b := b5) (n := 0) (as := []) (rest := [rf ((some b5)), rf ((some a0))]) 12 (sL_init hl b5 w5) (lw_meth q166) q104 q164 q165 rfl (by decide +kernel) (by decide) rfl rfl (cat2_r (cat2_r (cat2_nil (k := 0)))) rfl dX2_init_9 rfl (fun _ w9 => ?_)
  refine r_putr 15 pf_X2_10 (Or.inl ⟨_, rfl⟩) dX2_init_12 rfl (fun w12 => ?_)
  refine r_aload_n 16 0 dX2_init_15 rfl rfl rfl ?_
  refine r_nw (C := RJ2) (T := TJ2) (N := 3) (ty := tyJ2) 19 15 rfl rfl in_J2 tyJ2_ok q162 q163 q104 rfl (by decide) dX2_init_16 rfl (fun b16 w16 => ?_)
  refine r_dup_r 20 dX2_init_19 rfl ?_
  refine r_callI (b := b16) (n := 0) (as := []) (rest := [rf ((some b16)), rf ((some a0))]) 23 (sL_init hl b16 w16) (lw_meth q166) q104 q164 q165 rfl (by decide +kernel) (by decide) rfl rfl (cat2_r (cat2_r (cat2_nil (k := 0)))) rfl dX2_init_20 rfl (fun _ w20 => ?_)
  refine r_putr 26 pf_X2_16 (Or.inl ⟨_, rfl⟩) dX2_init_23 rfl (fun w23 => ?_)
  exact r_vret rfl rfl dX2_init_26
theorem s_X2_init {l : Launch} {D : Dn} {H0 : Heap} (hl : l.stackTraces = false) (G : Nat) (a0 : Nat) (w : St) : SimN l D H0 yX2_init (ws_ yX2_init cX2_init 1 none) 31 3020 rvU [lR (some a0)] w (f_X2_init G a0 w) := SimX.N (SimX.ofV (y := yX2_init) (by decide) rfl (t_X2_init hl G a0 w))
abbrev V_X1_init (l : Launch) (D : Dn) (H0 : Heap) (w0 : St) (res : Option (Unit × St)) (pc : Nat) (ls : List (Nat × LV)) (st : List Value) (w : St) : Prop := V l D H0 RX1 "<init>" cX1_init 1 none [] 32 3040 (fun x => .inr (rvU x)) w0 res pc ls st w
theorem t_X1_init {l : Launch} {D : Dn} {H0 : Heap} {w0 : St} (hl : l.stackTraces = false) (G : Nat) (a0 : Nat) (w : St) : V_X1_init l D H0 w0 (f_X1_init G a0 w) 0 [(0, lR ((some a0)))] [] w := by
  unfold f_X1_init
  refine r_aload_n 1 0 dX1_init_0 rfl rfl rfl ?_
  refine r_objInit 4 q153 q154 q155 (by decide) (cat2_nil (k := 0)) rfl dX1_init_1 rfl ?_
  refine r_aload_n 5 0 dX1_init_4 rfl rfl rfl ?_
  refine r_nw (C := RX2) (T := TX2) (N := 4) (ty := tyX2) 8 1 rfl rfl in_X2 tyX2_ok q156 q157 q101 rfl (by decide) dX1_init_5 rfl (fun b5 w5 => ?_)
  refine r_dup_r 9 dX1_init_8 rfl ?_
  refine r_callNI (b := b5) (n := 0) (as := []) (rest := [rf ((some b5)), rf ((some a0))]) 12 (s_X2_init hl G b5 w5) (lw_meth q160) q158 q101 q159 rfl (by decide +kernel) (by decide) rfl rfl (cat2_r (cat2_r (cat2_nil (k := 0)))) rfl dX1_init_9 rfl (fun _ w9 => ?_)
  refine r_putr 15 pf_X1_10 (Or.inl ⟨_, rfl⟩) dX1_init_12 rfl (fun w12 => ?_)
  refine r_aload_n 16 0 dX1_init_15 rfl rfl rfl ?_
  refine r_nw (C := RJ3) (T := TJ3) (N := 3) (ty := tyJ3) 19 17 rfl rfl in_J3 tyJ3_ok q210 q211 q105 rfl (by decide) dX1_init_16 rfl (fun b16 w16 => ?_)
  refine r_dup_r 20 dX1_init_19 rfl ?_
  refine r_callI (b := b16) (n := 0) (as := []) (rest := [rf ((some b16)), rf ((some a0))]) 23 (sD_init hl b16 w16) (lw_meth q214) q105 q212 q213 rfl (by decide +kernel) (by decide) rfl rfl (cat2_r (cat2_r (cat2_nil (k := 0)))) rfl dX1_init_20 rfl (fun _ w20 => ?_)
  refine r_putr 26 pf_X1_19 (Or.inl ⟨_, rfl⟩) dX1_init_23 rfl (fun w23 => ?_)
  refine r_aload_n 27 0 dX1_init_26 rfl rfl rfl ?_
  refine r_nw (C := RJ5) (T := TJ5) (N := 4) (ty := tyJ5) 30 18 rfl rfl in_J5 tyJ5_ok q228 q229 q107 rfl (by decide) dX1_init_27 rfl (fun b27 w27 => ?_)
  refine r_dup_r 31 dX1_init_30 rfl ?_
  refine r_callI (b := b27) (n := 0) (as := []) (rest := [rf ((some b27)), rf ((some a0))]) 34 (sB_init hl b27 w27) (lw_meth q232) q107 q230 q231 rfl (by decide +kernel) (by decide) rfl rfl (cat2_r (cat2_r (cat2_nil (k := 0)))) rfl dX1_init_31 rfl (fun _ w31 => ?_)
  refine r_putr 37 pf_X1_26 (Or.inl ⟨_, rfl⟩) dX1_init_34 rfl (fun w34 => ?_)
  refine r_aload_n 38 0 dX1_init_37 rfl rfl rfl ?_
  refine r_nw (C := RJ5) (T := TJ5) (N := 4) (ty := tyJ5) 41 18 rfl rfl in_J5 tyJ5_ok q228 q229 q107 rfl (by decide) dX1_init_38 rfl (fun b38 w38 => ?_)
  refine r_dup_r 42 dX1_init_41 rfl ?_
  refine r_callI (b := b38) (n := 0) (as := []) (rest := [rf ((some b38)), rf ((some a0))]) 45 (sB_init hl b38 w38) (lw_meth q232) q107 q230 q231 rfl (by decide +kernel) (by decide) rfl rfl (cat2_r (cat2_r (cat2_nil (k := 0)))) rfl dX1_init_42 rfl (fun _ w42 => ?_)
  refine r_putr 48 pf_X1_30 (Or.inl ⟨_, rfl⟩) dX1_init_45 rfl (fun w45 => ?_)
  refine r_aload_n 49 0 dX1_init_48 rfl rfl rfl ?_
  refine r_iconst (v := (-1)) 50 dX1_init_49 rfl rfl ?_
  refine r_puti 53 pf_X1_33 dX1_init_50 rfl (fun w50 => ?_)
  exact r_vret rfl rfl dX1_init_53
theorem s_X1_init {l : Launch} {D : Dn} {H0 : Heap} (hl : l.stackTraces = false) (G : Nat) (a0 : Nat) (w : St) : SimN l D H0 yX1_init (ws_ yX1_init cX1_init 1 none) 32 3040 rvU [lR (some a0)] w (f_X1_init G a0 w) := SimX.N (SimX.ofV (y := yX1_init) (by decide) rfl (t_X1_init hl G a0 w))
abbrev V_X18_own (l : Launch) (D : Dn) (H0 : Heap) (w0 : St) (res : Option (Int32 × St)) (pc : Nat) (ls : List (Nat × LV)) (st : List Value) (w : St) : Prop := V l D H0 RX18 "own" cX18_own 2 (some (.int)) [] 0 0 (fun x => .inr (rvI x)) w0 res pc ls st w
theorem t_X18_own {l : Launch} {D : Dn} {H0 : Heap} {w0 : St} (hl : l.stackTraces = false) (G : Nat) (a0 : Rf) (a1 : Rf) (w : St) : V_X18_own l D H0 w0 (f_X18_own G a0 a1 w) 0 [(0, lR a0), (1, lR a1)] [] w := by
  unfold f_X18_own
  refine r_aload_n 1 1 dX18_own_0 rfl rfl rfl ?_
  refine r_geti 4 gf_X18_13 dX18_own_1 rfl (fun x1 => ?_)
  exact r_iret rfl rfl dX18_own_4
theorem s_X18_own {l : Launch} {D : Dn} {H0 : Heap} (hl : l.stackTraces = false) (G : Nat) (a0 : Rf) (a1 : Rf) (w : St) : SimU l D H0 yX18_own (ws_ yX18_own cX18_own 2 (some (.int))) 0 0 rvI [lR a0, lR a1] w (f_X18_own G a0 a1 w) := SimU.ofV (y := yX18_own) (by decide) rfl (t_X18_own hl G a0 a1 w)
abbrev V_X19_own (l : Launch) (D : Dn) (H0 : Heap) (w0 : St) (res : Option (Int32 × St)) (pc : Nat) (ls : List (Nat × LV)) (st : List Value) (w : St) : Prop := V l D H0 RX19 "own" cX19_own 2 (some (.int)) [] 0 0 (fun x => .inr (rvI x)) w0 res pc ls st w
theorem t_X19_own {l : Launch} {D : Dn} {H0 : Heap} {w0 : St} (hl : l.stackTraces = false) (G : Nat) (a0 : Rf) (a1 : Rf) (w : St) : V_X19_own l D H0 w0 (f_X19_own G a0 a1 w) 0 [(0, lR a0), (1, lR a1)] [] w := by
  unfold f_X19_own
  refine r_aload_n 1 1 dX19_own_0 rfl rfl rfl ?_
  refine r_geti 4 gf_X19_13 dX19_own_1 rfl (fun x1 => ?_)
  exact r_iret rfl rfl dX19_own_4
theorem s_X19_own {l : Launch} {D : Dn} {H0 : Heap} (hl : l.stackTraces = false) (G : Nat) (a0 : Rf) (a1 : Rf) (w : St) : SimU l D H0 yX19_own (ws_ yX19_own cX19_own 2 (some (.int))) 0 0 rvI [lR a0, lR a1] w (f_X19_own G a0 a1 w) := SimU.ofV (y := yX19_own) (by decide) rfl (t_X19_own hl G a0 a1 w)
abbrev V_X6_own (l : Launch) (D : Dn) (H0 : Heap) (w0 : St) (res : Option (Int32 × St)) (pc : Nat) (ls : List (Nat × LV)) (st : List Value) (w : St) : Prop := V l D H0 RX6 "own" cX6_own 2 (some (.int)) [] 1 21 (fun x => .inr (rvI x)) w0 res pc ls st w
theorem t_X6_own {l : Launch} {D : Dn} {H0 : Heap} {w0 : St} (hl : l.stackTraces = false) (G : Nat) (a0 : Rf) (a1 : Rf) (w : St) : V_X6_own l D H0 w0 (f_X6_own G a0 a1 w) 0 [(0, lR a0), (1, lR a1)] [] w := by
  unfold f_X6_own
  refine r_aload_n 1 1 dX6_own_0 rfl rfl rfl ?_
  refine r_aload_n 2 0 dX6_own_1 rfl rfl rfl ?_
  refine r_share (st2 := fun x2 => [.int x2]) (pc2 := 5) (fun hk => ?_) (fun x2 w2 => ?_)
  · refine r_dsp (fun c2 hc2 => ?_)
    refine r_dif (fun he => ?_) (fun _ => ?_)
    · subst he
      exact r_callAU (x2 := ⟨"CoachTimetable$Side", "own", "(LCoachTimetable$Stop;)I"⟩) (owner := "CoachTimetable$Side") (n := 1) (as := [lR a0]) (rest := []) 5 28 (s_X18_own hl G a1 a0 w) hc2 rfl (lw_app (l4 q349 q351 q352 q353) (lw_meth q354)) q350 (by decide +kernel) (by decide) rfl rfl (cat2_nil (k := 0)) rfl dX6_own_2 rfl hk
    refine r_dif (fun he => ?_) (fun _ => ?_)
    · subst he
      exact r_callAU (x2 := ⟨"CoachTimetable$Side", "own", "(LCoachTimetable$Stop;)I"⟩) (owner := "CoachTimetable$Side") (n := 1) (as := [lR a0]) (rest := []) 5 29 (s_X19_own hl G a1 a0 w) hc2 rfl (lw_app (l4 q349 q351 q355 q356) (lw_meth q357)) q350 (by decide +kernel) (by decide) rfl rfl (cat2_nil (k := 0)) rfl dX6_own_2 rfl hk
    exact r_bdn
  exact r_iret rfl rfl dX6_own_5
theorem s_X6_own {l : Launch} {D : Dn} {H0 : Heap} (hl : l.stackTraces = false) (G : Nat) (a0 : Rf) (a1 : Rf) (w : St) : SimN l D H0 yX6_own (ws_ yX6_own cX6_own 2 (some (.int))) 1 21 rvI [lR a0, lR a1] w (f_X6_own G a0 a1 w) := SimX.N (SimX.ofV (y := yX6_own) (by decide) rfl (t_X6_own hl G a0 a1 w))
abbrev V_X18_planned (l : Launch) (D : Dn) (H0 : Heap) (w0 : St) (res : Option (Int32 × St)) (pc : Nat) (ls : List (Nat × LV)) (st : List Value) (w : St) : Prop := V l D H0 RX18 "planned" cX18_planned 2 (some (.int)) [] 0 0 (fun x => .inr (rvI x)) w0 res pc ls st w
theorem t_X18_planned {l : Launch} {D : Dn} {H0 : Heap} {w0 : St} (hl : l.stackTraces = false) (G : Nat) (a0 : Rf) (a1 : Rf) (w : St) : V_X18_planned l D H0 w0 (f_X18_planned G a0 a1 w) 0 [(0, lR a0), (1, lR a1)] [] w := by
  unfold f_X18_planned
  refine r_aload_n 1 1 dX18_planned_0 rfl rfl rfl ?_
  refine r_geti 4 gf_X18_7 dX18_planned_1 rfl (fun x1 => ?_)
  exact r_iret rfl rfl dX18_planned_4
theorem s_X18_planned {l : Launch} {D : Dn} {H0 : Heap} (hl : l.stackTraces = false) (G : Nat) (a0 : Rf) (a1 : Rf) (w : St) : SimU l D H0 yX18_planned (ws_ yX18_planned cX18_planned 2 (some (.int))) 0 0 rvI [lR a0, lR a1] w (f_X18_planned G a0 a1 w) := SimU.ofV (y := yX18_planned) (by decide) rfl (t_X18_planned hl G a0 a1 w)
abbrev V_X19_planned (l : Launch) (D : Dn) (H0 : Heap) (w0 : St) (res : Option (Int32 × St)) (pc : Nat) (ls : List (Nat × LV)) (st : List Value) (w : St) : Prop := V l D H0 RX19 "planned" cX19_planned 2 (some (.int)) [] 0 0 (fun x => .inr (rvI x)) w0 res pc ls st w
theorem t_X19_planned {l : Launch} {D : Dn} {H0 : Heap} {w0 : St} (hl : l.stackTraces = false) (G : Nat) (a0 : Rf) (a1 : Rf) (w : St) : V_X19_planned l D H0 w0 (f_X19_planned G a0 a1 w) 0 [(0, lR a0), (1, lR a1)] [] w := by
  unfold f_X19_planned
  refine r_aload_n 1 1 dX19_planned_0 rfl rfl rfl ?_
  refine r_geti 4 gf_X19_7 dX19_planned_1 rfl (fun x1 => ?_)
  exact r_iret rfl rfl dX19_planned_4
theorem s_X19_planned {l : Launch} {D : Dn} {H0 : Heap} (hl : l.stackTraces = false) (G : Nat) (a0 : Rf) (a1 : Rf) (w : St) : SimU l D H0 yX19_planned (ws_ yX19_planned cX19_planned 2 (some (.int))) 0 0 rvI [lR a0, lR a1] w (f_X19_planned G a0 a1 w) := SimU.ofV (y := yX19_planned) (by decide) rfl (t_X19_planned hl G a0 a1 w)
abbrev V_X10_init (l : Launch) (D : Dn) (H0 : Heap) (w0 : St) (res : Option (Unit × St)) (pc : Nat) (ls : List (Nat × LV)) (st : List Value) (w : St) : Prop := V l D H0 RX10 "<init>" cX10_init 6 none [] 31 3020 (fun x => .inr (rvU x)) w0 res pc ls st w
theorem t_X10_init_b67 {l : Launch} {D : Dn} {H0 : Heap} {w0 : St} (hl : l.stackTraces = false) (G : Nat) (v0 : Rf) (s0 : Int32) (s1 : Rf) (w : St) : V_X10_init l D H0 w0 (f_X10_init_b67 G v0 s0 s1 w) 67 [(0, lR v0)] [.int s0, rf s1] w := by
  unfold f_X10_init_b67
  refine r_puti 70 pf_X10_46 dX10_init_67 rfl (fun w67 => ?_)
  refine r_aload_n 71 0 dX10_init_70 rfl rfl rfl ?_
  refine r_aload_n 72 0 dX10_init_71 rfl rfl rfl ?_
  refine r_geti 75 gf_X10_38 dX10_init_72 rfl (fun x72 => ?_)
  refine r_puti 78 pf_X10_48 dX10_init_75 rfl (fun w75 => ?_)
  exact r_vret rfl rfl dX10_init_78
theorem t_X10_init {l : Launch} {D : Dn} {H0 : Heap} {w0 : St} (hl : l.stackTraces = false) (G : Nat) (a0 : Nat) (a1 : Int32) (a2 : Int32) (a3 : Rf) (a4 : Rf) (a5 : Int32) (w : St) : V_X10_init l D H0 w0 (f_X10_init G a0 a1 a2 a3 a4 a5 w) 0 [(0, lR ((some a0))), (1, lI a1), (2, lI a2), (3, lR a3), (4, lR a4), (5, lI a5)] [] w := by
  unfold f_X10_init
  refine r_aload_n 1 0 dX10_init_0 rfl rfl rfl ?_
  refine r_objInit 4 q333 q154 q155 (by decide) (cat2_nil (k := 0)) rfl dX10_init_1 rfl ?_
  refine r_aload_n 5 0 dX10_init_4 rfl rfl rfl ?_
  refine r_nw (C := RJ2) (T := TJ2) (N := 3) (ty := tyJ2) 8 15 rfl rfl in_J2 tyJ2_ok q334 q163 q104 rfl (by decide) dX10_init_5 rfl (fun b5 w5 => ?_)
  refine r_dup_r 9 dX10_init_8 rfl ?_
  refine r_callI (b := b5) (n := 0) (as := []) (rest := [rf ((some b5)), rf ((some a0))]) 12 (sL_init hl b5 w5) (lw_meth q166) q104 q335 q165 rfl (by decide +kernel) (by decide) rfl rfl (cat2_r (cat2_r (cat2_nil (k := 0)))) rfl dX10_init_9 rfl (fun _ w9 => ?_)
  refine r_putr 15 pf_X10_12 (Or.inl ⟨_, rfl⟩) dX10_init_12 rfl (fun w12 => ?_)
  refine r_aload_n 16 0 dX10_init_15 rfl rfl rfl ?_
  refine r_nw (C := RJ2) (T := TJ2) (N := 3) (ty := tyJ2) 19 15 rfl rfl in_J2 tyJ2_ok q334 q163 q104 rfl (by decide) dX10_init_16 rfl (fun b16 w16 => ?_)
  refine r_dup_r 20 dX10_init_19 rfl ?_
  refine r_callI (b := b16) (n := 0) (as := []) (rest := [rf ((some b16)), rf ((some a0))]) 23 (sL_init hl b16 w16) (lw_meth q166) q104 q335 q165 rfl (by decide +kernel) (by decide) rfl rfl (cat2_r (cat2_r (cat2_nil (k := 0)))) rfl dX10_init_20 rfl (fun _ w20 => ?_)
  refine r_putr 26 pf_X10_18 (Or.inl ⟨_, rfl⟩) dX10_init_23 rfl (fun w23 => ?_)
  refine r_aload_n 27 0 dX10_init_26 rfl rfl rfl ?_
  refine r_iload_n 28 1 dX10_init_27 rfl rfl rfl ?_
  refine r_puti 31 pf_X10_21 dX10_init_28 rfl (fun w28 => ?_)
  refine r_aload_n 32 0 dX10_init_31 rfl rfl rfl ?_
  refine r_iload_n 33 2 dX10_init_32 rfl rfl rfl ?_
  refine r_puti 36 pf_X10_25 dX10_init_33 rfl (fun w33 => ?_)
  refine r_aload_n 37 0 dX10_init_36 rfl rfl rfl ?_
  refine r_aload_n 38 3 dX10_init_37 rfl rfl rfl ?_
  refine r_putr 41 pf_X10_28 (Or.inl ⟨_, rfl⟩) dX10_init_38 rfl (fun w38 => ?_)
  refine r_aload_n 42 0 dX10_init_41 rfl rfl rfl ?_
  refine r_aload_n 43 3 dX10_init_42 rfl rfl rfl ?_
  refine r_aload 45 4 dX10_init_43 rfl rfl ?_
  refine r_share (st2 := fun x45 => [.int x45, rf ((some a0))]) (pc2 := 48) (fun hk => ?_) (fun x45 w45 => ?_)
  · refine r_dsp (fun c45 hc45 => ?_)
    refine r_dif (fun he => ?_) (fun _ => ?_)
    · subst he
      exact r_callAU (x2 := ⟨"CoachTimetable$Side", "planned", "(LCoachTimetable$Stop;)I"⟩) (owner := "CoachTimetable$Side") (n := 1) (as := [lR a4]) (rest := [rf ((some a0))]) 48 28 (s_X18_planned hl G a3 a4 w38) hc45 rfl (lw_app (l4 q336 q338 q339 q340) (lw_meth q341)) q337 (by decide +kernel) (by decide) rfl rfl (cat2_r (cat2_nil (k := 0))) rfl dX10_init_45 rfl hk
    refine r_dif (fun he => ?_) (fun _ => ?_)
    · subst he
      exact r_callAU (x2 := ⟨"CoachTimetable$Side", "planned", "(LCoachTimetable$Stop;)I"⟩) (owner := "CoachTimetable$Side") (n := 1) (as := [lR a4]) (rest := [rf ((some a0))]) 48 29 (s_X19_planned hl G a3 a4 w38) hc45 rfl (lw_app (l4 q336 q338 q342 q343) (lw_meth q344)) q337 (by decide +kernel) (by decide) rfl rfl (cat2_r (cat2_nil (k := 0))) rfl dX10_init_45 rfl hk
    exact r_bdn
  refine r_puti 51 pf_X10_38 dX10_init_48 rfl (fun w48 => ?_)
  refine r_aload_n 52 0 dX10_init_51 rfl rfl rfl ?_
  refine r_iload 54 5 dX10_init_52 rfl rfl ?_
  refine r_if_eq 66 57 dX10_init_54 (by decide) rfl ?_ ?_
  · refine r_iconst (v := 0) 67 dX10_init_66 rfl rfl ?_
    exact r_lsP [0] rfl (t_X10_init_b67 hl G  ((some a0)) 0 ((some a0)) w48)
  refine r_aload 59 4 dX10_init_57 rfl rfl ?_
  refine r_aload_n 60 3 dX10_init_59 rfl rfl rfl ?_
  refine r_gd (fun hc60 => ?_)
  refine r_callV (n := 1) (as := [lR a3]) (rest := [rf ((some a0))]) 63 4 (s_X6_own hl G a4 a3 w48) hc60 rfl (lw_V q345 q346 q347 q119 q348) (by decide +kernel) (by decide) rfl rfl (cat2_r (cat2_nil (k := 0))) rfl dX10_init_60 rfl (fun x60 w60 => ?_)
  refine r_goto 67 dX10_init_63 (by decide) ?_
  exact r_lsP [0] rfl (t_X10_init_b67 hl G  ((some a0)) x60 ((some a0)) w60)
theorem s_X10_init {l : Launch} {D : Dn} {H0 : Heap} (hl : l.stackTraces = false) (G : Nat) (a0 : Nat) (a1 : Int32) (a2 : Int32) (a3 : Rf) (a4 : Rf) (a5 : Int32) (w : St) : SimN l D H0 yX10_init (ws_ yX10_init cX10_init 6 none) 31 3020 rvU [lR (some a0), lI a1, lI a2, lR a3, lR a4, lI a5] w (f_X10_init G a0 a1 a2 a3 a4 a5 w) := SimX.N (SimX.ofV (y := yX10_init) (by decide) rfl (t_X10_init hl G a0 a1 a2 a3 a4 a5 w))
abbrev V_X12_init (l : Launch) (D : Dn) (H0 : Heap) (w0 : St) (res : Option (Unit × St)) (pc : Nat) (ls : List (Nat × LV)) (st : List Value) (w : St) : Prop := V l D H0 RX12 "<init>" cX12_init 5 none [] 32 3045 (fun x => .inr (rvU x)) w0 res pc ls st w
theorem t_X12_init {l : Launch} {D : Dn} {H0 : Heap} {w0 : St} (hl : l.stackTraces = false) (G : Nat) (a0 : Nat) (a1 : Int32) (a2 : Int32) (a3 : Rf) (a4 : Int32) (w : St) : V_X12_init l D H0 w0 (f_X12_init G a0 a1 a2 a3 a4 w) 0 [(0, lR ((some a0))), (1, lI a1), (2, lI a2), (3, lR a3), (4, lI a4)] [] w := by
  unfold f_X12_init
  refine r_aload_n 1 0 dX12_init_0 rfl rfl rfl ?_
  refine r_iload_n 2 1 dX12_init_1 rfl rfl rfl ?_
  refine r_iload_n 3 2 dX12_init_2 rfl rfl rfl ?_
  refine r_gets (v := rf ((some (w.g 2)))) 6 1 rfl q506 dX12_init_3 rfl ?_
  refine r_aload_n 7 3 dX12_init_6 rfl rfl rfl ?_
  refine r_iload 9 4 dX12_init_7 rfl rfl ?_
  refine r_callI (b := a0) (n := 5) (as := [lI a1, lI a2, lR ((some (w.g 2))), lR a3, lI a4]) (rest := []) 12 (s_X10_init hl G a0 a1 a2 ((some (w.g 2))) a3 a4 w) (lw_meth q332) q131 q508 q331 rfl (by decide +kernel) (by decide) rfl rfl (cat2_nil (k := 0)) rfl dX12_init_9 rfl (fun _ w9 => ?_)
  refine r_aload_n 13 0 dX12_init_12 rfl rfl rfl ?_
  refine r_nw (C := RJ2) (T := TJ2) (N := 3) (ty := tyJ2) 16 15 rfl rfl in_J2 tyJ2_ok q509 q163 q104 rfl (by decide) dX12_init_13 rfl (fun b13 w13 => ?_)
  refine r_dup_r 17 dX12_init_16 rfl ?_
  refine r_callI (b := b13) (n := 0) (as := []) (rest := [rf ((some b13)), rf ((some a0))]) 20 (sL_init hl b13 w13) (lw_meth q166) q104 q510 q165 rfl (by decide +kernel) (by decide) rfl rfl (cat2_r (cat2_r (cat2_nil (k := 0)))) rfl dX12_init_17 rfl (fun _ w17 => ?_)
  refine r_putr 23 pf_X12_20 (Or.inl ⟨_, rfl⟩) dX12_init_20 rfl (fun w20 => ?_)
  refine r_aload_n 24 0 dX12_init_23 rfl rfl rfl ?_
  refine r_iconst (v := (-1)) 25 dX12_init_24 rfl rfl ?_
  refine r_puti 28 pf_X12_26 dX12_init_25 rfl (fun w25 => ?_)
  exact r_vret rfl rfl dX12_init_28
theorem s_X12_init {l : Launch} {D : Dn} {H0 : Heap} (hl : l.stackTraces = false) (G : Nat) (a0 : Nat) (a1 : Int32) (a2 : Int32) (a3 : Rf) (a4 : Int32) (w : St) : SimN l D H0 yX12_init (ws_ yX12_init cX12_init 5 none) 32 3045 rvU [lR (some a0), lI a1, lI a2, lR a3, lI a4] w (f_X12_init G a0 a1 a2 a3 a4 w) := SimX.N (SimX.ofV (y := yX12_init) (by decide) rfl (t_X12_init hl G a0 a1 a2 a3 a4 w))
abbrev V_X13_init (l : Launch) (D : Dn) (H0 : Heap) (w0 : St) (res : Option (Unit × St)) (pc : Nat) (ls : List (Nat × LV)) (st : List Value) (w : St) : Prop := V l D H0 RX13 "<init>" cX13_init 2 none [] 1 20 (fun x => .inr (rvU x)) w0 res pc ls st w
theorem t_X13_init {l : Launch} {D : Dn} {H0 : Heap} {w0 : St} (hl : l.stackTraces = false) (G : Nat) (a0 : Nat) (a1 : Int32) (w : St) : V_X13_init l D H0 w0 (f_X13_init G a0 a1 w) 0 [(0, lR ((some a0))), (1, lI a1)] [] w := by
  unfold f_X13_init
  refine r_aload_n 1 0 dX13_init_0 rfl rfl rfl ?_
  refine r_objInit 4 q538 q154 q155 (by decide) (cat2_nil (k := 0)) rfl dX13_init_1 rfl ?_
  refine r_aload_n 5 0 dX13_init_4 rfl rfl rfl ?_
  refine r_iload_n 6 1 dX13_init_5 rfl rfl rfl ?_
  refine r_puti 9 pf_X13_7 dX13_init_6 rfl (fun w6 => ?_)
  exact r_vret rfl rfl dX13_init_9
theorem s_X13_init {l : Launch} {D : Dn} {H0 : Heap} (hl : l.stackTraces = false) (G : Nat) (a0 : Nat) (a1 : Int32) (w : St) : SimN l D H0 yX13_init (ws_ yX13_init cX13_init 2 none) 1 20 rvU [lR (some a0), lI a1] w (f_X13_init G a0 a1 w) := SimX.N (SimX.ofV (y := yX13_init) (by decide) rfl (t_X13_init hl G a0 a1 w))
abbrev V_X10_follows (l : Launch) (D : Dn) (H0 : Heap) (w0 : St) (res : Option (Unit × St)) (pc : Nat) (ls : List (Nat × LV)) (st : List Value) (w : St) : Prop := V l D H0 RX10 "follows" cX10_follows 3 none [] 31 3021 (fun x => .inr (rvU x)) w0 res pc ls st w
theorem t_X10_follows {l : Launch} {D : Dn} {H0 : Heap} {w0 : St} (hl : l.stackTraces = false) (G : Nat) (a0 : Rf) (a1 : Rf) (a2 : Rf) (w : St) : V_X10_follows l D H0 w0 (f_X10_follows G a0 a1 a2 w) 0 [(0, lR a0), (1, lR a1), (2, lR a2)] [] w := by
  unfold f_X10_follows
  refine r_aload_n 1 0 dX10_follows_0 rfl rfl rfl ?_
  refine r_getr 4 gf_X10_12 dX10_follows_1 rfl (fun x1 => ?_)
  refine r_aload_n 5 2 dX10_follows_4 rfl rfl rfl ?_
  refine r_gd (fun hc5 => ?_)
  refine r_callV (n := 1) (as := [lR a2]) (rest := []) 8 15 (sL_add hl x1 a2 w) hc5 rfl (lw_V q421 q422 q423 q104 q424) (by decide +kernel) (by decide) rfl rfl (cat2_nil (k := 0)) rfl dX10_follows_5 rfl (fun x5 w5 => ?_)
  refine r_pop_i 9 dX10_follows_8 rfl ?_
  refine r_aload_n 10 0 dX10_follows_9 rfl rfl rfl ?_
  refine r_getr 13 gf_X10_18 dX10_follows_10 rfl (fun x10 => ?_)
  refine r_aload_n 14 1 dX10_follows_13 rfl rfl rfl ?_
  refine r_gd (fun hc14 => ?_)
  refine r_callV (n := 1) (as := [lR a1]) (rest := []) 17 15 (sL_add hl x10 a1 w5) hc14 rfl (lw_V q421 q422 q423 q104 q424) (by decide +kernel) (by decide) rfl rfl (cat2_nil (k := 0)) rfl dX10_follows_14 rfl (fun x14 w14 => ?_)
  refine r_pop_i 18 dX10_follows_17 rfl ?_
  exact r_vret rfl rfl dX10_follows_18
theorem s_X10_follows {l : Launch} {D : Dn} {H0 : Heap} (hl : l.stackTraces = false) (G : Nat) (a0 : Rf) (a1 : Rf) (a2 : Rf) (w : St) : SimN l D H0 yX10_follows (ws_ yX10_follows cX10_follows 3 none) 31 3021 rvU [lR a0, lR a1, lR a2] w (f_X10_follows G a0 a1 a2 w) := SimX.N (SimX.ofV (y := yX10_follows) (by decide) rfl (t_X10_follows hl G a0 a1 a2 w))
abbrev V_X11_init (l : Launch) (D : Dn) (H0 : Heap) (w0 : St) (res : Option (Unit × St)) (pc : Nat) (ls : List (Nat × LV)) (st : List Value) (w : St) : Prop := V l D H0 RX11 "<init>" cX11_init 2 none [] 1 20 (fun x => .inr (rvU x)) w0 res pc ls st w
theorem t_X11_init {l : Launch} {D : Dn} {H0 : Heap} {w0 : St} (hl : l.stackTraces = false) (G : Nat) (a0 : Nat) (a1 : Int32) (w : St) : V_X11_init l D H0 w0 (f_X11_init G a0 a1 w) 0 [(0, lR ((some a0))), (1, lI a1)] [] w := by
  unfold f_X11_init
  refine r_aload_n 1 0 dX11_init_0 rfl rfl rfl ?_
  refine r_objInit 4 q410 q154 q155 (by decide) (cat2_nil (k := 0)) rfl dX11_init_1 rfl ?_
  refine r_aload_n 5 0 dX11_init_4 rfl rfl rfl ?_
  refine r_iload_n 6 1 dX11_init_5 rfl rfl rfl ?_
  refine r_puti 9 pf_X11_7 dX11_init_6 rfl (fun w6 => ?_)
  exact r_vret rfl rfl dX11_init_9
theorem s_X11_init {l : Launch} {D : Dn} {H0 : Heap} (hl : l.stackTraces = false) (G : Nat) (a0 : Nat) (a1 : Int32) (w : St) : SimN l D H0 yX11_init (ws_ yX11_init cX11_init 2 none) 1 20 rvU [lR (some a0), lI a1] w (f_X11_init G a0 a1 w) := SimX.N (SimX.ofV (y := yX11_init) (by decide) rfl (t_X11_init hl G a0 a1 w))
abbrev V_X9_adds (l : Launch) (D : Dn) (H0 : Heap) (w0 : St) (res : Option (Unit × St)) (pc : Nat) (ls : List (Nat × LV)) (st : List Value) (w : St) : Prop := V l D H0 RX9 "adds" cX9_adds 7 none [] 33 3069 (fun x => .inr (rvU x)) w0 res pc ls st w
theorem t_X9_adds_b183 {l : Launch} {D : Dn} {H0 : Heap} {w0 : St} (hl : l.stackTraces = false) (G : Nat) (k23 : Rf → Int32 → Rf → Rf → Int32 → St → Option (Unit × St)) (h23 : ∀ v0 v1 v2 v3 v4 w, V_X9_adds l D H0 w0 (k23 v0 v1 v2 v3 v4 w) 23 [(0, lR v0), (1, lI v1), (2, lR v2), (3, lR v3), (4, lI v4)] [] w) (v0 : Rf) (v1 : Int32) (v2 : Rf) (v3 : Rf) (v4 : Int32) (w : St) : V_X9_adds l D H0 w0 (f_X9_adds_b183 G k23 v0 v1 v2 v3 v4 w) 183 [(0, lR v0), (1, lI v1), (2, lR v2), (3, lR v3), (4, lI v4)] [] w := by
  unfold f_X9_adds_b183
  refine r_iinc (v := v4 + 1) (ls2 := [(4, lI (v4 + 1)), (0, lR v0), (1, lI v1), (2, lR v2), (3, lR v3)]) 186 4 dX9_adds_183 rfl rfl (by decide) rfl rfl ?_
  refine r_goto 23 dX9_adds_186 (by decide) ?_
  exact r_lsP [1, 2, 3, 4, 0] rfl (h23 v0 v1 v2 v3 (v4 + 1) w)
theorem t_X9_adds_b170 {l : Launch} {D : Dn} {H0 : Heap} {w0 : St} (hl : l.stackTraces = false) (G : Nat) (k23 : Rf → Int32 → Rf → Rf → Int32 → St → Option (Unit × St)) (h23 : ∀ v0 v1 v2 v3 v4 w, V_X9_adds l D H0 w0 (k23 v0 v1 v2 v3 v4 w) 23 [(0, lR v0), (1, lI v1), (2, lR v2), (3, lR v3), (4, lI v4)] [] w) (v0 : Rf) (v1 : Int32) (v2 : Rf) (v4 : Int32) (v6 : Rf) (w : St) : V_X9_adds l D H0 w0 (f_X9_adds_b170 G k23 v0 v1 v2 v4 v6 w) 170 [(0, lR v0), (1, lI v1), (2, lR v2), (4, lI v4), (6, lR v6)] [] w := by
  unfold f_X9_adds_b170
  refine r_aload_n 171 0 dX9_adds_170 rfl rfl rfl ?_
  refine r_getr 174 gf_X9_12 dX9_adds_171 rfl (fun x171 => ?_)
  refine r_aload 176 4 dX9_adds_174 rfl rfl ?_
  refine r_gd (fun hc176 => ?_)
  refine r_callV (n := 1) (as := [lR v6]) (rest := []) 179 15 (sL_add hl x171 v6 w) hc176 rfl (lw_V q500 q422 q423 q104 q424) (by decide +kernel) (by decide) rfl rfl (cat2_nil (k := 0)) rfl dX9_adds_176 rfl (fun x176 w176 => ?_)
  refine r_pop_i 180 dX9_adds_179 rfl ?_
  refine r_aload 182 4 dX9_adds_180 rfl rfl ?_
  refine r_astore_n (ls2 := [(3, lR v6), (0, lR v0), (1, lI v1), (2, lR v2), (4, lI v4), (6, lR v6)]) 183 dX9_adds_182 rfl (by decide) rfl rfl ?_
  exact r_lsP [1, 2, 3, 0, 4] rfl (t_X9_adds_b183 hl G k23 h23  v0 v1 v2 v6 v4 w176)
theorem t_X9_adds_b142 {l : Launch} {D : Dn} {H0 : Heap} {w0 : St} (hl : l.stackTraces = false) (G : Nat) (k23 : Rf → Int32 → Rf → Rf → Int32 → St → Option (Unit × St)) (h23 : ∀ v0 v1 v2 v3 v4 w, V_X9_adds l D H0 w0 (k23 v0 v1 v2 v3 v4 w) 23 [(0, lR v0), (1, lI v1), (2, lR v2), (3, lR v3), (4, lI v4)] [] w) (v0 : Rf) (v1 : Int32) (v2 : Rf) (v3 : Rf) (v4 : Int32) (v5 : Rf) (s0 : Int32) (s1 : Rf) (s2 : Int32) (s3 : Int32) (s4 : Nat) (s5 : Nat) (w : St) : V_X9_adds l D H0 w0 (f_X9_adds_b142 G k23 v0 v1 v2 v3 v4 v5 s0 s1 s2 s3 s4 s5 w) 142 [(0, lR v0), (1, lI v1), (2, lR v2), (3, lR v3), (4, lI v4), (5, lR v5)] [.int s0, rf s1, .int s2, .int s3, rf (some s4), rf (some s5)] w := by
  unfold f_X9_adds_b142
  refine r_callI (b := s4) (n := 4) (as := [lI s3, lI s2, lR s1, lI s0]) (rest := [rf ((some s5))]) 145 (s_X12_init hl G s4 s3 s2 s1 s0 w) (lw_meth q505) q133 q503 q504 rfl (by decide +kernel) (by decide) rfl rfl (cat2_r (cat2_nil (k := 0))) rfl dX9_adds_142 rfl (fun _ w142 => ?_)
  refine r_astore (ls2 := [(6, lR ((some s5))), (0, lR v0), (1, lI v1), (2, lR v2), (3, lR v3), (4, lI v4), (5, lR v5)]) 147 dX9_adds_145 (by decide) rfl rfl ?_
  refine r_iload 149 5 dX9_adds_147 rfl rfl ?_
  refine r_if_le 170 152 dX9_adds_149 (by decide) rfl ?_ ?_
  · exact r_lsP [1, 2, 3, 5, 0] rfl (t_X9_adds_b170 hl G k23 h23  v0 v1 v2 v4 ((some s5)) w142)
  refine r_aload 154 0 dX9_adds_152 rfl rfl ?_
  refine r_aload_n 155 4 dX9_adds_154 rfl rfl rfl ?_
  refine r_nw (C := RX13) (T := TX13) (N := 1) (ty := tyX13) 158 10 rfl rfl in_X13 tyX13_ok q533 q534 q134 rfl (by decide) dX9_adds_155 rfl (fun b155 w155 => ?_)
  refine r_dup_r 159 dX9_adds_158 rfl ?_
  refine r_aload 161 6 dX9_adds_159 rfl rfl ?_
  refine r_geti 164 gf_X9_91 dX9_adds_161 rfl (fun x161 => ?_)
  refine r_callI (b := b155) (n := 1) (as := [lI x161]) (rest := [rf ((some b155)), rf v3, rf ((some s5))]) 167 (s_X13_init hl G b155 x161 w155) (lw_meth q537) q134 q535 q536 rfl (by decide +kernel) (by decide) rfl rfl (cat2_r (cat2_r (cat2_r (cat2_nil (k := 0))))) rfl dX9_adds_164 rfl (fun _ w164 => ?_)
  refine r_gd (fun hc167 => ?_)
  refine r_callU (x2 := ⟨"CoachTimetable$Departure", "follows", "(LCoachTimetable$Event;LCoachTimetable$Lead;)V"⟩) (owner := "CoachTimetable$Event") (n := 2) (as := [lR v3, lR ((some b155))]) (rest := []) 170 9 (s_X10_follows hl G ((some s5)) v3 ((some b155)) w164) hc167 rfl (lw_app (l5 q543 q544 q546 q416 q131) (lw_meth q420)) rfl (by decide +kernel) (by decide) rfl rfl (cat2_nil (k := 0)) rfl dX9_adds_167 rfl (fun _ w167 => ?_)
  exact r_lsP [1, 2, 3, 5, 0] rfl (t_X9_adds_b170 hl G k23 h23  v0 v1 v2 v4 ((some s5)) w167)
theorem t_X9_adds_b109 {l : Launch} {D : Dn} {H0 : Heap} {w0 : St} (hl : l.stackTraces = false) (G : Nat) (k23 : Rf → Int32 → Rf → Rf → Int32 → St → Option (Unit × St)) (h23 : ∀ v0 v1 v2 v3 v4 w, V_X9_adds l D H0 w0 (k23 v0 v1 v2 v3 v4 w) 23 [(0, lR v0), (1, lI v1), (2, lR v2), (3, lR v3), (4, lI v4)] [] w) (v0 : Rf) (v1 : Int32) (v2 : Rf) (v3 : Rf) (v4 : Int32) (v5 : Rf) (w : St) : V_X9_adds l D H0 w0 (f_X9_adds_b109 G k23 v0 v1 v2 v3 v4 v5 w) 109 [(0, lR v0), (1, lI v1), (2, lR v2), (3, lR v3), (4, lI v4), (5, lR v5)] [] w := by
  unfold f_X9_adds_b109
  refine r_iload 111 4 dX9_adds_109 rfl rfl ?_
  refine r_aload_n 112 2 dX9_adds_111 rfl rfl rfl ?_
  refine r_gd (fun hc112 => ?_)
  refine r_callV (n := 0) (as := []) (rest := [.int v4]) 115 15 (sL_size hl v2 w) hc112 rfl (lw_V q302 q303 q304 q104 q305) (by decide +kernel) (by decide) rfl rfl (cat2_i (cat2_nil (k := 0))) rfl dX9_adds_112 rfl (fun x112 w112 => ?_)
  refine r_iconst (v := 1) 116 dX9_adds_115 rfl rfl ?_
  refine r_isub 117 dX9_adds_116 rfl ?_
  refine r_icmp_ge 183 120 dX9_adds_117 (by decide) rfl ?_ ?_
  · exact r_lsP [0, 1, 2, 3, 4] rfl (t_X9_adds_b183 hl G k23 h23  v0 v1 v2 v3 v4 w112)
  refine r_nw (C := RX12) (T := TX12) (N := 14) (ty := tyX12) 123 9 rfl rfl in_X12 tyX12_ok q501 q502 q133 rfl (by decide) dX9_adds_120 rfl (fun b120 w120 => ?_)
  refine r_dup_r 124 dX9_adds_123 rfl ?_
  refine r_iload_n 125 1 dX9_adds_124 rfl rfl rfl ?_
  refine r_iload 127 4 dX9_adds_125 rfl rfl ?_
  refine r_aload 129 5 dX9_adds_127 rfl rfl ?_
  refine r_iload_n 130 1 dX9_adds_129 rfl rfl rfl ?_
  refine r_aload_n 131 0 dX9_adds_130 rfl rfl rfl ?_
  refine r_geti 134 gf_X9_22 dX9_adds_131 rfl (fun x131 => ?_)
  refine r_icmp_eq 141 137 dX9_adds_134 (by decide) rfl ?_ ?_
  · refine r_iconst (v := 0) 142 dX9_adds_141 rfl rfl ?_
    exact r_lsP [0, 1, 2, 3, 4, 5] rfl (t_X9_adds_b142 hl G k23 h23  v0 v1 v2 v3 v4 v5 0 v5 v4 v1 b120 b120 w120)
  refine r_iconst (v := 1) 138 dX9_adds_137 rfl rfl ?_
  refine r_goto 142 dX9_adds_138 (by decide) ?_
  exact r_lsP [0, 1, 2, 3, 4, 5] rfl (t_X9_adds_b142 hl G k23 h23  v0 v1 v2 v3 v4 v5 1 v5 v4 v1 b120 b120 w120)
theorem t_X9_adds_b73 {l : Launch} {D : Dn} {H0 : Heap} {w0 : St} (hl : l.stackTraces = false) (G : Nat) (k23 : Rf → Int32 → Rf → Rf → Int32 → St → Option (Unit × St)) (h23 : ∀ v0 v1 v2 v3 v4 w, V_X9_adds l D H0 w0 (k23 v0 v1 v2 v3 v4 w) 23 [(0, lR v0), (1, lI v1), (2, lR v2), (3, lR v3), (4, lI v4)] [] w) (v0 : Rf) (v1 : Int32) (v2 : Rf) (v3 : Rf) (v4 : Int32) (v5 : Rf) (s0 : Int32) (s1 : Rf) (s2 : Rf) (s3 : Int32) (s4 : Int32) (s5 : Nat) (s6 : Nat) (w : St) : V_X9_adds l D H0 w0 (f_X9_adds_b73 G k23 v0 v1 v2 v3 v4 v5 s0 s1 s2 s3 s4 s5 s6 w) 73 [(0, lR v0), (1, lI v1), (2, lR v2), (3, lR v3), (4, lI v4), (5, lR v5)] [.int s0, rf s1, rf s2, .int s3, .int s4, rf (some s5), rf (some s6)] w := by
  unfold f_X9_adds_b73
  refine r_callI (b := s5) (n := 5) (as := [lI s4, lI s3, lR s2, lR s1, lI s0]) (rest := [rf ((some s6))]) 76 (s_X10_init hl G s5 s4 s3 s2 s1 s0 w) (lw_meth q332) q131 q330 q331 rfl (by decide +kernel) (by decide) rfl rfl (cat2_r (cat2_nil (k := 0))) rfl dX9_adds_73 rfl (fun _ w73 => ?_)
  refine r_astore (ls2 := [(6, lR ((some s6))), (0, lR v0), (1, lI v1), (2, lR v2), (3, lR v3), (4, lI v4), (5, lR v5)]) 78 dX9_adds_76 (by decide) rfl rfl ?_
  refine r_aload 80 0 dX9_adds_78 rfl rfl ?_
  refine r_aload_n 81 4 dX9_adds_80 rfl rfl rfl ?_
  refine r_nw (C := RX11) (T := TX11) (N := 1) (ty := tyX11) 84 8 rfl rfl in_X11 tyX11_ok q405 q406 q132 rfl (by decide) dX9_adds_81 rfl (fun b81 w81 => ?_)
  refine r_dup_r 85 dX9_adds_84 rfl ?_
  refine r_aload 87 6 dX9_adds_85 rfl rfl ?_
  refine r_geti 90 gf_X9_71 dX9_adds_87 rfl (fun x87 => ?_)
  refine r_callI (b := b81) (n := 1) (as := [lI x87]) (rest := [rf ((some b81)), rf v3, rf ((some s6))]) 93 (s_X11_init hl G b81 x87 w81) (lw_meth q409) q132 q407 q408 rfl (by decide +kernel) (by decide) rfl rfl (cat2_r (cat2_r (cat2_r (cat2_nil (k := 0))))) rfl dX9_adds_90 rfl (fun _ w90 => ?_)
  refine r_share (st2 := fun (_ : Unit) => []) (pc2 := 96) (fun hk => ?_) (fun x93 w93 => ?_)
  · refine r_dsp (fun c93 hc93 => ?_)
    refine r_dif (fun he => ?_) (fun _ => ?_)
    · subst he
      exact r_callV (n := 2) (as := [lR v3, lR ((some b81))]) (rest := []) 96 7 (s_X10_follows hl G ((some s6)) v3 ((some b81)) w90) hc93 rfl (lw_V q415 q416 q417 q131 q420) (by decide +kernel) (by decide) rfl rfl (cat2_nil (k := 0)) rfl dX9_adds_93 rfl hk
    refine r_dif (fun he => ?_) (fun _ => ?_)
    · subst he
      exact r_callU (x2 := ⟨"CoachTimetable$Event", "follows", "(LCoachTimetable$Event;LCoachTimetable$Lead;)V"⟩) (owner := "CoachTimetable$Event") (n := 2) (as := [lR v3, lR ((some b81))]) (rest := []) 96 9 (s_X10_follows hl G ((some s6)) v3 ((some b81)) w90) hc93 rfl (lw_app (l5 q415 q418 q419 q416 q131) (lw_meth q420)) rfl (by decide +kernel) (by decide) rfl rfl (cat2_nil (k := 0)) rfl dX9_adds_93 rfl hk
    exact r_bdn
  refine r_aload_n 97 1 dX9_adds_96 rfl rfl rfl ?_
  refine r_getr 100 gf_X9_12 dX9_adds_97 rfl (fun x97 => ?_)
  refine r_aload 102 0 dX9_adds_100 rfl rfl ?_
  refine r_gd (fun hc102 => ?_)
  refine r_callV (n := 1) (as := [lR ((some s6))]) (rest := []) 105 15 (sL_add hl x97 ((some s6)) w93) hc102 rfl (lw_V q500 q422 q423 q104 q424) (by decide +kernel) (by decide) rfl rfl (cat2_nil (k := 0)) rfl dX9_adds_102 rfl (fun x102 w102 => ?_)
  refine r_pop_i 106 dX9_adds_105 rfl ?_
  refine r_aload 108 0 dX9_adds_106 rfl rfl ?_
  refine r_astore_n (ls2 := [(3, lR ((some s6))), (6, lR ((some s6))), (0, lR v0), (1, lI v1), (2, lR v2), (4, lI v4), (5, lR v5)]) 109 dX9_adds_108 rfl (by decide) rfl rfl ?_
  exact r_lsP [2, 3, 4, 0, 5, 6] rfl (t_X9_adds_b109 hl G k23 h23  v0 v1 v2 ((some s6)) v4 v5 w102)
theorem t_X9_adds_l23 {l : Launch} {D : Dn} {H0 : Heap} {w0 : St} (hl : l.stackTraces = false) (G : Nat) (k189 : St → Option (Unit × St)) (h189 : ∀ w, V_X9_adds l D H0 w0 (k189 w) 189 [] [] w) : ∀ (F : Nat) (v0 : Rf) (v1 : Int32) (v2 : Rf) (v3 : Rf) (v4 : Int32) (w : St), V_X9_adds l D H0 w0 (f_X9_adds_l23 G k189 F v0 v1 v2 v3 v4 w) 23 [(0, lR v0), (1, lI v1), (2, lR v2), (3, lR v3), (4, lI v4)] [] w := by
  intro F
  induction F with
  | zero => intros; exact r_none
  | succ F ih =>
    intro v0 v1 v2 v3 v4 w
    unfold f_X9_adds_l23
    refine r_iload 25 4 dX9_adds_23 rfl rfl ?_
    refine r_aload_n 26 2 dX9_adds_25 rfl rfl rfl ?_
    refine r_gd (fun hc26 => ?_)
    refine r_callV (n := 0) (as := []) (rest := [.int v4]) 29 15 (sL_size hl v2 w) hc26 rfl (lw_V q302 q303 q304 q104 q305) (by decide +kernel) (by decide) rfl rfl (cat2_i (cat2_nil (k := 0))) rfl dX9_adds_26 rfl (fun x26 w26 => ?_)
    refine r_icmp_ge 189 32 dX9_adds_29 (by decide) rfl ?_ ?_
    · exact r_lsP [] rfl (h189 w26)
    refine r_aload_n 33 2 dX9_adds_32 rfl rfl rfl ?_
    refine r_iload 35 4 dX9_adds_33 rfl rfl ?_
    refine r_gd (fun hc35 => ?_)
    refine r_callV (n := 1) (as := [lI v4]) (rest := []) 38 15 (sL_get hl v2 v4 w26) hc35 rfl (lw_V q310 q311 q312 q104 q313) (by decide +kernel) (by decide) rfl rfl (cat2_nil (k := 0)) rfl dX9_adds_35 rfl (fun x35 w35 => ?_)
    refine r_cast 41 (CA_cons (c0 := 4) rfl (Or.inl rfl) (CA_nil)) q325 dX9_adds_38 rfl ?_
    refine r_astore (ls2 := [(5, lR x35), (0, lR v0), (1, lI v1), (2, lR v2), (3, lR v3), (4, lI v4)]) 43 dX9_adds_41 (by decide) rfl rfl ?_
    refine r_iload 45 5 dX9_adds_43 rfl rfl ?_
    refine r_if_le 109 48 dX9_adds_45 (by decide) rfl ?_ ?_
    · exact r_lsP [1, 2, 3, 4, 5, 0] rfl (t_X9_adds_b109 hl G (fun v0 v1 v2 v3 v4 w => f_X9_adds_l23 G k189 F v0 v1 v2 v3 v4 w) (fun v0 v1 v2 v3 v4 w => ih v0 v1 v2 v3 v4 w)  v0 v1 v2 v3 v4 x35 w35)
    refine r_nw (C := RX10) (T := TX10) (N := 11) (ty := tyX10) 51 7 rfl rfl in_X10 tyX10_ok q326 q327 q131 rfl (by decide) dX9_adds_48 rfl (fun b48 w48 => ?_)
    refine r_dup_r 52 dX9_adds_51 rfl ?_
    refine r_iload_n 53 2 dX9_adds_52 rfl rfl rfl ?_
    refine r_iload 55 5 dX9_adds_53 rfl rfl ?_
    refine r_gets (v := rf ((some (w48.g 1)))) 58 0 rfl q328 dX9_adds_55 rfl ?_
    refine r_aload 60 0 dX9_adds_58 rfl rfl ?_
    refine r_iload_n 61 2 dX9_adds_60 rfl rfl rfl ?_
    refine r_aload_n 62 1 dX9_adds_61 rfl rfl rfl ?_
    refine r_geti 65 gf_X9_22 dX9_adds_62 rfl (fun x62 => ?_)
    refine r_icmp_eq 72 68 dX9_adds_65 (by decide) rfl ?_ ?_
    · refine r_iconst (v := 0) 73 dX9_adds_72 rfl rfl ?_
      exact r_lsP [1, 2, 3, 4, 5, 0] rfl (t_X9_adds_b73 hl G (fun v0 v1 v2 v3 v4 w => f_X9_adds_l23 G k189 F v0 v1 v2 v3 v4 w) (fun v0 v1 v2 v3 v4 w => ih v0 v1 v2 v3 v4 w)  v0 v1 v2 v3 v4 x35 0 x35 ((some (w48.g 1))) v4 v1 b48 b48 w48)
    refine r_iconst (v := 1) 69 dX9_adds_68 rfl rfl ?_
    refine r_goto 73 dX9_adds_69 (by decide) ?_
    exact r_lsP [1, 2, 3, 4, 5, 0] rfl (t_X9_adds_b73 hl G (fun v0 v1 v2 v3 v4 w => f_X9_adds_l23 G k189 F v0 v1 v2 v3 v4 w) (fun v0 v1 v2 v3 v4 w => ih v0 v1 v2 v3 v4 w)  v0 v1 v2 v3 v4 x35 1 x35 ((some (w48.g 1))) v4 v1 b48 b48 w48)
theorem t_X9_adds_b189 {l : Launch} {D : Dn} {H0 : Heap} {w0 : St} (hl : l.stackTraces = false) (G : Nat) (w : St) : V_X9_adds l D H0 w0 (f_X9_adds_b189 G  w) 189 [] [] w := by
  unfold f_X9_adds_b189
  exact r_vret rfl rfl dX9_adds_189
theorem t_X9_adds {l : Launch} {D : Dn} {H0 : Heap} {w0 : St} (hl : l.stackTraces = false) (G : Nat) (a0 : Rf) (a1 : Int32) (w : St) : V_X9_adds l D H0 w0 (f_X9_adds G a0 a1 w) 0 [(0, lR a0), (1, lI a1)] [] w := by
  unfold f_X9_adds
  refine r_aload_n 1 0 dX9_adds_0 rfl rfl rfl ?_
  refine r_getr 4 gf_X9_18 dX9_adds_1 rfl (fun x1 => ?_)
  refine r_getr 7 gf_X9_26 dX9_adds_4 rfl (fun x4 => ?_)
  refine r_iload_n 8 1 dX9_adds_7 rfl rfl rfl ?_
  refine r_gd (fun hc8 => ?_)
  refine r_callV (n := 1) (as := [lI a1]) (rest := []) 11 15 (sL_get hl x4 a1 w) hc8 rfl (lw_V q310 q311 q312 q104 q313) (by decide +kernel) (by decide) rfl rfl (cat2_nil (k := 0)) rfl dX9_adds_8 rfl (fun x8 w8 => ?_)
  refine r_cast 14 (CA_cons (c0 := 3) rfl (Or.inl rfl) (CA_nil)) q324 dX9_adds_11 rfl ?_
  refine r_getr 17 gf_X9_53 dX9_adds_14 rfl (fun x14 => ?_)
  refine r_astore_n (ls2 := [(2, lR x14), (0, lR a0), (1, lI a1)]) 18 dX9_adds_17 rfl (by decide) rfl rfl ?_
  refine r_null 19 dX9_adds_18 rfl ?_
  refine r_astore_n (ls2 := [(3, lR none), (2, lR x14), (0, lR a0), (1, lI a1)]) 20 dX9_adds_19 rfl (by decide) rfl rfl ?_
  refine r_iconst (v := 0) 21 dX9_adds_20 rfl rfl ?_
  refine r_istore (ls2 := [(4, lI 0), (3, lR none), (2, lR x14), (0, lR a0), (1, lI a1)]) 23 dX9_adds_21 (by decide) rfl rfl ?_
  exact r_lsP [3, 4, 2, 1, 0] rfl (t_X9_adds_l23 hl G (fun w => f_X9_adds_b189 G  w) (fun w => t_X9_adds_b189 hl G  w) G a0 a1 x14 none 0 w8)
theorem s_X9_adds {l : Launch} {D : Dn} {H0 : Heap} (hl : l.stackTraces = false) (G : Nat) (a0 : Rf) (a1 : Int32) (w : St) : SimN l D H0 yX9_adds (ws_ yX9_adds cX9_adds 7 none) 33 3069 rvU [lR a0, lI a1] w (f_X9_adds G a0 a1 w) := SimX.N (SimX.ofV (y := yX9_adds) (by decide) rfl (t_X9_adds hl G a0 a1 w))
abbrev V_X9_event (l : Launch) (D : Dn) (H0 : Heap) (w0 : St) (res : Option (Rf × St)) (pc : Nat) (ls : List (Nat × LV)) (st : List Value) (w : St) : Prop := V l D H0 RX9 "event" cX9_event 6 (some (.object "CoachTimetable$Event")) [] 31 3022 (fun x => .inr (rvR x)) w0 res pc ls st w
theorem t_X9_event_b61 {l : Launch} {D : Dn} {H0 : Heap} {w0 : St} (hl : l.stackTraces = false) (G : Nat) (k9 : Int32 → Int32 → Rf → Rf → St → Option (Rf × St)) (h9 : ∀ v1 v2 v3 v4 w, V_X9_event l D H0 w0 (k9 v1 v2 v3 v4 w) 9 [(1, lI v1), (2, lI v2), (3, lR v3), (4, lR v4)] [] w) (v1 : Int32) (v2 : Int32) (v3 : Rf) (v4 : Rf) (w : St) : V_X9_event l D H0 w0 (f_X9_event_b61 G k9 v1 v2 v3 v4 w) 61 [(1, lI v1), (2, lI v2), (3, lR v3), (4, lR v4)] [] w := by
  unfold f_X9_event_b61
  refine r_goto 9 dX9_event_61 (by decide) ?_
  exact r_lsP [0, 1, 2, 3] rfl (h9 v1 v2 v3 v4 w)
theorem t_X9_event_l9 {l : Launch} {D : Dn} {H0 : Heap} {w0 : St} (hl : l.stackTraces = false) (G : Nat) (k58 : Rf → St → Option (Rf × St)) (h58 : ∀ v5 w, V_X9_event l D H0 w0 (k58 v5 w) 58 [(5, lR v5)] [] w) (k64 : St → Option (Rf × St)) (h64 : ∀ w, V_X9_event l D H0 w0 (k64 w) 64 [] [] w) : ∀ (F : Nat) (v1 : Int32) (v2 : Int32) (v3 : Rf) (v4 : Rf) (w : St), V_X9_event l D H0 w0 (f_X9_event_l9 G k58 k64 F v1 v2 v3 v4 w) 9 [(1, lI v1), (2, lI v2), (3, lR v3), (4, lR v4)] [] w := by
  intro F
  induction F with
  | zero => intros; exact r_none
  | succ F ih =>
    intro v1 v2 v3 v4 w
    unfold f_X9_event_l9
    refine r_aload 11 3 dX9_event_9 rfl rfl ?_
    refine r_gd (fun hc11 => ?_)
    refine r_callF (x2 := ⟨"java/util/Iterator", "hasNext", "()Z"⟩) (n := 0) (as := []) (rest := []) 16 16 (sI_hasNext hl v4 w) hc11 rfl (lw_app (l4 q580 q584 q586 q116) (lw_meth q588)) (List.mem_of_getElem? (i := 0) rfl) (by decide +kernel) (by decide) rfl rfl (cat2_nil (k := 0)) rfl dX9_event_11 rfl (fun x11 w11 => ?_)
    refine r_if_eq 64 19 dX9_event_16 (by decide) rfl ?_ ?_
    · exact r_lsP [] rfl (h64 w11)
    refine r_aload 21 3 dX9_event_19 rfl rfl ?_
    refine r_gd (fun hc21 => ?_)
    refine r_callF (x2 := ⟨"java/util/Iterator", "next", "()Ljava/lang/Object;"⟩) (n := 0) (as := []) (rest := []) 26 16 (sI_next hl v4 w11) hc21 rfl (lw_app (l4 q590 q593 q595 q116) (lw_meth q597)) (List.mem_of_getElem? (i := 1) rfl) (by decide +kernel) (by decide) rfl rfl (cat2_nil (k := 0)) rfl dX9_event_21 rfl (fun x21 w21 => ?_)
    refine r_cast 29 (CA_cons (c0 := 7) rfl (Or.inl rfl) (CA_cons (c0 := 9) rfl (Or.inr q2711) (CA_nil))) q326 dX9_event_26 rfl ?_
    refine r_astore (ls2 := [(5, lR x21), (1, lI v1), (2, lI v2), (3, lR v3), (4, lR v4)]) 31 dX9_event_29 (by decide) rfl rfl ?_
    refine r_aload 33 0 dX9_event_31 rfl rfl ?_
    refine r_geti 36 gf_X9_154 dX9_event_33 rfl (fun x33 => ?_)
    refine r_iload_n 37 1 dX9_event_36 rfl rfl rfl ?_
    refine r_icmp_ne 61 40 dX9_event_37 (by decide) rfl ?_ ?_
    · exact r_lsP [1, 2, 3, 4] rfl (t_X9_event_b61 hl G (fun v1 v2 v3 v4 w => f_X9_event_l9 G k58 k64 F v1 v2 v3 v4 w) (fun v1 v2 v3 v4 w => ih v1 v2 v3 v4 w)  v1 v2 v3 v4 w21)
    refine r_aload 42 0 dX9_event_40 rfl rfl ?_
    refine r_geti 45 gf_X9_155 dX9_event_42 rfl (fun x42 => ?_)
    refine r_iload_n 46 2 dX9_event_45 rfl rfl rfl ?_
    refine r_icmp_ne 61 49 dX9_event_46 (by decide) rfl ?_ ?_
    · exact r_lsP [1, 2, 3, 4] rfl (t_X9_event_b61 hl G (fun v1 v2 v3 v4 w => f_X9_event_l9 G k58 k64 F v1 v2 v3 v4 w) (fun v1 v2 v3 v4 w => ih v1 v2 v3 v4 w)  v1 v2 v3 v4 w21)
    refine r_aload 51 0 dX9_event_49 rfl rfl ?_
    refine r_getr 54 gf_X9_156 dX9_event_51 rfl (fun x51 => ?_)
    refine r_aload_n 55 3 dX9_event_54 rfl rfl rfl ?_
    refine r_acmp_ne 61 58 dX9_event_55 (by decide) rfl ?_ ?_
    · exact r_lsP [1, 2, 3, 4] rfl (t_X9_event_b61 hl G (fun v1 v2 v3 v4 w => f_X9_event_l9 G k58 k64 F v1 v2 v3 v4 w) (fun v1 v2 v3 v4 w => ih v1 v2 v3 v4 w)  v1 v2 v3 v4 w21)
    exact r_lsP [0] rfl (h58 x21 w21)
theorem t_X9_event_b58 {l : Launch} {D : Dn} {H0 : Heap} {w0 : St} (hl : l.stackTraces = false) (G : Nat) (v5 : Rf) (w : St) : V_X9_event l D H0 w0 (f_X9_event_b58 G v5 w) 58 [(5, lR v5)] [] w := by
  unfold f_X9_event_b58
  refine r_aload 60 0 dX9_event_58 rfl rfl ?_
  exact r_aret rfl rfl (Or.inl ⟨_, rfl⟩) dX9_event_60
theorem t_X9_event_b64 {l : Launch} {D : Dn} {H0 : Heap} {w0 : St} (hl : l.stackTraces = false) (G : Nat) (w : St) : V_X9_event l D H0 w0 (f_X9_event_b64 G  w) 64 [] [] w := by
  unfold f_X9_event_b64
  refine r_null 65 dX9_event_64 rfl ?_
  exact r_aret rfl rfl (Or.inl ⟨_, rfl⟩) dX9_event_65
theorem t_X9_event {l : Launch} {D : Dn} {H0 : Heap} {w0 : St} (hl : l.stackTraces = false) (G : Nat) (a0 : Rf) (a1 : Int32) (a2 : Int32) (a3 : Rf) (w : St) : V_X9_event l D H0 w0 (f_X9_event G a0 a1 a2 a3 w) 0 [(0, lR a0), (1, lI a1), (2, lI a2), (3, lR a3)] [] w := by
  unfold f_X9_event
  refine r_aload_n 1 0 dX9_event_0 rfl rfl rfl ?_
  refine r_getr 4 gf_X9_12 dX9_event_1 rfl (fun x1 => ?_)
  refine r_gd (fun hc4 => ?_)
  refine r_callV (n := 0) (as := []) (rest := []) 7 15 (sL_iterator hl x1 w) hc4 rfl (lw_V q556 q557 q558 q104 q559) (by decide +kernel) (by decide) rfl rfl (cat2_nil (k := 0)) rfl dX9_event_4 rfl (fun x4 w4 => ?_)
  refine r_astore (ls2 := [(4, lR x4), (0, lR a0), (1, lI a1), (2, lI a2), (3, lR a3)]) 9 dX9_event_7 (by decide) rfl rfl ?_
  exact r_lsP [2, 3, 4, 0] rfl (t_X9_event_l9 hl G (fun v5 w => f_X9_event_b58 G  v5 w) (fun v5 w => t_X9_event_b58 hl G  v5 w) (fun w => f_X9_event_b64 G  w) (fun w => t_X9_event_b64 hl G  w) G a1 a2 a3 x4 w4)
theorem s_X9_event {l : Launch} {D : Dn} {H0 : Heap} (hl : l.stackTraces = false) (G : Nat) (a0 : Rf) (a1 : Int32) (a2 : Int32) (a3 : Rf) (w : St) : SimN l D H0 yX9_event (ws_ yX9_event cX9_event 6 (some (.object "CoachTimetable$Event"))) 31 3022 rvR [lR a0, lI a1, lI a2, lR a3] w (f_X9_event G a0 a1 a2 a3 w) := SimX.N (SimX.ofV (y := yX9_event) (by decide) rfl (t_X9_event hl G a0 a1 a2 a3 w))
abbrev V_X14_init (l : Launch) (D : Dn) (H0 : Heap) (w0 : St) (res : Option (Unit × St)) (pc : Nat) (ls : List (Nat × LV)) (st : List Value) (w : St) : Prop := V l D H0 RX14 "<init>" cX14_init 1 none [] 1 20 (fun x => .inr (rvU x)) w0 res pc ls st w
theorem t_X14_init {l : Launch} {D : Dn} {H0 : Heap} {w0 : St} (hl : l.stackTraces = false) (G : Nat) (a0 : Nat) (w : St) : V_X14_init l D H0 w0 (f_X14_init G a0 w) 0 [(0, lR ((some a0)))] [] w := by
  unfold f_X14_init
  refine r_aload_n 1 0 dX14_init_0 rfl rfl rfl ?_
  refine r_objInit 4 q676 q154 q155 (by decide) (cat2_nil (k := 0)) rfl dX14_init_1 rfl ?_
  exact r_vret rfl rfl dX14_init_4
theorem s_X14_init {l : Launch} {D : Dn} {H0 : Heap} (hl : l.stackTraces = false) (G : Nat) (a0 : Nat) (w : St) : SimN l D H0 yX14_init (ws_ yX14_init cX14_init 1 none) 1 20 rvU [lR (some a0)] w (f_X14_init G a0 w) := SimX.N (SimX.ofV (y := yX14_init) (by decide) rfl (t_X14_init hl G a0 w))
abbrev V_X9_turns (l : Launch) (D : Dn) (H0 : Heap) (w0 : St) (res : Option (Unit × St)) (pc : Nat) (ls : List (Nat × LV)) (st : List Value) (w : St) : Prop := V l D H0 RX9 "turns" cX9_turns 4 none [] 32 3047 (fun x => .inr (rvU x)) w0 res pc ls st w
theorem t_X9_turns {l : Launch} {D : Dn} {H0 : Heap} {w0 : St} (hl : l.stackTraces = false) (G : Nat) (a0 : Rf) (a1 : Int32) (w : St) : V_X9_turns l D H0 w0 (f_X9_turns G a0 a1 w) 0 [(0, lR a0), (1, lI a1)] [] w := by
  unfold f_X9_turns
  refine r_aload_n 1 0 dX9_turns_0 rfl rfl rfl ?_
  refine r_getr 4 gf_X9_18 dX9_turns_1 rfl (fun x1 => ?_)
  refine r_getr 7 gf_X9_26 dX9_turns_4 rfl (fun x4 => ?_)
  refine r_iload_n 8 1 dX9_turns_7 rfl rfl rfl ?_
  refine r_gd (fun hc8 => ?_)
  refine r_callV (n := 1) (as := [lI a1]) (rest := []) 11 15 (sL_get hl x4 a1 w) hc8 rfl (lw_V q310 q311 q312 q104 q313) (by decide +kernel) (by decide) rfl rfl (cat2_nil (k := 0)) rfl dX9_turns_8 rfl (fun x8 w8 => ?_)
  refine r_cast 14 (CA_cons (c0 := 3) rfl (Or.inl rfl) (CA_nil)) q324 dX9_turns_11 rfl ?_
  refine r_geti 17 gf_X9_96 dX9_turns_14 rfl (fun x14 => ?_)
  refine r_istore_n (ls2 := [(2, lI x14), (0, lR a0), (1, lI a1)]) 18 dX9_turns_17 rfl (by decide) rfl rfl ?_
  refine r_iload_n 19 0 dX9_turns_18 rfl rfl rfl ?_
  refine r_iconst (v := (-1)) 20 dX9_turns_19 rfl rfl ?_
  refine r_icmp_eq 74 23 dX9_turns_20 (by decide) rfl ?_ ?_
  · exact r_vret rfl rfl dX9_turns_74
  refine r_aload_n 24 1 dX9_turns_23 rfl rfl rfl ?_
  refine r_getr 27 gf_X9_18 dX9_turns_24 rfl (fun x24 => ?_)
  refine r_getr 30 gf_X9_26 dX9_turns_27 rfl (fun x27 => ?_)
  refine r_iload_n 31 2 dX9_turns_30 rfl rfl rfl ?_
  refine r_gd (fun hc31 => ?_)
  refine r_callV (n := 1) (as := [lI a1]) (rest := []) 34 15 (sL_get hl x27 a1 w8) hc31 rfl (lw_V q310 q311 q312 q104 q313) (by decide +kernel) (by decide) rfl rfl (cat2_nil (k := 0)) rfl dX9_turns_31 rfl (fun x31 w31 => ?_)
  refine r_cast 37 (CA_cons (c0 := 3) rfl (Or.inl rfl) (CA_nil)) q324 dX9_turns_34 rfl ?_
  refine r_getr 40 gf_X9_53 dX9_turns_37 rfl (fun x37 => ?_)
  refine r_gd (fun hc40 => ?_)
  refine r_callV (n := 0) (as := []) (rest := []) 43 15 (sL_size hl x37 w31) hc40 rfl (lw_V q302 q303 q304 q104 q305) (by decide +kernel) (by decide) rfl rfl (cat2_nil (k := 0)) rfl dX9_turns_40 rfl (fun x40 w40 => ?_)
  refine r_iconst (v := 1) 44 dX9_turns_43 rfl rfl ?_
  refine r_isub 45 dX9_turns_44 rfl ?_
  refine r_istore_n (ls2 := [(3, lI (x40 - 1)), (2, lI x14), (0, lR a0), (1, lI a1)]) 46 dX9_turns_45 rfl (by decide) rfl rfl ?_
  refine r_aload_n 47 2 dX9_turns_46 rfl rfl rfl ?_
  refine r_iload_n 48 1 dX9_turns_47 rfl rfl rfl ?_
  refine r_iconst (v := 0) 49 dX9_turns_48 rfl rfl ?_
  refine r_gets (v := rf ((some (w40.g 2)))) 52 1 rfl q551 dX9_turns_49 rfl ?_
  refine r_gd (fun hc52 => ?_)
  refine r_callV (n := 3) (as := [lI x14, lI 0, lR ((some (w40.g 2)))]) (rest := []) 55 6 (s_X9_event hl G a0 x14 0 ((some (w40.g 2))) w40) hc52 rfl (lw_V q552 q553 q554 q130 q555) (by decide +kernel) (by decide) rfl rfl (cat2_nil (k := 0)) rfl dX9_turns_52 rfl (fun x52 w52 => ?_)
  refine r_aload_n 56 2 dX9_turns_55 rfl rfl rfl ?_
  refine r_iload_n 57 3 dX9_turns_56 rfl rfl rfl ?_
  refine r_iload_n 58 0 dX9_turns_57 rfl rfl rfl ?_
  refine r_gets (v := rf ((some (w52.g 1)))) 61 0 rfl q328 dX9_turns_58 rfl ?_
  refine r_gd (fun hc61 => ?_)
  refine r_callV (n := 3) (as := [lI a1, lI (x40 - 1), lR ((some (w52.g 1)))]) (rest := [rf x52]) 64 6 (s_X9_event hl G a0 a1 (x40 - 1) ((some (w52.g 1))) w52) hc61 rfl (lw_V q552 q553 q554 q130 q555) (by decide +kernel) (by decide) rfl rfl (cat2_r (cat2_nil (k := 0))) rfl dX9_turns_61 rfl (fun x61 w61 => ?_)
  refine r_nw (C := RX14) (T := TX13) (N := 0) (ty := tyX13) 67 11 rfl rfl (fun _ h => nomatch h) (fun _ h => absurd h (Nat.not_lt_zero _)) q671 q672 q135 rfl (fun _ h => absurd h (Nat.not_lt_zero _)) dX9_turns_64 rfl (fun b64 w64 => ?_)
  refine r_dup_r 68 dX9_turns_67 rfl ?_
  refine r_callNI (b := b64) (n := 0) (as := []) (rest := [rf ((some b64)), rf x61, rf x52]) 71 (s_X14_init hl G b64 w64) (lw_meth q675) q673 q135 q674 rfl (by decide +kernel) (by decide) rfl rfl (cat2_r (cat2_r (cat2_r (cat2_nil (k := 0))))) rfl dX9_turns_68 rfl (fun _ w68 => ?_)
  refine r_share (st2 := fun (_ : Unit) => []) (pc2 := 74) (fun hk => ?_) (fun x71 w71 => ?_)
  · refine r_dsp (fun c71 hc71 => ?_)
    refine r_dif (fun he => ?_) (fun _ => ?_)
    · subst he
      exact r_callV (n := 2) (as := [lR x61, lR ((some b64))]) (rest := []) 74 7 (s_X10_follows hl G x52 x61 ((some b64)) w68) hc71 rfl (lw_V q415 q416 q417 q131 q420) (by decide +kernel) (by decide) rfl rfl (cat2_nil (k := 0)) rfl dX9_turns_71 rfl hk
    refine r_dif (fun he => ?_) (fun _ => ?_)
    · subst he
      exact r_callU (x2 := ⟨"CoachTimetable$Event", "follows", "(LCoachTimetable$Event;LCoachTimetable$Lead;)V"⟩) (owner := "CoachTimetable$Event") (n := 2) (as := [lR x61, lR ((some b64))]) (rest := []) 74 9 (s_X10_follows hl G x52 x61 ((some b64)) w68) hc71 rfl (lw_app (l5 q415 q418 q419 q416 q131) (lw_meth q420)) rfl (by decide +kernel) (by decide) rfl rfl (cat2_nil (k := 0)) rfl dX9_turns_71 rfl hk
    exact r_bdn
  exact r_vret rfl rfl dX9_turns_74
theorem s_X9_turns {l : Launch} {D : Dn} {H0 : Heap} (hl : l.stackTraces = false) (G : Nat) (a0 : Rf) (a1 : Int32) (w : St) : SimN l D H0 yX9_turns (ws_ yX9_turns cX9_turns 4 none) 32 3047 rvU [lR a0, lI a1] w (f_X9_turns G a0 a1 w) := SimX.N (SimX.ofV (y := yX9_turns) (by decide) rfl (t_X9_turns hl G a0 a1 w))
abbrev V_X9_departureOf (l : Launch) (D : Dn) (H0 : Heap) (w0 : St) (res : Option (Rf × St)) (pc : Nat) (ls : List (Nat × LV)) (st : List Value) (w : St) : Prop := V l D H0 RX9 "departureOf" cX9_departureOf 4 (some (.object "CoachTimetable$Departure")) [] 32 3047 (fun x => .inr (rvR x)) w0 res pc ls st w
theorem t_X9_departureOf {l : Launch} {D : Dn} {H0 : Heap} {w0 : St} (hl : l.stackTraces = false) (G : Nat) (a0 : Rf) (a1 : Rf) (w : St) : V_X9_departureOf l D H0 w0 (f_X9_departureOf G a0 a1 w) 0 [(0, lR a0), (1, lR a1)] [] w := by
  unfold f_X9_departureOf
  refine r_aload_n 1 0 dX9_departureOf_0 rfl rfl rfl ?_
  refine r_aload_n 2 1 dX9_departureOf_1 rfl rfl rfl ?_
  refine r_geti 5 gf_X9_134 dX9_departureOf_2 rfl (fun x2 => ?_)
  refine r_aload_n 6 1 dX9_departureOf_5 rfl rfl rfl ?_
  refine r_geti 9 gf_X9_137 dX9_departureOf_6 rfl (fun x6 => ?_)
  refine r_gets (v := rf ((some (w.g 2)))) 12 1 rfl q551 dX9_departureOf_9 rfl ?_
  refine r_gd (fun hc12 => ?_)
  refine r_callV (n := 3) (as := [lI x2, lI x6, lR ((some (w.g 2)))]) (rest := []) 15 6 (s_X9_event hl G a0 x2 x6 ((some (w.g 2))) w) hc12 rfl (lw_V q552 q553 q554 q130 q555) (by decide +kernel) (by decide) rfl rfl (cat2_nil (k := 0)) rfl dX9_departureOf_12 rfl (fun x12 w12 => ?_)
  refine r_astore_n (ls2 := [(3, lR x12), (0, lR a0), (1, lR a1)]) 16 dX9_departureOf_15 rfl (by decide) rfl rfl ?_
  refine r_aload_n 17 0 dX9_departureOf_16 rfl rfl rfl ?_
  refine r_inst 20 (is_ture) (ns_ture) q501 dX9_departureOf_17 rfl (fun x17 => ?_)
  refine r_if_eq 32 23 dX9_departureOf_20 (by decide) rfl ?_ ?_
  · refine r_null 33 dX9_departureOf_32 rfl ?_
    exact r_aret rfl rfl (Or.inl ⟨_, rfl⟩) dX9_departureOf_33
  refine r_aload_n 24 0 dX9_departureOf_23 rfl rfl rfl ?_
  refine r_cast 27 (CA_cons (c0 := 9) rfl (Or.inl rfl) (CA_nil)) q501 dX9_departureOf_24 rfl ?_
  refine r_astore_n (ls2 := [(2, lR x12), (3, lR x12), (0, lR a0), (1, lR a1)]) 28 dX9_departureOf_27 rfl (by decide) rfl rfl ?_
  refine r_aload_n 29 0 dX9_departureOf_28 rfl rfl rfl ?_
  refine r_goto 33 dX9_departureOf_29 (by decide) ?_
  exact r_aret rfl rfl (Or.inl ⟨_, rfl⟩) dX9_departureOf_33
theorem s_X9_departureOf {l : Launch} {D : Dn} {H0 : Heap} (hl : l.stackTraces = false) (G : Nat) (a0 : Rf) (a1 : Rf) (w : St) : SimN l D H0 yX9_departureOf (ws_ yX9_departureOf cX9_departureOf 4 (some (.object "CoachTimetable$Departure"))) 32 3047 rvR [lR a0, lR a1] w (f_X9_departureOf G a0 a1 w) := SimX.N (SimX.ofV (y := yX9_departureOf) (by decide) rfl (t_X9_departureOf hl G a0 a1 w))
abbrev V_X15_init (l : Launch) (D : Dn) (H0 : Heap) (w0 : St) (res : Option (Unit × St)) (pc : Nat) (ls : List (Nat × LV)) (st : List Value) (w : St) : Prop := V l D H0 RX15 "<init>" cX15_init 3 none [] 1 20 (fun x => .inr (rvU x)) w0 res pc ls st w
theorem t_X15_init {l : Launch} {D : Dn} {H0 : Heap} {w0 : St} (hl : l.stackTraces = false) (G : Nat) (a0 : Nat) (a1 : Int32) (a2 : Int32) (w : St) : V_X15_init l D H0 w0 (f_X15_init G a0 a1 a2 w) 0 [(0, lR ((some a0))), (1, lI a1), (2, lI a2)] [] w := by
  unfold f_X15_init
  refine r_aload_n 1 0 dX15_init_0 rfl rfl rfl ?_
  refine r_objInit 4 q692 q154 q155 (by decide) (cat2_nil (k := 0)) rfl dX15_init_1 rfl ?_
  refine r_aload_n 5 0 dX15_init_4 rfl rfl rfl ?_
  refine r_iload_n 6 1 dX15_init_5 rfl rfl rfl ?_
  refine r_puti 9 pf_X15_7 dX15_init_6 rfl (fun w6 => ?_)
  refine r_aload_n 10 0 dX15_init_9 rfl rfl rfl ?_
  refine r_iload_n 11 2 dX15_init_10 rfl rfl rfl ?_
  refine r_puti 14 pf_X15_13 dX15_init_11 rfl (fun w11 => ?_)
  exact r_vret rfl rfl dX15_init_14
theorem s_X15_init {l : Launch} {D : Dn} {H0 : Heap} (hl : l.stackTraces = false) (G : Nat) (a0 : Nat) (a1 : Int32) (a2 : Int32) (w : St) : SimN l D H0 yX15_init (ws_ yX15_init cX15_init 3 none) 1 20 rvU [lR (some a0), lI a1, lI a2] w (f_X15_init G a0 a1 a2 w) := SimX.N (SimX.ofV (y := yX15_init) (by decide) rfl (t_X15_init hl G a0 a1 a2 w))
abbrev V_X12_waits (l : Launch) (D : Dn) (H0 : Heap) (w0 : St) (res : Option (Unit × St)) (pc : Nat) (ls : List (Nat × LV)) (st : List Value) (w : St) : Prop := V l D H0 RX12 "waits" cX12_waits 4 none [] 32 3043 (fun x => .inr (rvU x)) w0 res pc ls st w
theorem t_X12_waits_l0 {l : Launch} {D : Dn} {H0 : Heap} {w0 : St} (hl : l.stackTraces = false) (G : Nat) (k32 : Rf → Rf → Rf → Int32 → St → Option (Unit × St)) (h32 : ∀ v0 v1 v2 v3 w, V_X12_waits l D H0 w0 (k32 v0 v1 v2 v3 w) 32 [(0, lR v0), (1, lR v1), (2, lR v2), (3, lI v3)] [] w) : ∀ (F : Nat) (v0 : Rf) (v1 : Rf) (v2 : Rf) (v3 : Int32) (w : St), V_X12_waits l D H0 w0 (f_X12_waits_l0 G k32 F v0 v1 v2 v3 w) 0 [(0, lR v0), (1, lR v1), (2, lR v2), (3, lI v3)] [] w := by
  intro F
  induction F with
  | zero => intros; exact r_none
  | succ F ih =>
    intro v0 v1 v2 v3 w
    unfold f_X12_waits_l0
    refine r_aload_n 1 0 dX12_waits_0 rfl rfl rfl ?_
    refine r_getr 4 gf_X12_20 dX12_waits_1 rfl (fun x1 => ?_)
    refine r_gd (fun hc4 => ?_)
    refine r_callV (n := 0) (as := []) (rest := []) 7 15 (sL_size hl x1 w) hc4 rfl (lw_V q706 q303 q304 q104 q305) (by decide +kernel) (by decide) rfl rfl (cat2_nil (k := 0)) rfl dX12_waits_4 rfl (fun x4 w4 => ?_)
    refine r_aload_n 8 0 dX12_waits_7 rfl rfl rfl ?_
    refine r_getr 11 gf_X12_34 dX12_waits_8 rfl (fun x8 => ?_)
    refine r_gd (fun hc11 => ?_)
    refine r_callV (n := 0) (as := []) (rest := [.int x4]) 14 15 (sL_size hl x8 w4) hc11 rfl (lw_V q706 q303 q304 q104 q305) (by decide +kernel) (by decide) rfl rfl (cat2_i (cat2_nil (k := 0))) rfl dX12_waits_11 rfl (fun x11 w11 => ?_)
    refine r_icmp_ge 32 17 dX12_waits_14 (by decide) rfl ?_ ?_
    · exact r_lsP [0, 1, 2, 3] rfl (h32 v0 v1 v2 v3 w11)
    refine r_aload_n 18 0 dX12_waits_17 rfl rfl rfl ?_
    refine r_getr 21 gf_X12_20 dX12_waits_18 rfl (fun x18 => ?_)
    refine r_iconst (v := (-1)) 22 dX12_waits_21 rfl rfl ?_
    refine r_callS (n := 1) (as := [lI ((-1))]) (rest := [rf x18]) 25 (sN_valueOf hl ((-1)) w11) (lw_S q707 q708 q138 q709) (by decide +kernel) (by decide) rfl rfl (cat2_r (cat2_nil (k := 0))) rfl dX12_waits_22 rfl (fun x22 w22 => ?_)
    refine r_gd (fun hc25 => ?_)
    refine r_callV (n := 1) (as := [lR x22]) (rest := []) 28 15 (sL_add hl x18 x22 w22) hc25 rfl (lw_V q727 q422 q423 q104 q424) (by decide +kernel) (by decide) rfl rfl (cat2_nil (k := 0)) rfl dX12_waits_25 rfl (fun x25 w25 => ?_)
    refine r_pop_i 29 dX12_waits_28 rfl ?_
    refine r_goto 0 dX12_waits_29 (by decide) ?_
    exact r_lsP [0, 1, 2, 3] rfl (ih v0 v1 v2 v3 w25)
theorem t_X12_waits_b32 {l : Launch} {D : Dn} {H0 : Heap} {w0 : St} (hl : l.stackTraces = false) (G : Nat) (v0 : Rf) (v1 : Rf) (v2 : Rf) (v3 : Int32) (w : St) : V_X12_waits l D H0 w0 (f_X12_waits_b32 G v0 v1 v2 v3 w) 32 [(0, lR v0), (1, lR v1), (2, lR v2), (3, lI v3)] [] w := by
  unfold f_X12_waits_b32
  refine r_aload_n 33 0 dX12_waits_32 rfl rfl rfl ?_
  refine r_aload_n 34 1 dX12_waits_33 rfl rfl rfl ?_
  refine r_aload_n 35 2 dX12_waits_34 rfl rfl rfl ?_
  refine r_gd (fun hc35 => ?_)
  refine r_callU (x2 := ⟨"CoachTimetable$Departure", "follows", "(LCoachTimetable$Event;LCoachTimetable$Lead;)V"⟩) (owner := "CoachTimetable$Event") (n := 2) (as := [lR v1, lR v2]) (rest := []) 38 9 (s_X10_follows hl G v0 v1 v2 w) hc35 rfl (lw_app (l5 q728 q544 q546 q416 q131) (lw_meth q420)) rfl (by decide +kernel) (by decide) rfl rfl (cat2_nil (k := 0)) rfl dX12_waits_35 rfl (fun _ w35 => ?_)
  refine r_aload_n 39 0 dX12_waits_38 rfl rfl rfl ?_
  refine r_getr 42 gf_X12_20 dX12_waits_39 rfl (fun x39 => ?_)
  refine r_iload_n 43 3 dX12_waits_42 rfl rfl rfl ?_
  refine r_callS (n := 1) (as := [lI v3]) (rest := [rf x39]) 46 (sN_valueOf hl v3 w35) (lw_S q707 q708 q138 q709) (by decide +kernel) (by decide) rfl rfl (cat2_r (cat2_nil (k := 0))) rfl dX12_waits_43 rfl (fun x43 w43 => ?_)
  refine r_gd (fun hc46 => ?_)
  refine r_callV (n := 1) (as := [lR x43]) (rest := []) 49 15 (sL_add hl x39 x43 w43) hc46 rfl (lw_V q727 q422 q423 q104 q424) (by decide +kernel) (by decide) rfl rfl (cat2_nil (k := 0)) rfl dX12_waits_46 rfl (fun x46 w46 => ?_)
  refine r_pop_i 50 dX12_waits_49 rfl ?_
  exact r_vret rfl rfl dX12_waits_50
theorem t_X12_waits {l : Launch} {D : Dn} {H0 : Heap} {w0 : St} (hl : l.stackTraces = false) (G : Nat) (a0 : Rf) (a1 : Rf) (a2 : Rf) (a3 : Int32) (w : St) : V_X12_waits l D H0 w0 (f_X12_waits G a0 a1 a2 a3 w) 0 [(0, lR a0), (1, lR a1), (2, lR a2), (3, lI a3)] [] w := r_lsP [0, 1, 2, 3] rfl (t_X12_waits_l0 hl G (fun v0 v1 v2 v3 w => f_X12_waits_b32 G  v0 v1 v2 v3 w) (fun v0 v1 v2 v3 w => t_X12_waits_b32 hl G  v0 v1 v2 v3 w) G a0 a1 a2 a3 w)
theorem s_X12_waits {l : Launch} {D : Dn} {H0 : Heap} (hl : l.stackTraces = false) (G : Nat) (a0 : Rf) (a1 : Rf) (a2 : Rf) (a3 : Int32) (w : St) : SimN l D H0 yX12_waits (ws_ yX12_waits cX12_waits 4 none) 32 3043 rvU [lR a0, lR a1, lR a2, lI a3] w (f_X12_waits G a0 a1 a2 a3 w) := SimX.N (SimX.ofV (y := yX12_waits) (by decide) rfl (t_X12_waits hl G a0 a1 a2 a3 w))
abbrev V_X9_links (l : Launch) (D : Dn) (H0 : Heap) (w0 : St) (res : Option (Unit × St)) (pc : Nat) (ls : List (Nat × LV)) (st : List Value) (w : St) : Prop := V l D H0 RX9 "links" cX9_links 4 none [] 33 3070 (fun x => .inr (rvU x)) w0 res pc ls st w
theorem t_X9_links {l : Launch} {D : Dn} {H0 : Heap} {w0 : St} (hl : l.stackTraces = false) (G : Nat) (a0 : Rf) (a1 : Int32) (w : St) : V_X9_links l D H0 w0 (f_X9_links G a0 a1 w) 0 [(0, lR a0), (1, lI a1)] [] w := by
  unfold f_X9_links
  refine r_aload_n 1 0 dX9_links_0 rfl rfl rfl ?_
  refine r_getr 4 gf_X9_18 dX9_links_1 rfl (fun x1 => ?_)
  refine r_getr 7 gf_X9_42 dX9_links_4 rfl (fun x4 => ?_)
  refine r_iload_n 8 1 dX9_links_7 rfl rfl rfl ?_
  refine r_gd (fun hc8 => ?_)
  refine r_callV (n := 1) (as := [lI a1]) (rest := []) 11 15 (sL_get hl x4 a1 w) hc8 rfl (lw_V q310 q311 q312 q104 q313) (by decide +kernel) (by decide) rfl rfl (cat2_nil (k := 0)) rfl dX9_links_8 rfl (fun x8 w8 => ?_)
  refine r_cast 14 (CA_cons (c0 := 5) rfl (Or.inl rfl) (CA_nil)) q682 dX9_links_11 rfl ?_
  refine r_astore_n (ls2 := [(2, lR x8), (0, lR a0), (1, lI a1)]) 15 dX9_links_14 rfl (by decide) rfl rfl ?_
  refine r_aload_n 16 1 dX9_links_15 rfl rfl rfl ?_
  refine r_aload_n 17 0 dX9_links_16 rfl rfl rfl ?_
  refine r_gd (fun hc17 => ?_)
  refine r_callV (n := 1) (as := [lR x8]) (rest := []) 20 6 (s_X9_departureOf hl G a0 x8 w8) hc17 rfl (lw_V q683 q684 q685 q130 q686) (by decide +kernel) (by decide) rfl rfl (cat2_nil (k := 0)) rfl dX9_links_17 rfl (fun x17 w17 => ?_)
  refine r_astore_n (ls2 := [(3, lR x17), (2, lR x8), (0, lR a0), (1, lI a1)]) 21 dX9_links_20 rfl (by decide) rfl rfl ?_
  refine r_aload_n 22 0 dX9_links_21 rfl rfl rfl ?_
  refine r_aload_n 23 2 dX9_links_22 rfl rfl rfl ?_
  refine r_aload_n 24 1 dX9_links_23 rfl rfl rfl ?_
  refine r_geti 27 gf_X9_115 dX9_links_24 rfl (fun x24 => ?_)
  refine r_aload_n 28 1 dX9_links_27 rfl rfl rfl ?_
  refine r_geti 31 gf_X9_118 dX9_links_28 rfl (fun x28 => ?_)
  refine r_gets (v := rf ((some (w17.g 1)))) 34 0 rfl q328 dX9_links_31 rfl ?_
  refine r_gd (fun hc34 => ?_)
  refine r_callV (n := 3) (as := [lI x24, lI x28, lR ((some (w17.g 1)))]) (rest := [rf x17]) 37 6 (s_X9_event hl G a0 x24 x28 ((some (w17.g 1))) w17) hc34 rfl (lw_V q552 q553 q554 q130 q555) (by decide +kernel) (by decide) rfl rfl (cat2_r (cat2_nil (k := 0))) rfl dX9_links_34 rfl (fun x34 w34 => ?_)
  refine r_nw (C := RX15) (T := TX15) (N := 2) (ty := tyX15) 40 12 rfl rfl in_X15 tyX15_ok q687 q688 q136 rfl (by decide) dX9_links_37 rfl (fun b37 w37 => ?_)
  refine r_dup_r 41 dX9_links_40 rfl ?_
  refine r_iload_n 42 3 dX9_links_41 rfl rfl rfl ?_
  refine r_aload_n 43 1 dX9_links_42 rfl rfl rfl ?_
  refine r_geti 46 gf_X9_123 dX9_links_43 rfl (fun x43 => ?_)
  refine r_callI (b := b37) (n := 2) (as := [lI a1, lI x43]) (rest := [rf ((some b37)), rf x34, rf x17]) 49 (s_X15_init hl G b37 a1 x43 w37) (lw_meth q691) q136 q689 q690 rfl (by decide +kernel) (by decide) rfl rfl (cat2_r (cat2_r (cat2_r (cat2_nil (k := 0))))) rfl dX9_links_46 rfl (fun _ w46 => ?_)
  refine r_aload_n 50 1 dX9_links_49 rfl rfl rfl ?_
  refine r_geti 53 gf_X9_127 dX9_links_50 rfl (fun x50 => ?_)
  refine r_gd (fun hc53 => ?_)
  refine r_callV (n := 3) (as := [lR x34, lR ((some b37)), lI x50]) (rest := []) 56 9 (s_X12_waits hl G x17 x34 ((some b37)) x50 w46) hc53 rfl (lw_V q702 q703 q704 q133 q705) (by decide +kernel) (by decide) rfl rfl (cat2_nil (k := 0)) rfl dX9_links_53 rfl (fun _ w53 => ?_)
  exact r_vret rfl rfl dX9_links_56
theorem s_X9_links {l : Launch} {D : Dn} {H0 : Heap} (hl : l.stackTraces = false) (G : Nat) (a0 : Rf) (a1 : Int32) (w : St) : SimN l D H0 yX9_links (ws_ yX9_links cX9_links 4 none) 33 3070 rvU [lR a0, lI a1] w (f_X9_links G a0 a1 w) := SimX.N (SimX.ofV (y := yX9_links) (by decide) rfl (t_X9_links hl G a0 a1 w))
abbrev V_X9_init (l : Launch) (D : Dn) (H0 : Heap) (w0 : St) (res : Option (Unit × St)) (pc : Nat) (ls : List (Nat × LV)) (st : List Value) (w : St) : Prop := V l D H0 RX9 "<init>" cX9_init 4 none [] 34 3095 (fun x => .inr (rvU x)) w0 res pc ls st w
theorem t_X9_init_l27 {l : Launch} {D : Dn} {H0 : Heap} {w0 : St} (hl : l.stackTraces = false) (G : Nat) (k49 : Rf → Rf → St → Option (Unit × St)) (h49 : ∀ v0 v1 w, V_X9_init l D H0 w0 (k49 v0 v1 w) 49 [(0, lR v0), (1, lR v1)] [] w) : ∀ (F : Nat) (v0 : Rf) (v1 : Rf) (v3 : Int32) (w : St), V_X9_init l D H0 w0 (f_X9_init_l27 G k49 F v0 v1 v3 w) 27 [(0, lR v0), (1, lR v1), (3, lI v3)] [] w := by
  intro F
  induction F with
  | zero => intros; exact r_none
  | succ F ih =>
    intro v0 v1 v3 w
    unfold f_X9_init_l27
    refine r_iload_n 28 2 dX9_init_27 rfl rfl rfl ?_
    refine r_aload_n 29 1 dX9_init_28 rfl rfl rfl ?_
    refine r_getr 32 gf_X9_26 dX9_init_29 rfl (fun x29 => ?_)
    refine r_gd (fun hc32 => ?_)
    refine r_callV (n := 0) (as := []) (rest := [.int v3]) 35 15 (sL_size hl x29 w) hc32 rfl (lw_V q302 q303 q304 q104 q305) (by decide +kernel) (by decide) rfl rfl (cat2_i (cat2_nil (k := 0))) rfl dX9_init_32 rfl (fun x32 w32 => ?_)
    refine r_icmp_ge 49 38 dX9_init_35 (by decide) rfl ?_ ?_
    · exact r_lsP [0, 1] rfl (h49 v0 v1 w32)
    refine r_aload_n 39 0 dX9_init_38 rfl rfl rfl ?_
    refine r_iload_n 40 2 dX9_init_39 rfl rfl rfl ?_
    refine r_gd (fun hc40 => ?_)
    refine r_callV (n := 1) (as := [lI v3]) (rest := []) 43 6 (s_X9_adds hl G v0 v3 w32) hc40 rfl (lw_V q306 q308 qs1 q130 q309) (by decide +kernel) (by decide) rfl rfl (cat2_nil (k := 0)) rfl dX9_init_40 rfl (fun _ w40 => ?_)
    refine r_iinc (v := v3 + 1) (ls2 := [(3, lI (v3 + 1)), (0, lR v0), (1, lR v1)]) 46 2 dX9_init_43 rfl rfl (by decide) rfl rfl ?_
    refine r_goto 27 dX9_init_46 (by decide) ?_
    exact r_lsP [1, 2, 0] rfl (ih v0 v1 (v3 + 1) w40)
theorem t_X9_init_l51 {l : Launch} {D : Dn} {H0 : Heap} {w0 : St} (hl : l.stackTraces = false) (G : Nat) (k73 : Rf → Rf → St → Option (Unit × St)) (h73 : ∀ v0 v1 w, V_X9_init l D H0 w0 (k73 v0 v1 w) 73 [(0, lR v0), (1, lR v1)] [] w) : ∀ (F : Nat) (v0 : Rf) (v1 : Rf) (v3 : Int32) (w : St), V_X9_init l D H0 w0 (f_X9_init_l51 G k73 F v0 v1 v3 w) 51 [(0, lR v0), (1, lR v1), (3, lI v3)] [] w := by
  intro F
  induction F with
  | zero => intros; exact r_none
  | succ F ih =>
    intro v0 v1 v3 w
    unfold f_X9_init_l51
    refine r_iload_n 52 2 dX9_init_51 rfl rfl rfl ?_
    refine r_aload_n 53 1 dX9_init_52 rfl rfl rfl ?_
    refine r_getr 56 gf_X9_26 dX9_init_53 rfl (fun x53 => ?_)
    refine r_gd (fun hc56 => ?_)
    refine r_callV (n := 0) (as := []) (rest := [.int v3]) 59 15 (sL_size hl x53 w) hc56 rfl (lw_V q302 q303 q304 q104 q305) (by decide +kernel) (by decide) rfl rfl (cat2_i (cat2_nil (k := 0))) rfl dX9_init_56 rfl (fun x56 w56 => ?_)
    refine r_icmp_ge 73 62 dX9_init_59 (by decide) rfl ?_ ?_
    · exact r_lsP [0, 1] rfl (h73 v0 v1 w56)
    refine r_aload_n 63 0 dX9_init_62 rfl rfl rfl ?_
    refine r_iload_n 64 2 dX9_init_63 rfl rfl rfl ?_
    refine r_gd (fun hc64 => ?_)
    refine r_callV (n := 1) (as := [lI v3]) (rest := []) 67 6 (s_X9_turns hl G v0 v3 w56) hc64 rfl (lw_V q547 q549 qs5 q130 q550) (by decide +kernel) (by decide) rfl rfl (cat2_nil (k := 0)) rfl dX9_init_64 rfl (fun _ w64 => ?_)
    refine r_iinc (v := v3 + 1) (ls2 := [(3, lI (v3 + 1)), (0, lR v0), (1, lR v1)]) 70 2 dX9_init_67 rfl rfl (by decide) rfl rfl ?_
    refine r_goto 51 dX9_init_70 (by decide) ?_
    exact r_lsP [1, 2, 0] rfl (ih v0 v1 (v3 + 1) w64)
theorem t_X9_init_l75 {l : Launch} {D : Dn} {H0 : Heap} {w0 : St} (hl : l.stackTraces = false) (G : Nat) (k97 : St → Option (Unit × St)) (h97 : ∀ w, V_X9_init l D H0 w0 (k97 w) 97 [] [] w) : ∀ (F : Nat) (v0 : Rf) (v1 : Rf) (v3 : Int32) (w : St), V_X9_init l D H0 w0 (f_X9_init_l75 G k97 F v0 v1 v3 w) 75 [(0, lR v0), (1, lR v1), (3, lI v3)] [] w := by
  intro F
  induction F with
  | zero => intros; exact r_none
  | succ F ih =>
    intro v0 v1 v3 w
    unfold f_X9_init_l75
    refine r_iload_n 76 2 dX9_init_75 rfl rfl rfl ?_
    refine r_aload_n 77 1 dX9_init_76 rfl rfl rfl ?_
    refine r_getr 80 gf_X9_42 dX9_init_77 rfl (fun x77 => ?_)
    refine r_gd (fun hc80 => ?_)
    refine r_callV (n := 0) (as := []) (rest := [.int v3]) 83 15 (sL_size hl x77 w) hc80 rfl (lw_V q302 q303 q304 q104 q305) (by decide +kernel) (by decide) rfl rfl (cat2_i (cat2_nil (k := 0))) rfl dX9_init_80 rfl (fun x80 w80 => ?_)
    refine r_icmp_ge 97 86 dX9_init_83 (by decide) rfl ?_ ?_
    · exact r_lsP [] rfl (h97 w80)
    refine r_aload_n 87 0 dX9_init_86 rfl rfl rfl ?_
    refine r_iload_n 88 2 dX9_init_87 rfl rfl rfl ?_
    refine r_gd (fun hc88 => ?_)
    refine r_callV (n := 1) (as := [lI v3]) (rest := []) 91 6 (s_X9_links hl G v0 v3 w80) hc88 rfl (lw_V q678 q680 qs7 q130 q681) (by decide +kernel) (by decide) rfl rfl (cat2_nil (k := 0)) rfl dX9_init_88 rfl (fun _ w88 => ?_)
    refine r_iinc (v := v3 + 1) (ls2 := [(3, lI (v3 + 1)), (0, lR v0), (1, lR v1)]) 94 2 dX9_init_91 rfl rfl (by decide) rfl rfl ?_
    refine r_goto 75 dX9_init_94 (by decide) ?_
    exact r_lsP [1, 2, 0] rfl (ih v0 v1 (v3 + 1) w88)
theorem t_X9_init_b97 {l : Launch} {D : Dn} {H0 : Heap} {w0 : St} (hl : l.stackTraces = false) (G : Nat) (w : St) : V_X9_init l D H0 w0 (f_X9_init_b97 G  w) 97 [] [] w := by
  unfold f_X9_init_b97
  exact r_vret rfl rfl dX9_init_97
theorem t_X9_init_b73 {l : Launch} {D : Dn} {H0 : Heap} {w0 : St} (hl : l.stackTraces = false) (G : Nat) (v0 : Rf) (v1 : Rf) (w : St) : V_X9_init l D H0 w0 (f_X9_init_b73 G v0 v1 w) 73 [(0, lR v0), (1, lR v1)] [] w := by
  unfold f_X9_init_b73
  refine r_iconst (v := 0) 74 dX9_init_73 rfl rfl ?_
  refine r_istore_n (ls2 := [(3, lI 0), (0, lR v0), (1, lR v1)]) 75 dX9_init_74 rfl (by decide) rfl rfl ?_
  exact r_lsP [1, 2, 0] rfl (t_X9_init_l75 hl G (fun w => f_X9_init_b97 G  w) (fun w => t_X9_init_b97 hl G  w) G v0 v1 0 w)
theorem t_X9_init_b49 {l : Launch} {D : Dn} {H0 : Heap} {w0 : St} (hl : l.stackTraces = false) (G : Nat) (v0 : Rf) (v1 : Rf) (w : St) : V_X9_init l D H0 w0 (f_X9_init_b49 G v0 v1 w) 49 [(0, lR v0), (1, lR v1)] [] w := by
  unfold f_X9_init_b49
  refine r_iconst (v := 0) 50 dX9_init_49 rfl rfl ?_
  refine r_istore_n (ls2 := [(3, lI 0), (0, lR v0), (1, lR v1)]) 51 dX9_init_50 rfl (by decide) rfl rfl ?_
  exact r_lsP [1, 2, 0] rfl (t_X9_init_l51 hl G (fun v0 v1 w => f_X9_init_b73 G  v0 v1 w) (fun v0 v1 w => t_X9_init_b73 hl G  v0 v1 w) G v0 v1 0 w)
theorem t_X9_init {l : Launch} {D : Dn} {H0 : Heap} {w0 : St} (hl : l.stackTraces = false) (G : Nat) (a0 : Nat) (a1 : Rf) (a2 : Int32) (w : St) : V_X9_init l D H0 w0 (f_X9_init G a0 a1 a2 w) 0 [(0, lR ((some a0))), (1, lR a1), (2, lI a2)] [] w := by
  unfold f_X9_init
  refine r_aload_n 1 0 dX9_init_0 rfl rfl rfl ?_
  refine r_objInit 4 q299 q154 q155 (by decide) (cat2_nil (k := 0)) rfl dX9_init_1 rfl ?_
  refine r_aload_n 5 0 dX9_init_4 rfl rfl rfl ?_
  refine r_nw (C := RJ2) (T := TJ2) (N := 3) (ty := tyJ2) 8 15 rfl rfl in_J2 tyJ2_ok q300 q163 q104 rfl (by decide) dX9_init_5 rfl (fun b5 w5 => ?_)
  refine r_dup_r 9 dX9_init_8 rfl ?_
  refine r_callI (b := b5) (n := 0) (as := []) (rest := [rf ((some b5)), rf ((some a0))]) 12 (sL_init hl b5 w5) (lw_meth q166) q104 q301 q165 rfl (by decide +kernel) (by decide) rfl rfl (cat2_r (cat2_r (cat2_nil (k := 0)))) rfl dX9_init_9 rfl (fun _ w9 => ?_)
  refine r_putr 15 pf_X9_12 (Or.inl ⟨_, rfl⟩) dX9_init_12 rfl (fun w12 => ?_)
  refine r_aload_n 16 0 dX9_init_15 rfl rfl rfl ?_
  refine r_aload_n 17 1 dX9_init_16 rfl rfl rfl ?_
  refine r_putr 20 pf_X9_18 (Or.inl ⟨_, rfl⟩) dX9_init_17 rfl (fun w17 => ?_)
  refine r_aload_n 21 0 dX9_init_20 rfl rfl rfl ?_
  refine r_iload_n 22 2 dX9_init_21 rfl rfl rfl ?_
  refine r_puti 25 pf_X9_22 dX9_init_22 rfl (fun w22 => ?_)
  refine r_iconst (v := 0) 26 dX9_init_25 rfl rfl ?_
  refine r_istore_n (ls2 := [(3, lI 0), (0, lR ((some a0))), (1, lR a1), (2, lI a2)]) 27 dX9_init_26 rfl (by decide) rfl rfl ?_
  exact r_lsP [1, 2, 0] rfl (t_X9_init_l27 hl G (fun v0 v1 w => f_X9_init_b49 G  v0 v1 w) (fun v0 v1 w => t_X9_init_b49 hl G  v0 v1 w) G ((some a0)) a1 0 w22)
theorem s_X9_init {l : Launch} {D : Dn} {H0 : Heap} (hl : l.stackTraces = false) (G : Nat) (a0 : Nat) (a1 : Rf) (a2 : Int32) (w : St) : SimN l D H0 yX9_init (ws_ yX9_init cX9_init 4 none) 34 3095 rvU [lR (some a0), lR a1, lI a2] w (f_X9_init G a0 a1 a2 w) := SimX.N (SimX.ofV (y := yX9_init) (by decide) rfl (t_X9_init hl G a0 a1 a2 w))
abbrev V_X10_key (l : Launch) (D : Dn) (H0 : Heap) (w0 : St) (res : Option (Int32 × St)) (pc : Nat) (ls : List (Nat × LV)) (st : List Value) (w : St) : Prop := V l D H0 RX10 "key" cX10_key 1 (some (.int)) [] 0 0 (fun x => .inr (rvI x)) w0 res pc ls st w
theorem t_X10_key {l : Launch} {D : Dn} {H0 : Heap} {w0 : St} (hl : l.stackTraces = false) (G : Nat) (a0 : Rf) (w : St) : V_X10_key l D H0 w0 (f_X10_key G a0 w) 0 [(0, lR a0)] [] w := by
  unfold f_X10_key
  refine r_bipush (v := 20) 2 dX10_key_0 rfl rfl ?_
  refine r_aload_n 3 0 dX10_key_2 rfl rfl rfl ?_
  refine r_geti 6 gf_X10_21 dX10_key_3 rfl (fun x3 => ?_)
  refine r_imul 7 dX10_key_6 rfl ?_
  refine r_iconst (v := 2) 8 dX10_key_7 rfl rfl ?_
  refine r_aload_n 9 0 dX10_key_8 rfl rfl rfl ?_
  refine r_geti 12 gf_X10_25 dX10_key_9 rfl (fun x9 => ?_)
  refine r_imul 13 dX10_key_12 rfl ?_
  refine r_iadd 14 dX10_key_13 rfl ?_
  refine r_aload_n 15 0 dX10_key_14 rfl rfl rfl ?_
  refine r_getr 18 gf_X10_28 dX10_key_15 rfl (fun x15 => ?_)
  refine r_gets (v := rf ((some (w.g 1)))) 21 0 rfl q753 dX10_key_18 rfl ?_
  refine r_acmp_ne 28 24 dX10_key_21 (by decide) rfl ?_ ?_
  · refine r_iconst (v := 1) 29 dX10_key_28 rfl rfl ?_
    refine r_iadd 30 dX10_key_29 rfl ?_
    exact r_iret rfl rfl dX10_key_30
  refine r_iconst (v := 0) 25 dX10_key_24 rfl rfl ?_
  refine r_goto 29 dX10_key_25 (by decide) ?_
  refine r_iadd 30 dX10_key_29 rfl ?_
  exact r_iret rfl rfl dX10_key_30
theorem s_X10_key {l : Launch} {D : Dn} {H0 : Heap} (hl : l.stackTraces = false) (G : Nat) (a0 : Rf) (w : St) : SimN l D H0 yX10_key (ws_ yX10_key cX10_key 1 (some (.int))) 0 0 rvI [lR a0] w (f_X10_key G a0 w) := SimX.N (SimX.ofV (y := yX10_key) (by decide) rfl (t_X10_key hl G a0 w))
abbrev V_X9_isAhead (l : Launch) (D : Dn) (H0 : Heap) (w0 : St) (res : Option (Int32 × St)) (pc : Nat) (ls : List (Nat × LV)) (st : List Value) (w : St) : Prop := V l D H0 RX9 "isAhead" cX9_isAhead 3 (some (.boolean)) [] 1 20 (fun x => .inr (rvI x)) w0 res pc ls st w
theorem t_X9_isAhead_b60 {l : Launch} {D : Dn} {H0 : Heap} {w0 : St} (hl : l.stackTraces = false) (G : Nat) (v0 : Rf) (v1 : Rf) (v2 : Int32) (s0 : Int32) (s1 : Int32) (w : St) : V_X9_isAhead l D H0 w0 (f_X9_isAhead_b60 G v0 v1 v2 s0 s1 w) 60 [(0, lR v0), (1, lR v1), (2, lI v2)] [.int s0, .int s1] w := by
  unfold f_X9_isAhead_b60
  refine r_icmp_eq 67 63 dX9_isAhead_60 (by decide) rfl ?_ ?_
  · refine r_aload_n 68 0 dX9_isAhead_67 rfl rfl rfl ?_
    refine r_share (st2 := fun x68 => [.int x68]) (pc2 := 71) (fun hk => ?_) (fun x68 w68 => ?_)
    · refine r_dsp (fun c68 hc68 => ?_)
      refine r_dif (fun he => ?_) (fun _ => ?_)
      · subst he
        exact r_callV (n := 0) (as := []) (rest := []) 71 7 (s_X10_key hl G v0 w) hc68 rfl (lw_V q747 q748 q749 q131 q752) (by decide +kernel) (by decide) rfl rfl (cat2_nil (k := 0)) rfl dX9_isAhead_68 rfl hk
      refine r_dif (fun he => ?_) (fun _ => ?_)
      · subst he
        exact r_callU (x2 := ⟨"CoachTimetable$Event", "key", "()I"⟩) (owner := "CoachTimetable$Event") (n := 0) (as := []) (rest := []) 71 9 (s_X10_key hl G v0 w) hc68 rfl (lw_app (l5 q747 q750 q751 q748 q131) (lw_meth q752)) rfl (by decide +kernel) (by decide) rfl rfl (cat2_nil (k := 0)) rfl dX9_isAhead_68 rfl hk
      exact r_bdn
    refine r_aload_n 72 1 dX9_isAhead_71 rfl rfl rfl ?_
    refine r_share (st2 := fun x72 => [.int x72, .int x68]) (pc2 := 75) (fun hk => ?_) (fun x72 w72 => ?_)
    · refine r_dsp (fun c72 hc72 => ?_)
      refine r_dif (fun he => ?_) (fun _ => ?_)
      · subst he
        exact r_callV (n := 0) (as := []) (rest := [.int x68]) 75 7 (s_X10_key hl G v1 w68) hc72 rfl (lw_V q747 q748 q749 q131 q752) (by decide +kernel) (by decide) rfl rfl (cat2_i (cat2_nil (k := 0))) rfl dX9_isAhead_72 rfl hk
      refine r_dif (fun he => ?_) (fun _ => ?_)
      · subst he
        exact r_callU (x2 := ⟨"CoachTimetable$Event", "key", "()I"⟩) (owner := "CoachTimetable$Event") (n := 0) (as := []) (rest := [.int x68]) 75 9 (s_X10_key hl G v1 w68) hc72 rfl (lw_app (l5 q747 q750 q751 q748 q131) (lw_meth q752)) rfl (by decide +kernel) (by decide) rfl rfl (cat2_i (cat2_nil (k := 0))) rfl dX9_isAhead_72 rfl hk
      exact r_bdn
    refine r_icmp_ge 82 78 dX9_isAhead_75 (by decide) rfl ?_ ?_
    · refine r_iconst (v := 0) 83 dX9_isAhead_82 rfl rfl ?_
      exact r_zret rfl rfl rfl dX9_isAhead_83
    refine r_iconst (v := 1) 79 dX9_isAhead_78 rfl rfl ?_
    refine r_goto 83 dX9_isAhead_79 (by decide) ?_
    exact r_zret rfl rfl rfl dX9_isAhead_83
  refine r_iload_n 64 2 dX9_isAhead_63 rfl rfl rfl ?_
  refine r_goto 83 dX9_isAhead_64 (by decide) ?_
  exact r_zretG rfl rfl dX9_isAhead_83
theorem t_X9_isAhead_b43 {l : Launch} {D : Dn} {H0 : Heap} {w0 : St} (hl : l.stackTraces = false) (G : Nat) (v0 : Rf) (v1 : Rf) (s0 : Int32) (w : St) : V_X9_isAhead l D H0 w0 (f_X9_isAhead_b43 G v0 v1 s0 w) 43 [(0, lR v0), (1, lR v1)] [.int s0] w := by
  unfold f_X9_isAhead_b43
  refine r_istore_n (ls2 := [(2, lI s0), (0, lR v0), (1, lR v1)]) 44 dX9_isAhead_43 rfl (by decide) rfl rfl ?_
  refine r_iload_n 45 0 dX9_isAhead_44 rfl rfl rfl ?_
  refine r_aload_n 46 2 dX9_isAhead_45 rfl rfl rfl ?_
  refine r_getr 49 gf_X9_156 dX9_isAhead_46 rfl (fun x46 => ?_)
  refine r_gets (v := rf ((some (w.g 1)))) 52 0 rfl q328 dX9_isAhead_49 rfl ?_
  refine r_acmp_ne 59 55 dX9_isAhead_52 (by decide) rfl ?_ ?_
  · refine r_iconst (v := 0) 60 dX9_isAhead_59 rfl rfl ?_
    exact r_lsP [1, 2, 0] rfl (t_X9_isAhead_b60 hl G  v0 v1 s0 0 s0 w)
  refine r_iconst (v := 1) 56 dX9_isAhead_55 rfl rfl ?_
  refine r_goto 60 dX9_isAhead_56 (by decide) ?_
  exact r_lsP [1, 2, 0] rfl (t_X9_isAhead_b60 hl G  v0 v1 s0 1 s0 w)
theorem t_X9_isAhead {l : Launch} {D : Dn} {H0 : Heap} {w0 : St} (hl : l.stackTraces = false) (G : Nat) (a0 : Rf) (a1 : Rf) (w : St) : V_X9_isAhead l D H0 w0 (f_X9_isAhead G a0 a1 w) 0 [(0, lR a0), (1, lR a1)] [] w := by
  unfold f_X9_isAhead
  refine r_aload_n 1 0 dX9_isAhead_0 rfl rfl rfl ?_
  refine r_geti 4 gf_X9_159 dX9_isAhead_1 rfl (fun x1 => ?_)
  refine r_aload_n 5 1 dX9_isAhead_4 rfl rfl rfl ?_
  refine r_geti 8 gf_X9_159 dX9_isAhead_5 rfl (fun x5 => ?_)
  refine r_icmp_eq 28 11 dX9_isAhead_8 (by decide) rfl ?_ ?_
  · refine r_aload_n 29 0 dX9_isAhead_28 rfl rfl rfl ?_
    refine r_getr 32 gf_X9_156 dX9_isAhead_29 rfl (fun x29 => ?_)
    refine r_gets (v := rf ((some (w.g 1)))) 35 0 rfl q328 dX9_isAhead_32 rfl ?_
    refine r_acmp_ne 42 38 dX9_isAhead_35 (by decide) rfl ?_ ?_
    · refine r_iconst (v := 0) 43 dX9_isAhead_42 rfl rfl ?_
      exact r_lsP [0, 1] rfl (t_X9_isAhead_b43 hl G  a0 a1 0 w)
    refine r_iconst (v := 1) 39 dX9_isAhead_38 rfl rfl ?_
    refine r_goto 43 dX9_isAhead_39 (by decide) ?_
    exact r_lsP [0, 1] rfl (t_X9_isAhead_b43 hl G  a0 a1 1 w)
  refine r_aload_n 12 0 dX9_isAhead_11 rfl rfl rfl ?_
  refine r_geti 15 gf_X9_159 dX9_isAhead_12 rfl (fun x12 => ?_)
  refine r_aload_n 16 1 dX9_isAhead_15 rfl rfl rfl ?_
  refine r_geti 19 gf_X9_159 dX9_isAhead_16 rfl (fun x16 => ?_)
  refine r_icmp_ge 26 22 dX9_isAhead_19 (by decide) rfl ?_ ?_
  · refine r_iconst (v := 0) 27 dX9_isAhead_26 rfl rfl ?_
    exact r_zret rfl rfl rfl dX9_isAhead_27
  refine r_iconst (v := 1) 23 dX9_isAhead_22 rfl rfl ?_
  refine r_goto 27 dX9_isAhead_23 (by decide) ?_
  exact r_zret rfl rfl rfl dX9_isAhead_27
theorem s_X9_isAhead {l : Launch} {D : Dn} {H0 : Heap} (hl : l.stackTraces = false) (G : Nat) (a0 : Rf) (a1 : Rf) (w : St) : SimN l D H0 yX9_isAhead (ws_ yX9_isAhead cX9_isAhead 3 (some (.boolean))) 1 20 rvI [lR a0, lR a1] w (f_X9_isAhead G a0 a1 w) := SimX.N (SimX.ofV (y := yX9_isAhead) (by decide) rfl (t_X9_isAhead hl G a0 a1 w))
abbrev V_X1_causeOf (l : Launch) (D : Dn) (H0 : Heap) (w0 : St) (res : Option (Int32 × St)) (pc : Nat) (ls : List (Nat × LV)) (st : List Value) (w : St) : Prop := V l D H0 RX1 "causeOf" cX1_causeOf 1 (some (.int)) [] 0 0 (fun x => .inr (rvI x)) w0 res pc ls st w
theorem t_X1_causeOf {l : Launch} {D : Dn} {H0 : Heap} {w0 : St} (hl : l.stackTraces = false) (G : Nat) (a0 : Rf) (w : St) : V_X1_causeOf l D H0 w0 (f_X1_causeOf G a0 w) 0 [(0, lR a0)] [] w := by
  unfold f_X1_causeOf
  refine r_aload_n 1 0 dX1_causeOf_0 rfl rfl rfl ?_
  refine r_inst 4 (is_Wait) (ns_Wait) q817 dX1_causeOf_1 rfl (fun x1 => ?_)
  refine r_if_eq 9 7 dX1_causeOf_4 (by decide) rfl ?_ ?_
  · refine r_aload_n 10 0 dX1_causeOf_9 rfl rfl rfl ?_
    refine r_inst 13 (is_Turn) (ns_Turn) q818 dX1_causeOf_10 rfl (fun x10 => ?_)
    refine r_if_eq 20 16 dX1_causeOf_13 (by decide) rfl ?_ ?_
    · refine r_iconst (v := 1) 21 dX1_causeOf_20 rfl rfl ?_
      exact r_iret rfl rfl dX1_causeOf_21
    refine r_iconst (v := 2) 17 dX1_causeOf_16 rfl rfl ?_
    refine r_goto 21 dX1_causeOf_17 (by decide) ?_
    exact r_iret rfl rfl dX1_causeOf_21
  refine r_iconst (v := 3) 8 dX1_causeOf_7 rfl rfl ?_
  exact r_iret rfl rfl dX1_causeOf_8
theorem s_X1_causeOf {l : Launch} {D : Dn} {H0 : Heap} (hl : l.stackTraces = false) (G : Nat) (a0 : Rf) (w : St) : SimN l D H0 yX1_causeOf (ws_ yX1_causeOf cX1_causeOf 1 (some (.int))) 0 0 rvI [lR a0] w (f_X1_causeOf G a0 w) := SimX.N (SimX.ofV (y := yX1_causeOf) (by decide) rfl (t_X1_causeOf hl G a0 w))
abbrev V_X10_becomes (l : Launch) (D : Dn) (H0 : Heap) (w0 : St) (res : Option (Unit × St)) (pc : Nat) (ls : List (Nat × LV)) (st : List Value) (w : St) : Prop := V l D H0 RX10 "becomes" cX10_becomes 4 none [] 1 20 (fun x => .inr (rvU x)) w0 res pc ls st w
theorem t_X10_becomes {l : Launch} {D : Dn} {H0 : Heap} {w0 : St} (hl : l.stackTraces = false) (G : Nat) (a0 : Rf) (a1 : Int32) (a2 : Rf) (w : St) : V_X10_becomes l D H0 w0 (f_X10_becomes G a0 a1 a2 w) 0 [(0, lR a0), (1, lI a1), (2, lR a2)] [] w := by
  unfold f_X10_becomes
  refine r_iload_n 1 1 dX10_becomes_0 rfl rfl rfl ?_
  refine r_aload_n 2 0 dX10_becomes_1 rfl rfl rfl ?_
  refine r_geti 5 gf_X10_65 dX10_becomes_2 rfl (fun x2 => ?_)
  refine r_icmp_le 45 8 dX10_becomes_5 (by decide) rfl ?_ ?_
  · exact r_vret rfl rfl dX10_becomes_45
  refine r_aload_n 9 0 dX10_becomes_8 rfl rfl rfl ?_
  refine r_iload_n 10 1 dX10_becomes_9 rfl rfl rfl ?_
  refine r_puti 13 pf_X10_65 dX10_becomes_10 rfl (fun w10 => ?_)
  refine r_aload_n 14 0 dX10_becomes_13 rfl rfl rfl ?_
  refine r_aload_n 15 2 dX10_becomes_14 rfl rfl rfl ?_
  refine r_callNS (n := 1) (as := [lR a2]) (rest := [rf a0]) 18 (s_X1_causeOf hl G a2 w10) (lw_meth q816) q814 q100 q815 (by decide +kernel) (by decide) rfl rfl (cat2_r (cat2_nil (k := 0))) rfl dX10_becomes_15 rfl (fun x15 w15 => ?_)
  refine r_puti 21 pf_X10_72 dX10_becomes_18 rfl (fun w18 => ?_)
  refine r_aload_n 22 0 dX10_becomes_21 rfl rfl rfl ?_
  refine r_aload_n 23 2 dX10_becomes_22 rfl rfl rfl ?_
  refine r_inst 26 (is_Wait) (ns_Wait) q771 dX10_becomes_23 rfl (fun x23 => ?_)
  refine r_if_eq 41 29 dX10_becomes_26 (by decide) rfl ?_ ?_
  · refine r_iconst (v := (-1)) 42 dX10_becomes_41 rfl rfl ?_
    refine r_puti 45 pf_X10_80 dX10_becomes_42 rfl (fun w42 => ?_)
    exact r_vret rfl rfl dX10_becomes_45
  refine r_aload_n 30 2 dX10_becomes_29 rfl rfl rfl ?_
  refine r_cast 33 (CA_cons (c0 := 12) rfl (Or.inl rfl) (CA_nil)) q771 dX10_becomes_30 rfl ?_
  refine r_astore_n (ls2 := [(3, lR a2), (0, lR a0), (1, lI a1), (2, lR a2)]) 34 dX10_becomes_33 rfl (by decide) rfl rfl ?_
  refine r_aload_n 35 0 dX10_becomes_34 rfl rfl rfl ?_
  refine r_geti 38 gf_X10_77 dX10_becomes_35 rfl (fun x35 => ?_)
  refine r_goto 42 dX10_becomes_38 (by decide) ?_
  refine r_puti 45 pf_X10_80 dX10_becomes_42 rfl (fun w42 => ?_)
  exact r_vret rfl rfl dX10_becomes_45
theorem s_X10_becomes {l : Launch} {D : Dn} {H0 : Heap} (hl : l.stackTraces = false) (G : Nat) (a0 : Rf) (a1 : Int32) (a2 : Rf) (w : St) : SimN l D H0 yX10_becomes (ws_ yX10_becomes cX10_becomes 4 none) 1 20 rvU [lR a0, lI a1, lR a2] w (f_X10_becomes G a0 a1 a2 w) := SimX.N (SimX.ofV (y := yX10_becomes) (by decide) rfl (t_X10_becomes hl G a0 a1 a2 w))
abbrev V_X11_due (l : Launch) (D : Dn) (H0 : Heap) (w0 : St) (res : Option (Int32 × St)) (pc : Nat) (ls : List (Nat × LV)) (st : List Value) (w : St) : Prop := V l D H0 RX11 "due" cX11_due 2 (some (.int)) [] 0 0 (fun x => .inr (rvI x)) w0 res pc ls st w
theorem t_X11_due {l : Launch} {D : Dn} {H0 : Heap} {w0 : St} (hl : l.stackTraces = false) (G : Nat) (a0 : Rf) (a1 : Int32) (w : St) : V_X11_due l D H0 w0 (f_X11_due G a0 a1 w) 0 [(0, lR a0), (1, lI a1)] [] w := by
  unfold f_X11_due
  refine r_iload_n 1 1 dX11_due_0 rfl rfl rfl ?_
  refine r_aload_n 2 0 dX11_due_1 rfl rfl rfl ?_
  refine r_geti 5 gf_X11_7 dX11_due_2 rfl (fun x2 => ?_)
  refine r_iadd 6 dX11_due_5 rfl ?_
  exact r_iret rfl rfl dX11_due_6
theorem s_X11_due {l : Launch} {D : Dn} {H0 : Heap} (hl : l.stackTraces = false) (G : Nat) (a0 : Rf) (a1 : Int32) (w : St) : SimN l D H0 yX11_due (ws_ yX11_due cX11_due 2 (some (.int))) 0 0 rvI [lR a0, lI a1] w (f_X11_due G a0 a1 w) := SimX.N (SimX.ofV (y := yX11_due) (by decide) rfl (t_X11_due hl G a0 a1 w))
abbrev V_X13_due (l : Launch) (D : Dn) (H0 : Heap) (w0 : St) (res : Option (Int32 × St)) (pc : Nat) (ls : List (Nat × LV)) (st : List Value) (w : St) : Prop := V l D H0 RX13 "due" cX13_due 2 (some (.int)) [] 0 0 (fun x => .inr (rvI x)) w0 res pc ls st w
theorem t_X13_due {l : Launch} {D : Dn} {H0 : Heap} {w0 : St} (hl : l.stackTraces = false) (G : Nat) (a0 : Rf) (a1 : Int32) (w : St) : V_X13_due l D H0 w0 (f_X13_due G a0 a1 w) 0 [(0, lR a0), (1, lI a1)] [] w := by
  unfold f_X13_due
  refine r_iload_n 1 1 dX13_due_0 rfl rfl rfl ?_
  refine r_aload_n 2 0 dX13_due_1 rfl rfl rfl ?_
  refine r_geti 5 gf_X13_7 dX13_due_2 rfl (fun x2 => ?_)
  refine r_iadd 6 dX13_due_5 rfl ?_
  exact r_iret rfl rfl dX13_due_6
theorem s_X13_due {l : Launch} {D : Dn} {H0 : Heap} (hl : l.stackTraces = false) (G : Nat) (a0 : Rf) (a1 : Int32) (w : St) : SimN l D H0 yX13_due (ws_ yX13_due cX13_due 2 (some (.int))) 0 0 rvI [lR a0, lI a1] w (f_X13_due G a0 a1 w) := SimX.N (SimX.ofV (y := yX13_due) (by decide) rfl (t_X13_due hl G a0 a1 w))
abbrev V_X14_due (l : Launch) (D : Dn) (H0 : Heap) (w0 : St) (res : Option (Int32 × St)) (pc : Nat) (ls : List (Nat × LV)) (st : List Value) (w : St) : Prop := V l D H0 RX14 "due" cX14_due 2 (some (.int)) [] 0 0 (fun x => .inr (rvI x)) w0 res pc ls st w
theorem t_X14_due {l : Launch} {D : Dn} {H0 : Heap} {w0 : St} (hl : l.stackTraces = false) (G : Nat) (a0 : Rf) (a1 : Int32) (w : St) : V_X14_due l D H0 w0 (f_X14_due G a0 a1 w) 0 [(0, lR a0), (1, lI a1)] [] w := by
  unfold f_X14_due
  refine r_iload_n 1 1 dX14_due_0 rfl rfl rfl ?_
  refine r_bipush (v := 10) 3 dX14_due_1 rfl rfl ?_
  refine r_iadd 4 dX14_due_3 rfl ?_
  exact r_iret rfl rfl dX14_due_4
theorem s_X14_due {l : Launch} {D : Dn} {H0 : Heap} (hl : l.stackTraces = false) (G : Nat) (a0 : Rf) (a1 : Int32) (w : St) : SimN l D H0 yX14_due (ws_ yX14_due cX14_due 2 (some (.int))) 0 0 rvI [lR a0, lI a1] w (f_X14_due G a0 a1 w) := SimX.N (SimX.ofV (y := yX14_due) (by decide) rfl (t_X14_due hl G a0 a1 w))
abbrev V_X15_due (l : Launch) (D : Dn) (H0 : Heap) (w0 : St) (res : Option (Int32 × St)) (pc : Nat) (ls : List (Nat × LV)) (st : List Value) (w : St) : Prop := V l D H0 RX15 "due" cX15_due 2 (some (.int)) [] 0 0 (fun x => .inr (rvI x)) w0 res pc ls st w
theorem t_X15_due {l : Launch} {D : Dn} {H0 : Heap} {w0 : St} (hl : l.stackTraces = false) (G : Nat) (a0 : Rf) (a1 : Int32) (w : St) : V_X15_due l D H0 w0 (f_X15_due G a0 a1 w) 0 [(0, lR a0), (1, lI a1)] [] w := by
  unfold f_X15_due
  refine r_iload_n 1 1 dX15_due_0 rfl rfl rfl ?_
  refine r_aload_n 2 0 dX15_due_1 rfl rfl rfl ?_
  refine r_geti 5 gf_X15_13 dX15_due_2 rfl (fun x2 => ?_)
  refine r_iadd 6 dX15_due_5 rfl ?_
  exact r_iret rfl rfl dX15_due_6
theorem s_X15_due {l : Launch} {D : Dn} {H0 : Heap} (hl : l.stackTraces = false) (G : Nat) (a0 : Rf) (a1 : Int32) (w : St) : SimN l D H0 yX15_due (ws_ yX15_due cX15_due 2 (some (.int))) 0 0 rvI [lR a0, lI a1] w (f_X15_due G a0 a1 w) := SimX.N (SimX.ofV (y := yX15_due) (by decide) rfl (t_X15_due hl G a0 a1 w))
abbrev V_X10_due (l : Launch) (D : Dn) (H0 : Heap) (w0 : St) (res : Option (Int32 × St)) (pc : Nat) (ls : List (Nat × LV)) (st : List Value) (w : St) : Prop := V l D H0 RX10 "due" cX10_due 2 (some (.int)) [] 31 3021 (fun x => .inr (rvI x)) w0 res pc ls st w
theorem t_X10_due {l : Launch} {D : Dn} {H0 : Heap} {w0 : St} (hl : l.stackTraces = false) (G : Nat) (a0 : Rf) (a1 : Int32) (w : St) : V_X10_due l D H0 w0 (f_X10_due G a0 a1 w) 0 [(0, lR a0), (1, lI a1)] [] w := by
  unfold f_X10_due
  refine r_aload_n 1 0 dX10_due_0 rfl rfl rfl ?_
  refine r_getr 4 gf_X10_12 dX10_due_1 rfl (fun x1 => ?_)
  refine r_iload_n 5 1 dX10_due_4 rfl rfl rfl ?_
  refine r_gd (fun hc5 => ?_)
  refine r_callV (n := 1) (as := [lI a1]) (rest := []) 8 15 (sL_get hl x1 a1 w) hc5 rfl (lw_V q770 q311 q312 q104 q313) (by decide +kernel) (by decide) rfl rfl (cat2_nil (k := 0)) rfl dX10_due_5 rfl (fun x5 w5 => ?_)
  refine r_cast 11 (CA_cons (c0 := 8) rfl (Or.inr q784) (CA_cons (c0 := 10) rfl (Or.inr q790) (CA_cons (c0 := 11) rfl (Or.inr q796) (CA_cons (c0 := 12) rfl (Or.inr q802) (CA_nil))))) q778 dX10_due_8 rfl ?_
  refine r_aload_n 12 0 dX10_due_11 rfl rfl rfl ?_
  refine r_getr 15 gf_X10_18 dX10_due_12 rfl (fun x12 => ?_)
  refine r_iload_n 16 1 dX10_due_15 rfl rfl rfl ?_
  refine r_gd (fun hc16 => ?_)
  refine r_callV (n := 1) (as := [lI a1]) (rest := [rf x5]) 19 15 (sL_get hl x12 a1 w5) hc16 rfl (lw_V q770 q311 q312 q104 q313) (by decide +kernel) (by decide) rfl rfl (cat2_r (cat2_nil (k := 0))) rfl dX10_due_16 rfl (fun x16 w16 => ?_)
  refine r_cast 22 (CA_cons (c0 := 7) rfl (Or.inl rfl) (CA_cons (c0 := 9) rfl (Or.inr q2711) (CA_nil))) q779 dX10_due_19 rfl ?_
  refine r_geti 25 gf_X10_48 dX10_due_22 rfl (fun x22 => ?_)
  refine r_share (st2 := fun x25 => [.int x25]) (pc2 := 30) (fun hk => ?_) (fun x25 w25 => ?_)
  · refine r_dsp (fun c25 hc25 => ?_)
    refine r_dif (fun he => ?_) (fun _ => ?_)
    · subst he
      exact r_callF (x2 := ⟨"CoachTimetable$Lead", "due", "(I)I"⟩) (n := 1) (as := [lI x22]) (rest := []) 30 8 (s_X11_due hl G x5 x22 w16) hc25 rfl (lw_app (l4 q781 q785 q787 q132) (lw_meth q789)) (List.mem_of_getElem? (i := 2) rfl) (by decide +kernel) (by decide) rfl rfl (cat2_nil (k := 0)) rfl dX10_due_25 rfl hk
    refine r_dif (fun he => ?_) (fun _ => ?_)
    · subst he
      exact r_callF (x2 := ⟨"CoachTimetable$Lead", "due", "(I)I"⟩) (n := 1) (as := [lI x22]) (rest := []) 30 10 (s_X13_due hl G x5 x22 w16) hc25 rfl (lw_app (l4 q781 q791 q793 q134) (lw_meth q795)) (List.mem_of_getElem? (i := 3) rfl) (by decide +kernel) (by decide) rfl rfl (cat2_nil (k := 0)) rfl dX10_due_25 rfl hk
    refine r_dif (fun he => ?_) (fun _ => ?_)
    · subst he
      exact r_callF (x2 := ⟨"CoachTimetable$Lead", "due", "(I)I"⟩) (n := 1) (as := [lI x22]) (rest := []) 30 11 (s_X14_due hl G x5 x22 w16) hc25 rfl (lw_app (l4 q781 q797 q799 q135) (lw_meth q801)) (List.mem_of_getElem? (i := 4) rfl) (by decide +kernel) (by decide) rfl rfl (cat2_nil (k := 0)) rfl dX10_due_25 rfl hk
    refine r_dif (fun he => ?_) (fun _ => ?_)
    · subst he
      exact r_callF (x2 := ⟨"CoachTimetable$Lead", "due", "(I)I"⟩) (n := 1) (as := [lI x22]) (rest := []) 30 12 (s_X15_due hl G x5 x22 w16) hc25 rfl (lw_app (l4 q781 q803 q805 q136) (lw_meth q807)) (List.mem_of_getElem? (i := 5) rfl) (by decide +kernel) (by decide) rfl rfl (cat2_nil (k := 0)) rfl dX10_due_25 rfl hk
    exact r_bdn
  exact r_iret rfl rfl dX10_due_30
theorem s_X10_due {l : Launch} {D : Dn} {H0 : Heap} (hl : l.stackTraces = false) (G : Nat) (a0 : Rf) (a1 : Int32) (w : St) : SimN l D H0 yX10_due (ws_ yX10_due cX10_due 2 (some (.int))) 31 3021 rvI [lR a0, lI a1] w (f_X10_due G a0 a1 w) := SimX.N (SimX.ofV (y := yX10_due) (by decide) rfl (t_X10_due hl G a0 a1 w))
abbrev V_X10_bases (l : Launch) (D : Dn) (H0 : Heap) (w0 : St) (res : Option (Unit × St)) (pc : Nat) (ls : List (Nat × LV)) (st : List Value) (w : St) : Prop := V l D H0 RX10 "bases" cX10_bases 2 none [] 32 3042 (fun x => .inr (rvU x)) w0 res pc ls st w
theorem t_X10_bases_b65 {l : Launch} {D : Dn} {H0 : Heap} {w0 : St} (hl : l.stackTraces = false) (G : Nat) (k20 : Rf → Int32 → St → Option (Unit × St)) (h20 : ∀ v0 v1 w, V_X10_bases l D H0 w0 (k20 v0 v1 w) 20 [(0, lR v0), (1, lI v1)] [] w) (v0 : Rf) (v1 : Int32) (w : St) : V_X10_bases l D H0 w0 (f_X10_bases_b65 G k20 v0 v1 w) 65 [(0, lR v0), (1, lI v1)] [] w := by
  unfold f_X10_bases_b65
  refine r_iinc (v := v1 + 1) (ls2 := [(1, lI (v1 + 1)), (0, lR v0)]) 68 1 dX10_bases_65 rfl rfl (by decide) rfl rfl ?_
  refine r_goto 20 dX10_bases_68 (by decide) ?_
  exact r_lsP [1, 0] rfl (h20 v0 (v1 + 1) w)
theorem t_X10_bases_l20 {l : Launch} {D : Dn} {H0 : Heap} {w0 : St} (hl : l.stackTraces = false) (G : Nat) (k71 : St → Option (Unit × St)) (h71 : ∀ w, V_X10_bases l D H0 w0 (k71 w) 71 [] [] w) : ∀ (F : Nat) (v0 : Rf) (v1 : Int32) (w : St), V_X10_bases l D H0 w0 (f_X10_bases_l20 G k71 F v0 v1 w) 20 [(0, lR v0), (1, lI v1)] [] w := by
  intro F
  induction F with
  | zero => intros; exact r_none
  | succ F ih =>
    intro v0 v1 w
    unfold f_X10_bases_l20
    refine r_iload_n 21 1 dX10_bases_20 rfl rfl rfl ?_
    refine r_aload_n 22 0 dX10_bases_21 rfl rfl rfl ?_
    refine r_getr 25 gf_X10_12 dX10_bases_22 rfl (fun x22 => ?_)
    refine r_gd (fun hc25 => ?_)
    refine r_callV (n := 0) (as := []) (rest := [.int v1]) 28 15 (sL_size hl x22 w) hc25 rfl (lw_V q769 q303 q304 q104 q305) (by decide +kernel) (by decide) rfl rfl (cat2_i (cat2_nil (k := 0))) rfl dX10_bases_25 rfl (fun x25 w25 => ?_)
    refine r_icmp_ge 71 31 dX10_bases_28 (by decide) rfl ?_ ?_
    · exact r_lsP [] rfl (h71 w25)
    refine r_aload_n 32 0 dX10_bases_31 rfl rfl rfl ?_
    refine r_getr 35 gf_X10_12 dX10_bases_32 rfl (fun x32 => ?_)
    refine r_iload_n 36 1 dX10_bases_35 rfl rfl rfl ?_
    refine r_gd (fun hc36 => ?_)
    refine r_callV (n := 1) (as := [lI v1]) (rest := []) 39 15 (sL_get hl x32 v1 w25) hc36 rfl (lw_V q770 q311 q312 q104 q313) (by decide +kernel) (by decide) rfl rfl (cat2_nil (k := 0)) rfl dX10_bases_36 rfl (fun x36 w36 => ?_)
    refine r_inst 42 (is_Wait) (ns_Wait) q771 dX10_bases_39 rfl (fun x39 => ?_)
    refine r_if_ne 65 45 dX10_bases_42 (by decide) rfl ?_ ?_
    · exact r_lsP [0, 1] rfl (t_X10_bases_b65 hl G (fun v0 v1 w => f_X10_bases_l20 G k71 F v0 v1 w) (fun v0 v1 w => ih v0 v1 w)  v0 v1 w36)
    refine r_aload_n 46 0 dX10_bases_45 rfl rfl rfl ?_
    refine r_aload_n 47 0 dX10_bases_46 rfl rfl rfl ?_
    refine r_iload_n 48 1 dX10_bases_47 rfl rfl rfl ?_
    refine r_share (st2 := fun x48 => [.int x48, rf v0]) (pc2 := 51) (fun hk => ?_) (fun x48 w48 => ?_)
    · refine r_dsp (fun c48 hc48 => ?_)
      refine r_dif (fun he => ?_) (fun _ => ?_)
      · subst he
        exact r_callV (n := 1) (as := [lI v1]) (rest := [rf v0]) 51 7 (s_X10_due hl G v0 v1 w36) hc48 rfl (lw_V q772 q773 q774 q131 q777) (by decide +kernel) (by decide) rfl rfl (cat2_r (cat2_nil (k := 0))) rfl dX10_bases_48 rfl hk
      refine r_dif (fun he => ?_) (fun _ => ?_)
      · subst he
        exact r_callU (x2 := ⟨"CoachTimetable$Event", "due", "(I)I"⟩) (owner := "CoachTimetable$Event") (n := 1) (as := [lI v1]) (rest := [rf v0]) 51 9 (s_X10_due hl G v0 v1 w36) hc48 rfl (lw_app (l5 q772 q775 q776 q773 q131) (lw_meth q777)) rfl (by decide +kernel) (by decide) rfl rfl (cat2_r (cat2_nil (k := 0))) rfl dX10_bases_48 rfl hk
      exact r_bdn
    refine r_aload_n 52 0 dX10_bases_51 rfl rfl rfl ?_
    refine r_getr 55 gf_X10_12 dX10_bases_52 rfl (fun x52 => ?_)
    refine r_iload_n 56 1 dX10_bases_55 rfl rfl rfl ?_
    refine r_gd (fun hc56 => ?_)
    refine r_callV (n := 1) (as := [lI v1]) (rest := [.int x48, rf v0]) 59 15 (sL_get hl x52 v1 w48) hc56 rfl (lw_V q770 q311 q312 q104 q313) (by decide +kernel) (by decide) rfl rfl (cat2_i (cat2_r (cat2_nil (k := 0)))) rfl dX10_bases_56 rfl (fun x56 w56 => ?_)
    refine r_cast 62 (CA_cons (c0 := 8) rfl (Or.inr q784) (CA_cons (c0 := 10) rfl (Or.inr q790) (CA_cons (c0 := 11) rfl (Or.inr q796) (CA_cons (c0 := 12) rfl (Or.inr q802) (CA_nil))))) q778 dX10_bases_59 rfl ?_
    refine r_share (st2 := fun (_ : Unit) => []) (pc2 := 65) (fun hk => ?_) (fun x62 w62 => ?_)
    · refine r_dsp (fun c62 hc62 => ?_)
      refine r_dif (fun he => ?_) (fun _ => ?_)
      · subst he
        exact r_callV (n := 2) (as := [lI x48, lR x56]) (rest := []) 65 7 (s_X10_becomes hl G v0 x48 x56 w56) hc62 rfl (lw_V q808 q809 q810 q131 q813) (by decide +kernel) (by decide) rfl rfl (cat2_nil (k := 0)) rfl dX10_bases_62 rfl hk
      refine r_dif (fun he => ?_) (fun _ => ?_)
      · subst he
        exact r_callU (x2 := ⟨"CoachTimetable$Event", "becomes", "(ILCoachTimetable$Lead;)V"⟩) (owner := "CoachTimetable$Event") (n := 2) (as := [lI x48, lR x56]) (rest := []) 65 9 (s_X10_becomes hl G v0 x48 x56 w56) hc62 rfl (lw_app (l5 q808 q811 q812 q809 q131) (lw_meth q813)) rfl (by decide +kernel) (by decide) rfl rfl (cat2_nil (k := 0)) rfl dX10_bases_62 rfl hk
      exact r_bdn
    exact r_lsP [0, 1] rfl (t_X10_bases_b65 hl G (fun v0 v1 w => f_X10_bases_l20 G k71 F v0 v1 w) (fun v0 v1 w => ih v0 v1 w)  v0 v1 w62)
theorem t_X10_bases_b71 {l : Launch} {D : Dn} {H0 : Heap} {w0 : St} (hl : l.stackTraces = false) (G : Nat) (w : St) : V_X10_bases l D H0 w0 (f_X10_bases_b71 G  w) 71 [] [] w := by
  unfold f_X10_bases_b71
  exact r_vret rfl rfl dX10_bases_71
theorem t_X10_bases {l : Launch} {D : Dn} {H0 : Heap} {w0 : St} (hl : l.stackTraces = false) (G : Nat) (a0 : Rf) (w : St) : V_X10_bases l D H0 w0 (f_X10_bases G a0 w) 0 [(0, lR a0)] [] w := by
  unfold f_X10_bases
  refine r_aload_n 1 0 dX10_bases_0 rfl rfl rfl ?_
  refine r_aload_n 2 0 dX10_bases_1 rfl rfl rfl ?_
  refine r_geti 5 gf_X10_38 dX10_bases_2 rfl (fun x2 => ?_)
  refine r_puti 8 pf_X10_65 dX10_bases_5 rfl (fun w5 => ?_)
  refine r_aload_n 9 0 dX10_bases_8 rfl rfl rfl ?_
  refine r_iconst (v := 0) 10 dX10_bases_9 rfl rfl ?_
  refine r_puti 13 pf_X10_72 dX10_bases_10 rfl (fun w10 => ?_)
  refine r_aload_n 14 0 dX10_bases_13 rfl rfl rfl ?_
  refine r_iconst (v := (-1)) 15 dX10_bases_14 rfl rfl ?_
  refine r_puti 18 pf_X10_80 dX10_bases_15 rfl (fun w15 => ?_)
  refine r_iconst (v := 0) 19 dX10_bases_18 rfl rfl ?_
  refine r_istore_n (ls2 := [(1, lI 0), (0, lR a0)]) 20 dX10_bases_19 rfl (by decide) rfl rfl ?_
  exact r_lsP [1, 0] rfl (t_X10_bases_l20 hl G (fun w => f_X10_bases_b71 G  w) (fun w => t_X10_bases_b71 hl G  w) G a0 0 w15)
theorem s_X10_bases {l : Launch} {D : Dn} {H0 : Heap} (hl : l.stackTraces = false) (G : Nat) (a0 : Rf) (w : St) : SimN l D H0 yX10_bases (ws_ yX10_bases cX10_bases 2 none) 32 3042 rvU [lR a0] w (f_X10_bases G a0 w) := SimX.N (SimX.ofV (y := yX10_bases) (by decide) rfl (t_X10_bases hl G a0 w))
abbrev V_X12_isKept (l : Launch) (D : Dn) (H0 : Heap) (w0 : St) (res : Option (Int32 × St)) (pc : Nat) (ls : List (Nat × LV)) (st : List Value) (w : St) : Prop := V l D H0 RX12 "isKept" cX12_isKept 2 (some (.boolean)) [] 32 3042 (fun x => .inr (rvI x)) w0 res pc ls st w
theorem t_X12_isKept_b38 {l : Launch} {D : Dn} {H0 : Heap} {w0 : St} (hl : l.stackTraces = false) (G : Nat) (s0 : Int32) (s1 : Int32) (s2 : Int32) (w : St) : V_X12_isKept l D H0 w0 (f_X12_isKept_b38 G s0 s1 s2 w) 38 [] [.int s0, .int s1, .int s2] w := by
  unfold f_X12_isKept_b38
  refine r_iadd 39 dX12_isKept_38 rfl ?_
  refine r_icmp_gt 46 42 dX12_isKept_39 (by decide) rfl ?_ ?_
  · refine r_iconst (v := 0) 47 dX12_isKept_46 rfl rfl ?_
    exact r_zret rfl rfl rfl dX12_isKept_47
  refine r_iconst (v := 1) 43 dX12_isKept_42 rfl rfl ?_
  refine r_goto 47 dX12_isKept_43 (by decide) ?_
  exact r_zret rfl rfl rfl dX12_isKept_47
theorem t_X12_isKept {l : Launch} {D : Dn} {H0 : Heap} {w0 : St} (hl : l.stackTraces = false) (G : Nat) (a0 : Rf) (a1 : Int32) (w : St) : V_X12_isKept l D H0 w0 (f_X12_isKept G a0 a1 w) 0 [(0, lR a0), (1, lI a1)] [] w := by
  unfold f_X12_isKept
  refine r_aload_n 1 0 dX12_isKept_0 rfl rfl rfl ?_
  refine r_iload_n 2 1 dX12_isKept_1 rfl rfl rfl ?_
  refine r_gd (fun hc2 => ?_)
  refine r_callU (x2 := ⟨"CoachTimetable$Departure", "due", "(I)I"⟩) (owner := "CoachTimetable$Event") (n := 1) (as := [lI a1]) (rest := []) 5 9 (s_X10_due hl G a0 a1 w) hc2 rfl (lw_app (l5 q829 q830 q832 q773 q131) (lw_meth q777)) rfl (by decide +kernel) (by decide) rfl rfl (cat2_nil (k := 0)) rfl dX12_isKept_2 rfl (fun x2 w2 => ?_)
  refine r_aload_n 6 0 dX12_isKept_5 rfl rfl rfl ?_
  refine r_geti 9 gf_X12_55 dX12_isKept_6 rfl (fun x6 => ?_)
  refine r_aload_n 10 0 dX12_isKept_9 rfl rfl rfl ?_
  refine r_geti 13 gf_X12_26 dX12_isKept_10 rfl (fun x10 => ?_)
  refine r_iconst (v := (-1)) 14 dX12_isKept_13 rfl rfl ?_
  refine r_icmp_ne 34 17 dX12_isKept_14 (by decide) rfl ?_ ?_
  · refine r_aload_n 35 0 dX12_isKept_34 rfl rfl rfl ?_
    refine r_geti 38 gf_X12_26 dX12_isKept_35 rfl (fun x35 => ?_)
    exact r_lsP [] rfl (t_X12_isKept_b38 hl G  x35 x6 x2 w2)
  refine r_aload_n 18 0 dX12_isKept_17 rfl rfl rfl ?_
  refine r_getr 21 gf_X12_20 dX12_isKept_18 rfl (fun x18 => ?_)
  refine r_iload_n 22 1 dX12_isKept_21 rfl rfl rfl ?_
  refine r_gd (fun hc22 => ?_)
  refine r_callV (n := 1) (as := [lI a1]) (rest := [.int x6, .int x2]) 25 15 (sL_get hl x18 a1 w2) hc22 rfl (lw_V q819 q311 q312 q104 q313) (by decide +kernel) (by decide) rfl rfl (cat2_i (cat2_i (cat2_nil (k := 0)))) rfl dX12_isKept_22 rfl (fun x22 w22 => ?_)
  refine r_cast 28 (CA_cons (c0 := 30) rfl (Or.inl rfl) (CA_nil)) q820 dX12_isKept_25 rfl ?_
  refine r_gd (fun hc28 => ?_)
  refine r_callV (n := 0) (as := []) (rest := [.int x6, .int x2]) 31 30 (sN_intValue hl x22 w22) hc28 rfl (lw_V q821 q822 q823 q138 q824) (by decide +kernel) (by decide) rfl rfl (cat2_i (cat2_i (cat2_nil (k := 0)))) rfl dX12_isKept_28 rfl (fun x28 w28 => ?_)
  refine r_goto 38 dX12_isKept_31 (by decide) ?_
  exact r_lsP [] rfl (t_X12_isKept_b38 hl G  x28 x6 x2 w28)
theorem s_X12_isKept {l : Launch} {D : Dn} {H0 : Heap} (hl : l.stackTraces = false) (G : Nat) (a0 : Rf) (a1 : Int32) (w : St) : SimN l D H0 yX12_isKept (ws_ yX12_isKept cX12_isKept 2 (some (.boolean))) 32 3042 rvI [lR a0, lI a1] w (f_X12_isKept G a0 a1 w) := SimX.N (SimX.ofV (y := yX12_isKept) (by decide) rfl (t_X12_isKept hl G a0 a1 w))
abbrev V_X12_bases (l : Launch) (D : Dn) (H0 : Heap) (w0 : St) (res : Option (Unit × St)) (pc : Nat) (ls : List (Nat × LV)) (st : List Value) (w : St) : Prop := V l D H0 RX12 "bases" cX12_bases 2 none [] 33 3063 (fun x => .inr (rvU x)) w0 res pc ls st w
theorem t_X12_bases_b71 {l : Launch} {D : Dn} {H0 : Heap} {w0 : St} (hl : l.stackTraces = false) (G : Nat) (k14 : Rf → Int32 → St → Option (Unit × St)) (h14 : ∀ v0 v1 w, V_X12_bases l D H0 w0 (k14 v0 v1 w) 14 [(0, lR v0), (1, lI v1)] [] w) (v0 : Rf) (v1 : Int32) (w : St) : V_X12_bases l D H0 w0 (f_X12_bases_b71 G k14 v0 v1 w) 71 [(0, lR v0), (1, lI v1)] [] w := by
  unfold f_X12_bases_b71
  refine r_iinc (v := v1 + 1) (ls2 := [(1, lI (v1 + 1)), (0, lR v0)]) 74 1 dX12_bases_71 rfl rfl (by decide) rfl rfl ?_
  refine r_goto 14 dX12_bases_74 (by decide) ?_
  exact r_lsP [1, 0] rfl (h14 v0 (v1 + 1) w)
theorem t_X12_bases_l14 {l : Launch} {D : Dn} {H0 : Heap} {w0 : St} (hl : l.stackTraces = false) (G : Nat) (k77 : St → Option (Unit × St)) (h77 : ∀ w, V_X12_bases l D H0 w0 (k77 w) 77 [] [] w) : ∀ (F : Nat) (v0 : Rf) (v1 : Int32) (w : St), V_X12_bases l D H0 w0 (f_X12_bases_l14 G k77 F v0 v1 w) 14 [(0, lR v0), (1, lI v1)] [] w := by
  intro F
  induction F with
  | zero => intros; exact r_none
  | succ F ih =>
    intro v0 v1 w
    unfold f_X12_bases_l14
    refine r_iload_n 15 1 dX12_bases_14 rfl rfl rfl ?_
    refine r_aload_n 16 0 dX12_bases_15 rfl rfl rfl ?_
    refine r_getr 19 gf_X12_20 dX12_bases_16 rfl (fun x16 => ?_)
    refine r_gd (fun hc19 => ?_)
    refine r_callV (n := 0) (as := []) (rest := [.int v1]) 22 15 (sL_size hl x16 w) hc19 rfl (lw_V q706 q303 q304 q104 q305) (by decide +kernel) (by decide) rfl rfl (cat2_i (cat2_nil (k := 0))) rfl dX12_bases_19 rfl (fun x19 w19 => ?_)
    refine r_icmp_ge 77 25 dX12_bases_22 (by decide) rfl ?_ ?_
    · exact r_lsP [] rfl (h77 w19)
    refine r_aload_n 26 0 dX12_bases_25 rfl rfl rfl ?_
    refine r_getr 29 gf_X12_20 dX12_bases_26 rfl (fun x26 => ?_)
    refine r_iload_n 30 1 dX12_bases_29 rfl rfl rfl ?_
    refine r_gd (fun hc30 => ?_)
    refine r_callV (n := 1) (as := [lI v1]) (rest := []) 33 15 (sL_get hl x26 v1 w19) hc30 rfl (lw_V q819 q311 q312 q104 q313) (by decide +kernel) (by decide) rfl rfl (cat2_nil (k := 0)) rfl dX12_bases_30 rfl (fun x30 w30 => ?_)
    refine r_cast 36 (CA_cons (c0 := 30) rfl (Or.inl rfl) (CA_nil)) q820 dX12_bases_33 rfl ?_
    refine r_gd (fun hc36 => ?_)
    refine r_callV (n := 0) (as := []) (rest := []) 39 30 (sN_intValue hl x30 w30) hc36 rfl (lw_V q821 q822 q823 q138 q824) (by decide +kernel) (by decide) rfl rfl (cat2_nil (k := 0)) rfl dX12_bases_36 rfl (fun x36 w36 => ?_)
    refine r_iconst (v := (-1)) 40 dX12_bases_39 rfl rfl ?_
    refine r_icmp_eq 71 43 dX12_bases_40 (by decide) rfl ?_ ?_
    · exact r_lsP [0, 1] rfl (t_X12_bases_b71 hl G (fun v0 v1 w => f_X12_bases_l14 G k77 F v0 v1 w) (fun v0 v1 w => ih v0 v1 w)  v0 v1 w36)
    refine r_aload_n 44 0 dX12_bases_43 rfl rfl rfl ?_
    refine r_iload_n 45 1 dX12_bases_44 rfl rfl rfl ?_
    refine r_gd (fun hc45 => ?_)
    refine r_callV (n := 1) (as := [lI v1]) (rest := []) 48 9 (s_X12_isKept hl G v0 v1 w36) hc45 rfl (lw_V q825 q826 q827 q133 q828) (by decide +kernel) (by decide) rfl rfl (cat2_nil (k := 0)) rfl dX12_bases_45 rfl (fun x45 w45 => ?_)
    refine r_if_eq 71 51 dX12_bases_48 (by decide) rfl ?_ ?_
    · exact r_lsP [0, 1] rfl (t_X12_bases_b71 hl G (fun v0 v1 w => f_X12_bases_l14 G k77 F v0 v1 w) (fun v0 v1 w => ih v0 v1 w)  v0 v1 w45)
    refine r_aload_n 52 0 dX12_bases_51 rfl rfl rfl ?_
    refine r_aload_n 53 0 dX12_bases_52 rfl rfl rfl ?_
    refine r_iload_n 54 1 dX12_bases_53 rfl rfl rfl ?_
    refine r_gd (fun hc54 => ?_)
    refine r_callU (x2 := ⟨"CoachTimetable$Departure", "due", "(I)I"⟩) (owner := "CoachTimetable$Event") (n := 1) (as := [lI v1]) (rest := [rf v0]) 57 9 (s_X10_due hl G v0 v1 w45) hc54 rfl (lw_app (l5 q829 q830 q832 q773 q131) (lw_meth q777)) rfl (by decide +kernel) (by decide) rfl rfl (cat2_r (cat2_nil (k := 0))) rfl dX12_bases_54 rfl (fun x54 w54 => ?_)
    refine r_aload_n 58 0 dX12_bases_57 rfl rfl rfl ?_
    refine r_getr 61 gf_X12_34 dX12_bases_58 rfl (fun x58 => ?_)
    refine r_iload_n 62 1 dX12_bases_61 rfl rfl rfl ?_
    refine r_gd (fun hc62 => ?_)
    refine r_callV (n := 1) (as := [lI v1]) (rest := [.int x54, rf v0]) 65 15 (sL_get hl x58 v1 w54) hc62 rfl (lw_V q819 q311 q312 q104 q313) (by decide +kernel) (by decide) rfl rfl (cat2_i (cat2_r (cat2_nil (k := 0)))) rfl dX12_bases_62 rfl (fun x62 w62 => ?_)
    refine r_cast 68 (CA_cons (c0 := 8) rfl (Or.inr q784) (CA_cons (c0 := 10) rfl (Or.inr q790) (CA_cons (c0 := 11) rfl (Or.inr q796) (CA_cons (c0 := 12) rfl (Or.inr q802) (CA_nil))))) q833 dX12_bases_65 rfl ?_
    refine r_gd (fun hc68 => ?_)
    refine r_callU (x2 := ⟨"CoachTimetable$Departure", "becomes", "(ILCoachTimetable$Lead;)V"⟩) (owner := "CoachTimetable$Event") (n := 2) (as := [lI x54, lR x62]) (rest := []) 71 9 (s_X10_becomes hl G v0 x54 x62 w62) hc68 rfl (lw_app (l5 q834 q835 q837 q809 q131) (lw_meth q813)) rfl (by decide +kernel) (by decide) rfl rfl (cat2_nil (k := 0)) rfl dX12_bases_68 rfl (fun _ w68 => ?_)
    exact r_lsP [0, 1] rfl (t_X12_bases_b71 hl G (fun v0 v1 w => f_X12_bases_l14 G k77 F v0 v1 w) (fun v0 v1 w => ih v0 v1 w)  v0 v1 w68)
theorem t_X12_bases_b77 {l : Launch} {D : Dn} {H0 : Heap} {w0 : St} (hl : l.stackTraces = false) (G : Nat) (w : St) : V_X12_bases l D H0 w0 (f_X12_bases_b77 G  w) 77 [] [] w := by
  unfold f_X12_bases_b77
  exact r_vret rfl rfl dX12_bases_77
theorem t_X12_bases {l : Launch} {D : Dn} {H0 : Heap} {w0 : St} (hl : l.stackTraces = false) (G : Nat) (a0 : Rf) (w : St) : V_X12_bases l D H0 w0 (f_X12_bases G a0 w) 0 [(0, lR a0)] [] w := by
  unfold f_X12_bases
  refine r_aload_n 1 0 dX12_bases_0 rfl rfl rfl ?_
  refine r_gd (fun hc1 => ?_)
  refine r_callSU (n := 0) (as := []) (rest := []) 4 9 (s_X10_bases hl G a0 w) hc1 rfl (lw_app (l5 q767 q763 q532 q761 q131) (lw_meth q768)) (by decide +kernel) (by decide) rfl rfl (cat2_nil (k := 0)) rfl dX12_bases_1 rfl (fun _ w1 => ?_)
  refine r_aload_n 5 0 dX12_bases_4 rfl rfl rfl ?_
  refine r_aload_n 6 0 dX12_bases_5 rfl rfl rfl ?_
  refine r_geti 9 gf_X12_67 dX12_bases_6 rfl (fun x6 => ?_)
  refine r_puti 12 pf_X12_55 dX12_bases_9 rfl (fun w9 => ?_)
  refine r_iconst (v := 0) 13 dX12_bases_12 rfl rfl ?_
  refine r_istore_n (ls2 := [(1, lI 0), (0, lR a0)]) 14 dX12_bases_13 rfl (by decide) rfl rfl ?_
  exact r_lsP [1, 0] rfl (t_X12_bases_l14 hl G (fun w => f_X12_bases_b77 G  w) (fun w => t_X12_bases_b77 hl G  w) G a0 0 w9)
theorem s_X12_bases {l : Launch} {D : Dn} {H0 : Heap} (hl : l.stackTraces = false) (G : Nat) (a0 : Rf) (w : St) : SimN l D H0 yX12_bases (ws_ yX12_bases cX12_bases 2 none) 33 3063 rvU [lR a0] w (f_X12_bases G a0 w) := SimX.N (SimX.ofV (y := yX12_bases) (by decide) rfl (t_X12_bases hl G a0 w))
abbrev V_X10_tells (l : Launch) (D : Dn) (H0 : Heap) (w0 : St) (res : Option (Int32 × St)) (pc : Nat) (ls : List (Nat × LV)) (st : List Value) (w : St) : Prop := V l D H0 RX10 "tells" cX10_tells 2 (some (.boolean)) [] 34 3084 (fun x => .inr (rvI x)) w0 res pc ls st w
theorem t_X10_tells {l : Launch} {D : Dn} {H0 : Heap} {w0 : St} (hl : l.stackTraces = false) (G : Nat) (a0 : Rf) (w : St) : V_X10_tells l D H0 w0 (f_X10_tells G a0 w) 0 [(0, lR a0)] [] w := by
  unfold f_X10_tells
  refine r_aload_n 1 0 dX10_tells_0 rfl rfl rfl ?_
  refine r_geti 4 gf_X10_48 dX10_tells_1 rfl (fun x1 => ?_)
  refine r_istore_n (ls2 := [(1, lI x1), (0, lR a0)]) 5 dX10_tells_4 rfl (by decide) rfl rfl ?_
  refine r_aload_n 6 1 dX10_tells_5 rfl rfl rfl ?_
  refine r_share (st2 := fun (_ : Unit) => []) (pc2 := 9) (fun hk => ?_) (fun x6 w6 => ?_)
  · refine r_dsp (fun c6 hc6 => ?_)
    refine r_dif (fun he => ?_) (fun _ => ?_)
    · subst he
      exact r_callV (n := 0) (as := []) (rest := []) 9 7 (s_X10_bases hl G a0 w) hc6 rfl (lw_V q760 q761 q762 q131 q768) (by decide +kernel) (by decide) rfl rfl (cat2_nil (k := 0)) rfl dX10_tells_6 rfl hk
    refine r_dif (fun he => ?_) (fun _ => ?_)
    · subst he
      exact r_callO (x2 := ⟨"CoachTimetable$Event", "bases", "()V"⟩) (owner := "CoachTimetable$Event") (n := 0) (as := []) (rest := []) 9 9 (s_X12_bases hl G a0 w) hc6 rfl (lw_app (l6 q760 q763 q761 q764 q765 q133) (lw_meth q766)) q768 (by decide +kernel) (by decide) rfl rfl (cat2_nil (k := 0)) rfl dX10_tells_6 rfl hk
    exact r_bdn
  refine r_aload_n 10 1 dX10_tells_9 rfl rfl rfl ?_
  refine r_aload_n 11 1 dX10_tells_10 rfl rfl rfl ?_
  refine r_geti 14 gf_X10_65 dX10_tells_11 rfl (fun x11 => ?_)
  refine r_aload_n 15 1 dX10_tells_14 rfl rfl rfl ?_
  refine r_geti 18 gf_X10_46 dX10_tells_15 rfl (fun x15 => ?_)
  refine r_iadd 19 dX10_tells_18 rfl ?_
  refine r_puti 22 pf_X10_48 dX10_tells_19 rfl (fun w19 => ?_)
  refine r_aload_n 23 1 dX10_tells_22 rfl rfl rfl ?_
  refine r_geti 26 gf_X10_48 dX10_tells_23 rfl (fun x23 => ?_)
  refine r_iload_n 27 0 dX10_tells_26 rfl rfl rfl ?_
  refine r_icmp_eq 34 30 dX10_tells_27 (by decide) rfl ?_ ?_
  · refine r_iconst (v := 0) 35 dX10_tells_34 rfl rfl ?_
    exact r_zret rfl rfl rfl dX10_tells_35
  refine r_iconst (v := 1) 31 dX10_tells_30 rfl rfl ?_
  refine r_goto 35 dX10_tells_31 (by decide) ?_
  exact r_zret rfl rfl rfl dX10_tells_35
theorem s_X10_tells {l : Launch} {D : Dn} {H0 : Heap} (hl : l.stackTraces = false) (G : Nat) (a0 : Rf) (w : St) : SimN l D H0 yX10_tells (ws_ yX10_tells cX10_tells 2 (some (.boolean))) 34 3084 rvI [lR a0] w (f_X10_tells G a0 w) := SimX.N (SimX.ofV (y := yX10_tells) (by decide) rfl (t_X10_tells hl G a0 w))
abbrev V_X9_inTurn (l : Launch) (D : Dn) (H0 : Heap) (w0 : St) (res : Option (Rf × St)) (pc : Nat) (ls : List (Nat × LV)) (st : List Value) (w : St) : Prop := V l D H0 RX9 "inTurn" cX9_inTurn 5 (some (.object "CoachTimetable$Net")) [] 35 3105 (fun x => .inr (rvR x)) w0 res pc ls st w
theorem t_X9_inTurn_b84 {l : Launch} {D : Dn} {H0 : Heap} {w0 : St} (hl : l.stackTraces = false) (G : Nat) (k28 : Rf → Rf → Int32 → Int32 → Int32 → St → Option (Rf × St)) (h28 : ∀ v0 v1 v2 v3 v4 w, V_X9_inTurn l D H0 w0 (k28 v0 v1 v2 v3 v4 w) 28 [(0, lR v0), (1, lR v1), (2, lI v2), (3, lI v3), (4, lI v4)] [] w) (v0 : Rf) (v1 : Rf) (v2 : Int32) (v3 : Int32) (v4 : Int32) (w : St) : V_X9_inTurn l D H0 w0 (f_X9_inTurn_b84 G k28 v0 v1 v2 v3 v4 w) 84 [(0, lR v0), (1, lR v1), (2, lI v2), (3, lI v3), (4, lI v4)] [] w := by
  unfold f_X9_inTurn_b84
  refine r_iinc (v := v4 + 1) (ls2 := [(4, lI (v4 + 1)), (0, lR v0), (1, lR v1), (2, lI v2), (3, lI v3)]) 87 4 dX9_inTurn_84 rfl rfl (by decide) rfl rfl ?_
  refine r_goto 28 dX9_inTurn_87 (by decide) ?_
  exact r_lsP [1, 2, 3, 4, 0] rfl (h28 v0 v1 v2 v3 (v4 + 1) w)
theorem t_X9_inTurn_b81 {l : Launch} {D : Dn} {H0 : Heap} {w0 : St} (hl : l.stackTraces = false) (G : Nat) (k28 : Rf → Rf → Int32 → Int32 → Int32 → St → Option (Rf × St)) (h28 : ∀ v0 v1 v2 v3 v4 w, V_X9_inTurn l D H0 w0 (k28 v0 v1 v2 v3 v4 w) 28 [(0, lR v0), (1, lR v1), (2, lI v2), (3, lI v3), (4, lI v4)] [] w) (v0 : Rf) (v1 : Rf) (v2 : Int32) (v4 : Int32) (w : St) : V_X9_inTurn l D H0 w0 (f_X9_inTurn_b81 G k28 v0 v1 v2 v4 w) 81 [(0, lR v0), (1, lR v1), (2, lI v2), (4, lI v4)] [] w := by
  unfold f_X9_inTurn_b81
  refine r_iload 83 3 dX9_inTurn_81 rfl rfl ?_
  refine r_istore_n (ls2 := [(3, lI v4), (0, lR v0), (1, lR v1), (2, lI v2), (4, lI v4)]) 84 dX9_inTurn_83 rfl (by decide) rfl rfl ?_
  exact r_lsP [1, 2, 3, 0, 4] rfl (t_X9_inTurn_b84 hl G k28 h28  v0 v1 v2 v4 v4 w)
theorem t_X9_inTurn_l28 {l : Launch} {D : Dn} {H0 : Heap} {w0 : St} (hl : l.stackTraces = false) (G : Nat) (k90 : Rf → Rf → Int32 → Int32 → St → Option (Rf × St)) (h90 : ∀ v0 v1 v2 v3 w, V_X9_inTurn l D H0 w0 (k90 v0 v1 v2 v3 w) 90 [(0, lR v0), (1, lR v1), (2, lI v2), (3, lI v3)] [] w) : ∀ (F : Nat) (v0 : Rf) (v1 : Rf) (v2 : Int32) (v3 : Int32) (v4 : Int32) (w : St), V_X9_inTurn l D H0 w0 (f_X9_inTurn_l28 G k90 F v0 v1 v2 v3 v4 w) 28 [(0, lR v0), (1, lR v1), (2, lI v2), (3, lI v3), (4, lI v4)] [] w := by
  intro F
  induction F with
  | zero => intros; exact r_none
  | succ F ih =>
    intro v0 v1 v2 v3 v4 w
    unfold f_X9_inTurn_l28
    refine r_iload 30 4 dX9_inTurn_28 rfl rfl ?_
    refine r_aload_n 31 0 dX9_inTurn_30 rfl rfl rfl ?_
    refine r_getr 34 gf_X9_12 dX9_inTurn_31 rfl (fun x31 => ?_)
    refine r_gd (fun hc34 => ?_)
    refine r_callV (n := 0) (as := []) (rest := [.int v4]) 37 15 (sL_size hl x31 w) hc34 rfl (lw_V q302 q303 q304 q104 q305) (by decide +kernel) (by decide) rfl rfl (cat2_i (cat2_nil (k := 0))) rfl dX9_inTurn_34 rfl (fun x34 w34 => ?_)
    refine r_icmp_ge 90 40 dX9_inTurn_37 (by decide) rfl ?_ ?_
    · exact r_lsP [0, 1, 2, 3] rfl (h90 v0 v1 v2 v3 w34)
    refine r_aload_n 41 1 dX9_inTurn_40 rfl rfl rfl ?_
    refine r_iload 43 4 dX9_inTurn_41 rfl rfl ?_
    refine r_zald 44 dX9_inTurn_43 rfl (fun x43 => ?_)
    refine r_if_ne 84 47 dX9_inTurn_44 (by decide) rfl ?_ ?_
    · exact r_lsP [0, 1, 2, 3, 4] rfl (t_X9_inTurn_b84 hl G (fun v0 v1 v2 v3 v4 w => f_X9_inTurn_l28 G k90 F v0 v1 v2 v3 v4 w) (fun v0 v1 v2 v3 v4 w => ih v0 v1 v2 v3 v4 w)  v0 v1 v2 v3 v4 w34)
    refine r_iload_n 48 3 dX9_inTurn_47 rfl rfl rfl ?_
    refine r_iconst (v := (-1)) 49 dX9_inTurn_48 rfl rfl ?_
    refine r_icmp_eq 81 52 dX9_inTurn_49 (by decide) rfl ?_ ?_
    · exact r_lsP [0, 1, 2, 4] rfl (t_X9_inTurn_b81 hl G (fun v0 v1 v2 v3 v4 w => f_X9_inTurn_l28 G k90 F v0 v1 v2 v3 v4 w) (fun v0 v1 v2 v3 v4 w => ih v0 v1 v2 v3 v4 w)  v0 v1 v2 v4 w34)
    refine r_aload_n 53 0 dX9_inTurn_52 rfl rfl rfl ?_
    refine r_getr 56 gf_X9_12 dX9_inTurn_53 rfl (fun x53 => ?_)
    refine r_iload 58 4 dX9_inTurn_56 rfl rfl ?_
    refine r_gd (fun hc58 => ?_)
    refine r_callV (n := 1) (as := [lI v4]) (rest := []) 61 15 (sL_get hl x53 v4 w34) hc58 rfl (lw_V q310 q311 q312 q104 q313) (by decide +kernel) (by decide) rfl rfl (cat2_nil (k := 0)) rfl dX9_inTurn_58 rfl (fun x58 w58 => ?_)
    refine r_cast 64 (CA_cons (c0 := 7) rfl (Or.inl rfl) (CA_cons (c0 := 9) rfl (Or.inr q2711) (CA_nil))) q326 dX9_inTurn_61 rfl ?_
    refine r_aload_n 65 0 dX9_inTurn_64 rfl rfl rfl ?_
    refine r_getr 68 gf_X9_12 dX9_inTurn_65 rfl (fun x65 => ?_)
    refine r_iload_n 69 3 dX9_inTurn_68 rfl rfl rfl ?_
    refine r_gd (fun hc69 => ?_)
    refine r_callV (n := 1) (as := [lI v3]) (rest := [rf x58]) 72 15 (sL_get hl x65 v3 w58) hc69 rfl (lw_V q310 q311 q312 q104 q313) (by decide +kernel) (by decide) rfl rfl (cat2_r (cat2_nil (k := 0))) rfl dX9_inTurn_69 rfl (fun x69 w69 => ?_)
    refine r_cast 75 (CA_cons (c0 := 7) rfl (Or.inl rfl) (CA_cons (c0 := 9) rfl (Or.inr q2711) (CA_nil))) q326 dX9_inTurn_72 rfl ?_
    refine r_callS (n := 2) (as := [lR x58, lR x69]) (rest := []) 78 (s_X9_isAhead hl G x58 x69 w69) (lw_S q744 q745 q130 q746) (by decide +kernel) (by decide) rfl rfl (cat2_nil (k := 0)) rfl dX9_inTurn_75 rfl (fun x75 w75 => ?_)
    refine r_if_eq 84 81 dX9_inTurn_78 (by decide) rfl ?_ ?_
    · exact r_lsP [0, 1, 2, 3, 4] rfl (t_X9_inTurn_b84 hl G (fun v0 v1 v2 v3 v4 w => f_X9_inTurn_l28 G k90 F v0 v1 v2 v3 v4 w) (fun v0 v1 v2 v3 v4 w => ih v0 v1 v2 v3 v4 w)  v0 v1 v2 v3 v4 w75)
    exact r_lsP [0, 1, 2, 4] rfl (t_X9_inTurn_b81 hl G (fun v0 v1 v2 v3 v4 w => f_X9_inTurn_l28 G k90 F v0 v1 v2 v3 v4 w) (fun v0 v1 v2 v3 v4 w => ih v0 v1 v2 v3 v4 w)  v0 v1 v2 v4 w75)
theorem t_X9_inTurn_b90 {l : Launch} {D : Dn} {H0 : Heap} {w0 : St} (hl : l.stackTraces = false) (G : Nat) (k12 : Rf → Rf → Int32 → St → Option (Rf × St)) (h12 : ∀ v0 v1 v2 w, V_X9_inTurn l D H0 w0 (k12 v0 v1 v2 w) 12 [(0, lR v0), (1, lR v1), (2, lI v2)] [] w) (v0 : Rf) (v1 : Rf) (v2 : Int32) (v3 : Int32) (w : St) : V_X9_inTurn l D H0 w0 (f_X9_inTurn_b90 G k12 v0 v1 v2 v3 w) 90 [(0, lR v0), (1, lR v1), (2, lI v2), (3, lI v3)] [] w := by
  unfold f_X9_inTurn_b90
  refine r_aload_n 91 1 dX9_inTurn_90 rfl rfl rfl ?_
  refine r_iload_n 92 3 dX9_inTurn_91 rfl rfl rfl ?_
  refine r_iconst (v := 1) 93 dX9_inTurn_92 rfl rfl ?_
  refine r_zast 94 dX9_inTurn_93 rfl (fun w93 => ?_)
  refine r_aload_n 95 0 dX9_inTurn_94 rfl rfl rfl ?_
  refine r_getr 98 gf_X9_12 dX9_inTurn_95 rfl (fun x95 => ?_)
  refine r_iload_n 99 3 dX9_inTurn_98 rfl rfl rfl ?_
  refine r_gd (fun hc99 => ?_)
  refine r_callV (n := 1) (as := [lI v3]) (rest := []) 102 15 (sL_get hl x95 v3 w93) hc99 rfl (lw_V q310 q311 q312 q104 q313) (by decide +kernel) (by decide) rfl rfl (cat2_nil (k := 0)) rfl dX9_inTurn_99 rfl (fun x99 w99 => ?_)
  refine r_cast 105 (CA_cons (c0 := 7) rfl (Or.inl rfl) (CA_cons (c0 := 9) rfl (Or.inr q2711) (CA_nil))) q326 dX9_inTurn_102 rfl ?_
  refine r_share (st2 := fun x105 => [.int x105]) (pc2 := 108) (fun hk => ?_) (fun x105 w105 => ?_)
  · refine r_dsp (fun c105 hc105 => ?_)
    refine r_dif (fun he => ?_) (fun _ => ?_)
    · subst he
      exact r_callV (n := 0) (as := []) (rest := []) 108 7 (s_X10_tells hl G x99 w99) hc105 rfl (lw_V q754 q755 q756 q131 q759) (by decide +kernel) (by decide) rfl rfl (cat2_nil (k := 0)) rfl dX9_inTurn_105 rfl hk
    refine r_dif (fun he => ?_) (fun _ => ?_)
    · subst he
      exact r_callU (x2 := ⟨"CoachTimetable$Event", "tells", "()Z"⟩) (owner := "CoachTimetable$Event") (n := 0) (as := []) (rest := []) 108 9 (s_X10_tells hl G x99 w99) hc105 rfl (lw_app (l5 q754 q757 q758 q755 q131) (lw_meth q759)) rfl (by decide +kernel) (by decide) rfl rfl (cat2_nil (k := 0)) rfl dX9_inTurn_105 rfl hk
    exact r_bdn
  refine r_pop_i 109 dX9_inTurn_108 rfl ?_
  refine r_iinc (v := v2 + 1) (ls2 := [(2, lI (v2 + 1)), (0, lR v0), (1, lR v1), (3, lI v3)]) 112 2 dX9_inTurn_109 rfl rfl (by decide) rfl rfl ?_
  refine r_goto 12 dX9_inTurn_112 (by decide) ?_
  exact r_lsP [1, 2, 0] rfl (h12 v0 v1 (v2 + 1) w105)
theorem t_X9_inTurn_l12 {l : Launch} {D : Dn} {H0 : Heap} {w0 : St} (hl : l.stackTraces = false) (G : Nat) (k115 : Rf → St → Option (Rf × St)) (h115 : ∀ v0 w, V_X9_inTurn l D H0 w0 (k115 v0 w) 115 [(0, lR v0)] [] w) : ∀ (F : Nat) (v0 : Rf) (v1 : Rf) (v2 : Int32) (w : St), V_X9_inTurn l D H0 w0 (f_X9_inTurn_l12 G k115 F v0 v1 v2 w) 12 [(0, lR v0), (1, lR v1), (2, lI v2)] [] w := by
  intro F
  induction F with
  | zero => intros; exact r_none
  | succ F ih =>
    intro v0 v1 v2 w
    unfold f_X9_inTurn_l12
    refine r_iload_n 13 2 dX9_inTurn_12 rfl rfl rfl ?_
    refine r_aload_n 14 0 dX9_inTurn_13 rfl rfl rfl ?_
    refine r_getr 17 gf_X9_12 dX9_inTurn_14 rfl (fun x14 => ?_)
    refine r_gd (fun hc17 => ?_)
    refine r_callV (n := 0) (as := []) (rest := [.int v2]) 20 15 (sL_size hl x14 w) hc17 rfl (lw_V q302 q303 q304 q104 q305) (by decide +kernel) (by decide) rfl rfl (cat2_i (cat2_nil (k := 0))) rfl dX9_inTurn_17 rfl (fun x17 w17 => ?_)
    refine r_icmp_ge 115 23 dX9_inTurn_20 (by decide) rfl ?_ ?_
    · exact r_lsP [0] rfl (h115 v0 w17)
    refine r_iconst (v := (-1)) 24 dX9_inTurn_23 rfl rfl ?_
    refine r_istore_n (ls2 := [(3, lI ((-1))), (0, lR v0), (1, lR v1), (2, lI v2)]) 25 dX9_inTurn_24 rfl (by decide) rfl rfl ?_
    refine r_iconst (v := 0) 26 dX9_inTurn_25 rfl rfl ?_
    refine r_istore (ls2 := [(4, lI 0), (3, lI ((-1))), (0, lR v0), (1, lR v1), (2, lI v2)]) 28 dX9_inTurn_26 (by decide) rfl rfl ?_
    exact r_lsP [2, 3, 4, 1, 0] rfl (t_X9_inTurn_l28 hl G (fun v0 v1 v2 v3 w => f_X9_inTurn_b90 G (fun v0 v1 v2 w => f_X9_inTurn_l12 G k115 F v0 v1 v2 w)  v0 v1 v2 v3 w) (fun v0 v1 v2 v3 w => t_X9_inTurn_b90 hl G (fun v0 v1 v2 w => f_X9_inTurn_l12 G k115 F v0 v1 v2 w) (fun v0 v1 v2 w => ih v0 v1 v2 w)  v0 v1 v2 v3 w) G v0 v1 v2 ((-1)) 0 w17)
theorem t_X9_inTurn_b115 {l : Launch} {D : Dn} {H0 : Heap} {w0 : St} (hl : l.stackTraces = false) (G : Nat) (v0 : Rf) (w : St) : V_X9_inTurn l D H0 w0 (f_X9_inTurn_b115 G v0 w) 115 [(0, lR v0)] [] w := by
  unfold f_X9_inTurn_b115
  refine r_aload_n 116 0 dX9_inTurn_115 rfl rfl rfl ?_
  exact r_aret rfl rfl (Or.inl ⟨_, rfl⟩) dX9_inTurn_116
theorem t_X9_inTurn {l : Launch} {D : Dn} {H0 : Heap} {w0 : St} (hl : l.stackTraces = false) (G : Nat) (a0 : Rf) (w : St) : V_X9_inTurn l D H0 w0 (f_X9_inTurn G a0 w) 0 [(0, lR a0)] [] w := by
  unfold f_X9_inTurn
  refine r_aload_n 1 0 dX9_inTurn_0 rfl rfl rfl ?_
  refine r_getr 4 gf_X9_12 dX9_inTurn_1 rfl (fun x1 => ?_)
  refine r_gd (fun hc4 => ?_)
  refine r_callV (n := 0) (as := []) (rest := []) 7 15 (sL_size hl x1 w) hc4 rfl (lw_V q302 q303 q304 q104 q305) (by decide +kernel) (by decide) rfl rfl (cat2_nil (k := 0)) rfl dX9_inTurn_4 rfl (fun x4 w4 => ?_)
  refine r_newa (atype := .boolean) 9 0 rfl rfl rfl q848 dX9_inTurn_7 rfl (fun w7 => ?_)
  refine r_astore_n (ls2 := [(1, lR ((some w4.n))), (0, lR a0)]) 10 dX9_inTurn_9 rfl (by decide) rfl rfl ?_
  refine r_iconst (v := 0) 11 dX9_inTurn_10 rfl rfl ?_
  refine r_istore_n (ls2 := [(2, lI 0), (1, lR ((some w4.n))), (0, lR a0)]) 12 dX9_inTurn_11 rfl (by decide) rfl rfl ?_
  exact r_lsP [2, 1, 0] rfl (t_X9_inTurn_l12 hl G (fun v0 w => f_X9_inTurn_b115 G  v0 w) (fun v0 w => t_X9_inTurn_b115 hl G  v0 w) G a0 ((some w4.n)) 0 w7)
theorem s_X9_inTurn {l : Launch} {D : Dn} {H0 : Heap} (hl : l.stackTraces = false) (G : Nat) (a0 : Rf) (w : St) : SimN l D H0 yX9_inTurn (ws_ yX9_inTurn cX9_inTurn 5 (some (.object "CoachTimetable$Net"))) 35 3105 rvR [lR a0] w (f_X9_inTurn G a0 w) := SimX.N (SimX.ofV (y := yX9_inTurn) (by decide) rfl (t_X9_inTurn hl G a0 w))
abbrev V_X1_net (l : Launch) (D : Dn) (H0 : Heap) (w0 : St) (res : Option (Rf × St)) (pc : Nat) (ls : List (Nat × LV)) (st : List Value) (w : St) : Prop := V l D H0 RX1 "net" cX1_net 1 (some (.object "CoachTimetable$Net")) [] 36 3129 (fun x => .inr (rvR x)) w0 res pc ls st w
theorem t_X1_net {l : Launch} {D : Dn} {H0 : Heap} {w0 : St} (hl : l.stackTraces = false) (G : Nat) (a0 : Rf) (w : St) : V_X1_net l D H0 w0 (f_X1_net G a0 w) 0 [(0, lR a0)] [] w := by
  unfold f_X1_net
  refine r_nw (C := RX9) (T := TX9) (N := 3) (ty := tyX9) 3 6 rfl rfl in_X9 tyX9_ok q294 q295 q130 rfl (by decide) dX1_net_0 rfl (fun b0 w0 => ?_)
  refine r_dup_r 4 dX1_net_3 rfl ?_
  refine r_aload_n 5 0 dX1_net_4 rfl rfl rfl ?_
  refine r_getr 8 gf_X1_10 dX1_net_5 rfl (fun x5 => ?_)
  refine r_iconst (v := (-1)) 9 dX1_net_8 rfl rfl ?_
  refine r_callI (b := b0) (n := 2) (as := [lR x5, lI ((-1))]) (rest := [rf ((some b0))]) 12 (s_X9_init hl G b0 x5 ((-1)) w0) (lw_meth q298) q130 q296 q297 rfl (by decide +kernel) (by decide) rfl rfl (cat2_r (cat2_nil (k := 0))) rfl dX1_net_9 rfl (fun _ w9 => ?_)
  refine r_gd (fun hc12 => ?_)
  refine r_callV (n := 0) (as := []) (rest := []) 15 6 (s_X9_inTurn hl G ((some b0)) w9) hc12 rfl (lw_V q740 q741 q742 q130 q743) (by decide +kernel) (by decide) rfl rfl (cat2_nil (k := 0)) rfl dX1_net_12 rfl (fun x12 w12 => ?_)
  exact r_aret rfl rfl (Or.inl ⟨_, rfl⟩) dX1_net_15
theorem s_X1_net {l : Launch} {D : Dn} {H0 : Heap} (hl : l.stackTraces = false) (G : Nat) (a0 : Rf) (w : St) : SimN l D H0 yX1_net (ws_ yX1_net cX1_net 1 (some (.object "CoachTimetable$Net"))) 36 3129 rvR [lR a0] w (f_X1_net G a0 w) := SimX.N (SimX.ofV (y := yX1_net) (by decide) rfl (t_X1_net hl G a0 w))
abbrev V_X10_late (l : Launch) (D : Dn) (H0 : Heap) (w0 : St) (res : Option (Int32 × St)) (pc : Nat) (ls : List (Nat × LV)) (st : List Value) (w : St) : Prop := V l D H0 RX10 "late" cX10_late 1 (some (.int)) [] 0 0 (fun x => .inr (rvI x)) w0 res pc ls st w
theorem t_X10_late {l : Launch} {D : Dn} {H0 : Heap} {w0 : St} (hl : l.stackTraces = false) (G : Nat) (a0 : Rf) (w : St) : V_X10_late l D H0 w0 (f_X10_late G a0 w) 0 [(0, lR a0)] [] w := by
  unfold f_X10_late
  refine r_aload_n 1 0 dX10_late_0 rfl rfl rfl ?_
  refine r_geti 4 gf_X10_48 dX10_late_1 rfl (fun x1 => ?_)
  refine r_aload_n 5 0 dX10_late_4 rfl rfl rfl ?_
  refine r_geti 8 gf_X10_38 dX10_late_5 rfl (fun x5 => ?_)
  refine r_isub 9 dX10_late_8 rfl ?_
  exact r_iret rfl rfl dX10_late_9
theorem s_X10_late {l : Launch} {D : Dn} {H0 : Heap} (hl : l.stackTraces = false) (G : Nat) (a0 : Rf) (w : St) : SimN l D H0 yX10_late (ws_ yX10_late cX10_late 1 (some (.int))) 0 0 rvI [lR a0] w (f_X10_late G a0 w) := SimX.N (SimX.ofV (y := yX10_late) (by decide) rfl (t_X10_late hl G a0 w))
abbrev V_X9_total (l : Launch) (D : Dn) (H0 : Heap) (w0 : St) (res : Option (Int32 × St)) (pc : Nat) (ls : List (Nat × LV)) (st : List Value) (w : St) : Prop := V l D H0 RX9 "total" cX9_total 4 (some (.int)) [] 31 3022 (fun x => .inr (rvI x)) w0 res pc ls st w
theorem t_X9_total_l10 {l : Launch} {D : Dn} {H0 : Heap} {w0 : St} (hl : l.stackTraces = false) (G : Nat) (k39 : Int32 → St → Option (Int32 × St)) (h39 : ∀ v1 w, V_X9_total l D H0 w0 (k39 v1 w) 39 [(1, lI v1)] [] w) : ∀ (F : Nat) (v1 : Int32) (v2 : Rf) (w : St), V_X9_total l D H0 w0 (f_X9_total_l10 G k39 F v1 v2 w) 10 [(1, lI v1), (2, lR v2)] [] w := by
  intro F
  induction F with
  | zero => intros; exact r_none
  | succ F ih =>
    intro v1 v2 w
    unfold f_X9_total_l10
    refine r_aload_n 11 1 dX9_total_10 rfl rfl rfl ?_
    refine r_gd (fun hc11 => ?_)
    refine r_callF (x2 := ⟨"java/util/Iterator", "hasNext", "()Z"⟩) (n := 0) (as := []) (rest := []) 16 16 (sI_hasNext hl v2 w) hc11 rfl (lw_app (l4 q580 q584 q586 q116) (lw_meth q588)) (List.mem_of_getElem? (i := 0) rfl) (by decide +kernel) (by decide) rfl rfl (cat2_nil (k := 0)) rfl dX9_total_11 rfl (fun x11 w11 => ?_)
    refine r_if_eq 39 19 dX9_total_16 (by decide) rfl ?_ ?_
    · exact r_lsP [0] rfl (h39 v1 w11)
    refine r_aload_n 20 1 dX9_total_19 rfl rfl rfl ?_
    refine r_gd (fun hc20 => ?_)
    refine r_callF (x2 := ⟨"java/util/Iterator", "next", "()Ljava/lang/Object;"⟩) (n := 0) (as := []) (rest := []) 25 16 (sI_next hl v2 w11) hc20 rfl (lw_app (l4 q590 q593 q595 q116) (lw_meth q597)) (List.mem_of_getElem? (i := 1) rfl) (by decide +kernel) (by decide) rfl rfl (cat2_nil (k := 0)) rfl dX9_total_20 rfl (fun x20 w20 => ?_)
    refine r_cast 28 (CA_cons (c0 := 7) rfl (Or.inl rfl) (CA_cons (c0 := 9) rfl (Or.inr q2711) (CA_nil))) q326 dX9_total_25 rfl ?_
    refine r_astore_n (ls2 := [(3, lR x20), (1, lI v1), (2, lR v2)]) 29 dX9_total_28 rfl (by decide) rfl rfl ?_
    refine r_iload_n 30 1 dX9_total_29 rfl rfl rfl ?_
    refine r_aload_n 31 0 dX9_total_30 rfl rfl rfl ?_
    refine r_share (st2 := fun x31 => [.int x31, .int v1]) (pc2 := 34) (fun hk => ?_) (fun x31 w31 => ?_)
    · refine r_dsp (fun c31 hc31 => ?_)
      refine r_dif (fun he => ?_) (fun _ => ?_)
      · subst he
        exact r_callV (n := 0) (as := []) (rest := [.int v1]) 34 7 (s_X10_late hl G x20 w20) hc31 rfl (lw_V q842 q843 q844 q131 q847) (by decide +kernel) (by decide) rfl rfl (cat2_i (cat2_nil (k := 0))) rfl dX9_total_31 rfl hk
      refine r_dif (fun he => ?_) (fun _ => ?_)
      · subst he
        exact r_callU (x2 := ⟨"CoachTimetable$Event", "late", "()I"⟩) (owner := "CoachTimetable$Event") (n := 0) (as := []) (rest := [.int v1]) 34 9 (s_X10_late hl G x20 w20) hc31 rfl (lw_app (l5 q842 q845 q846 q843 q131) (lw_meth q847)) rfl (by decide +kernel) (by decide) rfl rfl (cat2_i (cat2_nil (k := 0))) rfl dX9_total_31 rfl hk
      exact r_bdn
    refine r_iadd 35 dX9_total_34 rfl ?_
    refine r_istore_n (ls2 := [(1, lI (v1 + x31)), (3, lR x20), (2, lR v2)]) 36 dX9_total_35 rfl (by decide) rfl rfl ?_
    refine r_goto 10 dX9_total_36 (by decide) ?_
    exact r_lsP [0, 2] rfl (ih (v1 + x31) v2 w31)
theorem t_X9_total_b39 {l : Launch} {D : Dn} {H0 : Heap} {w0 : St} (hl : l.stackTraces = false) (G : Nat) (v1 : Int32) (w : St) : V_X9_total l D H0 w0 (f_X9_total_b39 G v1 w) 39 [(1, lI v1)] [] w := by
  unfold f_X9_total_b39
  refine r_iload_n 40 0 dX9_total_39 rfl rfl rfl ?_
  exact r_iret rfl rfl dX9_total_40
theorem t_X9_total {l : Launch} {D : Dn} {H0 : Heap} {w0 : St} (hl : l.stackTraces = false) (G : Nat) (a0 : Rf) (w : St) : V_X9_total l D H0 w0 (f_X9_total G a0 w) 0 [(0, lR a0)] [] w := by
  unfold f_X9_total
  refine r_iconst (v := 0) 1 dX9_total_0 rfl rfl ?_
  refine r_istore_n (ls2 := [(1, lI 0), (0, lR a0)]) 2 dX9_total_1 rfl (by decide) rfl rfl ?_
  refine r_aload_n 3 1 dX9_total_2 rfl rfl rfl ?_
  refine r_getr 6 gf_X9_12 dX9_total_3 rfl (fun x3 => ?_)
  refine r_gd (fun hc6 => ?_)
  refine r_callV (n := 0) (as := []) (rest := []) 9 15 (sL_iterator hl x3 w) hc6 rfl (lw_V q556 q557 q558 q104 q559) (by decide +kernel) (by decide) rfl rfl (cat2_nil (k := 0)) rfl dX9_total_6 rfl (fun x6 w6 => ?_)
  refine r_astore_n (ls2 := [(2, lR x6), (1, lI 0), (0, lR a0)]) 10 dX9_total_9 rfl (by decide) rfl rfl ?_
  exact r_lsP [1, 0] rfl (t_X9_total_l10 hl G (fun v1 w => f_X9_total_b39 G  v1 w) (fun v1 w => t_X9_total_b39 hl G  v1 w) G 0 x6 w6)
theorem s_X9_total {l : Launch} {D : Dn} {H0 : Heap} (hl : l.stackTraces = false) (G : Nat) (a0 : Rf) (w : St) : SimN l D H0 yX9_total (ws_ yX9_total cX9_total 4 (some (.int))) 31 3022 rvI [lR a0] w (f_X9_total G a0 w) := SimX.N (SimX.ofV (y := yX9_total) (by decide) rfl (t_X9_total hl G a0 w))
abbrev V_X1_total (l : Launch) (D : Dn) (H0 : Heap) (w0 : St) (res : Option (Int32 × St)) (pc : Nat) (ls : List (Nat × LV)) (st : List Value) (w : St) : Prop := V l D H0 RX1 "total" cX1_total 1 (some (.int)) [] 37 3149 (fun x => .inr (rvI x)) w0 res pc ls st w
theorem t_X1_total {l : Launch} {D : Dn} {H0 : Heap} {w0 : St} (hl : l.stackTraces = false) (G : Nat) (a0 : Rf) (w : St) : V_X1_total l D H0 w0 (f_X1_total G a0 w) 0 [(0, lR a0)] [] w := by
  unfold f_X1_total
  refine r_aload_n 1 0 dX1_total_0 rfl rfl rfl ?_
  refine r_gd (fun hc1 => ?_)
  refine r_callV (n := 0) (as := []) (rest := []) 4 0 (s_X1_net hl G a0 w) hc1 rfl (lw_V q290 q292 qs0 q100 q293) (by decide +kernel) (by decide) rfl rfl (cat2_nil (k := 0)) rfl dX1_total_1 rfl (fun x1 w1 => ?_)
  refine r_gd (fun hc4 => ?_)
  refine r_callV (n := 0) (as := []) (rest := []) 7 6 (s_X9_total hl G x1 w1) hc4 rfl (lw_V q838 q839 q840 q130 q841) (by decide +kernel) (by decide) rfl rfl (cat2_nil (k := 0)) rfl dX1_total_4 rfl (fun x4 w4 => ?_)
  exact r_iret rfl rfl dX1_total_7
theorem s_X1_total {l : Launch} {D : Dn} {H0 : Heap} (hl : l.stackTraces = false) (G : Nat) (a0 : Rf) (w : St) : SimN l D H0 yX1_total (ws_ yX1_total cX1_total 1 (some (.int))) 37 3149 rvI [lR a0] w (f_X1_total G a0 w) := SimX.N (SimX.ofV (y := yX1_total) (by decide) rfl (t_X1_total hl G a0 w))
abbrev V_X9_inRounds (l : Launch) (D : Dn) (H0 : Heap) (w0 : St) (res : Option (Rf × St)) (pc : Nat) (ls : List (Nat × LV)) (st : List Value) (w : St) : Prop := V l D H0 RX9 "inRounds" cX9_inRounds 4 (some (.object "CoachTimetable$Net")) [] 35 3105 (fun x => .inr (rvR x)) w0 res pc ls st w
theorem t_X9_inRounds_l16 {l : Launch} {D : Dn} {H0 : Heap} {w0 : St} (hl : l.stackTraces = false) (G : Nat) (k45 : Rf → Int32 → St → Option (Rf × St)) (h45 : ∀ v0 v1 w, V_X9_inRounds l D H0 w0 (k45 v0 v1 w) 45 [(0, lR v0), (1, lI v1)] [] w) : ∀ (F : Nat) (v0 : Rf) (v1 : Int32) (v2 : Rf) (w : St), V_X9_inRounds l D H0 w0 (f_X9_inRounds_l16 G k45 F v0 v1 v2 w) 16 [(0, lR v0), (1, lI v1), (2, lR v2)] [] w := by
  intro F
  induction F with
  | zero => intros; exact r_none
  | succ F ih =>
    intro v0 v1 v2 w
    unfold f_X9_inRounds_l16
    refine r_aload_n 17 2 dX9_inRounds_16 rfl rfl rfl ?_
    refine r_gd (fun hc17 => ?_)
    refine r_callF (x2 := ⟨"java/util/Iterator", "hasNext", "()Z"⟩) (n := 0) (as := []) (rest := []) 22 16 (sI_hasNext hl v2 w) hc17 rfl (lw_app (l4 q580 q584 q586 q116) (lw_meth q588)) (List.mem_of_getElem? (i := 0) rfl) (by decide +kernel) (by decide) rfl rfl (cat2_nil (k := 0)) rfl dX9_inRounds_17 rfl (fun x17 w17 => ?_)
    refine r_if_eq 45 25 dX9_inRounds_22 (by decide) rfl ?_ ?_
    · exact r_lsP [0, 1] rfl (h45 v0 v1 w17)
    refine r_aload_n 26 2 dX9_inRounds_25 rfl rfl rfl ?_
    refine r_gd (fun hc26 => ?_)
    refine r_callF (x2 := ⟨"java/util/Iterator", "next", "()Ljava/lang/Object;"⟩) (n := 0) (as := []) (rest := []) 31 16 (sI_next hl v2 w17) hc26 rfl (lw_app (l4 q590 q593 q595 q116) (lw_meth q597)) (List.mem_of_getElem? (i := 1) rfl) (by decide +kernel) (by decide) rfl rfl (cat2_nil (k := 0)) rfl dX9_inRounds_26 rfl (fun x26 w26 => ?_)
    refine r_cast 34 (CA_cons (c0 := 7) rfl (Or.inl rfl) (CA_cons (c0 := 9) rfl (Or.inr q2711) (CA_nil))) q326 dX9_inRounds_31 rfl ?_
    refine r_astore_n (ls2 := [(3, lR x26), (0, lR v0), (1, lI v1), (2, lR v2)]) 35 dX9_inRounds_34 rfl (by decide) rfl rfl ?_
    refine r_iload_n 36 2 dX9_inRounds_35 rfl rfl rfl ?_
    refine r_aload_n 37 0 dX9_inRounds_36 rfl rfl rfl ?_
    refine r_share (st2 := fun x37 => [.int x37, .int v1]) (pc2 := 40) (fun hk => ?_) (fun x37 w37 => ?_)
    · refine r_dsp (fun c37 hc37 => ?_)
      refine r_dif (fun he => ?_) (fun _ => ?_)
      · subst he
        exact r_callV (n := 0) (as := []) (rest := [.int v1]) 40 7 (s_X10_tells hl G x26 w26) hc37 rfl (lw_V q754 q755 q756 q131 q759) (by decide +kernel) (by decide) rfl rfl (cat2_i (cat2_nil (k := 0))) rfl dX9_inRounds_37 rfl hk
      refine r_dif (fun he => ?_) (fun _ => ?_)
      · subst he
        exact r_callU (x2 := ⟨"CoachTimetable$Event", "tells", "()Z"⟩) (owner := "CoachTimetable$Event") (n := 0) (as := []) (rest := [.int v1]) 40 9 (s_X10_tells hl G x26 w26) hc37 rfl (lw_app (l5 q754 q757 q758 q755 q131) (lw_meth q759)) rfl (by decide +kernel) (by decide) rfl rfl (cat2_i (cat2_nil (k := 0))) rfl dX9_inRounds_37 rfl hk
      exact r_bdn
    refine r_ior 41 dX9_inRounds_40 rfl ?_
    refine r_istore_n (ls2 := [(1, lI (v1 ||| x37)), (3, lR x26), (0, lR v0), (2, lR v2)]) 42 dX9_inRounds_41 rfl (by decide) rfl rfl ?_
    refine r_goto 16 dX9_inRounds_42 (by decide) ?_
    exact r_lsP [2, 0, 3] rfl (ih v0 (v1 ||| x37) v2 w37)
theorem t_X9_inRounds_b45 {l : Launch} {D : Dn} {H0 : Heap} {w0 : St} (hl : l.stackTraces = false) (G : Nat) (k2 : Rf → Int32 → St → Option (Rf × St)) (h2 : ∀ v0 v1 w, V_X9_inRounds l D H0 w0 (k2 v0 v1 w) 2 [(0, lR v0), (1, lI v1)] [] w) (v0 : Rf) (v1 : Int32) (w : St) : V_X9_inRounds l D H0 w0 (f_X9_inRounds_b45 G k2 v0 v1 w) 45 [(0, lR v0), (1, lI v1)] [] w := by
  unfold f_X9_inRounds_b45
  refine r_goto 2 dX9_inRounds_45 (by decide) ?_
  exact r_lsP [0, 1] rfl (h2 v0 v1 w)
theorem t_X9_inRounds_l2 {l : Launch} {D : Dn} {H0 : Heap} {w0 : St} (hl : l.stackTraces = false) (G : Nat) (k48 : Rf → St → Option (Rf × St)) (h48 : ∀ v0 w, V_X9_inRounds l D H0 w0 (k48 v0 w) 48 [(0, lR v0)] [] w) : ∀ (F : Nat) (v0 : Rf) (v1 : Int32) (w : St), V_X9_inRounds l D H0 w0 (f_X9_inRounds_l2 G k48 F v0 v1 w) 2 [(0, lR v0), (1, lI v1)] [] w := by
  intro F
  induction F with
  | zero => intros; exact r_none
  | succ F ih =>
    intro v0 v1 w
    unfold f_X9_inRounds_l2
    refine r_iload_n 3 1 dX9_inRounds_2 rfl rfl rfl ?_
    refine r_if_eq 48 6 dX9_inRounds_3 (by decide) rfl ?_ ?_
    · exact r_lsP [0] rfl (h48 v0 w)
    refine r_iconst (v := 0) 7 dX9_inRounds_6 rfl rfl ?_
    refine r_istore_n (ls2 := [(1, lI 0), (0, lR v0)]) 8 dX9_inRounds_7 rfl (by decide) rfl rfl ?_
    refine r_aload_n 9 1 dX9_inRounds_8 rfl rfl rfl ?_
    refine r_getr 12 gf_X9_12 dX9_inRounds_9 rfl (fun x9 => ?_)
    refine r_gd (fun hc12 => ?_)
    refine r_callV (n := 0) (as := []) (rest := []) 15 15 (sL_iterator hl x9 w) hc12 rfl (lw_V q556 q557 q558 q104 q559) (by decide +kernel) (by decide) rfl rfl (cat2_nil (k := 0)) rfl dX9_inRounds_12 rfl (fun x12 w12 => ?_)
    refine r_astore_n (ls2 := [(2, lR x12), (1, lI 0), (0, lR v0)]) 16 dX9_inRounds_15 rfl (by decide) rfl rfl ?_
    exact r_lsP [2, 1, 0] rfl (t_X9_inRounds_l16 hl G (fun v0 v1 w => f_X9_inRounds_b45 G (fun v0 v1 w => f_X9_inRounds_l2 G k48 F v0 v1 w)  v0 v1 w) (fun v0 v1 w => t_X9_inRounds_b45 hl G (fun v0 v1 w => f_X9_inRounds_l2 G k48 F v0 v1 w) (fun v0 v1 w => ih v0 v1 w)  v0 v1 w) G v0 0 x12 w12)
theorem t_X9_inRounds_b48 {l : Launch} {D : Dn} {H0 : Heap} {w0 : St} (hl : l.stackTraces = false) (G : Nat) (v0 : Rf) (w : St) : V_X9_inRounds l D H0 w0 (f_X9_inRounds_b48 G v0 w) 48 [(0, lR v0)] [] w := by
  unfold f_X9_inRounds_b48
  refine r_aload_n 49 0 dX9_inRounds_48 rfl rfl rfl ?_
  exact r_aret rfl rfl (Or.inl ⟨_, rfl⟩) dX9_inRounds_49
theorem t_X9_inRounds {l : Launch} {D : Dn} {H0 : Heap} {w0 : St} (hl : l.stackTraces = false) (G : Nat) (a0 : Rf) (w : St) : V_X9_inRounds l D H0 w0 (f_X9_inRounds G a0 w) 0 [(0, lR a0)] [] w := by
  unfold f_X9_inRounds
  refine r_iconst (v := 1) 1 dX9_inRounds_0 rfl rfl ?_
  refine r_istore_n (ls2 := [(1, lI 1), (0, lR a0)]) 2 dX9_inRounds_1 rfl (by decide) rfl rfl ?_
  exact r_lsP [1, 0] rfl (t_X9_inRounds_l2 hl G (fun v0 w => f_X9_inRounds_b48 G  v0 w) (fun v0 w => t_X9_inRounds_b48 hl G  v0 w) G a0 1 w)
theorem s_X9_inRounds {l : Launch} {D : Dn} {H0 : Heap} (hl : l.stackTraces = false) (G : Nat) (a0 : Rf) (w : St) : SimN l D H0 yX9_inRounds (ws_ yX9_inRounds cX9_inRounds 4 (some (.object "CoachTimetable$Net"))) 35 3105 rvR [lR a0] w (f_X9_inRounds G a0 w) := SimX.N (SimX.ofV (y := yX9_inRounds) (by decide) rfl (t_X9_inRounds hl G a0 w))
abbrev V_X1_isTold (l : Launch) (D : Dn) (H0 : Heap) (w0 : St) (res : Option (Int32 × St)) (pc : Nat) (ls : List (Nat × LV)) (st : List Value) (w : St) : Prop := V l D H0 RX1 "isTold" cX1_isTold 4 (some (.boolean)) [] 37 3149 (fun x => .inr (rvI x)) w0 res pc ls st w
theorem t_X1_isTold_l29 {l : Launch} {D : Dn} {H0 : Heap} {w0 : St} (hl : l.stackTraces = false) (G : Nat) (k76 : St → Option (Int32 × St)) (h76 : ∀ w, V_X1_isTold l D H0 w0 (k76 w) 76 [] [] w) (k84 : St → Option (Int32 × St)) (h84 : ∀ w, V_X1_isTold l D H0 w0 (k84 w) 84 [] [] w) : ∀ (F : Nat) (v1 : Rf) (v2 : Rf) (v3 : Int32) (w : St), V_X1_isTold l D H0 w0 (f_X1_isTold_l29 G k76 k84 F v1 v2 v3 w) 29 [(1, lR v1), (2, lR v2), (3, lI v3)] [] w := by
  intro F
  induction F with
  | zero => intros; exact r_none
  | succ F ih =>
    intro v1 v2 v3 w
    unfold f_X1_isTold_l29
    refine r_iload_n 30 2 dX1_isTold_29 rfl rfl rfl ?_
    refine r_aload_n 31 0 dX1_isTold_30 rfl rfl rfl ?_
    refine r_gd (fun hc31 => ?_)
    refine r_callV (n := 0) (as := []) (rest := [.int v3]) 34 15 (sL_size hl v1 w) hc31 rfl (lw_V q857 q303 q304 q104 q305) (by decide +kernel) (by decide) rfl rfl (cat2_i (cat2_nil (k := 0))) rfl dX1_isTold_31 rfl (fun x31 w31 => ?_)
    refine r_icmp_ge 84 37 dX1_isTold_34 (by decide) rfl ?_ ?_
    · exact r_lsP [] rfl (h84 w31)
    refine r_aload_n 38 0 dX1_isTold_37 rfl rfl rfl ?_
    refine r_iload_n 39 2 dX1_isTold_38 rfl rfl rfl ?_
    refine r_gd (fun hc39 => ?_)
    refine r_callV (n := 1) (as := [lI v3]) (rest := []) 42 15 (sL_get hl v1 v3 w31) hc39 rfl (lw_V q858 q311 q312 q104 q313) (by decide +kernel) (by decide) rfl rfl (cat2_nil (k := 0)) rfl dX1_isTold_39 rfl (fun x39 w39 => ?_)
    refine r_cast 45 (CA_cons (c0 := 7) rfl (Or.inl rfl) (CA_cons (c0 := 9) rfl (Or.inr q2711) (CA_nil))) q859 dX1_isTold_42 rfl ?_
    refine r_geti 48 gf_X1_297 dX1_isTold_45 rfl (fun x45 => ?_)
    refine r_aload_n 49 1 dX1_isTold_48 rfl rfl rfl ?_
    refine r_iload_n 50 2 dX1_isTold_49 rfl rfl rfl ?_
    refine r_gd (fun hc50 => ?_)
    refine r_callV (n := 1) (as := [lI v3]) (rest := [.int x45]) 53 15 (sL_get hl v2 v3 w39) hc50 rfl (lw_V q858 q311 q312 q104 q313) (by decide +kernel) (by decide) rfl rfl (cat2_i (cat2_nil (k := 0))) rfl dX1_isTold_50 rfl (fun x50 w50 => ?_)
    refine r_cast 56 (CA_cons (c0 := 7) rfl (Or.inl rfl) (CA_cons (c0 := 9) rfl (Or.inr q2711) (CA_nil))) q859 dX1_isTold_53 rfl ?_
    refine r_geti 59 gf_X1_297 dX1_isTold_56 rfl (fun x56 => ?_)
    refine r_icmp_ne 76 62 dX1_isTold_59 (by decide) rfl ?_ ?_
    · exact r_lsP [] rfl (h76 w50)
    refine r_aload_n 63 0 dX1_isTold_62 rfl rfl rfl ?_
    refine r_iload_n 64 2 dX1_isTold_63 rfl rfl rfl ?_
    refine r_gd (fun hc64 => ?_)
    refine r_callV (n := 1) (as := [lI v3]) (rest := []) 67 15 (sL_get hl v1 v3 w50) hc64 rfl (lw_V q858 q311 q312 q104 q313) (by decide +kernel) (by decide) rfl rfl (cat2_nil (k := 0)) rfl dX1_isTold_64 rfl (fun x64 w64 => ?_)
    refine r_cast 70 (CA_cons (c0 := 7) rfl (Or.inl rfl) (CA_cons (c0 := 9) rfl (Or.inr q2711) (CA_nil))) q859 dX1_isTold_67 rfl ?_
    refine r_share (st2 := fun x70 => [.int x70]) (pc2 := 73) (fun hk => ?_) (fun x70 w70 => ?_)
    · refine r_dsp (fun c70 hc70 => ?_)
      refine r_dif (fun he => ?_) (fun _ => ?_)
      · subst he
        exact r_callV (n := 0) (as := []) (rest := []) 73 7 (s_X10_late hl G x64 w64) hc70 rfl (lw_V q860 q843 q844 q131 q847) (by decide +kernel) (by decide) rfl rfl (cat2_nil (k := 0)) rfl dX1_isTold_70 rfl hk
      refine r_dif (fun he => ?_) (fun _ => ?_)
      · subst he
        exact r_callU (x2 := ⟨"CoachTimetable$Event", "late", "()I"⟩) (owner := "CoachTimetable$Event") (n := 0) (as := []) (rest := []) 73 9 (s_X10_late hl G x64 w64) hc70 rfl (lw_app (l5 q860 q845 q846 q843 q131) (lw_meth q847)) rfl (by decide +kernel) (by decide) rfl rfl (cat2_nil (k := 0)) rfl dX1_isTold_70 rfl hk
      exact r_bdn
    refine r_if_ge 78 76 dX1_isTold_73 (by decide) rfl ?_ ?_
    · refine r_iinc (v := v3 + 1) (ls2 := [(3, lI (v3 + 1)), (1, lR v1), (2, lR v2)]) 81 2 dX1_isTold_78 rfl rfl (by decide) rfl rfl ?_
      refine r_goto 29 dX1_isTold_81 (by decide) ?_
      exact r_lsP [1, 2, 0] rfl (ih v1 v2 (v3 + 1) w70)
    exact r_lsP [] rfl (h76 w70)
theorem t_X1_isTold_b76 {l : Launch} {D : Dn} {H0 : Heap} {w0 : St} (hl : l.stackTraces = false) (G : Nat) (w : St) : V_X1_isTold l D H0 w0 (f_X1_isTold_b76 G  w) 76 [] [] w := by
  unfold f_X1_isTold_b76
  refine r_iconst (v := 0) 77 dX1_isTold_76 rfl rfl ?_
  exact r_zret rfl rfl rfl dX1_isTold_77
theorem t_X1_isTold_b84 {l : Launch} {D : Dn} {H0 : Heap} {w0 : St} (hl : l.stackTraces = false) (G : Nat) (w : St) : V_X1_isTold l D H0 w0 (f_X1_isTold_b84 G  w) 84 [] [] w := by
  unfold f_X1_isTold_b84
  refine r_iconst (v := 1) 85 dX1_isTold_84 rfl rfl ?_
  exact r_zret rfl rfl rfl dX1_isTold_85
theorem t_X1_isTold {l : Launch} {D : Dn} {H0 : Heap} {w0 : St} (hl : l.stackTraces = false) (G : Nat) (a0 : Rf) (w : St) : V_X1_isTold l D H0 w0 (f_X1_isTold G a0 w) 0 [(0, lR a0)] [] w := by
  unfold f_X1_isTold
  refine r_aload_n 1 0 dX1_isTold_0 rfl rfl rfl ?_
  refine r_gd (fun hc1 => ?_)
  refine r_callV (n := 0) (as := []) (rest := []) 4 0 (s_X1_net hl G a0 w) hc1 rfl (lw_V q290 q292 qs0 q100 q293) (by decide +kernel) (by decide) rfl rfl (cat2_nil (k := 0)) rfl dX1_isTold_1 rfl (fun x1 w1 => ?_)
  refine r_getr 7 gf_X1_331 dX1_isTold_4 rfl (fun x4 => ?_)
  refine r_astore_n (ls2 := [(1, lR x4), (0, lR a0)]) 8 dX1_isTold_7 rfl (by decide) rfl rfl ?_
  refine r_nw (C := RX9) (T := TX9) (N := 3) (ty := tyX9) 11 6 rfl rfl in_X9 tyX9_ok q294 q295 q130 rfl (by decide) dX1_isTold_8 rfl (fun b8 w8 => ?_)
  refine r_dup_r 12 dX1_isTold_11 rfl ?_
  refine r_aload_n 13 1 dX1_isTold_12 rfl rfl rfl ?_
  refine r_getr 16 gf_X1_10 dX1_isTold_13 rfl (fun x13 => ?_)
  refine r_iconst (v := (-1)) 17 dX1_isTold_16 rfl rfl ?_
  refine r_callI (b := b8) (n := 2) (as := [lR x13, lI ((-1))]) (rest := [rf ((some b8))]) 20 (s_X9_init hl G b8 x13 ((-1)) w8) (lw_meth q298) q130 q296 q297 rfl (by decide +kernel) (by decide) rfl rfl (cat2_r (cat2_nil (k := 0))) rfl dX1_isTold_17 rfl (fun _ w17 => ?_)
  refine r_gd (fun hc20 => ?_)
  refine r_callV (n := 0) (as := []) (rest := []) 23 6 (s_X9_inRounds hl G ((some b8)) w17) hc20 rfl (lw_V q853 q854 q855 q130 q856) (by decide +kernel) (by decide) rfl rfl (cat2_nil (k := 0)) rfl dX1_isTold_20 rfl (fun x20 w20 => ?_)
  refine r_getr 26 gf_X1_331 dX1_isTold_23 rfl (fun x23 => ?_)
  refine r_astore_n (ls2 := [(2, lR x23), (1, lR x4), (0, lR a0)]) 27 dX1_isTold_26 rfl (by decide) rfl rfl ?_
  refine r_iconst (v := 0) 28 dX1_isTold_27 rfl rfl ?_
  refine r_istore_n (ls2 := [(3, lI 0), (2, lR x23), (1, lR x4), (0, lR a0)]) 29 dX1_isTold_28 rfl (by decide) rfl rfl ?_
  exact r_lsP [2, 1, 0] rfl (t_X1_isTold_l29 hl G (fun w => f_X1_isTold_b76 G  w) (fun w => t_X1_isTold_b76 hl G  w) (fun w => f_X1_isTold_b84 G  w) (fun w => t_X1_isTold_b84 hl G  w) G x4 x23 0 w20)
theorem s_X1_isTold {l : Launch} {D : Dn} {H0 : Heap} (hl : l.stackTraces = false) (G : Nat) (a0 : Rf) (w : St) : SimN l D H0 yX1_isTold (ws_ yX1_isTold cX1_isTold 4 (some (.boolean))) 37 3149 rvI [lR a0] w (f_X1_isTold G a0 w) := SimX.N (SimX.ofV (y := yX1_isTold) (by decide) rfl (t_X1_isTold hl G a0 w))
abbrev V_X1_faultPosition (l : Launch) (D : Dn) (H0 : Heap) (w0 : St) (res : Option (Int32 × St)) (pc : Nat) (ls : List (Nat × LV)) (st : List Value) (w : St) : Prop := V l D H0 RX1 "faultPosition" cX1_faultPosition 1 (some (.int)) [] 0 0 (fun x => .inr (rvI x)) w0 res pc ls st w
theorem t_X1_faultPosition {l : Launch} {D : Dn} {H0 : Heap} {w0 : St} (hl : l.stackTraces = false) (G : Nat) (a0 : Rf) (w : St) : V_X1_faultPosition l D H0 w0 (f_X1_faultPosition G a0 w) 0 [(0, lR a0)] [] w := by
  unfold f_X1_faultPosition
  refine r_aload_n 1 0 dX1_faultPosition_0 rfl rfl rfl ?_
  refine r_geti 4 gf_X1_33 dX1_faultPosition_1 rfl (fun x1 => ?_)
  exact r_iret rfl rfl dX1_faultPosition_4
theorem s_X1_faultPosition {l : Launch} {D : Dn} {H0 : Heap} (hl : l.stackTraces = false) (G : Nat) (a0 : Rf) (w : St) : SimN l D H0 yX1_faultPosition (ws_ yX1_faultPosition cX1_faultPosition 1 (some (.int))) 0 0 rvI [lR a0] w (f_X1_faultPosition G a0 w) := SimX.N (SimX.ofV (y := yX1_faultPosition) (by decide) rfl (t_X1_faultPosition hl G a0 w))
abbrev V_X12_leadOf (l : Launch) (D : Dn) (H0 : Heap) (w0 : St) (res : Option (Int32 × St)) (pc : Nat) (ls : List (Nat × LV)) (st : List Value) (w : St) : Prop := V l D H0 RX12 "leadOf" cX12_leadOf 5 (some (.int)) [] 31 3021 (fun x => .inr (rvI x)) w0 res pc ls st w
theorem t_X12_leadOf_b47 {l : Launch} {D : Dn} {H0 : Heap} {w0 : St} (hl : l.stackTraces = false) (G : Nat) (k2 : Rf → Int32 → Int32 → St → Option (Int32 × St)) (h2 : ∀ v0 v1 v2 w, V_X12_leadOf l D H0 w0 (k2 v0 v1 v2 w) 2 [(0, lR v0), (1, lI v1), (2, lI v2)] [] w) (v0 : Rf) (v1 : Int32) (v2 : Int32) (w : St) : V_X12_leadOf l D H0 w0 (f_X12_leadOf_b47 G k2 v0 v1 v2 w) 47 [(0, lR v0), (1, lI v1), (2, lI v2)] [] w := by
  unfold f_X12_leadOf_b47
  refine r_iinc (v := v2 + 1) (ls2 := [(2, lI (v2 + 1)), (0, lR v0), (1, lI v1)]) 50 2 dX12_leadOf_47 rfl rfl (by decide) rfl rfl ?_
  refine r_goto 2 dX12_leadOf_50 (by decide) ?_
  exact r_lsP [1, 2, 0] rfl (h2 v0 v1 (v2 + 1) w)
theorem t_X12_leadOf_l2 {l : Launch} {D : Dn} {H0 : Heap} {w0 : St} (hl : l.stackTraces = false) (G : Nat) (k45 : Int32 → St → Option (Int32 × St)) (h45 : ∀ v2 w, V_X12_leadOf l D H0 w0 (k45 v2 w) 45 [(2, lI v2)] [] w) (k53 : St → Option (Int32 × St)) (h53 : ∀ w, V_X12_leadOf l D H0 w0 (k53 w) 53 [] [] w) : ∀ (F : Nat) (v0 : Rf) (v1 : Int32) (v2 : Int32) (w : St), V_X12_leadOf l D H0 w0 (f_X12_leadOf_l2 G k45 k53 F v0 v1 v2 w) 2 [(0, lR v0), (1, lI v1), (2, lI v2)] [] w := by
  intro F
  induction F with
  | zero => intros; exact r_none
  | succ F ih =>
    intro v0 v1 v2 w
    unfold f_X12_leadOf_l2
    refine r_iload_n 3 2 dX12_leadOf_2 rfl rfl rfl ?_
    refine r_aload_n 4 0 dX12_leadOf_3 rfl rfl rfl ?_
    refine r_getr 7 gf_X12_34 dX12_leadOf_4 rfl (fun x4 => ?_)
    refine r_gd (fun hc7 => ?_)
    refine r_callV (n := 0) (as := []) (rest := [.int v2]) 10 15 (sL_size hl x4 w) hc7 rfl (lw_V q706 q303 q304 q104 q305) (by decide +kernel) (by decide) rfl rfl (cat2_i (cat2_nil (k := 0))) rfl dX12_leadOf_7 rfl (fun x7 w7 => ?_)
    refine r_icmp_ge 53 13 dX12_leadOf_10 (by decide) rfl ?_ ?_
    · exact r_lsP [] rfl (h53 w7)
    refine r_aload_n 14 0 dX12_leadOf_13 rfl rfl rfl ?_
    refine r_getr 17 gf_X12_34 dX12_leadOf_14 rfl (fun x14 => ?_)
    refine r_iload_n 18 2 dX12_leadOf_17 rfl rfl rfl ?_
    refine r_gd (fun hc18 => ?_)
    refine r_callV (n := 1) (as := [lI v2]) (rest := []) 21 15 (sL_get hl x14 v2 w7) hc18 rfl (lw_V q819 q311 q312 q104 q313) (by decide +kernel) (by decide) rfl rfl (cat2_nil (k := 0)) rfl dX12_leadOf_18 rfl (fun x18 w18 => ?_)
    refine r_astore (ls2 := [(4, lR x18), (0, lR v0), (1, lI v1), (2, lI v2)]) 23 dX12_leadOf_21 (by decide) rfl rfl ?_
    refine r_aload 25 0 dX12_leadOf_23 rfl rfl ?_
    refine r_inst 28 (is_Wait) (ns_Wait) q1188 dX12_leadOf_25 rfl (fun x25 => ?_)
    refine r_if_eq 47 31 dX12_leadOf_28 (by decide) rfl ?_ ?_
    · exact r_lsP [1, 2, 3] rfl (t_X12_leadOf_b47 hl G (fun v0 v1 v2 w => f_X12_leadOf_l2 G k45 k53 F v0 v1 v2 w) (fun v0 v1 v2 w => ih v0 v1 v2 w)  v0 v1 v2 w18)
    refine r_aload 33 0 dX12_leadOf_31 rfl rfl ?_
    refine r_cast 36 (CA_cons (c0 := 12) rfl (Or.inl rfl) (CA_nil)) q1188 dX12_leadOf_33 rfl ?_
    refine r_astore_n (ls2 := [(3, lR x18), (4, lR x18), (0, lR v0), (1, lI v1), (2, lI v2)]) 37 dX12_leadOf_36 rfl (by decide) rfl rfl ?_
    refine r_aload_n 38 0 dX12_leadOf_37 rfl rfl rfl ?_
    refine r_geti 41 gf_X12_82 dX12_leadOf_38 rfl (fun x38 => ?_)
    refine r_iload_n 42 3 dX12_leadOf_41 rfl rfl rfl ?_
    refine r_icmp_ne 47 45 dX12_leadOf_42 (by decide) rfl ?_ ?_
    · exact r_lsP [2, 3, 4] rfl (t_X12_leadOf_b47 hl G (fun v0 v1 v2 w => f_X12_leadOf_l2 G k45 k53 F v0 v1 v2 w) (fun v0 v1 v2 w => ih v0 v1 v2 w)  v0 v1 v2 w18)
    exact r_lsP [4] rfl (h45 v2 w18)
theorem t_X12_leadOf_b45 {l : Launch} {D : Dn} {H0 : Heap} {w0 : St} (hl : l.stackTraces = false) (G : Nat) (v2 : Int32) (w : St) : V_X12_leadOf l D H0 w0 (f_X12_leadOf_b45 G v2 w) 45 [(2, lI v2)] [] w := by
  unfold f_X12_leadOf_b45
  refine r_iload_n 46 0 dX12_leadOf_45 rfl rfl rfl ?_
  exact r_iret rfl rfl dX12_leadOf_46
theorem t_X12_leadOf_b53 {l : Launch} {D : Dn} {H0 : Heap} {w0 : St} (hl : l.stackTraces = false) (G : Nat) (w : St) : V_X12_leadOf l D H0 w0 (f_X12_leadOf_b53 G  w) 53 [] [] w := by
  unfold f_X12_leadOf_b53
  refine r_iconst (v := (-1)) 54 dX12_leadOf_53 rfl rfl ?_
  exact r_iret rfl rfl dX12_leadOf_54
theorem t_X12_leadOf {l : Launch} {D : Dn} {H0 : Heap} {w0 : St} (hl : l.stackTraces = false) (G : Nat) (a0 : Rf) (a1 : Int32) (w : St) : V_X12_leadOf l D H0 w0 (f_X12_leadOf G a0 a1 w) 0 [(0, lR a0), (1, lI a1)] [] w := by
  unfold f_X12_leadOf
  refine r_iconst (v := 0) 1 dX12_leadOf_0 rfl rfl ?_
  refine r_istore_n (ls2 := [(2, lI 0), (0, lR a0), (1, lI a1)]) 2 dX12_leadOf_1 rfl (by decide) rfl rfl ?_
  exact r_lsP [1, 2, 0] rfl (t_X12_leadOf_l2 hl G (fun v2 w => f_X12_leadOf_b45 G  v2 w) (fun v2 w => t_X12_leadOf_b45 hl G  v2 w) (fun w => f_X12_leadOf_b53 G  w) (fun w => t_X12_leadOf_b53 hl G  w) G a0 a1 0 w)
theorem s_X12_leadOf {l : Launch} {D : Dn} {H0 : Heap} (hl : l.stackTraces = false) (G : Nat) (a0 : Rf) (a1 : Int32) (w : St) : SimN l D H0 yX12_leadOf (ws_ yX12_leadOf cX12_leadOf 5 (some (.int))) 31 3021 rvI [lR a0, lI a1] w (f_X12_leadOf G a0 a1 w) := SimX.N (SimX.ofV (y := yX12_leadOf) (by decide) rfl (t_X12_leadOf hl G a0 a1 w))
abbrev V_X9_isKept (l : Launch) (D : Dn) (H0 : Heap) (w0 : St) (res : Option (Int32 × St)) (pc : Nat) (ls : List (Nat × LV)) (st : List Value) (w : St) : Prop := V l D H0 RX9 "isKept" cX9_isKept 3 (some (.boolean)) [] 33 3070 (fun x => .inr (rvI x)) w0 res pc ls st w
theorem t_X9_isKept {l : Launch} {D : Dn} {H0 : Heap} {w0 : St} (hl : l.stackTraces = false) (G : Nat) (a0 : Rf) (a1 : Int32) (w : St) : V_X9_isKept l D H0 w0 (f_X9_isKept G a0 a1 w) 0 [(0, lR a0), (1, lI a1)] [] w := by
  unfold f_X9_isKept
  refine r_aload_n 1 0 dX9_isKept_0 rfl rfl rfl ?_
  refine r_aload_n 2 0 dX9_isKept_1 rfl rfl rfl ?_
  refine r_getr 5 gf_X9_18 dX9_isKept_2 rfl (fun x2 => ?_)
  refine r_getr 8 gf_X9_42 dX9_isKept_5 rfl (fun x5 => ?_)
  refine r_iload_n 9 1 dX9_isKept_8 rfl rfl rfl ?_
  refine r_gd (fun hc9 => ?_)
  refine r_callV (n := 1) (as := [lI a1]) (rest := [rf a0]) 12 15 (sL_get hl x5 a1 w) hc9 rfl (lw_V q310 q311 q312 q104 q313) (by decide +kernel) (by decide) rfl rfl (cat2_r (cat2_nil (k := 0))) rfl dX9_isKept_9 rfl (fun x9 w9 => ?_)
  refine r_cast 15 (CA_cons (c0 := 5) rfl (Or.inl rfl) (CA_nil)) q682 dX9_isKept_12 rfl ?_
  refine r_gd (fun hc15 => ?_)
  refine r_callV (n := 1) (as := [lR x9]) (rest := []) 18 6 (s_X9_departureOf hl G a0 x9 w9) hc15 rfl (lw_V q683 q684 q685 q130 q686) (by decide +kernel) (by decide) rfl rfl (cat2_nil (k := 0)) rfl dX9_isKept_15 rfl (fun x15 w15 => ?_)
  refine r_astore_n (ls2 := [(2, lR x15), (0, lR a0), (1, lI a1)]) 19 dX9_isKept_18 rfl (by decide) rfl rfl ?_
  refine r_aload_n 20 0 dX9_isKept_19 rfl rfl rfl ?_
  refine r_aload_n 21 0 dX9_isKept_20 rfl rfl rfl ?_
  refine r_iload_n 22 2 dX9_isKept_21 rfl rfl rfl ?_
  refine r_gd (fun hc22 => ?_)
  refine r_callV (n := 1) (as := [lI a1]) (rest := [rf x15]) 25 9 (s_X12_leadOf hl G x15 a1 w15) hc22 rfl (lw_V q1184 q1185 q1186 q133 q1187) (by decide +kernel) (by decide) rfl rfl (cat2_r (cat2_nil (k := 0))) rfl dX9_isKept_22 rfl (fun x22 w22 => ?_)
  refine r_gd (fun hc25 => ?_)
  refine r_callV (n := 1) (as := [lI x22]) (rest := []) 28 9 (s_X12_isKept hl G x15 x22 w22) hc25 rfl (lw_V q1189 q826 q827 q133 q828) (by decide +kernel) (by decide) rfl rfl (cat2_nil (k := 0)) rfl dX9_isKept_25 rfl (fun x25 w25 => ?_)
  exact r_zretG rfl rfl dX9_isKept_28
theorem s_X9_isKept {l : Launch} {D : Dn} {H0 : Heap} (hl : l.stackTraces = false) (G : Nat) (a0 : Rf) (a1 : Int32) (w : St) : SimN l D H0 yX9_isKept (ws_ yX9_isKept cX9_isKept 3 (some (.boolean))) 33 3070 rvI [lR a0, lI a1] w (f_X9_isKept G a0 a1 w) := SimX.N (SimX.ofV (y := yX9_isKept) (by decide) rfl (t_X9_isKept hl G a0 a1 w))
abbrev V_X12_baseWithout (l : Launch) (D : Dn) (H0 : Heap) (w0 : St) (res : Option (Int32 × St)) (pc : Nat) (ls : List (Nat × LV)) (st : List Value) (w : St) : Prop := V l D H0 RX12 "baseWithout" cX12_baseWithout 4 (some (.int)) [] 33 3063 (fun x => .inr (rvI x)) w0 res pc ls st w
theorem t_X12_baseWithout_b63 {l : Launch} {D : Dn} {H0 : Heap} {w0 : St} (hl : l.stackTraces = false) (G : Nat) (k7 : Rf → Int32 → Int32 → Int32 → St → Option (Int32 × St)) (h7 : ∀ v0 v1 v2 v3 w, V_X12_baseWithout l D H0 w0 (k7 v0 v1 v2 v3 w) 7 [(0, lR v0), (1, lI v1), (2, lI v2), (3, lI v3)] [] w) (v0 : Rf) (v1 : Int32) (v2 : Int32) (v3 : Int32) (w : St) : V_X12_baseWithout l D H0 w0 (f_X12_baseWithout_b63 G k7 v0 v1 v2 v3 w) 63 [(0, lR v0), (1, lI v1), (2, lI v2), (3, lI v3)] [] w := by
  unfold f_X12_baseWithout_b63
  refine r_iinc (v := v3 + 1) (ls2 := [(3, lI (v3 + 1)), (0, lR v0), (1, lI v1), (2, lI v2)]) 66 3 dX12_baseWithout_63 rfl rfl (by decide) rfl rfl ?_
  refine r_goto 7 dX12_baseWithout_66 (by decide) ?_
  exact r_lsP [1, 2, 3, 0] rfl (h7 v0 v1 v2 (v3 + 1) w)
theorem t_X12_baseWithout_l7 {l : Launch} {D : Dn} {H0 : Heap} {w0 : St} (hl : l.stackTraces = false) (G : Nat) (k69 : Int32 → St → Option (Int32 × St)) (h69 : ∀ v2 w, V_X12_baseWithout l D H0 w0 (k69 v2 w) 69 [(2, lI v2)] [] w) : ∀ (F : Nat) (v0 : Rf) (v1 : Int32) (v2 : Int32) (v3 : Int32) (w : St), V_X12_baseWithout l D H0 w0 (f_X12_baseWithout_l7 G k69 F v0 v1 v2 v3 w) 7 [(0, lR v0), (1, lI v1), (2, lI v2), (3, lI v3)] [] w := by
  intro F
  induction F with
  | zero => intros; exact r_none
  | succ F ih =>
    intro v0 v1 v2 v3 w
    unfold f_X12_baseWithout_l7
    refine r_iload_n 8 3 dX12_baseWithout_7 rfl rfl rfl ?_
    refine r_aload_n 9 0 dX12_baseWithout_8 rfl rfl rfl ?_
    refine r_getr 12 gf_X12_20 dX12_baseWithout_9 rfl (fun x9 => ?_)
    refine r_gd (fun hc12 => ?_)
    refine r_callV (n := 0) (as := []) (rest := [.int v3]) 15 15 (sL_size hl x9 w) hc12 rfl (lw_V q706 q303 q304 q104 q305) (by decide +kernel) (by decide) rfl rfl (cat2_i (cat2_nil (k := 0))) rfl dX12_baseWithout_12 rfl (fun x12 w12 => ?_)
    refine r_icmp_ge 69 18 dX12_baseWithout_15 (by decide) rfl ?_ ?_
    · exact r_lsP [2] rfl (h69 v2 w12)
    refine r_aload_n 19 0 dX12_baseWithout_18 rfl rfl rfl ?_
    refine r_getr 22 gf_X12_20 dX12_baseWithout_19 rfl (fun x19 => ?_)
    refine r_iload_n 23 3 dX12_baseWithout_22 rfl rfl rfl ?_
    refine r_gd (fun hc23 => ?_)
    refine r_callV (n := 1) (as := [lI v3]) (rest := []) 26 15 (sL_get hl x19 v3 w12) hc23 rfl (lw_V q819 q311 q312 q104 q313) (by decide +kernel) (by decide) rfl rfl (cat2_nil (k := 0)) rfl dX12_baseWithout_23 rfl (fun x23 w23 => ?_)
    refine r_cast 29 (CA_cons (c0 := 30) rfl (Or.inl rfl) (CA_nil)) q820 dX12_baseWithout_26 rfl ?_
    refine r_gd (fun hc29 => ?_)
    refine r_callV (n := 0) (as := []) (rest := []) 32 30 (sN_intValue hl x23 w23) hc29 rfl (lw_V q821 q822 q823 q138 q824) (by decide +kernel) (by decide) rfl rfl (cat2_nil (k := 0)) rfl dX12_baseWithout_29 rfl (fun x29 w29 => ?_)
    refine r_iconst (v := (-1)) 33 dX12_baseWithout_32 rfl rfl ?_
    refine r_icmp_eq 63 36 dX12_baseWithout_33 (by decide) rfl ?_ ?_
    · exact r_lsP [0, 1, 2, 3] rfl (t_X12_baseWithout_b63 hl G (fun v0 v1 v2 v3 w => f_X12_baseWithout_l7 G k69 F v0 v1 v2 v3 w) (fun v0 v1 v2 v3 w => ih v0 v1 v2 v3 w)  v0 v1 v2 v3 w29)
    refine r_iload_n 37 3 dX12_baseWithout_36 rfl rfl rfl ?_
    refine r_aload_n 38 0 dX12_baseWithout_37 rfl rfl rfl ?_
    refine r_iload_n 39 1 dX12_baseWithout_38 rfl rfl rfl ?_
    refine r_gd (fun hc39 => ?_)
    refine r_callV (n := 1) (as := [lI v1]) (rest := [.int v3]) 42 9 (s_X12_leadOf hl G v0 v1 w29) hc39 rfl (lw_V q1200 q1185 q1186 q133 q1187) (by decide +kernel) (by decide) rfl rfl (cat2_i (cat2_nil (k := 0))) rfl dX12_baseWithout_39 rfl (fun x39 w39 => ?_)
    refine r_icmp_eq 63 45 dX12_baseWithout_42 (by decide) rfl ?_ ?_
    · exact r_lsP [0, 1, 2, 3] rfl (t_X12_baseWithout_b63 hl G (fun v0 v1 v2 v3 w => f_X12_baseWithout_l7 G k69 F v0 v1 v2 v3 w) (fun v0 v1 v2 v3 w => ih v0 v1 v2 v3 w)  v0 v1 v2 v3 w39)
    refine r_aload_n 46 0 dX12_baseWithout_45 rfl rfl rfl ?_
    refine r_iload_n 47 3 dX12_baseWithout_46 rfl rfl rfl ?_
    refine r_gd (fun hc47 => ?_)
    refine r_callV (n := 1) (as := [lI v3]) (rest := []) 50 9 (s_X12_isKept hl G v0 v3 w39) hc47 rfl (lw_V q825 q826 q827 q133 q828) (by decide +kernel) (by decide) rfl rfl (cat2_nil (k := 0)) rfl dX12_baseWithout_47 rfl (fun x47 w47 => ?_)
    refine r_if_eq 63 53 dX12_baseWithout_50 (by decide) rfl ?_ ?_
    · exact r_lsP [0, 1, 2, 3] rfl (t_X12_baseWithout_b63 hl G (fun v0 v1 v2 v3 w => f_X12_baseWithout_l7 G k69 F v0 v1 v2 v3 w) (fun v0 v1 v2 v3 w => ih v0 v1 v2 v3 w)  v0 v1 v2 v3 w47)
    refine r_iload_n 54 2 dX12_baseWithout_53 rfl rfl rfl ?_
    refine r_aload_n 55 0 dX12_baseWithout_54 rfl rfl rfl ?_
    refine r_iload_n 56 3 dX12_baseWithout_55 rfl rfl rfl ?_
    refine r_gd (fun hc56 => ?_)
    refine r_callU (x2 := ⟨"CoachTimetable$Departure", "due", "(I)I"⟩) (owner := "CoachTimetable$Event") (n := 1) (as := [lI v3]) (rest := [.int v2]) 59 9 (s_X10_due hl G v0 v3 w47) hc56 rfl (lw_app (l5 q829 q830 q832 q773 q131) (lw_meth q777)) rfl (by decide +kernel) (by decide) rfl rfl (cat2_i (cat2_nil (k := 0))) rfl dX12_baseWithout_56 rfl (fun x56 w56 => ?_)
    refine r_callS (n := 2) (as := [lI v2, lI x56]) (rest := []) 62 (s_J15_max hl G v2 x56 w56) (lw_S q1201 q441 q121 q442) (by decide +kernel) (by decide) rfl rfl (cat2_nil (k := 0)) rfl dX12_baseWithout_59 rfl (fun x59 w59 => ?_)
    refine r_istore_n (ls2 := [(2, lI x59), (0, lR v0), (1, lI v1), (3, lI v3)]) 63 dX12_baseWithout_62 rfl (by decide) rfl rfl ?_
    exact r_lsP [1, 2, 0, 3] rfl (t_X12_baseWithout_b63 hl G (fun v0 v1 v2 v3 w => f_X12_baseWithout_l7 G k69 F v0 v1 v2 v3 w) (fun v0 v1 v2 v3 w => ih v0 v1 v2 v3 w)  v0 v1 x59 v3 w59)
theorem t_X12_baseWithout_b69 {l : Launch} {D : Dn} {H0 : Heap} {w0 : St} (hl : l.stackTraces = false) (G : Nat) (v2 : Int32) (w : St) : V_X12_baseWithout l D H0 w0 (f_X12_baseWithout_b69 G v2 w) 69 [(2, lI v2)] [] w := by
  unfold f_X12_baseWithout_b69
  refine r_iload_n 70 0 dX12_baseWithout_69 rfl rfl rfl ?_
  exact r_iret rfl rfl dX12_baseWithout_70
theorem t_X12_baseWithout {l : Launch} {D : Dn} {H0 : Heap} {w0 : St} (hl : l.stackTraces = false) (G : Nat) (a0 : Rf) (a1 : Int32) (w : St) : V_X12_baseWithout l D H0 w0 (f_X12_baseWithout G a0 a1 w) 0 [(0, lR a0), (1, lI a1)] [] w := by
  unfold f_X12_baseWithout
  refine r_aload_n 1 0 dX12_baseWithout_0 rfl rfl rfl ?_
  refine r_geti 4 gf_X12_55 dX12_baseWithout_1 rfl (fun x1 => ?_)
  refine r_istore_n (ls2 := [(2, lI x1), (0, lR a0), (1, lI a1)]) 5 dX12_baseWithout_4 rfl (by decide) rfl rfl ?_
  refine r_iconst (v := 0) 6 dX12_baseWithout_5 rfl rfl ?_
  refine r_istore_n (ls2 := [(3, lI 0), (2, lI x1), (0, lR a0), (1, lI a1)]) 7 dX12_baseWithout_6 rfl (by decide) rfl rfl ?_
  exact r_lsP [2, 3, 1, 0] rfl (t_X12_baseWithout_l7 hl G (fun v2 w => f_X12_baseWithout_b69 G  v2 w) (fun v2 w => t_X12_baseWithout_b69 hl G  v2 w) G a0 a1 x1 0 w)
theorem s_X12_baseWithout {l : Launch} {D : Dn} {H0 : Heap} (hl : l.stackTraces = false) (G : Nat) (a0 : Rf) (a1 : Int32) (w : St) : SimN l D H0 yX12_baseWithout (ws_ yX12_baseWithout cX12_baseWithout 4 (some (.int))) 33 3063 rvI [lR a0, lI a1] w (f_X12_baseWithout G a0 a1 w) := SimX.N (SimX.ofV (y := yX12_baseWithout) (by decide) rfl (t_X12_baseWithout hl G a0 a1 w))
abbrev V_X9_waited (l : Launch) (D : Dn) (H0 : Heap) (w0 : St) (res : Option (Int32 × St)) (pc : Nat) (ls : List (Nat × LV)) (st : List Value) (w : St) : Prop := V l D H0 RX9 "waited" cX9_waited 3 (some (.int)) [] 34 3092 (fun x => .inr (rvI x)) w0 res pc ls st w
theorem t_X9_waited {l : Launch} {D : Dn} {H0 : Heap} {w0 : St} (hl : l.stackTraces = false) (G : Nat) (a0 : Rf) (a1 : Int32) (w : St) : V_X9_waited l D H0 w0 (f_X9_waited G a0 a1 w) 0 [(0, lR a0), (1, lI a1)] [] w := by
  unfold f_X9_waited
  refine r_aload_n 1 0 dX9_waited_0 rfl rfl rfl ?_
  refine r_aload_n 2 0 dX9_waited_1 rfl rfl rfl ?_
  refine r_getr 5 gf_X9_18 dX9_waited_2 rfl (fun x2 => ?_)
  refine r_getr 8 gf_X9_42 dX9_waited_5 rfl (fun x5 => ?_)
  refine r_iload_n 9 1 dX9_waited_8 rfl rfl rfl ?_
  refine r_gd (fun hc9 => ?_)
  refine r_callV (n := 1) (as := [lI a1]) (rest := [rf a0]) 12 15 (sL_get hl x5 a1 w) hc9 rfl (lw_V q310 q311 q312 q104 q313) (by decide +kernel) (by decide) rfl rfl (cat2_r (cat2_nil (k := 0))) rfl dX9_waited_9 rfl (fun x9 w9 => ?_)
  refine r_cast 15 (CA_cons (c0 := 5) rfl (Or.inl rfl) (CA_nil)) q682 dX9_waited_12 rfl ?_
  refine r_gd (fun hc15 => ?_)
  refine r_callV (n := 1) (as := [lR x9]) (rest := []) 18 6 (s_X9_departureOf hl G a0 x9 w9) hc15 rfl (lw_V q683 q684 q685 q130 q686) (by decide +kernel) (by decide) rfl rfl (cat2_nil (k := 0)) rfl dX9_waited_15 rfl (fun x15 w15 => ?_)
  refine r_astore_n (ls2 := [(2, lR x15), (0, lR a0), (1, lI a1)]) 19 dX9_waited_18 rfl (by decide) rfl rfl ?_
  refine r_aload_n 20 1 dX9_waited_19 rfl rfl rfl ?_
  refine r_iload_n 21 2 dX9_waited_20 rfl rfl rfl ?_
  refine r_gd (fun hc21 => ?_)
  refine r_callV (n := 1) (as := [lI a1]) (rest := []) 24 6 (s_X9_isKept hl G a0 a1 w15) hc21 rfl (lw_V q1194 q1181 q1182 q130 q1183) (by decide +kernel) (by decide) rfl rfl (cat2_nil (k := 0)) rfl dX9_waited_21 rfl (fun x21 w21 => ?_)
  refine r_if_eq 49 27 dX9_waited_24 (by decide) rfl ?_ ?_
  · refine r_iconst (v := 0) 50 dX9_waited_49 rfl rfl ?_
    exact r_iret rfl rfl dX9_waited_50
  refine r_iconst (v := 0) 28 dX9_waited_27 rfl rfl ?_
  refine r_aload_n 29 0 dX9_waited_28 rfl rfl rfl ?_
  refine r_aload_n 30 0 dX9_waited_29 rfl rfl rfl ?_
  refine r_iload_n 31 2 dX9_waited_30 rfl rfl rfl ?_
  refine r_gd (fun hc31 => ?_)
  refine r_callV (n := 1) (as := [lI a1]) (rest := [rf x15, .int 0]) 34 9 (s_X12_leadOf hl G x15 a1 w21) hc31 rfl (lw_V q1184 q1185 q1186 q133 q1187) (by decide +kernel) (by decide) rfl rfl (cat2_r (cat2_i (cat2_nil (k := 0)))) rfl dX9_waited_31 rfl (fun x31 w31 => ?_)
  refine r_gd (fun hc34 => ?_)
  refine r_callU (x2 := ⟨"CoachTimetable$Departure", "due", "(I)I"⟩) (owner := "CoachTimetable$Event") (n := 1) (as := [lI x31]) (rest := [.int 0]) 37 9 (s_X10_due hl G x15 x31 w31) hc34 rfl (lw_app (l5 q1195 q830 q832 q773 q131) (lw_meth q777)) rfl (by decide +kernel) (by decide) rfl rfl (cat2_i (cat2_nil (k := 0))) rfl dX9_waited_34 rfl (fun x34 w34 => ?_)
  refine r_aload_n 38 0 dX9_waited_37 rfl rfl rfl ?_
  refine r_iload_n 39 2 dX9_waited_38 rfl rfl rfl ?_
  refine r_gd (fun hc39 => ?_)
  refine r_callV (n := 1) (as := [lI a1]) (rest := [.int x34, .int 0]) 42 9 (s_X12_baseWithout hl G x15 a1 w34) hc39 rfl (lw_V q1196 q1197 q1198 q133 q1199) (by decide +kernel) (by decide) rfl rfl (cat2_i (cat2_i (cat2_nil (k := 0)))) rfl dX9_waited_39 rfl (fun x39 w39 => ?_)
  refine r_isub 43 dX9_waited_42 rfl ?_
  refine r_callS (n := 2) (as := [lI 0, lI (x34 - x39)]) (rest := []) 46 (s_J15_max hl G 0 (x34 - x39) w39) (lw_S q1202 q441 q121 q442) (by decide +kernel) (by decide) rfl rfl (cat2_nil (k := 0)) rfl dX9_waited_43 rfl (fun x43 w43 => ?_)
  refine r_goto 50 dX9_waited_46 (by decide) ?_
  exact r_iret rfl rfl dX9_waited_50
theorem s_X9_waited {l : Launch} {D : Dn} {H0 : Heap} (hl : l.stackTraces = false) (G : Nat) (a0 : Rf) (a1 : Int32) (w : St) : SimN l D H0 yX9_waited (ws_ yX9_waited cX9_waited 3 (some (.int))) 34 3092 rvI [lR a0, lI a1] w (f_X9_waited G a0 a1 w) := SimX.N (SimX.ofV (y := yX9_waited) (by decide) rfl (t_X9_waited hl G a0 a1 w))
abbrev V_X1_tellLinks (l : Launch) (D : Dn) (H0 : Heap) (w0 : St) (res : Option (Int32 × St)) (pc : Nat) (ls : List (Nat × LV)) (st : List Value) (w : St) : Prop := V l D H0 RX1 "tellLinks" cX1_tellLinks 4 (some (.int)) [] 37 3149 (fun x => .inr (rvI x)) w0 res pc ls st w
theorem t_X1_tellLinks_b155 {l : Launch} {D : Dn} {H0 : Heap} {w0 : St} (hl : l.stackTraces = false) (G : Nat) (k15 : Rf → Rf → Int32 → St → Option (Int32 × St)) (h15 : ∀ v0 v1 v2 w, V_X1_tellLinks l D H0 w0 (k15 v0 v1 v2 w) 15 [(0, lR v0), (1, lR v1), (2, lI v2)] [] w) (v0 : Rf) (v1 : Rf) (v2 : Int32) (w : St) : V_X1_tellLinks l D H0 w0 (f_X1_tellLinks_b155 G k15 v0 v1 v2 w) 155 [(0, lR v0), (1, lR v1), (2, lI v2)] [] w := by
  unfold f_X1_tellLinks_b155
  refine r_iinc (v := v2 + 1) (ls2 := [(2, lI (v2 + 1)), (0, lR v0), (1, lR v1)]) 158 2 dX1_tellLinks_155 rfl rfl (by decide) rfl rfl ?_
  refine r_goto 15 dX1_tellLinks_158 (by decide) ?_
  exact r_lsP [1, 2, 0] rfl (h15 v0 v1 (v2 + 1) w)
theorem t_X1_tellLinks_b61 {l : Launch} {D : Dn} {H0 : Heap} {w0 : St} (hl : l.stackTraces = false) (G : Nat) (k15 : Rf → Rf → Int32 → St → Option (Int32 × St)) (h15 : ∀ v0 v1 v2 w, V_X1_tellLinks l D H0 w0 (k15 v0 v1 v2 w) 15 [(0, lR v0), (1, lR v1), (2, lI v2)] [] w) (v0 : Rf) (v1 : Rf) (v2 : Int32) (v3 : Rf) (s0 : Rf) (s1 : Rf) (w : St) : V_X1_tellLinks l D H0 w0 (f_X1_tellLinks_b61 G k15 v0 v1 v2 v3 s0 s1 w) 61 [(0, lR v0), (1, lR v1), (2, lI v2), (3, lR v3)] [rf s0, rf s1] w := by
  unfold f_X1_tellLinks_b61
  refine r_gd (fun hc61 => ?_)
  refine r_callV (n := 1) (as := [lR s0]) (rest := []) 64 18 (sB_appendS hl s1 s0 w) hc61 rfl (lw_V q1158 q885 q886 q107 q887) (by decide +kernel) (by decide) rfl rfl (cat2_nil (k := 0)) rfl dX1_tellLinks_61 rfl (fun x61 w61 => ?_)
  refine r_aload_n 65 3 dX1_tellLinks_64 rfl rfl rfl ?_
  refine r_geti 68 gf_X1_255 dX1_tellLinks_65 rfl (fun x65 => ?_)
  refine r_gd (fun hc68 => ?_)
  refine r_callV (n := 1) (as := [lI x65]) (rest := []) 71 18 (sB_appendI hl x61 x65 w61) hc68 rfl (lw_V q1159 q990 q991 q107 q992) (by decide +kernel) (by decide) rfl rfl (cat2_nil (k := 0)) rfl dX1_tellLinks_68 rfl (fun x68 w68 => ?_)
  refine r_bipush (v := 46) 73 dX1_tellLinks_71 rfl rfl ?_
  refine r_gd (fun hc73 => ?_)
  refine r_callV (n := 1) (as := [lI 46]) (rest := []) 76 18 (sB_appendC hl x68 46 w68) hc73 rfl (lw_V q1160 q1161 q1162 q107 q1163) (by decide +kernel) (by decide) rfl rfl (cat2_nil (k := 0)) rfl dX1_tellLinks_73 rfl (fun x73 w73 => ?_)
  refine r_aload_n 77 3 dX1_tellLinks_76 rfl rfl rfl ?_
  refine r_geti 80 gf_X1_314 dX1_tellLinks_77 rfl (fun x77 => ?_)
  refine r_gd (fun hc80 => ?_)
  refine r_callV (n := 1) (as := [lI x77]) (rest := []) 83 18 (sB_appendI hl x73 x77 w73) hc80 rfl (lw_V q1159 q990 q991 q107 q992) (by decide +kernel) (by decide) rfl rfl (cat2_nil (k := 0)) rfl dX1_tellLinks_80 rfl (fun x80 w80 => ?_)
  refine r_bipush (v := 62) 85 dX1_tellLinks_83 rfl rfl ?_
  refine r_gd (fun hc85 => ?_)
  refine r_callV (n := 1) (as := [lI 62]) (rest := []) 88 18 (sB_appendC hl x80 62 w80) hc85 rfl (lw_V q1160 q1161 q1162 q107 q1163) (by decide +kernel) (by decide) rfl rfl (cat2_nil (k := 0)) rfl dX1_tellLinks_85 rfl (fun x85 w85 => ?_)
  refine r_aload_n 89 3 dX1_tellLinks_88 rfl rfl rfl ?_
  refine r_geti 92 gf_X1_258 dX1_tellLinks_89 rfl (fun x89 => ?_)
  refine r_gd (fun hc92 => ?_)
  refine r_callV (n := 1) (as := [lI x89]) (rest := []) 95 18 (sB_appendI hl x85 x89 w85) hc92 rfl (lw_V q1159 q990 q991 q107 q992) (by decide +kernel) (by decide) rfl rfl (cat2_nil (k := 0)) rfl dX1_tellLinks_92 rfl (fun x92 w92 => ?_)
  refine r_bipush (v := 46) 97 dX1_tellLinks_95 rfl rfl ?_
  refine r_gd (fun hc97 => ?_)
  refine r_callV (n := 1) (as := [lI 46]) (rest := []) 100 18 (sB_appendC hl x92 46 w92) hc97 rfl (lw_V q1160 q1161 q1162 q107 q1163) (by decide +kernel) (by decide) rfl rfl (cat2_nil (k := 0)) rfl dX1_tellLinks_97 rfl (fun x97 w97 => ?_)
  refine r_aload_n 101 3 dX1_tellLinks_100 rfl rfl rfl ?_
  refine r_geti 104 gf_X1_311 dX1_tellLinks_101 rfl (fun x101 => ?_)
  refine r_gd (fun hc104 => ?_)
  refine r_callV (n := 1) (as := [lI x101]) (rest := []) 107 18 (sB_appendI hl x97 x101 w97) hc104 rfl (lw_V q1159 q990 q991 q107 q992) (by decide +kernel) (by decide) rfl rfl (cat2_nil (k := 0)) rfl dX1_tellLinks_104 rfl (fun x104 w104 => ?_)
  refine r_pop_r 108 dX1_tellLinks_107 rfl ?_
  refine r_aload_n 109 1 dX1_tellLinks_108 rfl rfl rfl ?_
  refine r_iload_n 110 2 dX1_tellLinks_109 rfl rfl rfl ?_
  refine r_gd (fun hc110 => ?_)
  refine r_callV (n := 1) (as := [lI v2]) (rest := []) 113 6 (s_X9_isKept hl G v1 v2 w104) hc110 rfl (lw_V q1180 q1181 q1182 q130 q1183) (by decide +kernel) (by decide) rfl rfl (cat2_nil (k := 0)) rfl dX1_tellLinks_110 rfl (fun x110 w110 => ?_)
  refine r_if_ne 129 116 dX1_tellLinks_113 (by decide) rfl ?_ ?_
  · refine r_aload_n 130 1 dX1_tellLinks_129 rfl rfl rfl ?_
    refine r_iload_n 131 2 dX1_tellLinks_130 rfl rfl rfl ?_
    refine r_gd (fun hc131 => ?_)
    refine r_callV (n := 1) (as := [lI v2]) (rest := []) 134 6 (s_X9_waited hl G v1 v2 w110) hc131 rfl (lw_V q1190 q1191 q1192 q130 q1193) (by decide +kernel) (by decide) rfl rfl (cat2_nil (k := 0)) rfl dX1_tellLinks_131 rfl (fun x131 w131 => ?_)
    refine r_if_le 155 137 dX1_tellLinks_134 (by decide) rfl ?_ ?_
    · exact r_lsP [0, 1, 2] rfl (t_X1_tellLinks_b155 hl G k15 h15  v0 v1 v2 w131)
    refine r_aload_n 138 0 dX1_tellLinks_137 rfl rfl rfl ?_
    refine r_getr 141 gf_X1_30 dX1_tellLinks_138 rfl (fun x138 => ?_)
    refine r_bipush (v := 119) 143 dX1_tellLinks_141 rfl rfl ?_
    refine r_gd (fun hc143 => ?_)
    refine r_callV (n := 1) (as := [lI 119]) (rest := []) 146 18 (sB_appendC hl x138 119 w131) hc143 rfl (lw_V q1160 q1161 q1162 q107 q1163) (by decide +kernel) (by decide) rfl rfl (cat2_nil (k := 0)) rfl dX1_tellLinks_143 rfl (fun x143 w143 => ?_)
    refine r_aload_n 147 1 dX1_tellLinks_146 rfl rfl rfl ?_
    refine r_iload_n 148 2 dX1_tellLinks_147 rfl rfl rfl ?_
    refine r_gd (fun hc148 => ?_)
    refine r_callV (n := 1) (as := [lI v2]) (rest := [rf x143]) 151 6 (s_X9_waited hl G v1 v2 w143) hc148 rfl (lw_V q1190 q1191 q1192 q130 q1193) (by decide +kernel) (by decide) rfl rfl (cat2_r (cat2_nil (k := 0))) rfl dX1_tellLinks_148 rfl (fun x148 w148 => ?_)
    refine r_gd (fun hc151 => ?_)
    refine r_callV (n := 1) (as := [lI x148]) (rest := []) 154 18 (sB_appendI hl x143 x148 w148) hc151 rfl (lw_V q1159 q990 q991 q107 q992) (by decide +kernel) (by decide) rfl rfl (cat2_nil (k := 0)) rfl dX1_tellLinks_151 rfl (fun x151 w151 => ?_)
    refine r_pop_r 155 dX1_tellLinks_154 rfl ?_
    exact r_lsP [0, 1, 2] rfl (t_X1_tellLinks_b155 hl G k15 h15  v0 v1 v2 w151)
  refine r_aload_n 117 0 dX1_tellLinks_116 rfl rfl rfl ?_
  refine r_getr 120 gf_X1_30 dX1_tellLinks_117 rfl (fun x117 => ?_)
  refine r_bipush (v := 33) 122 dX1_tellLinks_120 rfl rfl ?_
  refine r_gd (fun hc122 => ?_)
  refine r_callV (n := 1) (as := [lI 33]) (rest := []) 125 18 (sB_appendC hl x117 33 w110) hc122 rfl (lw_V q1160 q1161 q1162 q107 q1163) (by decide +kernel) (by decide) rfl rfl (cat2_nil (k := 0)) rfl dX1_tellLinks_122 rfl (fun x122 w122 => ?_)
  refine r_pop_r 126 dX1_tellLinks_125 rfl ?_
  refine r_goto 155 dX1_tellLinks_126 (by decide) ?_
  exact r_lsP [0, 1, 2] rfl (t_X1_tellLinks_b155 hl G k15 h15  v0 v1 v2 w122)
theorem t_X1_tellLinks_l15 {l : Launch} {D : Dn} {H0 : Heap} {w0 : St} (hl : l.stackTraces = false) (G : Nat) (k161 : Rf → St → Option (Int32 × St)) (h161 : ∀ v0 w, V_X1_tellLinks l D H0 w0 (k161 v0 w) 161 [(0, lR v0)] [] w) : ∀ (F : Nat) (v0 : Rf) (v1 : Rf) (v2 : Int32) (w : St), V_X1_tellLinks l D H0 w0 (f_X1_tellLinks_l15 G k161 F v0 v1 v2 w) 15 [(0, lR v0), (1, lR v1), (2, lI v2)] [] w := by
  intro F
  induction F with
  | zero => intros; exact r_none
  | succ F ih =>
    intro v0 v1 v2 w
    unfold f_X1_tellLinks_l15
    refine r_iload_n 16 2 dX1_tellLinks_15 rfl rfl rfl ?_
    refine r_aload_n 17 0 dX1_tellLinks_16 rfl rfl rfl ?_
    refine r_getr 20 gf_X1_10 dX1_tellLinks_17 rfl (fun x17 => ?_)
    refine r_getr 23 gf_X1_191 dX1_tellLinks_20 rfl (fun x20 => ?_)
    refine r_gd (fun hc23 => ?_)
    refine r_callV (n := 0) (as := []) (rest := [.int v2]) 26 15 (sL_size hl x20 w) hc23 rfl (lw_V q857 q303 q304 q104 q305) (by decide +kernel) (by decide) rfl rfl (cat2_i (cat2_nil (k := 0))) rfl dX1_tellLinks_23 rfl (fun x23 w23 => ?_)
    refine r_icmp_ge 161 29 dX1_tellLinks_26 (by decide) rfl ?_ ?_
    · exact r_lsP [0] rfl (h161 v0 w23)
    refine r_aload_n 30 0 dX1_tellLinks_29 rfl rfl rfl ?_
    refine r_getr 33 gf_X1_10 dX1_tellLinks_30 rfl (fun x30 => ?_)
    refine r_getr 36 gf_X1_191 dX1_tellLinks_33 rfl (fun x33 => ?_)
    refine r_iload_n 37 2 dX1_tellLinks_36 rfl rfl rfl ?_
    refine r_gd (fun hc37 => ?_)
    refine r_callV (n := 1) (as := [lI v2]) (rest := []) 40 15 (sL_get hl x33 v2 w23) hc37 rfl (lw_V q858 q311 q312 q104 q313) (by decide +kernel) (by decide) rfl rfl (cat2_nil (k := 0)) rfl dX1_tellLinks_37 rfl (fun x37 w37 => ?_)
    refine r_cast 43 (CA_cons (c0 := 5) rfl (Or.inl rfl) (CA_nil)) q1155 dX1_tellLinks_40 rfl ?_
    refine r_astore_n (ls2 := [(3, lR x37), (0, lR v0), (1, lR v1), (2, lI v2)]) 44 dX1_tellLinks_43 rfl (by decide) rfl rfl ?_
    refine r_aload_n 45 1 dX1_tellLinks_44 rfl rfl rfl ?_
    refine r_getr 48 gf_X1_30 dX1_tellLinks_45 rfl (fun x45 => ?_)
    refine r_iload_n 49 3 dX1_tellLinks_48 rfl rfl rfl ?_
    refine r_if_le 58 52 dX1_tellLinks_49 (by decide) rfl ?_ ?_
    · refine r_ldcSW 61 2 rfl dX1_tellLinks_58 rfl ?_
      exact r_lsP [1, 2, 3, 0] rfl (t_X1_tellLinks_b61 hl G (fun v0 v1 v2 w => f_X1_tellLinks_l15 G k161 F v0 v1 v2 w) (fun v0 v1 v2 w => ih v0 v1 v2 w)  v0 v1 v2 x37 ((some (w37.g 11))) x45 w37)
    refine r_ldcSW 55 0 rfl dX1_tellLinks_52 rfl ?_
    refine r_goto 61 dX1_tellLinks_55 (by decide) ?_
    exact r_lsP [1, 2, 3, 0] rfl (t_X1_tellLinks_b61 hl G (fun v0 v1 v2 w => f_X1_tellLinks_l15 G k161 F v0 v1 v2 w) (fun v0 v1 v2 w => ih v0 v1 v2 w)  v0 v1 v2 x37 ((some (w37.g 10))) x45 w37)
theorem t_X1_tellLinks_b161 {l : Launch} {D : Dn} {H0 : Heap} {w0 : St} (hl : l.stackTraces = false) (G : Nat) (v0 : Rf) (w : St) : V_X1_tellLinks l D H0 w0 (f_X1_tellLinks_b161 G v0 w) 161 [(0, lR v0)] [] w := by
  unfold f_X1_tellLinks_b161
  refine r_aload_n 162 0 dX1_tellLinks_161 rfl rfl rfl ?_
  refine r_getr 165 gf_X1_30 dX1_tellLinks_162 rfl (fun x162 => ?_)
  refine r_gd (fun hc165 => ?_)
  refine r_callV (n := 0) (as := []) (rest := []) 168 18 (sB_length hl x162 w) hc165 rfl (lw_V q1203 q1036 q2706 q107 q1037) (by decide +kernel) (by decide) rfl rfl (cat2_nil (k := 0)) rfl dX1_tellLinks_165 rfl (fun x165 w165 => ?_)
  exact r_iret rfl rfl dX1_tellLinks_168
theorem t_X1_tellLinks {l : Launch} {D : Dn} {H0 : Heap} {w0 : St} (hl : l.stackTraces = false) (G : Nat) (a0 : Rf) (w : St) : V_X1_tellLinks l D H0 w0 (f_X1_tellLinks G a0 w) 0 [(0, lR a0)] [] w := by
  unfold f_X1_tellLinks
  refine r_aload_n 1 0 dX1_tellLinks_0 rfl rfl rfl ?_
  refine r_gd (fun hc1 => ?_)
  refine r_callV (n := 0) (as := []) (rest := []) 4 0 (s_X1_net hl G a0 w) hc1 rfl (lw_V q290 q292 qs0 q100 q293) (by decide +kernel) (by decide) rfl rfl (cat2_nil (k := 0)) rfl dX1_tellLinks_1 rfl (fun x1 w1 => ?_)
  refine r_astore_n (ls2 := [(1, lR x1), (0, lR a0)]) 5 dX1_tellLinks_4 rfl (by decide) rfl rfl ?_
  refine r_aload_n 6 1 dX1_tellLinks_5 rfl rfl rfl ?_
  refine r_getr 9 gf_X1_30 dX1_tellLinks_6 rfl (fun x6 => ?_)
  refine r_iconst (v := 0) 10 dX1_tellLinks_9 rfl rfl ?_
  refine r_gd (fun hc10 => ?_)
  refine r_callV (n := 1) (as := [lI 0]) (rest := []) 13 18 (sB_setLength hl x6 0 w1) hc10 rfl (lw_V q869 q870 q871 q107 q872) (by decide +kernel) (by decide) rfl rfl (cat2_nil (k := 0)) rfl dX1_tellLinks_10 rfl (fun _ w10 => ?_)
  refine r_iconst (v := 0) 14 dX1_tellLinks_13 rfl rfl ?_
  refine r_istore_n (ls2 := [(2, lI 0), (1, lR x1), (0, lR a0)]) 15 dX1_tellLinks_14 rfl (by decide) rfl rfl ?_
  exact r_lsP [2, 1, 0] rfl (t_X1_tellLinks_l15 hl G (fun v0 w => f_X1_tellLinks_b161 G  v0 w) (fun v0 w => t_X1_tellLinks_b161 hl G  v0 w) G a0 x1 0 w10)
theorem s_X1_tellLinks {l : Launch} {D : Dn} {H0 : Heap} (hl : l.stackTraces = false) (G : Nat) (a0 : Rf) (w : St) : SimN l D H0 yX1_tellLinks (ws_ yX1_tellLinks cX1_tellLinks 4 (some (.int))) 37 3149 rvI [lR a0] w (f_X1_tellLinks G a0 w) := SimX.N (SimX.ofV (y := yX1_tellLinks) (by decide) rfl (t_X1_tellLinks hl G a0 w))
abbrev V_X6_init (l : Launch) (D : Dn) (H0 : Heap) (w0 : St) (res : Option (Unit × St)) (pc : Nat) (ls : List (Nat × LV)) (st : List Value) (w : St) : Prop := V l D H0 RX6 "<init>" cX6_init 8 none [] 1 20 (fun x => .inr (rvU x)) w0 res pc ls st w
theorem t_X6_init {l : Launch} {D : Dn} {H0 : Heap} {w0 : St} (hl : l.stackTraces = false) (G : Nat) (a0 : Nat) (a1 : Int32) (a2 : Int32) (a3 : Int32) (a4 : Int32) (a5 : Int32) (a6 : Int32) (a7 : Int32) (w : St) : V_X6_init l D H0 w0 (f_X6_init G a0 a1 a2 a3 a4 a5 a6 a7 w) 0 [(0, lR ((some a0))), (1, lI a1), (2, lI a2), (3, lI a3), (4, lI a4), (5, lI a5), (6, lI a6), (7, lI a7)] [] w := by
  unfold f_X6_init
  refine r_aload_n 1 0 dX6_init_0 rfl rfl rfl ?_
  refine r_objInit 4 q1263 q154 q155 (by decide) (cat2_nil (k := 0)) rfl dX6_init_1 rfl ?_
  refine r_aload_n 5 0 dX6_init_4 rfl rfl rfl ?_
  refine r_iload_n 6 1 dX6_init_5 rfl rfl rfl ?_
  refine r_puti 9 pf_X6_7 dX6_init_6 rfl (fun w6 => ?_)
  refine r_aload_n 10 0 dX6_init_9 rfl rfl rfl ?_
  refine r_iload_n 11 2 dX6_init_10 rfl rfl rfl ?_
  refine r_puti 14 pf_X6_13 dX6_init_11 rfl (fun w11 => ?_)
  refine r_aload_n 15 0 dX6_init_14 rfl rfl rfl ?_
  refine r_iload_n 16 3 dX6_init_15 rfl rfl rfl ?_
  refine r_puti 19 pf_X6_16 dX6_init_16 rfl (fun w16 => ?_)
  refine r_aload_n 20 0 dX6_init_19 rfl rfl rfl ?_
  refine r_iload 22 4 dX6_init_20 rfl rfl ?_
  refine r_puti 25 pf_X6_19 dX6_init_22 rfl (fun w22 => ?_)
  refine r_aload_n 26 0 dX6_init_25 rfl rfl rfl ?_
  refine r_iload 28 5 dX6_init_26 rfl rfl ?_
  refine r_puti 31 pf_X6_22 dX6_init_28 rfl (fun w28 => ?_)
  refine r_aload_n 32 0 dX6_init_31 rfl rfl rfl ?_
  refine r_iload 34 6 dX6_init_32 rfl rfl ?_
  refine r_puti 37 pf_X6_25 dX6_init_34 rfl (fun w34 => ?_)
  refine r_aload_n 38 0 dX6_init_37 rfl rfl rfl ?_
  refine r_iload 40 7 dX6_init_38 rfl rfl ?_
  refine r_puti 43 pf_X6_28 dX6_init_40 rfl (fun w40 => ?_)
  exact r_vret rfl rfl dX6_init_43
theorem s_X6_init {l : Launch} {D : Dn} {H0 : Heap} (hl : l.stackTraces = false) (G : Nat) (a0 : Nat) (a1 : Int32) (a2 : Int32) (a3 : Int32) (a4 : Int32) (a5 : Int32) (a6 : Int32) (a7 : Int32) (w : St) : SimN l D H0 yX6_init (ws_ yX6_init cX6_init 8 none) 1 20 rvU [lR (some a0), lI a1, lI a2, lI a3, lI a4, lI a5, lI a6, lI a7] w (f_X6_init G a0 a1 a2 a3 a4 a5 a6 a7 w) := SimX.N (SimX.ofV (y := yX6_init) (by decide) rfl (t_X6_init hl G a0 a1 a2 a3 a4 a5 a6 a7 w))
abbrev V_X6_copy (l : Launch) (D : Dn) (H0 : Heap) (w0 : St) (res : Option (Rf × St)) (pc : Nat) (ls : List (Nat × LV)) (st : List Value) (w : St) : Prop := V l D H0 RX6 "copy" cX6_copy 2 (some (.object "CoachTimetable$Stop")) [] 2 47 (fun x => .inr (rvR x)) w0 res pc ls st w
theorem t_X6_copy {l : Launch} {D : Dn} {H0 : Heap} {w0 : St} (hl : l.stackTraces = false) (G : Nat) (a0 : Rf) (w : St) : V_X6_copy l D H0 w0 (f_X6_copy G a0 w) 0 [(0, lR a0)] [] w := by
  unfold f_X6_copy
  refine r_nw (C := RX6) (T := TX6) (N := 9) (ty := tyX6) 3 4 rfl rfl in_X6 tyX6_ok q1258 q1259 q119 rfl (by decide) dX6_copy_0 rfl (fun b0 w0 => ?_)
  refine r_dup_r 4 dX6_copy_3 rfl ?_
  refine r_aload_n 5 0 dX6_copy_4 rfl rfl rfl ?_
  refine r_geti 8 gf_X6_7 dX6_copy_5 rfl (fun x5 => ?_)
  refine r_aload_n 9 0 dX6_copy_8 rfl rfl rfl ?_
  refine r_geti 12 gf_X6_13 dX6_copy_9 rfl (fun x9 => ?_)
  refine r_aload_n 13 0 dX6_copy_12 rfl rfl rfl ?_
  refine r_geti 16 gf_X6_16 dX6_copy_13 rfl (fun x13 => ?_)
  refine r_aload_n 17 0 dX6_copy_16 rfl rfl rfl ?_
  refine r_geti 20 gf_X6_19 dX6_copy_17 rfl (fun x17 => ?_)
  refine r_aload_n 21 0 dX6_copy_20 rfl rfl rfl ?_
  refine r_geti 24 gf_X6_22 dX6_copy_21 rfl (fun x21 => ?_)
  refine r_aload_n 25 0 dX6_copy_24 rfl rfl rfl ?_
  refine r_geti 28 gf_X6_25 dX6_copy_25 rfl (fun x25 => ?_)
  refine r_aload_n 29 0 dX6_copy_28 rfl rfl rfl ?_
  refine r_geti 32 gf_X6_28 dX6_copy_29 rfl (fun x29 => ?_)
  refine r_callI (b := b0) (n := 7) (as := [lI x5, lI x9, lI x13, lI x17, lI x21, lI x25, lI x29]) (rest := [rf ((some b0))]) 35 (s_X6_init hl G b0 x5 x9 x13 x17 x21 x25 x29 w0) (lw_meth q1262) q119 q1260 q1261 rfl (by decide +kernel) (by decide) rfl rfl (cat2_r (cat2_nil (k := 0))) rfl dX6_copy_32 rfl (fun _ w32 => ?_)
  refine r_astore_n (ls2 := [(1, lR ((some b0))), (0, lR a0)]) 36 dX6_copy_35 rfl (by decide) rfl rfl ?_
  refine r_aload_n 37 0 dX6_copy_36 rfl rfl rfl ?_
  refine r_aload_n 38 1 dX6_copy_37 rfl rfl rfl ?_
  refine r_geti 41 gf_X6_34 dX6_copy_38 rfl (fun x38 => ?_)
  refine r_puti 44 pf_X6_34 dX6_copy_41 rfl (fun w41 => ?_)
  refine r_aload_n 45 0 dX6_copy_44 rfl rfl rfl ?_
  refine r_aload_n 46 1 dX6_copy_45 rfl rfl rfl ?_
  refine r_geti 49 gf_X6_37 dX6_copy_46 rfl (fun x46 => ?_)
  refine r_puti 52 pf_X6_37 dX6_copy_49 rfl (fun w49 => ?_)
  refine r_aload_n 53 0 dX6_copy_52 rfl rfl rfl ?_
  exact r_aret rfl rfl (Or.inl ⟨_, rfl⟩) dX6_copy_53
theorem s_X6_copy {l : Launch} {D : Dn} {H0 : Heap} (hl : l.stackTraces = false) (G : Nat) (a0 : Rf) (w : St) : SimN l D H0 yX6_copy (ws_ yX6_copy cX6_copy 2 (some (.object "CoachTimetable$Stop"))) 2 47 rvR [lR a0] w (f_X6_copy G a0 w) := SimX.N (SimX.ofV (y := yX6_copy) (by decide) rfl (t_X6_copy hl G a0 w))
abbrev V_X5_init (l : Launch) (D : Dn) (H0 : Heap) (w0 : St) (res : Option (Unit × St)) (pc : Nat) (ls : List (Nat × LV)) (st : List Value) (w : St) : Prop := V l D H0 RX5 "<init>" cX5_init 1 none [] 31 3020 (fun x => .inr (rvU x)) w0 res pc ls st w
theorem t_X5_init {l : Launch} {D : Dn} {H0 : Heap} {w0 : St} (hl : l.stackTraces = false) (G : Nat) (a0 : Nat) (w : St) : V_X5_init l D H0 w0 (f_X5_init G a0 w) 0 [(0, lR ((some a0)))] [] w := by
  unfold f_X5_init
  refine r_aload_n 1 0 dX5_init_0 rfl rfl rfl ?_
  refine r_objInit 4 q1229 q154 q155 (by decide) (cat2_nil (k := 0)) rfl dX5_init_1 rfl ?_
  refine r_aload_n 5 0 dX5_init_4 rfl rfl rfl ?_
  refine r_nw (C := RJ2) (T := TJ2) (N := 3) (ty := tyJ2) 8 15 rfl rfl in_J2 tyJ2_ok q1230 q163 q104 rfl (by decide) dX5_init_5 rfl (fun b5 w5 => ?_)
  refine r_dup_r 9 dX5_init_8 rfl ?_
  refine r_callI (b := b5) (n := 0) (as := []) (rest := [rf ((some b5)), rf ((some a0))]) 12 (sL_init hl b5 w5) (lw_meth q166) q104 q1231 q165 rfl (by decide +kernel) (by decide) rfl rfl (cat2_r (cat2_r (cat2_nil (k := 0)))) rfl dX5_init_9 rfl (fun _ w9 => ?_)
  refine r_putr 15 pf_X5_12 (Or.inl ⟨_, rfl⟩) dX5_init_12 rfl (fun w12 => ?_)
  refine r_aload_n 16 0 dX5_init_15 rfl rfl rfl ?_
  refine r_iconst (v := (-1)) 17 dX5_init_16 rfl rfl ?_
  refine r_puti 20 pf_X5_18 dX5_init_17 rfl (fun w17 => ?_)
  refine r_aload_n 21 0 dX5_init_20 rfl rfl rfl ?_
  refine r_iconst (v := (-1)) 22 dX5_init_21 rfl rfl ?_
  refine r_puti 25 pf_X5_22 dX5_init_22 rfl (fun w22 => ?_)
  exact r_vret rfl rfl dX5_init_25
theorem s_X5_init {l : Launch} {D : Dn} {H0 : Heap} (hl : l.stackTraces = false) (G : Nat) (a0 : Nat) (w : St) : SimN l D H0 yX5_init (ws_ yX5_init cX5_init 1 none) 31 3020 rvU [lR (some a0)] w (f_X5_init G a0 w) := SimX.N (SimX.ofV (y := yX5_init) (by decide) rfl (t_X5_init hl G a0 w))
abbrev V_X5_copy (l : Launch) (D : Dn) (H0 : Heap) (w0 : St) (res : Option (Rf × St)) (pc : Nat) (ls : List (Nat × LV)) (st : List Value) (w : St) : Prop := V l D H0 RX5 "copy" cX5_copy 4 (some (.object "CoachTimetable$Coach")) [] 32 3040 (fun x => .inr (rvR x)) w0 res pc ls st w
theorem t_X5_copy_l16 {l : Launch} {D : Dn} {H0 : Heap} {w0 : St} (hl : l.stackTraces = false) (G : Nat) (k50 : Rf → Rf → St → Option (Rf × St)) (h50 : ∀ v0 v1 w, V_X5_copy l D H0 w0 (k50 v0 v1 w) 50 [(0, lR v0), (1, lR v1)] [] w) : ∀ (F : Nat) (v0 : Rf) (v1 : Rf) (v2 : Rf) (w : St), V_X5_copy l D H0 w0 (f_X5_copy_l16 G k50 F v0 v1 v2 w) 16 [(0, lR v0), (1, lR v1), (2, lR v2)] [] w := by
  intro F
  induction F with
  | zero => intros; exact r_none
  | succ F ih =>
    intro v0 v1 v2 w
    unfold f_X5_copy_l16
    refine r_aload_n 17 2 dX5_copy_16 rfl rfl rfl ?_
    refine r_gd (fun hc17 => ?_)
    refine r_callF (x2 := ⟨"java/util/Iterator", "hasNext", "()Z"⟩) (n := 0) (as := []) (rest := []) 22 16 (sI_hasNext hl v2 w) hc17 rfl (lw_app (l4 q1250 q584 q586 q116) (lw_meth q588)) (List.mem_of_getElem? (i := 0) rfl) (by decide +kernel) (by decide) rfl rfl (cat2_nil (k := 0)) rfl dX5_copy_17 rfl (fun x17 w17 => ?_)
    refine r_if_eq 50 25 dX5_copy_22 (by decide) rfl ?_ ?_
    · exact r_lsP [0, 1] rfl (h50 v0 v1 w17)
    refine r_aload_n 26 2 dX5_copy_25 rfl rfl rfl ?_
    refine r_gd (fun hc26 => ?_)
    refine r_callF (x2 := ⟨"java/util/Iterator", "next", "()Ljava/lang/Object;"⟩) (n := 0) (as := []) (rest := []) 31 16 (sI_next hl v2 w17) hc26 rfl (lw_app (l4 q1252 q593 q595 q116) (lw_meth q597)) (List.mem_of_getElem? (i := 1) rfl) (by decide +kernel) (by decide) rfl rfl (cat2_nil (k := 0)) rfl dX5_copy_26 rfl (fun x26 w26 => ?_)
    refine r_cast 34 (CA_cons (c0 := 4) rfl (Or.inl rfl) (CA_nil)) q1253 dX5_copy_31 rfl ?_
    refine r_astore_n (ls2 := [(3, lR x26), (0, lR v0), (1, lR v1), (2, lR v2)]) 35 dX5_copy_34 rfl (by decide) rfl rfl ?_
    refine r_aload_n 36 2 dX5_copy_35 rfl rfl rfl ?_
    refine r_getr 39 gf_X5_12 dX5_copy_36 rfl (fun x36 => ?_)
    refine r_aload_n 40 0 dX5_copy_39 rfl rfl rfl ?_
    refine r_gd (fun hc40 => ?_)
    refine r_callV (n := 0) (as := []) (rest := [rf x36]) 43 4 (s_X6_copy hl G x26 w26) hc40 rfl (lw_V q1254 q1255 q1256 q119 q1257) (by decide +kernel) (by decide) rfl rfl (cat2_r (cat2_nil (k := 0))) rfl dX5_copy_40 rfl (fun x40 w40 => ?_)
    refine r_gd (fun hc43 => ?_)
    refine r_callV (n := 1) (as := [lR x40]) (rest := []) 46 15 (sL_add hl x36 x40 w40) hc43 rfl (lw_V q1307 q422 q423 q104 q424) (by decide +kernel) (by decide) rfl rfl (cat2_nil (k := 0)) rfl dX5_copy_43 rfl (fun x43 w43 => ?_)
    refine r_pop_i 47 dX5_copy_46 rfl ?_
    refine r_goto 16 dX5_copy_47 (by decide) ?_
    exact r_lsP [1, 2, 3] rfl (ih v0 v1 v2 w43)
theorem t_X5_copy_b50 {l : Launch} {D : Dn} {H0 : Heap} {w0 : St} (hl : l.stackTraces = false) (G : Nat) (v0 : Rf) (v1 : Rf) (w : St) : V_X5_copy l D H0 w0 (f_X5_copy_b50 G v0 v1 w) 50 [(0, lR v0), (1, lR v1)] [] w := by
  unfold f_X5_copy_b50
  refine r_aload_n 51 1 dX5_copy_50 rfl rfl rfl ?_
  refine r_aload_n 52 0 dX5_copy_51 rfl rfl rfl ?_
  refine r_geti 55 gf_X5_18 dX5_copy_52 rfl (fun x52 => ?_)
  refine r_puti 58 pf_X5_18 dX5_copy_55 rfl (fun w55 => ?_)
  refine r_aload_n 59 1 dX5_copy_58 rfl rfl rfl ?_
  refine r_aload_n 60 0 dX5_copy_59 rfl rfl rfl ?_
  refine r_geti 63 gf_X5_22 dX5_copy_60 rfl (fun x60 => ?_)
  refine r_puti 66 pf_X5_22 dX5_copy_63 rfl (fun w63 => ?_)
  refine r_aload_n 67 1 dX5_copy_66 rfl rfl rfl ?_
  exact r_aret rfl rfl (Or.inl ⟨_, rfl⟩) dX5_copy_67
theorem t_X5_copy {l : Launch} {D : Dn} {H0 : Heap} {w0 : St} (hl : l.stackTraces = false) (G : Nat) (a0 : Rf) (w : St) : V_X5_copy l D H0 w0 (f_X5_copy G a0 w) 0 [(0, lR a0)] [] w := by
  unfold f_X5_copy
  refine r_nw (C := RX5) (T := TX5) (N := 3) (ty := tyX5) 3 3 rfl rfl in_X5 tyX5_ok q1224 q1225 q118 rfl (by decide) dX5_copy_0 rfl (fun b0 w0 => ?_)
  refine r_dup_r 4 dX5_copy_3 rfl ?_
  refine r_callI (b := b0) (n := 0) (as := []) (rest := [rf ((some b0))]) 7 (s_X5_init hl G b0 w0) (lw_meth q1228) q118 q1226 q1227 rfl (by decide +kernel) (by decide) rfl rfl (cat2_r (cat2_nil (k := 0))) rfl dX5_copy_4 rfl (fun _ w4 => ?_)
  refine r_astore_n (ls2 := [(1, lR ((some b0))), (0, lR a0)]) 8 dX5_copy_7 rfl (by decide) rfl rfl ?_
  refine r_aload_n 9 1 dX5_copy_8 rfl rfl rfl ?_
  refine r_getr 12 gf_X5_12 dX5_copy_9 rfl (fun x9 => ?_)
  refine r_gd (fun hc12 => ?_)
  refine r_callV (n := 0) (as := []) (rest := []) 15 15 (sL_iterator hl x9 w4) hc12 rfl (lw_V q1248 q557 q558 q104 q559) (by decide +kernel) (by decide) rfl rfl (cat2_nil (k := 0)) rfl dX5_copy_12 rfl (fun x12 w12 => ?_)
  refine r_astore_n (ls2 := [(2, lR x12), (1, lR ((some b0))), (0, lR a0)]) 16 dX5_copy_15 rfl (by decide) rfl rfl ?_
  exact r_lsP [2, 1, 0] rfl (t_X5_copy_l16 hl G (fun v0 v1 w => f_X5_copy_b50 G  v0 v1 w) (fun v0 v1 w => t_X5_copy_b50 hl G  v0 v1 w) G a0 ((some b0)) x12 w12)
theorem s_X5_copy {l : Launch} {D : Dn} {H0 : Heap} (hl : l.stackTraces = false) (G : Nat) (a0 : Rf) (w : St) : SimN l D H0 yX5_copy (ws_ yX5_copy cX5_copy 4 (some (.object "CoachTimetable$Coach"))) 32 3040 rvR [lR a0] w (f_X5_copy G a0 w) := SimX.N (SimX.ofV (y := yX5_copy) (by decide) rfl (t_X5_copy hl G a0 w))
abbrev V_X7_init (l : Launch) (D : Dn) (H0 : Heap) (w0 : St) (res : Option (Unit × St)) (pc : Nat) (ls : List (Nat × LV)) (st : List Value) (w : St) : Prop := V l D H0 RX7 "<init>" cX7_init 7 none [] 1 20 (fun x => .inr (rvU x)) w0 res pc ls st w
theorem t_X7_init {l : Launch} {D : Dn} {H0 : Heap} {w0 : St} (hl : l.stackTraces = false) (G : Nat) (a0 : Nat) (a1 : Int32) (a2 : Int32) (a3 : Int32) (a4 : Int32) (a5 : Int32) (a6 : Int32) (w : St) : V_X7_init l D H0 w0 (f_X7_init G a0 a1 a2 a3 a4 a5 a6 w) 0 [(0, lR ((some a0))), (1, lI a1), (2, lI a2), (3, lI a3), (4, lI a4), (5, lI a5), (6, lI a6)] [] w := by
  unfold f_X7_init
  refine r_aload_n 1 0 dX7_init_0 rfl rfl rfl ?_
  refine r_objInit 4 q1319 q154 q155 (by decide) (cat2_nil (k := 0)) rfl dX7_init_1 rfl ?_
  refine r_aload_n 5 0 dX7_init_4 rfl rfl rfl ?_
  refine r_iload_n 6 1 dX7_init_5 rfl rfl rfl ?_
  refine r_puti 9 pf_X7_7 dX7_init_6 rfl (fun w6 => ?_)
  refine r_aload_n 10 0 dX7_init_9 rfl rfl rfl ?_
  refine r_iload_n 11 2 dX7_init_10 rfl rfl rfl ?_
  refine r_puti 14 pf_X7_13 dX7_init_11 rfl (fun w11 => ?_)
  refine r_aload_n 15 0 dX7_init_14 rfl rfl rfl ?_
  refine r_iload_n 16 3 dX7_init_15 rfl rfl rfl ?_
  refine r_puti 19 pf_X7_16 dX7_init_16 rfl (fun w16 => ?_)
  refine r_aload_n 20 0 dX7_init_19 rfl rfl rfl ?_
  refine r_iload 22 4 dX7_init_20 rfl rfl ?_
  refine r_puti 25 pf_X7_19 dX7_init_22 rfl (fun w22 => ?_)
  refine r_aload_n 26 0 dX7_init_25 rfl rfl rfl ?_
  refine r_iload 28 5 dX7_init_26 rfl rfl ?_
  refine r_puti 31 pf_X7_22 dX7_init_28 rfl (fun w28 => ?_)
  refine r_aload_n 32 0 dX7_init_31 rfl rfl rfl ?_
  refine r_iload 34 6 dX7_init_32 rfl rfl ?_
  refine r_puti 37 pf_X7_25 dX7_init_34 rfl (fun w34 => ?_)
  exact r_vret rfl rfl dX7_init_37
theorem s_X7_init {l : Launch} {D : Dn} {H0 : Heap} (hl : l.stackTraces = false) (G : Nat) (a0 : Nat) (a1 : Int32) (a2 : Int32) (a3 : Int32) (a4 : Int32) (a5 : Int32) (a6 : Int32) (w : St) : SimN l D H0 yX7_init (ws_ yX7_init cX7_init 7 none) 1 20 rvU [lR (some a0), lI a1, lI a2, lI a3, lI a4, lI a5, lI a6] w (f_X7_init G a0 a1 a2 a3 a4 a5 a6 w) := SimX.N (SimX.ofV (y := yX7_init) (by decide) rfl (t_X7_init hl G a0 a1 a2 a3 a4 a5 a6 w))
abbrev V_X7_copy (l : Launch) (D : Dn) (H0 : Heap) (w0 : St) (res : Option (Rf × St)) (pc : Nat) (ls : List (Nat × LV)) (st : List Value) (w : St) : Prop := V l D H0 RX7 "copy" cX7_copy 1 (some (.object "CoachTimetable$Link")) [] 2 46 (fun x => .inr (rvR x)) w0 res pc ls st w
theorem t_X7_copy {l : Launch} {D : Dn} {H0 : Heap} {w0 : St} (hl : l.stackTraces = false) (G : Nat) (a0 : Rf) (w : St) : V_X7_copy l D H0 w0 (f_X7_copy G a0 w) 0 [(0, lR a0)] [] w := by
  unfold f_X7_copy
  refine r_nw (C := RX7) (T := TX7) (N := 6) (ty := tyX7) 3 5 rfl rfl in_X7 tyX7_ok q1314 q1315 q124 rfl (by decide) dX7_copy_0 rfl (fun b0 w0 => ?_)
  refine r_dup_r 4 dX7_copy_3 rfl ?_
  refine r_aload_n 5 0 dX7_copy_4 rfl rfl rfl ?_
  refine r_geti 8 gf_X7_7 dX7_copy_5 rfl (fun x5 => ?_)
  refine r_aload_n 9 0 dX7_copy_8 rfl rfl rfl ?_
  refine r_geti 12 gf_X7_13 dX7_copy_9 rfl (fun x9 => ?_)
  refine r_aload_n 13 0 dX7_copy_12 rfl rfl rfl ?_
  refine r_geti 16 gf_X7_16 dX7_copy_13 rfl (fun x13 => ?_)
  refine r_aload_n 17 0 dX7_copy_16 rfl rfl rfl ?_
  refine r_geti 20 gf_X7_19 dX7_copy_17 rfl (fun x17 => ?_)
  refine r_aload_n 21 0 dX7_copy_20 rfl rfl rfl ?_
  refine r_geti 24 gf_X7_22 dX7_copy_21 rfl (fun x21 => ?_)
  refine r_aload_n 25 0 dX7_copy_24 rfl rfl rfl ?_
  refine r_geti 28 gf_X7_25 dX7_copy_25 rfl (fun x25 => ?_)
  refine r_callI (b := b0) (n := 6) (as := [lI x5, lI x9, lI x13, lI x17, lI x21, lI x25]) (rest := [rf ((some b0))]) 31 (s_X7_init hl G b0 x5 x9 x13 x17 x21 x25 w0) (lw_meth q1318) q124 q1316 q1317 rfl (by decide +kernel) (by decide) rfl rfl (cat2_r (cat2_nil (k := 0))) rfl dX7_copy_28 rfl (fun _ w28 => ?_)
  exact r_aret rfl rfl (Or.inl ⟨_, rfl⟩) dX7_copy_31
theorem s_X7_copy {l : Launch} {D : Dn} {H0 : Heap} (hl : l.stackTraces = false) (G : Nat) (a0 : Rf) (w : St) : SimN l D H0 yX7_copy (ws_ yX7_copy cX7_copy 1 (some (.object "CoachTimetable$Link"))) 2 46 rvR [lR a0] w (f_X7_copy G a0 w) := SimX.N (SimX.ofV (y := yX7_copy) (by decide) rfl (t_X7_copy hl G a0 w))
abbrev V_X2_copy (l : Launch) (D : Dn) (H0 : Heap) (w0 : St) (res : Option (Rf × St)) (pc : Nat) (ls : List (Nat × LV)) (st : List Value) (w : St) : Prop := V l D H0 RX2 "copy" cX2_copy 4 (some (.object "CoachTimetable$State")) [] 33 3063 (fun x => .inr (rvR x)) w0 res pc ls st w
theorem t_X2_copy_l16 {l : Launch} {D : Dn} {H0 : Heap} {w0 : St} (hl : l.stackTraces = false) (G : Nat) (k50 : Rf → Rf → St → Option (Rf × St)) (h50 : ∀ v0 v1 w, V_X2_copy l D H0 w0 (k50 v0 v1 w) 50 [(0, lR v0), (1, lR v1)] [] w) : ∀ (F : Nat) (v0 : Rf) (v1 : Rf) (v2 : Rf) (w : St), V_X2_copy l D H0 w0 (f_X2_copy_l16 G k50 F v0 v1 v2 w) 16 [(0, lR v0), (1, lR v1), (2, lR v2)] [] w := by
  intro F
  induction F with
  | zero => intros; exact r_none
  | succ F ih =>
    intro v0 v1 v2 w
    unfold f_X2_copy_l16
    refine r_aload_n 17 2 dX2_copy_16 rfl rfl rfl ?_
    refine r_gd (fun hc17 => ?_)
    refine r_callF (x2 := ⟨"java/util/Iterator", "hasNext", "()Z"⟩) (n := 0) (as := []) (rest := []) 22 16 (sI_hasNext hl v2 w) hc17 rfl (lw_app (l4 q1216 q584 q586 q116) (lw_meth q588)) (List.mem_of_getElem? (i := 0) rfl) (by decide +kernel) (by decide) rfl rfl (cat2_nil (k := 0)) rfl dX2_copy_17 rfl (fun x17 w17 => ?_)
    refine r_if_eq 50 25 dX2_copy_22 (by decide) rfl ?_ ?_
    · exact r_lsP [0, 1] rfl (h50 v0 v1 w17)
    refine r_aload_n 26 2 dX2_copy_25 rfl rfl rfl ?_
    refine r_gd (fun hc26 => ?_)
    refine r_callF (x2 := ⟨"java/util/Iterator", "next", "()Ljava/lang/Object;"⟩) (n := 0) (as := []) (rest := []) 31 16 (sI_next hl v2 w17) hc26 rfl (lw_app (l4 q1218 q593 q595 q116) (lw_meth q597)) (List.mem_of_getElem? (i := 1) rfl) (by decide +kernel) (by decide) rfl rfl (cat2_nil (k := 0)) rfl dX2_copy_26 rfl (fun x26 w26 => ?_)
    refine r_cast 34 (CA_cons (c0 := 3) rfl (Or.inl rfl) (CA_nil)) q1219 dX2_copy_31 rfl ?_
    refine r_astore_n (ls2 := [(3, lR x26), (0, lR v0), (1, lR v1), (2, lR v2)]) 35 dX2_copy_34 rfl (by decide) rfl rfl ?_
    refine r_aload_n 36 2 dX2_copy_35 rfl rfl rfl ?_
    refine r_getr 39 gf_X2_10 dX2_copy_36 rfl (fun x36 => ?_)
    refine r_aload_n 40 0 dX2_copy_39 rfl rfl rfl ?_
    refine r_gd (fun hc40 => ?_)
    refine r_callV (n := 0) (as := []) (rest := [rf x36]) 43 3 (s_X5_copy hl G x26 w26) hc40 rfl (lw_V q1220 q1221 q1222 q118 q1223) (by decide +kernel) (by decide) rfl rfl (cat2_r (cat2_nil (k := 0))) rfl dX2_copy_40 rfl (fun x40 w40 => ?_)
    refine r_gd (fun hc43 => ?_)
    refine r_callV (n := 1) (as := [lR x40]) (rest := []) 46 15 (sL_add hl x36 x40 w40) hc43 rfl (lw_V q1308 q422 q423 q104 q424) (by decide +kernel) (by decide) rfl rfl (cat2_nil (k := 0)) rfl dX2_copy_43 rfl (fun x43 w43 => ?_)
    refine r_pop_i 47 dX2_copy_46 rfl ?_
    refine r_goto 16 dX2_copy_47 (by decide) ?_
    exact r_lsP [1, 2, 3] rfl (ih v0 v1 v2 w43)
theorem t_X2_copy_l58 {l : Launch} {D : Dn} {H0 : Heap} {w0 : St} (hl : l.stackTraces = false) (G : Nat) (k92 : Rf → Rf → St → Option (Rf × St)) (h92 : ∀ v0 v1 w, V_X2_copy l D H0 w0 (k92 v0 v1 w) 92 [(0, lR v0), (1, lR v1)] [] w) : ∀ (F : Nat) (v0 : Rf) (v1 : Rf) (v2 : Rf) (w : St), V_X2_copy l D H0 w0 (f_X2_copy_l58 G k92 F v0 v1 v2 w) 58 [(0, lR v0), (1, lR v1), (2, lR v2)] [] w := by
  intro F
  induction F with
  | zero => intros; exact r_none
  | succ F ih =>
    intro v0 v1 v2 w
    unfold f_X2_copy_l58
    refine r_aload_n 59 2 dX2_copy_58 rfl rfl rfl ?_
    refine r_gd (fun hc59 => ?_)
    refine r_callF (x2 := ⟨"java/util/Iterator", "hasNext", "()Z"⟩) (n := 0) (as := []) (rest := []) 64 16 (sI_hasNext hl v2 w) hc59 rfl (lw_app (l4 q1216 q584 q586 q116) (lw_meth q588)) (List.mem_of_getElem? (i := 0) rfl) (by decide +kernel) (by decide) rfl rfl (cat2_nil (k := 0)) rfl dX2_copy_59 rfl (fun x59 w59 => ?_)
    refine r_if_eq 92 67 dX2_copy_64 (by decide) rfl ?_ ?_
    · exact r_lsP [0, 1] rfl (h92 v0 v1 w59)
    refine r_aload_n 68 2 dX2_copy_67 rfl rfl rfl ?_
    refine r_gd (fun hc68 => ?_)
    refine r_callF (x2 := ⟨"java/util/Iterator", "next", "()Ljava/lang/Object;"⟩) (n := 0) (as := []) (rest := []) 73 16 (sI_next hl v2 w59) hc68 rfl (lw_app (l4 q1218 q593 q595 q116) (lw_meth q597)) (List.mem_of_getElem? (i := 1) rfl) (by decide +kernel) (by decide) rfl rfl (cat2_nil (k := 0)) rfl dX2_copy_68 rfl (fun x68 w68 => ?_)
    refine r_cast 76 (CA_cons (c0 := 5) rfl (Or.inl rfl) (CA_nil)) q1309 dX2_copy_73 rfl ?_
    refine r_astore_n (ls2 := [(3, lR x68), (0, lR v0), (1, lR v1), (2, lR v2)]) 77 dX2_copy_76 rfl (by decide) rfl rfl ?_
    refine r_aload_n 78 2 dX2_copy_77 rfl rfl rfl ?_
    refine r_getr 81 gf_X2_16 dX2_copy_78 rfl (fun x78 => ?_)
    refine r_aload_n 82 0 dX2_copy_81 rfl rfl rfl ?_
    refine r_gd (fun hc82 => ?_)
    refine r_callV (n := 0) (as := []) (rest := [rf x78]) 85 5 (s_X7_copy hl G x68 w68) hc82 rfl (lw_V q1310 q1311 q1312 q124 q1313) (by decide +kernel) (by decide) rfl rfl (cat2_r (cat2_nil (k := 0))) rfl dX2_copy_82 rfl (fun x82 w82 => ?_)
    refine r_gd (fun hc85 => ?_)
    refine r_callV (n := 1) (as := [lR x82]) (rest := []) 88 15 (sL_add hl x78 x82 w82) hc85 rfl (lw_V q1308 q422 q423 q104 q424) (by decide +kernel) (by decide) rfl rfl (cat2_nil (k := 0)) rfl dX2_copy_85 rfl (fun x85 w85 => ?_)
    refine r_pop_i 89 dX2_copy_88 rfl ?_
    refine r_goto 58 dX2_copy_89 (by decide) ?_
    exact r_lsP [1, 2, 3] rfl (ih v0 v1 v2 w85)
theorem t_X2_copy_b92 {l : Launch} {D : Dn} {H0 : Heap} {w0 : St} (hl : l.stackTraces = false) (G : Nat) (v0 : Rf) (v1 : Rf) (w : St) : V_X2_copy l D H0 w0 (f_X2_copy_b92 G v0 v1 w) 92 [(0, lR v0), (1, lR v1)] [] w := by
  unfold f_X2_copy_b92
  refine r_aload_n 93 1 dX2_copy_92 rfl rfl rfl ?_
  refine r_aload_n 94 0 dX2_copy_93 rfl rfl rfl ?_
  refine r_geti 97 gf_X2_49 dX2_copy_94 rfl (fun x94 => ?_)
  refine r_puti 100 pf_X2_49 dX2_copy_97 rfl (fun w97 => ?_)
  refine r_aload_n 101 1 dX2_copy_100 rfl rfl rfl ?_
  refine r_aload_n 102 0 dX2_copy_101 rfl rfl rfl ?_
  refine r_geti 105 gf_X2_53 dX2_copy_102 rfl (fun x102 => ?_)
  refine r_puti 108 pf_X2_53 dX2_copy_105 rfl (fun w105 => ?_)
  refine r_aload_n 109 1 dX2_copy_108 rfl rfl rfl ?_
  exact r_aret rfl rfl (Or.inl ⟨_, rfl⟩) dX2_copy_109
theorem t_X2_copy_b50 {l : Launch} {D : Dn} {H0 : Heap} {w0 : St} (hl : l.stackTraces = false) (G : Nat) (v0 : Rf) (v1 : Rf) (w : St) : V_X2_copy l D H0 w0 (f_X2_copy_b50 G v0 v1 w) 50 [(0, lR v0), (1, lR v1)] [] w := by
  unfold f_X2_copy_b50
  refine r_aload_n 51 0 dX2_copy_50 rfl rfl rfl ?_
  refine r_getr 54 gf_X2_16 dX2_copy_51 rfl (fun x51 => ?_)
  refine r_gd (fun hc54 => ?_)
  refine r_callV (n := 0) (as := []) (rest := []) 57 15 (sL_iterator hl x51 w) hc54 rfl (lw_V q1214 q557 q558 q104 q559) (by decide +kernel) (by decide) rfl rfl (cat2_nil (k := 0)) rfl dX2_copy_54 rfl (fun x54 w54 => ?_)
  refine r_astore_n (ls2 := [(2, lR x54), (0, lR v0), (1, lR v1)]) 58 dX2_copy_57 rfl (by decide) rfl rfl ?_
  exact r_lsP [1, 2, 0] rfl (t_X2_copy_l58 hl G (fun v0 v1 w => f_X2_copy_b92 G  v0 v1 w) (fun v0 v1 w => t_X2_copy_b92 hl G  v0 v1 w) G v0 v1 x54 w54)
theorem t_X2_copy {l : Launch} {D : Dn} {H0 : Heap} {w0 : St} (hl : l.stackTraces = false) (G : Nat) (a0 : Rf) (w : St) : V_X2_copy l D H0 w0 (f_X2_copy G a0 w) 0 [(0, lR a0)] [] w := by
  unfold f_X2_copy
  refine r_nw (C := RX2) (T := TX2) (N := 4) (ty := tyX2) 3 1 rfl rfl in_X2 tyX2_ok q1212 q157 q101 rfl (by decide) dX2_copy_0 rfl (fun b0 w0 => ?_)
  refine r_dup_r 4 dX2_copy_3 rfl ?_
  refine r_callI (b := b0) (n := 0) (as := []) (rest := [rf ((some b0))]) 7 (s_X2_init hl G b0 w0) (lw_meth q160) q101 q1213 q159 rfl (by decide +kernel) (by decide) rfl rfl (cat2_r (cat2_nil (k := 0))) rfl dX2_copy_4 rfl (fun _ w4 => ?_)
  refine r_astore_n (ls2 := [(1, lR ((some b0))), (0, lR a0)]) 8 dX2_copy_7 rfl (by decide) rfl rfl ?_
  refine r_aload_n 9 1 dX2_copy_8 rfl rfl rfl ?_
  refine r_getr 12 gf_X2_10 dX2_copy_9 rfl (fun x9 => ?_)
  refine r_gd (fun hc12 => ?_)
  refine r_callV (n := 0) (as := []) (rest := []) 15 15 (sL_iterator hl x9 w4) hc12 rfl (lw_V q1214 q557 q558 q104 q559) (by decide +kernel) (by decide) rfl rfl (cat2_nil (k := 0)) rfl dX2_copy_12 rfl (fun x12 w12 => ?_)
  refine r_astore_n (ls2 := [(2, lR x12), (1, lR ((some b0))), (0, lR a0)]) 16 dX2_copy_15 rfl (by decide) rfl rfl ?_
  exact r_lsP [2, 1, 0] rfl (t_X2_copy_l16 hl G (fun v0 v1 w => f_X2_copy_b50 G  v0 v1 w) (fun v0 v1 w => t_X2_copy_b50 hl G  v0 v1 w) G a0 ((some b0)) x12 w12)
theorem s_X2_copy {l : Launch} {D : Dn} {H0 : Heap} (hl : l.stackTraces = false) (G : Nat) (a0 : Rf) (w : St) : SimN l D H0 yX2_copy (ws_ yX2_copy cX2_copy 4 (some (.object "CoachTimetable$State"))) 33 3063 rvR [lR a0] w (f_X2_copy G a0 w) := SimX.N (SimX.ofV (y := yX2_copy) (by decide) rfl (t_X2_copy hl G a0 w))
