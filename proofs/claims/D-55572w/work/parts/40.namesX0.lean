set_option maxRecDepth 100000
abbrev cX0_coach : ByteArray := method_3_code
def yX0_coach : MethodName := ⟨RX0, "coach", "(LCoachTimetable;II[J)I"⟩
def dkwX0_coach_0 : List UInt8 := [45, 3, 42, 27, 28, 182, 0, 7, 133, 80, 167, 0, 7, 58, 4, 4, 172, 3, 172]
abbrev dktX0_coach_0 : List UInt8 := dkwX0_coach_0 ++ []
theorem dksX0_coach_0 : cX0_coach.data.toList.drop 0 = dktX0_coach_0 := by decide +kernel
theorem dX0_coach_0 : decode cX0_coach 0 = .ok (.aload_n 3, 1) := dk_45 (dk_at dksX0_coach_0 0 rfl rfl)
theorem dX0_coach_1 : decode cX0_coach 1 = .ok (.iconst 0, 1) := dk_3 (dk_at dksX0_coach_0 1 rfl rfl)
theorem dX0_coach_2 : decode cX0_coach 2 = .ok (.aload_n 0, 1) := dk_42 (dk_at dksX0_coach_0 2 rfl rfl)
theorem dX0_coach_3 : decode cX0_coach 3 = .ok (.iload_n 1, 1) := dk_27 (dk_at dksX0_coach_0 3 rfl rfl)
theorem dX0_coach_4 : decode cX0_coach 4 = .ok (.iload_n 2, 1) := dk_28 (dk_at dksX0_coach_0 4 rfl rfl)
theorem dX0_coach_5 : decode cX0_coach 5 = .ok (.invokevirtual 7, 3) := dk_182 0 7 (dk_at dksX0_coach_0 5 rfl rfl)
theorem dX0_coach_8 : decode cX0_coach 8 = .ok (.i2l, 1) := dk_133 (dk_at dksX0_coach_0 8 rfl rfl)
theorem dX0_coach_9 : decode cX0_coach 9 = .ok (.lastore, 1) := dk_80 (dk_at dksX0_coach_0 9 rfl rfl)
theorem dX0_coach_10 : decode cX0_coach 10 = .ok (.goto 7, 3) := dk_167 0 7 (dk_at dksX0_coach_0 10 rfl rfl)
theorem dX0_coach_13 : decode cX0_coach 13 = .ok (.astore 4, 2) := dk_58 4 (dk_at dksX0_coach_0 13 rfl rfl)
theorem dX0_coach_15 : decode cX0_coach 15 = .ok (.iconst 1, 1) := dk_4 (dk_at dksX0_coach_0 15 rfl rfl)
theorem dX0_coach_16 : decode cX0_coach 16 = .ok (.ireturn, 1) := dk_172 (dk_at dksX0_coach_0 16 rfl rfl)
theorem dX0_coach_17 : decode cX0_coach 17 = .ok (.iconst 0, 1) := dk_3 (dk_at dksX0_coach_0 17 rfl rfl)
theorem dX0_coach_18 : decode cX0_coach 18 = .ok (.ireturn, 1) := dk_172 (dk_at dksX0_coach_0 18 rfl rfl)
abbrev cX0_leg : ByteArray := method_4_code
def yX0_leg : MethodName := ⟨RX0, "leg", "(LCoachTimetable;IIIIII[J)I"⟩
def dkwX0_leg_1 : List UInt8 := [172, 3, 172]
abbrev dktX0_leg_1 : List UInt8 := dkwX0_leg_1 ++ []
def dkwX0_leg_0 : List UInt8 := [25, 7, 3, 42, 27, 28, 29, 21, 4, 21, 5, 21, 6, 182, 0, 15, 133, 80, 167, 0, 7, 58, 8, 4]
abbrev dktX0_leg_0 : List UInt8 := dkwX0_leg_0 ++ dktX0_leg_1
theorem dksX0_leg_0 : cX0_leg.data.toList.drop 0 = dktX0_leg_0 := by decide +kernel
theorem dksX0_leg_1 : cX0_leg.data.toList.drop 24 = dktX0_leg_1 := dk_seg dksX0_leg_0 24 rfl rfl
theorem dX0_leg_0 : decode cX0_leg 0 = .ok (.aload 7, 2) := dk_25 7 (dk_at dksX0_leg_0 0 rfl rfl)
theorem dX0_leg_2 : decode cX0_leg 2 = .ok (.iconst 0, 1) := dk_3 (dk_at dksX0_leg_0 2 rfl rfl)
theorem dX0_leg_3 : decode cX0_leg 3 = .ok (.aload_n 0, 1) := dk_42 (dk_at dksX0_leg_0 3 rfl rfl)
theorem dX0_leg_4 : decode cX0_leg 4 = .ok (.iload_n 1, 1) := dk_27 (dk_at dksX0_leg_0 4 rfl rfl)
theorem dX0_leg_5 : decode cX0_leg 5 = .ok (.iload_n 2, 1) := dk_28 (dk_at dksX0_leg_0 5 rfl rfl)
theorem dX0_leg_6 : decode cX0_leg 6 = .ok (.iload_n 3, 1) := dk_29 (dk_at dksX0_leg_0 6 rfl rfl)
theorem dX0_leg_7 : decode cX0_leg 7 = .ok (.iload 4, 2) := dk_21 4 (dk_at dksX0_leg_0 7 rfl rfl)
theorem dX0_leg_9 : decode cX0_leg 9 = .ok (.iload 5, 2) := dk_21 5 (dk_at dksX0_leg_0 9 rfl rfl)
theorem dX0_leg_11 : decode cX0_leg 11 = .ok (.iload 6, 2) := dk_21 6 (dk_at dksX0_leg_0 11 rfl rfl)
theorem dX0_leg_13 : decode cX0_leg 13 = .ok (.invokevirtual 15, 3) := dk_182 0 15 (dk_at dksX0_leg_0 13 rfl rfl)
theorem dX0_leg_16 : decode cX0_leg 16 = .ok (.i2l, 1) := dk_133 (dk_at dksX0_leg_0 16 rfl rfl)
theorem dX0_leg_17 : decode cX0_leg 17 = .ok (.lastore, 1) := dk_80 (dk_at dksX0_leg_0 17 rfl rfl)
theorem dX0_leg_18 : decode cX0_leg 18 = .ok (.goto 7, 3) := dk_167 0 7 (dk_at dksX0_leg_0 18 rfl rfl)
theorem dX0_leg_21 : decode cX0_leg 21 = .ok (.astore 8, 2) := dk_58 8 (dk_at dksX0_leg_0 21 rfl rfl)
theorem dX0_leg_23 : decode cX0_leg 23 = .ok (.iconst 1, 1) := dk_4 (dk_at dksX0_leg_0 23 rfl rfl)
theorem dX0_leg_24 : decode cX0_leg 24 = .ok (.ireturn, 1) := dk_172 (dk_at dksX0_leg_1 0 rfl rfl)
theorem dX0_leg_25 : decode cX0_leg 25 = .ok (.iconst 0, 1) := dk_3 (dk_at dksX0_leg_1 1 rfl rfl)
theorem dX0_leg_26 : decode cX0_leg 26 = .ok (.ireturn, 1) := dk_172 (dk_at dksX0_leg_1 2 rfl rfl)
abbrev cX0_turn : ByteArray := method_5_code
def yX0_turn : MethodName := ⟨RX0, "turn", "(LCoachTimetable;II[J)I"⟩
def dkwX0_turn_0 : List UInt8 := [45, 3, 42, 27, 28, 182, 0, 19, 133, 80, 167, 0, 7, 58, 4, 4, 172, 3, 172]
abbrev dktX0_turn_0 : List UInt8 := dkwX0_turn_0 ++ []
theorem dksX0_turn_0 : cX0_turn.data.toList.drop 0 = dktX0_turn_0 := by decide +kernel
theorem dX0_turn_0 : decode cX0_turn 0 = .ok (.aload_n 3, 1) := dk_45 (dk_at dksX0_turn_0 0 rfl rfl)
theorem dX0_turn_1 : decode cX0_turn 1 = .ok (.iconst 0, 1) := dk_3 (dk_at dksX0_turn_0 1 rfl rfl)
theorem dX0_turn_2 : decode cX0_turn 2 = .ok (.aload_n 0, 1) := dk_42 (dk_at dksX0_turn_0 2 rfl rfl)
theorem dX0_turn_3 : decode cX0_turn 3 = .ok (.iload_n 1, 1) := dk_27 (dk_at dksX0_turn_0 3 rfl rfl)
theorem dX0_turn_4 : decode cX0_turn 4 = .ok (.iload_n 2, 1) := dk_28 (dk_at dksX0_turn_0 4 rfl rfl)
theorem dX0_turn_5 : decode cX0_turn 5 = .ok (.invokevirtual 19, 3) := dk_182 0 19 (dk_at dksX0_turn_0 5 rfl rfl)
theorem dX0_turn_8 : decode cX0_turn 8 = .ok (.i2l, 1) := dk_133 (dk_at dksX0_turn_0 8 rfl rfl)
theorem dX0_turn_9 : decode cX0_turn 9 = .ok (.lastore, 1) := dk_80 (dk_at dksX0_turn_0 9 rfl rfl)
theorem dX0_turn_10 : decode cX0_turn 10 = .ok (.goto 7, 3) := dk_167 0 7 (dk_at dksX0_turn_0 10 rfl rfl)
theorem dX0_turn_13 : decode cX0_turn 13 = .ok (.astore 4, 2) := dk_58 4 (dk_at dksX0_turn_0 13 rfl rfl)
theorem dX0_turn_15 : decode cX0_turn 15 = .ok (.iconst 1, 1) := dk_4 (dk_at dksX0_turn_0 15 rfl rfl)
theorem dX0_turn_16 : decode cX0_turn 16 = .ok (.ireturn, 1) := dk_172 (dk_at dksX0_turn_0 16 rfl rfl)
theorem dX0_turn_17 : decode cX0_turn 17 = .ok (.iconst 0, 1) := dk_3 (dk_at dksX0_turn_0 17 rfl rfl)
theorem dX0_turn_18 : decode cX0_turn 18 = .ok (.ireturn, 1) := dk_172 (dk_at dksX0_turn_0 18 rfl rfl)
abbrev cX0_link : ByteArray := method_6_code
def yX0_link : MethodName := ⟨RX0, "link", "(LCoachTimetable;IIIIII[J)I"⟩
def dkwX0_link_1 : List UInt8 := [172, 3, 172]
abbrev dktX0_link_1 : List UInt8 := dkwX0_link_1 ++ []
def dkwX0_link_0 : List UInt8 := [25, 7, 3, 42, 27, 28, 29, 21, 4, 21, 5, 21, 6, 182, 0, 22, 133, 80, 167, 0, 7, 58, 8, 4]
abbrev dktX0_link_0 : List UInt8 := dkwX0_link_0 ++ dktX0_link_1
theorem dksX0_link_0 : cX0_link.data.toList.drop 0 = dktX0_link_0 := by decide +kernel
theorem dksX0_link_1 : cX0_link.data.toList.drop 24 = dktX0_link_1 := dk_seg dksX0_link_0 24 rfl rfl
theorem dX0_link_0 : decode cX0_link 0 = .ok (.aload 7, 2) := dk_25 7 (dk_at dksX0_link_0 0 rfl rfl)
theorem dX0_link_2 : decode cX0_link 2 = .ok (.iconst 0, 1) := dk_3 (dk_at dksX0_link_0 2 rfl rfl)
theorem dX0_link_3 : decode cX0_link 3 = .ok (.aload_n 0, 1) := dk_42 (dk_at dksX0_link_0 3 rfl rfl)
theorem dX0_link_4 : decode cX0_link 4 = .ok (.iload_n 1, 1) := dk_27 (dk_at dksX0_link_0 4 rfl rfl)
theorem dX0_link_5 : decode cX0_link 5 = .ok (.iload_n 2, 1) := dk_28 (dk_at dksX0_link_0 5 rfl rfl)
theorem dX0_link_6 : decode cX0_link 6 = .ok (.iload_n 3, 1) := dk_29 (dk_at dksX0_link_0 6 rfl rfl)
theorem dX0_link_7 : decode cX0_link 7 = .ok (.iload 4, 2) := dk_21 4 (dk_at dksX0_link_0 7 rfl rfl)
theorem dX0_link_9 : decode cX0_link 9 = .ok (.iload 5, 2) := dk_21 5 (dk_at dksX0_link_0 9 rfl rfl)
theorem dX0_link_11 : decode cX0_link 11 = .ok (.iload 6, 2) := dk_21 6 (dk_at dksX0_link_0 11 rfl rfl)
theorem dX0_link_13 : decode cX0_link 13 = .ok (.invokevirtual 22, 3) := dk_182 0 22 (dk_at dksX0_link_0 13 rfl rfl)
theorem dX0_link_16 : decode cX0_link 16 = .ok (.i2l, 1) := dk_133 (dk_at dksX0_link_0 16 rfl rfl)
theorem dX0_link_17 : decode cX0_link 17 = .ok (.lastore, 1) := dk_80 (dk_at dksX0_link_0 17 rfl rfl)
theorem dX0_link_18 : decode cX0_link 18 = .ok (.goto 7, 3) := dk_167 0 7 (dk_at dksX0_link_0 18 rfl rfl)
theorem dX0_link_21 : decode cX0_link 21 = .ok (.astore 8, 2) := dk_58 8 (dk_at dksX0_link_0 21 rfl rfl)
theorem dX0_link_23 : decode cX0_link 23 = .ok (.iconst 1, 1) := dk_4 (dk_at dksX0_link_0 23 rfl rfl)
theorem dX0_link_24 : decode cX0_link 24 = .ok (.ireturn, 1) := dk_172 (dk_at dksX0_link_1 0 rfl rfl)
theorem dX0_link_25 : decode cX0_link 25 = .ok (.iconst 0, 1) := dk_3 (dk_at dksX0_link_1 1 rfl rfl)
theorem dX0_link_26 : decode cX0_link 26 = .ok (.ireturn, 1) := dk_172 (dk_at dksX0_link_1 2 rfl rfl)
abbrev cX0_cut : ByteArray := method_7_code
def yX0_cut : MethodName := ⟨RX0, "cut", "(LCoachTimetable;I[J)I"⟩
def dkwX0_cut_0 : List UInt8 := [44, 3, 42, 27, 182, 0, 25, 133, 80, 167, 0, 6, 78, 4, 172, 3, 172]
abbrev dktX0_cut_0 : List UInt8 := dkwX0_cut_0 ++ []
theorem dksX0_cut_0 : cX0_cut.data.toList.drop 0 = dktX0_cut_0 := by decide +kernel
theorem dX0_cut_0 : decode cX0_cut 0 = .ok (.aload_n 2, 1) := dk_44 (dk_at dksX0_cut_0 0 rfl rfl)
theorem dX0_cut_1 : decode cX0_cut 1 = .ok (.iconst 0, 1) := dk_3 (dk_at dksX0_cut_0 1 rfl rfl)
theorem dX0_cut_2 : decode cX0_cut 2 = .ok (.aload_n 0, 1) := dk_42 (dk_at dksX0_cut_0 2 rfl rfl)
theorem dX0_cut_3 : decode cX0_cut 3 = .ok (.iload_n 1, 1) := dk_27 (dk_at dksX0_cut_0 3 rfl rfl)
theorem dX0_cut_4 : decode cX0_cut 4 = .ok (.invokevirtual 25, 3) := dk_182 0 25 (dk_at dksX0_cut_0 4 rfl rfl)
theorem dX0_cut_7 : decode cX0_cut 7 = .ok (.i2l, 1) := dk_133 (dk_at dksX0_cut_0 7 rfl rfl)
theorem dX0_cut_8 : decode cX0_cut 8 = .ok (.lastore, 1) := dk_80 (dk_at dksX0_cut_0 8 rfl rfl)
theorem dX0_cut_9 : decode cX0_cut 9 = .ok (.goto 6, 3) := dk_167 0 6 (dk_at dksX0_cut_0 9 rfl rfl)
theorem dX0_cut_12 : decode cX0_cut 12 = .ok (.astore_n 3, 1) := dk_78 (dk_at dksX0_cut_0 12 rfl rfl)
theorem dX0_cut_13 : decode cX0_cut 13 = .ok (.iconst 1, 1) := dk_4 (dk_at dksX0_cut_0 13 rfl rfl)
theorem dX0_cut_14 : decode cX0_cut 14 = .ok (.ireturn, 1) := dk_172 (dk_at dksX0_cut_0 14 rfl rfl)
theorem dX0_cut_15 : decode cX0_cut 15 = .ok (.iconst 0, 1) := dk_3 (dk_at dksX0_cut_0 15 rfl rfl)
theorem dX0_cut_16 : decode cX0_cut 16 = .ok (.ireturn, 1) := dk_172 (dk_at dksX0_cut_0 16 rfl rfl)
abbrev cX0_limit : ByteArray := method_8_code
def yX0_limit : MethodName := ⟨RX0, "limit", "(LCoachTimetable;II[J)I"⟩
def dkwX0_limit_0 : List UInt8 := [45, 3, 42, 27, 28, 182, 0, 29, 133, 80, 167, 0, 7, 58, 4, 4, 172, 3, 172]
abbrev dktX0_limit_0 : List UInt8 := dkwX0_limit_0 ++ []
theorem dksX0_limit_0 : cX0_limit.data.toList.drop 0 = dktX0_limit_0 := by decide +kernel
theorem dX0_limit_0 : decode cX0_limit 0 = .ok (.aload_n 3, 1) := dk_45 (dk_at dksX0_limit_0 0 rfl rfl)
theorem dX0_limit_1 : decode cX0_limit 1 = .ok (.iconst 0, 1) := dk_3 (dk_at dksX0_limit_0 1 rfl rfl)
theorem dX0_limit_2 : decode cX0_limit 2 = .ok (.aload_n 0, 1) := dk_42 (dk_at dksX0_limit_0 2 rfl rfl)
theorem dX0_limit_3 : decode cX0_limit 3 = .ok (.iload_n 1, 1) := dk_27 (dk_at dksX0_limit_0 3 rfl rfl)
theorem dX0_limit_4 : decode cX0_limit 4 = .ok (.iload_n 2, 1) := dk_28 (dk_at dksX0_limit_0 4 rfl rfl)
theorem dX0_limit_5 : decode cX0_limit 5 = .ok (.invokevirtual 29, 3) := dk_182 0 29 (dk_at dksX0_limit_0 5 rfl rfl)
theorem dX0_limit_8 : decode cX0_limit 8 = .ok (.i2l, 1) := dk_133 (dk_at dksX0_limit_0 8 rfl rfl)
theorem dX0_limit_9 : decode cX0_limit 9 = .ok (.lastore, 1) := dk_80 (dk_at dksX0_limit_0 9 rfl rfl)
theorem dX0_limit_10 : decode cX0_limit 10 = .ok (.goto 7, 3) := dk_167 0 7 (dk_at dksX0_limit_0 10 rfl rfl)
theorem dX0_limit_13 : decode cX0_limit 13 = .ok (.astore 4, 2) := dk_58 4 (dk_at dksX0_limit_0 13 rfl rfl)
theorem dX0_limit_15 : decode cX0_limit 15 = .ok (.iconst 1, 1) := dk_4 (dk_at dksX0_limit_0 15 rfl rfl)
theorem dX0_limit_16 : decode cX0_limit 16 = .ok (.ireturn, 1) := dk_172 (dk_at dksX0_limit_0 16 rfl rfl)
theorem dX0_limit_17 : decode cX0_limit 17 = .ok (.iconst 0, 1) := dk_3 (dk_at dksX0_limit_0 17 rfl rfl)
theorem dX0_limit_18 : decode cX0_limit 18 = .ok (.ireturn, 1) := dk_172 (dk_at dksX0_limit_0 18 rfl rfl)
abbrev cX0_late : ByteArray := method_9_code
def yX0_late : MethodName := ⟨RX0, "late", "(LCoachTimetable;IIZI[J)I"⟩
def dkwX0_late_0 : List UInt8 := [25, 5, 3, 42, 27, 28, 29, 21, 4, 182, 0, 32, 133, 80, 167, 0, 7, 58, 6, 4, 172, 3, 172]
abbrev dktX0_late_0 : List UInt8 := dkwX0_late_0 ++ []
theorem dksX0_late_0 : cX0_late.data.toList.drop 0 = dktX0_late_0 := by decide +kernel
theorem dX0_late_0 : decode cX0_late 0 = .ok (.aload 5, 2) := dk_25 5 (dk_at dksX0_late_0 0 rfl rfl)
theorem dX0_late_2 : decode cX0_late 2 = .ok (.iconst 0, 1) := dk_3 (dk_at dksX0_late_0 2 rfl rfl)
theorem dX0_late_3 : decode cX0_late 3 = .ok (.aload_n 0, 1) := dk_42 (dk_at dksX0_late_0 3 rfl rfl)
theorem dX0_late_4 : decode cX0_late 4 = .ok (.iload_n 1, 1) := dk_27 (dk_at dksX0_late_0 4 rfl rfl)
theorem dX0_late_5 : decode cX0_late 5 = .ok (.iload_n 2, 1) := dk_28 (dk_at dksX0_late_0 5 rfl rfl)
theorem dX0_late_6 : decode cX0_late 6 = .ok (.iload_n 3, 1) := dk_29 (dk_at dksX0_late_0 6 rfl rfl)
theorem dX0_late_7 : decode cX0_late 7 = .ok (.iload 4, 2) := dk_21 4 (dk_at dksX0_late_0 7 rfl rfl)
theorem dX0_late_9 : decode cX0_late 9 = .ok (.invokevirtual 32, 3) := dk_182 0 32 (dk_at dksX0_late_0 9 rfl rfl)
theorem dX0_late_12 : decode cX0_late 12 = .ok (.i2l, 1) := dk_133 (dk_at dksX0_late_0 12 rfl rfl)
theorem dX0_late_13 : decode cX0_late 13 = .ok (.lastore, 1) := dk_80 (dk_at dksX0_late_0 13 rfl rfl)
theorem dX0_late_14 : decode cX0_late 14 = .ok (.goto 7, 3) := dk_167 0 7 (dk_at dksX0_late_0 14 rfl rfl)
theorem dX0_late_17 : decode cX0_late 17 = .ok (.astore 6, 2) := dk_58 6 (dk_at dksX0_late_0 17 rfl rfl)
theorem dX0_late_19 : decode cX0_late 19 = .ok (.iconst 1, 1) := dk_4 (dk_at dksX0_late_0 19 rfl rfl)
theorem dX0_late_20 : decode cX0_late 20 = .ok (.ireturn, 1) := dk_172 (dk_at dksX0_late_0 20 rfl rfl)
theorem dX0_late_21 : decode cX0_late 21 = .ok (.iconst 0, 1) := dk_3 (dk_at dksX0_late_0 21 rfl rfl)
theorem dX0_late_22 : decode cX0_late 22 = .ok (.ireturn, 1) := dk_172 (dk_at dksX0_late_0 22 rfl rfl)
abbrev cX0_coachOf : ByteArray := method_10_code
def yX0_coachOf : MethodName := ⟨RX0, "coachOf", "(LCoachTimetable;II[J)I"⟩
def dkwX0_coachOf_0 : List UInt8 := [45, 3, 42, 27, 28, 182, 0, 36, 133, 80, 167, 0, 11, 58, 4, 4, 172, 58, 4, 5, 172, 3, 172]
abbrev dktX0_coachOf_0 : List UInt8 := dkwX0_coachOf_0 ++ []
theorem dksX0_coachOf_0 : cX0_coachOf.data.toList.drop 0 = dktX0_coachOf_0 := by decide +kernel
theorem dX0_coachOf_0 : decode cX0_coachOf 0 = .ok (.aload_n 3, 1) := dk_45 (dk_at dksX0_coachOf_0 0 rfl rfl)
theorem dX0_coachOf_1 : decode cX0_coachOf 1 = .ok (.iconst 0, 1) := dk_3 (dk_at dksX0_coachOf_0 1 rfl rfl)
theorem dX0_coachOf_2 : decode cX0_coachOf 2 = .ok (.aload_n 0, 1) := dk_42 (dk_at dksX0_coachOf_0 2 rfl rfl)
theorem dX0_coachOf_3 : decode cX0_coachOf 3 = .ok (.iload_n 1, 1) := dk_27 (dk_at dksX0_coachOf_0 3 rfl rfl)
theorem dX0_coachOf_4 : decode cX0_coachOf 4 = .ok (.iload_n 2, 1) := dk_28 (dk_at dksX0_coachOf_0 4 rfl rfl)
theorem dX0_coachOf_5 : decode cX0_coachOf 5 = .ok (.invokevirtual 36, 3) := dk_182 0 36 (dk_at dksX0_coachOf_0 5 rfl rfl)
theorem dX0_coachOf_8 : decode cX0_coachOf 8 = .ok (.i2l, 1) := dk_133 (dk_at dksX0_coachOf_0 8 rfl rfl)
theorem dX0_coachOf_9 : decode cX0_coachOf 9 = .ok (.lastore, 1) := dk_80 (dk_at dksX0_coachOf_0 9 rfl rfl)
theorem dX0_coachOf_10 : decode cX0_coachOf 10 = .ok (.goto 11, 3) := dk_167 0 11 (dk_at dksX0_coachOf_0 10 rfl rfl)
theorem dX0_coachOf_13 : decode cX0_coachOf 13 = .ok (.astore 4, 2) := dk_58 4 (dk_at dksX0_coachOf_0 13 rfl rfl)
theorem dX0_coachOf_15 : decode cX0_coachOf 15 = .ok (.iconst 1, 1) := dk_4 (dk_at dksX0_coachOf_0 15 rfl rfl)
theorem dX0_coachOf_16 : decode cX0_coachOf 16 = .ok (.ireturn, 1) := dk_172 (dk_at dksX0_coachOf_0 16 rfl rfl)
theorem dX0_coachOf_17 : decode cX0_coachOf 17 = .ok (.astore 4, 2) := dk_58 4 (dk_at dksX0_coachOf_0 17 rfl rfl)
theorem dX0_coachOf_19 : decode cX0_coachOf 19 = .ok (.iconst 2, 1) := dk_5 (dk_at dksX0_coachOf_0 19 rfl rfl)
theorem dX0_coachOf_20 : decode cX0_coachOf 20 = .ok (.ireturn, 1) := dk_172 (dk_at dksX0_coachOf_0 20 rfl rfl)
theorem dX0_coachOf_21 : decode cX0_coachOf 21 = .ok (.iconst 0, 1) := dk_3 (dk_at dksX0_coachOf_0 21 rfl rfl)
theorem dX0_coachOf_22 : decode cX0_coachOf 22 = .ok (.ireturn, 1) := dk_172 (dk_at dksX0_coachOf_0 22 rfl rfl)
abbrev cX0_stopOf : ByteArray := method_11_code
def yX0_stopOf : MethodName := ⟨RX0, "stopOf", "(LCoachTimetable;III[J)I"⟩
def dkwX0_stopOf_1 : List UInt8 := [172]
abbrev dktX0_stopOf_1 : List UInt8 := dkwX0_stopOf_1 ++ []
def dkwX0_stopOf_0 : List UInt8 := [25, 4, 3, 42, 27, 28, 29, 182, 0, 43, 133, 80, 167, 0, 11, 58, 5, 4, 172, 58, 5, 5, 172, 3]
abbrev dktX0_stopOf_0 : List UInt8 := dkwX0_stopOf_0 ++ dktX0_stopOf_1
theorem dksX0_stopOf_0 : cX0_stopOf.data.toList.drop 0 = dktX0_stopOf_0 := by decide +kernel
theorem dksX0_stopOf_1 : cX0_stopOf.data.toList.drop 24 = dktX0_stopOf_1 := dk_seg dksX0_stopOf_0 24 rfl rfl
theorem dX0_stopOf_0 : decode cX0_stopOf 0 = .ok (.aload 4, 2) := dk_25 4 (dk_at dksX0_stopOf_0 0 rfl rfl)
theorem dX0_stopOf_2 : decode cX0_stopOf 2 = .ok (.iconst 0, 1) := dk_3 (dk_at dksX0_stopOf_0 2 rfl rfl)
theorem dX0_stopOf_3 : decode cX0_stopOf 3 = .ok (.aload_n 0, 1) := dk_42 (dk_at dksX0_stopOf_0 3 rfl rfl)
theorem dX0_stopOf_4 : decode cX0_stopOf 4 = .ok (.iload_n 1, 1) := dk_27 (dk_at dksX0_stopOf_0 4 rfl rfl)
theorem dX0_stopOf_5 : decode cX0_stopOf 5 = .ok (.iload_n 2, 1) := dk_28 (dk_at dksX0_stopOf_0 5 rfl rfl)
theorem dX0_stopOf_6 : decode cX0_stopOf 6 = .ok (.iload_n 3, 1) := dk_29 (dk_at dksX0_stopOf_0 6 rfl rfl)
theorem dX0_stopOf_7 : decode cX0_stopOf 7 = .ok (.invokevirtual 43, 3) := dk_182 0 43 (dk_at dksX0_stopOf_0 7 rfl rfl)
theorem dX0_stopOf_10 : decode cX0_stopOf 10 = .ok (.i2l, 1) := dk_133 (dk_at dksX0_stopOf_0 10 rfl rfl)
theorem dX0_stopOf_11 : decode cX0_stopOf 11 = .ok (.lastore, 1) := dk_80 (dk_at dksX0_stopOf_0 11 rfl rfl)
theorem dX0_stopOf_12 : decode cX0_stopOf 12 = .ok (.goto 11, 3) := dk_167 0 11 (dk_at dksX0_stopOf_0 12 rfl rfl)
theorem dX0_stopOf_15 : decode cX0_stopOf 15 = .ok (.astore 5, 2) := dk_58 5 (dk_at dksX0_stopOf_0 15 rfl rfl)
theorem dX0_stopOf_17 : decode cX0_stopOf 17 = .ok (.iconst 1, 1) := dk_4 (dk_at dksX0_stopOf_0 17 rfl rfl)
theorem dX0_stopOf_18 : decode cX0_stopOf 18 = .ok (.ireturn, 1) := dk_172 (dk_at dksX0_stopOf_0 18 rfl rfl)
theorem dX0_stopOf_19 : decode cX0_stopOf 19 = .ok (.astore 5, 2) := dk_58 5 (dk_at dksX0_stopOf_0 19 rfl rfl)
theorem dX0_stopOf_21 : decode cX0_stopOf 21 = .ok (.iconst 2, 1) := dk_5 (dk_at dksX0_stopOf_0 21 rfl rfl)
theorem dX0_stopOf_22 : decode cX0_stopOf 22 = .ok (.ireturn, 1) := dk_172 (dk_at dksX0_stopOf_0 22 rfl rfl)
theorem dX0_stopOf_23 : decode cX0_stopOf 23 = .ok (.iconst 0, 1) := dk_3 (dk_at dksX0_stopOf_0 23 rfl rfl)
theorem dX0_stopOf_24 : decode cX0_stopOf 24 = .ok (.ireturn, 1) := dk_172 (dk_at dksX0_stopOf_1 0 rfl rfl)
abbrev cX0_eventOf : ByteArray := method_12_code
def yX0_eventOf : MethodName := ⟨RX0, "eventOf", "(LCoachTimetable;IIZI[J)I"⟩
def dkwX0_eventOf_1 : List UInt8 := [172, 3, 172]
abbrev dktX0_eventOf_1 : List UInt8 := dkwX0_eventOf_1 ++ []
def dkwX0_eventOf_0 : List UInt8 := [25, 5, 3, 42, 27, 28, 29, 21, 4, 182, 0, 47, 133, 80, 167, 0, 11, 58, 6, 4, 172, 58, 6, 5]
abbrev dktX0_eventOf_0 : List UInt8 := dkwX0_eventOf_0 ++ dktX0_eventOf_1
theorem dksX0_eventOf_0 : cX0_eventOf.data.toList.drop 0 = dktX0_eventOf_0 := by decide +kernel
theorem dksX0_eventOf_1 : cX0_eventOf.data.toList.drop 24 = dktX0_eventOf_1 := dk_seg dksX0_eventOf_0 24 rfl rfl
theorem dX0_eventOf_0 : decode cX0_eventOf 0 = .ok (.aload 5, 2) := dk_25 5 (dk_at dksX0_eventOf_0 0 rfl rfl)
theorem dX0_eventOf_2 : decode cX0_eventOf 2 = .ok (.iconst 0, 1) := dk_3 (dk_at dksX0_eventOf_0 2 rfl rfl)
theorem dX0_eventOf_3 : decode cX0_eventOf 3 = .ok (.aload_n 0, 1) := dk_42 (dk_at dksX0_eventOf_0 3 rfl rfl)
theorem dX0_eventOf_4 : decode cX0_eventOf 4 = .ok (.iload_n 1, 1) := dk_27 (dk_at dksX0_eventOf_0 4 rfl rfl)
theorem dX0_eventOf_5 : decode cX0_eventOf 5 = .ok (.iload_n 2, 1) := dk_28 (dk_at dksX0_eventOf_0 5 rfl rfl)
theorem dX0_eventOf_6 : decode cX0_eventOf 6 = .ok (.iload_n 3, 1) := dk_29 (dk_at dksX0_eventOf_0 6 rfl rfl)
theorem dX0_eventOf_7 : decode cX0_eventOf 7 = .ok (.iload 4, 2) := dk_21 4 (dk_at dksX0_eventOf_0 7 rfl rfl)
theorem dX0_eventOf_9 : decode cX0_eventOf 9 = .ok (.invokevirtual 47, 3) := dk_182 0 47 (dk_at dksX0_eventOf_0 9 rfl rfl)
theorem dX0_eventOf_12 : decode cX0_eventOf 12 = .ok (.i2l, 1) := dk_133 (dk_at dksX0_eventOf_0 12 rfl rfl)
theorem dX0_eventOf_13 : decode cX0_eventOf 13 = .ok (.lastore, 1) := dk_80 (dk_at dksX0_eventOf_0 13 rfl rfl)
theorem dX0_eventOf_14 : decode cX0_eventOf 14 = .ok (.goto 11, 3) := dk_167 0 11 (dk_at dksX0_eventOf_0 14 rfl rfl)
theorem dX0_eventOf_17 : decode cX0_eventOf 17 = .ok (.astore 6, 2) := dk_58 6 (dk_at dksX0_eventOf_0 17 rfl rfl)
theorem dX0_eventOf_19 : decode cX0_eventOf 19 = .ok (.iconst 1, 1) := dk_4 (dk_at dksX0_eventOf_0 19 rfl rfl)
theorem dX0_eventOf_20 : decode cX0_eventOf 20 = .ok (.ireturn, 1) := dk_172 (dk_at dksX0_eventOf_0 20 rfl rfl)
theorem dX0_eventOf_21 : decode cX0_eventOf 21 = .ok (.astore 6, 2) := dk_58 6 (dk_at dksX0_eventOf_0 21 rfl rfl)
theorem dX0_eventOf_23 : decode cX0_eventOf 23 = .ok (.iconst 2, 1) := dk_5 (dk_at dksX0_eventOf_0 23 rfl rfl)
theorem dX0_eventOf_24 : decode cX0_eventOf 24 = .ok (.ireturn, 1) := dk_172 (dk_at dksX0_eventOf_1 0 rfl rfl)
theorem dX0_eventOf_25 : decode cX0_eventOf 25 = .ok (.iconst 0, 1) := dk_3 (dk_at dksX0_eventOf_1 1 rfl rfl)
theorem dX0_eventOf_26 : decode cX0_eventOf 26 = .ok (.ireturn, 1) := dk_172 (dk_at dksX0_eventOf_1 2 rfl rfl)
abbrev cX0_minute : ByteArray := method_13_code
def yX0_minute : MethodName := ⟨RX0, "minute", "(LCoachTimetable;IIZ[J)I"⟩
def dkwX0_minute_0 : List UInt8 := [25, 4, 3, 42, 27, 28, 29, 182, 0, 50, 133, 80, 167, 0, 7, 58, 5, 4, 172, 3, 172]
abbrev dktX0_minute_0 : List UInt8 := dkwX0_minute_0 ++ []
theorem dksX0_minute_0 : cX0_minute.data.toList.drop 0 = dktX0_minute_0 := by decide +kernel
theorem dX0_minute_0 : decode cX0_minute 0 = .ok (.aload 4, 2) := dk_25 4 (dk_at dksX0_minute_0 0 rfl rfl)
theorem dX0_minute_2 : decode cX0_minute 2 = .ok (.iconst 0, 1) := dk_3 (dk_at dksX0_minute_0 2 rfl rfl)
theorem dX0_minute_3 : decode cX0_minute 3 = .ok (.aload_n 0, 1) := dk_42 (dk_at dksX0_minute_0 3 rfl rfl)
theorem dX0_minute_4 : decode cX0_minute 4 = .ok (.iload_n 1, 1) := dk_27 (dk_at dksX0_minute_0 4 rfl rfl)
theorem dX0_minute_5 : decode cX0_minute 5 = .ok (.iload_n 2, 1) := dk_28 (dk_at dksX0_minute_0 5 rfl rfl)
theorem dX0_minute_6 : decode cX0_minute 6 = .ok (.iload_n 3, 1) := dk_29 (dk_at dksX0_minute_0 6 rfl rfl)
theorem dX0_minute_7 : decode cX0_minute 7 = .ok (.invokevirtual 50, 3) := dk_182 0 50 (dk_at dksX0_minute_0 7 rfl rfl)
theorem dX0_minute_10 : decode cX0_minute 10 = .ok (.i2l, 1) := dk_133 (dk_at dksX0_minute_0 10 rfl rfl)
theorem dX0_minute_11 : decode cX0_minute 11 = .ok (.lastore, 1) := dk_80 (dk_at dksX0_minute_0 11 rfl rfl)
theorem dX0_minute_12 : decode cX0_minute 12 = .ok (.goto 7, 3) := dk_167 0 7 (dk_at dksX0_minute_0 12 rfl rfl)
theorem dX0_minute_15 : decode cX0_minute 15 = .ok (.astore 5, 2) := dk_58 5 (dk_at dksX0_minute_0 15 rfl rfl)
theorem dX0_minute_17 : decode cX0_minute 17 = .ok (.iconst 1, 1) := dk_4 (dk_at dksX0_minute_0 17 rfl rfl)
theorem dX0_minute_18 : decode cX0_minute 18 = .ok (.ireturn, 1) := dk_172 (dk_at dksX0_minute_0 18 rfl rfl)
theorem dX0_minute_19 : decode cX0_minute 19 = .ok (.iconst 0, 1) := dk_3 (dk_at dksX0_minute_0 19 rfl rfl)
theorem dX0_minute_20 : decode cX0_minute 20 = .ok (.ireturn, 1) := dk_172 (dk_at dksX0_minute_0 20 rfl rfl)
abbrev cX0_minuteAgain : ByteArray := method_14_code
def yX0_minuteAgain : MethodName := ⟨RX0, "minuteAgain", "(LCoachTimetable;IIZ[J)I"⟩
def dkwX0_minuteAgain_0 : List UInt8 := [25, 4, 3, 42, 27, 28, 29, 182, 0, 54, 133, 80, 167, 0, 7, 58, 5, 4, 172, 3, 172]
abbrev dktX0_minuteAgain_0 : List UInt8 := dkwX0_minuteAgain_0 ++ []
theorem dksX0_minuteAgain_0 : cX0_minuteAgain.data.toList.drop 0 = dktX0_minuteAgain_0 := by decide +kernel
theorem dX0_minuteAgain_0 : decode cX0_minuteAgain 0 = .ok (.aload 4, 2) := dk_25 4 (dk_at dksX0_minuteAgain_0 0 rfl rfl)
theorem dX0_minuteAgain_2 : decode cX0_minuteAgain 2 = .ok (.iconst 0, 1) := dk_3 (dk_at dksX0_minuteAgain_0 2 rfl rfl)
theorem dX0_minuteAgain_3 : decode cX0_minuteAgain 3 = .ok (.aload_n 0, 1) := dk_42 (dk_at dksX0_minuteAgain_0 3 rfl rfl)
theorem dX0_minuteAgain_4 : decode cX0_minuteAgain 4 = .ok (.iload_n 1, 1) := dk_27 (dk_at dksX0_minuteAgain_0 4 rfl rfl)
theorem dX0_minuteAgain_5 : decode cX0_minuteAgain 5 = .ok (.iload_n 2, 1) := dk_28 (dk_at dksX0_minuteAgain_0 5 rfl rfl)
theorem dX0_minuteAgain_6 : decode cX0_minuteAgain 6 = .ok (.iload_n 3, 1) := dk_29 (dk_at dksX0_minuteAgain_0 6 rfl rfl)
theorem dX0_minuteAgain_7 : decode cX0_minuteAgain 7 = .ok (.invokevirtual 54, 3) := dk_182 0 54 (dk_at dksX0_minuteAgain_0 7 rfl rfl)
theorem dX0_minuteAgain_10 : decode cX0_minuteAgain 10 = .ok (.i2l, 1) := dk_133 (dk_at dksX0_minuteAgain_0 10 rfl rfl)
theorem dX0_minuteAgain_11 : decode cX0_minuteAgain 11 = .ok (.lastore, 1) := dk_80 (dk_at dksX0_minuteAgain_0 11 rfl rfl)
theorem dX0_minuteAgain_12 : decode cX0_minuteAgain 12 = .ok (.goto 7, 3) := dk_167 0 7 (dk_at dksX0_minuteAgain_0 12 rfl rfl)
theorem dX0_minuteAgain_15 : decode cX0_minuteAgain 15 = .ok (.astore 5, 2) := dk_58 5 (dk_at dksX0_minuteAgain_0 15 rfl rfl)
theorem dX0_minuteAgain_17 : decode cX0_minuteAgain 17 = .ok (.iconst 1, 1) := dk_4 (dk_at dksX0_minuteAgain_0 17 rfl rfl)
theorem dX0_minuteAgain_18 : decode cX0_minuteAgain 18 = .ok (.ireturn, 1) := dk_172 (dk_at dksX0_minuteAgain_0 18 rfl rfl)
theorem dX0_minuteAgain_19 : decode cX0_minuteAgain 19 = .ok (.iconst 0, 1) := dk_3 (dk_at dksX0_minuteAgain_0 19 rfl rfl)
theorem dX0_minuteAgain_20 : decode cX0_minuteAgain 20 = .ok (.ireturn, 1) := dk_172 (dk_at dksX0_minuteAgain_0 20 rfl rfl)
abbrev cX0_linkOf : ByteArray := method_15_code
def yX0_linkOf : MethodName := ⟨RX0, "linkOf", "(LCoachTimetable;II[J)I"⟩
def dkwX0_linkOf_0 : List UInt8 := [45, 3, 42, 27, 28, 182, 0, 57, 133, 80, 167, 0, 11, 58, 4, 4, 172, 58, 4, 5, 172, 3, 172]
abbrev dktX0_linkOf_0 : List UInt8 := dkwX0_linkOf_0 ++ []
theorem dksX0_linkOf_0 : cX0_linkOf.data.toList.drop 0 = dktX0_linkOf_0 := by decide +kernel
theorem dX0_linkOf_0 : decode cX0_linkOf 0 = .ok (.aload_n 3, 1) := dk_45 (dk_at dksX0_linkOf_0 0 rfl rfl)
theorem dX0_linkOf_1 : decode cX0_linkOf 1 = .ok (.iconst 0, 1) := dk_3 (dk_at dksX0_linkOf_0 1 rfl rfl)
theorem dX0_linkOf_2 : decode cX0_linkOf 2 = .ok (.aload_n 0, 1) := dk_42 (dk_at dksX0_linkOf_0 2 rfl rfl)
theorem dX0_linkOf_3 : decode cX0_linkOf 3 = .ok (.iload_n 1, 1) := dk_27 (dk_at dksX0_linkOf_0 3 rfl rfl)
theorem dX0_linkOf_4 : decode cX0_linkOf 4 = .ok (.iload_n 2, 1) := dk_28 (dk_at dksX0_linkOf_0 4 rfl rfl)
theorem dX0_linkOf_5 : decode cX0_linkOf 5 = .ok (.invokevirtual 57, 3) := dk_182 0 57 (dk_at dksX0_linkOf_0 5 rfl rfl)
theorem dX0_linkOf_8 : decode cX0_linkOf 8 = .ok (.i2l, 1) := dk_133 (dk_at dksX0_linkOf_0 8 rfl rfl)
theorem dX0_linkOf_9 : decode cX0_linkOf 9 = .ok (.lastore, 1) := dk_80 (dk_at dksX0_linkOf_0 9 rfl rfl)
theorem dX0_linkOf_10 : decode cX0_linkOf 10 = .ok (.goto 11, 3) := dk_167 0 11 (dk_at dksX0_linkOf_0 10 rfl rfl)
theorem dX0_linkOf_13 : decode cX0_linkOf 13 = .ok (.astore 4, 2) := dk_58 4 (dk_at dksX0_linkOf_0 13 rfl rfl)
theorem dX0_linkOf_15 : decode cX0_linkOf 15 = .ok (.iconst 1, 1) := dk_4 (dk_at dksX0_linkOf_0 15 rfl rfl)
theorem dX0_linkOf_16 : decode cX0_linkOf 16 = .ok (.ireturn, 1) := dk_172 (dk_at dksX0_linkOf_0 16 rfl rfl)
theorem dX0_linkOf_17 : decode cX0_linkOf 17 = .ok (.astore 4, 2) := dk_58 4 (dk_at dksX0_linkOf_0 17 rfl rfl)
theorem dX0_linkOf_19 : decode cX0_linkOf 19 = .ok (.iconst 2, 1) := dk_5 (dk_at dksX0_linkOf_0 19 rfl rfl)
theorem dX0_linkOf_20 : decode cX0_linkOf 20 = .ok (.ireturn, 1) := dk_172 (dk_at dksX0_linkOf_0 20 rfl rfl)
theorem dX0_linkOf_21 : decode cX0_linkOf 21 = .ok (.iconst 0, 1) := dk_3 (dk_at dksX0_linkOf_0 21 rfl rfl)
theorem dX0_linkOf_22 : decode cX0_linkOf 22 = .ok (.ireturn, 1) := dk_172 (dk_at dksX0_linkOf_0 22 rfl rfl)
abbrev cX0_missed : ByteArray := method_16_code
def yX0_missed : MethodName := ⟨RX0, "missed", "(LCoachTimetable;I[J)I"⟩
def dkwX0_missed_0 : List UInt8 := [44, 3, 42, 27, 182, 0, 60, 133, 80, 167, 0, 6, 78, 4, 172, 3, 172]
abbrev dktX0_missed_0 : List UInt8 := dkwX0_missed_0 ++ []
theorem dksX0_missed_0 : cX0_missed.data.toList.drop 0 = dktX0_missed_0 := by decide +kernel
theorem dX0_missed_0 : decode cX0_missed 0 = .ok (.aload_n 2, 1) := dk_44 (dk_at dksX0_missed_0 0 rfl rfl)
theorem dX0_missed_1 : decode cX0_missed 1 = .ok (.iconst 0, 1) := dk_3 (dk_at dksX0_missed_0 1 rfl rfl)
theorem dX0_missed_2 : decode cX0_missed 2 = .ok (.aload_n 0, 1) := dk_42 (dk_at dksX0_missed_0 2 rfl rfl)
theorem dX0_missed_3 : decode cX0_missed 3 = .ok (.iload_n 1, 1) := dk_27 (dk_at dksX0_missed_0 3 rfl rfl)
theorem dX0_missed_4 : decode cX0_missed 4 = .ok (.invokevirtual 60, 3) := dk_182 0 60 (dk_at dksX0_missed_0 4 rfl rfl)
theorem dX0_missed_7 : decode cX0_missed 7 = .ok (.i2l, 1) := dk_133 (dk_at dksX0_missed_0 7 rfl rfl)
theorem dX0_missed_8 : decode cX0_missed 8 = .ok (.lastore, 1) := dk_80 (dk_at dksX0_missed_0 8 rfl rfl)
theorem dX0_missed_9 : decode cX0_missed 9 = .ok (.goto 6, 3) := dk_167 0 6 (dk_at dksX0_missed_0 9 rfl rfl)
theorem dX0_missed_12 : decode cX0_missed 12 = .ok (.astore_n 3, 1) := dk_78 (dk_at dksX0_missed_0 12 rfl rfl)
theorem dX0_missed_13 : decode cX0_missed 13 = .ok (.iconst 1, 1) := dk_4 (dk_at dksX0_missed_0 13 rfl rfl)
theorem dX0_missed_14 : decode cX0_missed 14 = .ok (.ireturn, 1) := dk_172 (dk_at dksX0_missed_0 14 rfl rfl)
theorem dX0_missed_15 : decode cX0_missed 15 = .ok (.iconst 0, 1) := dk_3 (dk_at dksX0_missed_0 15 rfl rfl)
theorem dX0_missed_16 : decode cX0_missed 16 = .ok (.ireturn, 1) := dk_172 (dk_at dksX0_missed_0 16 rfl rfl)
abbrev cX0_waits : ByteArray := method_17_code
def yX0_waits : MethodName := ⟨RX0, "waits", "(LCoachTimetable;I[J)I"⟩
def dkwX0_waits_0 : List UInt8 := [44, 3, 42, 27, 182, 0, 65, 133, 80, 167, 0, 6, 78, 4, 172, 3, 172]
abbrev dktX0_waits_0 : List UInt8 := dkwX0_waits_0 ++ []
theorem dksX0_waits_0 : cX0_waits.data.toList.drop 0 = dktX0_waits_0 := by decide +kernel
theorem dX0_waits_0 : decode cX0_waits 0 = .ok (.aload_n 2, 1) := dk_44 (dk_at dksX0_waits_0 0 rfl rfl)
theorem dX0_waits_1 : decode cX0_waits 1 = .ok (.iconst 0, 1) := dk_3 (dk_at dksX0_waits_0 1 rfl rfl)
theorem dX0_waits_2 : decode cX0_waits 2 = .ok (.aload_n 0, 1) := dk_42 (dk_at dksX0_waits_0 2 rfl rfl)
theorem dX0_waits_3 : decode cX0_waits 3 = .ok (.iload_n 1, 1) := dk_27 (dk_at dksX0_waits_0 3 rfl rfl)
theorem dX0_waits_4 : decode cX0_waits 4 = .ok (.invokevirtual 65, 3) := dk_182 0 65 (dk_at dksX0_waits_0 4 rfl rfl)
theorem dX0_waits_7 : decode cX0_waits 7 = .ok (.i2l, 1) := dk_133 (dk_at dksX0_waits_0 7 rfl rfl)
theorem dX0_waits_8 : decode cX0_waits 8 = .ok (.lastore, 1) := dk_80 (dk_at dksX0_waits_0 8 rfl rfl)
theorem dX0_waits_9 : decode cX0_waits 9 = .ok (.goto 6, 3) := dk_167 0 6 (dk_at dksX0_waits_0 9 rfl rfl)
theorem dX0_waits_12 : decode cX0_waits 12 = .ok (.astore_n 3, 1) := dk_78 (dk_at dksX0_waits_0 12 rfl rfl)
theorem dX0_waits_13 : decode cX0_waits 13 = .ok (.iconst 1, 1) := dk_4 (dk_at dksX0_waits_0 13 rfl rfl)
theorem dX0_waits_14 : decode cX0_waits 14 = .ok (.ireturn, 1) := dk_172 (dk_at dksX0_waits_0 14 rfl rfl)
theorem dX0_waits_15 : decode cX0_waits 15 = .ok (.iconst 0, 1) := dk_3 (dk_at dksX0_waits_0 15 rfl rfl)
theorem dX0_waits_16 : decode cX0_waits 16 = .ok (.ireturn, 1) := dk_172 (dk_at dksX0_waits_0 16 rfl rfl)
abbrev cX0_knocks : ByteArray := method_18_code
def yX0_knocks : MethodName := ⟨RX0, "knocks", "(LCoachTimetable;I[J)I"⟩
def dkwX0_knocks_0 : List UInt8 := [44, 3, 42, 27, 182, 0, 68, 133, 80, 167, 0, 6, 78, 4, 172, 3, 172]
abbrev dktX0_knocks_0 : List UInt8 := dkwX0_knocks_0 ++ []
theorem dksX0_knocks_0 : cX0_knocks.data.toList.drop 0 = dktX0_knocks_0 := by decide +kernel
theorem dX0_knocks_0 : decode cX0_knocks 0 = .ok (.aload_n 2, 1) := dk_44 (dk_at dksX0_knocks_0 0 rfl rfl)
theorem dX0_knocks_1 : decode cX0_knocks 1 = .ok (.iconst 0, 1) := dk_3 (dk_at dksX0_knocks_0 1 rfl rfl)
theorem dX0_knocks_2 : decode cX0_knocks 2 = .ok (.aload_n 0, 1) := dk_42 (dk_at dksX0_knocks_0 2 rfl rfl)
theorem dX0_knocks_3 : decode cX0_knocks 3 = .ok (.iload_n 1, 1) := dk_27 (dk_at dksX0_knocks_0 3 rfl rfl)
theorem dX0_knocks_4 : decode cX0_knocks 4 = .ok (.invokevirtual 68, 3) := dk_182 0 68 (dk_at dksX0_knocks_0 4 rfl rfl)
theorem dX0_knocks_7 : decode cX0_knocks 7 = .ok (.i2l, 1) := dk_133 (dk_at dksX0_knocks_0 7 rfl rfl)
theorem dX0_knocks_8 : decode cX0_knocks 8 = .ok (.lastore, 1) := dk_80 (dk_at dksX0_knocks_0 8 rfl rfl)
theorem dX0_knocks_9 : decode cX0_knocks 9 = .ok (.goto 6, 3) := dk_167 0 6 (dk_at dksX0_knocks_0 9 rfl rfl)
theorem dX0_knocks_12 : decode cX0_knocks 12 = .ok (.astore_n 3, 1) := dk_78 (dk_at dksX0_knocks_0 12 rfl rfl)
theorem dX0_knocks_13 : decode cX0_knocks 13 = .ok (.iconst 1, 1) := dk_4 (dk_at dksX0_knocks_0 13 rfl rfl)
theorem dX0_knocks_14 : decode cX0_knocks 14 = .ok (.ireturn, 1) := dk_172 (dk_at dksX0_knocks_0 14 rfl rfl)
theorem dX0_knocks_15 : decode cX0_knocks 15 = .ok (.iconst 0, 1) := dk_3 (dk_at dksX0_knocks_0 15 rfl rfl)
theorem dX0_knocks_16 : decode cX0_knocks 16 = .ok (.ireturn, 1) := dk_172 (dk_at dksX0_knocks_0 16 rfl rfl)
abbrev cX0_reaches : ByteArray := method_19_code
def yX0_reaches : MethodName := ⟨RX0, "reaches", "(LCoachTimetable;I[J)I"⟩
def dkwX0_reaches_0 : List UInt8 := [44, 3, 42, 27, 182, 0, 71, 133, 80, 167, 0, 6, 78, 4, 172, 3, 172]
abbrev dktX0_reaches_0 : List UInt8 := dkwX0_reaches_0 ++ []
theorem dksX0_reaches_0 : cX0_reaches.data.toList.drop 0 = dktX0_reaches_0 := by decide +kernel
theorem dX0_reaches_0 : decode cX0_reaches 0 = .ok (.aload_n 2, 1) := dk_44 (dk_at dksX0_reaches_0 0 rfl rfl)
theorem dX0_reaches_1 : decode cX0_reaches 1 = .ok (.iconst 0, 1) := dk_3 (dk_at dksX0_reaches_0 1 rfl rfl)
theorem dX0_reaches_2 : decode cX0_reaches 2 = .ok (.aload_n 0, 1) := dk_42 (dk_at dksX0_reaches_0 2 rfl rfl)
theorem dX0_reaches_3 : decode cX0_reaches 3 = .ok (.iload_n 1, 1) := dk_27 (dk_at dksX0_reaches_0 3 rfl rfl)
theorem dX0_reaches_4 : decode cX0_reaches 4 = .ok (.invokevirtual 71, 3) := dk_182 0 71 (dk_at dksX0_reaches_0 4 rfl rfl)
theorem dX0_reaches_7 : decode cX0_reaches 7 = .ok (.i2l, 1) := dk_133 (dk_at dksX0_reaches_0 7 rfl rfl)
theorem dX0_reaches_8 : decode cX0_reaches 8 = .ok (.lastore, 1) := dk_80 (dk_at dksX0_reaches_0 8 rfl rfl)
theorem dX0_reaches_9 : decode cX0_reaches 9 = .ok (.goto 6, 3) := dk_167 0 6 (dk_at dksX0_reaches_0 9 rfl rfl)
theorem dX0_reaches_12 : decode cX0_reaches 12 = .ok (.astore_n 3, 1) := dk_78 (dk_at dksX0_reaches_0 12 rfl rfl)
theorem dX0_reaches_13 : decode cX0_reaches 13 = .ok (.iconst 1, 1) := dk_4 (dk_at dksX0_reaches_0 13 rfl rfl)
theorem dX0_reaches_14 : decode cX0_reaches 14 = .ok (.ireturn, 1) := dk_172 (dk_at dksX0_reaches_0 14 rfl rfl)
theorem dX0_reaches_15 : decode cX0_reaches 15 = .ok (.iconst 0, 1) := dk_3 (dk_at dksX0_reaches_0 15 rfl rfl)
theorem dX0_reaches_16 : decode cX0_reaches 16 = .ok (.ireturn, 1) := dk_172 (dk_at dksX0_reaches_0 16 rfl rfl)
abbrev cX0_totalWith : ByteArray := method_20_code
def yX0_totalWith : MethodName := ⟨RX0, "totalWith", "(LCoachTimetable;I[J)I"⟩
def dkwX0_totalWith_0 : List UInt8 := [44, 3, 42, 27, 182, 0, 74, 133, 80, 167, 0, 6, 78, 4, 172, 3, 172]
abbrev dktX0_totalWith_0 : List UInt8 := dkwX0_totalWith_0 ++ []
theorem dksX0_totalWith_0 : cX0_totalWith.data.toList.drop 0 = dktX0_totalWith_0 := by decide +kernel
theorem dX0_totalWith_0 : decode cX0_totalWith 0 = .ok (.aload_n 2, 1) := dk_44 (dk_at dksX0_totalWith_0 0 rfl rfl)
theorem dX0_totalWith_1 : decode cX0_totalWith 1 = .ok (.iconst 0, 1) := dk_3 (dk_at dksX0_totalWith_0 1 rfl rfl)
theorem dX0_totalWith_2 : decode cX0_totalWith 2 = .ok (.aload_n 0, 1) := dk_42 (dk_at dksX0_totalWith_0 2 rfl rfl)
theorem dX0_totalWith_3 : decode cX0_totalWith 3 = .ok (.iload_n 1, 1) := dk_27 (dk_at dksX0_totalWith_0 3 rfl rfl)
theorem dX0_totalWith_4 : decode cX0_totalWith 4 = .ok (.invokevirtual 74, 3) := dk_182 0 74 (dk_at dksX0_totalWith_0 4 rfl rfl)
theorem dX0_totalWith_7 : decode cX0_totalWith 7 = .ok (.i2l, 1) := dk_133 (dk_at dksX0_totalWith_0 7 rfl rfl)
theorem dX0_totalWith_8 : decode cX0_totalWith 8 = .ok (.lastore, 1) := dk_80 (dk_at dksX0_totalWith_0 8 rfl rfl)
theorem dX0_totalWith_9 : decode cX0_totalWith 9 = .ok (.goto 6, 3) := dk_167 0 6 (dk_at dksX0_totalWith_0 9 rfl rfl)
theorem dX0_totalWith_12 : decode cX0_totalWith 12 = .ok (.astore_n 3, 1) := dk_78 (dk_at dksX0_totalWith_0 12 rfl rfl)
theorem dX0_totalWith_13 : decode cX0_totalWith 13 = .ok (.iconst 1, 1) := dk_4 (dk_at dksX0_totalWith_0 13 rfl rfl)
theorem dX0_totalWith_14 : decode cX0_totalWith 14 = .ok (.ireturn, 1) := dk_172 (dk_at dksX0_totalWith_0 14 rfl rfl)
theorem dX0_totalWith_15 : decode cX0_totalWith 15 = .ok (.iconst 0, 1) := dk_3 (dk_at dksX0_totalWith_0 15 rfl rfl)
theorem dX0_totalWith_16 : decode cX0_totalWith 16 = .ok (.ireturn, 1) := dk_172 (dk_at dksX0_totalWith_0 16 rfl rfl)
abbrev cX0_missedWith : ByteArray := method_21_code
def yX0_missedWith : MethodName := ⟨RX0, "missedWith", "(LCoachTimetable;I[J)I"⟩
def dkwX0_missedWith_0 : List UInt8 := [44, 3, 42, 27, 182, 0, 77, 133, 80, 167, 0, 6, 78, 4, 172, 3, 172]
abbrev dktX0_missedWith_0 : List UInt8 := dkwX0_missedWith_0 ++ []
theorem dksX0_missedWith_0 : cX0_missedWith.data.toList.drop 0 = dktX0_missedWith_0 := by decide +kernel
theorem dX0_missedWith_0 : decode cX0_missedWith 0 = .ok (.aload_n 2, 1) := dk_44 (dk_at dksX0_missedWith_0 0 rfl rfl)
theorem dX0_missedWith_1 : decode cX0_missedWith 1 = .ok (.iconst 0, 1) := dk_3 (dk_at dksX0_missedWith_0 1 rfl rfl)
theorem dX0_missedWith_2 : decode cX0_missedWith 2 = .ok (.aload_n 0, 1) := dk_42 (dk_at dksX0_missedWith_0 2 rfl rfl)
theorem dX0_missedWith_3 : decode cX0_missedWith 3 = .ok (.iload_n 1, 1) := dk_27 (dk_at dksX0_missedWith_0 3 rfl rfl)
theorem dX0_missedWith_4 : decode cX0_missedWith 4 = .ok (.invokevirtual 77, 3) := dk_182 0 77 (dk_at dksX0_missedWith_0 4 rfl rfl)
theorem dX0_missedWith_7 : decode cX0_missedWith 7 = .ok (.i2l, 1) := dk_133 (dk_at dksX0_missedWith_0 7 rfl rfl)
theorem dX0_missedWith_8 : decode cX0_missedWith 8 = .ok (.lastore, 1) := dk_80 (dk_at dksX0_missedWith_0 8 rfl rfl)
theorem dX0_missedWith_9 : decode cX0_missedWith 9 = .ok (.goto 6, 3) := dk_167 0 6 (dk_at dksX0_missedWith_0 9 rfl rfl)
theorem dX0_missedWith_12 : decode cX0_missedWith 12 = .ok (.astore_n 3, 1) := dk_78 (dk_at dksX0_missedWith_0 12 rfl rfl)
theorem dX0_missedWith_13 : decode cX0_missedWith 13 = .ok (.iconst 1, 1) := dk_4 (dk_at dksX0_missedWith_0 13 rfl rfl)
theorem dX0_missedWith_14 : decode cX0_missedWith 14 = .ok (.ireturn, 1) := dk_172 (dk_at dksX0_missedWith_0 14 rfl rfl)
theorem dX0_missedWith_15 : decode cX0_missedWith 15 = .ok (.iconst 0, 1) := dk_3 (dk_at dksX0_missedWith_0 15 rfl rfl)
theorem dX0_missedWith_16 : decode cX0_missedWith 16 = .ok (.ireturn, 1) := dk_172 (dk_at dksX0_missedWith_0 16 rfl rfl)
abbrev cX0_bestLimit : ByteArray := method_22_code
def yX0_bestLimit : MethodName := ⟨RX0, "bestLimit", "(LCoachTimetable;I[J)I"⟩
def dkwX0_bestLimit_0 : List UInt8 := [44, 3, 42, 27, 182, 0, 80, 133, 80, 167, 0, 6, 78, 4, 172, 3, 172]
abbrev dktX0_bestLimit_0 : List UInt8 := dkwX0_bestLimit_0 ++ []
theorem dksX0_bestLimit_0 : cX0_bestLimit.data.toList.drop 0 = dktX0_bestLimit_0 := by decide +kernel
theorem dX0_bestLimit_0 : decode cX0_bestLimit 0 = .ok (.aload_n 2, 1) := dk_44 (dk_at dksX0_bestLimit_0 0 rfl rfl)
theorem dX0_bestLimit_1 : decode cX0_bestLimit 1 = .ok (.iconst 0, 1) := dk_3 (dk_at dksX0_bestLimit_0 1 rfl rfl)
theorem dX0_bestLimit_2 : decode cX0_bestLimit 2 = .ok (.aload_n 0, 1) := dk_42 (dk_at dksX0_bestLimit_0 2 rfl rfl)
theorem dX0_bestLimit_3 : decode cX0_bestLimit 3 = .ok (.iload_n 1, 1) := dk_27 (dk_at dksX0_bestLimit_0 3 rfl rfl)
theorem dX0_bestLimit_4 : decode cX0_bestLimit 4 = .ok (.invokevirtual 80, 3) := dk_182 0 80 (dk_at dksX0_bestLimit_0 4 rfl rfl)
theorem dX0_bestLimit_7 : decode cX0_bestLimit 7 = .ok (.i2l, 1) := dk_133 (dk_at dksX0_bestLimit_0 7 rfl rfl)
theorem dX0_bestLimit_8 : decode cX0_bestLimit 8 = .ok (.lastore, 1) := dk_80 (dk_at dksX0_bestLimit_0 8 rfl rfl)
theorem dX0_bestLimit_9 : decode cX0_bestLimit 9 = .ok (.goto 6, 3) := dk_167 0 6 (dk_at dksX0_bestLimit_0 9 rfl rfl)
theorem dX0_bestLimit_12 : decode cX0_bestLimit 12 = .ok (.astore_n 3, 1) := dk_78 (dk_at dksX0_bestLimit_0 12 rfl rfl)
theorem dX0_bestLimit_13 : decode cX0_bestLimit 13 = .ok (.iconst 1, 1) := dk_4 (dk_at dksX0_bestLimit_0 13 rfl rfl)
theorem dX0_bestLimit_14 : decode cX0_bestLimit 14 = .ok (.ireturn, 1) := dk_172 (dk_at dksX0_bestLimit_0 14 rfl rfl)
theorem dX0_bestLimit_15 : decode cX0_bestLimit 15 = .ok (.iconst 0, 1) := dk_3 (dk_at dksX0_bestLimit_0 15 rfl rfl)
theorem dX0_bestLimit_16 : decode cX0_bestLimit 16 = .ok (.ireturn, 1) := dk_172 (dk_at dksX0_bestLimit_0 16 rfl rfl)
abbrev cX0_ranked : ByteArray := method_23_code
def yX0_ranked : MethodName := ⟨RX0, "ranked", "(LCoachTimetable;I[J)I"⟩
def dkwX0_ranked_0 : List UInt8 := [44, 3, 42, 27, 182, 0, 83, 133, 80, 167, 0, 6, 78, 4, 172, 3, 172]
abbrev dktX0_ranked_0 : List UInt8 := dkwX0_ranked_0 ++ []
theorem dksX0_ranked_0 : cX0_ranked.data.toList.drop 0 = dktX0_ranked_0 := by decide +kernel
theorem dX0_ranked_0 : decode cX0_ranked 0 = .ok (.aload_n 2, 1) := dk_44 (dk_at dksX0_ranked_0 0 rfl rfl)
theorem dX0_ranked_1 : decode cX0_ranked 1 = .ok (.iconst 0, 1) := dk_3 (dk_at dksX0_ranked_0 1 rfl rfl)
theorem dX0_ranked_2 : decode cX0_ranked 2 = .ok (.aload_n 0, 1) := dk_42 (dk_at dksX0_ranked_0 2 rfl rfl)
theorem dX0_ranked_3 : decode cX0_ranked 3 = .ok (.iload_n 1, 1) := dk_27 (dk_at dksX0_ranked_0 3 rfl rfl)
theorem dX0_ranked_4 : decode cX0_ranked 4 = .ok (.invokevirtual 83, 3) := dk_182 0 83 (dk_at dksX0_ranked_0 4 rfl rfl)
theorem dX0_ranked_7 : decode cX0_ranked 7 = .ok (.i2l, 1) := dk_133 (dk_at dksX0_ranked_0 7 rfl rfl)
theorem dX0_ranked_8 : decode cX0_ranked 8 = .ok (.lastore, 1) := dk_80 (dk_at dksX0_ranked_0 8 rfl rfl)
theorem dX0_ranked_9 : decode cX0_ranked 9 = .ok (.goto 6, 3) := dk_167 0 6 (dk_at dksX0_ranked_0 9 rfl rfl)
theorem dX0_ranked_12 : decode cX0_ranked 12 = .ok (.astore_n 3, 1) := dk_78 (dk_at dksX0_ranked_0 12 rfl rfl)
theorem dX0_ranked_13 : decode cX0_ranked 13 = .ok (.iconst 1, 1) := dk_4 (dk_at dksX0_ranked_0 13 rfl rfl)
theorem dX0_ranked_14 : decode cX0_ranked 14 = .ok (.ireturn, 1) := dk_172 (dk_at dksX0_ranked_0 14 rfl rfl)
theorem dX0_ranked_15 : decode cX0_ranked 15 = .ok (.iconst 0, 1) := dk_3 (dk_at dksX0_ranked_0 15 rfl rfl)
theorem dX0_ranked_16 : decode cX0_ranked 16 = .ok (.ireturn, 1) := dk_172 (dk_at dksX0_ranked_0 16 rfl rfl)
abbrev cX0_tightest : ByteArray := method_24_code
def yX0_tightest : MethodName := ⟨RX0, "tightest", "(LCoachTimetable;I[J)I"⟩
def dkwX0_tightest_0 : List UInt8 := [44, 3, 42, 27, 182, 0, 86, 133, 80, 167, 0, 6, 78, 4, 172, 3, 172]
abbrev dktX0_tightest_0 : List UInt8 := dkwX0_tightest_0 ++ []
theorem dksX0_tightest_0 : cX0_tightest.data.toList.drop 0 = dktX0_tightest_0 := by decide +kernel
theorem dX0_tightest_0 : decode cX0_tightest 0 = .ok (.aload_n 2, 1) := dk_44 (dk_at dksX0_tightest_0 0 rfl rfl)
theorem dX0_tightest_1 : decode cX0_tightest 1 = .ok (.iconst 0, 1) := dk_3 (dk_at dksX0_tightest_0 1 rfl rfl)
theorem dX0_tightest_2 : decode cX0_tightest 2 = .ok (.aload_n 0, 1) := dk_42 (dk_at dksX0_tightest_0 2 rfl rfl)
theorem dX0_tightest_3 : decode cX0_tightest 3 = .ok (.iload_n 1, 1) := dk_27 (dk_at dksX0_tightest_0 3 rfl rfl)
theorem dX0_tightest_4 : decode cX0_tightest 4 = .ok (.invokevirtual 86, 3) := dk_182 0 86 (dk_at dksX0_tightest_0 4 rfl rfl)
theorem dX0_tightest_7 : decode cX0_tightest 7 = .ok (.i2l, 1) := dk_133 (dk_at dksX0_tightest_0 7 rfl rfl)
theorem dX0_tightest_8 : decode cX0_tightest 8 = .ok (.lastore, 1) := dk_80 (dk_at dksX0_tightest_0 8 rfl rfl)
theorem dX0_tightest_9 : decode cX0_tightest 9 = .ok (.goto 6, 3) := dk_167 0 6 (dk_at dksX0_tightest_0 9 rfl rfl)
theorem dX0_tightest_12 : decode cX0_tightest 12 = .ok (.astore_n 3, 1) := dk_78 (dk_at dksX0_tightest_0 12 rfl rfl)
theorem dX0_tightest_13 : decode cX0_tightest 13 = .ok (.iconst 1, 1) := dk_4 (dk_at dksX0_tightest_0 13 rfl rfl)
theorem dX0_tightest_14 : decode cX0_tightest 14 = .ok (.ireturn, 1) := dk_172 (dk_at dksX0_tightest_0 14 rfl rfl)
theorem dX0_tightest_15 : decode cX0_tightest 15 = .ok (.iconst 0, 1) := dk_3 (dk_at dksX0_tightest_0 15 rfl rfl)
theorem dX0_tightest_16 : decode cX0_tightest 16 = .ok (.ireturn, 1) := dk_172 (dk_at dksX0_tightest_0 16 rfl rfl)
abbrev cX0_event : ByteArray := method_25_code
def yX0_event : MethodName := ⟨RX0, "event", "(LCoachTimetable;I[J)I"⟩
def dkwX0_event_0 : List UInt8 := [44, 3, 42, 27, 182, 0, 89, 133, 80, 167, 0, 6, 78, 4, 172, 3, 172]
abbrev dktX0_event_0 : List UInt8 := dkwX0_event_0 ++ []
theorem dksX0_event_0 : cX0_event.data.toList.drop 0 = dktX0_event_0 := by decide +kernel
theorem dX0_event_0 : decode cX0_event 0 = .ok (.aload_n 2, 1) := dk_44 (dk_at dksX0_event_0 0 rfl rfl)
theorem dX0_event_1 : decode cX0_event 1 = .ok (.iconst 0, 1) := dk_3 (dk_at dksX0_event_0 1 rfl rfl)
theorem dX0_event_2 : decode cX0_event 2 = .ok (.aload_n 0, 1) := dk_42 (dk_at dksX0_event_0 2 rfl rfl)
theorem dX0_event_3 : decode cX0_event 3 = .ok (.iload_n 1, 1) := dk_27 (dk_at dksX0_event_0 3 rfl rfl)
theorem dX0_event_4 : decode cX0_event 4 = .ok (.invokevirtual 89, 3) := dk_182 0 89 (dk_at dksX0_event_0 4 rfl rfl)
theorem dX0_event_7 : decode cX0_event 7 = .ok (.i2l, 1) := dk_133 (dk_at dksX0_event_0 7 rfl rfl)
theorem dX0_event_8 : decode cX0_event 8 = .ok (.lastore, 1) := dk_80 (dk_at dksX0_event_0 8 rfl rfl)
theorem dX0_event_9 : decode cX0_event 9 = .ok (.goto 6, 3) := dk_167 0 6 (dk_at dksX0_event_0 9 rfl rfl)
theorem dX0_event_12 : decode cX0_event 12 = .ok (.astore_n 3, 1) := dk_78 (dk_at dksX0_event_0 12 rfl rfl)
theorem dX0_event_13 : decode cX0_event 13 = .ok (.iconst 1, 1) := dk_4 (dk_at dksX0_event_0 13 rfl rfl)
theorem dX0_event_14 : decode cX0_event 14 = .ok (.ireturn, 1) := dk_172 (dk_at dksX0_event_0 14 rfl rfl)
theorem dX0_event_15 : decode cX0_event 15 = .ok (.iconst 0, 1) := dk_3 (dk_at dksX0_event_0 15 rfl rfl)
theorem dX0_event_16 : decode cX0_event 16 = .ok (.ireturn, 1) := dk_172 (dk_at dksX0_event_0 16 rfl rfl)
abbrev cX0_append : ByteArray := method_26_code
def yX0_append : MethodName := ⟨RX0, "append", "(LCoachTimetable;C[J)I"⟩
def dkwX0_append_0 : List UInt8 := [44, 3, 42, 27, 182, 0, 92, 133, 80, 167, 0, 9, 78, 4, 172, 78, 5, 172, 3, 172]
abbrev dktX0_append_0 : List UInt8 := dkwX0_append_0 ++ []
theorem dksX0_append_0 : cX0_append.data.toList.drop 0 = dktX0_append_0 := by decide +kernel
theorem dX0_append_0 : decode cX0_append 0 = .ok (.aload_n 2, 1) := dk_44 (dk_at dksX0_append_0 0 rfl rfl)
theorem dX0_append_1 : decode cX0_append 1 = .ok (.iconst 0, 1) := dk_3 (dk_at dksX0_append_0 1 rfl rfl)
theorem dX0_append_2 : decode cX0_append 2 = .ok (.aload_n 0, 1) := dk_42 (dk_at dksX0_append_0 2 rfl rfl)
theorem dX0_append_3 : decode cX0_append 3 = .ok (.iload_n 1, 1) := dk_27 (dk_at dksX0_append_0 3 rfl rfl)
theorem dX0_append_4 : decode cX0_append 4 = .ok (.invokevirtual 92, 3) := dk_182 0 92 (dk_at dksX0_append_0 4 rfl rfl)
theorem dX0_append_7 : decode cX0_append 7 = .ok (.i2l, 1) := dk_133 (dk_at dksX0_append_0 7 rfl rfl)
theorem dX0_append_8 : decode cX0_append 8 = .ok (.lastore, 1) := dk_80 (dk_at dksX0_append_0 8 rfl rfl)
theorem dX0_append_9 : decode cX0_append 9 = .ok (.goto 9, 3) := dk_167 0 9 (dk_at dksX0_append_0 9 rfl rfl)
theorem dX0_append_12 : decode cX0_append 12 = .ok (.astore_n 3, 1) := dk_78 (dk_at dksX0_append_0 12 rfl rfl)
theorem dX0_append_13 : decode cX0_append 13 = .ok (.iconst 1, 1) := dk_4 (dk_at dksX0_append_0 13 rfl rfl)
theorem dX0_append_14 : decode cX0_append 14 = .ok (.ireturn, 1) := dk_172 (dk_at dksX0_append_0 14 rfl rfl)
theorem dX0_append_15 : decode cX0_append 15 = .ok (.astore_n 3, 1) := dk_78 (dk_at dksX0_append_0 15 rfl rfl)
theorem dX0_append_16 : decode cX0_append 16 = .ok (.iconst 2, 1) := dk_5 (dk_at dksX0_append_0 16 rfl rfl)
theorem dX0_append_17 : decode cX0_append 17 = .ok (.ireturn, 1) := dk_172 (dk_at dksX0_append_0 17 rfl rfl)
theorem dX0_append_18 : decode cX0_append 18 = .ok (.iconst 0, 1) := dk_3 (dk_at dksX0_append_0 18 rfl rfl)
theorem dX0_append_19 : decode cX0_append 19 = .ok (.ireturn, 1) := dk_172 (dk_at dksX0_append_0 19 rfl rfl)
abbrev cX0_run : ByteArray := method_27_code
def yX0_run : MethodName := ⟨RX0, "run", "(LCoachTimetable;[J)I"⟩
def dkwX0_run_0 : List UInt8 := [43, 3, 42, 182, 0, 98, 133, 80, 167, 0, 9, 77, 4, 172, 77, 5, 172, 3, 172]
abbrev dktX0_run_0 : List UInt8 := dkwX0_run_0 ++ []
theorem dksX0_run_0 : cX0_run.data.toList.drop 0 = dktX0_run_0 := by decide +kernel
theorem dX0_run_0 : decode cX0_run 0 = .ok (.aload_n 1, 1) := dk_43 (dk_at dksX0_run_0 0 rfl rfl)
theorem dX0_run_1 : decode cX0_run 1 = .ok (.iconst 0, 1) := dk_3 (dk_at dksX0_run_0 1 rfl rfl)
theorem dX0_run_2 : decode cX0_run 2 = .ok (.aload_n 0, 1) := dk_42 (dk_at dksX0_run_0 2 rfl rfl)
theorem dX0_run_3 : decode cX0_run 3 = .ok (.invokevirtual 98, 3) := dk_182 0 98 (dk_at dksX0_run_0 3 rfl rfl)
theorem dX0_run_6 : decode cX0_run 6 = .ok (.i2l, 1) := dk_133 (dk_at dksX0_run_0 6 rfl rfl)
theorem dX0_run_7 : decode cX0_run 7 = .ok (.lastore, 1) := dk_80 (dk_at dksX0_run_0 7 rfl rfl)
theorem dX0_run_8 : decode cX0_run 8 = .ok (.goto 9, 3) := dk_167 0 9 (dk_at dksX0_run_0 8 rfl rfl)
theorem dX0_run_11 : decode cX0_run 11 = .ok (.astore_n 2, 1) := dk_77 (dk_at dksX0_run_0 11 rfl rfl)
theorem dX0_run_12 : decode cX0_run 12 = .ok (.iconst 1, 1) := dk_4 (dk_at dksX0_run_0 12 rfl rfl)
theorem dX0_run_13 : decode cX0_run 13 = .ok (.ireturn, 1) := dk_172 (dk_at dksX0_run_0 13 rfl rfl)
theorem dX0_run_14 : decode cX0_run 14 = .ok (.astore_n 2, 1) := dk_77 (dk_at dksX0_run_0 14 rfl rfl)
theorem dX0_run_15 : decode cX0_run 15 = .ok (.iconst 2, 1) := dk_5 (dk_at dksX0_run_0 15 rfl rfl)
theorem dX0_run_16 : decode cX0_run 16 = .ok (.ireturn, 1) := dk_172 (dk_at dksX0_run_0 16 rfl rfl)
theorem dX0_run_17 : decode cX0_run 17 = .ok (.iconst 0, 1) := dk_3 (dk_at dksX0_run_0 17 rfl rfl)
theorem dX0_run_18 : decode cX0_run 18 = .ok (.ireturn, 1) := dk_172 (dk_at dksX0_run_0 18 rfl rfl)
abbrev cX0_reason : ByteArray := method_28_code
def yX0_reason : MethodName := ⟨RX0, "reason", "(LCoachTimetable;IZ[J)I"⟩
def dkwX0_reason_0 : List UInt8 := [45, 3, 42, 27, 28, 182, 0, 102, 133, 80, 167, 0, 11, 58, 4, 4, 172, 58, 4, 5, 172, 3, 172]
abbrev dktX0_reason_0 : List UInt8 := dkwX0_reason_0 ++ []
theorem dksX0_reason_0 : cX0_reason.data.toList.drop 0 = dktX0_reason_0 := by decide +kernel
theorem dX0_reason_0 : decode cX0_reason 0 = .ok (.aload_n 3, 1) := dk_45 (dk_at dksX0_reason_0 0 rfl rfl)
theorem dX0_reason_1 : decode cX0_reason 1 = .ok (.iconst 0, 1) := dk_3 (dk_at dksX0_reason_0 1 rfl rfl)
theorem dX0_reason_2 : decode cX0_reason 2 = .ok (.aload_n 0, 1) := dk_42 (dk_at dksX0_reason_0 2 rfl rfl)
theorem dX0_reason_3 : decode cX0_reason 3 = .ok (.iload_n 1, 1) := dk_27 (dk_at dksX0_reason_0 3 rfl rfl)
theorem dX0_reason_4 : decode cX0_reason 4 = .ok (.iload_n 2, 1) := dk_28 (dk_at dksX0_reason_0 4 rfl rfl)
theorem dX0_reason_5 : decode cX0_reason 5 = .ok (.invokevirtual 102, 3) := dk_182 0 102 (dk_at dksX0_reason_0 5 rfl rfl)
theorem dX0_reason_8 : decode cX0_reason 8 = .ok (.i2l, 1) := dk_133 (dk_at dksX0_reason_0 8 rfl rfl)
theorem dX0_reason_9 : decode cX0_reason 9 = .ok (.lastore, 1) := dk_80 (dk_at dksX0_reason_0 9 rfl rfl)
theorem dX0_reason_10 : decode cX0_reason 10 = .ok (.goto 11, 3) := dk_167 0 11 (dk_at dksX0_reason_0 10 rfl rfl)
theorem dX0_reason_13 : decode cX0_reason 13 = .ok (.astore 4, 2) := dk_58 4 (dk_at dksX0_reason_0 13 rfl rfl)
theorem dX0_reason_15 : decode cX0_reason 15 = .ok (.iconst 1, 1) := dk_4 (dk_at dksX0_reason_0 15 rfl rfl)
theorem dX0_reason_16 : decode cX0_reason 16 = .ok (.ireturn, 1) := dk_172 (dk_at dksX0_reason_0 16 rfl rfl)
theorem dX0_reason_17 : decode cX0_reason 17 = .ok (.astore 4, 2) := dk_58 4 (dk_at dksX0_reason_0 17 rfl rfl)
theorem dX0_reason_19 : decode cX0_reason 19 = .ok (.iconst 2, 1) := dk_5 (dk_at dksX0_reason_0 19 rfl rfl)
theorem dX0_reason_20 : decode cX0_reason 20 = .ok (.ireturn, 1) := dk_172 (dk_at dksX0_reason_0 20 rfl rfl)
theorem dX0_reason_21 : decode cX0_reason 21 = .ok (.iconst 0, 1) := dk_3 (dk_at dksX0_reason_0 21 rfl rfl)
theorem dX0_reason_22 : decode cX0_reason 22 = .ok (.ireturn, 1) := dk_172 (dk_at dksX0_reason_0 22 rfl rfl)
abbrev cX0_tell : ByteArray := method_29_code
def yX0_tell : MethodName := ⟨RX0, "tell", "(LCoachTimetable;I[J)I"⟩
def dkwX0_tell_0 : List UInt8 := [44, 3, 42, 27, 182, 0, 106, 133, 80, 167, 0, 6, 78, 4, 172, 3, 172]
abbrev dktX0_tell_0 : List UInt8 := dkwX0_tell_0 ++ []
theorem dksX0_tell_0 : cX0_tell.data.toList.drop 0 = dktX0_tell_0 := by decide +kernel
theorem dX0_tell_0 : decode cX0_tell 0 = .ok (.aload_n 2, 1) := dk_44 (dk_at dksX0_tell_0 0 rfl rfl)
theorem dX0_tell_1 : decode cX0_tell 1 = .ok (.iconst 0, 1) := dk_3 (dk_at dksX0_tell_0 1 rfl rfl)
theorem dX0_tell_2 : decode cX0_tell 2 = .ok (.aload_n 0, 1) := dk_42 (dk_at dksX0_tell_0 2 rfl rfl)
theorem dX0_tell_3 : decode cX0_tell 3 = .ok (.iload_n 1, 1) := dk_27 (dk_at dksX0_tell_0 3 rfl rfl)
theorem dX0_tell_4 : decode cX0_tell 4 = .ok (.invokevirtual 106, 3) := dk_182 0 106 (dk_at dksX0_tell_0 4 rfl rfl)
theorem dX0_tell_7 : decode cX0_tell 7 = .ok (.i2l, 1) := dk_133 (dk_at dksX0_tell_0 7 rfl rfl)
theorem dX0_tell_8 : decode cX0_tell 8 = .ok (.lastore, 1) := dk_80 (dk_at dksX0_tell_0 8 rfl rfl)
theorem dX0_tell_9 : decode cX0_tell 9 = .ok (.goto 6, 3) := dk_167 0 6 (dk_at dksX0_tell_0 9 rfl rfl)
theorem dX0_tell_12 : decode cX0_tell 12 = .ok (.astore_n 3, 1) := dk_78 (dk_at dksX0_tell_0 12 rfl rfl)
theorem dX0_tell_13 : decode cX0_tell 13 = .ok (.iconst 1, 1) := dk_4 (dk_at dksX0_tell_0 13 rfl rfl)
theorem dX0_tell_14 : decode cX0_tell 14 = .ok (.ireturn, 1) := dk_172 (dk_at dksX0_tell_0 14 rfl rfl)
theorem dX0_tell_15 : decode cX0_tell 15 = .ok (.iconst 0, 1) := dk_3 (dk_at dksX0_tell_0 15 rfl rfl)
theorem dX0_tell_16 : decode cX0_tell 16 = .ok (.ireturn, 1) := dk_172 (dk_at dksX0_tell_0 16 rfl rfl)
abbrev cX0_character : ByteArray := method_30_code
def yX0_character : MethodName := ⟨RX0, "character", "(LCoachTimetable;I[J)I"⟩
def dkwX0_character_0 : List UInt8 := [44, 3, 42, 27, 182, 0, 109, 133, 80, 167, 0, 6, 78, 4, 172, 3, 172]
abbrev dktX0_character_0 : List UInt8 := dkwX0_character_0 ++ []
theorem dksX0_character_0 : cX0_character.data.toList.drop 0 = dktX0_character_0 := by decide +kernel
theorem dX0_character_0 : decode cX0_character 0 = .ok (.aload_n 2, 1) := dk_44 (dk_at dksX0_character_0 0 rfl rfl)
theorem dX0_character_1 : decode cX0_character 1 = .ok (.iconst 0, 1) := dk_3 (dk_at dksX0_character_0 1 rfl rfl)
theorem dX0_character_2 : decode cX0_character 2 = .ok (.aload_n 0, 1) := dk_42 (dk_at dksX0_character_0 2 rfl rfl)
theorem dX0_character_3 : decode cX0_character 3 = .ok (.iload_n 1, 1) := dk_27 (dk_at dksX0_character_0 3 rfl rfl)
theorem dX0_character_4 : decode cX0_character 4 = .ok (.invokevirtual 109, 3) := dk_182 0 109 (dk_at dksX0_character_0 4 rfl rfl)
theorem dX0_character_7 : decode cX0_character 7 = .ok (.i2l, 1) := dk_133 (dk_at dksX0_character_0 7 rfl rfl)
theorem dX0_character_8 : decode cX0_character 8 = .ok (.lastore, 1) := dk_80 (dk_at dksX0_character_0 8 rfl rfl)
theorem dX0_character_9 : decode cX0_character 9 = .ok (.goto 6, 3) := dk_167 0 6 (dk_at dksX0_character_0 9 rfl rfl)
theorem dX0_character_12 : decode cX0_character 12 = .ok (.astore_n 3, 1) := dk_78 (dk_at dksX0_character_0 12 rfl rfl)
theorem dX0_character_13 : decode cX0_character 13 = .ok (.iconst 1, 1) := dk_4 (dk_at dksX0_character_0 13 rfl rfl)
theorem dX0_character_14 : decode cX0_character 14 = .ok (.ireturn, 1) := dk_172 (dk_at dksX0_character_0 14 rfl rfl)
theorem dX0_character_15 : decode cX0_character 15 = .ok (.iconst 0, 1) := dk_3 (dk_at dksX0_character_0 15 rfl rfl)
theorem dX0_character_16 : decode cX0_character 16 = .ok (.ireturn, 1) := dk_172 (dk_at dksX0_character_0 16 rfl rfl)
abbrev cX0_account : ByteArray := method_31_code
def yX0_account : MethodName := ⟨RX0, "account", "(LCoachTimetable;I[J)I"⟩
def dkwX0_account_0 : List UInt8 := [44, 3, 42, 27, 182, 0, 113, 133, 80, 167, 0, 6, 78, 4, 172, 3, 172]
abbrev dktX0_account_0 : List UInt8 := dkwX0_account_0 ++ []
theorem dksX0_account_0 : cX0_account.data.toList.drop 0 = dktX0_account_0 := by decide +kernel
theorem dX0_account_0 : decode cX0_account 0 = .ok (.aload_n 2, 1) := dk_44 (dk_at dksX0_account_0 0 rfl rfl)
theorem dX0_account_1 : decode cX0_account 1 = .ok (.iconst 0, 1) := dk_3 (dk_at dksX0_account_0 1 rfl rfl)
theorem dX0_account_2 : decode cX0_account 2 = .ok (.aload_n 0, 1) := dk_42 (dk_at dksX0_account_0 2 rfl rfl)
theorem dX0_account_3 : decode cX0_account 3 = .ok (.iload_n 1, 1) := dk_27 (dk_at dksX0_account_0 3 rfl rfl)
theorem dX0_account_4 : decode cX0_account 4 = .ok (.invokevirtual 113, 3) := dk_182 0 113 (dk_at dksX0_account_0 4 rfl rfl)
theorem dX0_account_7 : decode cX0_account 7 = .ok (.i2l, 1) := dk_133 (dk_at dksX0_account_0 7 rfl rfl)
theorem dX0_account_8 : decode cX0_account 8 = .ok (.lastore, 1) := dk_80 (dk_at dksX0_account_0 8 rfl rfl)
theorem dX0_account_9 : decode cX0_account 9 = .ok (.goto 6, 3) := dk_167 0 6 (dk_at dksX0_account_0 9 rfl rfl)
theorem dX0_account_12 : decode cX0_account 12 = .ok (.astore_n 3, 1) := dk_78 (dk_at dksX0_account_0 12 rfl rfl)
theorem dX0_account_13 : decode cX0_account 13 = .ok (.iconst 1, 1) := dk_4 (dk_at dksX0_account_0 13 rfl rfl)
theorem dX0_account_14 : decode cX0_account 14 = .ok (.ireturn, 1) := dk_172 (dk_at dksX0_account_0 14 rfl rfl)
theorem dX0_account_15 : decode cX0_account 15 = .ok (.iconst 0, 1) := dk_3 (dk_at dksX0_account_0 15 rfl rfl)
theorem dX0_account_16 : decode cX0_account 16 = .ok (.ireturn, 1) := dk_172 (dk_at dksX0_account_0 16 rfl rfl)
abbrev cX0_meanLate : ByteArray := method_32_code
def yX0_meanLate : MethodName := ⟨RX0, "meanLate", "(LCoachTimetable;[D)I"⟩
def dkwX0_meanLate_0 : List UInt8 := [43, 3, 42, 182, 0, 116, 82, 167, 0, 6, 77, 4, 172, 3, 172]
abbrev dktX0_meanLate_0 : List UInt8 := dkwX0_meanLate_0 ++ []
theorem dksX0_meanLate_0 : cX0_meanLate.data.toList.drop 0 = dktX0_meanLate_0 := by decide +kernel
theorem dX0_meanLate_0 : decode cX0_meanLate 0 = .ok (.aload_n 1, 1) := dk_43 (dk_at dksX0_meanLate_0 0 rfl rfl)
theorem dX0_meanLate_1 : decode cX0_meanLate 1 = .ok (.iconst 0, 1) := dk_3 (dk_at dksX0_meanLate_0 1 rfl rfl)
theorem dX0_meanLate_2 : decode cX0_meanLate 2 = .ok (.aload_n 0, 1) := dk_42 (dk_at dksX0_meanLate_0 2 rfl rfl)
theorem dX0_meanLate_3 : decode cX0_meanLate 3 = .ok (.invokevirtual 116, 3) := dk_182 0 116 (dk_at dksX0_meanLate_0 3 rfl rfl)
theorem dX0_meanLate_6 : decode cX0_meanLate 6 = .ok (.dastore, 1) := dk_82 (dk_at dksX0_meanLate_0 6 rfl rfl)
theorem dX0_meanLate_7 : decode cX0_meanLate 7 = .ok (.goto 6, 3) := dk_167 0 6 (dk_at dksX0_meanLate_0 7 rfl rfl)
theorem dX0_meanLate_10 : decode cX0_meanLate 10 = .ok (.astore_n 2, 1) := dk_77 (dk_at dksX0_meanLate_0 10 rfl rfl)
theorem dX0_meanLate_11 : decode cX0_meanLate 11 = .ok (.iconst 1, 1) := dk_4 (dk_at dksX0_meanLate_0 11 rfl rfl)
theorem dX0_meanLate_12 : decode cX0_meanLate 12 = .ok (.ireturn, 1) := dk_172 (dk_at dksX0_meanLate_0 12 rfl rfl)
theorem dX0_meanLate_13 : decode cX0_meanLate 13 = .ok (.iconst 0, 1) := dk_3 (dk_at dksX0_meanLate_0 13 rfl rfl)
theorem dX0_meanLate_14 : decode cX0_meanLate 14 = .ok (.ireturn, 1) := dk_172 (dk_at dksX0_meanLate_0 14 rfl rfl)
abbrev cX0_keptShare : ByteArray := method_33_code
def yX0_keptShare : MethodName := ⟨RX0, "keptShare", "(LCoachTimetable;[D)I"⟩
def dkwX0_keptShare_0 : List UInt8 := [43, 3, 42, 182, 0, 122, 141, 82, 167, 0, 6, 77, 4, 172, 3, 172]
abbrev dktX0_keptShare_0 : List UInt8 := dkwX0_keptShare_0 ++ []
theorem dksX0_keptShare_0 : cX0_keptShare.data.toList.drop 0 = dktX0_keptShare_0 := by decide +kernel
theorem dX0_keptShare_0 : decode cX0_keptShare 0 = .ok (.aload_n 1, 1) := dk_43 (dk_at dksX0_keptShare_0 0 rfl rfl)
theorem dX0_keptShare_1 : decode cX0_keptShare 1 = .ok (.iconst 0, 1) := dk_3 (dk_at dksX0_keptShare_0 1 rfl rfl)
theorem dX0_keptShare_2 : decode cX0_keptShare 2 = .ok (.aload_n 0, 1) := dk_42 (dk_at dksX0_keptShare_0 2 rfl rfl)
theorem dX0_keptShare_3 : decode cX0_keptShare 3 = .ok (.invokevirtual 122, 3) := dk_182 0 122 (dk_at dksX0_keptShare_0 3 rfl rfl)
theorem dX0_keptShare_6 : decode cX0_keptShare 6 = .ok (.f2d, 1) := dk_141 (dk_at dksX0_keptShare_0 6 rfl rfl)
theorem dX0_keptShare_7 : decode cX0_keptShare 7 = .ok (.dastore, 1) := dk_82 (dk_at dksX0_keptShare_0 7 rfl rfl)
theorem dX0_keptShare_8 : decode cX0_keptShare 8 = .ok (.goto 6, 3) := dk_167 0 6 (dk_at dksX0_keptShare_0 8 rfl rfl)
theorem dX0_keptShare_11 : decode cX0_keptShare 11 = .ok (.astore_n 2, 1) := dk_77 (dk_at dksX0_keptShare_0 11 rfl rfl)
theorem dX0_keptShare_12 : decode cX0_keptShare 12 = .ok (.iconst 1, 1) := dk_4 (dk_at dksX0_keptShare_0 12 rfl rfl)
theorem dX0_keptShare_13 : decode cX0_keptShare 13 = .ok (.ireturn, 1) := dk_172 (dk_at dksX0_keptShare_0 13 rfl rfl)
theorem dX0_keptShare_14 : decode cX0_keptShare 14 = .ok (.iconst 0, 1) := dk_3 (dk_at dksX0_keptShare_0 14 rfl rfl)
theorem dX0_keptShare_15 : decode cX0_keptShare 15 = .ok (.ireturn, 1) := dk_172 (dk_at dksX0_keptShare_0 15 rfl rfl)
abbrev cX0_undo : ByteArray := method_34_code
def yX0_undo : MethodName := ⟨RX0, "undo", "(LCoachTimetable;[J)I"⟩
def dkwX0_undo_0 : List UInt8 := [43, 3, 42, 182, 0, 126, 133, 80, 167, 0, 6, 77, 4, 172, 3, 172]
abbrev dktX0_undo_0 : List UInt8 := dkwX0_undo_0 ++ []
theorem dksX0_undo_0 : cX0_undo.data.toList.drop 0 = dktX0_undo_0 := by decide +kernel
theorem dX0_undo_0 : decode cX0_undo 0 = .ok (.aload_n 1, 1) := dk_43 (dk_at dksX0_undo_0 0 rfl rfl)
theorem dX0_undo_1 : decode cX0_undo 1 = .ok (.iconst 0, 1) := dk_3 (dk_at dksX0_undo_0 1 rfl rfl)
theorem dX0_undo_2 : decode cX0_undo 2 = .ok (.aload_n 0, 1) := dk_42 (dk_at dksX0_undo_0 2 rfl rfl)
theorem dX0_undo_3 : decode cX0_undo 3 = .ok (.invokevirtual 126, 3) := dk_182 0 126 (dk_at dksX0_undo_0 3 rfl rfl)
theorem dX0_undo_6 : decode cX0_undo 6 = .ok (.i2l, 1) := dk_133 (dk_at dksX0_undo_0 6 rfl rfl)
theorem dX0_undo_7 : decode cX0_undo 7 = .ok (.lastore, 1) := dk_80 (dk_at dksX0_undo_0 7 rfl rfl)
theorem dX0_undo_8 : decode cX0_undo 8 = .ok (.goto 6, 3) := dk_167 0 6 (dk_at dksX0_undo_0 8 rfl rfl)
theorem dX0_undo_11 : decode cX0_undo 11 = .ok (.astore_n 2, 1) := dk_77 (dk_at dksX0_undo_0 11 rfl rfl)
theorem dX0_undo_12 : decode cX0_undo 12 = .ok (.iconst 1, 1) := dk_4 (dk_at dksX0_undo_0 12 rfl rfl)
theorem dX0_undo_13 : decode cX0_undo 13 = .ok (.ireturn, 1) := dk_172 (dk_at dksX0_undo_0 13 rfl rfl)
theorem dX0_undo_14 : decode cX0_undo 14 = .ok (.iconst 0, 1) := dk_3 (dk_at dksX0_undo_0 14 rfl rfl)
theorem dX0_undo_15 : decode cX0_undo 15 = .ok (.ireturn, 1) := dk_172 (dk_at dksX0_undo_0 15 rfl rfl)
abbrev cX0_restore : ByteArray := method_35_code
def yX0_restore : MethodName := ⟨RX0, "restore", "(LCoachTimetable;[J)I"⟩
def dkwX0_restore_0 : List UInt8 := [43, 3, 42, 182, 0, 129, 133, 80, 167, 0, 6, 77, 4, 172, 3, 172]
abbrev dktX0_restore_0 : List UInt8 := dkwX0_restore_0 ++ []
theorem dksX0_restore_0 : cX0_restore.data.toList.drop 0 = dktX0_restore_0 := by decide +kernel
theorem dX0_restore_0 : decode cX0_restore 0 = .ok (.aload_n 1, 1) := dk_43 (dk_at dksX0_restore_0 0 rfl rfl)
theorem dX0_restore_1 : decode cX0_restore 1 = .ok (.iconst 0, 1) := dk_3 (dk_at dksX0_restore_0 1 rfl rfl)
theorem dX0_restore_2 : decode cX0_restore 2 = .ok (.aload_n 0, 1) := dk_42 (dk_at dksX0_restore_0 2 rfl rfl)
theorem dX0_restore_3 : decode cX0_restore 3 = .ok (.invokevirtual 129, 3) := dk_182 0 129 (dk_at dksX0_restore_0 3 rfl rfl)
theorem dX0_restore_6 : decode cX0_restore 6 = .ok (.i2l, 1) := dk_133 (dk_at dksX0_restore_0 6 rfl rfl)
theorem dX0_restore_7 : decode cX0_restore 7 = .ok (.lastore, 1) := dk_80 (dk_at dksX0_restore_0 7 rfl rfl)
theorem dX0_restore_8 : decode cX0_restore 8 = .ok (.goto 6, 3) := dk_167 0 6 (dk_at dksX0_restore_0 8 rfl rfl)
theorem dX0_restore_11 : decode cX0_restore 11 = .ok (.astore_n 2, 1) := dk_77 (dk_at dksX0_restore_0 11 rfl rfl)
theorem dX0_restore_12 : decode cX0_restore 12 = .ok (.iconst 1, 1) := dk_4 (dk_at dksX0_restore_0 12 rfl rfl)
theorem dX0_restore_13 : decode cX0_restore 13 = .ok (.ireturn, 1) := dk_172 (dk_at dksX0_restore_0 13 rfl rfl)
theorem dX0_restore_14 : decode cX0_restore 14 = .ok (.iconst 0, 1) := dk_3 (dk_at dksX0_restore_0 14 rfl rfl)
theorem dX0_restore_15 : decode cX0_restore 15 = .ok (.ireturn, 1) := dk_172 (dk_at dksX0_restore_0 15 rfl rfl)
