set_option maxRecDepth 100000
abbrev cX1_init : ByteArray := prog_1_method_1_code
def yX1_init : MethodName := ⟨RX1, "<init>", "()V"⟩
def dkwX1_init_2 : List UInt8 := [181, 0, 30, 42, 2, 181, 0, 33, 177]
abbrev dktX1_init_2 : List UInt8 := dkwX1_init_2 ++ []
def dkwX1_init_1 : List UInt8 := [181, 0, 19, 42, 187, 0, 23, 89, 183, 0, 25, 181, 0, 26, 42, 187, 0, 23, 89, 183, 0, 25]
abbrev dktX1_init_1 : List UInt8 := dkwX1_init_1 ++ dktX1_init_2
def dkwX1_init_0 : List UInt8 := [42, 183, 0, 1, 42, 187, 0, 7, 89, 183, 0, 9, 181, 0, 10, 42, 187, 0, 16, 89, 183, 0, 18]
abbrev dktX1_init_0 : List UInt8 := dkwX1_init_0 ++ dktX1_init_1
theorem dksX1_init_0 : cX1_init.data.toList.drop 0 = dktX1_init_0 := by decide +kernel
theorem dksX1_init_1 : cX1_init.data.toList.drop 23 = dktX1_init_1 := dk_seg dksX1_init_0 23 rfl rfl
theorem dksX1_init_2 : cX1_init.data.toList.drop 45 = dktX1_init_2 := dk_seg dksX1_init_1 22 rfl rfl
theorem dX1_init_0 : decode cX1_init 0 = .ok (.aload_n 0, 1) := dk_42 (dk_at dksX1_init_0 0 rfl rfl)
theorem dX1_init_1 : decode cX1_init 1 = .ok (.invokespecial 1, 3) := dk_183 0 1 (dk_at dksX1_init_0 1 rfl rfl)
theorem dX1_init_4 : decode cX1_init 4 = .ok (.aload_n 0, 1) := dk_42 (dk_at dksX1_init_0 4 rfl rfl)
theorem dX1_init_5 : decode cX1_init 5 = .ok (.new 7, 3) := dk_187 0 7 (dk_at dksX1_init_0 5 rfl rfl)
theorem dX1_init_8 : decode cX1_init 8 = .ok (.dup, 1) := dk_89 (dk_at dksX1_init_0 8 rfl rfl)
theorem dX1_init_9 : decode cX1_init 9 = .ok (.invokespecial 9, 3) := dk_183 0 9 (dk_at dksX1_init_0 9 rfl rfl)
theorem dX1_init_12 : decode cX1_init 12 = .ok (.putfield 10, 3) := dk_181 0 10 (dk_at dksX1_init_0 12 rfl rfl)
theorem dX1_init_15 : decode cX1_init 15 = .ok (.aload_n 0, 1) := dk_42 (dk_at dksX1_init_0 15 rfl rfl)
theorem dX1_init_16 : decode cX1_init 16 = .ok (.new 16, 3) := dk_187 0 16 (dk_at dksX1_init_0 16 rfl rfl)
theorem dX1_init_19 : decode cX1_init 19 = .ok (.dup, 1) := dk_89 (dk_at dksX1_init_0 19 rfl rfl)
theorem dX1_init_20 : decode cX1_init 20 = .ok (.invokespecial 18, 3) := dk_183 0 18 (dk_at dksX1_init_0 20 rfl rfl)
theorem dX1_init_23 : decode cX1_init 23 = .ok (.putfield 19, 3) := dk_181 0 19 (dk_at dksX1_init_1 0 rfl rfl)
theorem dX1_init_26 : decode cX1_init 26 = .ok (.aload_n 0, 1) := dk_42 (dk_at dksX1_init_1 3 rfl rfl)
theorem dX1_init_27 : decode cX1_init 27 = .ok (.new 23, 3) := dk_187 0 23 (dk_at dksX1_init_1 4 rfl rfl)
theorem dX1_init_30 : decode cX1_init 30 = .ok (.dup, 1) := dk_89 (dk_at dksX1_init_1 7 rfl rfl)
theorem dX1_init_31 : decode cX1_init 31 = .ok (.invokespecial 25, 3) := dk_183 0 25 (dk_at dksX1_init_1 8 rfl rfl)
theorem dX1_init_34 : decode cX1_init 34 = .ok (.putfield 26, 3) := dk_181 0 26 (dk_at dksX1_init_1 11 rfl rfl)
theorem dX1_init_37 : decode cX1_init 37 = .ok (.aload_n 0, 1) := dk_42 (dk_at dksX1_init_1 14 rfl rfl)
theorem dX1_init_38 : decode cX1_init 38 = .ok (.new 23, 3) := dk_187 0 23 (dk_at dksX1_init_1 15 rfl rfl)
theorem dX1_init_41 : decode cX1_init 41 = .ok (.dup, 1) := dk_89 (dk_at dksX1_init_1 18 rfl rfl)
theorem dX1_init_42 : decode cX1_init 42 = .ok (.invokespecial 25, 3) := dk_183 0 25 (dk_at dksX1_init_1 19 rfl rfl)
theorem dX1_init_45 : decode cX1_init 45 = .ok (.putfield 30, 3) := dk_181 0 30 (dk_at dksX1_init_2 0 rfl rfl)
theorem dX1_init_48 : decode cX1_init 48 = .ok (.aload_n 0, 1) := dk_42 (dk_at dksX1_init_2 3 rfl rfl)
theorem dX1_init_49 : decode cX1_init 49 = .ok (.iconst (-1), 1) := dk_2 (dk_at dksX1_init_2 4 rfl rfl)
theorem dX1_init_50 : decode cX1_init 50 = .ok (.putfield 33, 3) := dk_181 0 33 (dk_at dksX1_init_2 5 rfl rfl)
theorem dX1_init_53 : decode cX1_init 53 = .ok (.return_, 1) := dk_177 (dk_at dksX1_init_2 8 rfl rfl)
abbrev cX1_total : ByteArray := prog_1_method_38_code
def yX1_total : MethodName := ⟨RX1, "total", "()I"⟩
def dkwX1_total_0 : List UInt8 := [42, 182, 0, 226, 182, 1, 79, 172]
abbrev dktX1_total_0 : List UInt8 := dkwX1_total_0 ++ []
theorem dksX1_total_0 : cX1_total.data.toList.drop 0 = dktX1_total_0 := by decide +kernel
theorem dX1_total_0 : decode cX1_total 0 = .ok (.aload_n 0, 1) := dk_42 (dk_at dksX1_total_0 0 rfl rfl)
theorem dX1_total_1 : decode cX1_total 1 = .ok (.invokevirtual 226, 3) := dk_182 0 226 (dk_at dksX1_total_0 1 rfl rfl)
theorem dX1_total_4 : decode cX1_total 4 = .ok (.invokevirtual 335, 3) := dk_182 1 79 (dk_at dksX1_total_0 4 rfl rfl)
theorem dX1_total_7 : decode cX1_total 7 = .ok (.ireturn, 1) := dk_172 (dk_at dksX1_total_0 7 rfl rfl)
abbrev cX1_net : ByteArray := prog_1_method_10_code
def yX1_net : MethodName := ⟨RX1, "net", "()LCoachTimetable$Net;"⟩
def dkwX1_net_0 : List UInt8 := [187, 0, 73, 89, 42, 180, 0, 10, 2, 183, 0, 75, 182, 0, 78, 176]
abbrev dktX1_net_0 : List UInt8 := dkwX1_net_0 ++ []
theorem dksX1_net_0 : cX1_net.data.toList.drop 0 = dktX1_net_0 := by decide +kernel
theorem dX1_net_0 : decode cX1_net 0 = .ok (.new 73, 3) := dk_187 0 73 (dk_at dksX1_net_0 0 rfl rfl)
theorem dX1_net_3 : decode cX1_net 3 = .ok (.dup, 1) := dk_89 (dk_at dksX1_net_0 3 rfl rfl)
theorem dX1_net_4 : decode cX1_net 4 = .ok (.aload_n 0, 1) := dk_42 (dk_at dksX1_net_0 4 rfl rfl)
theorem dX1_net_5 : decode cX1_net 5 = .ok (.getfield 10, 3) := dk_180 0 10 (dk_at dksX1_net_0 5 rfl rfl)
theorem dX1_net_8 : decode cX1_net 8 = .ok (.iconst (-1), 1) := dk_2 (dk_at dksX1_net_0 8 rfl rfl)
theorem dX1_net_9 : decode cX1_net 9 = .ok (.invokespecial 75, 3) := dk_183 0 75 (dk_at dksX1_net_0 9 rfl rfl)
theorem dX1_net_12 : decode cX1_net 12 = .ok (.invokevirtual 78, 3) := dk_182 0 78 (dk_at dksX1_net_0 12 rfl rfl)
theorem dX1_net_15 : decode cX1_net 15 = .ok (.areturn, 1) := dk_176 (dk_at dksX1_net_0 15 rfl rfl)
abbrev cX1_causeOf : ByteArray := prog_1_method_9_code
def yX1_causeOf : MethodName := ⟨RX1, "causeOf", "(LCoachTimetable$Lead;)I"⟩
def dkwX1_causeOf_0 : List UInt8 := [42, 193, 0, 69, 153, 0, 5, 6, 172, 42, 193, 0, 71, 153, 0, 7, 5, 167, 0, 4, 4, 172]
abbrev dktX1_causeOf_0 : List UInt8 := dkwX1_causeOf_0 ++ []
theorem dksX1_causeOf_0 : cX1_causeOf.data.toList.drop 0 = dktX1_causeOf_0 := by decide +kernel
theorem dX1_causeOf_0 : decode cX1_causeOf 0 = .ok (.aload_n 0, 1) := dk_42 (dk_at dksX1_causeOf_0 0 rfl rfl)
theorem dX1_causeOf_1 : decode cX1_causeOf 1 = .ok (.instanceof 69, 3) := dk_193 0 69 (dk_at dksX1_causeOf_0 1 rfl rfl)
theorem dX1_causeOf_4 : decode cX1_causeOf 4 = .ok (.ifCond .eq 5, 3) := dk_153 0 5 (dk_at dksX1_causeOf_0 4 rfl rfl)
theorem dX1_causeOf_7 : decode cX1_causeOf 7 = .ok (.iconst 3, 1) := dk_6 (dk_at dksX1_causeOf_0 7 rfl rfl)
theorem dX1_causeOf_8 : decode cX1_causeOf 8 = .ok (.ireturn, 1) := dk_172 (dk_at dksX1_causeOf_0 8 rfl rfl)
theorem dX1_causeOf_9 : decode cX1_causeOf 9 = .ok (.aload_n 0, 1) := dk_42 (dk_at dksX1_causeOf_0 9 rfl rfl)
theorem dX1_causeOf_10 : decode cX1_causeOf 10 = .ok (.instanceof 71, 3) := dk_193 0 71 (dk_at dksX1_causeOf_0 10 rfl rfl)
theorem dX1_causeOf_13 : decode cX1_causeOf 13 = .ok (.ifCond .eq 7, 3) := dk_153 0 7 (dk_at dksX1_causeOf_0 13 rfl rfl)
theorem dX1_causeOf_16 : decode cX1_causeOf 16 = .ok (.iconst 2, 1) := dk_5 (dk_at dksX1_causeOf_0 16 rfl rfl)
theorem dX1_causeOf_17 : decode cX1_causeOf 17 = .ok (.goto 4, 3) := dk_167 0 4 (dk_at dksX1_causeOf_0 17 rfl rfl)
theorem dX1_causeOf_20 : decode cX1_causeOf 20 = .ok (.iconst 1, 1) := dk_4 (dk_at dksX1_causeOf_0 20 rfl rfl)
theorem dX1_causeOf_21 : decode cX1_causeOf 21 = .ok (.ireturn, 1) := dk_172 (dk_at dksX1_causeOf_0 21 rfl rfl)
abbrev cX1_isTold : ByteArray := prog_1_method_49_code
def yX1_isTold : MethodName := ⟨RX1, "isTold", "()Z"⟩
def dkwX1_isTold_3 : List UInt8 := [192, 0, 234, 182, 0, 233, 156, 0, 5, 3, 172, 132, 3, 1, 167, 255, 204, 4, 172]
abbrev dktX1_isTold_3 : List UInt8 := dkwX1_isTold_3 ++ []
def dkwX1_isTold_2 : List UInt8 := [180, 1, 41, 44, 29, 182, 0, 143, 192, 0, 234, 180, 1, 41, 160, 0, 17, 43, 29, 182, 0, 143]
abbrev dktX1_isTold_2 : List UInt8 := dkwX1_isTold_2 ++ dktX1_isTold_3
def dkwX1_isTold_1 : List UInt8 := [180, 1, 75, 77, 3, 62, 29, 43, 182, 0, 122, 162, 0, 50, 43, 29, 182, 0, 143, 192, 0, 234]
abbrev dktX1_isTold_1 : List UInt8 := dkwX1_isTold_1 ++ dktX1_isTold_2
def dkwX1_isTold_0 : List UInt8 := [42, 182, 0, 226, 180, 1, 75, 76, 187, 0, 73, 89, 42, 180, 0, 10, 2, 183, 0, 75, 182, 1, 52]
abbrev dktX1_isTold_0 : List UInt8 := dkwX1_isTold_0 ++ dktX1_isTold_1
theorem dksX1_isTold_0 : cX1_isTold.data.toList.drop 0 = dktX1_isTold_0 := by decide +kernel
theorem dksX1_isTold_1 : cX1_isTold.data.toList.drop 23 = dktX1_isTold_1 := dk_seg dksX1_isTold_0 23 rfl rfl
theorem dksX1_isTold_2 : cX1_isTold.data.toList.drop 45 = dktX1_isTold_2 := dk_seg dksX1_isTold_1 22 rfl rfl
theorem dksX1_isTold_3 : cX1_isTold.data.toList.drop 67 = dktX1_isTold_3 := dk_seg dksX1_isTold_2 22 rfl rfl
theorem dX1_isTold_0 : decode cX1_isTold 0 = .ok (.aload_n 0, 1) := dk_42 (dk_at dksX1_isTold_0 0 rfl rfl)
theorem dX1_isTold_1 : decode cX1_isTold 1 = .ok (.invokevirtual 226, 3) := dk_182 0 226 (dk_at dksX1_isTold_0 1 rfl rfl)
theorem dX1_isTold_4 : decode cX1_isTold 4 = .ok (.getfield 331, 3) := dk_180 1 75 (dk_at dksX1_isTold_0 4 rfl rfl)
theorem dX1_isTold_7 : decode cX1_isTold 7 = .ok (.astore_n 1, 1) := dk_76 (dk_at dksX1_isTold_0 7 rfl rfl)
theorem dX1_isTold_8 : decode cX1_isTold 8 = .ok (.new 73, 3) := dk_187 0 73 (dk_at dksX1_isTold_0 8 rfl rfl)
theorem dX1_isTold_11 : decode cX1_isTold 11 = .ok (.dup, 1) := dk_89 (dk_at dksX1_isTold_0 11 rfl rfl)
theorem dX1_isTold_12 : decode cX1_isTold 12 = .ok (.aload_n 0, 1) := dk_42 (dk_at dksX1_isTold_0 12 rfl rfl)
theorem dX1_isTold_13 : decode cX1_isTold 13 = .ok (.getfield 10, 3) := dk_180 0 10 (dk_at dksX1_isTold_0 13 rfl rfl)
theorem dX1_isTold_16 : decode cX1_isTold 16 = .ok (.iconst (-1), 1) := dk_2 (dk_at dksX1_isTold_0 16 rfl rfl)
theorem dX1_isTold_17 : decode cX1_isTold 17 = .ok (.invokespecial 75, 3) := dk_183 0 75 (dk_at dksX1_isTold_0 17 rfl rfl)
theorem dX1_isTold_20 : decode cX1_isTold 20 = .ok (.invokevirtual 308, 3) := dk_182 1 52 (dk_at dksX1_isTold_0 20 rfl rfl)
theorem dX1_isTold_23 : decode cX1_isTold 23 = .ok (.getfield 331, 3) := dk_180 1 75 (dk_at dksX1_isTold_1 0 rfl rfl)
theorem dX1_isTold_26 : decode cX1_isTold 26 = .ok (.astore_n 2, 1) := dk_77 (dk_at dksX1_isTold_1 3 rfl rfl)
theorem dX1_isTold_27 : decode cX1_isTold 27 = .ok (.iconst 0, 1) := dk_3 (dk_at dksX1_isTold_1 4 rfl rfl)
theorem dX1_isTold_28 : decode cX1_isTold 28 = .ok (.istore_n 3, 1) := dk_62 (dk_at dksX1_isTold_1 5 rfl rfl)
theorem dX1_isTold_29 : decode cX1_isTold 29 = .ok (.iload_n 3, 1) := dk_29 (dk_at dksX1_isTold_1 6 rfl rfl)
theorem dX1_isTold_30 : decode cX1_isTold 30 = .ok (.aload_n 1, 1) := dk_43 (dk_at dksX1_isTold_1 7 rfl rfl)
theorem dX1_isTold_31 : decode cX1_isTold 31 = .ok (.invokevirtual 122, 3) := dk_182 0 122 (dk_at dksX1_isTold_1 8 rfl rfl)
theorem dX1_isTold_34 : decode cX1_isTold 34 = .ok (.if_icmp .ge 50, 3) := dk_162 0 50 (dk_at dksX1_isTold_1 11 rfl rfl)
theorem dX1_isTold_37 : decode cX1_isTold 37 = .ok (.aload_n 1, 1) := dk_43 (dk_at dksX1_isTold_1 14 rfl rfl)
theorem dX1_isTold_38 : decode cX1_isTold 38 = .ok (.iload_n 3, 1) := dk_29 (dk_at dksX1_isTold_1 15 rfl rfl)
theorem dX1_isTold_39 : decode cX1_isTold 39 = .ok (.invokevirtual 143, 3) := dk_182 0 143 (dk_at dksX1_isTold_1 16 rfl rfl)
theorem dX1_isTold_42 : decode cX1_isTold 42 = .ok (.checkcast 234, 3) := dk_192 0 234 (dk_at dksX1_isTold_1 19 rfl rfl)
theorem dX1_isTold_45 : decode cX1_isTold 45 = .ok (.getfield 297, 3) := dk_180 1 41 (dk_at dksX1_isTold_2 0 rfl rfl)
theorem dX1_isTold_48 : decode cX1_isTold 48 = .ok (.aload_n 2, 1) := dk_44 (dk_at dksX1_isTold_2 3 rfl rfl)
theorem dX1_isTold_49 : decode cX1_isTold 49 = .ok (.iload_n 3, 1) := dk_29 (dk_at dksX1_isTold_2 4 rfl rfl)
theorem dX1_isTold_50 : decode cX1_isTold 50 = .ok (.invokevirtual 143, 3) := dk_182 0 143 (dk_at dksX1_isTold_2 5 rfl rfl)
theorem dX1_isTold_53 : decode cX1_isTold 53 = .ok (.checkcast 234, 3) := dk_192 0 234 (dk_at dksX1_isTold_2 8 rfl rfl)
theorem dX1_isTold_56 : decode cX1_isTold 56 = .ok (.getfield 297, 3) := dk_180 1 41 (dk_at dksX1_isTold_2 11 rfl rfl)
theorem dX1_isTold_59 : decode cX1_isTold 59 = .ok (.if_icmp .ne 17, 3) := dk_160 0 17 (dk_at dksX1_isTold_2 14 rfl rfl)
theorem dX1_isTold_62 : decode cX1_isTold 62 = .ok (.aload_n 1, 1) := dk_43 (dk_at dksX1_isTold_2 17 rfl rfl)
theorem dX1_isTold_63 : decode cX1_isTold 63 = .ok (.iload_n 3, 1) := dk_29 (dk_at dksX1_isTold_2 18 rfl rfl)
theorem dX1_isTold_64 : decode cX1_isTold 64 = .ok (.invokevirtual 143, 3) := dk_182 0 143 (dk_at dksX1_isTold_2 19 rfl rfl)
theorem dX1_isTold_67 : decode cX1_isTold 67 = .ok (.checkcast 234, 3) := dk_192 0 234 (dk_at dksX1_isTold_3 0 rfl rfl)
theorem dX1_isTold_70 : decode cX1_isTold 70 = .ok (.invokevirtual 233, 3) := dk_182 0 233 (dk_at dksX1_isTold_3 3 rfl rfl)
theorem dX1_isTold_73 : decode cX1_isTold 73 = .ok (.ifCond .ge 5, 3) := dk_156 0 5 (dk_at dksX1_isTold_3 6 rfl rfl)
theorem dX1_isTold_76 : decode cX1_isTold 76 = .ok (.iconst 0, 1) := dk_3 (dk_at dksX1_isTold_3 9 rfl rfl)
theorem dX1_isTold_77 : decode cX1_isTold 77 = .ok (.ireturn, 1) := dk_172 (dk_at dksX1_isTold_3 10 rfl rfl)
theorem dX1_isTold_78 : decode cX1_isTold 78 = .ok (.iinc 3 1, 3) := dk_132 3 1 (dk_at dksX1_isTold_3 11 rfl rfl)
theorem dX1_isTold_81 : decode cX1_isTold 81 = .ok (.goto (-52), 3) := dk_167 255 204 (dk_at dksX1_isTold_3 14 rfl rfl)
theorem dX1_isTold_84 : decode cX1_isTold 84 = .ok (.iconst 1, 1) := dk_4 (dk_at dksX1_isTold_3 17 rfl rfl)
theorem dX1_isTold_85 : decode cX1_isTold 85 = .ok (.ireturn, 1) := dk_172 (dk_at dksX1_isTold_3 18 rfl rfl)
abbrev cX1_faultPosition : ByteArray := prog_1_method_54_code
def yX1_faultPosition : MethodName := ⟨RX1, "faultPosition", "()I"⟩
theorem dX1_faultPosition_0 : decode cX1_faultPosition 0 = .ok (.aload_n 0, 1) := by decide +kernel
theorem dX1_faultPosition_1 : decode cX1_faultPosition 1 = .ok (.getfield 33, 3) := by decide +kernel
theorem dX1_faultPosition_4 : decode cX1_faultPosition 4 = .ok (.ireturn, 1) := by decide +kernel
abbrev cX1_tellLinks : ByteArray := prog_1_method_58_code
def yX1_tellLinks : MethodName := ⟨RX1, "tellLinks", "()I"⟩
def dkwX1_tellLinks_7 : List UInt8 := [180, 0, 30, 182, 1, 160, 172]
abbrev dktX1_tellLinks_7 : List UInt8 := dkwX1_tellLinks_7 ++ []
def dkwX1_tellLinks_6 : List UInt8 := [180, 0, 30, 16, 119, 182, 1, 166, 43, 28, 182, 1, 68, 182, 1, 206, 87, 132, 2, 1, 167, 255, 113, 42]
abbrev dktX1_tellLinks_6 : List UInt8 := dkwX1_tellLinks_6 ++ dktX1_tellLinks_7
def dkwX1_tellLinks_5 : List UInt8 := [42, 180, 0, 30, 16, 33, 182, 1, 166, 87, 167, 0, 29, 43, 28, 182, 1, 68, 158, 0, 21, 42]
abbrev dktX1_tellLinks_5 : List UInt8 := dkwX1_tellLinks_5 ++ dktX1_tellLinks_6
def dkwX1_tellLinks_4 : List UInt8 := [182, 1, 206, 16, 46, 182, 1, 166, 45, 180, 1, 55, 182, 1, 206, 87, 43, 28, 182, 1, 65, 154, 0, 16]
abbrev dktX1_tellLinks_4 : List UInt8 := dkwX1_tellLinks_4 ++ dktX1_tellLinks_5
def dkwX1_tellLinks_3 : List UInt8 := [182, 1, 206, 16, 46, 182, 1, 166, 45, 180, 1, 58, 182, 1, 206, 16, 62, 182, 1, 166, 45, 180, 1, 2]
abbrev dktX1_tellLinks_3 : List UInt8 := dkwX1_tellLinks_3 ++ dktX1_tellLinks_4
def dkwX1_tellLinks_2 : List UInt8 := [180, 0, 30, 28, 158, 0, 9, 19, 1, 209, 167, 0, 6, 19, 1, 211, 182, 1, 203, 45, 180, 0, 255]
abbrev dktX1_tellLinks_2 : List UInt8 := dkwX1_tellLinks_2 ++ dktX1_tellLinks_3
def dkwX1_tellLinks_1 : List UInt8 := [182, 0, 122, 162, 0, 135, 42, 180, 0, 10, 180, 0, 191, 28, 182, 0, 143, 192, 0, 194, 78, 42]
abbrev dktX1_tellLinks_1 : List UInt8 := dkwX1_tellLinks_1 ++ dktX1_tellLinks_2
def dkwX1_tellLinks_0 : List UInt8 := [42, 182, 0, 226, 76, 42, 180, 0, 30, 3, 182, 1, 179, 3, 61, 28, 42, 180, 0, 10, 180, 0, 191]
abbrev dktX1_tellLinks_0 : List UInt8 := dkwX1_tellLinks_0 ++ dktX1_tellLinks_1
theorem dksX1_tellLinks_0 : cX1_tellLinks.data.toList.drop 0 = dktX1_tellLinks_0 := by decide +kernel
theorem dksX1_tellLinks_1 : cX1_tellLinks.data.toList.drop 23 = dktX1_tellLinks_1 := dk_seg dksX1_tellLinks_0 23 rfl rfl
theorem dksX1_tellLinks_2 : cX1_tellLinks.data.toList.drop 45 = dktX1_tellLinks_2 := dk_seg dksX1_tellLinks_1 22 rfl rfl
theorem dksX1_tellLinks_3 : cX1_tellLinks.data.toList.drop 68 = dktX1_tellLinks_3 := dk_seg dksX1_tellLinks_2 23 rfl rfl
theorem dksX1_tellLinks_4 : cX1_tellLinks.data.toList.drop 92 = dktX1_tellLinks_4 := dk_seg dksX1_tellLinks_3 24 rfl rfl
theorem dksX1_tellLinks_5 : cX1_tellLinks.data.toList.drop 116 = dktX1_tellLinks_5 := dk_seg dksX1_tellLinks_4 24 rfl rfl
theorem dksX1_tellLinks_6 : cX1_tellLinks.data.toList.drop 138 = dktX1_tellLinks_6 := dk_seg dksX1_tellLinks_5 22 rfl rfl
theorem dksX1_tellLinks_7 : cX1_tellLinks.data.toList.drop 162 = dktX1_tellLinks_7 := dk_seg dksX1_tellLinks_6 24 rfl rfl
theorem dX1_tellLinks_0 : decode cX1_tellLinks 0 = .ok (.aload_n 0, 1) := dk_42 (dk_at dksX1_tellLinks_0 0 rfl rfl)
theorem dX1_tellLinks_1 : decode cX1_tellLinks 1 = .ok (.invokevirtual 226, 3) := dk_182 0 226 (dk_at dksX1_tellLinks_0 1 rfl rfl)
theorem dX1_tellLinks_4 : decode cX1_tellLinks 4 = .ok (.astore_n 1, 1) := dk_76 (dk_at dksX1_tellLinks_0 4 rfl rfl)
theorem dX1_tellLinks_5 : decode cX1_tellLinks 5 = .ok (.aload_n 0, 1) := dk_42 (dk_at dksX1_tellLinks_0 5 rfl rfl)
theorem dX1_tellLinks_6 : decode cX1_tellLinks 6 = .ok (.getfield 30, 3) := dk_180 0 30 (dk_at dksX1_tellLinks_0 6 rfl rfl)
theorem dX1_tellLinks_9 : decode cX1_tellLinks 9 = .ok (.iconst 0, 1) := dk_3 (dk_at dksX1_tellLinks_0 9 rfl rfl)
theorem dX1_tellLinks_10 : decode cX1_tellLinks 10 = .ok (.invokevirtual 435, 3) := dk_182 1 179 (dk_at dksX1_tellLinks_0 10 rfl rfl)
theorem dX1_tellLinks_13 : decode cX1_tellLinks 13 = .ok (.iconst 0, 1) := dk_3 (dk_at dksX1_tellLinks_0 13 rfl rfl)
theorem dX1_tellLinks_14 : decode cX1_tellLinks 14 = .ok (.istore_n 2, 1) := dk_61 (dk_at dksX1_tellLinks_0 14 rfl rfl)
theorem dX1_tellLinks_15 : decode cX1_tellLinks 15 = .ok (.iload_n 2, 1) := dk_28 (dk_at dksX1_tellLinks_0 15 rfl rfl)
theorem dX1_tellLinks_16 : decode cX1_tellLinks 16 = .ok (.aload_n 0, 1) := dk_42 (dk_at dksX1_tellLinks_0 16 rfl rfl)
theorem dX1_tellLinks_17 : decode cX1_tellLinks 17 = .ok (.getfield 10, 3) := dk_180 0 10 (dk_at dksX1_tellLinks_0 17 rfl rfl)
theorem dX1_tellLinks_20 : decode cX1_tellLinks 20 = .ok (.getfield 191, 3) := dk_180 0 191 (dk_at dksX1_tellLinks_0 20 rfl rfl)
theorem dX1_tellLinks_23 : decode cX1_tellLinks 23 = .ok (.invokevirtual 122, 3) := dk_182 0 122 (dk_at dksX1_tellLinks_1 0 rfl rfl)
theorem dX1_tellLinks_26 : decode cX1_tellLinks 26 = .ok (.if_icmp .ge 135, 3) := dk_162 0 135 (dk_at dksX1_tellLinks_1 3 rfl rfl)
theorem dX1_tellLinks_29 : decode cX1_tellLinks 29 = .ok (.aload_n 0, 1) := dk_42 (dk_at dksX1_tellLinks_1 6 rfl rfl)
theorem dX1_tellLinks_30 : decode cX1_tellLinks 30 = .ok (.getfield 10, 3) := dk_180 0 10 (dk_at dksX1_tellLinks_1 7 rfl rfl)
theorem dX1_tellLinks_33 : decode cX1_tellLinks 33 = .ok (.getfield 191, 3) := dk_180 0 191 (dk_at dksX1_tellLinks_1 10 rfl rfl)
theorem dX1_tellLinks_36 : decode cX1_tellLinks 36 = .ok (.iload_n 2, 1) := dk_28 (dk_at dksX1_tellLinks_1 13 rfl rfl)
theorem dX1_tellLinks_37 : decode cX1_tellLinks 37 = .ok (.invokevirtual 143, 3) := dk_182 0 143 (dk_at dksX1_tellLinks_1 14 rfl rfl)
theorem dX1_tellLinks_40 : decode cX1_tellLinks 40 = .ok (.checkcast 194, 3) := dk_192 0 194 (dk_at dksX1_tellLinks_1 17 rfl rfl)
theorem dX1_tellLinks_43 : decode cX1_tellLinks 43 = .ok (.astore_n 3, 1) := dk_78 (dk_at dksX1_tellLinks_1 20 rfl rfl)
theorem dX1_tellLinks_44 : decode cX1_tellLinks 44 = .ok (.aload_n 0, 1) := dk_42 (dk_at dksX1_tellLinks_1 21 rfl rfl)
theorem dX1_tellLinks_45 : decode cX1_tellLinks 45 = .ok (.getfield 30, 3) := dk_180 0 30 (dk_at dksX1_tellLinks_2 0 rfl rfl)
theorem dX1_tellLinks_48 : decode cX1_tellLinks 48 = .ok (.iload_n 2, 1) := dk_28 (dk_at dksX1_tellLinks_2 3 rfl rfl)
theorem dX1_tellLinks_49 : decode cX1_tellLinks 49 = .ok (.ifCond .le 9, 3) := dk_158 0 9 (dk_at dksX1_tellLinks_2 4 rfl rfl)
theorem dX1_tellLinks_52 : decode cX1_tellLinks 52 = .ok (.ldc_w 465, 3) := dk_19 1 209 (dk_at dksX1_tellLinks_2 7 rfl rfl)
theorem dX1_tellLinks_55 : decode cX1_tellLinks 55 = .ok (.goto 6, 3) := dk_167 0 6 (dk_at dksX1_tellLinks_2 10 rfl rfl)
theorem dX1_tellLinks_58 : decode cX1_tellLinks 58 = .ok (.ldc_w 467, 3) := dk_19 1 211 (dk_at dksX1_tellLinks_2 13 rfl rfl)
theorem dX1_tellLinks_61 : decode cX1_tellLinks 61 = .ok (.invokevirtual 459, 3) := dk_182 1 203 (dk_at dksX1_tellLinks_2 16 rfl rfl)
theorem dX1_tellLinks_64 : decode cX1_tellLinks 64 = .ok (.aload_n 3, 1) := dk_45 (dk_at dksX1_tellLinks_2 19 rfl rfl)
theorem dX1_tellLinks_65 : decode cX1_tellLinks 65 = .ok (.getfield 255, 3) := dk_180 0 255 (dk_at dksX1_tellLinks_2 20 rfl rfl)
theorem dX1_tellLinks_68 : decode cX1_tellLinks 68 = .ok (.invokevirtual 462, 3) := dk_182 1 206 (dk_at dksX1_tellLinks_3 0 rfl rfl)
theorem dX1_tellLinks_71 : decode cX1_tellLinks 71 = .ok (.bipush 46, 2) := dk_16 46 (dk_at dksX1_tellLinks_3 3 rfl rfl)
theorem dX1_tellLinks_73 : decode cX1_tellLinks 73 = .ok (.invokevirtual 422, 3) := dk_182 1 166 (dk_at dksX1_tellLinks_3 5 rfl rfl)
theorem dX1_tellLinks_76 : decode cX1_tellLinks 76 = .ok (.aload_n 3, 1) := dk_45 (dk_at dksX1_tellLinks_3 8 rfl rfl)
theorem dX1_tellLinks_77 : decode cX1_tellLinks 77 = .ok (.getfield 314, 3) := dk_180 1 58 (dk_at dksX1_tellLinks_3 9 rfl rfl)
theorem dX1_tellLinks_80 : decode cX1_tellLinks 80 = .ok (.invokevirtual 462, 3) := dk_182 1 206 (dk_at dksX1_tellLinks_3 12 rfl rfl)
theorem dX1_tellLinks_83 : decode cX1_tellLinks 83 = .ok (.bipush 62, 2) := dk_16 62 (dk_at dksX1_tellLinks_3 15 rfl rfl)
theorem dX1_tellLinks_85 : decode cX1_tellLinks 85 = .ok (.invokevirtual 422, 3) := dk_182 1 166 (dk_at dksX1_tellLinks_3 17 rfl rfl)
theorem dX1_tellLinks_88 : decode cX1_tellLinks 88 = .ok (.aload_n 3, 1) := dk_45 (dk_at dksX1_tellLinks_3 20 rfl rfl)
theorem dX1_tellLinks_89 : decode cX1_tellLinks 89 = .ok (.getfield 258, 3) := dk_180 1 2 (dk_at dksX1_tellLinks_3 21 rfl rfl)
theorem dX1_tellLinks_92 : decode cX1_tellLinks 92 = .ok (.invokevirtual 462, 3) := dk_182 1 206 (dk_at dksX1_tellLinks_4 0 rfl rfl)
theorem dX1_tellLinks_95 : decode cX1_tellLinks 95 = .ok (.bipush 46, 2) := dk_16 46 (dk_at dksX1_tellLinks_4 3 rfl rfl)
theorem dX1_tellLinks_97 : decode cX1_tellLinks 97 = .ok (.invokevirtual 422, 3) := dk_182 1 166 (dk_at dksX1_tellLinks_4 5 rfl rfl)
theorem dX1_tellLinks_100 : decode cX1_tellLinks 100 = .ok (.aload_n 3, 1) := dk_45 (dk_at dksX1_tellLinks_4 8 rfl rfl)
theorem dX1_tellLinks_101 : decode cX1_tellLinks 101 = .ok (.getfield 311, 3) := dk_180 1 55 (dk_at dksX1_tellLinks_4 9 rfl rfl)
theorem dX1_tellLinks_104 : decode cX1_tellLinks 104 = .ok (.invokevirtual 462, 3) := dk_182 1 206 (dk_at dksX1_tellLinks_4 12 rfl rfl)
theorem dX1_tellLinks_107 : decode cX1_tellLinks 107 = .ok (.pop, 1) := dk_87 (dk_at dksX1_tellLinks_4 15 rfl rfl)
theorem dX1_tellLinks_108 : decode cX1_tellLinks 108 = .ok (.aload_n 1, 1) := dk_43 (dk_at dksX1_tellLinks_4 16 rfl rfl)
theorem dX1_tellLinks_109 : decode cX1_tellLinks 109 = .ok (.iload_n 2, 1) := dk_28 (dk_at dksX1_tellLinks_4 17 rfl rfl)
theorem dX1_tellLinks_110 : decode cX1_tellLinks 110 = .ok (.invokevirtual 321, 3) := dk_182 1 65 (dk_at dksX1_tellLinks_4 18 rfl rfl)
theorem dX1_tellLinks_113 : decode cX1_tellLinks 113 = .ok (.ifCond .ne 16, 3) := dk_154 0 16 (dk_at dksX1_tellLinks_4 21 rfl rfl)
theorem dX1_tellLinks_116 : decode cX1_tellLinks 116 = .ok (.aload_n 0, 1) := dk_42 (dk_at dksX1_tellLinks_5 0 rfl rfl)
theorem dX1_tellLinks_117 : decode cX1_tellLinks 117 = .ok (.getfield 30, 3) := dk_180 0 30 (dk_at dksX1_tellLinks_5 1 rfl rfl)
theorem dX1_tellLinks_120 : decode cX1_tellLinks 120 = .ok (.bipush 33, 2) := dk_16 33 (dk_at dksX1_tellLinks_5 4 rfl rfl)
theorem dX1_tellLinks_122 : decode cX1_tellLinks 122 = .ok (.invokevirtual 422, 3) := dk_182 1 166 (dk_at dksX1_tellLinks_5 6 rfl rfl)
theorem dX1_tellLinks_125 : decode cX1_tellLinks 125 = .ok (.pop, 1) := dk_87 (dk_at dksX1_tellLinks_5 9 rfl rfl)
theorem dX1_tellLinks_126 : decode cX1_tellLinks 126 = .ok (.goto 29, 3) := dk_167 0 29 (dk_at dksX1_tellLinks_5 10 rfl rfl)
theorem dX1_tellLinks_129 : decode cX1_tellLinks 129 = .ok (.aload_n 1, 1) := dk_43 (dk_at dksX1_tellLinks_5 13 rfl rfl)
theorem dX1_tellLinks_130 : decode cX1_tellLinks 130 = .ok (.iload_n 2, 1) := dk_28 (dk_at dksX1_tellLinks_5 14 rfl rfl)
theorem dX1_tellLinks_131 : decode cX1_tellLinks 131 = .ok (.invokevirtual 324, 3) := dk_182 1 68 (dk_at dksX1_tellLinks_5 15 rfl rfl)
theorem dX1_tellLinks_134 : decode cX1_tellLinks 134 = .ok (.ifCond .le 21, 3) := dk_158 0 21 (dk_at dksX1_tellLinks_5 18 rfl rfl)
theorem dX1_tellLinks_137 : decode cX1_tellLinks 137 = .ok (.aload_n 0, 1) := dk_42 (dk_at dksX1_tellLinks_5 21 rfl rfl)
theorem dX1_tellLinks_138 : decode cX1_tellLinks 138 = .ok (.getfield 30, 3) := dk_180 0 30 (dk_at dksX1_tellLinks_6 0 rfl rfl)
theorem dX1_tellLinks_141 : decode cX1_tellLinks 141 = .ok (.bipush 119, 2) := dk_16 119 (dk_at dksX1_tellLinks_6 3 rfl rfl)
theorem dX1_tellLinks_143 : decode cX1_tellLinks 143 = .ok (.invokevirtual 422, 3) := dk_182 1 166 (dk_at dksX1_tellLinks_6 5 rfl rfl)
theorem dX1_tellLinks_146 : decode cX1_tellLinks 146 = .ok (.aload_n 1, 1) := dk_43 (dk_at dksX1_tellLinks_6 8 rfl rfl)
theorem dX1_tellLinks_147 : decode cX1_tellLinks 147 = .ok (.iload_n 2, 1) := dk_28 (dk_at dksX1_tellLinks_6 9 rfl rfl)
theorem dX1_tellLinks_148 : decode cX1_tellLinks 148 = .ok (.invokevirtual 324, 3) := dk_182 1 68 (dk_at dksX1_tellLinks_6 10 rfl rfl)
theorem dX1_tellLinks_151 : decode cX1_tellLinks 151 = .ok (.invokevirtual 462, 3) := dk_182 1 206 (dk_at dksX1_tellLinks_6 13 rfl rfl)
theorem dX1_tellLinks_154 : decode cX1_tellLinks 154 = .ok (.pop, 1) := dk_87 (dk_at dksX1_tellLinks_6 16 rfl rfl)
theorem dX1_tellLinks_155 : decode cX1_tellLinks 155 = .ok (.iinc 2 1, 3) := dk_132 2 1 (dk_at dksX1_tellLinks_6 17 rfl rfl)
theorem dX1_tellLinks_158 : decode cX1_tellLinks 158 = .ok (.goto (-143), 3) := dk_167 255 113 (dk_at dksX1_tellLinks_6 20 rfl rfl)
theorem dX1_tellLinks_161 : decode cX1_tellLinks 161 = .ok (.aload_n 0, 1) := dk_42 (dk_at dksX1_tellLinks_6 23 rfl rfl)
theorem dX1_tellLinks_162 : decode cX1_tellLinks 162 = .ok (.getfield 30, 3) := dk_180 0 30 (dk_at dksX1_tellLinks_7 0 rfl rfl)
theorem dX1_tellLinks_165 : decode cX1_tellLinks 165 = .ok (.invokevirtual 416, 3) := dk_182 1 160 (dk_at dksX1_tellLinks_7 3 rfl rfl)
theorem dX1_tellLinks_168 : decode cX1_tellLinks 168 = .ok (.ireturn, 1) := dk_172 (dk_at dksX1_tellLinks_7 6 rfl rfl)
abbrev cX1_save : ByteArray := prog_1_method_69_code
def yX1_save : MethodName := ⟨RX1, "save", "()I"⟩
def dkwX1_save_0 : List UInt8 := [42, 42, 180, 0, 10, 182, 0, 86, 181, 1, 251, 42, 180, 0, 10, 180, 0, 118, 182, 0, 122, 172]
abbrev dktX1_save_0 : List UInt8 := dkwX1_save_0 ++ []
theorem dksX1_save_0 : cX1_save.data.toList.drop 0 = dktX1_save_0 := by decide +kernel
theorem dX1_save_0 : decode cX1_save 0 = .ok (.aload_n 0, 1) := dk_42 (dk_at dksX1_save_0 0 rfl rfl)
theorem dX1_save_1 : decode cX1_save 1 = .ok (.aload_n 0, 1) := dk_42 (dk_at dksX1_save_0 1 rfl rfl)
theorem dX1_save_2 : decode cX1_save 2 = .ok (.getfield 10, 3) := dk_180 0 10 (dk_at dksX1_save_0 2 rfl rfl)
theorem dX1_save_5 : decode cX1_save 5 = .ok (.invokevirtual 86, 3) := dk_182 0 86 (dk_at dksX1_save_0 5 rfl rfl)
theorem dX1_save_8 : decode cX1_save 8 = .ok (.putfield 507, 3) := dk_181 1 251 (dk_at dksX1_save_0 8 rfl rfl)
theorem dX1_save_11 : decode cX1_save 11 = .ok (.aload_n 0, 1) := dk_42 (dk_at dksX1_save_0 11 rfl rfl)
theorem dX1_save_12 : decode cX1_save 12 = .ok (.getfield 10, 3) := dk_180 0 10 (dk_at dksX1_save_0 12 rfl rfl)
theorem dX1_save_15 : decode cX1_save 15 = .ok (.getfield 118, 3) := dk_180 0 118 (dk_at dksX1_save_0 15 rfl rfl)
theorem dX1_save_18 : decode cX1_save 18 = .ok (.invokevirtual 122, 3) := dk_182 0 122 (dk_at dksX1_save_0 18 rfl rfl)
theorem dX1_save_21 : decode cX1_save 21 = .ok (.ireturn, 1) := dk_172 (dk_at dksX1_save_0 21 rfl rfl)
abbrev cX1_coach : ByteArray := prog_1_method_15_code
def yX1_coach : MethodName := ⟨RX1, "coach", "(II)I"⟩
def dkwX1_coach_4 : List UInt8 := [180, 0, 10, 180, 0, 118, 182, 0, 122, 4, 100, 172]
abbrev dktX1_coach_4 : List UInt8 := dkwX1_coach_4 ++ []
def dkwX1_coach_3 : List UInt8 := [28, 28, 183, 0, 136, 182, 0, 139, 87, 42, 180, 0, 10, 180, 0, 118, 45, 182, 0, 139, 87, 42]
abbrev dktX1_coach_3 : List UInt8 := dkwX1_coach_3 ++ dktX1_coach_4
def dkwX1_coach_2 : List UInt8 := [182, 0, 125, 187, 0, 128, 89, 183, 0, 130, 78, 45, 180, 0, 131, 187, 0, 134, 89, 27, 3, 3, 3, 3]
abbrev dktX1_coach_2 : List UInt8 := dkwX1_coach_2 ++ dktX1_coach_3
def dkwX1_coach_1 : List UInt8 := [180, 0, 118, 182, 0, 122, 16, 6, 160, 0, 7, 4, 167, 0, 4, 3, 5, 16, 6, 182, 0, 53, 42]
abbrev dktX1_coach_1 : List UInt8 := dkwX1_coach_1 ++ dktX1_coach_2
def dkwX1_coach_0 : List UInt8 := [42, 27, 3, 16, 9, 182, 0, 114, 42, 28, 3, 17, 2, 88, 182, 0, 114, 42, 42, 180, 0, 10]
abbrev dktX1_coach_0 : List UInt8 := dkwX1_coach_0 ++ dktX1_coach_1
theorem dksX1_coach_0 : cX1_coach.data.toList.drop 0 = dktX1_coach_0 := by decide +kernel
theorem dksX1_coach_1 : cX1_coach.data.toList.drop 22 = dktX1_coach_1 := dk_seg dksX1_coach_0 22 rfl rfl
theorem dksX1_coach_2 : cX1_coach.data.toList.drop 45 = dktX1_coach_2 := dk_seg dksX1_coach_1 23 rfl rfl
theorem dksX1_coach_3 : cX1_coach.data.toList.drop 69 = dktX1_coach_3 := dk_seg dksX1_coach_2 24 rfl rfl
theorem dksX1_coach_4 : cX1_coach.data.toList.drop 91 = dktX1_coach_4 := dk_seg dksX1_coach_3 22 rfl rfl
theorem dX1_coach_0 : decode cX1_coach 0 = .ok (.aload_n 0, 1) := dk_42 (dk_at dksX1_coach_0 0 rfl rfl)
theorem dX1_coach_1 : decode cX1_coach 1 = .ok (.iload_n 1, 1) := dk_27 (dk_at dksX1_coach_0 1 rfl rfl)
theorem dX1_coach_2 : decode cX1_coach 2 = .ok (.iconst 0, 1) := dk_3 (dk_at dksX1_coach_0 2 rfl rfl)
theorem dX1_coach_3 : decode cX1_coach 3 = .ok (.bipush 9, 2) := dk_16 9 (dk_at dksX1_coach_0 3 rfl rfl)
theorem dX1_coach_5 : decode cX1_coach 5 = .ok (.invokevirtual 114, 3) := dk_182 0 114 (dk_at dksX1_coach_0 5 rfl rfl)
theorem dX1_coach_8 : decode cX1_coach 8 = .ok (.aload_n 0, 1) := dk_42 (dk_at dksX1_coach_0 8 rfl rfl)
theorem dX1_coach_9 : decode cX1_coach 9 = .ok (.iload_n 2, 1) := dk_28 (dk_at dksX1_coach_0 9 rfl rfl)
theorem dX1_coach_10 : decode cX1_coach 10 = .ok (.iconst 0, 1) := dk_3 (dk_at dksX1_coach_0 10 rfl rfl)
theorem dX1_coach_11 : decode cX1_coach 11 = .ok (.sipush 600, 3) := dk_17 2 88 (dk_at dksX1_coach_0 11 rfl rfl)
theorem dX1_coach_14 : decode cX1_coach 14 = .ok (.invokevirtual 114, 3) := dk_182 0 114 (dk_at dksX1_coach_0 14 rfl rfl)
theorem dX1_coach_17 : decode cX1_coach 17 = .ok (.aload_n 0, 1) := dk_42 (dk_at dksX1_coach_0 17 rfl rfl)
theorem dX1_coach_18 : decode cX1_coach 18 = .ok (.aload_n 0, 1) := dk_42 (dk_at dksX1_coach_0 18 rfl rfl)
theorem dX1_coach_19 : decode cX1_coach 19 = .ok (.getfield 10, 3) := dk_180 0 10 (dk_at dksX1_coach_0 19 rfl rfl)
theorem dX1_coach_22 : decode cX1_coach 22 = .ok (.getfield 118, 3) := dk_180 0 118 (dk_at dksX1_coach_1 0 rfl rfl)
theorem dX1_coach_25 : decode cX1_coach 25 = .ok (.invokevirtual 122, 3) := dk_182 0 122 (dk_at dksX1_coach_1 3 rfl rfl)
theorem dX1_coach_28 : decode cX1_coach 28 = .ok (.bipush 6, 2) := dk_16 6 (dk_at dksX1_coach_1 6 rfl rfl)
theorem dX1_coach_30 : decode cX1_coach 30 = .ok (.if_icmp .ne 7, 3) := dk_160 0 7 (dk_at dksX1_coach_1 8 rfl rfl)
theorem dX1_coach_33 : decode cX1_coach 33 = .ok (.iconst 1, 1) := dk_4 (dk_at dksX1_coach_1 11 rfl rfl)
theorem dX1_coach_34 : decode cX1_coach 34 = .ok (.goto 4, 3) := dk_167 0 4 (dk_at dksX1_coach_1 12 rfl rfl)
theorem dX1_coach_37 : decode cX1_coach 37 = .ok (.iconst 0, 1) := dk_3 (dk_at dksX1_coach_1 15 rfl rfl)
theorem dX1_coach_38 : decode cX1_coach 38 = .ok (.iconst 2, 1) := dk_5 (dk_at dksX1_coach_1 16 rfl rfl)
theorem dX1_coach_39 : decode cX1_coach 39 = .ok (.bipush 6, 2) := dk_16 6 (dk_at dksX1_coach_1 17 rfl rfl)
theorem dX1_coach_41 : decode cX1_coach 41 = .ok (.invokevirtual 53, 3) := dk_182 0 53 (dk_at dksX1_coach_1 19 rfl rfl)
theorem dX1_coach_44 : decode cX1_coach 44 = .ok (.aload_n 0, 1) := dk_42 (dk_at dksX1_coach_1 22 rfl rfl)
theorem dX1_coach_45 : decode cX1_coach 45 = .ok (.invokevirtual 125, 3) := dk_182 0 125 (dk_at dksX1_coach_2 0 rfl rfl)
theorem dX1_coach_48 : decode cX1_coach 48 = .ok (.new 128, 3) := dk_187 0 128 (dk_at dksX1_coach_2 3 rfl rfl)
theorem dX1_coach_51 : decode cX1_coach 51 = .ok (.dup, 1) := dk_89 (dk_at dksX1_coach_2 6 rfl rfl)
theorem dX1_coach_52 : decode cX1_coach 52 = .ok (.invokespecial 130, 3) := dk_183 0 130 (dk_at dksX1_coach_2 7 rfl rfl)
theorem dX1_coach_55 : decode cX1_coach 55 = .ok (.astore_n 3, 1) := dk_78 (dk_at dksX1_coach_2 10 rfl rfl)
theorem dX1_coach_56 : decode cX1_coach 56 = .ok (.aload_n 3, 1) := dk_45 (dk_at dksX1_coach_2 11 rfl rfl)
theorem dX1_coach_57 : decode cX1_coach 57 = .ok (.getfield 131, 3) := dk_180 0 131 (dk_at dksX1_coach_2 12 rfl rfl)
theorem dX1_coach_60 : decode cX1_coach 60 = .ok (.new 134, 3) := dk_187 0 134 (dk_at dksX1_coach_2 15 rfl rfl)
theorem dX1_coach_63 : decode cX1_coach 63 = .ok (.dup, 1) := dk_89 (dk_at dksX1_coach_2 18 rfl rfl)
theorem dX1_coach_64 : decode cX1_coach 64 = .ok (.iload_n 1, 1) := dk_27 (dk_at dksX1_coach_2 19 rfl rfl)
theorem dX1_coach_65 : decode cX1_coach 65 = .ok (.iconst 0, 1) := dk_3 (dk_at dksX1_coach_2 20 rfl rfl)
theorem dX1_coach_66 : decode cX1_coach 66 = .ok (.iconst 0, 1) := dk_3 (dk_at dksX1_coach_2 21 rfl rfl)
theorem dX1_coach_67 : decode cX1_coach 67 = .ok (.iconst 0, 1) := dk_3 (dk_at dksX1_coach_2 22 rfl rfl)
theorem dX1_coach_68 : decode cX1_coach 68 = .ok (.iconst 0, 1) := dk_3 (dk_at dksX1_coach_2 23 rfl rfl)
theorem dX1_coach_69 : decode cX1_coach 69 = .ok (.iload_n 2, 1) := dk_28 (dk_at dksX1_coach_3 0 rfl rfl)
theorem dX1_coach_70 : decode cX1_coach 70 = .ok (.iload_n 2, 1) := dk_28 (dk_at dksX1_coach_3 1 rfl rfl)
theorem dX1_coach_71 : decode cX1_coach 71 = .ok (.invokespecial 136, 3) := dk_183 0 136 (dk_at dksX1_coach_3 2 rfl rfl)
theorem dX1_coach_74 : decode cX1_coach 74 = .ok (.invokevirtual 139, 3) := dk_182 0 139 (dk_at dksX1_coach_3 5 rfl rfl)
theorem dX1_coach_77 : decode cX1_coach 77 = .ok (.pop, 1) := dk_87 (dk_at dksX1_coach_3 8 rfl rfl)
theorem dX1_coach_78 : decode cX1_coach 78 = .ok (.aload_n 0, 1) := dk_42 (dk_at dksX1_coach_3 9 rfl rfl)
theorem dX1_coach_79 : decode cX1_coach 79 = .ok (.getfield 10, 3) := dk_180 0 10 (dk_at dksX1_coach_3 10 rfl rfl)
theorem dX1_coach_82 : decode cX1_coach 82 = .ok (.getfield 118, 3) := dk_180 0 118 (dk_at dksX1_coach_3 13 rfl rfl)
theorem dX1_coach_85 : decode cX1_coach 85 = .ok (.aload_n 3, 1) := dk_45 (dk_at dksX1_coach_3 16 rfl rfl)
theorem dX1_coach_86 : decode cX1_coach 86 = .ok (.invokevirtual 139, 3) := dk_182 0 139 (dk_at dksX1_coach_3 17 rfl rfl)
theorem dX1_coach_89 : decode cX1_coach 89 = .ok (.pop, 1) := dk_87 (dk_at dksX1_coach_3 20 rfl rfl)
theorem dX1_coach_90 : decode cX1_coach 90 = .ok (.aload_n 0, 1) := dk_42 (dk_at dksX1_coach_3 21 rfl rfl)
theorem dX1_coach_91 : decode cX1_coach 91 = .ok (.getfield 10, 3) := dk_180 0 10 (dk_at dksX1_coach_4 0 rfl rfl)
theorem dX1_coach_94 : decode cX1_coach 94 = .ok (.getfield 118, 3) := dk_180 0 118 (dk_at dksX1_coach_4 3 rfl rfl)
theorem dX1_coach_97 : decode cX1_coach 97 = .ok (.invokevirtual 122, 3) := dk_182 0 122 (dk_at dksX1_coach_4 6 rfl rfl)
theorem dX1_coach_100 : decode cX1_coach 100 = .ok (.iconst 1, 1) := dk_4 (dk_at dksX1_coach_4 9 rfl rfl)
theorem dX1_coach_101 : decode cX1_coach 101 = .ok (.isub, 1) := dk_100 (dk_at dksX1_coach_4 10 rfl rfl)
theorem dX1_coach_102 : decode cX1_coach 102 = .ok (.ireturn, 1) := dk_172 (dk_at dksX1_coach_4 11 rfl rfl)
abbrev cX1_inRange : ByteArray := prog_1_method_4_code
def yX1_inRange : MethodName := ⟨RX1, "inRange", "(III)V"⟩
def dkwX1_inRange_0 : List UInt8 := [42, 27, 28, 29, 184, 0, 49, 154, 0, 7, 4, 167, 0, 4, 3, 4, 27, 182, 0, 53, 177]
abbrev dktX1_inRange_0 : List UInt8 := dkwX1_inRange_0 ++ []
theorem dksX1_inRange_0 : cX1_inRange.data.toList.drop 0 = dktX1_inRange_0 := by decide +kernel
theorem dX1_inRange_0 : decode cX1_inRange 0 = .ok (.aload_n 0, 1) := dk_42 (dk_at dksX1_inRange_0 0 rfl rfl)
theorem dX1_inRange_1 : decode cX1_inRange 1 = .ok (.iload_n 1, 1) := dk_27 (dk_at dksX1_inRange_0 1 rfl rfl)
theorem dX1_inRange_2 : decode cX1_inRange 2 = .ok (.iload_n 2, 1) := dk_28 (dk_at dksX1_inRange_0 2 rfl rfl)
theorem dX1_inRange_3 : decode cX1_inRange 3 = .ok (.iload_n 3, 1) := dk_29 (dk_at dksX1_inRange_0 3 rfl rfl)
theorem dX1_inRange_4 : decode cX1_inRange 4 = .ok (.invokestatic 49, 3) := dk_184 0 49 (dk_at dksX1_inRange_0 4 rfl rfl)
theorem dX1_inRange_7 : decode cX1_inRange 7 = .ok (.ifCond .ne 7, 3) := dk_154 0 7 (dk_at dksX1_inRange_0 7 rfl rfl)
theorem dX1_inRange_10 : decode cX1_inRange 10 = .ok (.iconst 1, 1) := dk_4 (dk_at dksX1_inRange_0 10 rfl rfl)
theorem dX1_inRange_11 : decode cX1_inRange 11 = .ok (.goto 4, 3) := dk_167 0 4 (dk_at dksX1_inRange_0 11 rfl rfl)
theorem dX1_inRange_14 : decode cX1_inRange 14 = .ok (.iconst 0, 1) := dk_3 (dk_at dksX1_inRange_0 14 rfl rfl)
theorem dX1_inRange_15 : decode cX1_inRange 15 = .ok (.iconst 1, 1) := dk_4 (dk_at dksX1_inRange_0 15 rfl rfl)
theorem dX1_inRange_16 : decode cX1_inRange 16 = .ok (.iload_n 1, 1) := dk_27 (dk_at dksX1_inRange_0 16 rfl rfl)
theorem dX1_inRange_17 : decode cX1_inRange 17 = .ok (.invokevirtual 53, 3) := dk_182 0 53 (dk_at dksX1_inRange_0 17 rfl rfl)
theorem dX1_inRange_20 : decode cX1_inRange 20 = .ok (.return_, 1) := dk_177 (dk_at dksX1_inRange_0 20 rfl rfl)
abbrev cX1_isBetween : ByteArray := prog_1_method_2_code
def yX1_isBetween : MethodName := ⟨RX1, "isBetween", "(III)Z"⟩
def dkwX1_isBetween_0 : List UInt8 := [26, 27, 161, 0, 12, 26, 28, 163, 0, 7, 4, 167, 0, 4, 3, 172]
abbrev dktX1_isBetween_0 : List UInt8 := dkwX1_isBetween_0 ++ []
theorem dksX1_isBetween_0 : cX1_isBetween.data.toList.drop 0 = dktX1_isBetween_0 := by decide +kernel
theorem dX1_isBetween_0 : decode cX1_isBetween 0 = .ok (.iload_n 0, 1) := dk_26 (dk_at dksX1_isBetween_0 0 rfl rfl)
theorem dX1_isBetween_1 : decode cX1_isBetween 1 = .ok (.iload_n 1, 1) := dk_27 (dk_at dksX1_isBetween_0 1 rfl rfl)
theorem dX1_isBetween_2 : decode cX1_isBetween 2 = .ok (.if_icmp .lt 12, 3) := dk_161 0 12 (dk_at dksX1_isBetween_0 2 rfl rfl)
theorem dX1_isBetween_5 : decode cX1_isBetween 5 = .ok (.iload_n 0, 1) := dk_26 (dk_at dksX1_isBetween_0 5 rfl rfl)
theorem dX1_isBetween_6 : decode cX1_isBetween 6 = .ok (.iload_n 2, 1) := dk_28 (dk_at dksX1_isBetween_0 6 rfl rfl)
theorem dX1_isBetween_7 : decode cX1_isBetween 7 = .ok (.if_icmp .gt 7, 3) := dk_163 0 7 (dk_at dksX1_isBetween_0 7 rfl rfl)
theorem dX1_isBetween_10 : decode cX1_isBetween 10 = .ok (.iconst 1, 1) := dk_4 (dk_at dksX1_isBetween_0 10 rfl rfl)
theorem dX1_isBetween_11 : decode cX1_isBetween 11 = .ok (.goto 4, 3) := dk_167 0 4 (dk_at dksX1_isBetween_0 11 rfl rfl)
theorem dX1_isBetween_14 : decode cX1_isBetween 14 = .ok (.iconst 0, 1) := dk_3 (dk_at dksX1_isBetween_0 14 rfl rfl)
theorem dX1_isBetween_15 : decode cX1_isBetween 15 = .ok (.ireturn, 1) := dk_172 (dk_at dksX1_isBetween_0 15 rfl rfl)
abbrev cX1_refuse : ByteArray := prog_1_method_3_code
def yX1_refuse : MethodName := ⟨RX1, "refuse", "(ZII)V"⟩
def dkwX1_refuse_1 : List UInt8 := [183, 0, 48, 191, 177]
abbrev dktX1_refuse_1 : List UInt8 := dkwX1_refuse_1 ++ []
def dkwX1_refuse_0 : List UInt8 := [27, 153, 0, 25, 42, 187, 0, 37, 89, 28, 29, 1, 183, 0, 39, 181, 0, 42, 187, 0, 46, 89]
abbrev dktX1_refuse_0 : List UInt8 := dkwX1_refuse_0 ++ dktX1_refuse_1
theorem dksX1_refuse_0 : cX1_refuse.data.toList.drop 0 = dktX1_refuse_0 := by decide +kernel
theorem dksX1_refuse_1 : cX1_refuse.data.toList.drop 22 = dktX1_refuse_1 := dk_seg dksX1_refuse_0 22 rfl rfl
theorem dX1_refuse_0 : decode cX1_refuse 0 = .ok (.iload_n 1, 1) := dk_27 (dk_at dksX1_refuse_0 0 rfl rfl)
theorem dX1_refuse_1 : decode cX1_refuse 1 = .ok (.ifCond .eq 25, 3) := dk_153 0 25 (dk_at dksX1_refuse_0 1 rfl rfl)
theorem dX1_refuse_4 : decode cX1_refuse 4 = .ok (.aload_n 0, 1) := dk_42 (dk_at dksX1_refuse_0 4 rfl rfl)
theorem dX1_refuse_5 : decode cX1_refuse 5 = .ok (.new 37, 3) := dk_187 0 37 (dk_at dksX1_refuse_0 5 rfl rfl)
theorem dX1_refuse_8 : decode cX1_refuse 8 = .ok (.dup, 1) := dk_89 (dk_at dksX1_refuse_0 8 rfl rfl)
theorem dX1_refuse_9 : decode cX1_refuse 9 = .ok (.iload_n 2, 1) := dk_28 (dk_at dksX1_refuse_0 9 rfl rfl)
theorem dX1_refuse_10 : decode cX1_refuse 10 = .ok (.iload_n 3, 1) := dk_29 (dk_at dksX1_refuse_0 10 rfl rfl)
theorem dX1_refuse_11 : decode cX1_refuse 11 = .ok (.aconst_null, 1) := dk_1 (dk_at dksX1_refuse_0 11 rfl rfl)
theorem dX1_refuse_12 : decode cX1_refuse 12 = .ok (.invokespecial 39, 3) := dk_183 0 39 (dk_at dksX1_refuse_0 12 rfl rfl)
theorem dX1_refuse_15 : decode cX1_refuse 15 = .ok (.putfield 42, 3) := dk_181 0 42 (dk_at dksX1_refuse_0 15 rfl rfl)
theorem dX1_refuse_18 : decode cX1_refuse 18 = .ok (.new 46, 3) := dk_187 0 46 (dk_at dksX1_refuse_0 18 rfl rfl)
theorem dX1_refuse_21 : decode cX1_refuse 21 = .ok (.dup, 1) := dk_89 (dk_at dksX1_refuse_0 21 rfl rfl)
theorem dX1_refuse_22 : decode cX1_refuse 22 = .ok (.invokespecial 48, 3) := dk_183 0 48 (dk_at dksX1_refuse_1 0 rfl rfl)
theorem dX1_refuse_25 : decode cX1_refuse 25 = .ok (.athrow, 1) := dk_191 (dk_at dksX1_refuse_1 3 rfl rfl)
theorem dX1_refuse_26 : decode cX1_refuse 26 = .ok (.return_, 1) := dk_177 (dk_at dksX1_refuse_1 4 rfl rfl)
abbrev cX1_change : ByteArray := prog_1_method_11_code
def yX1_change : MethodName := ⟨RX1, "change", "()V"⟩
def dkwX1_change_1 : List UInt8 := [180, 0, 19, 182, 0, 94, 16, 8, 164, 0, 11, 42, 180, 0, 19, 182, 0, 98, 87, 177]
abbrev dktX1_change_1 : List UInt8 := dkwX1_change_1 ++ []
def dkwX1_change_0 : List UInt8 := [42, 180, 0, 82, 153, 0, 4, 177, 42, 180, 0, 19, 42, 180, 0, 10, 182, 0, 86, 182, 0, 90, 42]
abbrev dktX1_change_0 : List UInt8 := dkwX1_change_0 ++ dktX1_change_1
theorem dksX1_change_0 : cX1_change.data.toList.drop 0 = dktX1_change_0 := by decide +kernel
theorem dksX1_change_1 : cX1_change.data.toList.drop 23 = dktX1_change_1 := dk_seg dksX1_change_0 23 rfl rfl
theorem dX1_change_0 : decode cX1_change 0 = .ok (.aload_n 0, 1) := dk_42 (dk_at dksX1_change_0 0 rfl rfl)
theorem dX1_change_1 : decode cX1_change 1 = .ok (.getfield 82, 3) := dk_180 0 82 (dk_at dksX1_change_0 1 rfl rfl)
theorem dX1_change_4 : decode cX1_change 4 = .ok (.ifCond .eq 4, 3) := dk_153 0 4 (dk_at dksX1_change_0 4 rfl rfl)
theorem dX1_change_7 : decode cX1_change 7 = .ok (.return_, 1) := dk_177 (dk_at dksX1_change_0 7 rfl rfl)
theorem dX1_change_8 : decode cX1_change 8 = .ok (.aload_n 0, 1) := dk_42 (dk_at dksX1_change_0 8 rfl rfl)
theorem dX1_change_9 : decode cX1_change 9 = .ok (.getfield 19, 3) := dk_180 0 19 (dk_at dksX1_change_0 9 rfl rfl)
theorem dX1_change_12 : decode cX1_change 12 = .ok (.aload_n 0, 1) := dk_42 (dk_at dksX1_change_0 12 rfl rfl)
theorem dX1_change_13 : decode cX1_change 13 = .ok (.getfield 10, 3) := dk_180 0 10 (dk_at dksX1_change_0 13 rfl rfl)
theorem dX1_change_16 : decode cX1_change 16 = .ok (.invokevirtual 86, 3) := dk_182 0 86 (dk_at dksX1_change_0 16 rfl rfl)
theorem dX1_change_19 : decode cX1_change 19 = .ok (.invokevirtual 90, 3) := dk_182 0 90 (dk_at dksX1_change_0 19 rfl rfl)
theorem dX1_change_22 : decode cX1_change 22 = .ok (.aload_n 0, 1) := dk_42 (dk_at dksX1_change_0 22 rfl rfl)
theorem dX1_change_23 : decode cX1_change 23 = .ok (.getfield 19, 3) := dk_180 0 19 (dk_at dksX1_change_1 0 rfl rfl)
theorem dX1_change_26 : decode cX1_change 26 = .ok (.invokevirtual 94, 3) := dk_182 0 94 (dk_at dksX1_change_1 3 rfl rfl)
theorem dX1_change_29 : decode cX1_change 29 = .ok (.bipush 8, 2) := dk_16 8 (dk_at dksX1_change_1 6 rfl rfl)
theorem dX1_change_31 : decode cX1_change 31 = .ok (.if_icmp .le 11, 3) := dk_164 0 11 (dk_at dksX1_change_1 8 rfl rfl)
theorem dX1_change_34 : decode cX1_change 34 = .ok (.aload_n 0, 1) := dk_42 (dk_at dksX1_change_1 11 rfl rfl)
theorem dX1_change_35 : decode cX1_change 35 = .ok (.getfield 19, 3) := dk_180 0 19 (dk_at dksX1_change_1 12 rfl rfl)
theorem dX1_change_38 : decode cX1_change 38 = .ok (.invokevirtual 98, 3) := dk_182 0 98 (dk_at dksX1_change_1 15 rfl rfl)
theorem dX1_change_41 : decode cX1_change 41 = .ok (.pop, 1) := dk_87 (dk_at dksX1_change_1 18 rfl rfl)
theorem dX1_change_42 : decode cX1_change 42 = .ok (.return_, 1) := dk_177 (dk_at dksX1_change_1 19 rfl rfl)
abbrev cX1_leg : ByteArray := prog_1_method_16_code
def yX1_leg : MethodName := ⟨RX1, "leg", "(IIIIII)I"⟩
def dkwX1_leg_8 : List UInt8 := [172]
abbrev dktX1_leg_8 : List UInt8 := dkwX1_leg_8 ++ []
def dkwX1_leg_7 : List UInt8 := [28, 29, 21, 4, 21, 5, 21, 6, 21, 8, 21, 8, 21, 5, 96, 183, 0, 136, 182, 0, 139, 87, 21, 8]
abbrev dktX1_leg_7 : List UInt8 := dkwX1_leg_7 ++ dktX1_leg_8
def dkwX1_leg_6 : List UInt8 := [25, 7, 182, 0, 150, 180, 0, 154, 29, 96, 21, 4, 96, 54, 8, 25, 7, 180, 0, 131, 187, 0, 134, 89]
abbrev dktX1_leg_6 : List UInt8 := dkwX1_leg_6 ++ dktX1_leg_7
def dkwX1_leg_5 : List UInt8 := [182, 0, 53, 42, 182, 0, 125, 42, 180, 0, 10, 180, 0, 118, 27, 182, 0, 143, 192, 0, 128, 58, 7]
abbrev dktX1_leg_5 : List UInt8 := dkwX1_leg_5 ++ dktX1_leg_6
def dkwX1_leg_4 : List UInt8 := [192, 0, 128, 180, 0, 131, 182, 0, 122, 16, 6, 160, 0, 7, 4, 167, 0, 4, 3, 5, 16, 6]
abbrev dktX1_leg_4 : List UInt8 := dkwX1_leg_4 ++ dktX1_leg_5
def dkwX1_leg_3 : List UInt8 := [167, 0, 4, 3, 16, 9, 27, 182, 0, 53, 42, 42, 180, 0, 10, 180, 0, 118, 27, 182, 0, 143]
abbrev dktX1_leg_3 : List UInt8 := dkwX1_leg_3 ++ dktX1_leg_4
def dkwX1_leg_2 : List UInt8 := [42, 42, 180, 0, 10, 180, 0, 118, 27, 182, 0, 143, 192, 0, 128, 180, 0, 147, 2, 159, 0, 7, 4]
abbrev dktX1_leg_2 : List UInt8 := dkwX1_leg_2 ++ dktX1_leg_3
def dkwX1_leg_1 : List UInt8 := [3, 16, 30, 182, 0, 114, 42, 21, 5, 3, 16, 60, 182, 0, 114, 42, 21, 6, 3, 21, 5, 182, 0, 114]
abbrev dktX1_leg_1 : List UInt8 := dkwX1_leg_1 ++ dktX1_leg_2
def dkwX1_leg_0 : List UInt8 := [42, 27, 182, 0, 106, 42, 28, 3, 16, 9, 182, 0, 114, 42, 29, 4, 16, 60, 182, 0, 114, 42, 21, 4]
abbrev dktX1_leg_0 : List UInt8 := dkwX1_leg_0 ++ dktX1_leg_1
theorem dksX1_leg_0 : cX1_leg.data.toList.drop 0 = dktX1_leg_0 := by decide +kernel
theorem dksX1_leg_1 : cX1_leg.data.toList.drop 24 = dktX1_leg_1 := dk_seg dksX1_leg_0 24 rfl rfl
theorem dksX1_leg_2 : cX1_leg.data.toList.drop 48 = dktX1_leg_2 := dk_seg dksX1_leg_1 24 rfl rfl
theorem dksX1_leg_3 : cX1_leg.data.toList.drop 71 = dktX1_leg_3 := dk_seg dksX1_leg_2 23 rfl rfl
theorem dksX1_leg_4 : cX1_leg.data.toList.drop 93 = dktX1_leg_4 := dk_seg dksX1_leg_3 22 rfl rfl
theorem dksX1_leg_5 : cX1_leg.data.toList.drop 115 = dktX1_leg_5 := dk_seg dksX1_leg_4 22 rfl rfl
theorem dksX1_leg_6 : cX1_leg.data.toList.drop 138 = dktX1_leg_6 := dk_seg dksX1_leg_5 23 rfl rfl
theorem dksX1_leg_7 : cX1_leg.data.toList.drop 162 = dktX1_leg_7 := dk_seg dksX1_leg_6 24 rfl rfl
theorem dksX1_leg_8 : cX1_leg.data.toList.drop 186 = dktX1_leg_8 := dk_seg dksX1_leg_7 24 rfl rfl
theorem dX1_leg_0 : decode cX1_leg 0 = .ok (.aload_n 0, 1) := dk_42 (dk_at dksX1_leg_0 0 rfl rfl)
theorem dX1_leg_1 : decode cX1_leg 1 = .ok (.iload_n 1, 1) := dk_27 (dk_at dksX1_leg_0 1 rfl rfl)
theorem dX1_leg_2 : decode cX1_leg 2 = .ok (.invokevirtual 106, 3) := dk_182 0 106 (dk_at dksX1_leg_0 2 rfl rfl)
theorem dX1_leg_5 : decode cX1_leg 5 = .ok (.aload_n 0, 1) := dk_42 (dk_at dksX1_leg_0 5 rfl rfl)
theorem dX1_leg_6 : decode cX1_leg 6 = .ok (.iload_n 2, 1) := dk_28 (dk_at dksX1_leg_0 6 rfl rfl)
theorem dX1_leg_7 : decode cX1_leg 7 = .ok (.iconst 0, 1) := dk_3 (dk_at dksX1_leg_0 7 rfl rfl)
theorem dX1_leg_8 : decode cX1_leg 8 = .ok (.bipush 9, 2) := dk_16 9 (dk_at dksX1_leg_0 8 rfl rfl)
theorem dX1_leg_10 : decode cX1_leg 10 = .ok (.invokevirtual 114, 3) := dk_182 0 114 (dk_at dksX1_leg_0 10 rfl rfl)
theorem dX1_leg_13 : decode cX1_leg 13 = .ok (.aload_n 0, 1) := dk_42 (dk_at dksX1_leg_0 13 rfl rfl)
theorem dX1_leg_14 : decode cX1_leg 14 = .ok (.iload_n 3, 1) := dk_29 (dk_at dksX1_leg_0 14 rfl rfl)
theorem dX1_leg_15 : decode cX1_leg 15 = .ok (.iconst 1, 1) := dk_4 (dk_at dksX1_leg_0 15 rfl rfl)
theorem dX1_leg_16 : decode cX1_leg 16 = .ok (.bipush 60, 2) := dk_16 60 (dk_at dksX1_leg_0 16 rfl rfl)
theorem dX1_leg_18 : decode cX1_leg 18 = .ok (.invokevirtual 114, 3) := dk_182 0 114 (dk_at dksX1_leg_0 18 rfl rfl)
theorem dX1_leg_21 : decode cX1_leg 21 = .ok (.aload_n 0, 1) := dk_42 (dk_at dksX1_leg_0 21 rfl rfl)
theorem dX1_leg_22 : decode cX1_leg 22 = .ok (.iload 4, 2) := dk_21 4 (dk_at dksX1_leg_0 22 rfl rfl)
theorem dX1_leg_24 : decode cX1_leg 24 = .ok (.iconst 0, 1) := dk_3 (dk_at dksX1_leg_1 0 rfl rfl)
theorem dX1_leg_25 : decode cX1_leg 25 = .ok (.bipush 30, 2) := dk_16 30 (dk_at dksX1_leg_1 1 rfl rfl)
theorem dX1_leg_27 : decode cX1_leg 27 = .ok (.invokevirtual 114, 3) := dk_182 0 114 (dk_at dksX1_leg_1 3 rfl rfl)
theorem dX1_leg_30 : decode cX1_leg 30 = .ok (.aload_n 0, 1) := dk_42 (dk_at dksX1_leg_1 6 rfl rfl)
theorem dX1_leg_31 : decode cX1_leg 31 = .ok (.iload 5, 2) := dk_21 5 (dk_at dksX1_leg_1 7 rfl rfl)
theorem dX1_leg_33 : decode cX1_leg 33 = .ok (.iconst 0, 1) := dk_3 (dk_at dksX1_leg_1 9 rfl rfl)
theorem dX1_leg_34 : decode cX1_leg 34 = .ok (.bipush 60, 2) := dk_16 60 (dk_at dksX1_leg_1 10 rfl rfl)
theorem dX1_leg_36 : decode cX1_leg 36 = .ok (.invokevirtual 114, 3) := dk_182 0 114 (dk_at dksX1_leg_1 12 rfl rfl)
theorem dX1_leg_39 : decode cX1_leg 39 = .ok (.aload_n 0, 1) := dk_42 (dk_at dksX1_leg_1 15 rfl rfl)
theorem dX1_leg_40 : decode cX1_leg 40 = .ok (.iload 6, 2) := dk_21 6 (dk_at dksX1_leg_1 16 rfl rfl)
theorem dX1_leg_42 : decode cX1_leg 42 = .ok (.iconst 0, 1) := dk_3 (dk_at dksX1_leg_1 18 rfl rfl)
theorem dX1_leg_43 : decode cX1_leg 43 = .ok (.iload 5, 2) := dk_21 5 (dk_at dksX1_leg_1 19 rfl rfl)
theorem dX1_leg_45 : decode cX1_leg 45 = .ok (.invokevirtual 114, 3) := dk_182 0 114 (dk_at dksX1_leg_1 21 rfl rfl)
theorem dX1_leg_48 : decode cX1_leg 48 = .ok (.aload_n 0, 1) := dk_42 (dk_at dksX1_leg_2 0 rfl rfl)
theorem dX1_leg_49 : decode cX1_leg 49 = .ok (.aload_n 0, 1) := dk_42 (dk_at dksX1_leg_2 1 rfl rfl)
theorem dX1_leg_50 : decode cX1_leg 50 = .ok (.getfield 10, 3) := dk_180 0 10 (dk_at dksX1_leg_2 2 rfl rfl)
theorem dX1_leg_53 : decode cX1_leg 53 = .ok (.getfield 118, 3) := dk_180 0 118 (dk_at dksX1_leg_2 5 rfl rfl)
theorem dX1_leg_56 : decode cX1_leg 56 = .ok (.iload_n 1, 1) := dk_27 (dk_at dksX1_leg_2 8 rfl rfl)
theorem dX1_leg_57 : decode cX1_leg 57 = .ok (.invokevirtual 143, 3) := dk_182 0 143 (dk_at dksX1_leg_2 9 rfl rfl)
theorem dX1_leg_60 : decode cX1_leg 60 = .ok (.checkcast 128, 3) := dk_192 0 128 (dk_at dksX1_leg_2 12 rfl rfl)
theorem dX1_leg_63 : decode cX1_leg 63 = .ok (.getfield 147, 3) := dk_180 0 147 (dk_at dksX1_leg_2 15 rfl rfl)
theorem dX1_leg_66 : decode cX1_leg 66 = .ok (.iconst (-1), 1) := dk_2 (dk_at dksX1_leg_2 18 rfl rfl)
theorem dX1_leg_67 : decode cX1_leg 67 = .ok (.if_icmp .eq 7, 3) := dk_159 0 7 (dk_at dksX1_leg_2 19 rfl rfl)
theorem dX1_leg_70 : decode cX1_leg 70 = .ok (.iconst 1, 1) := dk_4 (dk_at dksX1_leg_2 22 rfl rfl)
theorem dX1_leg_71 : decode cX1_leg 71 = .ok (.goto 4, 3) := dk_167 0 4 (dk_at dksX1_leg_3 0 rfl rfl)
theorem dX1_leg_74 : decode cX1_leg 74 = .ok (.iconst 0, 1) := dk_3 (dk_at dksX1_leg_3 3 rfl rfl)
theorem dX1_leg_75 : decode cX1_leg 75 = .ok (.bipush 9, 2) := dk_16 9 (dk_at dksX1_leg_3 4 rfl rfl)
theorem dX1_leg_77 : decode cX1_leg 77 = .ok (.iload_n 1, 1) := dk_27 (dk_at dksX1_leg_3 6 rfl rfl)
theorem dX1_leg_78 : decode cX1_leg 78 = .ok (.invokevirtual 53, 3) := dk_182 0 53 (dk_at dksX1_leg_3 7 rfl rfl)
theorem dX1_leg_81 : decode cX1_leg 81 = .ok (.aload_n 0, 1) := dk_42 (dk_at dksX1_leg_3 10 rfl rfl)
theorem dX1_leg_82 : decode cX1_leg 82 = .ok (.aload_n 0, 1) := dk_42 (dk_at dksX1_leg_3 11 rfl rfl)
theorem dX1_leg_83 : decode cX1_leg 83 = .ok (.getfield 10, 3) := dk_180 0 10 (dk_at dksX1_leg_3 12 rfl rfl)
theorem dX1_leg_86 : decode cX1_leg 86 = .ok (.getfield 118, 3) := dk_180 0 118 (dk_at dksX1_leg_3 15 rfl rfl)
theorem dX1_leg_89 : decode cX1_leg 89 = .ok (.iload_n 1, 1) := dk_27 (dk_at dksX1_leg_3 18 rfl rfl)
theorem dX1_leg_90 : decode cX1_leg 90 = .ok (.invokevirtual 143, 3) := dk_182 0 143 (dk_at dksX1_leg_3 19 rfl rfl)
theorem dX1_leg_93 : decode cX1_leg 93 = .ok (.checkcast 128, 3) := dk_192 0 128 (dk_at dksX1_leg_4 0 rfl rfl)
theorem dX1_leg_96 : decode cX1_leg 96 = .ok (.getfield 131, 3) := dk_180 0 131 (dk_at dksX1_leg_4 3 rfl rfl)
theorem dX1_leg_99 : decode cX1_leg 99 = .ok (.invokevirtual 122, 3) := dk_182 0 122 (dk_at dksX1_leg_4 6 rfl rfl)
theorem dX1_leg_102 : decode cX1_leg 102 = .ok (.bipush 6, 2) := dk_16 6 (dk_at dksX1_leg_4 9 rfl rfl)
theorem dX1_leg_104 : decode cX1_leg 104 = .ok (.if_icmp .ne 7, 3) := dk_160 0 7 (dk_at dksX1_leg_4 11 rfl rfl)
theorem dX1_leg_107 : decode cX1_leg 107 = .ok (.iconst 1, 1) := dk_4 (dk_at dksX1_leg_4 14 rfl rfl)
theorem dX1_leg_108 : decode cX1_leg 108 = .ok (.goto 4, 3) := dk_167 0 4 (dk_at dksX1_leg_4 15 rfl rfl)
theorem dX1_leg_111 : decode cX1_leg 111 = .ok (.iconst 0, 1) := dk_3 (dk_at dksX1_leg_4 18 rfl rfl)
theorem dX1_leg_112 : decode cX1_leg 112 = .ok (.iconst 2, 1) := dk_5 (dk_at dksX1_leg_4 19 rfl rfl)
theorem dX1_leg_113 : decode cX1_leg 113 = .ok (.bipush 6, 2) := dk_16 6 (dk_at dksX1_leg_4 20 rfl rfl)
theorem dX1_leg_115 : decode cX1_leg 115 = .ok (.invokevirtual 53, 3) := dk_182 0 53 (dk_at dksX1_leg_5 0 rfl rfl)
theorem dX1_leg_118 : decode cX1_leg 118 = .ok (.aload_n 0, 1) := dk_42 (dk_at dksX1_leg_5 3 rfl rfl)
theorem dX1_leg_119 : decode cX1_leg 119 = .ok (.invokevirtual 125, 3) := dk_182 0 125 (dk_at dksX1_leg_5 4 rfl rfl)
theorem dX1_leg_122 : decode cX1_leg 122 = .ok (.aload_n 0, 1) := dk_42 (dk_at dksX1_leg_5 7 rfl rfl)
theorem dX1_leg_123 : decode cX1_leg 123 = .ok (.getfield 10, 3) := dk_180 0 10 (dk_at dksX1_leg_5 8 rfl rfl)
theorem dX1_leg_126 : decode cX1_leg 126 = .ok (.getfield 118, 3) := dk_180 0 118 (dk_at dksX1_leg_5 11 rfl rfl)
theorem dX1_leg_129 : decode cX1_leg 129 = .ok (.iload_n 1, 1) := dk_27 (dk_at dksX1_leg_5 14 rfl rfl)
theorem dX1_leg_130 : decode cX1_leg 130 = .ok (.invokevirtual 143, 3) := dk_182 0 143 (dk_at dksX1_leg_5 15 rfl rfl)
theorem dX1_leg_133 : decode cX1_leg 133 = .ok (.checkcast 128, 3) := dk_192 0 128 (dk_at dksX1_leg_5 18 rfl rfl)
theorem dX1_leg_136 : decode cX1_leg 136 = .ok (.astore 7, 2) := dk_58 7 (dk_at dksX1_leg_5 21 rfl rfl)
theorem dX1_leg_138 : decode cX1_leg 138 = .ok (.aload 7, 2) := dk_25 7 (dk_at dksX1_leg_6 0 rfl rfl)
theorem dX1_leg_140 : decode cX1_leg 140 = .ok (.invokevirtual 150, 3) := dk_182 0 150 (dk_at dksX1_leg_6 2 rfl rfl)
theorem dX1_leg_143 : decode cX1_leg 143 = .ok (.getfield 154, 3) := dk_180 0 154 (dk_at dksX1_leg_6 5 rfl rfl)
theorem dX1_leg_146 : decode cX1_leg 146 = .ok (.iload_n 3, 1) := dk_29 (dk_at dksX1_leg_6 8 rfl rfl)
theorem dX1_leg_147 : decode cX1_leg 147 = .ok (.iadd, 1) := dk_96 (dk_at dksX1_leg_6 9 rfl rfl)
theorem dX1_leg_148 : decode cX1_leg 148 = .ok (.iload 4, 2) := dk_21 4 (dk_at dksX1_leg_6 10 rfl rfl)
theorem dX1_leg_150 : decode cX1_leg 150 = .ok (.iadd, 1) := dk_96 (dk_at dksX1_leg_6 12 rfl rfl)
theorem dX1_leg_151 : decode cX1_leg 151 = .ok (.istore 8, 2) := dk_54 8 (dk_at dksX1_leg_6 13 rfl rfl)
theorem dX1_leg_153 : decode cX1_leg 153 = .ok (.aload 7, 2) := dk_25 7 (dk_at dksX1_leg_6 15 rfl rfl)
theorem dX1_leg_155 : decode cX1_leg 155 = .ok (.getfield 131, 3) := dk_180 0 131 (dk_at dksX1_leg_6 17 rfl rfl)
theorem dX1_leg_158 : decode cX1_leg 158 = .ok (.new 134, 3) := dk_187 0 134 (dk_at dksX1_leg_6 20 rfl rfl)
theorem dX1_leg_161 : decode cX1_leg 161 = .ok (.dup, 1) := dk_89 (dk_at dksX1_leg_6 23 rfl rfl)
theorem dX1_leg_162 : decode cX1_leg 162 = .ok (.iload_n 2, 1) := dk_28 (dk_at dksX1_leg_7 0 rfl rfl)
theorem dX1_leg_163 : decode cX1_leg 163 = .ok (.iload_n 3, 1) := dk_29 (dk_at dksX1_leg_7 1 rfl rfl)
theorem dX1_leg_164 : decode cX1_leg 164 = .ok (.iload 4, 2) := dk_21 4 (dk_at dksX1_leg_7 2 rfl rfl)
theorem dX1_leg_166 : decode cX1_leg 166 = .ok (.iload 5, 2) := dk_21 5 (dk_at dksX1_leg_7 4 rfl rfl)
theorem dX1_leg_168 : decode cX1_leg 168 = .ok (.iload 6, 2) := dk_21 6 (dk_at dksX1_leg_7 6 rfl rfl)
theorem dX1_leg_170 : decode cX1_leg 170 = .ok (.iload 8, 2) := dk_21 8 (dk_at dksX1_leg_7 8 rfl rfl)
theorem dX1_leg_172 : decode cX1_leg 172 = .ok (.iload 8, 2) := dk_21 8 (dk_at dksX1_leg_7 10 rfl rfl)
theorem dX1_leg_174 : decode cX1_leg 174 = .ok (.iload 5, 2) := dk_21 5 (dk_at dksX1_leg_7 12 rfl rfl)
theorem dX1_leg_176 : decode cX1_leg 176 = .ok (.iadd, 1) := dk_96 (dk_at dksX1_leg_7 14 rfl rfl)
theorem dX1_leg_177 : decode cX1_leg 177 = .ok (.invokespecial 136, 3) := dk_183 0 136 (dk_at dksX1_leg_7 15 rfl rfl)
theorem dX1_leg_180 : decode cX1_leg 180 = .ok (.invokevirtual 139, 3) := dk_182 0 139 (dk_at dksX1_leg_7 18 rfl rfl)
theorem dX1_leg_183 : decode cX1_leg 183 = .ok (.pop, 1) := dk_87 (dk_at dksX1_leg_7 21 rfl rfl)
theorem dX1_leg_184 : decode cX1_leg 184 = .ok (.iload 8, 2) := dk_21 8 (dk_at dksX1_leg_7 22 rfl rfl)
theorem dX1_leg_186 : decode cX1_leg 186 = .ok (.ireturn, 1) := dk_172 (dk_at dksX1_leg_8 0 rfl rfl)
abbrev cX1_mustBeCoach : ByteArray := prog_1_method_12_code
def yX1_mustBeCoach : MethodName := ⟨RX1, "mustBeCoach", "(I)V"⟩
def dkwX1_mustBeCoach_0 : List UInt8 := [42, 42, 180, 0, 10, 27, 182, 0, 102, 154, 0, 7, 4, 167, 0, 4, 3, 6, 27, 182, 0, 53, 177]
abbrev dktX1_mustBeCoach_0 : List UInt8 := dkwX1_mustBeCoach_0 ++ []
theorem dksX1_mustBeCoach_0 : cX1_mustBeCoach.data.toList.drop 0 = dktX1_mustBeCoach_0 := by decide +kernel
theorem dX1_mustBeCoach_0 : decode cX1_mustBeCoach 0 = .ok (.aload_n 0, 1) := dk_42 (dk_at dksX1_mustBeCoach_0 0 rfl rfl)
theorem dX1_mustBeCoach_1 : decode cX1_mustBeCoach 1 = .ok (.aload_n 0, 1) := dk_42 (dk_at dksX1_mustBeCoach_0 1 rfl rfl)
theorem dX1_mustBeCoach_2 : decode cX1_mustBeCoach 2 = .ok (.getfield 10, 3) := dk_180 0 10 (dk_at dksX1_mustBeCoach_0 2 rfl rfl)
theorem dX1_mustBeCoach_5 : decode cX1_mustBeCoach 5 = .ok (.iload_n 1, 1) := dk_27 (dk_at dksX1_mustBeCoach_0 5 rfl rfl)
theorem dX1_mustBeCoach_6 : decode cX1_mustBeCoach 6 = .ok (.invokevirtual 102, 3) := dk_182 0 102 (dk_at dksX1_mustBeCoach_0 6 rfl rfl)
theorem dX1_mustBeCoach_9 : decode cX1_mustBeCoach 9 = .ok (.ifCond .ne 7, 3) := dk_154 0 7 (dk_at dksX1_mustBeCoach_0 9 rfl rfl)
theorem dX1_mustBeCoach_12 : decode cX1_mustBeCoach 12 = .ok (.iconst 1, 1) := dk_4 (dk_at dksX1_mustBeCoach_0 12 rfl rfl)
theorem dX1_mustBeCoach_13 : decode cX1_mustBeCoach 13 = .ok (.goto 4, 3) := dk_167 0 4 (dk_at dksX1_mustBeCoach_0 13 rfl rfl)
theorem dX1_mustBeCoach_16 : decode cX1_mustBeCoach 16 = .ok (.iconst 0, 1) := dk_3 (dk_at dksX1_mustBeCoach_0 16 rfl rfl)
theorem dX1_mustBeCoach_17 : decode cX1_mustBeCoach 17 = .ok (.iconst 3, 1) := dk_6 (dk_at dksX1_mustBeCoach_0 17 rfl rfl)
theorem dX1_mustBeCoach_18 : decode cX1_mustBeCoach 18 = .ok (.iload_n 1, 1) := dk_27 (dk_at dksX1_mustBeCoach_0 18 rfl rfl)
theorem dX1_mustBeCoach_19 : decode cX1_mustBeCoach 19 = .ok (.invokevirtual 53, 3) := dk_182 0 53 (dk_at dksX1_mustBeCoach_0 19 rfl rfl)
theorem dX1_mustBeCoach_22 : decode cX1_mustBeCoach 22 = .ok (.return_, 1) := dk_177 (dk_at dksX1_mustBeCoach_0 22 rfl rfl)
abbrev cX1_turn : ByteArray := prog_1_method_18_code
def yX1_turn : MethodName := ⟨RX1, "turn", "(II)I"⟩
def dkwX1_turn_8 : List UInt8 := [180, 0, 164, 100, 16, 10, 100, 172]
abbrev dktX1_turn_8 : List UInt8 := dkwX1_turn_8 ++ []
def dkwX1_turn_7 : List UInt8 := [181, 0, 184, 42, 180, 0, 10, 28, 3, 182, 0, 157, 180, 0, 154, 42, 180, 0, 10, 27, 29, 182, 0, 157]
abbrev dktX1_turn_7 : List UInt8 := dkwX1_turn_7 ++ dktX1_turn_8
def dkwX1_turn_6 : List UInt8 := [192, 0, 128, 28, 181, 0, 147, 42, 180, 0, 10, 180, 0, 118, 28, 182, 0, 143, 192, 0, 128, 27]
abbrev dktX1_turn_6 : List UInt8 := dkwX1_turn_6 ++ dktX1_turn_7
def dkwX1_turn_5 : List UInt8 := [28, 3, 16, 10, 182, 0, 187, 42, 182, 0, 125, 42, 180, 0, 10, 180, 0, 118, 27, 182, 0, 143]
abbrev dktX1_turn_5 : List UInt8 := dkwX1_turn_5 ++ dktX1_turn_6
def dkwX1_turn_4 : List UInt8 := [192, 0, 128, 180, 0, 184, 2, 159, 0, 7, 4, 167, 0, 4, 3, 16, 9, 28, 182, 0, 53, 42, 27, 29]
abbrev dktX1_turn_4 : List UInt8 := dkwX1_turn_4 ++ dktX1_turn_5
def dkwX1_turn_3 : List UInt8 := [167, 0, 4, 3, 16, 9, 27, 182, 0, 53, 42, 42, 180, 0, 10, 180, 0, 118, 28, 182, 0, 143]
abbrev dktX1_turn_3 : List UInt8 := dkwX1_turn_3 ++ dktX1_turn_4
def dkwX1_turn_2 : List UInt8 := [42, 42, 180, 0, 10, 180, 0, 118, 27, 182, 0, 143, 192, 0, 128, 180, 0, 147, 2, 159, 0, 7, 4]
abbrev dktX1_turn_2 : List UInt8 := dkwX1_turn_2 ++ dktX1_turn_3
def dkwX1_turn_1 : List UInt8 := [182, 0, 122, 4, 100, 62, 42, 27, 29, 178, 0, 171, 182, 0, 177, 42, 28, 3, 178, 0, 181, 182, 0, 177]
abbrev dktX1_turn_1 : List UInt8 := dkwX1_turn_1 ++ dktX1_turn_2
def dkwX1_turn_0 : List UInt8 := [42, 27, 28, 182, 0, 167, 42, 180, 0, 10, 180, 0, 118, 27, 182, 0, 143, 192, 0, 128, 180, 0, 131]
abbrev dktX1_turn_0 : List UInt8 := dkwX1_turn_0 ++ dktX1_turn_1
theorem dksX1_turn_0 : cX1_turn.data.toList.drop 0 = dktX1_turn_0 := by decide +kernel
theorem dksX1_turn_1 : cX1_turn.data.toList.drop 23 = dktX1_turn_1 := dk_seg dksX1_turn_0 23 rfl rfl
theorem dksX1_turn_2 : cX1_turn.data.toList.drop 47 = dktX1_turn_2 := dk_seg dksX1_turn_1 24 rfl rfl
theorem dksX1_turn_3 : cX1_turn.data.toList.drop 70 = dktX1_turn_3 := dk_seg dksX1_turn_2 23 rfl rfl
theorem dksX1_turn_4 : cX1_turn.data.toList.drop 92 = dktX1_turn_4 := dk_seg dksX1_turn_3 22 rfl rfl
theorem dksX1_turn_5 : cX1_turn.data.toList.drop 116 = dktX1_turn_5 := dk_seg dksX1_turn_4 24 rfl rfl
theorem dksX1_turn_6 : cX1_turn.data.toList.drop 138 = dktX1_turn_6 := dk_seg dksX1_turn_5 22 rfl rfl
theorem dksX1_turn_7 : cX1_turn.data.toList.drop 160 = dktX1_turn_7 := dk_seg dksX1_turn_6 22 rfl rfl
theorem dksX1_turn_8 : cX1_turn.data.toList.drop 184 = dktX1_turn_8 := dk_seg dksX1_turn_7 24 rfl rfl
theorem dX1_turn_0 : decode cX1_turn 0 = .ok (.aload_n 0, 1) := dk_42 (dk_at dksX1_turn_0 0 rfl rfl)
theorem dX1_turn_1 : decode cX1_turn 1 = .ok (.iload_n 1, 1) := dk_27 (dk_at dksX1_turn_0 1 rfl rfl)
theorem dX1_turn_2 : decode cX1_turn 2 = .ok (.iload_n 2, 1) := dk_28 (dk_at dksX1_turn_0 2 rfl rfl)
theorem dX1_turn_3 : decode cX1_turn 3 = .ok (.invokevirtual 167, 3) := dk_182 0 167 (dk_at dksX1_turn_0 3 rfl rfl)
theorem dX1_turn_6 : decode cX1_turn 6 = .ok (.aload_n 0, 1) := dk_42 (dk_at dksX1_turn_0 6 rfl rfl)
theorem dX1_turn_7 : decode cX1_turn 7 = .ok (.getfield 10, 3) := dk_180 0 10 (dk_at dksX1_turn_0 7 rfl rfl)
theorem dX1_turn_10 : decode cX1_turn 10 = .ok (.getfield 118, 3) := dk_180 0 118 (dk_at dksX1_turn_0 10 rfl rfl)
theorem dX1_turn_13 : decode cX1_turn 13 = .ok (.iload_n 1, 1) := dk_27 (dk_at dksX1_turn_0 13 rfl rfl)
theorem dX1_turn_14 : decode cX1_turn 14 = .ok (.invokevirtual 143, 3) := dk_182 0 143 (dk_at dksX1_turn_0 14 rfl rfl)
theorem dX1_turn_17 : decode cX1_turn 17 = .ok (.checkcast 128, 3) := dk_192 0 128 (dk_at dksX1_turn_0 17 rfl rfl)
theorem dX1_turn_20 : decode cX1_turn 20 = .ok (.getfield 131, 3) := dk_180 0 131 (dk_at dksX1_turn_0 20 rfl rfl)
theorem dX1_turn_23 : decode cX1_turn 23 = .ok (.invokevirtual 122, 3) := dk_182 0 122 (dk_at dksX1_turn_1 0 rfl rfl)
theorem dX1_turn_26 : decode cX1_turn 26 = .ok (.iconst 1, 1) := dk_4 (dk_at dksX1_turn_1 3 rfl rfl)
theorem dX1_turn_27 : decode cX1_turn 27 = .ok (.isub, 1) := dk_100 (dk_at dksX1_turn_1 4 rfl rfl)
theorem dX1_turn_28 : decode cX1_turn 28 = .ok (.istore_n 3, 1) := dk_62 (dk_at dksX1_turn_1 5 rfl rfl)
theorem dX1_turn_29 : decode cX1_turn 29 = .ok (.aload_n 0, 1) := dk_42 (dk_at dksX1_turn_1 6 rfl rfl)
theorem dX1_turn_30 : decode cX1_turn 30 = .ok (.iload_n 1, 1) := dk_27 (dk_at dksX1_turn_1 7 rfl rfl)
theorem dX1_turn_31 : decode cX1_turn 31 = .ok (.iload_n 3, 1) := dk_29 (dk_at dksX1_turn_1 8 rfl rfl)
theorem dX1_turn_32 : decode cX1_turn 32 = .ok (.getstatic 171, 3) := dk_178 0 171 (dk_at dksX1_turn_1 9 rfl rfl)
theorem dX1_turn_35 : decode cX1_turn 35 = .ok (.invokevirtual 177, 3) := dk_182 0 177 (dk_at dksX1_turn_1 12 rfl rfl)
theorem dX1_turn_38 : decode cX1_turn 38 = .ok (.aload_n 0, 1) := dk_42 (dk_at dksX1_turn_1 15 rfl rfl)
theorem dX1_turn_39 : decode cX1_turn 39 = .ok (.iload_n 2, 1) := dk_28 (dk_at dksX1_turn_1 16 rfl rfl)
theorem dX1_turn_40 : decode cX1_turn 40 = .ok (.iconst 0, 1) := dk_3 (dk_at dksX1_turn_1 17 rfl rfl)
theorem dX1_turn_41 : decode cX1_turn 41 = .ok (.getstatic 181, 3) := dk_178 0 181 (dk_at dksX1_turn_1 18 rfl rfl)
theorem dX1_turn_44 : decode cX1_turn 44 = .ok (.invokevirtual 177, 3) := dk_182 0 177 (dk_at dksX1_turn_1 21 rfl rfl)
theorem dX1_turn_47 : decode cX1_turn 47 = .ok (.aload_n 0, 1) := dk_42 (dk_at dksX1_turn_2 0 rfl rfl)
theorem dX1_turn_48 : decode cX1_turn 48 = .ok (.aload_n 0, 1) := dk_42 (dk_at dksX1_turn_2 1 rfl rfl)
theorem dX1_turn_49 : decode cX1_turn 49 = .ok (.getfield 10, 3) := dk_180 0 10 (dk_at dksX1_turn_2 2 rfl rfl)
theorem dX1_turn_52 : decode cX1_turn 52 = .ok (.getfield 118, 3) := dk_180 0 118 (dk_at dksX1_turn_2 5 rfl rfl)
theorem dX1_turn_55 : decode cX1_turn 55 = .ok (.iload_n 1, 1) := dk_27 (dk_at dksX1_turn_2 8 rfl rfl)
theorem dX1_turn_56 : decode cX1_turn 56 = .ok (.invokevirtual 143, 3) := dk_182 0 143 (dk_at dksX1_turn_2 9 rfl rfl)
theorem dX1_turn_59 : decode cX1_turn 59 = .ok (.checkcast 128, 3) := dk_192 0 128 (dk_at dksX1_turn_2 12 rfl rfl)
theorem dX1_turn_62 : decode cX1_turn 62 = .ok (.getfield 147, 3) := dk_180 0 147 (dk_at dksX1_turn_2 15 rfl rfl)
theorem dX1_turn_65 : decode cX1_turn 65 = .ok (.iconst (-1), 1) := dk_2 (dk_at dksX1_turn_2 18 rfl rfl)
theorem dX1_turn_66 : decode cX1_turn 66 = .ok (.if_icmp .eq 7, 3) := dk_159 0 7 (dk_at dksX1_turn_2 19 rfl rfl)
theorem dX1_turn_69 : decode cX1_turn 69 = .ok (.iconst 1, 1) := dk_4 (dk_at dksX1_turn_2 22 rfl rfl)
theorem dX1_turn_70 : decode cX1_turn 70 = .ok (.goto 4, 3) := dk_167 0 4 (dk_at dksX1_turn_3 0 rfl rfl)
theorem dX1_turn_73 : decode cX1_turn 73 = .ok (.iconst 0, 1) := dk_3 (dk_at dksX1_turn_3 3 rfl rfl)
theorem dX1_turn_74 : decode cX1_turn 74 = .ok (.bipush 9, 2) := dk_16 9 (dk_at dksX1_turn_3 4 rfl rfl)
theorem dX1_turn_76 : decode cX1_turn 76 = .ok (.iload_n 1, 1) := dk_27 (dk_at dksX1_turn_3 6 rfl rfl)
theorem dX1_turn_77 : decode cX1_turn 77 = .ok (.invokevirtual 53, 3) := dk_182 0 53 (dk_at dksX1_turn_3 7 rfl rfl)
theorem dX1_turn_80 : decode cX1_turn 80 = .ok (.aload_n 0, 1) := dk_42 (dk_at dksX1_turn_3 10 rfl rfl)
theorem dX1_turn_81 : decode cX1_turn 81 = .ok (.aload_n 0, 1) := dk_42 (dk_at dksX1_turn_3 11 rfl rfl)
theorem dX1_turn_82 : decode cX1_turn 82 = .ok (.getfield 10, 3) := dk_180 0 10 (dk_at dksX1_turn_3 12 rfl rfl)
theorem dX1_turn_85 : decode cX1_turn 85 = .ok (.getfield 118, 3) := dk_180 0 118 (dk_at dksX1_turn_3 15 rfl rfl)
theorem dX1_turn_88 : decode cX1_turn 88 = .ok (.iload_n 2, 1) := dk_28 (dk_at dksX1_turn_3 18 rfl rfl)
theorem dX1_turn_89 : decode cX1_turn 89 = .ok (.invokevirtual 143, 3) := dk_182 0 143 (dk_at dksX1_turn_3 19 rfl rfl)
theorem dX1_turn_92 : decode cX1_turn 92 = .ok (.checkcast 128, 3) := dk_192 0 128 (dk_at dksX1_turn_4 0 rfl rfl)
theorem dX1_turn_95 : decode cX1_turn 95 = .ok (.getfield 184, 3) := dk_180 0 184 (dk_at dksX1_turn_4 3 rfl rfl)
theorem dX1_turn_98 : decode cX1_turn 98 = .ok (.iconst (-1), 1) := dk_2 (dk_at dksX1_turn_4 6 rfl rfl)
theorem dX1_turn_99 : decode cX1_turn 99 = .ok (.if_icmp .eq 7, 3) := dk_159 0 7 (dk_at dksX1_turn_4 7 rfl rfl)
theorem dX1_turn_102 : decode cX1_turn 102 = .ok (.iconst 1, 1) := dk_4 (dk_at dksX1_turn_4 10 rfl rfl)
theorem dX1_turn_103 : decode cX1_turn 103 = .ok (.goto 4, 3) := dk_167 0 4 (dk_at dksX1_turn_4 11 rfl rfl)
theorem dX1_turn_106 : decode cX1_turn 106 = .ok (.iconst 0, 1) := dk_3 (dk_at dksX1_turn_4 14 rfl rfl)
theorem dX1_turn_107 : decode cX1_turn 107 = .ok (.bipush 9, 2) := dk_16 9 (dk_at dksX1_turn_4 15 rfl rfl)
theorem dX1_turn_109 : decode cX1_turn 109 = .ok (.iload_n 2, 1) := dk_28 (dk_at dksX1_turn_4 17 rfl rfl)
theorem dX1_turn_110 : decode cX1_turn 110 = .ok (.invokevirtual 53, 3) := dk_182 0 53 (dk_at dksX1_turn_4 18 rfl rfl)
theorem dX1_turn_113 : decode cX1_turn 113 = .ok (.aload_n 0, 1) := dk_42 (dk_at dksX1_turn_4 21 rfl rfl)
theorem dX1_turn_114 : decode cX1_turn 114 = .ok (.iload_n 1, 1) := dk_27 (dk_at dksX1_turn_4 22 rfl rfl)
theorem dX1_turn_115 : decode cX1_turn 115 = .ok (.iload_n 3, 1) := dk_29 (dk_at dksX1_turn_4 23 rfl rfl)
theorem dX1_turn_116 : decode cX1_turn 116 = .ok (.iload_n 2, 1) := dk_28 (dk_at dksX1_turn_5 0 rfl rfl)
theorem dX1_turn_117 : decode cX1_turn 117 = .ok (.iconst 0, 1) := dk_3 (dk_at dksX1_turn_5 1 rfl rfl)
theorem dX1_turn_118 : decode cX1_turn 118 = .ok (.bipush 10, 2) := dk_16 10 (dk_at dksX1_turn_5 2 rfl rfl)
theorem dX1_turn_120 : decode cX1_turn 120 = .ok (.invokevirtual 187, 3) := dk_182 0 187 (dk_at dksX1_turn_5 4 rfl rfl)
theorem dX1_turn_123 : decode cX1_turn 123 = .ok (.aload_n 0, 1) := dk_42 (dk_at dksX1_turn_5 7 rfl rfl)
theorem dX1_turn_124 : decode cX1_turn 124 = .ok (.invokevirtual 125, 3) := dk_182 0 125 (dk_at dksX1_turn_5 8 rfl rfl)
theorem dX1_turn_127 : decode cX1_turn 127 = .ok (.aload_n 0, 1) := dk_42 (dk_at dksX1_turn_5 11 rfl rfl)
theorem dX1_turn_128 : decode cX1_turn 128 = .ok (.getfield 10, 3) := dk_180 0 10 (dk_at dksX1_turn_5 12 rfl rfl)
theorem dX1_turn_131 : decode cX1_turn 131 = .ok (.getfield 118, 3) := dk_180 0 118 (dk_at dksX1_turn_5 15 rfl rfl)
theorem dX1_turn_134 : decode cX1_turn 134 = .ok (.iload_n 1, 1) := dk_27 (dk_at dksX1_turn_5 18 rfl rfl)
theorem dX1_turn_135 : decode cX1_turn 135 = .ok (.invokevirtual 143, 3) := dk_182 0 143 (dk_at dksX1_turn_5 19 rfl rfl)
theorem dX1_turn_138 : decode cX1_turn 138 = .ok (.checkcast 128, 3) := dk_192 0 128 (dk_at dksX1_turn_6 0 rfl rfl)
theorem dX1_turn_141 : decode cX1_turn 141 = .ok (.iload_n 2, 1) := dk_28 (dk_at dksX1_turn_6 3 rfl rfl)
theorem dX1_turn_142 : decode cX1_turn 142 = .ok (.putfield 147, 3) := dk_181 0 147 (dk_at dksX1_turn_6 4 rfl rfl)
theorem dX1_turn_145 : decode cX1_turn 145 = .ok (.aload_n 0, 1) := dk_42 (dk_at dksX1_turn_6 7 rfl rfl)
theorem dX1_turn_146 : decode cX1_turn 146 = .ok (.getfield 10, 3) := dk_180 0 10 (dk_at dksX1_turn_6 8 rfl rfl)
theorem dX1_turn_149 : decode cX1_turn 149 = .ok (.getfield 118, 3) := dk_180 0 118 (dk_at dksX1_turn_6 11 rfl rfl)
theorem dX1_turn_152 : decode cX1_turn 152 = .ok (.iload_n 2, 1) := dk_28 (dk_at dksX1_turn_6 14 rfl rfl)
theorem dX1_turn_153 : decode cX1_turn 153 = .ok (.invokevirtual 143, 3) := dk_182 0 143 (dk_at dksX1_turn_6 15 rfl rfl)
theorem dX1_turn_156 : decode cX1_turn 156 = .ok (.checkcast 128, 3) := dk_192 0 128 (dk_at dksX1_turn_6 18 rfl rfl)
theorem dX1_turn_159 : decode cX1_turn 159 = .ok (.iload_n 1, 1) := dk_27 (dk_at dksX1_turn_6 21 rfl rfl)
theorem dX1_turn_160 : decode cX1_turn 160 = .ok (.putfield 184, 3) := dk_181 0 184 (dk_at dksX1_turn_7 0 rfl rfl)
theorem dX1_turn_163 : decode cX1_turn 163 = .ok (.aload_n 0, 1) := dk_42 (dk_at dksX1_turn_7 3 rfl rfl)
theorem dX1_turn_164 : decode cX1_turn 164 = .ok (.getfield 10, 3) := dk_180 0 10 (dk_at dksX1_turn_7 4 rfl rfl)
theorem dX1_turn_167 : decode cX1_turn 167 = .ok (.iload_n 2, 1) := dk_28 (dk_at dksX1_turn_7 7 rfl rfl)
theorem dX1_turn_168 : decode cX1_turn 168 = .ok (.iconst 0, 1) := dk_3 (dk_at dksX1_turn_7 8 rfl rfl)
theorem dX1_turn_169 : decode cX1_turn 169 = .ok (.invokevirtual 157, 3) := dk_182 0 157 (dk_at dksX1_turn_7 9 rfl rfl)
theorem dX1_turn_172 : decode cX1_turn 172 = .ok (.getfield 154, 3) := dk_180 0 154 (dk_at dksX1_turn_7 12 rfl rfl)
theorem dX1_turn_175 : decode cX1_turn 175 = .ok (.aload_n 0, 1) := dk_42 (dk_at dksX1_turn_7 15 rfl rfl)
theorem dX1_turn_176 : decode cX1_turn 176 = .ok (.getfield 10, 3) := dk_180 0 10 (dk_at dksX1_turn_7 16 rfl rfl)
theorem dX1_turn_179 : decode cX1_turn 179 = .ok (.iload_n 1, 1) := dk_27 (dk_at dksX1_turn_7 19 rfl rfl)
theorem dX1_turn_180 : decode cX1_turn 180 = .ok (.iload_n 3, 1) := dk_29 (dk_at dksX1_turn_7 20 rfl rfl)
theorem dX1_turn_181 : decode cX1_turn 181 = .ok (.invokevirtual 157, 3) := dk_182 0 157 (dk_at dksX1_turn_7 21 rfl rfl)
theorem dX1_turn_184 : decode cX1_turn 184 = .ok (.getfield 164, 3) := dk_180 0 164 (dk_at dksX1_turn_8 0 rfl rfl)
theorem dX1_turn_187 : decode cX1_turn 187 = .ok (.isub, 1) := dk_100 (dk_at dksX1_turn_8 3 rfl rfl)
theorem dX1_turn_188 : decode cX1_turn 188 = .ok (.bipush 10, 2) := dk_16 10 (dk_at dksX1_turn_8 4 rfl rfl)
theorem dX1_turn_190 : decode cX1_turn 190 = .ok (.isub, 1) := dk_100 (dk_at dksX1_turn_8 6 rfl rfl)
theorem dX1_turn_191 : decode cX1_turn 191 = .ok (.ireturn, 1) := dk_172 (dk_at dksX1_turn_8 7 rfl rfl)
abbrev cX1_mustBeTwo : ByteArray := prog_1_method_13_code
def yX1_mustBeTwo : MethodName := ⟨RX1, "mustBeTwo", "(II)V"⟩
def dkwX1_mustBeTwo_1 : List UInt8 := [182, 0, 53, 177]
abbrev dktX1_mustBeTwo_1 : List UInt8 := dkwX1_mustBeTwo_1 ++ []
def dkwX1_mustBeTwo_0 : List UInt8 := [42, 27, 182, 0, 106, 42, 28, 182, 0, 106, 42, 27, 28, 160, 0, 7, 4, 167, 0, 4, 3, 16, 6, 27]
abbrev dktX1_mustBeTwo_0 : List UInt8 := dkwX1_mustBeTwo_0 ++ dktX1_mustBeTwo_1
theorem dksX1_mustBeTwo_0 : cX1_mustBeTwo.data.toList.drop 0 = dktX1_mustBeTwo_0 := by decide +kernel
theorem dksX1_mustBeTwo_1 : cX1_mustBeTwo.data.toList.drop 24 = dktX1_mustBeTwo_1 := dk_seg dksX1_mustBeTwo_0 24 rfl rfl
theorem dX1_mustBeTwo_0 : decode cX1_mustBeTwo 0 = .ok (.aload_n 0, 1) := dk_42 (dk_at dksX1_mustBeTwo_0 0 rfl rfl)
theorem dX1_mustBeTwo_1 : decode cX1_mustBeTwo 1 = .ok (.iload_n 1, 1) := dk_27 (dk_at dksX1_mustBeTwo_0 1 rfl rfl)
theorem dX1_mustBeTwo_2 : decode cX1_mustBeTwo 2 = .ok (.invokevirtual 106, 3) := dk_182 0 106 (dk_at dksX1_mustBeTwo_0 2 rfl rfl)
theorem dX1_mustBeTwo_5 : decode cX1_mustBeTwo 5 = .ok (.aload_n 0, 1) := dk_42 (dk_at dksX1_mustBeTwo_0 5 rfl rfl)
theorem dX1_mustBeTwo_6 : decode cX1_mustBeTwo 6 = .ok (.iload_n 2, 1) := dk_28 (dk_at dksX1_mustBeTwo_0 6 rfl rfl)
theorem dX1_mustBeTwo_7 : decode cX1_mustBeTwo 7 = .ok (.invokevirtual 106, 3) := dk_182 0 106 (dk_at dksX1_mustBeTwo_0 7 rfl rfl)
theorem dX1_mustBeTwo_10 : decode cX1_mustBeTwo 10 = .ok (.aload_n 0, 1) := dk_42 (dk_at dksX1_mustBeTwo_0 10 rfl rfl)
theorem dX1_mustBeTwo_11 : decode cX1_mustBeTwo 11 = .ok (.iload_n 1, 1) := dk_27 (dk_at dksX1_mustBeTwo_0 11 rfl rfl)
theorem dX1_mustBeTwo_12 : decode cX1_mustBeTwo 12 = .ok (.iload_n 2, 1) := dk_28 (dk_at dksX1_mustBeTwo_0 12 rfl rfl)
theorem dX1_mustBeTwo_13 : decode cX1_mustBeTwo 13 = .ok (.if_icmp .ne 7, 3) := dk_160 0 7 (dk_at dksX1_mustBeTwo_0 13 rfl rfl)
theorem dX1_mustBeTwo_16 : decode cX1_mustBeTwo 16 = .ok (.iconst 1, 1) := dk_4 (dk_at dksX1_mustBeTwo_0 16 rfl rfl)
theorem dX1_mustBeTwo_17 : decode cX1_mustBeTwo 17 = .ok (.goto 4, 3) := dk_167 0 4 (dk_at dksX1_mustBeTwo_0 17 rfl rfl)
theorem dX1_mustBeTwo_20 : decode cX1_mustBeTwo 20 = .ok (.iconst 0, 1) := dk_3 (dk_at dksX1_mustBeTwo_0 20 rfl rfl)
theorem dX1_mustBeTwo_21 : decode cX1_mustBeTwo 21 = .ok (.bipush 6, 2) := dk_16 6 (dk_at dksX1_mustBeTwo_0 21 rfl rfl)
theorem dX1_mustBeTwo_23 : decode cX1_mustBeTwo 23 = .ok (.iload_n 1, 1) := dk_27 (dk_at dksX1_mustBeTwo_0 23 rfl rfl)
theorem dX1_mustBeTwo_24 : decode cX1_mustBeTwo 24 = .ok (.invokevirtual 53, 3) := dk_182 0 53 (dk_at dksX1_mustBeTwo_1 0 rfl rfl)
theorem dX1_mustBeTwo_27 : decode cX1_mustBeTwo 27 = .ok (.return_, 1) := dk_177 (dk_at dksX1_mustBeTwo_1 3 rfl rfl)
abbrev cX1_mustBeEvent : ByteArray := prog_1_method_14_code
def yX1_mustBeEvent : MethodName := ⟨RX1, "mustBeEvent", "(IILCoachTimetable$Side;)V"⟩
def dkwX1_mustBeEvent_1 : List UInt8 := [177]
abbrev dktX1_mustBeEvent_1 : List UInt8 := dkwX1_mustBeEvent_1 ++ []
def dkwX1_mustBeEvent_0 : List UInt8 := [42, 42, 180, 0, 10, 27, 28, 45, 182, 0, 110, 154, 0, 7, 4, 167, 0, 4, 3, 7, 28, 182, 0, 53]
abbrev dktX1_mustBeEvent_0 : List UInt8 := dkwX1_mustBeEvent_0 ++ dktX1_mustBeEvent_1
theorem dksX1_mustBeEvent_0 : cX1_mustBeEvent.data.toList.drop 0 = dktX1_mustBeEvent_0 := by decide +kernel
theorem dksX1_mustBeEvent_1 : cX1_mustBeEvent.data.toList.drop 24 = dktX1_mustBeEvent_1 := dk_seg dksX1_mustBeEvent_0 24 rfl rfl
theorem dX1_mustBeEvent_0 : decode cX1_mustBeEvent 0 = .ok (.aload_n 0, 1) := dk_42 (dk_at dksX1_mustBeEvent_0 0 rfl rfl)
theorem dX1_mustBeEvent_1 : decode cX1_mustBeEvent 1 = .ok (.aload_n 0, 1) := dk_42 (dk_at dksX1_mustBeEvent_0 1 rfl rfl)
theorem dX1_mustBeEvent_2 : decode cX1_mustBeEvent 2 = .ok (.getfield 10, 3) := dk_180 0 10 (dk_at dksX1_mustBeEvent_0 2 rfl rfl)
theorem dX1_mustBeEvent_5 : decode cX1_mustBeEvent 5 = .ok (.iload_n 1, 1) := dk_27 (dk_at dksX1_mustBeEvent_0 5 rfl rfl)
theorem dX1_mustBeEvent_6 : decode cX1_mustBeEvent 6 = .ok (.iload_n 2, 1) := dk_28 (dk_at dksX1_mustBeEvent_0 6 rfl rfl)
theorem dX1_mustBeEvent_7 : decode cX1_mustBeEvent 7 = .ok (.aload_n 3, 1) := dk_45 (dk_at dksX1_mustBeEvent_0 7 rfl rfl)
theorem dX1_mustBeEvent_8 : decode cX1_mustBeEvent 8 = .ok (.invokevirtual 110, 3) := dk_182 0 110 (dk_at dksX1_mustBeEvent_0 8 rfl rfl)
theorem dX1_mustBeEvent_11 : decode cX1_mustBeEvent 11 = .ok (.ifCond .ne 7, 3) := dk_154 0 7 (dk_at dksX1_mustBeEvent_0 11 rfl rfl)
theorem dX1_mustBeEvent_14 : decode cX1_mustBeEvent 14 = .ok (.iconst 1, 1) := dk_4 (dk_at dksX1_mustBeEvent_0 14 rfl rfl)
theorem dX1_mustBeEvent_15 : decode cX1_mustBeEvent 15 = .ok (.goto 4, 3) := dk_167 0 4 (dk_at dksX1_mustBeEvent_0 15 rfl rfl)
theorem dX1_mustBeEvent_18 : decode cX1_mustBeEvent 18 = .ok (.iconst 0, 1) := dk_3 (dk_at dksX1_mustBeEvent_0 18 rfl rfl)
theorem dX1_mustBeEvent_19 : decode cX1_mustBeEvent 19 = .ok (.iconst 4, 1) := dk_7 (dk_at dksX1_mustBeEvent_0 19 rfl rfl)
theorem dX1_mustBeEvent_20 : decode cX1_mustBeEvent 20 = .ok (.iload_n 2, 1) := dk_28 (dk_at dksX1_mustBeEvent_0 20 rfl rfl)
theorem dX1_mustBeEvent_21 : decode cX1_mustBeEvent 21 = .ok (.invokevirtual 53, 3) := dk_182 0 53 (dk_at dksX1_mustBeEvent_0 21 rfl rfl)
theorem dX1_mustBeEvent_24 : decode cX1_mustBeEvent 24 = .ok (.return_, 1) := dk_177 (dk_at dksX1_mustBeEvent_1 0 rfl rfl)
abbrev cX1_mustMeet : ByteArray := prog_1_method_17_code
def yX1_mustMeet : MethodName := ⟨RX1, "mustMeet", "(IIIII)V"⟩
def dkwX1_mustMeet_4 : List UInt8 := [177]
abbrev dktX1_mustMeet_4 : List UInt8 := dkwX1_mustMeet_4 ++ []
def dkwX1_mustMeet_3 : List UInt8 := [180, 0, 154, 100, 54, 7, 42, 21, 7, 158, 0, 7, 4, 167, 0, 4, 3, 16, 8, 21, 7, 182, 0, 53]
abbrev dktX1_mustMeet_3 : List UInt8 := dkwX1_mustMeet_3 ++ dktX1_mustMeet_4
def dkwX1_mustMeet_2 : List UInt8 := [180, 0, 10, 27, 28, 182, 0, 157, 180, 0, 164, 21, 5, 96, 42, 180, 0, 10, 29, 21, 4, 182, 0, 157]
abbrev dktX1_mustMeet_2 : List UInt8 := dkwX1_mustMeet_2 ++ dktX1_mustMeet_3
def dkwX1_mustMeet_1 : List UInt8 := [182, 0, 157, 180, 0, 161, 21, 6, 159, 0, 7, 4, 167, 0, 4, 3, 16, 7, 21, 6, 182, 0, 53, 42]
abbrev dktX1_mustMeet_1 : List UInt8 := dkwX1_mustMeet_1 ++ dktX1_mustMeet_2
def dkwX1_mustMeet_0 : List UInt8 := [42, 180, 0, 10, 29, 21, 4, 182, 0, 157, 180, 0, 161, 54, 6, 42, 42, 180, 0, 10, 27, 28]
abbrev dktX1_mustMeet_0 : List UInt8 := dkwX1_mustMeet_0 ++ dktX1_mustMeet_1
theorem dksX1_mustMeet_0 : cX1_mustMeet.data.toList.drop 0 = dktX1_mustMeet_0 := by decide +kernel
theorem dksX1_mustMeet_1 : cX1_mustMeet.data.toList.drop 22 = dktX1_mustMeet_1 := dk_seg dksX1_mustMeet_0 22 rfl rfl
theorem dksX1_mustMeet_2 : cX1_mustMeet.data.toList.drop 46 = dktX1_mustMeet_2 := dk_seg dksX1_mustMeet_1 24 rfl rfl
theorem dksX1_mustMeet_3 : cX1_mustMeet.data.toList.drop 70 = dktX1_mustMeet_3 := dk_seg dksX1_mustMeet_2 24 rfl rfl
theorem dksX1_mustMeet_4 : cX1_mustMeet.data.toList.drop 94 = dktX1_mustMeet_4 := dk_seg dksX1_mustMeet_3 24 rfl rfl
theorem dX1_mustMeet_0 : decode cX1_mustMeet 0 = .ok (.aload_n 0, 1) := dk_42 (dk_at dksX1_mustMeet_0 0 rfl rfl)
theorem dX1_mustMeet_1 : decode cX1_mustMeet 1 = .ok (.getfield 10, 3) := dk_180 0 10 (dk_at dksX1_mustMeet_0 1 rfl rfl)
theorem dX1_mustMeet_4 : decode cX1_mustMeet 4 = .ok (.iload_n 3, 1) := dk_29 (dk_at dksX1_mustMeet_0 4 rfl rfl)
theorem dX1_mustMeet_5 : decode cX1_mustMeet 5 = .ok (.iload 4, 2) := dk_21 4 (dk_at dksX1_mustMeet_0 5 rfl rfl)
theorem dX1_mustMeet_7 : decode cX1_mustMeet 7 = .ok (.invokevirtual 157, 3) := dk_182 0 157 (dk_at dksX1_mustMeet_0 7 rfl rfl)
theorem dX1_mustMeet_10 : decode cX1_mustMeet 10 = .ok (.getfield 161, 3) := dk_180 0 161 (dk_at dksX1_mustMeet_0 10 rfl rfl)
theorem dX1_mustMeet_13 : decode cX1_mustMeet 13 = .ok (.istore 6, 2) := dk_54 6 (dk_at dksX1_mustMeet_0 13 rfl rfl)
theorem dX1_mustMeet_15 : decode cX1_mustMeet 15 = .ok (.aload_n 0, 1) := dk_42 (dk_at dksX1_mustMeet_0 15 rfl rfl)
theorem dX1_mustMeet_16 : decode cX1_mustMeet 16 = .ok (.aload_n 0, 1) := dk_42 (dk_at dksX1_mustMeet_0 16 rfl rfl)
theorem dX1_mustMeet_17 : decode cX1_mustMeet 17 = .ok (.getfield 10, 3) := dk_180 0 10 (dk_at dksX1_mustMeet_0 17 rfl rfl)
theorem dX1_mustMeet_20 : decode cX1_mustMeet 20 = .ok (.iload_n 1, 1) := dk_27 (dk_at dksX1_mustMeet_0 20 rfl rfl)
theorem dX1_mustMeet_21 : decode cX1_mustMeet 21 = .ok (.iload_n 2, 1) := dk_28 (dk_at dksX1_mustMeet_0 21 rfl rfl)
theorem dX1_mustMeet_22 : decode cX1_mustMeet 22 = .ok (.invokevirtual 157, 3) := dk_182 0 157 (dk_at dksX1_mustMeet_1 0 rfl rfl)
theorem dX1_mustMeet_25 : decode cX1_mustMeet 25 = .ok (.getfield 161, 3) := dk_180 0 161 (dk_at dksX1_mustMeet_1 3 rfl rfl)
theorem dX1_mustMeet_28 : decode cX1_mustMeet 28 = .ok (.iload 6, 2) := dk_21 6 (dk_at dksX1_mustMeet_1 6 rfl rfl)
theorem dX1_mustMeet_30 : decode cX1_mustMeet 30 = .ok (.if_icmp .eq 7, 3) := dk_159 0 7 (dk_at dksX1_mustMeet_1 8 rfl rfl)
theorem dX1_mustMeet_33 : decode cX1_mustMeet 33 = .ok (.iconst 1, 1) := dk_4 (dk_at dksX1_mustMeet_1 11 rfl rfl)
theorem dX1_mustMeet_34 : decode cX1_mustMeet 34 = .ok (.goto 4, 3) := dk_167 0 4 (dk_at dksX1_mustMeet_1 12 rfl rfl)
theorem dX1_mustMeet_37 : decode cX1_mustMeet 37 = .ok (.iconst 0, 1) := dk_3 (dk_at dksX1_mustMeet_1 15 rfl rfl)
theorem dX1_mustMeet_38 : decode cX1_mustMeet 38 = .ok (.bipush 7, 2) := dk_16 7 (dk_at dksX1_mustMeet_1 16 rfl rfl)
theorem dX1_mustMeet_40 : decode cX1_mustMeet 40 = .ok (.iload 6, 2) := dk_21 6 (dk_at dksX1_mustMeet_1 18 rfl rfl)
theorem dX1_mustMeet_42 : decode cX1_mustMeet 42 = .ok (.invokevirtual 53, 3) := dk_182 0 53 (dk_at dksX1_mustMeet_1 20 rfl rfl)
theorem dX1_mustMeet_45 : decode cX1_mustMeet 45 = .ok (.aload_n 0, 1) := dk_42 (dk_at dksX1_mustMeet_1 23 rfl rfl)
theorem dX1_mustMeet_46 : decode cX1_mustMeet 46 = .ok (.getfield 10, 3) := dk_180 0 10 (dk_at dksX1_mustMeet_2 0 rfl rfl)
theorem dX1_mustMeet_49 : decode cX1_mustMeet 49 = .ok (.iload_n 1, 1) := dk_27 (dk_at dksX1_mustMeet_2 3 rfl rfl)
theorem dX1_mustMeet_50 : decode cX1_mustMeet 50 = .ok (.iload_n 2, 1) := dk_28 (dk_at dksX1_mustMeet_2 4 rfl rfl)
theorem dX1_mustMeet_51 : decode cX1_mustMeet 51 = .ok (.invokevirtual 157, 3) := dk_182 0 157 (dk_at dksX1_mustMeet_2 5 rfl rfl)
theorem dX1_mustMeet_54 : decode cX1_mustMeet 54 = .ok (.getfield 164, 3) := dk_180 0 164 (dk_at dksX1_mustMeet_2 8 rfl rfl)
theorem dX1_mustMeet_57 : decode cX1_mustMeet 57 = .ok (.iload 5, 2) := dk_21 5 (dk_at dksX1_mustMeet_2 11 rfl rfl)
theorem dX1_mustMeet_59 : decode cX1_mustMeet 59 = .ok (.iadd, 1) := dk_96 (dk_at dksX1_mustMeet_2 13 rfl rfl)
theorem dX1_mustMeet_60 : decode cX1_mustMeet 60 = .ok (.aload_n 0, 1) := dk_42 (dk_at dksX1_mustMeet_2 14 rfl rfl)
theorem dX1_mustMeet_61 : decode cX1_mustMeet 61 = .ok (.getfield 10, 3) := dk_180 0 10 (dk_at dksX1_mustMeet_2 15 rfl rfl)
theorem dX1_mustMeet_64 : decode cX1_mustMeet 64 = .ok (.iload_n 3, 1) := dk_29 (dk_at dksX1_mustMeet_2 18 rfl rfl)
theorem dX1_mustMeet_65 : decode cX1_mustMeet 65 = .ok (.iload 4, 2) := dk_21 4 (dk_at dksX1_mustMeet_2 19 rfl rfl)
theorem dX1_mustMeet_67 : decode cX1_mustMeet 67 = .ok (.invokevirtual 157, 3) := dk_182 0 157 (dk_at dksX1_mustMeet_2 21 rfl rfl)
theorem dX1_mustMeet_70 : decode cX1_mustMeet 70 = .ok (.getfield 154, 3) := dk_180 0 154 (dk_at dksX1_mustMeet_3 0 rfl rfl)
theorem dX1_mustMeet_73 : decode cX1_mustMeet 73 = .ok (.isub, 1) := dk_100 (dk_at dksX1_mustMeet_3 3 rfl rfl)
theorem dX1_mustMeet_74 : decode cX1_mustMeet 74 = .ok (.istore 7, 2) := dk_54 7 (dk_at dksX1_mustMeet_3 4 rfl rfl)
theorem dX1_mustMeet_76 : decode cX1_mustMeet 76 = .ok (.aload_n 0, 1) := dk_42 (dk_at dksX1_mustMeet_3 6 rfl rfl)
theorem dX1_mustMeet_77 : decode cX1_mustMeet 77 = .ok (.iload 7, 2) := dk_21 7 (dk_at dksX1_mustMeet_3 7 rfl rfl)
theorem dX1_mustMeet_79 : decode cX1_mustMeet 79 = .ok (.ifCond .le 7, 3) := dk_158 0 7 (dk_at dksX1_mustMeet_3 9 rfl rfl)
theorem dX1_mustMeet_82 : decode cX1_mustMeet 82 = .ok (.iconst 1, 1) := dk_4 (dk_at dksX1_mustMeet_3 12 rfl rfl)
theorem dX1_mustMeet_83 : decode cX1_mustMeet 83 = .ok (.goto 4, 3) := dk_167 0 4 (dk_at dksX1_mustMeet_3 13 rfl rfl)
theorem dX1_mustMeet_86 : decode cX1_mustMeet 86 = .ok (.iconst 0, 1) := dk_3 (dk_at dksX1_mustMeet_3 16 rfl rfl)
theorem dX1_mustMeet_87 : decode cX1_mustMeet 87 = .ok (.bipush 8, 2) := dk_16 8 (dk_at dksX1_mustMeet_3 17 rfl rfl)
theorem dX1_mustMeet_89 : decode cX1_mustMeet 89 = .ok (.iload 7, 2) := dk_21 7 (dk_at dksX1_mustMeet_3 19 rfl rfl)
theorem dX1_mustMeet_91 : decode cX1_mustMeet 91 = .ok (.invokevirtual 53, 3) := dk_182 0 53 (dk_at dksX1_mustMeet_3 21 rfl rfl)
theorem dX1_mustMeet_94 : decode cX1_mustMeet 94 = .ok (.return_, 1) := dk_177 (dk_at dksX1_mustMeet_4 0 rfl rfl)
abbrev cX1_link : ByteArray := prog_1_method_19_code
def yX1_link : MethodName := ⟨RX1, "link", "(IIIIII)I"⟩
def dkwX1_link_5 : List UInt8 := [89, 180, 0, 199, 4, 96, 181, 0, 199, 42, 180, 0, 10, 180, 0, 191, 182, 0, 122, 4, 100, 172]
abbrev dktX1_link_5 : List UInt8 := dkwX1_link_5 ++ []
def dkwX1_link_4 : List UInt8 := [187, 0, 194, 89, 27, 28, 29, 21, 4, 21, 5, 21, 6, 183, 0, 196, 182, 0, 139, 87, 42, 180, 0, 10]
abbrev dktX1_link_4 : List UInt8 := dkwX1_link_4 ++ dktX1_link_5
def dkwX1_link_3 : List UInt8 := [4, 167, 0, 4, 3, 5, 16, 12, 182, 0, 53, 42, 182, 0, 125, 42, 180, 0, 10, 180, 0, 191]
abbrev dktX1_link_3 : List UInt8 := dkwX1_link_3 ++ dktX1_link_4
def dkwX1_link_2 : List UInt8 := [29, 21, 4, 21, 5, 182, 0, 187, 42, 42, 180, 0, 10, 180, 0, 191, 182, 0, 122, 16, 12, 160, 0, 7]
abbrev dktX1_link_2 : List UInt8 := dkwX1_link_2 ++ dktX1_link_3
def dkwX1_link_1 : List UInt8 := [182, 0, 177, 42, 21, 5, 4, 16, 60, 182, 0, 114, 42, 21, 6, 3, 16, 60, 182, 0, 114, 42, 27, 28]
abbrev dktX1_link_1 : List UInt8 := dkwX1_link_1 ++ dktX1_link_2
def dkwX1_link_0 : List UInt8 := [42, 27, 29, 182, 0, 167, 42, 27, 28, 178, 0, 171, 182, 0, 177, 42, 29, 21, 4, 178, 0, 181]
abbrev dktX1_link_0 : List UInt8 := dkwX1_link_0 ++ dktX1_link_1
theorem dksX1_link_0 : cX1_link.data.toList.drop 0 = dktX1_link_0 := by decide +kernel
theorem dksX1_link_1 : cX1_link.data.toList.drop 22 = dktX1_link_1 := dk_seg dksX1_link_0 22 rfl rfl
theorem dksX1_link_2 : cX1_link.data.toList.drop 46 = dktX1_link_2 := dk_seg dksX1_link_1 24 rfl rfl
theorem dksX1_link_3 : cX1_link.data.toList.drop 70 = dktX1_link_3 := dk_seg dksX1_link_2 24 rfl rfl
theorem dksX1_link_4 : cX1_link.data.toList.drop 92 = dktX1_link_4 := dk_seg dksX1_link_3 22 rfl rfl
theorem dksX1_link_5 : cX1_link.data.toList.drop 116 = dktX1_link_5 := dk_seg dksX1_link_4 24 rfl rfl
theorem dX1_link_0 : decode cX1_link 0 = .ok (.aload_n 0, 1) := dk_42 (dk_at dksX1_link_0 0 rfl rfl)
theorem dX1_link_1 : decode cX1_link 1 = .ok (.iload_n 1, 1) := dk_27 (dk_at dksX1_link_0 1 rfl rfl)
theorem dX1_link_2 : decode cX1_link 2 = .ok (.iload_n 3, 1) := dk_29 (dk_at dksX1_link_0 2 rfl rfl)
theorem dX1_link_3 : decode cX1_link 3 = .ok (.invokevirtual 167, 3) := dk_182 0 167 (dk_at dksX1_link_0 3 rfl rfl)
theorem dX1_link_6 : decode cX1_link 6 = .ok (.aload_n 0, 1) := dk_42 (dk_at dksX1_link_0 6 rfl rfl)
theorem dX1_link_7 : decode cX1_link 7 = .ok (.iload_n 1, 1) := dk_27 (dk_at dksX1_link_0 7 rfl rfl)
theorem dX1_link_8 : decode cX1_link 8 = .ok (.iload_n 2, 1) := dk_28 (dk_at dksX1_link_0 8 rfl rfl)
theorem dX1_link_9 : decode cX1_link 9 = .ok (.getstatic 171, 3) := dk_178 0 171 (dk_at dksX1_link_0 9 rfl rfl)
theorem dX1_link_12 : decode cX1_link 12 = .ok (.invokevirtual 177, 3) := dk_182 0 177 (dk_at dksX1_link_0 12 rfl rfl)
theorem dX1_link_15 : decode cX1_link 15 = .ok (.aload_n 0, 1) := dk_42 (dk_at dksX1_link_0 15 rfl rfl)
theorem dX1_link_16 : decode cX1_link 16 = .ok (.iload_n 3, 1) := dk_29 (dk_at dksX1_link_0 16 rfl rfl)
theorem dX1_link_17 : decode cX1_link 17 = .ok (.iload 4, 2) := dk_21 4 (dk_at dksX1_link_0 17 rfl rfl)
theorem dX1_link_19 : decode cX1_link 19 = .ok (.getstatic 181, 3) := dk_178 0 181 (dk_at dksX1_link_0 19 rfl rfl)
theorem dX1_link_22 : decode cX1_link 22 = .ok (.invokevirtual 177, 3) := dk_182 0 177 (dk_at dksX1_link_1 0 rfl rfl)
theorem dX1_link_25 : decode cX1_link 25 = .ok (.aload_n 0, 1) := dk_42 (dk_at dksX1_link_1 3 rfl rfl)
theorem dX1_link_26 : decode cX1_link 26 = .ok (.iload 5, 2) := dk_21 5 (dk_at dksX1_link_1 4 rfl rfl)
theorem dX1_link_28 : decode cX1_link 28 = .ok (.iconst 1, 1) := dk_4 (dk_at dksX1_link_1 6 rfl rfl)
theorem dX1_link_29 : decode cX1_link 29 = .ok (.bipush 60, 2) := dk_16 60 (dk_at dksX1_link_1 7 rfl rfl)
theorem dX1_link_31 : decode cX1_link 31 = .ok (.invokevirtual 114, 3) := dk_182 0 114 (dk_at dksX1_link_1 9 rfl rfl)
theorem dX1_link_34 : decode cX1_link 34 = .ok (.aload_n 0, 1) := dk_42 (dk_at dksX1_link_1 12 rfl rfl)
theorem dX1_link_35 : decode cX1_link 35 = .ok (.iload 6, 2) := dk_21 6 (dk_at dksX1_link_1 13 rfl rfl)
theorem dX1_link_37 : decode cX1_link 37 = .ok (.iconst 0, 1) := dk_3 (dk_at dksX1_link_1 15 rfl rfl)
theorem dX1_link_38 : decode cX1_link 38 = .ok (.bipush 60, 2) := dk_16 60 (dk_at dksX1_link_1 16 rfl rfl)
theorem dX1_link_40 : decode cX1_link 40 = .ok (.invokevirtual 114, 3) := dk_182 0 114 (dk_at dksX1_link_1 18 rfl rfl)
theorem dX1_link_43 : decode cX1_link 43 = .ok (.aload_n 0, 1) := dk_42 (dk_at dksX1_link_1 21 rfl rfl)
theorem dX1_link_44 : decode cX1_link 44 = .ok (.iload_n 1, 1) := dk_27 (dk_at dksX1_link_1 22 rfl rfl)
theorem dX1_link_45 : decode cX1_link 45 = .ok (.iload_n 2, 1) := dk_28 (dk_at dksX1_link_1 23 rfl rfl)
theorem dX1_link_46 : decode cX1_link 46 = .ok (.iload_n 3, 1) := dk_29 (dk_at dksX1_link_2 0 rfl rfl)
theorem dX1_link_47 : decode cX1_link 47 = .ok (.iload 4, 2) := dk_21 4 (dk_at dksX1_link_2 1 rfl rfl)
theorem dX1_link_49 : decode cX1_link 49 = .ok (.iload 5, 2) := dk_21 5 (dk_at dksX1_link_2 3 rfl rfl)
theorem dX1_link_51 : decode cX1_link 51 = .ok (.invokevirtual 187, 3) := dk_182 0 187 (dk_at dksX1_link_2 5 rfl rfl)
theorem dX1_link_54 : decode cX1_link 54 = .ok (.aload_n 0, 1) := dk_42 (dk_at dksX1_link_2 8 rfl rfl)
theorem dX1_link_55 : decode cX1_link 55 = .ok (.aload_n 0, 1) := dk_42 (dk_at dksX1_link_2 9 rfl rfl)
theorem dX1_link_56 : decode cX1_link 56 = .ok (.getfield 10, 3) := dk_180 0 10 (dk_at dksX1_link_2 10 rfl rfl)
theorem dX1_link_59 : decode cX1_link 59 = .ok (.getfield 191, 3) := dk_180 0 191 (dk_at dksX1_link_2 13 rfl rfl)
theorem dX1_link_62 : decode cX1_link 62 = .ok (.invokevirtual 122, 3) := dk_182 0 122 (dk_at dksX1_link_2 16 rfl rfl)
theorem dX1_link_65 : decode cX1_link 65 = .ok (.bipush 12, 2) := dk_16 12 (dk_at dksX1_link_2 19 rfl rfl)
theorem dX1_link_67 : decode cX1_link 67 = .ok (.if_icmp .ne 7, 3) := dk_160 0 7 (dk_at dksX1_link_2 21 rfl rfl)
theorem dX1_link_70 : decode cX1_link 70 = .ok (.iconst 1, 1) := dk_4 (dk_at dksX1_link_3 0 rfl rfl)
theorem dX1_link_71 : decode cX1_link 71 = .ok (.goto 4, 3) := dk_167 0 4 (dk_at dksX1_link_3 1 rfl rfl)
theorem dX1_link_74 : decode cX1_link 74 = .ok (.iconst 0, 1) := dk_3 (dk_at dksX1_link_3 4 rfl rfl)
theorem dX1_link_75 : decode cX1_link 75 = .ok (.iconst 2, 1) := dk_5 (dk_at dksX1_link_3 5 rfl rfl)
theorem dX1_link_76 : decode cX1_link 76 = .ok (.bipush 12, 2) := dk_16 12 (dk_at dksX1_link_3 6 rfl rfl)
theorem dX1_link_78 : decode cX1_link 78 = .ok (.invokevirtual 53, 3) := dk_182 0 53 (dk_at dksX1_link_3 8 rfl rfl)
theorem dX1_link_81 : decode cX1_link 81 = .ok (.aload_n 0, 1) := dk_42 (dk_at dksX1_link_3 11 rfl rfl)
theorem dX1_link_82 : decode cX1_link 82 = .ok (.invokevirtual 125, 3) := dk_182 0 125 (dk_at dksX1_link_3 12 rfl rfl)
theorem dX1_link_85 : decode cX1_link 85 = .ok (.aload_n 0, 1) := dk_42 (dk_at dksX1_link_3 15 rfl rfl)
theorem dX1_link_86 : decode cX1_link 86 = .ok (.getfield 10, 3) := dk_180 0 10 (dk_at dksX1_link_3 16 rfl rfl)
theorem dX1_link_89 : decode cX1_link 89 = .ok (.getfield 191, 3) := dk_180 0 191 (dk_at dksX1_link_3 19 rfl rfl)
theorem dX1_link_92 : decode cX1_link 92 = .ok (.new 194, 3) := dk_187 0 194 (dk_at dksX1_link_4 0 rfl rfl)
theorem dX1_link_95 : decode cX1_link 95 = .ok (.dup, 1) := dk_89 (dk_at dksX1_link_4 3 rfl rfl)
theorem dX1_link_96 : decode cX1_link 96 = .ok (.iload_n 1, 1) := dk_27 (dk_at dksX1_link_4 4 rfl rfl)
theorem dX1_link_97 : decode cX1_link 97 = .ok (.iload_n 2, 1) := dk_28 (dk_at dksX1_link_4 5 rfl rfl)
theorem dX1_link_98 : decode cX1_link 98 = .ok (.iload_n 3, 1) := dk_29 (dk_at dksX1_link_4 6 rfl rfl)
theorem dX1_link_99 : decode cX1_link 99 = .ok (.iload 4, 2) := dk_21 4 (dk_at dksX1_link_4 7 rfl rfl)
theorem dX1_link_101 : decode cX1_link 101 = .ok (.iload 5, 2) := dk_21 5 (dk_at dksX1_link_4 9 rfl rfl)
theorem dX1_link_103 : decode cX1_link 103 = .ok (.iload 6, 2) := dk_21 6 (dk_at dksX1_link_4 11 rfl rfl)
theorem dX1_link_105 : decode cX1_link 105 = .ok (.invokespecial 196, 3) := dk_183 0 196 (dk_at dksX1_link_4 13 rfl rfl)
theorem dX1_link_108 : decode cX1_link 108 = .ok (.invokevirtual 139, 3) := dk_182 0 139 (dk_at dksX1_link_4 16 rfl rfl)
theorem dX1_link_111 : decode cX1_link 111 = .ok (.pop, 1) := dk_87 (dk_at dksX1_link_4 19 rfl rfl)
theorem dX1_link_112 : decode cX1_link 112 = .ok (.aload_n 0, 1) := dk_42 (dk_at dksX1_link_4 20 rfl rfl)
theorem dX1_link_113 : decode cX1_link 113 = .ok (.getfield 10, 3) := dk_180 0 10 (dk_at dksX1_link_4 21 rfl rfl)
theorem dX1_link_116 : decode cX1_link 116 = .ok (.dup, 1) := dk_89 (dk_at dksX1_link_5 0 rfl rfl)
theorem dX1_link_117 : decode cX1_link 117 = .ok (.getfield 199, 3) := dk_180 0 199 (dk_at dksX1_link_5 1 rfl rfl)
theorem dX1_link_120 : decode cX1_link 120 = .ok (.iconst 1, 1) := dk_4 (dk_at dksX1_link_5 4 rfl rfl)
theorem dX1_link_121 : decode cX1_link 121 = .ok (.iadd, 1) := dk_96 (dk_at dksX1_link_5 5 rfl rfl)
theorem dX1_link_122 : decode cX1_link 122 = .ok (.putfield 199, 3) := dk_181 0 199 (dk_at dksX1_link_5 6 rfl rfl)
theorem dX1_link_125 : decode cX1_link 125 = .ok (.aload_n 0, 1) := dk_42 (dk_at dksX1_link_5 9 rfl rfl)
theorem dX1_link_126 : decode cX1_link 126 = .ok (.getfield 10, 3) := dk_180 0 10 (dk_at dksX1_link_5 10 rfl rfl)
theorem dX1_link_129 : decode cX1_link 129 = .ok (.getfield 191, 3) := dk_180 0 191 (dk_at dksX1_link_5 13 rfl rfl)
theorem dX1_link_132 : decode cX1_link 132 = .ok (.invokevirtual 122, 3) := dk_182 0 122 (dk_at dksX1_link_5 16 rfl rfl)
theorem dX1_link_135 : decode cX1_link 135 = .ok (.iconst 1, 1) := dk_4 (dk_at dksX1_link_5 19 rfl rfl)
theorem dX1_link_136 : decode cX1_link 136 = .ok (.isub, 1) := dk_100 (dk_at dksX1_link_5 20 rfl rfl)
theorem dX1_link_137 : decode cX1_link 137 = .ok (.ireturn, 1) := dk_172 (dk_at dksX1_link_5 21 rfl rfl)
abbrev cX1_cut : ByteArray := prog_1_method_20_code
def yX1_cut : MethodName := ⟨RX1, "cut", "(I)I"⟩
def dkwX1_cut_2 : List UInt8 := [96, 181, 0, 208, 42, 180, 0, 10, 180, 0, 191, 182, 0, 122, 172]
abbrev dktX1_cut_2 : List UInt8 := dkwX1_cut_2 ++ []
def dkwX1_cut_1 : List UInt8 := [182, 0, 125, 42, 180, 0, 10, 180, 0, 191, 27, 182, 0, 205, 87, 42, 180, 0, 10, 89, 180, 0, 208, 4]
abbrev dktX1_cut_1 : List UInt8 := dkwX1_cut_1 ++ dktX1_cut_2
def dkwX1_cut_0 : List UInt8 := [42, 42, 180, 0, 10, 27, 182, 0, 202, 154, 0, 7, 4, 167, 0, 4, 3, 8, 27, 182, 0, 53, 42]
abbrev dktX1_cut_0 : List UInt8 := dkwX1_cut_0 ++ dktX1_cut_1
theorem dksX1_cut_0 : cX1_cut.data.toList.drop 0 = dktX1_cut_0 := by decide +kernel
theorem dksX1_cut_1 : cX1_cut.data.toList.drop 23 = dktX1_cut_1 := dk_seg dksX1_cut_0 23 rfl rfl
theorem dksX1_cut_2 : cX1_cut.data.toList.drop 47 = dktX1_cut_2 := dk_seg dksX1_cut_1 24 rfl rfl
theorem dX1_cut_0 : decode cX1_cut 0 = .ok (.aload_n 0, 1) := dk_42 (dk_at dksX1_cut_0 0 rfl rfl)
theorem dX1_cut_1 : decode cX1_cut 1 = .ok (.aload_n 0, 1) := dk_42 (dk_at dksX1_cut_0 1 rfl rfl)
theorem dX1_cut_2 : decode cX1_cut 2 = .ok (.getfield 10, 3) := dk_180 0 10 (dk_at dksX1_cut_0 2 rfl rfl)
theorem dX1_cut_5 : decode cX1_cut 5 = .ok (.iload_n 1, 1) := dk_27 (dk_at dksX1_cut_0 5 rfl rfl)
theorem dX1_cut_6 : decode cX1_cut 6 = .ok (.invokevirtual 202, 3) := dk_182 0 202 (dk_at dksX1_cut_0 6 rfl rfl)
theorem dX1_cut_9 : decode cX1_cut 9 = .ok (.ifCond .ne 7, 3) := dk_154 0 7 (dk_at dksX1_cut_0 9 rfl rfl)
theorem dX1_cut_12 : decode cX1_cut 12 = .ok (.iconst 1, 1) := dk_4 (dk_at dksX1_cut_0 12 rfl rfl)
theorem dX1_cut_13 : decode cX1_cut 13 = .ok (.goto 4, 3) := dk_167 0 4 (dk_at dksX1_cut_0 13 rfl rfl)
theorem dX1_cut_16 : decode cX1_cut 16 = .ok (.iconst 0, 1) := dk_3 (dk_at dksX1_cut_0 16 rfl rfl)
theorem dX1_cut_17 : decode cX1_cut 17 = .ok (.iconst 5, 1) := dk_8 (dk_at dksX1_cut_0 17 rfl rfl)
theorem dX1_cut_18 : decode cX1_cut 18 = .ok (.iload_n 1, 1) := dk_27 (dk_at dksX1_cut_0 18 rfl rfl)
theorem dX1_cut_19 : decode cX1_cut 19 = .ok (.invokevirtual 53, 3) := dk_182 0 53 (dk_at dksX1_cut_0 19 rfl rfl)
theorem dX1_cut_22 : decode cX1_cut 22 = .ok (.aload_n 0, 1) := dk_42 (dk_at dksX1_cut_0 22 rfl rfl)
theorem dX1_cut_23 : decode cX1_cut 23 = .ok (.invokevirtual 125, 3) := dk_182 0 125 (dk_at dksX1_cut_1 0 rfl rfl)
theorem dX1_cut_26 : decode cX1_cut 26 = .ok (.aload_n 0, 1) := dk_42 (dk_at dksX1_cut_1 3 rfl rfl)
theorem dX1_cut_27 : decode cX1_cut 27 = .ok (.getfield 10, 3) := dk_180 0 10 (dk_at dksX1_cut_1 4 rfl rfl)
theorem dX1_cut_30 : decode cX1_cut 30 = .ok (.getfield 191, 3) := dk_180 0 191 (dk_at dksX1_cut_1 7 rfl rfl)
theorem dX1_cut_33 : decode cX1_cut 33 = .ok (.iload_n 1, 1) := dk_27 (dk_at dksX1_cut_1 10 rfl rfl)
theorem dX1_cut_34 : decode cX1_cut 34 = .ok (.invokevirtual 205, 3) := dk_182 0 205 (dk_at dksX1_cut_1 11 rfl rfl)
theorem dX1_cut_37 : decode cX1_cut 37 = .ok (.pop, 1) := dk_87 (dk_at dksX1_cut_1 14 rfl rfl)
theorem dX1_cut_38 : decode cX1_cut 38 = .ok (.aload_n 0, 1) := dk_42 (dk_at dksX1_cut_1 15 rfl rfl)
theorem dX1_cut_39 : decode cX1_cut 39 = .ok (.getfield 10, 3) := dk_180 0 10 (dk_at dksX1_cut_1 16 rfl rfl)
theorem dX1_cut_42 : decode cX1_cut 42 = .ok (.dup, 1) := dk_89 (dk_at dksX1_cut_1 19 rfl rfl)
theorem dX1_cut_43 : decode cX1_cut 43 = .ok (.getfield 208, 3) := dk_180 0 208 (dk_at dksX1_cut_1 20 rfl rfl)
theorem dX1_cut_46 : decode cX1_cut 46 = .ok (.iconst 1, 1) := dk_4 (dk_at dksX1_cut_1 23 rfl rfl)
theorem dX1_cut_47 : decode cX1_cut 47 = .ok (.iadd, 1) := dk_96 (dk_at dksX1_cut_2 0 rfl rfl)
theorem dX1_cut_48 : decode cX1_cut 48 = .ok (.putfield 208, 3) := dk_181 0 208 (dk_at dksX1_cut_2 1 rfl rfl)
theorem dX1_cut_51 : decode cX1_cut 51 = .ok (.aload_n 0, 1) := dk_42 (dk_at dksX1_cut_2 4 rfl rfl)
theorem dX1_cut_52 : decode cX1_cut 52 = .ok (.getfield 10, 3) := dk_180 0 10 (dk_at dksX1_cut_2 5 rfl rfl)
theorem dX1_cut_55 : decode cX1_cut 55 = .ok (.getfield 191, 3) := dk_180 0 191 (dk_at dksX1_cut_2 8 rfl rfl)
theorem dX1_cut_58 : decode cX1_cut 58 = .ok (.invokevirtual 122, 3) := dk_182 0 122 (dk_at dksX1_cut_2 11 rfl rfl)
theorem dX1_cut_61 : decode cX1_cut 61 = .ok (.ireturn, 1) := dk_172 (dk_at dksX1_cut_2 14 rfl rfl)
abbrev cX1_limit : ByteArray := prog_1_method_21_code
def yX1_limit : MethodName := ⟨RX1, "limit", "(II)I"⟩
def dkwX1_limit_4 : List UInt8 := [182, 0, 143, 192, 0, 194, 28, 181, 0, 211, 29, 172]
abbrev dktX1_limit_4 : List UInt8 := dkwX1_limit_4 ++ []
def dkwX1_limit_3 : List UInt8 := [180, 0, 191, 27, 182, 0, 143, 192, 0, 194, 180, 0, 211, 62, 42, 180, 0, 10, 180, 0, 191, 27]
abbrev dktX1_limit_3 : List UInt8 := dkwX1_limit_3 ++ dktX1_limit_4
def dkwX1_limit_2 : List UInt8 := [28, 160, 0, 7, 4, 167, 0, 4, 3, 16, 10, 28, 182, 0, 53, 42, 182, 0, 125, 42, 180, 0, 10]
abbrev dktX1_limit_2 : List UInt8 := dkwX1_limit_2 ++ dktX1_limit_3
def dkwX1_limit_1 : List UInt8 := [3, 16, 60, 182, 0, 114, 42, 42, 180, 0, 10, 180, 0, 191, 27, 182, 0, 143, 192, 0, 194, 180, 0, 211]
abbrev dktX1_limit_1 : List UInt8 := dkwX1_limit_1 ++ dktX1_limit_2
def dkwX1_limit_0 : List UInt8 := [42, 42, 180, 0, 10, 27, 182, 0, 202, 154, 0, 7, 4, 167, 0, 4, 3, 8, 27, 182, 0, 53, 42, 28]
abbrev dktX1_limit_0 : List UInt8 := dkwX1_limit_0 ++ dktX1_limit_1
theorem dksX1_limit_0 : cX1_limit.data.toList.drop 0 = dktX1_limit_0 := by decide +kernel
theorem dksX1_limit_1 : cX1_limit.data.toList.drop 24 = dktX1_limit_1 := dk_seg dksX1_limit_0 24 rfl rfl
theorem dksX1_limit_2 : cX1_limit.data.toList.drop 48 = dktX1_limit_2 := dk_seg dksX1_limit_1 24 rfl rfl
theorem dksX1_limit_3 : cX1_limit.data.toList.drop 71 = dktX1_limit_3 := dk_seg dksX1_limit_2 23 rfl rfl
theorem dksX1_limit_4 : cX1_limit.data.toList.drop 93 = dktX1_limit_4 := dk_seg dksX1_limit_3 22 rfl rfl
theorem dX1_limit_0 : decode cX1_limit 0 = .ok (.aload_n 0, 1) := dk_42 (dk_at dksX1_limit_0 0 rfl rfl)
theorem dX1_limit_1 : decode cX1_limit 1 = .ok (.aload_n 0, 1) := dk_42 (dk_at dksX1_limit_0 1 rfl rfl)
theorem dX1_limit_2 : decode cX1_limit 2 = .ok (.getfield 10, 3) := dk_180 0 10 (dk_at dksX1_limit_0 2 rfl rfl)
theorem dX1_limit_5 : decode cX1_limit 5 = .ok (.iload_n 1, 1) := dk_27 (dk_at dksX1_limit_0 5 rfl rfl)
theorem dX1_limit_6 : decode cX1_limit 6 = .ok (.invokevirtual 202, 3) := dk_182 0 202 (dk_at dksX1_limit_0 6 rfl rfl)
theorem dX1_limit_9 : decode cX1_limit 9 = .ok (.ifCond .ne 7, 3) := dk_154 0 7 (dk_at dksX1_limit_0 9 rfl rfl)
theorem dX1_limit_12 : decode cX1_limit 12 = .ok (.iconst 1, 1) := dk_4 (dk_at dksX1_limit_0 12 rfl rfl)
theorem dX1_limit_13 : decode cX1_limit 13 = .ok (.goto 4, 3) := dk_167 0 4 (dk_at dksX1_limit_0 13 rfl rfl)
theorem dX1_limit_16 : decode cX1_limit 16 = .ok (.iconst 0, 1) := dk_3 (dk_at dksX1_limit_0 16 rfl rfl)
theorem dX1_limit_17 : decode cX1_limit 17 = .ok (.iconst 5, 1) := dk_8 (dk_at dksX1_limit_0 17 rfl rfl)
theorem dX1_limit_18 : decode cX1_limit 18 = .ok (.iload_n 1, 1) := dk_27 (dk_at dksX1_limit_0 18 rfl rfl)
theorem dX1_limit_19 : decode cX1_limit 19 = .ok (.invokevirtual 53, 3) := dk_182 0 53 (dk_at dksX1_limit_0 19 rfl rfl)
theorem dX1_limit_22 : decode cX1_limit 22 = .ok (.aload_n 0, 1) := dk_42 (dk_at dksX1_limit_0 22 rfl rfl)
theorem dX1_limit_23 : decode cX1_limit 23 = .ok (.iload_n 2, 1) := dk_28 (dk_at dksX1_limit_0 23 rfl rfl)
theorem dX1_limit_24 : decode cX1_limit 24 = .ok (.iconst 0, 1) := dk_3 (dk_at dksX1_limit_1 0 rfl rfl)
theorem dX1_limit_25 : decode cX1_limit 25 = .ok (.bipush 60, 2) := dk_16 60 (dk_at dksX1_limit_1 1 rfl rfl)
theorem dX1_limit_27 : decode cX1_limit 27 = .ok (.invokevirtual 114, 3) := dk_182 0 114 (dk_at dksX1_limit_1 3 rfl rfl)
theorem dX1_limit_30 : decode cX1_limit 30 = .ok (.aload_n 0, 1) := dk_42 (dk_at dksX1_limit_1 6 rfl rfl)
theorem dX1_limit_31 : decode cX1_limit 31 = .ok (.aload_n 0, 1) := dk_42 (dk_at dksX1_limit_1 7 rfl rfl)
theorem dX1_limit_32 : decode cX1_limit 32 = .ok (.getfield 10, 3) := dk_180 0 10 (dk_at dksX1_limit_1 8 rfl rfl)
theorem dX1_limit_35 : decode cX1_limit 35 = .ok (.getfield 191, 3) := dk_180 0 191 (dk_at dksX1_limit_1 11 rfl rfl)
theorem dX1_limit_38 : decode cX1_limit 38 = .ok (.iload_n 1, 1) := dk_27 (dk_at dksX1_limit_1 14 rfl rfl)
theorem dX1_limit_39 : decode cX1_limit 39 = .ok (.invokevirtual 143, 3) := dk_182 0 143 (dk_at dksX1_limit_1 15 rfl rfl)
theorem dX1_limit_42 : decode cX1_limit 42 = .ok (.checkcast 194, 3) := dk_192 0 194 (dk_at dksX1_limit_1 18 rfl rfl)
theorem dX1_limit_45 : decode cX1_limit 45 = .ok (.getfield 211, 3) := dk_180 0 211 (dk_at dksX1_limit_1 21 rfl rfl)
theorem dX1_limit_48 : decode cX1_limit 48 = .ok (.iload_n 2, 1) := dk_28 (dk_at dksX1_limit_2 0 rfl rfl)
theorem dX1_limit_49 : decode cX1_limit 49 = .ok (.if_icmp .ne 7, 3) := dk_160 0 7 (dk_at dksX1_limit_2 1 rfl rfl)
theorem dX1_limit_52 : decode cX1_limit 52 = .ok (.iconst 1, 1) := dk_4 (dk_at dksX1_limit_2 4 rfl rfl)
theorem dX1_limit_53 : decode cX1_limit 53 = .ok (.goto 4, 3) := dk_167 0 4 (dk_at dksX1_limit_2 5 rfl rfl)
theorem dX1_limit_56 : decode cX1_limit 56 = .ok (.iconst 0, 1) := dk_3 (dk_at dksX1_limit_2 8 rfl rfl)
theorem dX1_limit_57 : decode cX1_limit 57 = .ok (.bipush 10, 2) := dk_16 10 (dk_at dksX1_limit_2 9 rfl rfl)
theorem dX1_limit_59 : decode cX1_limit 59 = .ok (.iload_n 2, 1) := dk_28 (dk_at dksX1_limit_2 11 rfl rfl)
theorem dX1_limit_60 : decode cX1_limit 60 = .ok (.invokevirtual 53, 3) := dk_182 0 53 (dk_at dksX1_limit_2 12 rfl rfl)
theorem dX1_limit_63 : decode cX1_limit 63 = .ok (.aload_n 0, 1) := dk_42 (dk_at dksX1_limit_2 15 rfl rfl)
theorem dX1_limit_64 : decode cX1_limit 64 = .ok (.invokevirtual 125, 3) := dk_182 0 125 (dk_at dksX1_limit_2 16 rfl rfl)
theorem dX1_limit_67 : decode cX1_limit 67 = .ok (.aload_n 0, 1) := dk_42 (dk_at dksX1_limit_2 19 rfl rfl)
theorem dX1_limit_68 : decode cX1_limit 68 = .ok (.getfield 10, 3) := dk_180 0 10 (dk_at dksX1_limit_2 20 rfl rfl)
theorem dX1_limit_71 : decode cX1_limit 71 = .ok (.getfield 191, 3) := dk_180 0 191 (dk_at dksX1_limit_3 0 rfl rfl)
theorem dX1_limit_74 : decode cX1_limit 74 = .ok (.iload_n 1, 1) := dk_27 (dk_at dksX1_limit_3 3 rfl rfl)
theorem dX1_limit_75 : decode cX1_limit 75 = .ok (.invokevirtual 143, 3) := dk_182 0 143 (dk_at dksX1_limit_3 4 rfl rfl)
theorem dX1_limit_78 : decode cX1_limit 78 = .ok (.checkcast 194, 3) := dk_192 0 194 (dk_at dksX1_limit_3 7 rfl rfl)
theorem dX1_limit_81 : decode cX1_limit 81 = .ok (.getfield 211, 3) := dk_180 0 211 (dk_at dksX1_limit_3 10 rfl rfl)
theorem dX1_limit_84 : decode cX1_limit 84 = .ok (.istore_n 3, 1) := dk_62 (dk_at dksX1_limit_3 13 rfl rfl)
theorem dX1_limit_85 : decode cX1_limit 85 = .ok (.aload_n 0, 1) := dk_42 (dk_at dksX1_limit_3 14 rfl rfl)
theorem dX1_limit_86 : decode cX1_limit 86 = .ok (.getfield 10, 3) := dk_180 0 10 (dk_at dksX1_limit_3 15 rfl rfl)
theorem dX1_limit_89 : decode cX1_limit 89 = .ok (.getfield 191, 3) := dk_180 0 191 (dk_at dksX1_limit_3 18 rfl rfl)
theorem dX1_limit_92 : decode cX1_limit 92 = .ok (.iload_n 1, 1) := dk_27 (dk_at dksX1_limit_3 21 rfl rfl)
theorem dX1_limit_93 : decode cX1_limit 93 = .ok (.invokevirtual 143, 3) := dk_182 0 143 (dk_at dksX1_limit_4 0 rfl rfl)
theorem dX1_limit_96 : decode cX1_limit 96 = .ok (.checkcast 194, 3) := dk_192 0 194 (dk_at dksX1_limit_4 3 rfl rfl)
theorem dX1_limit_99 : decode cX1_limit 99 = .ok (.iload_n 2, 1) := dk_28 (dk_at dksX1_limit_4 6 rfl rfl)
theorem dX1_limit_100 : decode cX1_limit 100 = .ok (.putfield 211, 3) := dk_181 0 211 (dk_at dksX1_limit_4 7 rfl rfl)
theorem dX1_limit_103 : decode cX1_limit 103 = .ok (.iload_n 3, 1) := dk_29 (dk_at dksX1_limit_4 10 rfl rfl)
theorem dX1_limit_104 : decode cX1_limit 104 = .ok (.ireturn, 1) := dk_172 (dk_at dksX1_limit_4 11 rfl rfl)
abbrev cX1_late : ByteArray := prog_1_method_22_code
def yX1_late : MethodName := ⟨RX1, "late", "(IIZI)I"⟩
def dkwX1_late_4 : List UInt8 := [182, 0, 233, 172]
abbrev dktX1_late_4 : List UInt8 := dkwX1_late_4 ++ []
def dkwX1_late_3 : List UInt8 := [180, 0, 10, 27, 28, 182, 0, 157, 21, 4, 182, 0, 222, 42, 182, 0, 226, 27, 28, 25, 5, 182, 0, 229]
abbrev dktX1_late_3 : List UInt8 := dkwX1_late_3 ++ dktX1_late_4
def dkwX1_late_2 : List UInt8 := [160, 0, 7, 4, 167, 0, 4, 3, 16, 10, 21, 4, 182, 0, 53, 42, 182, 0, 125, 25, 5, 42]
abbrev dktX1_late_2 : List UInt8 := dkwX1_late_2 ++ dktX1_late_3
def dkwX1_late_1 : List UInt8 := [16, 120, 182, 0, 114, 42, 42, 180, 0, 10, 27, 28, 182, 0, 157, 25, 5, 182, 0, 218, 21, 4]
abbrev dktX1_late_1 : List UInt8 := dkwX1_late_1 ++ dktX1_late_2
def dkwX1_late_0 : List UInt8 := [29, 184, 0, 214, 58, 5, 42, 27, 182, 0, 106, 42, 27, 28, 25, 5, 182, 0, 177, 42, 21, 4, 3]
abbrev dktX1_late_0 : List UInt8 := dkwX1_late_0 ++ dktX1_late_1
theorem dksX1_late_0 : cX1_late.data.toList.drop 0 = dktX1_late_0 := by decide +kernel
theorem dksX1_late_1 : cX1_late.data.toList.drop 23 = dktX1_late_1 := dk_seg dksX1_late_0 23 rfl rfl
theorem dksX1_late_2 : cX1_late.data.toList.drop 45 = dktX1_late_2 := dk_seg dksX1_late_1 22 rfl rfl
theorem dksX1_late_3 : cX1_late.data.toList.drop 67 = dktX1_late_3 := dk_seg dksX1_late_2 22 rfl rfl
theorem dksX1_late_4 : cX1_late.data.toList.drop 91 = dktX1_late_4 := dk_seg dksX1_late_3 24 rfl rfl
theorem dX1_late_0 : decode cX1_late 0 = .ok (.iload_n 3, 1) := dk_29 (dk_at dksX1_late_0 0 rfl rfl)
theorem dX1_late_1 : decode cX1_late 1 = .ok (.invokestatic 214, 3) := dk_184 0 214 (dk_at dksX1_late_0 1 rfl rfl)
theorem dX1_late_4 : decode cX1_late 4 = .ok (.astore 5, 2) := dk_58 5 (dk_at dksX1_late_0 4 rfl rfl)
theorem dX1_late_6 : decode cX1_late 6 = .ok (.aload_n 0, 1) := dk_42 (dk_at dksX1_late_0 6 rfl rfl)
theorem dX1_late_7 : decode cX1_late 7 = .ok (.iload_n 1, 1) := dk_27 (dk_at dksX1_late_0 7 rfl rfl)
theorem dX1_late_8 : decode cX1_late 8 = .ok (.invokevirtual 106, 3) := dk_182 0 106 (dk_at dksX1_late_0 8 rfl rfl)
theorem dX1_late_11 : decode cX1_late 11 = .ok (.aload_n 0, 1) := dk_42 (dk_at dksX1_late_0 11 rfl rfl)
theorem dX1_late_12 : decode cX1_late 12 = .ok (.iload_n 1, 1) := dk_27 (dk_at dksX1_late_0 12 rfl rfl)
theorem dX1_late_13 : decode cX1_late 13 = .ok (.iload_n 2, 1) := dk_28 (dk_at dksX1_late_0 13 rfl rfl)
theorem dX1_late_14 : decode cX1_late 14 = .ok (.aload 5, 2) := dk_25 5 (dk_at dksX1_late_0 14 rfl rfl)
theorem dX1_late_16 : decode cX1_late 16 = .ok (.invokevirtual 177, 3) := dk_182 0 177 (dk_at dksX1_late_0 16 rfl rfl)
theorem dX1_late_19 : decode cX1_late 19 = .ok (.aload_n 0, 1) := dk_42 (dk_at dksX1_late_0 19 rfl rfl)
theorem dX1_late_20 : decode cX1_late 20 = .ok (.iload 4, 2) := dk_21 4 (dk_at dksX1_late_0 20 rfl rfl)
theorem dX1_late_22 : decode cX1_late 22 = .ok (.iconst 0, 1) := dk_3 (dk_at dksX1_late_0 22 rfl rfl)
theorem dX1_late_23 : decode cX1_late 23 = .ok (.bipush 120, 2) := dk_16 120 (dk_at dksX1_late_1 0 rfl rfl)
theorem dX1_late_25 : decode cX1_late 25 = .ok (.invokevirtual 114, 3) := dk_182 0 114 (dk_at dksX1_late_1 2 rfl rfl)
theorem dX1_late_28 : decode cX1_late 28 = .ok (.aload_n 0, 1) := dk_42 (dk_at dksX1_late_1 5 rfl rfl)
theorem dX1_late_29 : decode cX1_late 29 = .ok (.aload_n 0, 1) := dk_42 (dk_at dksX1_late_1 6 rfl rfl)
theorem dX1_late_30 : decode cX1_late 30 = .ok (.getfield 10, 3) := dk_180 0 10 (dk_at dksX1_late_1 7 rfl rfl)
theorem dX1_late_33 : decode cX1_late 33 = .ok (.iload_n 1, 1) := dk_27 (dk_at dksX1_late_1 10 rfl rfl)
theorem dX1_late_34 : decode cX1_late 34 = .ok (.iload_n 2, 1) := dk_28 (dk_at dksX1_late_1 11 rfl rfl)
theorem dX1_late_35 : decode cX1_late 35 = .ok (.invokevirtual 157, 3) := dk_182 0 157 (dk_at dksX1_late_1 12 rfl rfl)
theorem dX1_late_38 : decode cX1_late 38 = .ok (.aload 5, 2) := dk_25 5 (dk_at dksX1_late_1 15 rfl rfl)
theorem dX1_late_40 : decode cX1_late 40 = .ok (.invokevirtual 218, 3) := dk_182 0 218 (dk_at dksX1_late_1 17 rfl rfl)
theorem dX1_late_43 : decode cX1_late 43 = .ok (.iload 4, 2) := dk_21 4 (dk_at dksX1_late_1 20 rfl rfl)
theorem dX1_late_45 : decode cX1_late 45 = .ok (.if_icmp .ne 7, 3) := dk_160 0 7 (dk_at dksX1_late_2 0 rfl rfl)
theorem dX1_late_48 : decode cX1_late 48 = .ok (.iconst 1, 1) := dk_4 (dk_at dksX1_late_2 3 rfl rfl)
theorem dX1_late_49 : decode cX1_late 49 = .ok (.goto 4, 3) := dk_167 0 4 (dk_at dksX1_late_2 4 rfl rfl)
theorem dX1_late_52 : decode cX1_late 52 = .ok (.iconst 0, 1) := dk_3 (dk_at dksX1_late_2 7 rfl rfl)
theorem dX1_late_53 : decode cX1_late 53 = .ok (.bipush 10, 2) := dk_16 10 (dk_at dksX1_late_2 8 rfl rfl)
theorem dX1_late_55 : decode cX1_late 55 = .ok (.iload 4, 2) := dk_21 4 (dk_at dksX1_late_2 10 rfl rfl)
theorem dX1_late_57 : decode cX1_late 57 = .ok (.invokevirtual 53, 3) := dk_182 0 53 (dk_at dksX1_late_2 12 rfl rfl)
theorem dX1_late_60 : decode cX1_late 60 = .ok (.aload_n 0, 1) := dk_42 (dk_at dksX1_late_2 15 rfl rfl)
theorem dX1_late_61 : decode cX1_late 61 = .ok (.invokevirtual 125, 3) := dk_182 0 125 (dk_at dksX1_late_2 16 rfl rfl)
theorem dX1_late_64 : decode cX1_late 64 = .ok (.aload 5, 2) := dk_25 5 (dk_at dksX1_late_2 19 rfl rfl)
theorem dX1_late_66 : decode cX1_late 66 = .ok (.aload_n 0, 1) := dk_42 (dk_at dksX1_late_2 21 rfl rfl)
theorem dX1_late_67 : decode cX1_late 67 = .ok (.getfield 10, 3) := dk_180 0 10 (dk_at dksX1_late_3 0 rfl rfl)
theorem dX1_late_70 : decode cX1_late 70 = .ok (.iload_n 1, 1) := dk_27 (dk_at dksX1_late_3 3 rfl rfl)
theorem dX1_late_71 : decode cX1_late 71 = .ok (.iload_n 2, 1) := dk_28 (dk_at dksX1_late_3 4 rfl rfl)
theorem dX1_late_72 : decode cX1_late 72 = .ok (.invokevirtual 157, 3) := dk_182 0 157 (dk_at dksX1_late_3 5 rfl rfl)
theorem dX1_late_75 : decode cX1_late 75 = .ok (.iload 4, 2) := dk_21 4 (dk_at dksX1_late_3 8 rfl rfl)
theorem dX1_late_77 : decode cX1_late 77 = .ok (.invokevirtual 222, 3) := dk_182 0 222 (dk_at dksX1_late_3 10 rfl rfl)
theorem dX1_late_80 : decode cX1_late 80 = .ok (.aload_n 0, 1) := dk_42 (dk_at dksX1_late_3 13 rfl rfl)
theorem dX1_late_81 : decode cX1_late 81 = .ok (.invokevirtual 226, 3) := dk_182 0 226 (dk_at dksX1_late_3 14 rfl rfl)
theorem dX1_late_84 : decode cX1_late 84 = .ok (.iload_n 1, 1) := dk_27 (dk_at dksX1_late_3 17 rfl rfl)
theorem dX1_late_85 : decode cX1_late 85 = .ok (.iload_n 2, 1) := dk_28 (dk_at dksX1_late_3 18 rfl rfl)
theorem dX1_late_86 : decode cX1_late 86 = .ok (.aload 5, 2) := dk_25 5 (dk_at dksX1_late_3 19 rfl rfl)
theorem dX1_late_88 : decode cX1_late 88 = .ok (.invokevirtual 229, 3) := dk_182 0 229 (dk_at dksX1_late_3 21 rfl rfl)
theorem dX1_late_91 : decode cX1_late 91 = .ok (.invokevirtual 233, 3) := dk_182 0 233 (dk_at dksX1_late_4 0 rfl rfl)
theorem dX1_late_94 : decode cX1_late 94 = .ok (.ireturn, 1) := dk_172 (dk_at dksX1_late_4 3 rfl rfl)
abbrev cX1_coachOf : ByteArray := prog_1_method_25_code
def yX1_coachOf : MethodName := ⟨RX1, "coachOf", "(II)I"⟩
def dkwX1_coachOf_4 : List UInt8 := [172]
abbrev dktX1_coachOf_4 : List UInt8 := dkwX1_coachOf_4 ++ []
def dkwX1_coachOf_3 : List UInt8 := [180, 0, 147, 172, 45, 180, 0, 184, 172, 42, 27, 28, 8, 160, 0, 7, 4, 167, 0, 4, 3, 182, 1, 18]
abbrev dktX1_coachOf_3 : List UInt8 := dkwX1_coachOf_3 ++ dktX1_coachOf_4
def dkwX1_coachOf_2 : List UInt8 := [45, 180, 0, 131, 182, 0, 122, 172, 45, 182, 1, 12, 172, 42, 182, 0, 226, 27, 182, 1, 14, 172, 45]
abbrev dktX1_coachOf_2 : List UInt8 := dkwX1_coachOf_2 ++ dktX1_coachOf_3
def dkwX1_coachOf_1 : List UInt8 := [170, 0, 0, 0, 0, 0, 67, 0, 0, 0, 0, 0, 0, 0, 4, 0, 0, 0, 35, 0, 0, 0, 43, 0, 0, 0, 48, 0, 0, 0, 57, 0, 0, 0, 62]
abbrev dktX1_coachOf_1 : List UInt8 := dkwX1_coachOf_1 ++ dktX1_coachOf_2
def dkwX1_coachOf_0 : List UInt8 := [42, 27, 182, 1, 5, 78, 28, 3, 16, 6, 184, 0, 49, 184, 1, 9, 28]
abbrev dktX1_coachOf_0 : List UInt8 := dkwX1_coachOf_0 ++ dktX1_coachOf_1
theorem dksX1_coachOf_0 : cX1_coachOf.data.toList.drop 0 = dktX1_coachOf_0 := by decide +kernel
theorem dksX1_coachOf_1 : cX1_coachOf.data.toList.drop 17 = dktX1_coachOf_1 := dk_seg dksX1_coachOf_0 17 rfl rfl
theorem dksX1_coachOf_2 : cX1_coachOf.data.toList.drop 52 = dktX1_coachOf_2 := dk_seg dksX1_coachOf_1 35 rfl rfl
theorem dksX1_coachOf_3 : cX1_coachOf.data.toList.drop 75 = dktX1_coachOf_3 := dk_seg dksX1_coachOf_2 23 rfl rfl
theorem dksX1_coachOf_4 : cX1_coachOf.data.toList.drop 99 = dktX1_coachOf_4 := dk_seg dksX1_coachOf_3 24 rfl rfl
theorem dX1_coachOf_0 : decode cX1_coachOf 0 = .ok (.aload_n 0, 1) := dk_42 (dk_at dksX1_coachOf_0 0 rfl rfl)
theorem dX1_coachOf_1 : decode cX1_coachOf 1 = .ok (.iload_n 1, 1) := dk_27 (dk_at dksX1_coachOf_0 1 rfl rfl)
theorem dX1_coachOf_2 : decode cX1_coachOf 2 = .ok (.invokevirtual 261, 3) := dk_182 1 5 (dk_at dksX1_coachOf_0 2 rfl rfl)
theorem dX1_coachOf_5 : decode cX1_coachOf 5 = .ok (.astore_n 3, 1) := dk_78 (dk_at dksX1_coachOf_0 5 rfl rfl)
theorem dX1_coachOf_6 : decode cX1_coachOf 6 = .ok (.iload_n 2, 1) := dk_28 (dk_at dksX1_coachOf_0 6 rfl rfl)
theorem dX1_coachOf_7 : decode cX1_coachOf 7 = .ok (.iconst 0, 1) := dk_3 (dk_at dksX1_coachOf_0 7 rfl rfl)
theorem dX1_coachOf_8 : decode cX1_coachOf 8 = .ok (.bipush 6, 2) := dk_16 6 (dk_at dksX1_coachOf_0 8 rfl rfl)
theorem dX1_coachOf_10 : decode cX1_coachOf 10 = .ok (.invokestatic 49, 3) := dk_184 0 49 (dk_at dksX1_coachOf_0 10 rfl rfl)
theorem dX1_coachOf_13 : decode cX1_coachOf 13 = .ok (.invokestatic 265, 3) := dk_184 1 9 (dk_at dksX1_coachOf_0 13 rfl rfl)
theorem dX1_coachOf_16 : decode cX1_coachOf 16 = .ok (.iload_n 2, 1) := dk_28 (dk_at dksX1_coachOf_0 16 rfl rfl)
theorem dX1_coachOf_17 : decode cX1_coachOf 17 = .ok (.tableswitch 67 0 4 #[35, 43, 48, 57, 62], 35) := by decide +kernel
theorem dX1_coachOf_52 : decode cX1_coachOf 52 = .ok (.aload_n 3, 1) := dk_45 (dk_at dksX1_coachOf_2 0 rfl rfl)
theorem dX1_coachOf_53 : decode cX1_coachOf 53 = .ok (.getfield 131, 3) := dk_180 0 131 (dk_at dksX1_coachOf_2 1 rfl rfl)
theorem dX1_coachOf_56 : decode cX1_coachOf 56 = .ok (.invokevirtual 122, 3) := dk_182 0 122 (dk_at dksX1_coachOf_2 4 rfl rfl)
theorem dX1_coachOf_59 : decode cX1_coachOf 59 = .ok (.ireturn, 1) := dk_172 (dk_at dksX1_coachOf_2 7 rfl rfl)
theorem dX1_coachOf_60 : decode cX1_coachOf 60 = .ok (.aload_n 3, 1) := dk_45 (dk_at dksX1_coachOf_2 8 rfl rfl)
theorem dX1_coachOf_61 : decode cX1_coachOf 61 = .ok (.invokevirtual 268, 3) := dk_182 1 12 (dk_at dksX1_coachOf_2 9 rfl rfl)
theorem dX1_coachOf_64 : decode cX1_coachOf 64 = .ok (.ireturn, 1) := dk_172 (dk_at dksX1_coachOf_2 12 rfl rfl)
theorem dX1_coachOf_65 : decode cX1_coachOf 65 = .ok (.aload_n 0, 1) := dk_42 (dk_at dksX1_coachOf_2 13 rfl rfl)
theorem dX1_coachOf_66 : decode cX1_coachOf 66 = .ok (.invokevirtual 226, 3) := dk_182 0 226 (dk_at dksX1_coachOf_2 14 rfl rfl)
theorem dX1_coachOf_69 : decode cX1_coachOf 69 = .ok (.iload_n 1, 1) := dk_27 (dk_at dksX1_coachOf_2 17 rfl rfl)
theorem dX1_coachOf_70 : decode cX1_coachOf 70 = .ok (.invokevirtual 270, 3) := dk_182 1 14 (dk_at dksX1_coachOf_2 18 rfl rfl)
theorem dX1_coachOf_73 : decode cX1_coachOf 73 = .ok (.ireturn, 1) := dk_172 (dk_at dksX1_coachOf_2 21 rfl rfl)
theorem dX1_coachOf_74 : decode cX1_coachOf 74 = .ok (.aload_n 3, 1) := dk_45 (dk_at dksX1_coachOf_2 22 rfl rfl)
theorem dX1_coachOf_75 : decode cX1_coachOf 75 = .ok (.getfield 147, 3) := dk_180 0 147 (dk_at dksX1_coachOf_3 0 rfl rfl)
theorem dX1_coachOf_78 : decode cX1_coachOf 78 = .ok (.ireturn, 1) := dk_172 (dk_at dksX1_coachOf_3 3 rfl rfl)
theorem dX1_coachOf_79 : decode cX1_coachOf 79 = .ok (.aload_n 3, 1) := dk_45 (dk_at dksX1_coachOf_3 4 rfl rfl)
theorem dX1_coachOf_80 : decode cX1_coachOf 80 = .ok (.getfield 184, 3) := dk_180 0 184 (dk_at dksX1_coachOf_3 5 rfl rfl)
theorem dX1_coachOf_83 : decode cX1_coachOf 83 = .ok (.ireturn, 1) := dk_172 (dk_at dksX1_coachOf_3 8 rfl rfl)
theorem dX1_coachOf_84 : decode cX1_coachOf 84 = .ok (.aload_n 0, 1) := dk_42 (dk_at dksX1_coachOf_3 9 rfl rfl)
theorem dX1_coachOf_85 : decode cX1_coachOf 85 = .ok (.iload_n 1, 1) := dk_27 (dk_at dksX1_coachOf_3 10 rfl rfl)
theorem dX1_coachOf_86 : decode cX1_coachOf 86 = .ok (.iload_n 2, 1) := dk_28 (dk_at dksX1_coachOf_3 11 rfl rfl)
theorem dX1_coachOf_87 : decode cX1_coachOf 87 = .ok (.iconst 5, 1) := dk_8 (dk_at dksX1_coachOf_3 12 rfl rfl)
theorem dX1_coachOf_88 : decode cX1_coachOf 88 = .ok (.if_icmp .ne 7, 3) := dk_160 0 7 (dk_at dksX1_coachOf_3 13 rfl rfl)
theorem dX1_coachOf_91 : decode cX1_coachOf 91 = .ok (.iconst 1, 1) := dk_4 (dk_at dksX1_coachOf_3 16 rfl rfl)
theorem dX1_coachOf_92 : decode cX1_coachOf 92 = .ok (.goto 4, 3) := dk_167 0 4 (dk_at dksX1_coachOf_3 17 rfl rfl)
theorem dX1_coachOf_95 : decode cX1_coachOf 95 = .ok (.iconst 0, 1) := dk_3 (dk_at dksX1_coachOf_3 20 rfl rfl)
theorem dX1_coachOf_96 : decode cX1_coachOf 96 = .ok (.invokevirtual 274, 3) := dk_182 1 18 (dk_at dksX1_coachOf_3 21 rfl rfl)
theorem dX1_coachOf_99 : decode cX1_coachOf 99 = .ok (.ireturn, 1) := dk_172 (dk_at dksX1_coachOf_4 0 rfl rfl)
abbrev cX1_coach0 : ByteArray := prog_1_method_23_code
def yX1_coach0 : MethodName := ⟨RX1, "coach0", "(I)LCoachTimetable$Coach;"⟩
def dkwX1_coach0_1 : List UInt8 := [192, 0, 128, 176]
abbrev dktX1_coach0_1 : List UInt8 := dkwX1_coach0_1 ++ []
def dkwX1_coach0_0 : List UInt8 := [42, 180, 0, 10, 27, 182, 0, 102, 184, 0, 238, 42, 180, 0, 10, 180, 0, 118, 27, 182, 0, 143]
abbrev dktX1_coach0_0 : List UInt8 := dkwX1_coach0_0 ++ dktX1_coach0_1
theorem dksX1_coach0_0 : cX1_coach0.data.toList.drop 0 = dktX1_coach0_0 := by decide +kernel
theorem dksX1_coach0_1 : cX1_coach0.data.toList.drop 22 = dktX1_coach0_1 := dk_seg dksX1_coach0_0 22 rfl rfl
theorem dX1_coach0_0 : decode cX1_coach0 0 = .ok (.aload_n 0, 1) := dk_42 (dk_at dksX1_coach0_0 0 rfl rfl)
theorem dX1_coach0_1 : decode cX1_coach0 1 = .ok (.getfield 10, 3) := dk_180 0 10 (dk_at dksX1_coach0_0 1 rfl rfl)
theorem dX1_coach0_4 : decode cX1_coach0 4 = .ok (.iload_n 1, 1) := dk_27 (dk_at dksX1_coach0_0 4 rfl rfl)
theorem dX1_coach0_5 : decode cX1_coach0 5 = .ok (.invokevirtual 102, 3) := dk_182 0 102 (dk_at dksX1_coach0_0 5 rfl rfl)
theorem dX1_coach0_8 : decode cX1_coach0 8 = .ok (.invokestatic 238, 3) := dk_184 0 238 (dk_at dksX1_coach0_0 8 rfl rfl)
theorem dX1_coach0_11 : decode cX1_coach0 11 = .ok (.aload_n 0, 1) := dk_42 (dk_at dksX1_coach0_0 11 rfl rfl)
theorem dX1_coach0_12 : decode cX1_coach0 12 = .ok (.getfield 10, 3) := dk_180 0 10 (dk_at dksX1_coach0_0 12 rfl rfl)
theorem dX1_coach0_15 : decode cX1_coach0 15 = .ok (.getfield 118, 3) := dk_180 0 118 (dk_at dksX1_coach0_0 15 rfl rfl)
theorem dX1_coach0_18 : decode cX1_coach0 18 = .ok (.iload_n 1, 1) := dk_27 (dk_at dksX1_coach0_0 18 rfl rfl)
theorem dX1_coach0_19 : decode cX1_coach0 19 = .ok (.invokevirtual 143, 3) := dk_182 0 143 (dk_at dksX1_coach0_0 19 rfl rfl)
theorem dX1_coach0_22 : decode cX1_coach0 22 = .ok (.checkcast 128, 3) := dk_192 0 128 (dk_at dksX1_coach0_1 0 rfl rfl)
theorem dX1_coach0_25 : decode cX1_coach0 25 = .ok (.areturn, 1) := dk_176 (dk_at dksX1_coach0_1 3 rfl rfl)
abbrev cX1_checkIndex : ByteArray := prog_1_method_6_code
def yX1_checkIndex : MethodName := ⟨RX1, "checkIndex", "(Z)V"⟩
def dkwX1_checkIndex_0 : List UInt8 := [26, 154, 0, 11, 187, 0, 60, 89, 183, 0, 62, 191, 177]
abbrev dktX1_checkIndex_0 : List UInt8 := dkwX1_checkIndex_0 ++ []
theorem dksX1_checkIndex_0 : cX1_checkIndex.data.toList.drop 0 = dktX1_checkIndex_0 := by decide +kernel
theorem dX1_checkIndex_0 : decode cX1_checkIndex 0 = .ok (.iload_n 0, 1) := dk_26 (dk_at dksX1_checkIndex_0 0 rfl rfl)
theorem dX1_checkIndex_1 : decode cX1_checkIndex 1 = .ok (.ifCond .ne 11, 3) := dk_154 0 11 (dk_at dksX1_checkIndex_0 1 rfl rfl)
theorem dX1_checkIndex_4 : decode cX1_checkIndex 4 = .ok (.new 60, 3) := dk_187 0 60 (dk_at dksX1_checkIndex_0 4 rfl rfl)
theorem dX1_checkIndex_7 : decode cX1_checkIndex 7 = .ok (.dup, 1) := dk_89 (dk_at dksX1_checkIndex_0 7 rfl rfl)
theorem dX1_checkIndex_8 : decode cX1_checkIndex 8 = .ok (.invokespecial 62, 3) := dk_183 0 62 (dk_at dksX1_checkIndex_0 8 rfl rfl)
theorem dX1_checkIndex_11 : decode cX1_checkIndex 11 = .ok (.athrow, 1) := dk_191 (dk_at dksX1_checkIndex_0 11 rfl rfl)
theorem dX1_checkIndex_12 : decode cX1_checkIndex 12 = .ok (.return_, 1) := dk_177 (dk_at dksX1_checkIndex_0 12 rfl rfl)
abbrev cX1_check : ByteArray := prog_1_method_5_code
def yX1_check : MethodName := ⟨RX1, "check", "(Z)V"⟩
def dkwX1_check_0 : List UInt8 := [26, 154, 0, 11, 187, 0, 57, 89, 183, 0, 59, 191, 177]
abbrev dktX1_check_0 : List UInt8 := dkwX1_check_0 ++ []
theorem dksX1_check_0 : cX1_check.data.toList.drop 0 = dktX1_check_0 := by decide +kernel
theorem dX1_check_0 : decode cX1_check 0 = .ok (.iload_n 0, 1) := dk_26 (dk_at dksX1_check_0 0 rfl rfl)
theorem dX1_check_1 : decode cX1_check 1 = .ok (.ifCond .ne 11, 3) := dk_154 0 11 (dk_at dksX1_check_0 1 rfl rfl)
theorem dX1_check_4 : decode cX1_check 4 = .ok (.new 57, 3) := dk_187 0 57 (dk_at dksX1_check_0 4 rfl rfl)
theorem dX1_check_7 : decode cX1_check 7 = .ok (.dup, 1) := dk_89 (dk_at dksX1_check_0 7 rfl rfl)
theorem dX1_check_8 : decode cX1_check 8 = .ok (.invokespecial 59, 3) := dk_183 0 59 (dk_at dksX1_check_0 8 rfl rfl)
theorem dX1_check_11 : decode cX1_check 11 = .ok (.athrow, 1) := dk_191 (dk_at dksX1_check_0 11 rfl rfl)
theorem dX1_check_12 : decode cX1_check 12 = .ok (.return_, 1) := dk_177 (dk_at dksX1_check_0 12 rfl rfl)
abbrev cX1_linksAt : ByteArray := prog_1_method_24_code
def yX1_linksAt : MethodName := ⟨RX1, "linksAt", "(IZ)I"⟩
def dkwX1_linksAt_2 : List UInt8 := [167, 0, 8, 25, 5, 180, 1, 2, 27, 160, 0, 7, 4, 167, 0, 4, 3, 96, 62, 167, 255, 205, 29, 172]
abbrev dktX1_linksAt_2 : List UInt8 := dkwX1_linksAt_2 ++ []
def dkwX1_linksAt_1 : List UInt8 := [25, 4, 185, 0, 252, 1, 0, 192, 0, 194, 58, 5, 29, 28, 153, 0, 11, 25, 5, 180, 0, 255]
abbrev dktX1_linksAt_1 : List UInt8 := dkwX1_linksAt_1 ++ dktX1_linksAt_2
def dkwX1_linksAt_0 : List UInt8 := [3, 62, 42, 180, 0, 10, 180, 0, 191, 182, 0, 242, 58, 4, 25, 4, 185, 0, 246, 1, 0, 153, 0, 47]
abbrev dktX1_linksAt_0 : List UInt8 := dkwX1_linksAt_0 ++ dktX1_linksAt_1
theorem dksX1_linksAt_0 : cX1_linksAt.data.toList.drop 0 = dktX1_linksAt_0 := by decide +kernel
theorem dksX1_linksAt_1 : cX1_linksAt.data.toList.drop 24 = dktX1_linksAt_1 := dk_seg dksX1_linksAt_0 24 rfl rfl
theorem dksX1_linksAt_2 : cX1_linksAt.data.toList.drop 46 = dktX1_linksAt_2 := dk_seg dksX1_linksAt_1 22 rfl rfl
theorem dX1_linksAt_0 : decode cX1_linksAt 0 = .ok (.iconst 0, 1) := dk_3 (dk_at dksX1_linksAt_0 0 rfl rfl)
theorem dX1_linksAt_1 : decode cX1_linksAt 1 = .ok (.istore_n 3, 1) := dk_62 (dk_at dksX1_linksAt_0 1 rfl rfl)
theorem dX1_linksAt_2 : decode cX1_linksAt 2 = .ok (.aload_n 0, 1) := dk_42 (dk_at dksX1_linksAt_0 2 rfl rfl)
theorem dX1_linksAt_3 : decode cX1_linksAt 3 = .ok (.getfield 10, 3) := dk_180 0 10 (dk_at dksX1_linksAt_0 3 rfl rfl)
theorem dX1_linksAt_6 : decode cX1_linksAt 6 = .ok (.getfield 191, 3) := dk_180 0 191 (dk_at dksX1_linksAt_0 6 rfl rfl)
theorem dX1_linksAt_9 : decode cX1_linksAt 9 = .ok (.invokevirtual 242, 3) := dk_182 0 242 (dk_at dksX1_linksAt_0 9 rfl rfl)
theorem dX1_linksAt_12 : decode cX1_linksAt 12 = .ok (.astore 4, 2) := dk_58 4 (dk_at dksX1_linksAt_0 12 rfl rfl)
theorem dX1_linksAt_14 : decode cX1_linksAt 14 = .ok (.aload 4, 2) := dk_25 4 (dk_at dksX1_linksAt_0 14 rfl rfl)
theorem dX1_linksAt_16 : decode cX1_linksAt 16 = .ok (.invokeinterface 246 1, 5) := by decide +kernel
theorem dX1_linksAt_21 : decode cX1_linksAt 21 = .ok (.ifCond .eq 47, 3) := dk_153 0 47 (dk_at dksX1_linksAt_0 21 rfl rfl)
theorem dX1_linksAt_24 : decode cX1_linksAt 24 = .ok (.aload 4, 2) := dk_25 4 (dk_at dksX1_linksAt_1 0 rfl rfl)
theorem dX1_linksAt_26 : decode cX1_linksAt 26 = .ok (.invokeinterface 252 1, 5) := by decide +kernel
theorem dX1_linksAt_31 : decode cX1_linksAt 31 = .ok (.checkcast 194, 3) := dk_192 0 194 (dk_at dksX1_linksAt_1 7 rfl rfl)
theorem dX1_linksAt_34 : decode cX1_linksAt 34 = .ok (.astore 5, 2) := dk_58 5 (dk_at dksX1_linksAt_1 10 rfl rfl)
theorem dX1_linksAt_36 : decode cX1_linksAt 36 = .ok (.iload_n 3, 1) := dk_29 (dk_at dksX1_linksAt_1 12 rfl rfl)
theorem dX1_linksAt_37 : decode cX1_linksAt 37 = .ok (.iload_n 2, 1) := dk_28 (dk_at dksX1_linksAt_1 13 rfl rfl)
theorem dX1_linksAt_38 : decode cX1_linksAt 38 = .ok (.ifCond .eq 11, 3) := dk_153 0 11 (dk_at dksX1_linksAt_1 14 rfl rfl)
theorem dX1_linksAt_41 : decode cX1_linksAt 41 = .ok (.aload 5, 2) := dk_25 5 (dk_at dksX1_linksAt_1 17 rfl rfl)
theorem dX1_linksAt_43 : decode cX1_linksAt 43 = .ok (.getfield 255, 3) := dk_180 0 255 (dk_at dksX1_linksAt_1 19 rfl rfl)
theorem dX1_linksAt_46 : decode cX1_linksAt 46 = .ok (.goto 8, 3) := dk_167 0 8 (dk_at dksX1_linksAt_2 0 rfl rfl)
theorem dX1_linksAt_49 : decode cX1_linksAt 49 = .ok (.aload 5, 2) := dk_25 5 (dk_at dksX1_linksAt_2 3 rfl rfl)
theorem dX1_linksAt_51 : decode cX1_linksAt 51 = .ok (.getfield 258, 3) := dk_180 1 2 (dk_at dksX1_linksAt_2 5 rfl rfl)
theorem dX1_linksAt_54 : decode cX1_linksAt 54 = .ok (.iload_n 1, 1) := dk_27 (dk_at dksX1_linksAt_2 8 rfl rfl)
theorem dX1_linksAt_55 : decode cX1_linksAt 55 = .ok (.if_icmp .ne 7, 3) := dk_160 0 7 (dk_at dksX1_linksAt_2 9 rfl rfl)
theorem dX1_linksAt_58 : decode cX1_linksAt 58 = .ok (.iconst 1, 1) := dk_4 (dk_at dksX1_linksAt_2 12 rfl rfl)
theorem dX1_linksAt_59 : decode cX1_linksAt 59 = .ok (.goto 4, 3) := dk_167 0 4 (dk_at dksX1_linksAt_2 13 rfl rfl)
theorem dX1_linksAt_62 : decode cX1_linksAt 62 = .ok (.iconst 0, 1) := dk_3 (dk_at dksX1_linksAt_2 16 rfl rfl)
theorem dX1_linksAt_63 : decode cX1_linksAt 63 = .ok (.iadd, 1) := dk_96 (dk_at dksX1_linksAt_2 17 rfl rfl)
theorem dX1_linksAt_64 : decode cX1_linksAt 64 = .ok (.istore_n 3, 1) := dk_62 (dk_at dksX1_linksAt_2 18 rfl rfl)
theorem dX1_linksAt_65 : decode cX1_linksAt 65 = .ok (.goto (-51), 3) := dk_167 255 205 (dk_at dksX1_linksAt_2 19 rfl rfl)
theorem dX1_linksAt_68 : decode cX1_linksAt 68 = .ok (.iload_n 3, 1) := dk_29 (dk_at dksX1_linksAt_2 22 rfl rfl)
theorem dX1_linksAt_69 : decode cX1_linksAt 69 = .ok (.ireturn, 1) := dk_172 (dk_at dksX1_linksAt_2 23 rfl rfl)
abbrev cX1_stopOf : ByteArray := prog_1_method_26_code
def yX1_stopOf : MethodName := ⟨RX1, "stopOf", "(III)I"⟩
def dkwX1_stopOf_5 : List UInt8 := [25, 5, 180, 1, 31, 172]
abbrev dktX1_stopOf_5 : List UInt8 := dkwX1_stopOf_5 ++ []
def dkwX1_stopOf_4 : List UInt8 := [25, 5, 180, 0, 161, 172, 25, 5, 180, 1, 22, 172, 25, 5, 180, 1, 25, 172, 25, 5, 180, 1, 28, 172]
abbrev dktX1_stopOf_4 : List UInt8 := dkwX1_stopOf_4 ++ dktX1_stopOf_5
def dkwX1_stopOf_3 : List UInt8 := [170, 0, 0, 0, 0, 0, 55, 0, 0, 0, 0, 0, 0, 0, 3, 0, 0, 0, 31, 0, 0, 0, 37, 0, 0, 0, 43, 0, 0, 0, 49]
abbrev dktX1_stopOf_3 : List UInt8 := dkwX1_stopOf_3 ++ dktX1_stopOf_4
def dkwX1_stopOf_2 : List UInt8 := [58, 5, 29]
abbrev dktX1_stopOf_2 : List UInt8 := dkwX1_stopOf_2 ++ dktX1_stopOf_3
def dkwX1_stopOf_1 : List UInt8 := [184, 0, 238, 29, 3, 7, 184, 0, 49, 184, 1, 9, 25, 4, 180, 0, 131, 28, 182, 0, 143, 192, 0, 134]
abbrev dktX1_stopOf_1 : List UInt8 := dkwX1_stopOf_1 ++ dktX1_stopOf_2
def dkwX1_stopOf_0 : List UInt8 := [42, 27, 182, 1, 5, 58, 4, 28, 3, 25, 4, 180, 0, 131, 182, 0, 122, 4, 100, 184, 0, 49]
abbrev dktX1_stopOf_0 : List UInt8 := dkwX1_stopOf_0 ++ dktX1_stopOf_1
theorem dksX1_stopOf_0 : cX1_stopOf.data.toList.drop 0 = dktX1_stopOf_0 := by decide +kernel
theorem dksX1_stopOf_1 : cX1_stopOf.data.toList.drop 22 = dktX1_stopOf_1 := dk_seg dksX1_stopOf_0 22 rfl rfl
theorem dksX1_stopOf_2 : cX1_stopOf.data.toList.drop 46 = dktX1_stopOf_2 := dk_seg dksX1_stopOf_1 24 rfl rfl
theorem dksX1_stopOf_3 : cX1_stopOf.data.toList.drop 49 = dktX1_stopOf_3 := dk_seg dksX1_stopOf_2 3 rfl rfl
theorem dksX1_stopOf_4 : cX1_stopOf.data.toList.drop 80 = dktX1_stopOf_4 := dk_seg dksX1_stopOf_3 31 rfl rfl
theorem dksX1_stopOf_5 : cX1_stopOf.data.toList.drop 104 = dktX1_stopOf_5 := dk_seg dksX1_stopOf_4 24 rfl rfl
theorem dX1_stopOf_0 : decode cX1_stopOf 0 = .ok (.aload_n 0, 1) := dk_42 (dk_at dksX1_stopOf_0 0 rfl rfl)
theorem dX1_stopOf_1 : decode cX1_stopOf 1 = .ok (.iload_n 1, 1) := dk_27 (dk_at dksX1_stopOf_0 1 rfl rfl)
theorem dX1_stopOf_2 : decode cX1_stopOf 2 = .ok (.invokevirtual 261, 3) := dk_182 1 5 (dk_at dksX1_stopOf_0 2 rfl rfl)
theorem dX1_stopOf_5 : decode cX1_stopOf 5 = .ok (.astore 4, 2) := dk_58 4 (dk_at dksX1_stopOf_0 5 rfl rfl)
theorem dX1_stopOf_7 : decode cX1_stopOf 7 = .ok (.iload_n 2, 1) := dk_28 (dk_at dksX1_stopOf_0 7 rfl rfl)
theorem dX1_stopOf_8 : decode cX1_stopOf 8 = .ok (.iconst 0, 1) := dk_3 (dk_at dksX1_stopOf_0 8 rfl rfl)
theorem dX1_stopOf_9 : decode cX1_stopOf 9 = .ok (.aload 4, 2) := dk_25 4 (dk_at dksX1_stopOf_0 9 rfl rfl)
theorem dX1_stopOf_11 : decode cX1_stopOf 11 = .ok (.getfield 131, 3) := dk_180 0 131 (dk_at dksX1_stopOf_0 11 rfl rfl)
theorem dX1_stopOf_14 : decode cX1_stopOf 14 = .ok (.invokevirtual 122, 3) := dk_182 0 122 (dk_at dksX1_stopOf_0 14 rfl rfl)
theorem dX1_stopOf_17 : decode cX1_stopOf 17 = .ok (.iconst 1, 1) := dk_4 (dk_at dksX1_stopOf_0 17 rfl rfl)
theorem dX1_stopOf_18 : decode cX1_stopOf 18 = .ok (.isub, 1) := dk_100 (dk_at dksX1_stopOf_0 18 rfl rfl)
theorem dX1_stopOf_19 : decode cX1_stopOf 19 = .ok (.invokestatic 49, 3) := dk_184 0 49 (dk_at dksX1_stopOf_0 19 rfl rfl)
theorem dX1_stopOf_22 : decode cX1_stopOf 22 = .ok (.invokestatic 238, 3) := dk_184 0 238 (dk_at dksX1_stopOf_1 0 rfl rfl)
theorem dX1_stopOf_25 : decode cX1_stopOf 25 = .ok (.iload_n 3, 1) := dk_29 (dk_at dksX1_stopOf_1 3 rfl rfl)
theorem dX1_stopOf_26 : decode cX1_stopOf 26 = .ok (.iconst 0, 1) := dk_3 (dk_at dksX1_stopOf_1 4 rfl rfl)
theorem dX1_stopOf_27 : decode cX1_stopOf 27 = .ok (.iconst 4, 1) := dk_7 (dk_at dksX1_stopOf_1 5 rfl rfl)
theorem dX1_stopOf_28 : decode cX1_stopOf 28 = .ok (.invokestatic 49, 3) := dk_184 0 49 (dk_at dksX1_stopOf_1 6 rfl rfl)
theorem dX1_stopOf_31 : decode cX1_stopOf 31 = .ok (.invokestatic 265, 3) := dk_184 1 9 (dk_at dksX1_stopOf_1 9 rfl rfl)
theorem dX1_stopOf_34 : decode cX1_stopOf 34 = .ok (.aload 4, 2) := dk_25 4 (dk_at dksX1_stopOf_1 12 rfl rfl)
theorem dX1_stopOf_36 : decode cX1_stopOf 36 = .ok (.getfield 131, 3) := dk_180 0 131 (dk_at dksX1_stopOf_1 14 rfl rfl)
theorem dX1_stopOf_39 : decode cX1_stopOf 39 = .ok (.iload_n 2, 1) := dk_28 (dk_at dksX1_stopOf_1 17 rfl rfl)
theorem dX1_stopOf_40 : decode cX1_stopOf 40 = .ok (.invokevirtual 143, 3) := dk_182 0 143 (dk_at dksX1_stopOf_1 18 rfl rfl)
theorem dX1_stopOf_43 : decode cX1_stopOf 43 = .ok (.checkcast 134, 3) := dk_192 0 134 (dk_at dksX1_stopOf_1 21 rfl rfl)
theorem dX1_stopOf_46 : decode cX1_stopOf 46 = .ok (.astore 5, 2) := dk_58 5 (dk_at dksX1_stopOf_2 0 rfl rfl)
theorem dX1_stopOf_48 : decode cX1_stopOf 48 = .ok (.iload_n 3, 1) := dk_29 (dk_at dksX1_stopOf_2 2 rfl rfl)
theorem dX1_stopOf_49 : decode cX1_stopOf 49 = .ok (.tableswitch 55 0 3 #[31, 37, 43, 49], 31) := by decide +kernel
theorem dX1_stopOf_80 : decode cX1_stopOf 80 = .ok (.aload 5, 2) := dk_25 5 (dk_at dksX1_stopOf_4 0 rfl rfl)
theorem dX1_stopOf_82 : decode cX1_stopOf 82 = .ok (.getfield 161, 3) := dk_180 0 161 (dk_at dksX1_stopOf_4 2 rfl rfl)
theorem dX1_stopOf_85 : decode cX1_stopOf 85 = .ok (.ireturn, 1) := dk_172 (dk_at dksX1_stopOf_4 5 rfl rfl)
theorem dX1_stopOf_86 : decode cX1_stopOf 86 = .ok (.aload 5, 2) := dk_25 5 (dk_at dksX1_stopOf_4 6 rfl rfl)
theorem dX1_stopOf_88 : decode cX1_stopOf 88 = .ok (.getfield 278, 3) := dk_180 1 22 (dk_at dksX1_stopOf_4 8 rfl rfl)
theorem dX1_stopOf_91 : decode cX1_stopOf 91 = .ok (.ireturn, 1) := dk_172 (dk_at dksX1_stopOf_4 11 rfl rfl)
theorem dX1_stopOf_92 : decode cX1_stopOf 92 = .ok (.aload 5, 2) := dk_25 5 (dk_at dksX1_stopOf_4 12 rfl rfl)
theorem dX1_stopOf_94 : decode cX1_stopOf 94 = .ok (.getfield 281, 3) := dk_180 1 25 (dk_at dksX1_stopOf_4 14 rfl rfl)
theorem dX1_stopOf_97 : decode cX1_stopOf 97 = .ok (.ireturn, 1) := dk_172 (dk_at dksX1_stopOf_4 17 rfl rfl)
theorem dX1_stopOf_98 : decode cX1_stopOf 98 = .ok (.aload 5, 2) := dk_25 5 (dk_at dksX1_stopOf_4 18 rfl rfl)
theorem dX1_stopOf_100 : decode cX1_stopOf 100 = .ok (.getfield 284, 3) := dk_180 1 28 (dk_at dksX1_stopOf_4 20 rfl rfl)
theorem dX1_stopOf_103 : decode cX1_stopOf 103 = .ok (.ireturn, 1) := dk_172 (dk_at dksX1_stopOf_4 23 rfl rfl)
theorem dX1_stopOf_104 : decode cX1_stopOf 104 = .ok (.aload 5, 2) := dk_25 5 (dk_at dksX1_stopOf_5 0 rfl rfl)
theorem dX1_stopOf_106 : decode cX1_stopOf 106 = .ok (.getfield 287, 3) := dk_180 1 31 (dk_at dksX1_stopOf_5 2 rfl rfl)
theorem dX1_stopOf_109 : decode cX1_stopOf 109 = .ok (.ireturn, 1) := dk_172 (dk_at dksX1_stopOf_5 5 rfl rfl)
abbrev cX1_eventOf : ByteArray := prog_1_method_28_code
def yX1_eventOf : MethodName := ⟨RX1, "eventOf", "(IIZI)I"⟩
def dkwX1_eventOf_4 : List UInt8 := [25, 5, 180, 1, 46, 172, 25, 5, 180, 1, 49, 172]
abbrev dktX1_eventOf_4 : List UInt8 := dkwX1_eventOf_4 ++ []
def dkwX1_eventOf_3 : List UInt8 := [25, 5, 180, 1, 38, 172, 25, 5, 180, 1, 41, 172, 25, 5, 182, 0, 233, 172, 25, 5, 180, 1, 44, 172]
abbrev dktX1_eventOf_3 : List UInt8 := dkwX1_eventOf_3 ++ dktX1_eventOf_4
def dkwX1_eventOf_2 : List UInt8 := [170, 0, 0, 0, 0, 64, 0, 0, 0, 0, 0, 0, 0, 4, 0, 0, 0, 34, 0, 0, 0, 40, 0, 0, 0, 46, 0, 0, 0, 52, 0, 0, 0, 58]
abbrev dktX1_eventOf_2 : List UInt8 := dkwX1_eventOf_2 ++ dktX1_eventOf_3
def dkwX1_eventOf_1 : List UInt8 := [184, 0, 214, 182, 0, 229, 58, 5, 21, 4]
abbrev dktX1_eventOf_1 : List UInt8 := dkwX1_eventOf_1 ++ dktX1_eventOf_2
def dkwX1_eventOf_0 : List UInt8 := [42, 27, 28, 29, 182, 1, 34, 21, 4, 3, 8, 184, 0, 49, 184, 1, 9, 42, 182, 0, 226, 27, 28, 29]
abbrev dktX1_eventOf_0 : List UInt8 := dkwX1_eventOf_0 ++ dktX1_eventOf_1
theorem dksX1_eventOf_0 : cX1_eventOf.data.toList.drop 0 = dktX1_eventOf_0 := by decide +kernel
theorem dksX1_eventOf_1 : cX1_eventOf.data.toList.drop 24 = dktX1_eventOf_1 := dk_seg dksX1_eventOf_0 24 rfl rfl
theorem dksX1_eventOf_2 : cX1_eventOf.data.toList.drop 34 = dktX1_eventOf_2 := dk_seg dksX1_eventOf_1 10 rfl rfl
theorem dksX1_eventOf_3 : cX1_eventOf.data.toList.drop 68 = dktX1_eventOf_3 := dk_seg dksX1_eventOf_2 34 rfl rfl
theorem dksX1_eventOf_4 : cX1_eventOf.data.toList.drop 92 = dktX1_eventOf_4 := dk_seg dksX1_eventOf_3 24 rfl rfl
theorem dX1_eventOf_0 : decode cX1_eventOf 0 = .ok (.aload_n 0, 1) := dk_42 (dk_at dksX1_eventOf_0 0 rfl rfl)
theorem dX1_eventOf_1 : decode cX1_eventOf 1 = .ok (.iload_n 1, 1) := dk_27 (dk_at dksX1_eventOf_0 1 rfl rfl)
theorem dX1_eventOf_2 : decode cX1_eventOf 2 = .ok (.iload_n 2, 1) := dk_28 (dk_at dksX1_eventOf_0 2 rfl rfl)
theorem dX1_eventOf_3 : decode cX1_eventOf 3 = .ok (.iload_n 3, 1) := dk_29 (dk_at dksX1_eventOf_0 3 rfl rfl)
theorem dX1_eventOf_4 : decode cX1_eventOf 4 = .ok (.invokevirtual 290, 3) := dk_182 1 34 (dk_at dksX1_eventOf_0 4 rfl rfl)
theorem dX1_eventOf_7 : decode cX1_eventOf 7 = .ok (.iload 4, 2) := dk_21 4 (dk_at dksX1_eventOf_0 7 rfl rfl)
theorem dX1_eventOf_9 : decode cX1_eventOf 9 = .ok (.iconst 0, 1) := dk_3 (dk_at dksX1_eventOf_0 9 rfl rfl)
theorem dX1_eventOf_10 : decode cX1_eventOf 10 = .ok (.iconst 5, 1) := dk_8 (dk_at dksX1_eventOf_0 10 rfl rfl)
theorem dX1_eventOf_11 : decode cX1_eventOf 11 = .ok (.invokestatic 49, 3) := dk_184 0 49 (dk_at dksX1_eventOf_0 11 rfl rfl)
theorem dX1_eventOf_14 : decode cX1_eventOf 14 = .ok (.invokestatic 265, 3) := dk_184 1 9 (dk_at dksX1_eventOf_0 14 rfl rfl)
theorem dX1_eventOf_17 : decode cX1_eventOf 17 = .ok (.aload_n 0, 1) := dk_42 (dk_at dksX1_eventOf_0 17 rfl rfl)
theorem dX1_eventOf_18 : decode cX1_eventOf 18 = .ok (.invokevirtual 226, 3) := dk_182 0 226 (dk_at dksX1_eventOf_0 18 rfl rfl)
theorem dX1_eventOf_21 : decode cX1_eventOf 21 = .ok (.iload_n 1, 1) := dk_27 (dk_at dksX1_eventOf_0 21 rfl rfl)
theorem dX1_eventOf_22 : decode cX1_eventOf 22 = .ok (.iload_n 2, 1) := dk_28 (dk_at dksX1_eventOf_0 22 rfl rfl)
theorem dX1_eventOf_23 : decode cX1_eventOf 23 = .ok (.iload_n 3, 1) := dk_29 (dk_at dksX1_eventOf_0 23 rfl rfl)
theorem dX1_eventOf_24 : decode cX1_eventOf 24 = .ok (.invokestatic 214, 3) := dk_184 0 214 (dk_at dksX1_eventOf_1 0 rfl rfl)
theorem dX1_eventOf_27 : decode cX1_eventOf 27 = .ok (.invokevirtual 229, 3) := dk_182 0 229 (dk_at dksX1_eventOf_1 3 rfl rfl)
theorem dX1_eventOf_30 : decode cX1_eventOf 30 = .ok (.astore 5, 2) := dk_58 5 (dk_at dksX1_eventOf_1 6 rfl rfl)
theorem dX1_eventOf_32 : decode cX1_eventOf 32 = .ok (.iload 4, 2) := dk_21 4 (dk_at dksX1_eventOf_1 8 rfl rfl)
theorem dX1_eventOf_34 : decode cX1_eventOf 34 = .ok (.tableswitch 64 0 4 #[34, 40, 46, 52, 58], 34) := by decide +kernel
theorem dX1_eventOf_68 : decode cX1_eventOf 68 = .ok (.aload 5, 2) := dk_25 5 (dk_at dksX1_eventOf_3 0 rfl rfl)
theorem dX1_eventOf_70 : decode cX1_eventOf 70 = .ok (.getfield 294, 3) := dk_180 1 38 (dk_at dksX1_eventOf_3 2 rfl rfl)
theorem dX1_eventOf_73 : decode cX1_eventOf 73 = .ok (.ireturn, 1) := dk_172 (dk_at dksX1_eventOf_3 5 rfl rfl)
theorem dX1_eventOf_74 : decode cX1_eventOf 74 = .ok (.aload 5, 2) := dk_25 5 (dk_at dksX1_eventOf_3 6 rfl rfl)
theorem dX1_eventOf_76 : decode cX1_eventOf 76 = .ok (.getfield 297, 3) := dk_180 1 41 (dk_at dksX1_eventOf_3 8 rfl rfl)
theorem dX1_eventOf_79 : decode cX1_eventOf 79 = .ok (.ireturn, 1) := dk_172 (dk_at dksX1_eventOf_3 11 rfl rfl)
theorem dX1_eventOf_80 : decode cX1_eventOf 80 = .ok (.aload 5, 2) := dk_25 5 (dk_at dksX1_eventOf_3 12 rfl rfl)
theorem dX1_eventOf_82 : decode cX1_eventOf 82 = .ok (.invokevirtual 233, 3) := dk_182 0 233 (dk_at dksX1_eventOf_3 14 rfl rfl)
theorem dX1_eventOf_85 : decode cX1_eventOf 85 = .ok (.ireturn, 1) := dk_172 (dk_at dksX1_eventOf_3 17 rfl rfl)
theorem dX1_eventOf_86 : decode cX1_eventOf 86 = .ok (.aload 5, 2) := dk_25 5 (dk_at dksX1_eventOf_3 18 rfl rfl)
theorem dX1_eventOf_88 : decode cX1_eventOf 88 = .ok (.getfield 300, 3) := dk_180 1 44 (dk_at dksX1_eventOf_3 20 rfl rfl)
theorem dX1_eventOf_91 : decode cX1_eventOf 91 = .ok (.ireturn, 1) := dk_172 (dk_at dksX1_eventOf_3 23 rfl rfl)
theorem dX1_eventOf_92 : decode cX1_eventOf 92 = .ok (.aload 5, 2) := dk_25 5 (dk_at dksX1_eventOf_4 0 rfl rfl)
theorem dX1_eventOf_94 : decode cX1_eventOf 94 = .ok (.getfield 302, 3) := dk_180 1 46 (dk_at dksX1_eventOf_4 2 rfl rfl)
theorem dX1_eventOf_97 : decode cX1_eventOf 97 = .ok (.ireturn, 1) := dk_172 (dk_at dksX1_eventOf_4 5 rfl rfl)
theorem dX1_eventOf_98 : decode cX1_eventOf 98 = .ok (.aload 5, 2) := dk_25 5 (dk_at dksX1_eventOf_4 6 rfl rfl)
theorem dX1_eventOf_100 : decode cX1_eventOf 100 = .ok (.getfield 305, 3) := dk_180 1 49 (dk_at dksX1_eventOf_4 8 rfl rfl)
theorem dX1_eventOf_103 : decode cX1_eventOf 103 = .ok (.ireturn, 1) := dk_172 (dk_at dksX1_eventOf_4 11 rfl rfl)
abbrev cX1_mustBeThere : ByteArray := prog_1_method_27_code
def yX1_mustBeThere : MethodName := ⟨RX1, "mustBeThere", "(IIZ)V"⟩
def dkwX1_mustBeThere_0 : List UInt8 := [42, 180, 0, 10, 27, 28, 29, 184, 0, 214, 182, 0, 110, 184, 0, 238, 177]
abbrev dktX1_mustBeThere_0 : List UInt8 := dkwX1_mustBeThere_0 ++ []
theorem dksX1_mustBeThere_0 : cX1_mustBeThere.data.toList.drop 0 = dktX1_mustBeThere_0 := by decide +kernel
theorem dX1_mustBeThere_0 : decode cX1_mustBeThere 0 = .ok (.aload_n 0, 1) := dk_42 (dk_at dksX1_mustBeThere_0 0 rfl rfl)
theorem dX1_mustBeThere_1 : decode cX1_mustBeThere 1 = .ok (.getfield 10, 3) := dk_180 0 10 (dk_at dksX1_mustBeThere_0 1 rfl rfl)
theorem dX1_mustBeThere_4 : decode cX1_mustBeThere 4 = .ok (.iload_n 1, 1) := dk_27 (dk_at dksX1_mustBeThere_0 4 rfl rfl)
theorem dX1_mustBeThere_5 : decode cX1_mustBeThere 5 = .ok (.iload_n 2, 1) := dk_28 (dk_at dksX1_mustBeThere_0 5 rfl rfl)
theorem dX1_mustBeThere_6 : decode cX1_mustBeThere 6 = .ok (.iload_n 3, 1) := dk_29 (dk_at dksX1_mustBeThere_0 6 rfl rfl)
theorem dX1_mustBeThere_7 : decode cX1_mustBeThere 7 = .ok (.invokestatic 214, 3) := dk_184 0 214 (dk_at dksX1_mustBeThere_0 7 rfl rfl)
theorem dX1_mustBeThere_10 : decode cX1_mustBeThere 10 = .ok (.invokevirtual 110, 3) := dk_182 0 110 (dk_at dksX1_mustBeThere_0 10 rfl rfl)
theorem dX1_mustBeThere_13 : decode cX1_mustBeThere 13 = .ok (.invokestatic 238, 3) := dk_184 0 238 (dk_at dksX1_mustBeThere_0 13 rfl rfl)
theorem dX1_mustBeThere_16 : decode cX1_mustBeThere 16 = .ok (.return_, 1) := dk_177 (dk_at dksX1_mustBeThere_0 16 rfl rfl)
abbrev cX1_minute : ByteArray := prog_1_method_29_code
def yX1_minute : MethodName := ⟨RX1, "minute", "(IIZ)I"⟩
def dkwX1_minute_0 : List UInt8 := [42, 27, 28, 29, 182, 1, 34, 42, 182, 0, 226, 27, 28, 29, 184, 0, 214, 182, 0, 229, 180, 1, 41, 172]
abbrev dktX1_minute_0 : List UInt8 := dkwX1_minute_0 ++ []
theorem dksX1_minute_0 : cX1_minute.data.toList.drop 0 = dktX1_minute_0 := by decide +kernel
theorem dX1_minute_0 : decode cX1_minute 0 = .ok (.aload_n 0, 1) := dk_42 (dk_at dksX1_minute_0 0 rfl rfl)
theorem dX1_minute_1 : decode cX1_minute 1 = .ok (.iload_n 1, 1) := dk_27 (dk_at dksX1_minute_0 1 rfl rfl)
theorem dX1_minute_2 : decode cX1_minute 2 = .ok (.iload_n 2, 1) := dk_28 (dk_at dksX1_minute_0 2 rfl rfl)
theorem dX1_minute_3 : decode cX1_minute 3 = .ok (.iload_n 3, 1) := dk_29 (dk_at dksX1_minute_0 3 rfl rfl)
theorem dX1_minute_4 : decode cX1_minute 4 = .ok (.invokevirtual 290, 3) := dk_182 1 34 (dk_at dksX1_minute_0 4 rfl rfl)
theorem dX1_minute_7 : decode cX1_minute 7 = .ok (.aload_n 0, 1) := dk_42 (dk_at dksX1_minute_0 7 rfl rfl)
theorem dX1_minute_8 : decode cX1_minute 8 = .ok (.invokevirtual 226, 3) := dk_182 0 226 (dk_at dksX1_minute_0 8 rfl rfl)
theorem dX1_minute_11 : decode cX1_minute 11 = .ok (.iload_n 1, 1) := dk_27 (dk_at dksX1_minute_0 11 rfl rfl)
theorem dX1_minute_12 : decode cX1_minute 12 = .ok (.iload_n 2, 1) := dk_28 (dk_at dksX1_minute_0 12 rfl rfl)
theorem dX1_minute_13 : decode cX1_minute 13 = .ok (.iload_n 3, 1) := dk_29 (dk_at dksX1_minute_0 13 rfl rfl)
theorem dX1_minute_14 : decode cX1_minute 14 = .ok (.invokestatic 214, 3) := dk_184 0 214 (dk_at dksX1_minute_0 14 rfl rfl)
theorem dX1_minute_17 : decode cX1_minute 17 = .ok (.invokevirtual 229, 3) := dk_182 0 229 (dk_at dksX1_minute_0 17 rfl rfl)
theorem dX1_minute_20 : decode cX1_minute 20 = .ok (.getfield 297, 3) := dk_180 1 41 (dk_at dksX1_minute_0 20 rfl rfl)
theorem dX1_minute_23 : decode cX1_minute 23 = .ok (.ireturn, 1) := dk_172 (dk_at dksX1_minute_0 23 rfl rfl)
abbrev cX1_minuteAgain : ByteArray := prog_1_method_30_code
def yX1_minuteAgain : MethodName := ⟨RX1, "minuteAgain", "(IIZ)I"⟩
def dkwX1_minuteAgain_1 : List UInt8 := [29, 184, 0, 214, 182, 0, 229, 180, 1, 41, 172]
abbrev dktX1_minuteAgain_1 : List UInt8 := dkwX1_minuteAgain_1 ++ []
def dkwX1_minuteAgain_0 : List UInt8 := [42, 27, 28, 29, 182, 1, 34, 187, 0, 73, 89, 42, 180, 0, 10, 2, 183, 0, 75, 182, 1, 52, 27, 28]
abbrev dktX1_minuteAgain_0 : List UInt8 := dkwX1_minuteAgain_0 ++ dktX1_minuteAgain_1
theorem dksX1_minuteAgain_0 : cX1_minuteAgain.data.toList.drop 0 = dktX1_minuteAgain_0 := by decide +kernel
theorem dksX1_minuteAgain_1 : cX1_minuteAgain.data.toList.drop 24 = dktX1_minuteAgain_1 := dk_seg dksX1_minuteAgain_0 24 rfl rfl
theorem dX1_minuteAgain_0 : decode cX1_minuteAgain 0 = .ok (.aload_n 0, 1) := dk_42 (dk_at dksX1_minuteAgain_0 0 rfl rfl)
theorem dX1_minuteAgain_1 : decode cX1_minuteAgain 1 = .ok (.iload_n 1, 1) := dk_27 (dk_at dksX1_minuteAgain_0 1 rfl rfl)
theorem dX1_minuteAgain_2 : decode cX1_minuteAgain 2 = .ok (.iload_n 2, 1) := dk_28 (dk_at dksX1_minuteAgain_0 2 rfl rfl)
theorem dX1_minuteAgain_3 : decode cX1_minuteAgain 3 = .ok (.iload_n 3, 1) := dk_29 (dk_at dksX1_minuteAgain_0 3 rfl rfl)
theorem dX1_minuteAgain_4 : decode cX1_minuteAgain 4 = .ok (.invokevirtual 290, 3) := dk_182 1 34 (dk_at dksX1_minuteAgain_0 4 rfl rfl)
theorem dX1_minuteAgain_7 : decode cX1_minuteAgain 7 = .ok (.new 73, 3) := dk_187 0 73 (dk_at dksX1_minuteAgain_0 7 rfl rfl)
theorem dX1_minuteAgain_10 : decode cX1_minuteAgain 10 = .ok (.dup, 1) := dk_89 (dk_at dksX1_minuteAgain_0 10 rfl rfl)
theorem dX1_minuteAgain_11 : decode cX1_minuteAgain 11 = .ok (.aload_n 0, 1) := dk_42 (dk_at dksX1_minuteAgain_0 11 rfl rfl)
theorem dX1_minuteAgain_12 : decode cX1_minuteAgain 12 = .ok (.getfield 10, 3) := dk_180 0 10 (dk_at dksX1_minuteAgain_0 12 rfl rfl)
theorem dX1_minuteAgain_15 : decode cX1_minuteAgain 15 = .ok (.iconst (-1), 1) := dk_2 (dk_at dksX1_minuteAgain_0 15 rfl rfl)
theorem dX1_minuteAgain_16 : decode cX1_minuteAgain 16 = .ok (.invokespecial 75, 3) := dk_183 0 75 (dk_at dksX1_minuteAgain_0 16 rfl rfl)
theorem dX1_minuteAgain_19 : decode cX1_minuteAgain 19 = .ok (.invokevirtual 308, 3) := dk_182 1 52 (dk_at dksX1_minuteAgain_0 19 rfl rfl)
theorem dX1_minuteAgain_22 : decode cX1_minuteAgain 22 = .ok (.iload_n 1, 1) := dk_27 (dk_at dksX1_minuteAgain_0 22 rfl rfl)
theorem dX1_minuteAgain_23 : decode cX1_minuteAgain 23 = .ok (.iload_n 2, 1) := dk_28 (dk_at dksX1_minuteAgain_0 23 rfl rfl)
theorem dX1_minuteAgain_24 : decode cX1_minuteAgain 24 = .ok (.iload_n 3, 1) := dk_29 (dk_at dksX1_minuteAgain_1 0 rfl rfl)
theorem dX1_minuteAgain_25 : decode cX1_minuteAgain 25 = .ok (.invokestatic 214, 3) := dk_184 0 214 (dk_at dksX1_minuteAgain_1 1 rfl rfl)
theorem dX1_minuteAgain_28 : decode cX1_minuteAgain 28 = .ok (.invokevirtual 229, 3) := dk_182 0 229 (dk_at dksX1_minuteAgain_1 4 rfl rfl)
theorem dX1_minuteAgain_31 : decode cX1_minuteAgain 31 = .ok (.getfield 297, 3) := dk_180 1 41 (dk_at dksX1_minuteAgain_1 7 rfl rfl)
theorem dX1_minuteAgain_34 : decode cX1_minuteAgain 34 = .ok (.ireturn, 1) := dk_172 (dk_at dksX1_minuteAgain_1 10 rfl rfl)
abbrev cX1_linkOf : ByteArray := prog_1_method_33_code
def yX1_linkOf : MethodName := ⟨RX1, "linkOf", "(II)I"⟩
def dkwX1_linkOf_4 : List UInt8 := [182, 0, 226, 27, 182, 1, 68, 172, 42, 45, 182, 1, 71, 172]
abbrev dktX1_linkOf_4 : List UInt8 := dkwX1_linkOf_4 ++ []
def dkwX1_linkOf_3 : List UInt8 := [172, 45, 180, 0, 211, 172, 42, 182, 0, 226, 27, 182, 1, 65, 153, 0, 7, 4, 167, 0, 4, 3, 172, 42]
abbrev dktX1_linkOf_3 : List UInt8 := dkwX1_linkOf_3 ++ dktX1_linkOf_4
def dkwX1_linkOf_2 : List UInt8 := [45, 180, 0, 255, 172, 45, 180, 1, 58, 172, 45, 180, 1, 2, 172, 45, 180, 1, 55, 172, 45, 180, 1, 60]
abbrev dktX1_linkOf_2 : List UInt8 := dkwX1_linkOf_2 ++ dktX1_linkOf_3
def dkwX1_linkOf_1 : List UInt8 := [170, 0, 0, 0, 0, 0, 103, 0, 0, 0, 0, 0, 0, 0, 7, 0, 0, 0, 47, 0, 0, 0, 52, 0, 0, 0, 57, 0, 0, 0, 62, 0, 0, 0, 67, 0, 0, 0, 72, 0, 0, 0, 77, 0, 0, 0, 94]
abbrev dktX1_linkOf_1 : List UInt8 := dkwX1_linkOf_1 ++ dktX1_linkOf_2
def dkwX1_linkOf_0 : List UInt8 := [42, 27, 182, 1, 61, 78, 28, 3, 16, 8, 184, 0, 49, 184, 1, 9, 28]
abbrev dktX1_linkOf_0 : List UInt8 := dkwX1_linkOf_0 ++ dktX1_linkOf_1
theorem dksX1_linkOf_0 : cX1_linkOf.data.toList.drop 0 = dktX1_linkOf_0 := by decide +kernel
theorem dksX1_linkOf_1 : cX1_linkOf.data.toList.drop 17 = dktX1_linkOf_1 := dk_seg dksX1_linkOf_0 17 rfl rfl
theorem dksX1_linkOf_2 : cX1_linkOf.data.toList.drop 64 = dktX1_linkOf_2 := dk_seg dksX1_linkOf_1 47 rfl rfl
theorem dksX1_linkOf_3 : cX1_linkOf.data.toList.drop 88 = dktX1_linkOf_3 := dk_seg dksX1_linkOf_2 24 rfl rfl
theorem dksX1_linkOf_4 : cX1_linkOf.data.toList.drop 112 = dktX1_linkOf_4 := dk_seg dksX1_linkOf_3 24 rfl rfl
theorem dX1_linkOf_0 : decode cX1_linkOf 0 = .ok (.aload_n 0, 1) := dk_42 (dk_at dksX1_linkOf_0 0 rfl rfl)
theorem dX1_linkOf_1 : decode cX1_linkOf 1 = .ok (.iload_n 1, 1) := dk_27 (dk_at dksX1_linkOf_0 1 rfl rfl)
theorem dX1_linkOf_2 : decode cX1_linkOf 2 = .ok (.invokevirtual 317, 3) := dk_182 1 61 (dk_at dksX1_linkOf_0 2 rfl rfl)
theorem dX1_linkOf_5 : decode cX1_linkOf 5 = .ok (.astore_n 3, 1) := dk_78 (dk_at dksX1_linkOf_0 5 rfl rfl)
theorem dX1_linkOf_6 : decode cX1_linkOf 6 = .ok (.iload_n 2, 1) := dk_28 (dk_at dksX1_linkOf_0 6 rfl rfl)
theorem dX1_linkOf_7 : decode cX1_linkOf 7 = .ok (.iconst 0, 1) := dk_3 (dk_at dksX1_linkOf_0 7 rfl rfl)
theorem dX1_linkOf_8 : decode cX1_linkOf 8 = .ok (.bipush 8, 2) := dk_16 8 (dk_at dksX1_linkOf_0 8 rfl rfl)
theorem dX1_linkOf_10 : decode cX1_linkOf 10 = .ok (.invokestatic 49, 3) := dk_184 0 49 (dk_at dksX1_linkOf_0 10 rfl rfl)
theorem dX1_linkOf_13 : decode cX1_linkOf 13 = .ok (.invokestatic 265, 3) := dk_184 1 9 (dk_at dksX1_linkOf_0 13 rfl rfl)
theorem dX1_linkOf_16 : decode cX1_linkOf 16 = .ok (.iload_n 2, 1) := dk_28 (dk_at dksX1_linkOf_0 16 rfl rfl)
theorem dX1_linkOf_17 : decode cX1_linkOf 17 = .ok (.tableswitch 103 0 7 #[47, 52, 57, 62, 67, 72, 77, 94], 47) := by decide +kernel
theorem dX1_linkOf_64 : decode cX1_linkOf 64 = .ok (.aload_n 3, 1) := dk_45 (dk_at dksX1_linkOf_2 0 rfl rfl)
theorem dX1_linkOf_65 : decode cX1_linkOf 65 = .ok (.getfield 255, 3) := dk_180 0 255 (dk_at dksX1_linkOf_2 1 rfl rfl)
theorem dX1_linkOf_68 : decode cX1_linkOf 68 = .ok (.ireturn, 1) := dk_172 (dk_at dksX1_linkOf_2 4 rfl rfl)
theorem dX1_linkOf_69 : decode cX1_linkOf 69 = .ok (.aload_n 3, 1) := dk_45 (dk_at dksX1_linkOf_2 5 rfl rfl)
theorem dX1_linkOf_70 : decode cX1_linkOf 70 = .ok (.getfield 314, 3) := dk_180 1 58 (dk_at dksX1_linkOf_2 6 rfl rfl)
theorem dX1_linkOf_73 : decode cX1_linkOf 73 = .ok (.ireturn, 1) := dk_172 (dk_at dksX1_linkOf_2 9 rfl rfl)
theorem dX1_linkOf_74 : decode cX1_linkOf 74 = .ok (.aload_n 3, 1) := dk_45 (dk_at dksX1_linkOf_2 10 rfl rfl)
theorem dX1_linkOf_75 : decode cX1_linkOf 75 = .ok (.getfield 258, 3) := dk_180 1 2 (dk_at dksX1_linkOf_2 11 rfl rfl)
theorem dX1_linkOf_78 : decode cX1_linkOf 78 = .ok (.ireturn, 1) := dk_172 (dk_at dksX1_linkOf_2 14 rfl rfl)
theorem dX1_linkOf_79 : decode cX1_linkOf 79 = .ok (.aload_n 3, 1) := dk_45 (dk_at dksX1_linkOf_2 15 rfl rfl)
theorem dX1_linkOf_80 : decode cX1_linkOf 80 = .ok (.getfield 311, 3) := dk_180 1 55 (dk_at dksX1_linkOf_2 16 rfl rfl)
theorem dX1_linkOf_83 : decode cX1_linkOf 83 = .ok (.ireturn, 1) := dk_172 (dk_at dksX1_linkOf_2 19 rfl rfl)
theorem dX1_linkOf_84 : decode cX1_linkOf 84 = .ok (.aload_n 3, 1) := dk_45 (dk_at dksX1_linkOf_2 20 rfl rfl)
theorem dX1_linkOf_85 : decode cX1_linkOf 85 = .ok (.getfield 316, 3) := dk_180 1 60 (dk_at dksX1_linkOf_2 21 rfl rfl)
theorem dX1_linkOf_88 : decode cX1_linkOf 88 = .ok (.ireturn, 1) := dk_172 (dk_at dksX1_linkOf_3 0 rfl rfl)
theorem dX1_linkOf_89 : decode cX1_linkOf 89 = .ok (.aload_n 3, 1) := dk_45 (dk_at dksX1_linkOf_3 1 rfl rfl)
theorem dX1_linkOf_90 : decode cX1_linkOf 90 = .ok (.getfield 211, 3) := dk_180 0 211 (dk_at dksX1_linkOf_3 2 rfl rfl)
theorem dX1_linkOf_93 : decode cX1_linkOf 93 = .ok (.ireturn, 1) := dk_172 (dk_at dksX1_linkOf_3 5 rfl rfl)
theorem dX1_linkOf_94 : decode cX1_linkOf 94 = .ok (.aload_n 0, 1) := dk_42 (dk_at dksX1_linkOf_3 6 rfl rfl)
theorem dX1_linkOf_95 : decode cX1_linkOf 95 = .ok (.invokevirtual 226, 3) := dk_182 0 226 (dk_at dksX1_linkOf_3 7 rfl rfl)
theorem dX1_linkOf_98 : decode cX1_linkOf 98 = .ok (.iload_n 1, 1) := dk_27 (dk_at dksX1_linkOf_3 10 rfl rfl)
theorem dX1_linkOf_99 : decode cX1_linkOf 99 = .ok (.invokevirtual 321, 3) := dk_182 1 65 (dk_at dksX1_linkOf_3 11 rfl rfl)
theorem dX1_linkOf_102 : decode cX1_linkOf 102 = .ok (.ifCond .eq 7, 3) := dk_153 0 7 (dk_at dksX1_linkOf_3 14 rfl rfl)
theorem dX1_linkOf_105 : decode cX1_linkOf 105 = .ok (.iconst 1, 1) := dk_4 (dk_at dksX1_linkOf_3 17 rfl rfl)
theorem dX1_linkOf_106 : decode cX1_linkOf 106 = .ok (.goto 4, 3) := dk_167 0 4 (dk_at dksX1_linkOf_3 18 rfl rfl)
theorem dX1_linkOf_109 : decode cX1_linkOf 109 = .ok (.iconst 0, 1) := dk_3 (dk_at dksX1_linkOf_3 21 rfl rfl)
theorem dX1_linkOf_110 : decode cX1_linkOf 110 = .ok (.ireturn, 1) := dk_172 (dk_at dksX1_linkOf_3 22 rfl rfl)
theorem dX1_linkOf_111 : decode cX1_linkOf 111 = .ok (.aload_n 0, 1) := dk_42 (dk_at dksX1_linkOf_3 23 rfl rfl)
theorem dX1_linkOf_112 : decode cX1_linkOf 112 = .ok (.invokevirtual 226, 3) := dk_182 0 226 (dk_at dksX1_linkOf_4 0 rfl rfl)
theorem dX1_linkOf_115 : decode cX1_linkOf 115 = .ok (.iload_n 1, 1) := dk_27 (dk_at dksX1_linkOf_4 3 rfl rfl)
theorem dX1_linkOf_116 : decode cX1_linkOf 116 = .ok (.invokevirtual 324, 3) := dk_182 1 68 (dk_at dksX1_linkOf_4 4 rfl rfl)
theorem dX1_linkOf_119 : decode cX1_linkOf 119 = .ok (.ireturn, 1) := dk_172 (dk_at dksX1_linkOf_4 7 rfl rfl)
theorem dX1_linkOf_120 : decode cX1_linkOf 120 = .ok (.aload_n 0, 1) := dk_42 (dk_at dksX1_linkOf_4 8 rfl rfl)
theorem dX1_linkOf_121 : decode cX1_linkOf 121 = .ok (.aload_n 3, 1) := dk_45 (dk_at dksX1_linkOf_4 9 rfl rfl)
theorem dX1_linkOf_122 : decode cX1_linkOf 122 = .ok (.invokevirtual 327, 3) := dk_182 1 71 (dk_at dksX1_linkOf_4 10 rfl rfl)
theorem dX1_linkOf_125 : decode cX1_linkOf 125 = .ok (.ireturn, 1) := dk_172 (dk_at dksX1_linkOf_4 13 rfl rfl)
abbrev cX1_link0 : ByteArray := prog_1_method_31_code
def yX1_link0 : MethodName := ⟨RX1, "link0", "(I)LCoachTimetable$Link;"⟩
def dkwX1_link0_1 : List UInt8 := [192, 0, 194, 176]
abbrev dktX1_link0_1 : List UInt8 := dkwX1_link0_1 ++ []
def dkwX1_link0_0 : List UInt8 := [42, 180, 0, 10, 27, 182, 0, 202, 184, 0, 238, 42, 180, 0, 10, 180, 0, 191, 27, 182, 0, 143]
abbrev dktX1_link0_0 : List UInt8 := dkwX1_link0_0 ++ dktX1_link0_1
theorem dksX1_link0_0 : cX1_link0.data.toList.drop 0 = dktX1_link0_0 := by decide +kernel
theorem dksX1_link0_1 : cX1_link0.data.toList.drop 22 = dktX1_link0_1 := dk_seg dksX1_link0_0 22 rfl rfl
theorem dX1_link0_0 : decode cX1_link0 0 = .ok (.aload_n 0, 1) := dk_42 (dk_at dksX1_link0_0 0 rfl rfl)
theorem dX1_link0_1 : decode cX1_link0 1 = .ok (.getfield 10, 3) := dk_180 0 10 (dk_at dksX1_link0_0 1 rfl rfl)
theorem dX1_link0_4 : decode cX1_link0 4 = .ok (.iload_n 1, 1) := dk_27 (dk_at dksX1_link0_0 4 rfl rfl)
theorem dX1_link0_5 : decode cX1_link0 5 = .ok (.invokevirtual 202, 3) := dk_182 0 202 (dk_at dksX1_link0_0 5 rfl rfl)
theorem dX1_link0_8 : decode cX1_link0 8 = .ok (.invokestatic 238, 3) := dk_184 0 238 (dk_at dksX1_link0_0 8 rfl rfl)
theorem dX1_link0_11 : decode cX1_link0 11 = .ok (.aload_n 0, 1) := dk_42 (dk_at dksX1_link0_0 11 rfl rfl)
theorem dX1_link0_12 : decode cX1_link0 12 = .ok (.getfield 10, 3) := dk_180 0 10 (dk_at dksX1_link0_0 12 rfl rfl)
theorem dX1_link0_15 : decode cX1_link0 15 = .ok (.getfield 191, 3) := dk_180 0 191 (dk_at dksX1_link0_0 15 rfl rfl)
theorem dX1_link0_18 : decode cX1_link0 18 = .ok (.iload_n 1, 1) := dk_27 (dk_at dksX1_link0_0 18 rfl rfl)
theorem dX1_link0_19 : decode cX1_link0 19 = .ok (.invokevirtual 143, 3) := dk_182 0 143 (dk_at dksX1_link0_0 19 rfl rfl)
theorem dX1_link0_22 : decode cX1_link0 22 = .ok (.checkcast 194, 3) := dk_192 0 194 (dk_at dksX1_link0_1 0 rfl rfl)
theorem dX1_link0_25 : decode cX1_link0 25 = .ok (.areturn, 1) := dk_176 (dk_at dksX1_link0_1 3 rfl rfl)
abbrev cX1_spareOf : ByteArray := prog_1_method_32_code
def yX1_spareOf : MethodName := ⟨RX1, "spareOf", "(LCoachTimetable$Link;)I"⟩
def dkwX1_spareOf_1 : List UInt8 := [180, 0, 255, 43, 180, 1, 58, 182, 0, 157, 180, 0, 164, 100, 43, 180, 1, 60, 100, 172]
abbrev dktX1_spareOf_1 : List UInt8 := dkwX1_spareOf_1 ++ []
def dkwX1_spareOf_0 : List UInt8 := [42, 180, 0, 10, 43, 180, 1, 2, 43, 180, 1, 55, 182, 0, 157, 180, 0, 154, 42, 180, 0, 10, 43]
abbrev dktX1_spareOf_0 : List UInt8 := dkwX1_spareOf_0 ++ dktX1_spareOf_1
theorem dksX1_spareOf_0 : cX1_spareOf.data.toList.drop 0 = dktX1_spareOf_0 := by decide +kernel
theorem dksX1_spareOf_1 : cX1_spareOf.data.toList.drop 23 = dktX1_spareOf_1 := dk_seg dksX1_spareOf_0 23 rfl rfl
theorem dX1_spareOf_0 : decode cX1_spareOf 0 = .ok (.aload_n 0, 1) := dk_42 (dk_at dksX1_spareOf_0 0 rfl rfl)
theorem dX1_spareOf_1 : decode cX1_spareOf 1 = .ok (.getfield 10, 3) := dk_180 0 10 (dk_at dksX1_spareOf_0 1 rfl rfl)
theorem dX1_spareOf_4 : decode cX1_spareOf 4 = .ok (.aload_n 1, 1) := dk_43 (dk_at dksX1_spareOf_0 4 rfl rfl)
theorem dX1_spareOf_5 : decode cX1_spareOf 5 = .ok (.getfield 258, 3) := dk_180 1 2 (dk_at dksX1_spareOf_0 5 rfl rfl)
theorem dX1_spareOf_8 : decode cX1_spareOf 8 = .ok (.aload_n 1, 1) := dk_43 (dk_at dksX1_spareOf_0 8 rfl rfl)
theorem dX1_spareOf_9 : decode cX1_spareOf 9 = .ok (.getfield 311, 3) := dk_180 1 55 (dk_at dksX1_spareOf_0 9 rfl rfl)
theorem dX1_spareOf_12 : decode cX1_spareOf 12 = .ok (.invokevirtual 157, 3) := dk_182 0 157 (dk_at dksX1_spareOf_0 12 rfl rfl)
theorem dX1_spareOf_15 : decode cX1_spareOf 15 = .ok (.getfield 154, 3) := dk_180 0 154 (dk_at dksX1_spareOf_0 15 rfl rfl)
theorem dX1_spareOf_18 : decode cX1_spareOf 18 = .ok (.aload_n 0, 1) := dk_42 (dk_at dksX1_spareOf_0 18 rfl rfl)
theorem dX1_spareOf_19 : decode cX1_spareOf 19 = .ok (.getfield 10, 3) := dk_180 0 10 (dk_at dksX1_spareOf_0 19 rfl rfl)
theorem dX1_spareOf_22 : decode cX1_spareOf 22 = .ok (.aload_n 1, 1) := dk_43 (dk_at dksX1_spareOf_0 22 rfl rfl)
theorem dX1_spareOf_23 : decode cX1_spareOf 23 = .ok (.getfield 255, 3) := dk_180 0 255 (dk_at dksX1_spareOf_1 0 rfl rfl)
theorem dX1_spareOf_26 : decode cX1_spareOf 26 = .ok (.aload_n 1, 1) := dk_43 (dk_at dksX1_spareOf_1 3 rfl rfl)
theorem dX1_spareOf_27 : decode cX1_spareOf 27 = .ok (.getfield 314, 3) := dk_180 1 58 (dk_at dksX1_spareOf_1 4 rfl rfl)
theorem dX1_spareOf_30 : decode cX1_spareOf 30 = .ok (.invokevirtual 157, 3) := dk_182 0 157 (dk_at dksX1_spareOf_1 7 rfl rfl)
theorem dX1_spareOf_33 : decode cX1_spareOf 33 = .ok (.getfield 164, 3) := dk_180 0 164 (dk_at dksX1_spareOf_1 10 rfl rfl)
theorem dX1_spareOf_36 : decode cX1_spareOf 36 = .ok (.isub, 1) := dk_100 (dk_at dksX1_spareOf_1 13 rfl rfl)
theorem dX1_spareOf_37 : decode cX1_spareOf 37 = .ok (.aload_n 1, 1) := dk_43 (dk_at dksX1_spareOf_1 14 rfl rfl)
theorem dX1_spareOf_38 : decode cX1_spareOf 38 = .ok (.getfield 316, 3) := dk_180 1 60 (dk_at dksX1_spareOf_1 15 rfl rfl)
theorem dX1_spareOf_41 : decode cX1_spareOf 41 = .ok (.isub, 1) := dk_100 (dk_at dksX1_spareOf_1 18 rfl rfl)
theorem dX1_spareOf_42 : decode cX1_spareOf 42 = .ok (.ireturn, 1) := dk_172 (dk_at dksX1_spareOf_1 19 rfl rfl)
abbrev cX1_missed : ByteArray := prog_1_method_34_code
def yX1_missed : MethodName := ⟨RX1, "missed", "(I)I"⟩
def dkwX1_missed_2 : List UInt8 := [132, 3, 1, 132, 4, 1, 167, 255, 215, 187, 0, 63, 89, 183, 0, 65, 191]
abbrev dktX1_missed_2 : List UInt8 := dkwX1_missed_2 ++ []
def dkwX1_missed_1 : List UInt8 := [162, 0, 32, 44, 21, 4, 182, 1, 65, 153, 0, 6, 167, 0, 14, 29, 27, 160, 0, 6, 21, 4, 172]
abbrev dktX1_missed_1 : List UInt8 := dkwX1_missed_1 ++ dktX1_missed_2
def dkwX1_missed_0 : List UInt8 := [42, 182, 0, 226, 77, 3, 62, 3, 54, 4, 21, 4, 42, 180, 0, 10, 180, 0, 191, 182, 0, 122]
abbrev dktX1_missed_0 : List UInt8 := dkwX1_missed_0 ++ dktX1_missed_1
theorem dksX1_missed_0 : cX1_missed.data.toList.drop 0 = dktX1_missed_0 := by decide +kernel
theorem dksX1_missed_1 : cX1_missed.data.toList.drop 22 = dktX1_missed_1 := dk_seg dksX1_missed_0 22 rfl rfl
theorem dksX1_missed_2 : cX1_missed.data.toList.drop 45 = dktX1_missed_2 := dk_seg dksX1_missed_1 23 rfl rfl
theorem dX1_missed_0 : decode cX1_missed 0 = .ok (.aload_n 0, 1) := dk_42 (dk_at dksX1_missed_0 0 rfl rfl)
theorem dX1_missed_1 : decode cX1_missed 1 = .ok (.invokevirtual 226, 3) := dk_182 0 226 (dk_at dksX1_missed_0 1 rfl rfl)
theorem dX1_missed_4 : decode cX1_missed 4 = .ok (.astore_n 2, 1) := dk_77 (dk_at dksX1_missed_0 4 rfl rfl)
theorem dX1_missed_5 : decode cX1_missed 5 = .ok (.iconst 0, 1) := dk_3 (dk_at dksX1_missed_0 5 rfl rfl)
theorem dX1_missed_6 : decode cX1_missed 6 = .ok (.istore_n 3, 1) := dk_62 (dk_at dksX1_missed_0 6 rfl rfl)
theorem dX1_missed_7 : decode cX1_missed 7 = .ok (.iconst 0, 1) := dk_3 (dk_at dksX1_missed_0 7 rfl rfl)
theorem dX1_missed_8 : decode cX1_missed 8 = .ok (.istore 4, 2) := dk_54 4 (dk_at dksX1_missed_0 8 rfl rfl)
theorem dX1_missed_10 : decode cX1_missed 10 = .ok (.iload 4, 2) := dk_21 4 (dk_at dksX1_missed_0 10 rfl rfl)
theorem dX1_missed_12 : decode cX1_missed 12 = .ok (.aload_n 0, 1) := dk_42 (dk_at dksX1_missed_0 12 rfl rfl)
theorem dX1_missed_13 : decode cX1_missed 13 = .ok (.getfield 10, 3) := dk_180 0 10 (dk_at dksX1_missed_0 13 rfl rfl)
theorem dX1_missed_16 : decode cX1_missed 16 = .ok (.getfield 191, 3) := dk_180 0 191 (dk_at dksX1_missed_0 16 rfl rfl)
theorem dX1_missed_19 : decode cX1_missed 19 = .ok (.invokevirtual 122, 3) := dk_182 0 122 (dk_at dksX1_missed_0 19 rfl rfl)
theorem dX1_missed_22 : decode cX1_missed 22 = .ok (.if_icmp .ge 32, 3) := dk_162 0 32 (dk_at dksX1_missed_1 0 rfl rfl)
theorem dX1_missed_25 : decode cX1_missed 25 = .ok (.aload_n 2, 1) := dk_44 (dk_at dksX1_missed_1 3 rfl rfl)
theorem dX1_missed_26 : decode cX1_missed 26 = .ok (.iload 4, 2) := dk_21 4 (dk_at dksX1_missed_1 4 rfl rfl)
theorem dX1_missed_28 : decode cX1_missed 28 = .ok (.invokevirtual 321, 3) := dk_182 1 65 (dk_at dksX1_missed_1 6 rfl rfl)
theorem dX1_missed_31 : decode cX1_missed 31 = .ok (.ifCond .eq 6, 3) := dk_153 0 6 (dk_at dksX1_missed_1 9 rfl rfl)
theorem dX1_missed_34 : decode cX1_missed 34 = .ok (.goto 14, 3) := dk_167 0 14 (dk_at dksX1_missed_1 12 rfl rfl)
theorem dX1_missed_37 : decode cX1_missed 37 = .ok (.iload_n 3, 1) := dk_29 (dk_at dksX1_missed_1 15 rfl rfl)
theorem dX1_missed_38 : decode cX1_missed 38 = .ok (.iload_n 1, 1) := dk_27 (dk_at dksX1_missed_1 16 rfl rfl)
theorem dX1_missed_39 : decode cX1_missed 39 = .ok (.if_icmp .ne 6, 3) := dk_160 0 6 (dk_at dksX1_missed_1 17 rfl rfl)
theorem dX1_missed_42 : decode cX1_missed 42 = .ok (.iload 4, 2) := dk_21 4 (dk_at dksX1_missed_1 20 rfl rfl)
theorem dX1_missed_44 : decode cX1_missed 44 = .ok (.ireturn, 1) := dk_172 (dk_at dksX1_missed_1 22 rfl rfl)
theorem dX1_missed_45 : decode cX1_missed 45 = .ok (.iinc 3 1, 3) := dk_132 3 1 (dk_at dksX1_missed_2 0 rfl rfl)
theorem dX1_missed_48 : decode cX1_missed 48 = .ok (.iinc 4 1, 3) := dk_132 4 1 (dk_at dksX1_missed_2 3 rfl rfl)
theorem dX1_missed_51 : decode cX1_missed 51 = .ok (.goto (-41), 3) := dk_167 255 215 (dk_at dksX1_missed_2 6 rfl rfl)
theorem dX1_missed_54 : decode cX1_missed 54 = .ok (.new 63, 3) := dk_187 0 63 (dk_at dksX1_missed_2 9 rfl rfl)
theorem dX1_missed_57 : decode cX1_missed 57 = .ok (.dup, 1) := dk_89 (dk_at dksX1_missed_2 12 rfl rfl)
theorem dX1_missed_58 : decode cX1_missed 58 = .ok (.invokespecial 65, 3) := dk_183 0 65 (dk_at dksX1_missed_2 13 rfl rfl)
theorem dX1_missed_61 : decode cX1_missed 61 = .ok (.athrow, 1) := dk_191 (dk_at dksX1_missed_2 16 rfl rfl)
abbrev cX1_waits : ByteArray := prog_1_method_35_code
def yX1_waits : MethodName := ⟨RX1, "waits", "(I)I"⟩
def dkwX1_waits_3 : List UInt8 := [132, 4, 1, 167, 255, 203, 29, 172]
abbrev dktX1_waits_3 : List UInt8 := dkwX1_waits_3 ++ []
def dkwX1_waits_2 : List UInt8 := [192, 0, 194, 180, 1, 2, 27, 160, 0, 12, 44, 21, 4, 182, 1, 68, 167, 0, 4, 3, 96, 62]
abbrev dktX1_waits_2 : List UInt8 := dkwX1_waits_2 ++ dktX1_waits_3
def dkwX1_waits_1 : List UInt8 := [180, 0, 191, 182, 0, 122, 162, 0, 44, 29, 42, 180, 0, 10, 180, 0, 191, 21, 4, 182, 0, 143]
abbrev dktX1_waits_1 : List UInt8 := dkwX1_waits_1 ++ dktX1_waits_2
def dkwX1_waits_0 : List UInt8 := [42, 27, 182, 1, 5, 87, 42, 182, 0, 226, 77, 3, 62, 3, 54, 4, 21, 4, 42, 180, 0, 10]
abbrev dktX1_waits_0 : List UInt8 := dkwX1_waits_0 ++ dktX1_waits_1
theorem dksX1_waits_0 : cX1_waits.data.toList.drop 0 = dktX1_waits_0 := by decide +kernel
theorem dksX1_waits_1 : cX1_waits.data.toList.drop 22 = dktX1_waits_1 := dk_seg dksX1_waits_0 22 rfl rfl
theorem dksX1_waits_2 : cX1_waits.data.toList.drop 44 = dktX1_waits_2 := dk_seg dksX1_waits_1 22 rfl rfl
theorem dksX1_waits_3 : cX1_waits.data.toList.drop 66 = dktX1_waits_3 := dk_seg dksX1_waits_2 22 rfl rfl
theorem dX1_waits_0 : decode cX1_waits 0 = .ok (.aload_n 0, 1) := dk_42 (dk_at dksX1_waits_0 0 rfl rfl)
theorem dX1_waits_1 : decode cX1_waits 1 = .ok (.iload_n 1, 1) := dk_27 (dk_at dksX1_waits_0 1 rfl rfl)
theorem dX1_waits_2 : decode cX1_waits 2 = .ok (.invokevirtual 261, 3) := dk_182 1 5 (dk_at dksX1_waits_0 2 rfl rfl)
theorem dX1_waits_5 : decode cX1_waits 5 = .ok (.pop, 1) := dk_87 (dk_at dksX1_waits_0 5 rfl rfl)
theorem dX1_waits_6 : decode cX1_waits 6 = .ok (.aload_n 0, 1) := dk_42 (dk_at dksX1_waits_0 6 rfl rfl)
theorem dX1_waits_7 : decode cX1_waits 7 = .ok (.invokevirtual 226, 3) := dk_182 0 226 (dk_at dksX1_waits_0 7 rfl rfl)
theorem dX1_waits_10 : decode cX1_waits 10 = .ok (.astore_n 2, 1) := dk_77 (dk_at dksX1_waits_0 10 rfl rfl)
theorem dX1_waits_11 : decode cX1_waits 11 = .ok (.iconst 0, 1) := dk_3 (dk_at dksX1_waits_0 11 rfl rfl)
theorem dX1_waits_12 : decode cX1_waits 12 = .ok (.istore_n 3, 1) := dk_62 (dk_at dksX1_waits_0 12 rfl rfl)
theorem dX1_waits_13 : decode cX1_waits 13 = .ok (.iconst 0, 1) := dk_3 (dk_at dksX1_waits_0 13 rfl rfl)
theorem dX1_waits_14 : decode cX1_waits 14 = .ok (.istore 4, 2) := dk_54 4 (dk_at dksX1_waits_0 14 rfl rfl)
theorem dX1_waits_16 : decode cX1_waits 16 = .ok (.iload 4, 2) := dk_21 4 (dk_at dksX1_waits_0 16 rfl rfl)
theorem dX1_waits_18 : decode cX1_waits 18 = .ok (.aload_n 0, 1) := dk_42 (dk_at dksX1_waits_0 18 rfl rfl)
theorem dX1_waits_19 : decode cX1_waits 19 = .ok (.getfield 10, 3) := dk_180 0 10 (dk_at dksX1_waits_0 19 rfl rfl)
theorem dX1_waits_22 : decode cX1_waits 22 = .ok (.getfield 191, 3) := dk_180 0 191 (dk_at dksX1_waits_1 0 rfl rfl)
theorem dX1_waits_25 : decode cX1_waits 25 = .ok (.invokevirtual 122, 3) := dk_182 0 122 (dk_at dksX1_waits_1 3 rfl rfl)
theorem dX1_waits_28 : decode cX1_waits 28 = .ok (.if_icmp .ge 44, 3) := dk_162 0 44 (dk_at dksX1_waits_1 6 rfl rfl)
theorem dX1_waits_31 : decode cX1_waits 31 = .ok (.iload_n 3, 1) := dk_29 (dk_at dksX1_waits_1 9 rfl rfl)
theorem dX1_waits_32 : decode cX1_waits 32 = .ok (.aload_n 0, 1) := dk_42 (dk_at dksX1_waits_1 10 rfl rfl)
theorem dX1_waits_33 : decode cX1_waits 33 = .ok (.getfield 10, 3) := dk_180 0 10 (dk_at dksX1_waits_1 11 rfl rfl)
theorem dX1_waits_36 : decode cX1_waits 36 = .ok (.getfield 191, 3) := dk_180 0 191 (dk_at dksX1_waits_1 14 rfl rfl)
theorem dX1_waits_39 : decode cX1_waits 39 = .ok (.iload 4, 2) := dk_21 4 (dk_at dksX1_waits_1 17 rfl rfl)
theorem dX1_waits_41 : decode cX1_waits 41 = .ok (.invokevirtual 143, 3) := dk_182 0 143 (dk_at dksX1_waits_1 19 rfl rfl)
theorem dX1_waits_44 : decode cX1_waits 44 = .ok (.checkcast 194, 3) := dk_192 0 194 (dk_at dksX1_waits_2 0 rfl rfl)
theorem dX1_waits_47 : decode cX1_waits 47 = .ok (.getfield 258, 3) := dk_180 1 2 (dk_at dksX1_waits_2 3 rfl rfl)
theorem dX1_waits_50 : decode cX1_waits 50 = .ok (.iload_n 1, 1) := dk_27 (dk_at dksX1_waits_2 6 rfl rfl)
theorem dX1_waits_51 : decode cX1_waits 51 = .ok (.if_icmp .ne 12, 3) := dk_160 0 12 (dk_at dksX1_waits_2 7 rfl rfl)
theorem dX1_waits_54 : decode cX1_waits 54 = .ok (.aload_n 2, 1) := dk_44 (dk_at dksX1_waits_2 10 rfl rfl)
theorem dX1_waits_55 : decode cX1_waits 55 = .ok (.iload 4, 2) := dk_21 4 (dk_at dksX1_waits_2 11 rfl rfl)
theorem dX1_waits_57 : decode cX1_waits 57 = .ok (.invokevirtual 324, 3) := dk_182 1 68 (dk_at dksX1_waits_2 13 rfl rfl)
theorem dX1_waits_60 : decode cX1_waits 60 = .ok (.goto 4, 3) := dk_167 0 4 (dk_at dksX1_waits_2 16 rfl rfl)
theorem dX1_waits_63 : decode cX1_waits 63 = .ok (.iconst 0, 1) := dk_3 (dk_at dksX1_waits_2 19 rfl rfl)
theorem dX1_waits_64 : decode cX1_waits 64 = .ok (.iadd, 1) := dk_96 (dk_at dksX1_waits_2 20 rfl rfl)
theorem dX1_waits_65 : decode cX1_waits 65 = .ok (.istore_n 3, 1) := dk_62 (dk_at dksX1_waits_2 21 rfl rfl)
theorem dX1_waits_66 : decode cX1_waits 66 = .ok (.iinc 4 1, 3) := dk_132 4 1 (dk_at dksX1_waits_3 0 rfl rfl)
theorem dX1_waits_69 : decode cX1_waits 69 = .ok (.goto (-53), 3) := dk_167 255 203 (dk_at dksX1_waits_3 3 rfl rfl)
theorem dX1_waits_72 : decode cX1_waits 72 = .ok (.iload_n 3, 1) := dk_29 (dk_at dksX1_waits_3 6 rfl rfl)
theorem dX1_waits_73 : decode cX1_waits 73 = .ok (.ireturn, 1) := dk_172 (dk_at dksX1_waits_3 7 rfl rfl)
abbrev cX1_knocks : ByteArray := prog_1_method_36_code
def yX1_knocks : MethodName := ⟨RX1, "knocks", "(I)I"⟩
def dkwX1_knocks_4 : List UInt8 := [180, 1, 41, 100, 96, 54, 4, 132, 5, 1, 167, 255, 194, 21, 4, 172]
abbrev dktX1_knocks_4 : List UInt8 := dkwX1_knocks_4 ++ []
def dkwX1_knocks_3 : List UInt8 := [167, 0, 28, 44, 21, 5, 182, 0, 143, 192, 0, 234, 180, 1, 41, 45, 21, 5, 182, 0, 143, 192, 0, 234]
abbrev dktX1_knocks_3 : List UInt8 := dkwX1_knocks_3 ++ dktX1_knocks_4
def dkwX1_knocks_2 : List UInt8 := [162, 0, 59, 21, 4, 44, 21, 5, 182, 0, 143, 192, 0, 234, 180, 1, 78, 27, 160, 0, 7, 3]
abbrev dktX1_knocks_2 : List UInt8 := dkwX1_knocks_2 ++ dktX1_knocks_3
def dkwX1_knocks_1 : List UInt8 := [183, 0, 75, 182, 0, 78, 180, 1, 75, 78, 3, 54, 4, 3, 54, 5, 21, 5, 44, 182, 0, 122]
abbrev dktX1_knocks_1 : List UInt8 := dkwX1_knocks_1 ++ dktX1_knocks_2
def dkwX1_knocks_0 : List UInt8 := [42, 27, 182, 1, 5, 87, 42, 182, 0, 226, 180, 1, 75, 77, 187, 0, 73, 89, 42, 180, 0, 10, 27]
abbrev dktX1_knocks_0 : List UInt8 := dkwX1_knocks_0 ++ dktX1_knocks_1
theorem dksX1_knocks_0 : cX1_knocks.data.toList.drop 0 = dktX1_knocks_0 := by decide +kernel
theorem dksX1_knocks_1 : cX1_knocks.data.toList.drop 23 = dktX1_knocks_1 := dk_seg dksX1_knocks_0 23 rfl rfl
theorem dksX1_knocks_2 : cX1_knocks.data.toList.drop 45 = dktX1_knocks_2 := dk_seg dksX1_knocks_1 22 rfl rfl
theorem dksX1_knocks_3 : cX1_knocks.data.toList.drop 67 = dktX1_knocks_3 := dk_seg dksX1_knocks_2 22 rfl rfl
theorem dksX1_knocks_4 : cX1_knocks.data.toList.drop 91 = dktX1_knocks_4 := dk_seg dksX1_knocks_3 24 rfl rfl
theorem dX1_knocks_0 : decode cX1_knocks 0 = .ok (.aload_n 0, 1) := dk_42 (dk_at dksX1_knocks_0 0 rfl rfl)
theorem dX1_knocks_1 : decode cX1_knocks 1 = .ok (.iload_n 1, 1) := dk_27 (dk_at dksX1_knocks_0 1 rfl rfl)
theorem dX1_knocks_2 : decode cX1_knocks 2 = .ok (.invokevirtual 261, 3) := dk_182 1 5 (dk_at dksX1_knocks_0 2 rfl rfl)
theorem dX1_knocks_5 : decode cX1_knocks 5 = .ok (.pop, 1) := dk_87 (dk_at dksX1_knocks_0 5 rfl rfl)
theorem dX1_knocks_6 : decode cX1_knocks 6 = .ok (.aload_n 0, 1) := dk_42 (dk_at dksX1_knocks_0 6 rfl rfl)
theorem dX1_knocks_7 : decode cX1_knocks 7 = .ok (.invokevirtual 226, 3) := dk_182 0 226 (dk_at dksX1_knocks_0 7 rfl rfl)
theorem dX1_knocks_10 : decode cX1_knocks 10 = .ok (.getfield 331, 3) := dk_180 1 75 (dk_at dksX1_knocks_0 10 rfl rfl)
theorem dX1_knocks_13 : decode cX1_knocks 13 = .ok (.astore_n 2, 1) := dk_77 (dk_at dksX1_knocks_0 13 rfl rfl)
theorem dX1_knocks_14 : decode cX1_knocks 14 = .ok (.new 73, 3) := dk_187 0 73 (dk_at dksX1_knocks_0 14 rfl rfl)
theorem dX1_knocks_17 : decode cX1_knocks 17 = .ok (.dup, 1) := dk_89 (dk_at dksX1_knocks_0 17 rfl rfl)
theorem dX1_knocks_18 : decode cX1_knocks 18 = .ok (.aload_n 0, 1) := dk_42 (dk_at dksX1_knocks_0 18 rfl rfl)
theorem dX1_knocks_19 : decode cX1_knocks 19 = .ok (.getfield 10, 3) := dk_180 0 10 (dk_at dksX1_knocks_0 19 rfl rfl)
theorem dX1_knocks_22 : decode cX1_knocks 22 = .ok (.iload_n 1, 1) := dk_27 (dk_at dksX1_knocks_0 22 rfl rfl)
theorem dX1_knocks_23 : decode cX1_knocks 23 = .ok (.invokespecial 75, 3) := dk_183 0 75 (dk_at dksX1_knocks_1 0 rfl rfl)
theorem dX1_knocks_26 : decode cX1_knocks 26 = .ok (.invokevirtual 78, 3) := dk_182 0 78 (dk_at dksX1_knocks_1 3 rfl rfl)
theorem dX1_knocks_29 : decode cX1_knocks 29 = .ok (.getfield 331, 3) := dk_180 1 75 (dk_at dksX1_knocks_1 6 rfl rfl)
theorem dX1_knocks_32 : decode cX1_knocks 32 = .ok (.astore_n 3, 1) := dk_78 (dk_at dksX1_knocks_1 9 rfl rfl)
theorem dX1_knocks_33 : decode cX1_knocks 33 = .ok (.iconst 0, 1) := dk_3 (dk_at dksX1_knocks_1 10 rfl rfl)
theorem dX1_knocks_34 : decode cX1_knocks 34 = .ok (.istore 4, 2) := dk_54 4 (dk_at dksX1_knocks_1 11 rfl rfl)
theorem dX1_knocks_36 : decode cX1_knocks 36 = .ok (.iconst 0, 1) := dk_3 (dk_at dksX1_knocks_1 13 rfl rfl)
theorem dX1_knocks_37 : decode cX1_knocks 37 = .ok (.istore 5, 2) := dk_54 5 (dk_at dksX1_knocks_1 14 rfl rfl)
theorem dX1_knocks_39 : decode cX1_knocks 39 = .ok (.iload 5, 2) := dk_21 5 (dk_at dksX1_knocks_1 16 rfl rfl)
theorem dX1_knocks_41 : decode cX1_knocks 41 = .ok (.aload_n 2, 1) := dk_44 (dk_at dksX1_knocks_1 18 rfl rfl)
theorem dX1_knocks_42 : decode cX1_knocks 42 = .ok (.invokevirtual 122, 3) := dk_182 0 122 (dk_at dksX1_knocks_1 19 rfl rfl)
theorem dX1_knocks_45 : decode cX1_knocks 45 = .ok (.if_icmp .ge 59, 3) := dk_162 0 59 (dk_at dksX1_knocks_2 0 rfl rfl)
theorem dX1_knocks_48 : decode cX1_knocks 48 = .ok (.iload 4, 2) := dk_21 4 (dk_at dksX1_knocks_2 3 rfl rfl)
theorem dX1_knocks_50 : decode cX1_knocks 50 = .ok (.aload_n 2, 1) := dk_44 (dk_at dksX1_knocks_2 5 rfl rfl)
theorem dX1_knocks_51 : decode cX1_knocks 51 = .ok (.iload 5, 2) := dk_21 5 (dk_at dksX1_knocks_2 6 rfl rfl)
theorem dX1_knocks_53 : decode cX1_knocks 53 = .ok (.invokevirtual 143, 3) := dk_182 0 143 (dk_at dksX1_knocks_2 8 rfl rfl)
theorem dX1_knocks_56 : decode cX1_knocks 56 = .ok (.checkcast 234, 3) := dk_192 0 234 (dk_at dksX1_knocks_2 11 rfl rfl)
theorem dX1_knocks_59 : decode cX1_knocks 59 = .ok (.getfield 334, 3) := dk_180 1 78 (dk_at dksX1_knocks_2 14 rfl rfl)
theorem dX1_knocks_62 : decode cX1_knocks 62 = .ok (.iload_n 1, 1) := dk_27 (dk_at dksX1_knocks_2 17 rfl rfl)
theorem dX1_knocks_63 : decode cX1_knocks 63 = .ok (.if_icmp .ne 7, 3) := dk_160 0 7 (dk_at dksX1_knocks_2 18 rfl rfl)
theorem dX1_knocks_66 : decode cX1_knocks 66 = .ok (.iconst 0, 1) := dk_3 (dk_at dksX1_knocks_2 21 rfl rfl)
theorem dX1_knocks_67 : decode cX1_knocks 67 = .ok (.goto 28, 3) := dk_167 0 28 (dk_at dksX1_knocks_3 0 rfl rfl)
theorem dX1_knocks_70 : decode cX1_knocks 70 = .ok (.aload_n 2, 1) := dk_44 (dk_at dksX1_knocks_3 3 rfl rfl)
theorem dX1_knocks_71 : decode cX1_knocks 71 = .ok (.iload 5, 2) := dk_21 5 (dk_at dksX1_knocks_3 4 rfl rfl)
theorem dX1_knocks_73 : decode cX1_knocks 73 = .ok (.invokevirtual 143, 3) := dk_182 0 143 (dk_at dksX1_knocks_3 6 rfl rfl)
theorem dX1_knocks_76 : decode cX1_knocks 76 = .ok (.checkcast 234, 3) := dk_192 0 234 (dk_at dksX1_knocks_3 9 rfl rfl)
theorem dX1_knocks_79 : decode cX1_knocks 79 = .ok (.getfield 297, 3) := dk_180 1 41 (dk_at dksX1_knocks_3 12 rfl rfl)
theorem dX1_knocks_82 : decode cX1_knocks 82 = .ok (.aload_n 3, 1) := dk_45 (dk_at dksX1_knocks_3 15 rfl rfl)
theorem dX1_knocks_83 : decode cX1_knocks 83 = .ok (.iload 5, 2) := dk_21 5 (dk_at dksX1_knocks_3 16 rfl rfl)
theorem dX1_knocks_85 : decode cX1_knocks 85 = .ok (.invokevirtual 143, 3) := dk_182 0 143 (dk_at dksX1_knocks_3 18 rfl rfl)
theorem dX1_knocks_88 : decode cX1_knocks 88 = .ok (.checkcast 234, 3) := dk_192 0 234 (dk_at dksX1_knocks_3 21 rfl rfl)
theorem dX1_knocks_91 : decode cX1_knocks 91 = .ok (.getfield 297, 3) := dk_180 1 41 (dk_at dksX1_knocks_4 0 rfl rfl)
theorem dX1_knocks_94 : decode cX1_knocks 94 = .ok (.isub, 1) := dk_100 (dk_at dksX1_knocks_4 3 rfl rfl)
theorem dX1_knocks_95 : decode cX1_knocks 95 = .ok (.iadd, 1) := dk_96 (dk_at dksX1_knocks_4 4 rfl rfl)
theorem dX1_knocks_96 : decode cX1_knocks 96 = .ok (.istore 4, 2) := dk_54 4 (dk_at dksX1_knocks_4 5 rfl rfl)
theorem dX1_knocks_98 : decode cX1_knocks 98 = .ok (.iinc 5 1, 3) := dk_132 5 1 (dk_at dksX1_knocks_4 7 rfl rfl)
theorem dX1_knocks_101 : decode cX1_knocks 101 = .ok (.goto (-62), 3) := dk_167 255 194 (dk_at dksX1_knocks_4 10 rfl rfl)
theorem dX1_knocks_104 : decode cX1_knocks 104 = .ok (.iload 4, 2) := dk_21 4 (dk_at dksX1_knocks_4 13 rfl rfl)
theorem dX1_knocks_106 : decode cX1_knocks 106 = .ok (.ireturn, 1) := dk_172 (dk_at dksX1_knocks_4 15 rfl rfl)
abbrev cX1_reaches : ByteArray := prog_1_method_37_code
def yX1_reaches : MethodName := ⟨RX1, "reaches", "(I)I"⟩
def dkwX1_reaches_4 : List UInt8 := [4, 167, 0, 4, 3, 96, 54, 4, 132, 5, 1, 167, 255, 191, 21, 4, 172]
abbrev dktX1_reaches_4 : List UInt8 := dkwX1_reaches_4 ++ []
def dkwX1_reaches_3 : List UInt8 := [182, 0, 143, 192, 0, 234, 180, 1, 41, 45, 21, 5, 182, 0, 143, 192, 0, 234, 180, 1, 41, 159, 0, 7]
abbrev dktX1_reaches_3 : List UInt8 := dkwX1_reaches_3 ++ dktX1_reaches_4
def dkwX1_reaches_2 : List UInt8 := [162, 0, 62, 21, 4, 44, 21, 5, 182, 0, 143, 192, 0, 234, 180, 1, 78, 27, 159, 0, 34, 44, 21, 5]
abbrev dktX1_reaches_2 : List UInt8 := dkwX1_reaches_2 ++ dktX1_reaches_3
def dkwX1_reaches_1 : List UInt8 := [183, 0, 75, 182, 0, 78, 180, 1, 75, 78, 3, 54, 4, 3, 54, 5, 21, 5, 44, 182, 0, 122]
abbrev dktX1_reaches_1 : List UInt8 := dkwX1_reaches_1 ++ dktX1_reaches_2
def dkwX1_reaches_0 : List UInt8 := [42, 27, 182, 1, 5, 87, 42, 182, 0, 226, 180, 1, 75, 77, 187, 0, 73, 89, 42, 180, 0, 10, 27]
abbrev dktX1_reaches_0 : List UInt8 := dkwX1_reaches_0 ++ dktX1_reaches_1
theorem dksX1_reaches_0 : cX1_reaches.data.toList.drop 0 = dktX1_reaches_0 := by decide +kernel
theorem dksX1_reaches_1 : cX1_reaches.data.toList.drop 23 = dktX1_reaches_1 := dk_seg dksX1_reaches_0 23 rfl rfl
theorem dksX1_reaches_2 : cX1_reaches.data.toList.drop 45 = dktX1_reaches_2 := dk_seg dksX1_reaches_1 22 rfl rfl
theorem dksX1_reaches_3 : cX1_reaches.data.toList.drop 69 = dktX1_reaches_3 := dk_seg dksX1_reaches_2 24 rfl rfl
theorem dksX1_reaches_4 : cX1_reaches.data.toList.drop 93 = dktX1_reaches_4 := dk_seg dksX1_reaches_3 24 rfl rfl
theorem dX1_reaches_0 : decode cX1_reaches 0 = .ok (.aload_n 0, 1) := dk_42 (dk_at dksX1_reaches_0 0 rfl rfl)
theorem dX1_reaches_1 : decode cX1_reaches 1 = .ok (.iload_n 1, 1) := dk_27 (dk_at dksX1_reaches_0 1 rfl rfl)
theorem dX1_reaches_2 : decode cX1_reaches 2 = .ok (.invokevirtual 261, 3) := dk_182 1 5 (dk_at dksX1_reaches_0 2 rfl rfl)
theorem dX1_reaches_5 : decode cX1_reaches 5 = .ok (.pop, 1) := dk_87 (dk_at dksX1_reaches_0 5 rfl rfl)
theorem dX1_reaches_6 : decode cX1_reaches 6 = .ok (.aload_n 0, 1) := dk_42 (dk_at dksX1_reaches_0 6 rfl rfl)
theorem dX1_reaches_7 : decode cX1_reaches 7 = .ok (.invokevirtual 226, 3) := dk_182 0 226 (dk_at dksX1_reaches_0 7 rfl rfl)
theorem dX1_reaches_10 : decode cX1_reaches 10 = .ok (.getfield 331, 3) := dk_180 1 75 (dk_at dksX1_reaches_0 10 rfl rfl)
theorem dX1_reaches_13 : decode cX1_reaches 13 = .ok (.astore_n 2, 1) := dk_77 (dk_at dksX1_reaches_0 13 rfl rfl)
theorem dX1_reaches_14 : decode cX1_reaches 14 = .ok (.new 73, 3) := dk_187 0 73 (dk_at dksX1_reaches_0 14 rfl rfl)
theorem dX1_reaches_17 : decode cX1_reaches 17 = .ok (.dup, 1) := dk_89 (dk_at dksX1_reaches_0 17 rfl rfl)
theorem dX1_reaches_18 : decode cX1_reaches 18 = .ok (.aload_n 0, 1) := dk_42 (dk_at dksX1_reaches_0 18 rfl rfl)
theorem dX1_reaches_19 : decode cX1_reaches 19 = .ok (.getfield 10, 3) := dk_180 0 10 (dk_at dksX1_reaches_0 19 rfl rfl)
theorem dX1_reaches_22 : decode cX1_reaches 22 = .ok (.iload_n 1, 1) := dk_27 (dk_at dksX1_reaches_0 22 rfl rfl)
theorem dX1_reaches_23 : decode cX1_reaches 23 = .ok (.invokespecial 75, 3) := dk_183 0 75 (dk_at dksX1_reaches_1 0 rfl rfl)
theorem dX1_reaches_26 : decode cX1_reaches 26 = .ok (.invokevirtual 78, 3) := dk_182 0 78 (dk_at dksX1_reaches_1 3 rfl rfl)
theorem dX1_reaches_29 : decode cX1_reaches 29 = .ok (.getfield 331, 3) := dk_180 1 75 (dk_at dksX1_reaches_1 6 rfl rfl)
theorem dX1_reaches_32 : decode cX1_reaches 32 = .ok (.astore_n 3, 1) := dk_78 (dk_at dksX1_reaches_1 9 rfl rfl)
theorem dX1_reaches_33 : decode cX1_reaches 33 = .ok (.iconst 0, 1) := dk_3 (dk_at dksX1_reaches_1 10 rfl rfl)
theorem dX1_reaches_34 : decode cX1_reaches 34 = .ok (.istore 4, 2) := dk_54 4 (dk_at dksX1_reaches_1 11 rfl rfl)
theorem dX1_reaches_36 : decode cX1_reaches 36 = .ok (.iconst 0, 1) := dk_3 (dk_at dksX1_reaches_1 13 rfl rfl)
theorem dX1_reaches_37 : decode cX1_reaches 37 = .ok (.istore 5, 2) := dk_54 5 (dk_at dksX1_reaches_1 14 rfl rfl)
theorem dX1_reaches_39 : decode cX1_reaches 39 = .ok (.iload 5, 2) := dk_21 5 (dk_at dksX1_reaches_1 16 rfl rfl)
theorem dX1_reaches_41 : decode cX1_reaches 41 = .ok (.aload_n 2, 1) := dk_44 (dk_at dksX1_reaches_1 18 rfl rfl)
theorem dX1_reaches_42 : decode cX1_reaches 42 = .ok (.invokevirtual 122, 3) := dk_182 0 122 (dk_at dksX1_reaches_1 19 rfl rfl)
theorem dX1_reaches_45 : decode cX1_reaches 45 = .ok (.if_icmp .ge 62, 3) := dk_162 0 62 (dk_at dksX1_reaches_2 0 rfl rfl)
theorem dX1_reaches_48 : decode cX1_reaches 48 = .ok (.iload 4, 2) := dk_21 4 (dk_at dksX1_reaches_2 3 rfl rfl)
theorem dX1_reaches_50 : decode cX1_reaches 50 = .ok (.aload_n 2, 1) := dk_44 (dk_at dksX1_reaches_2 5 rfl rfl)
theorem dX1_reaches_51 : decode cX1_reaches 51 = .ok (.iload 5, 2) := dk_21 5 (dk_at dksX1_reaches_2 6 rfl rfl)
theorem dX1_reaches_53 : decode cX1_reaches 53 = .ok (.invokevirtual 143, 3) := dk_182 0 143 (dk_at dksX1_reaches_2 8 rfl rfl)
theorem dX1_reaches_56 : decode cX1_reaches 56 = .ok (.checkcast 234, 3) := dk_192 0 234 (dk_at dksX1_reaches_2 11 rfl rfl)
theorem dX1_reaches_59 : decode cX1_reaches 59 = .ok (.getfield 334, 3) := dk_180 1 78 (dk_at dksX1_reaches_2 14 rfl rfl)
theorem dX1_reaches_62 : decode cX1_reaches 62 = .ok (.iload_n 1, 1) := dk_27 (dk_at dksX1_reaches_2 17 rfl rfl)
theorem dX1_reaches_63 : decode cX1_reaches 63 = .ok (.if_icmp .eq 34, 3) := dk_159 0 34 (dk_at dksX1_reaches_2 18 rfl rfl)
theorem dX1_reaches_66 : decode cX1_reaches 66 = .ok (.aload_n 2, 1) := dk_44 (dk_at dksX1_reaches_2 21 rfl rfl)
theorem dX1_reaches_67 : decode cX1_reaches 67 = .ok (.iload 5, 2) := dk_21 5 (dk_at dksX1_reaches_2 22 rfl rfl)
theorem dX1_reaches_69 : decode cX1_reaches 69 = .ok (.invokevirtual 143, 3) := dk_182 0 143 (dk_at dksX1_reaches_3 0 rfl rfl)
theorem dX1_reaches_72 : decode cX1_reaches 72 = .ok (.checkcast 234, 3) := dk_192 0 234 (dk_at dksX1_reaches_3 3 rfl rfl)
theorem dX1_reaches_75 : decode cX1_reaches 75 = .ok (.getfield 297, 3) := dk_180 1 41 (dk_at dksX1_reaches_3 6 rfl rfl)
theorem dX1_reaches_78 : decode cX1_reaches 78 = .ok (.aload_n 3, 1) := dk_45 (dk_at dksX1_reaches_3 9 rfl rfl)
theorem dX1_reaches_79 : decode cX1_reaches 79 = .ok (.iload 5, 2) := dk_21 5 (dk_at dksX1_reaches_3 10 rfl rfl)
theorem dX1_reaches_81 : decode cX1_reaches 81 = .ok (.invokevirtual 143, 3) := dk_182 0 143 (dk_at dksX1_reaches_3 12 rfl rfl)
theorem dX1_reaches_84 : decode cX1_reaches 84 = .ok (.checkcast 234, 3) := dk_192 0 234 (dk_at dksX1_reaches_3 15 rfl rfl)
theorem dX1_reaches_87 : decode cX1_reaches 87 = .ok (.getfield 297, 3) := dk_180 1 41 (dk_at dksX1_reaches_3 18 rfl rfl)
theorem dX1_reaches_90 : decode cX1_reaches 90 = .ok (.if_icmp .eq 7, 3) := dk_159 0 7 (dk_at dksX1_reaches_3 21 rfl rfl)
theorem dX1_reaches_93 : decode cX1_reaches 93 = .ok (.iconst 1, 1) := dk_4 (dk_at dksX1_reaches_4 0 rfl rfl)
theorem dX1_reaches_94 : decode cX1_reaches 94 = .ok (.goto 4, 3) := dk_167 0 4 (dk_at dksX1_reaches_4 1 rfl rfl)
theorem dX1_reaches_97 : decode cX1_reaches 97 = .ok (.iconst 0, 1) := dk_3 (dk_at dksX1_reaches_4 4 rfl rfl)
theorem dX1_reaches_98 : decode cX1_reaches 98 = .ok (.iadd, 1) := dk_96 (dk_at dksX1_reaches_4 5 rfl rfl)
theorem dX1_reaches_99 : decode cX1_reaches 99 = .ok (.istore 4, 2) := dk_54 4 (dk_at dksX1_reaches_4 6 rfl rfl)
theorem dX1_reaches_101 : decode cX1_reaches 101 = .ok (.iinc 5 1, 3) := dk_132 5 1 (dk_at dksX1_reaches_4 8 rfl rfl)
theorem dX1_reaches_104 : decode cX1_reaches 104 = .ok (.goto (-65), 3) := dk_167 255 191 (dk_at dksX1_reaches_4 11 rfl rfl)
theorem dX1_reaches_107 : decode cX1_reaches 107 = .ok (.iload 4, 2) := dk_21 4 (dk_at dksX1_reaches_4 14 rfl rfl)
theorem dX1_reaches_109 : decode cX1_reaches 109 = .ok (.ireturn, 1) := dk_172 (dk_at dksX1_reaches_4 16 rfl rfl)
abbrev cX1_totalWith : ByteArray := prog_1_method_40_code
def yX1_totalWith : MethodName := ⟨RX1, "totalWith", "(I)I"⟩
def dkwX1_totalWith_0 : List UInt8 := [42, 27, 182, 1, 86, 182, 1, 79, 172]
abbrev dktX1_totalWith_0 : List UInt8 := dkwX1_totalWith_0 ++ []
theorem dksX1_totalWith_0 : cX1_totalWith.data.toList.drop 0 = dktX1_totalWith_0 := by decide +kernel
theorem dX1_totalWith_0 : decode cX1_totalWith 0 = .ok (.aload_n 0, 1) := dk_42 (dk_at dksX1_totalWith_0 0 rfl rfl)
theorem dX1_totalWith_1 : decode cX1_totalWith 1 = .ok (.iload_n 1, 1) := dk_27 (dk_at dksX1_totalWith_0 1 rfl rfl)
theorem dX1_totalWith_2 : decode cX1_totalWith 2 = .ok (.invokevirtual 342, 3) := dk_182 1 86 (dk_at dksX1_totalWith_0 2 rfl rfl)
theorem dX1_totalWith_5 : decode cX1_totalWith 5 = .ok (.invokevirtual 335, 3) := dk_182 1 79 (dk_at dksX1_totalWith_0 5 rfl rfl)
theorem dX1_totalWith_8 : decode cX1_totalWith 8 = .ok (.ireturn, 1) := dk_172 (dk_at dksX1_totalWith_0 8 rfl rfl)
abbrev cX1_netWith : ByteArray := prog_1_method_39_code
def yX1_netWith : MethodName := ⟨RX1, "netWith", "(I)LCoachTimetable$Net;"⟩
def dkwX1_netWith_1 : List UInt8 := [182, 1, 82, 176]
abbrev dktX1_netWith_1 : List UInt8 := dkwX1_netWith_1 ++ []
def dkwX1_netWith_0 : List UInt8 := [27, 3, 16, 60, 184, 0, 49, 184, 1, 9, 187, 0, 73, 89, 42, 180, 0, 10, 2, 183, 0, 75, 27]
abbrev dktX1_netWith_0 : List UInt8 := dkwX1_netWith_0 ++ dktX1_netWith_1
theorem dksX1_netWith_0 : cX1_netWith.data.toList.drop 0 = dktX1_netWith_0 := by decide +kernel
theorem dksX1_netWith_1 : cX1_netWith.data.toList.drop 23 = dktX1_netWith_1 := dk_seg dksX1_netWith_0 23 rfl rfl
theorem dX1_netWith_0 : decode cX1_netWith 0 = .ok (.iload_n 1, 1) := dk_27 (dk_at dksX1_netWith_0 0 rfl rfl)
theorem dX1_netWith_1 : decode cX1_netWith 1 = .ok (.iconst 0, 1) := dk_3 (dk_at dksX1_netWith_0 1 rfl rfl)
theorem dX1_netWith_2 : decode cX1_netWith 2 = .ok (.bipush 60, 2) := dk_16 60 (dk_at dksX1_netWith_0 2 rfl rfl)
theorem dX1_netWith_4 : decode cX1_netWith 4 = .ok (.invokestatic 49, 3) := dk_184 0 49 (dk_at dksX1_netWith_0 4 rfl rfl)
theorem dX1_netWith_7 : decode cX1_netWith 7 = .ok (.invokestatic 265, 3) := dk_184 1 9 (dk_at dksX1_netWith_0 7 rfl rfl)
theorem dX1_netWith_10 : decode cX1_netWith 10 = .ok (.new 73, 3) := dk_187 0 73 (dk_at dksX1_netWith_0 10 rfl rfl)
theorem dX1_netWith_13 : decode cX1_netWith 13 = .ok (.dup, 1) := dk_89 (dk_at dksX1_netWith_0 13 rfl rfl)
theorem dX1_netWith_14 : decode cX1_netWith 14 = .ok (.aload_n 0, 1) := dk_42 (dk_at dksX1_netWith_0 14 rfl rfl)
theorem dX1_netWith_15 : decode cX1_netWith 15 = .ok (.getfield 10, 3) := dk_180 0 10 (dk_at dksX1_netWith_0 15 rfl rfl)
theorem dX1_netWith_18 : decode cX1_netWith 18 = .ok (.iconst (-1), 1) := dk_2 (dk_at dksX1_netWith_0 18 rfl rfl)
theorem dX1_netWith_19 : decode cX1_netWith 19 = .ok (.invokespecial 75, 3) := dk_183 0 75 (dk_at dksX1_netWith_0 19 rfl rfl)
theorem dX1_netWith_22 : decode cX1_netWith 22 = .ok (.iload_n 1, 1) := dk_27 (dk_at dksX1_netWith_0 22 rfl rfl)
theorem dX1_netWith_23 : decode cX1_netWith 23 = .ok (.invokevirtual 338, 3) := dk_182 1 82 (dk_at dksX1_netWith_1 0 rfl rfl)
theorem dX1_netWith_26 : decode cX1_netWith 26 = .ok (.areturn, 1) := dk_176 (dk_at dksX1_netWith_1 3 rfl rfl)
abbrev cX1_missedWith : ByteArray := prog_1_method_41_code
def yX1_missedWith : MethodName := ⟨RX1, "missedWith", "(I)I"⟩
def dkwX1_missedWith_0 : List UInt8 := [42, 180, 0, 10, 180, 0, 191, 182, 0, 122, 42, 27, 182, 1, 86, 182, 1, 89, 100, 172]
abbrev dktX1_missedWith_0 : List UInt8 := dkwX1_missedWith_0 ++ []
theorem dksX1_missedWith_0 : cX1_missedWith.data.toList.drop 0 = dktX1_missedWith_0 := by decide +kernel
theorem dX1_missedWith_0 : decode cX1_missedWith 0 = .ok (.aload_n 0, 1) := dk_42 (dk_at dksX1_missedWith_0 0 rfl rfl)
theorem dX1_missedWith_1 : decode cX1_missedWith 1 = .ok (.getfield 10, 3) := dk_180 0 10 (dk_at dksX1_missedWith_0 1 rfl rfl)
theorem dX1_missedWith_4 : decode cX1_missedWith 4 = .ok (.getfield 191, 3) := dk_180 0 191 (dk_at dksX1_missedWith_0 4 rfl rfl)
theorem dX1_missedWith_7 : decode cX1_missedWith 7 = .ok (.invokevirtual 122, 3) := dk_182 0 122 (dk_at dksX1_missedWith_0 7 rfl rfl)
theorem dX1_missedWith_10 : decode cX1_missedWith 10 = .ok (.aload_n 0, 1) := dk_42 (dk_at dksX1_missedWith_0 10 rfl rfl)
theorem dX1_missedWith_11 : decode cX1_missedWith 11 = .ok (.iload_n 1, 1) := dk_27 (dk_at dksX1_missedWith_0 11 rfl rfl)
theorem dX1_missedWith_12 : decode cX1_missedWith 12 = .ok (.invokevirtual 342, 3) := dk_182 1 86 (dk_at dksX1_missedWith_0 12 rfl rfl)
theorem dX1_missedWith_15 : decode cX1_missedWith 15 = .ok (.invokevirtual 345, 3) := dk_182 1 89 (dk_at dksX1_missedWith_0 15 rfl rfl)
theorem dX1_missedWith_18 : decode cX1_missedWith 18 = .ok (.isub, 1) := dk_100 (dk_at dksX1_missedWith_0 18 rfl rfl)
theorem dX1_missedWith_19 : decode cX1_missedWith 19 = .ok (.ireturn, 1) := dk_172 (dk_at dksX1_missedWith_0 19 rfl rfl)
abbrev cX1_bestLimit : ByteArray := prog_1_method_42_code
def yX1_bestLimit : MethodName := ⟨RX1, "bestLimit", "(I)I"⟩
def dkwX1_bestLimit_4 : List UInt8 := [167, 255, 195, 28, 172]
abbrev dktX1_bestLimit_4 : List UInt8 := dkwX1_bestLimit_4 ++ []
def dkwX1_bestLimit_3 : List UInt8 := [54, 6, 28, 2, 159, 0, 9, 21, 6, 29, 162, 0, 9, 21, 5, 61, 21, 6, 62, 132, 5, 1]
abbrev dktX1_bestLimit_3 : List UInt8 := dkwX1_bestLimit_3 ++ dktX1_bestLimit_4
def dkwX1_bestLimit_2 : List UInt8 := [25, 4, 182, 1, 79, 27, 42, 180, 0, 10, 180, 0, 191, 182, 0, 122, 25, 4, 182, 1, 89, 100, 104, 96]
abbrev dktX1_bestLimit_2 : List UInt8 := dkwX1_bestLimit_2 ++ dktX1_bestLimit_3
def dkwX1_bestLimit_1 : List UInt8 := [183, 0, 75, 58, 4, 3, 54, 5, 21, 5, 16, 60, 163, 0, 60, 25, 4, 21, 5, 182, 1, 82, 87]
abbrev dktX1_bestLimit_1 : List UInt8 := dkwX1_bestLimit_1 ++ dktX1_bestLimit_2
def dkwX1_bestLimit_0 : List UInt8 := [27, 3, 16, 99, 184, 0, 49, 184, 1, 9, 2, 61, 3, 62, 187, 0, 73, 89, 42, 180, 0, 10, 2]
abbrev dktX1_bestLimit_0 : List UInt8 := dkwX1_bestLimit_0 ++ dktX1_bestLimit_1
theorem dksX1_bestLimit_0 : cX1_bestLimit.data.toList.drop 0 = dktX1_bestLimit_0 := by decide +kernel
theorem dksX1_bestLimit_1 : cX1_bestLimit.data.toList.drop 23 = dktX1_bestLimit_1 := dk_seg dksX1_bestLimit_0 23 rfl rfl
theorem dksX1_bestLimit_2 : cX1_bestLimit.data.toList.drop 46 = dktX1_bestLimit_2 := dk_seg dksX1_bestLimit_1 23 rfl rfl
theorem dksX1_bestLimit_3 : cX1_bestLimit.data.toList.drop 70 = dktX1_bestLimit_3 := dk_seg dksX1_bestLimit_2 24 rfl rfl
theorem dksX1_bestLimit_4 : cX1_bestLimit.data.toList.drop 92 = dktX1_bestLimit_4 := dk_seg dksX1_bestLimit_3 22 rfl rfl
theorem dX1_bestLimit_0 : decode cX1_bestLimit 0 = .ok (.iload_n 1, 1) := dk_27 (dk_at dksX1_bestLimit_0 0 rfl rfl)
theorem dX1_bestLimit_1 : decode cX1_bestLimit 1 = .ok (.iconst 0, 1) := dk_3 (dk_at dksX1_bestLimit_0 1 rfl rfl)
theorem dX1_bestLimit_2 : decode cX1_bestLimit 2 = .ok (.bipush 99, 2) := dk_16 99 (dk_at dksX1_bestLimit_0 2 rfl rfl)
theorem dX1_bestLimit_4 : decode cX1_bestLimit 4 = .ok (.invokestatic 49, 3) := dk_184 0 49 (dk_at dksX1_bestLimit_0 4 rfl rfl)
theorem dX1_bestLimit_7 : decode cX1_bestLimit 7 = .ok (.invokestatic 265, 3) := dk_184 1 9 (dk_at dksX1_bestLimit_0 7 rfl rfl)
theorem dX1_bestLimit_10 : decode cX1_bestLimit 10 = .ok (.iconst (-1), 1) := dk_2 (dk_at dksX1_bestLimit_0 10 rfl rfl)
theorem dX1_bestLimit_11 : decode cX1_bestLimit 11 = .ok (.istore_n 2, 1) := dk_61 (dk_at dksX1_bestLimit_0 11 rfl rfl)
theorem dX1_bestLimit_12 : decode cX1_bestLimit 12 = .ok (.iconst 0, 1) := dk_3 (dk_at dksX1_bestLimit_0 12 rfl rfl)
theorem dX1_bestLimit_13 : decode cX1_bestLimit 13 = .ok (.istore_n 3, 1) := dk_62 (dk_at dksX1_bestLimit_0 13 rfl rfl)
theorem dX1_bestLimit_14 : decode cX1_bestLimit 14 = .ok (.new 73, 3) := dk_187 0 73 (dk_at dksX1_bestLimit_0 14 rfl rfl)
theorem dX1_bestLimit_17 : decode cX1_bestLimit 17 = .ok (.dup, 1) := dk_89 (dk_at dksX1_bestLimit_0 17 rfl rfl)
theorem dX1_bestLimit_18 : decode cX1_bestLimit 18 = .ok (.aload_n 0, 1) := dk_42 (dk_at dksX1_bestLimit_0 18 rfl rfl)
theorem dX1_bestLimit_19 : decode cX1_bestLimit 19 = .ok (.getfield 10, 3) := dk_180 0 10 (dk_at dksX1_bestLimit_0 19 rfl rfl)
theorem dX1_bestLimit_22 : decode cX1_bestLimit 22 = .ok (.iconst (-1), 1) := dk_2 (dk_at dksX1_bestLimit_0 22 rfl rfl)
theorem dX1_bestLimit_23 : decode cX1_bestLimit 23 = .ok (.invokespecial 75, 3) := dk_183 0 75 (dk_at dksX1_bestLimit_1 0 rfl rfl)
theorem dX1_bestLimit_26 : decode cX1_bestLimit 26 = .ok (.astore 4, 2) := dk_58 4 (dk_at dksX1_bestLimit_1 3 rfl rfl)
theorem dX1_bestLimit_28 : decode cX1_bestLimit 28 = .ok (.iconst 0, 1) := dk_3 (dk_at dksX1_bestLimit_1 5 rfl rfl)
theorem dX1_bestLimit_29 : decode cX1_bestLimit 29 = .ok (.istore 5, 2) := dk_54 5 (dk_at dksX1_bestLimit_1 6 rfl rfl)
theorem dX1_bestLimit_31 : decode cX1_bestLimit 31 = .ok (.iload 5, 2) := dk_21 5 (dk_at dksX1_bestLimit_1 8 rfl rfl)
theorem dX1_bestLimit_33 : decode cX1_bestLimit 33 = .ok (.bipush 60, 2) := dk_16 60 (dk_at dksX1_bestLimit_1 10 rfl rfl)
theorem dX1_bestLimit_35 : decode cX1_bestLimit 35 = .ok (.if_icmp .gt 60, 3) := dk_163 0 60 (dk_at dksX1_bestLimit_1 12 rfl rfl)
theorem dX1_bestLimit_38 : decode cX1_bestLimit 38 = .ok (.aload 4, 2) := dk_25 4 (dk_at dksX1_bestLimit_1 15 rfl rfl)
theorem dX1_bestLimit_40 : decode cX1_bestLimit 40 = .ok (.iload 5, 2) := dk_21 5 (dk_at dksX1_bestLimit_1 17 rfl rfl)
theorem dX1_bestLimit_42 : decode cX1_bestLimit 42 = .ok (.invokevirtual 338, 3) := dk_182 1 82 (dk_at dksX1_bestLimit_1 19 rfl rfl)
theorem dX1_bestLimit_45 : decode cX1_bestLimit 45 = .ok (.pop, 1) := dk_87 (dk_at dksX1_bestLimit_1 22 rfl rfl)
theorem dX1_bestLimit_46 : decode cX1_bestLimit 46 = .ok (.aload 4, 2) := dk_25 4 (dk_at dksX1_bestLimit_2 0 rfl rfl)
theorem dX1_bestLimit_48 : decode cX1_bestLimit 48 = .ok (.invokevirtual 335, 3) := dk_182 1 79 (dk_at dksX1_bestLimit_2 2 rfl rfl)
theorem dX1_bestLimit_51 : decode cX1_bestLimit 51 = .ok (.iload_n 1, 1) := dk_27 (dk_at dksX1_bestLimit_2 5 rfl rfl)
theorem dX1_bestLimit_52 : decode cX1_bestLimit 52 = .ok (.aload_n 0, 1) := dk_42 (dk_at dksX1_bestLimit_2 6 rfl rfl)
theorem dX1_bestLimit_53 : decode cX1_bestLimit 53 = .ok (.getfield 10, 3) := dk_180 0 10 (dk_at dksX1_bestLimit_2 7 rfl rfl)
theorem dX1_bestLimit_56 : decode cX1_bestLimit 56 = .ok (.getfield 191, 3) := dk_180 0 191 (dk_at dksX1_bestLimit_2 10 rfl rfl)
theorem dX1_bestLimit_59 : decode cX1_bestLimit 59 = .ok (.invokevirtual 122, 3) := dk_182 0 122 (dk_at dksX1_bestLimit_2 13 rfl rfl)
theorem dX1_bestLimit_62 : decode cX1_bestLimit 62 = .ok (.aload 4, 2) := dk_25 4 (dk_at dksX1_bestLimit_2 16 rfl rfl)
theorem dX1_bestLimit_64 : decode cX1_bestLimit 64 = .ok (.invokevirtual 345, 3) := dk_182 1 89 (dk_at dksX1_bestLimit_2 18 rfl rfl)
theorem dX1_bestLimit_67 : decode cX1_bestLimit 67 = .ok (.isub, 1) := dk_100 (dk_at dksX1_bestLimit_2 21 rfl rfl)
theorem dX1_bestLimit_68 : decode cX1_bestLimit 68 = .ok (.imul, 1) := dk_104 (dk_at dksX1_bestLimit_2 22 rfl rfl)
theorem dX1_bestLimit_69 : decode cX1_bestLimit 69 = .ok (.iadd, 1) := dk_96 (dk_at dksX1_bestLimit_2 23 rfl rfl)
theorem dX1_bestLimit_70 : decode cX1_bestLimit 70 = .ok (.istore 6, 2) := dk_54 6 (dk_at dksX1_bestLimit_3 0 rfl rfl)
theorem dX1_bestLimit_72 : decode cX1_bestLimit 72 = .ok (.iload_n 2, 1) := dk_28 (dk_at dksX1_bestLimit_3 2 rfl rfl)
theorem dX1_bestLimit_73 : decode cX1_bestLimit 73 = .ok (.iconst (-1), 1) := dk_2 (dk_at dksX1_bestLimit_3 3 rfl rfl)
theorem dX1_bestLimit_74 : decode cX1_bestLimit 74 = .ok (.if_icmp .eq 9, 3) := dk_159 0 9 (dk_at dksX1_bestLimit_3 4 rfl rfl)
theorem dX1_bestLimit_77 : decode cX1_bestLimit 77 = .ok (.iload 6, 2) := dk_21 6 (dk_at dksX1_bestLimit_3 7 rfl rfl)
theorem dX1_bestLimit_79 : decode cX1_bestLimit 79 = .ok (.iload_n 3, 1) := dk_29 (dk_at dksX1_bestLimit_3 9 rfl rfl)
theorem dX1_bestLimit_80 : decode cX1_bestLimit 80 = .ok (.if_icmp .ge 9, 3) := dk_162 0 9 (dk_at dksX1_bestLimit_3 10 rfl rfl)
theorem dX1_bestLimit_83 : decode cX1_bestLimit 83 = .ok (.iload 5, 2) := dk_21 5 (dk_at dksX1_bestLimit_3 13 rfl rfl)
theorem dX1_bestLimit_85 : decode cX1_bestLimit 85 = .ok (.istore_n 2, 1) := dk_61 (dk_at dksX1_bestLimit_3 15 rfl rfl)
theorem dX1_bestLimit_86 : decode cX1_bestLimit 86 = .ok (.iload 6, 2) := dk_21 6 (dk_at dksX1_bestLimit_3 16 rfl rfl)
theorem dX1_bestLimit_88 : decode cX1_bestLimit 88 = .ok (.istore_n 3, 1) := dk_62 (dk_at dksX1_bestLimit_3 18 rfl rfl)
theorem dX1_bestLimit_89 : decode cX1_bestLimit 89 = .ok (.iinc 5 1, 3) := dk_132 5 1 (dk_at dksX1_bestLimit_3 19 rfl rfl)
theorem dX1_bestLimit_92 : decode cX1_bestLimit 92 = .ok (.goto (-61), 3) := dk_167 255 195 (dk_at dksX1_bestLimit_4 0 rfl rfl)
theorem dX1_bestLimit_95 : decode cX1_bestLimit 95 = .ok (.iload_n 2, 1) := dk_28 (dk_at dksX1_bestLimit_4 3 rfl rfl)
theorem dX1_bestLimit_96 : decode cX1_bestLimit 96 = .ok (.ireturn, 1) := dk_172 (dk_at dksX1_bestLimit_4 4 rfl rfl)
abbrev cX1_ranked : ByteArray := prog_1_method_44_code
def yX1_ranked : MethodName := ⟨RX1, "ranked", "(I)I"⟩
def dkwX1_ranked_3 : List UInt8 := [160, 0, 5, 29, 172, 132, 3, 1, 167, 255, 183, 187, 0, 63, 89, 183, 0, 65, 191]
abbrev dktX1_ranked_3 : List UInt8 := dkwX1_ranked_3 ++ []
def dkwX1_ranked_2 : List UInt8 := [29, 182, 1, 92, 153, 0, 7, 4, 167, 0, 4, 3, 96, 54, 4, 132, 5, 1, 167, 255, 217, 21, 4, 27]
abbrev dktX1_ranked_2 : List UInt8 := dkwX1_ranked_2 ++ dktX1_ranked_3
def dkwX1_ranked_1 : List UInt8 := [3, 54, 5, 21, 5, 42, 180, 0, 10, 180, 0, 118, 182, 0, 122, 162, 0, 30, 21, 4, 42, 44, 21, 5]
abbrev dktX1_ranked_1 : List UInt8 := dkwX1_ranked_1 ++ dktX1_ranked_2
def dkwX1_ranked_0 : List UInt8 := [42, 182, 0, 226, 77, 3, 62, 29, 42, 180, 0, 10, 180, 0, 118, 182, 0, 122, 162, 0, 65, 3, 54, 4]
abbrev dktX1_ranked_0 : List UInt8 := dkwX1_ranked_0 ++ dktX1_ranked_1
theorem dksX1_ranked_0 : cX1_ranked.data.toList.drop 0 = dktX1_ranked_0 := by decide +kernel
theorem dksX1_ranked_1 : cX1_ranked.data.toList.drop 24 = dktX1_ranked_1 := dk_seg dksX1_ranked_0 24 rfl rfl
theorem dksX1_ranked_2 : cX1_ranked.data.toList.drop 48 = dktX1_ranked_2 := dk_seg dksX1_ranked_1 24 rfl rfl
theorem dksX1_ranked_3 : cX1_ranked.data.toList.drop 72 = dktX1_ranked_3 := dk_seg dksX1_ranked_2 24 rfl rfl
theorem dX1_ranked_0 : decode cX1_ranked 0 = .ok (.aload_n 0, 1) := dk_42 (dk_at dksX1_ranked_0 0 rfl rfl)
theorem dX1_ranked_1 : decode cX1_ranked 1 = .ok (.invokevirtual 226, 3) := dk_182 0 226 (dk_at dksX1_ranked_0 1 rfl rfl)
theorem dX1_ranked_4 : decode cX1_ranked 4 = .ok (.astore_n 2, 1) := dk_77 (dk_at dksX1_ranked_0 4 rfl rfl)
theorem dX1_ranked_5 : decode cX1_ranked 5 = .ok (.iconst 0, 1) := dk_3 (dk_at dksX1_ranked_0 5 rfl rfl)
theorem dX1_ranked_6 : decode cX1_ranked 6 = .ok (.istore_n 3, 1) := dk_62 (dk_at dksX1_ranked_0 6 rfl rfl)
theorem dX1_ranked_7 : decode cX1_ranked 7 = .ok (.iload_n 3, 1) := dk_29 (dk_at dksX1_ranked_0 7 rfl rfl)
theorem dX1_ranked_8 : decode cX1_ranked 8 = .ok (.aload_n 0, 1) := dk_42 (dk_at dksX1_ranked_0 8 rfl rfl)
theorem dX1_ranked_9 : decode cX1_ranked 9 = .ok (.getfield 10, 3) := dk_180 0 10 (dk_at dksX1_ranked_0 9 rfl rfl)
theorem dX1_ranked_12 : decode cX1_ranked 12 = .ok (.getfield 118, 3) := dk_180 0 118 (dk_at dksX1_ranked_0 12 rfl rfl)
theorem dX1_ranked_15 : decode cX1_ranked 15 = .ok (.invokevirtual 122, 3) := dk_182 0 122 (dk_at dksX1_ranked_0 15 rfl rfl)
theorem dX1_ranked_18 : decode cX1_ranked 18 = .ok (.if_icmp .ge 65, 3) := dk_162 0 65 (dk_at dksX1_ranked_0 18 rfl rfl)
theorem dX1_ranked_21 : decode cX1_ranked 21 = .ok (.iconst 0, 1) := dk_3 (dk_at dksX1_ranked_0 21 rfl rfl)
theorem dX1_ranked_22 : decode cX1_ranked 22 = .ok (.istore 4, 2) := dk_54 4 (dk_at dksX1_ranked_0 22 rfl rfl)
theorem dX1_ranked_24 : decode cX1_ranked 24 = .ok (.iconst 0, 1) := dk_3 (dk_at dksX1_ranked_1 0 rfl rfl)
theorem dX1_ranked_25 : decode cX1_ranked 25 = .ok (.istore 5, 2) := dk_54 5 (dk_at dksX1_ranked_1 1 rfl rfl)
theorem dX1_ranked_27 : decode cX1_ranked 27 = .ok (.iload 5, 2) := dk_21 5 (dk_at dksX1_ranked_1 3 rfl rfl)
theorem dX1_ranked_29 : decode cX1_ranked 29 = .ok (.aload_n 0, 1) := dk_42 (dk_at dksX1_ranked_1 5 rfl rfl)
theorem dX1_ranked_30 : decode cX1_ranked 30 = .ok (.getfield 10, 3) := dk_180 0 10 (dk_at dksX1_ranked_1 6 rfl rfl)
theorem dX1_ranked_33 : decode cX1_ranked 33 = .ok (.getfield 118, 3) := dk_180 0 118 (dk_at dksX1_ranked_1 9 rfl rfl)
theorem dX1_ranked_36 : decode cX1_ranked 36 = .ok (.invokevirtual 122, 3) := dk_182 0 122 (dk_at dksX1_ranked_1 12 rfl rfl)
theorem dX1_ranked_39 : decode cX1_ranked 39 = .ok (.if_icmp .ge 30, 3) := dk_162 0 30 (dk_at dksX1_ranked_1 15 rfl rfl)
theorem dX1_ranked_42 : decode cX1_ranked 42 = .ok (.iload 4, 2) := dk_21 4 (dk_at dksX1_ranked_1 18 rfl rfl)
theorem dX1_ranked_44 : decode cX1_ranked 44 = .ok (.aload_n 0, 1) := dk_42 (dk_at dksX1_ranked_1 20 rfl rfl)
theorem dX1_ranked_45 : decode cX1_ranked 45 = .ok (.aload_n 2, 1) := dk_44 (dk_at dksX1_ranked_1 21 rfl rfl)
theorem dX1_ranked_46 : decode cX1_ranked 46 = .ok (.iload 5, 2) := dk_21 5 (dk_at dksX1_ranked_1 22 rfl rfl)
theorem dX1_ranked_48 : decode cX1_ranked 48 = .ok (.iload_n 3, 1) := dk_29 (dk_at dksX1_ranked_2 0 rfl rfl)
theorem dX1_ranked_49 : decode cX1_ranked 49 = .ok (.invokevirtual 348, 3) := dk_182 1 92 (dk_at dksX1_ranked_2 1 rfl rfl)
theorem dX1_ranked_52 : decode cX1_ranked 52 = .ok (.ifCond .eq 7, 3) := dk_153 0 7 (dk_at dksX1_ranked_2 4 rfl rfl)
theorem dX1_ranked_55 : decode cX1_ranked 55 = .ok (.iconst 1, 1) := dk_4 (dk_at dksX1_ranked_2 7 rfl rfl)
theorem dX1_ranked_56 : decode cX1_ranked 56 = .ok (.goto 4, 3) := dk_167 0 4 (dk_at dksX1_ranked_2 8 rfl rfl)
theorem dX1_ranked_59 : decode cX1_ranked 59 = .ok (.iconst 0, 1) := dk_3 (dk_at dksX1_ranked_2 11 rfl rfl)
theorem dX1_ranked_60 : decode cX1_ranked 60 = .ok (.iadd, 1) := dk_96 (dk_at dksX1_ranked_2 12 rfl rfl)
theorem dX1_ranked_61 : decode cX1_ranked 61 = .ok (.istore 4, 2) := dk_54 4 (dk_at dksX1_ranked_2 13 rfl rfl)
theorem dX1_ranked_63 : decode cX1_ranked 63 = .ok (.iinc 5 1, 3) := dk_132 5 1 (dk_at dksX1_ranked_2 15 rfl rfl)
theorem dX1_ranked_66 : decode cX1_ranked 66 = .ok (.goto (-39), 3) := dk_167 255 217 (dk_at dksX1_ranked_2 18 rfl rfl)
theorem dX1_ranked_69 : decode cX1_ranked 69 = .ok (.iload 4, 2) := dk_21 4 (dk_at dksX1_ranked_2 21 rfl rfl)
theorem dX1_ranked_71 : decode cX1_ranked 71 = .ok (.iload_n 1, 1) := dk_27 (dk_at dksX1_ranked_2 23 rfl rfl)
theorem dX1_ranked_72 : decode cX1_ranked 72 = .ok (.if_icmp .ne 5, 3) := dk_160 0 5 (dk_at dksX1_ranked_3 0 rfl rfl)
theorem dX1_ranked_75 : decode cX1_ranked 75 = .ok (.iload_n 3, 1) := dk_29 (dk_at dksX1_ranked_3 3 rfl rfl)
theorem dX1_ranked_76 : decode cX1_ranked 76 = .ok (.ireturn, 1) := dk_172 (dk_at dksX1_ranked_3 4 rfl rfl)
theorem dX1_ranked_77 : decode cX1_ranked 77 = .ok (.iinc 3 1, 3) := dk_132 3 1 (dk_at dksX1_ranked_3 5 rfl rfl)
theorem dX1_ranked_80 : decode cX1_ranked 80 = .ok (.goto (-73), 3) := dk_167 255 183 (dk_at dksX1_ranked_3 8 rfl rfl)
theorem dX1_ranked_83 : decode cX1_ranked 83 = .ok (.new 63, 3) := dk_187 0 63 (dk_at dksX1_ranked_3 11 rfl rfl)
theorem dX1_ranked_86 : decode cX1_ranked 86 = .ok (.dup, 1) := dk_89 (dk_at dksX1_ranked_3 14 rfl rfl)
theorem dX1_ranked_87 : decode cX1_ranked 87 = .ok (.invokespecial 65, 3) := dk_183 0 65 (dk_at dksX1_ranked_3 15 rfl rfl)
theorem dX1_ranked_90 : decode cX1_ranked 90 = .ok (.athrow, 1) := dk_191 (dk_at dksX1_ranked_3 18 rfl rfl)
abbrev cX1_isLater : ByteArray := prog_1_method_43_code
def yX1_isLater : MethodName := ⟨RX1, "isLater", "(LCoachTimetable$Net;II)Z"⟩
def dkwX1_isLater_3 : List UInt8 := [21, 5, 154, 0, 12, 28, 29, 162, 0, 7, 4, 167, 0, 4, 3, 172]
abbrev dktX1_isLater_3 : List UInt8 := dkwX1_isLater_3 ++ []
def dkwX1_isLater_2 : List UInt8 := [180, 0, 10, 180, 0, 118, 29, 182, 0, 143, 192, 0, 128, 182, 1, 12, 100, 54, 5, 21, 5, 157, 0, 13]
abbrev dktX1_isLater_2 : List UInt8 := dkwX1_isLater_2 ++ dktX1_isLater_3
def dkwX1_isLater_1 : List UInt8 := [167, 0, 4, 3, 172, 42, 180, 0, 10, 180, 0, 118, 28, 182, 0, 143, 192, 0, 128, 182, 1, 12, 42]
abbrev dktX1_isLater_1 : List UInt8 := dkwX1_isLater_1 ++ dktX1_isLater_2
def dkwX1_isLater_0 : List UInt8 := [43, 28, 182, 1, 14, 43, 29, 182, 1, 14, 100, 54, 4, 21, 4, 153, 0, 14, 21, 4, 158, 0, 7, 4]
abbrev dktX1_isLater_0 : List UInt8 := dkwX1_isLater_0 ++ dktX1_isLater_1
theorem dksX1_isLater_0 : cX1_isLater.data.toList.drop 0 = dktX1_isLater_0 := by decide +kernel
theorem dksX1_isLater_1 : cX1_isLater.data.toList.drop 24 = dktX1_isLater_1 := dk_seg dksX1_isLater_0 24 rfl rfl
theorem dksX1_isLater_2 : cX1_isLater.data.toList.drop 47 = dktX1_isLater_2 := dk_seg dksX1_isLater_1 23 rfl rfl
theorem dksX1_isLater_3 : cX1_isLater.data.toList.drop 71 = dktX1_isLater_3 := dk_seg dksX1_isLater_2 24 rfl rfl
theorem dX1_isLater_0 : decode cX1_isLater 0 = .ok (.aload_n 1, 1) := dk_43 (dk_at dksX1_isLater_0 0 rfl rfl)
theorem dX1_isLater_1 : decode cX1_isLater 1 = .ok (.iload_n 2, 1) := dk_28 (dk_at dksX1_isLater_0 1 rfl rfl)
theorem dX1_isLater_2 : decode cX1_isLater 2 = .ok (.invokevirtual 270, 3) := dk_182 1 14 (dk_at dksX1_isLater_0 2 rfl rfl)
theorem dX1_isLater_5 : decode cX1_isLater 5 = .ok (.aload_n 1, 1) := dk_43 (dk_at dksX1_isLater_0 5 rfl rfl)
theorem dX1_isLater_6 : decode cX1_isLater 6 = .ok (.iload_n 3, 1) := dk_29 (dk_at dksX1_isLater_0 6 rfl rfl)
theorem dX1_isLater_7 : decode cX1_isLater 7 = .ok (.invokevirtual 270, 3) := dk_182 1 14 (dk_at dksX1_isLater_0 7 rfl rfl)
theorem dX1_isLater_10 : decode cX1_isLater 10 = .ok (.isub, 1) := dk_100 (dk_at dksX1_isLater_0 10 rfl rfl)
theorem dX1_isLater_11 : decode cX1_isLater 11 = .ok (.istore 4, 2) := dk_54 4 (dk_at dksX1_isLater_0 11 rfl rfl)
theorem dX1_isLater_13 : decode cX1_isLater 13 = .ok (.iload 4, 2) := dk_21 4 (dk_at dksX1_isLater_0 13 rfl rfl)
theorem dX1_isLater_15 : decode cX1_isLater 15 = .ok (.ifCond .eq 14, 3) := dk_153 0 14 (dk_at dksX1_isLater_0 15 rfl rfl)
theorem dX1_isLater_18 : decode cX1_isLater 18 = .ok (.iload 4, 2) := dk_21 4 (dk_at dksX1_isLater_0 18 rfl rfl)
theorem dX1_isLater_20 : decode cX1_isLater 20 = .ok (.ifCond .le 7, 3) := dk_158 0 7 (dk_at dksX1_isLater_0 20 rfl rfl)
theorem dX1_isLater_23 : decode cX1_isLater 23 = .ok (.iconst 1, 1) := dk_4 (dk_at dksX1_isLater_0 23 rfl rfl)
theorem dX1_isLater_24 : decode cX1_isLater 24 = .ok (.goto 4, 3) := dk_167 0 4 (dk_at dksX1_isLater_1 0 rfl rfl)
theorem dX1_isLater_27 : decode cX1_isLater 27 = .ok (.iconst 0, 1) := dk_3 (dk_at dksX1_isLater_1 3 rfl rfl)
theorem dX1_isLater_28 : decode cX1_isLater 28 = .ok (.ireturn, 1) := dk_172 (dk_at dksX1_isLater_1 4 rfl rfl)
theorem dX1_isLater_29 : decode cX1_isLater 29 = .ok (.aload_n 0, 1) := dk_42 (dk_at dksX1_isLater_1 5 rfl rfl)
theorem dX1_isLater_30 : decode cX1_isLater 30 = .ok (.getfield 10, 3) := dk_180 0 10 (dk_at dksX1_isLater_1 6 rfl rfl)
theorem dX1_isLater_33 : decode cX1_isLater 33 = .ok (.getfield 118, 3) := dk_180 0 118 (dk_at dksX1_isLater_1 9 rfl rfl)
theorem dX1_isLater_36 : decode cX1_isLater 36 = .ok (.iload_n 2, 1) := dk_28 (dk_at dksX1_isLater_1 12 rfl rfl)
theorem dX1_isLater_37 : decode cX1_isLater 37 = .ok (.invokevirtual 143, 3) := dk_182 0 143 (dk_at dksX1_isLater_1 13 rfl rfl)
theorem dX1_isLater_40 : decode cX1_isLater 40 = .ok (.checkcast 128, 3) := dk_192 0 128 (dk_at dksX1_isLater_1 16 rfl rfl)
theorem dX1_isLater_43 : decode cX1_isLater 43 = .ok (.invokevirtual 268, 3) := dk_182 1 12 (dk_at dksX1_isLater_1 19 rfl rfl)
theorem dX1_isLater_46 : decode cX1_isLater 46 = .ok (.aload_n 0, 1) := dk_42 (dk_at dksX1_isLater_1 22 rfl rfl)
theorem dX1_isLater_47 : decode cX1_isLater 47 = .ok (.getfield 10, 3) := dk_180 0 10 (dk_at dksX1_isLater_2 0 rfl rfl)
theorem dX1_isLater_50 : decode cX1_isLater 50 = .ok (.getfield 118, 3) := dk_180 0 118 (dk_at dksX1_isLater_2 3 rfl rfl)
theorem dX1_isLater_53 : decode cX1_isLater 53 = .ok (.iload_n 3, 1) := dk_29 (dk_at dksX1_isLater_2 6 rfl rfl)
theorem dX1_isLater_54 : decode cX1_isLater 54 = .ok (.invokevirtual 143, 3) := dk_182 0 143 (dk_at dksX1_isLater_2 7 rfl rfl)
theorem dX1_isLater_57 : decode cX1_isLater 57 = .ok (.checkcast 128, 3) := dk_192 0 128 (dk_at dksX1_isLater_2 10 rfl rfl)
theorem dX1_isLater_60 : decode cX1_isLater 60 = .ok (.invokevirtual 268, 3) := dk_182 1 12 (dk_at dksX1_isLater_2 13 rfl rfl)
theorem dX1_isLater_63 : decode cX1_isLater 63 = .ok (.isub, 1) := dk_100 (dk_at dksX1_isLater_2 16 rfl rfl)
theorem dX1_isLater_64 : decode cX1_isLater 64 = .ok (.istore 5, 2) := dk_54 5 (dk_at dksX1_isLater_2 17 rfl rfl)
theorem dX1_isLater_66 : decode cX1_isLater 66 = .ok (.iload 5, 2) := dk_21 5 (dk_at dksX1_isLater_2 19 rfl rfl)
theorem dX1_isLater_68 : decode cX1_isLater 68 = .ok (.ifCond .gt 13, 3) := dk_157 0 13 (dk_at dksX1_isLater_2 21 rfl rfl)
theorem dX1_isLater_71 : decode cX1_isLater 71 = .ok (.iload 5, 2) := dk_21 5 (dk_at dksX1_isLater_3 0 rfl rfl)
theorem dX1_isLater_73 : decode cX1_isLater 73 = .ok (.ifCond .ne 12, 3) := dk_154 0 12 (dk_at dksX1_isLater_3 2 rfl rfl)
theorem dX1_isLater_76 : decode cX1_isLater 76 = .ok (.iload_n 2, 1) := dk_28 (dk_at dksX1_isLater_3 5 rfl rfl)
theorem dX1_isLater_77 : decode cX1_isLater 77 = .ok (.iload_n 3, 1) := dk_29 (dk_at dksX1_isLater_3 6 rfl rfl)
theorem dX1_isLater_78 : decode cX1_isLater 78 = .ok (.if_icmp .ge 7, 3) := dk_162 0 7 (dk_at dksX1_isLater_3 7 rfl rfl)
theorem dX1_isLater_81 : decode cX1_isLater 81 = .ok (.iconst 1, 1) := dk_4 (dk_at dksX1_isLater_3 10 rfl rfl)
theorem dX1_isLater_82 : decode cX1_isLater 82 = .ok (.goto 4, 3) := dk_167 0 4 (dk_at dksX1_isLater_3 11 rfl rfl)
theorem dX1_isLater_85 : decode cX1_isLater 85 = .ok (.iconst 0, 1) := dk_3 (dk_at dksX1_isLater_3 14 rfl rfl)
theorem dX1_isLater_86 : decode cX1_isLater 86 = .ok (.ireturn, 1) := dk_172 (dk_at dksX1_isLater_3 15 rfl rfl)
abbrev cX1_tightest : ByteArray := prog_1_method_46_code
def yX1_tightest : MethodName := ⟨RX1, "tightest", "(I)I"⟩
def dkwX1_tightest_3 : List UInt8 := [167, 255, 188, 187, 0, 63, 89, 183, 0, 65, 191]
abbrev dktX1_tightest_3 : List UInt8 := dkwX1_tightest_3 ++ []
def dkwX1_tightest_2 : List UInt8 := [167, 0, 4, 3, 96, 62, 132, 4, 1, 167, 255, 220, 29, 27, 160, 0, 5, 28, 172, 132, 2, 1]
abbrev dktX1_tightest_2 : List UInt8 := dkwX1_tightest_2 ++ dktX1_tightest_3
def dkwX1_tightest_1 : List UInt8 := [180, 0, 10, 180, 0, 191, 182, 0, 122, 162, 0, 27, 29, 42, 21, 4, 28, 182, 1, 96, 153, 0, 7, 4]
abbrev dktX1_tightest_1 : List UInt8 := dkwX1_tightest_1 ++ dktX1_tightest_2
def dkwX1_tightest_0 : List UInt8 := [3, 61, 28, 42, 180, 0, 10, 180, 0, 191, 182, 0, 122, 162, 0, 60, 3, 62, 3, 54, 4, 21, 4, 42]
abbrev dktX1_tightest_0 : List UInt8 := dkwX1_tightest_0 ++ dktX1_tightest_1
theorem dksX1_tightest_0 : cX1_tightest.data.toList.drop 0 = dktX1_tightest_0 := by decide +kernel
theorem dksX1_tightest_1 : cX1_tightest.data.toList.drop 24 = dktX1_tightest_1 := dk_seg dksX1_tightest_0 24 rfl rfl
theorem dksX1_tightest_2 : cX1_tightest.data.toList.drop 48 = dktX1_tightest_2 := dk_seg dksX1_tightest_1 24 rfl rfl
theorem dksX1_tightest_3 : cX1_tightest.data.toList.drop 70 = dktX1_tightest_3 := dk_seg dksX1_tightest_2 22 rfl rfl
theorem dX1_tightest_0 : decode cX1_tightest 0 = .ok (.iconst 0, 1) := dk_3 (dk_at dksX1_tightest_0 0 rfl rfl)
theorem dX1_tightest_1 : decode cX1_tightest 1 = .ok (.istore_n 2, 1) := dk_61 (dk_at dksX1_tightest_0 1 rfl rfl)
theorem dX1_tightest_2 : decode cX1_tightest 2 = .ok (.iload_n 2, 1) := dk_28 (dk_at dksX1_tightest_0 2 rfl rfl)
theorem dX1_tightest_3 : decode cX1_tightest 3 = .ok (.aload_n 0, 1) := dk_42 (dk_at dksX1_tightest_0 3 rfl rfl)
theorem dX1_tightest_4 : decode cX1_tightest 4 = .ok (.getfield 10, 3) := dk_180 0 10 (dk_at dksX1_tightest_0 4 rfl rfl)
theorem dX1_tightest_7 : decode cX1_tightest 7 = .ok (.getfield 191, 3) := dk_180 0 191 (dk_at dksX1_tightest_0 7 rfl rfl)
theorem dX1_tightest_10 : decode cX1_tightest 10 = .ok (.invokevirtual 122, 3) := dk_182 0 122 (dk_at dksX1_tightest_0 10 rfl rfl)
theorem dX1_tightest_13 : decode cX1_tightest 13 = .ok (.if_icmp .ge 60, 3) := dk_162 0 60 (dk_at dksX1_tightest_0 13 rfl rfl)
theorem dX1_tightest_16 : decode cX1_tightest 16 = .ok (.iconst 0, 1) := dk_3 (dk_at dksX1_tightest_0 16 rfl rfl)
theorem dX1_tightest_17 : decode cX1_tightest 17 = .ok (.istore_n 3, 1) := dk_62 (dk_at dksX1_tightest_0 17 rfl rfl)
theorem dX1_tightest_18 : decode cX1_tightest 18 = .ok (.iconst 0, 1) := dk_3 (dk_at dksX1_tightest_0 18 rfl rfl)
theorem dX1_tightest_19 : decode cX1_tightest 19 = .ok (.istore 4, 2) := dk_54 4 (dk_at dksX1_tightest_0 19 rfl rfl)
theorem dX1_tightest_21 : decode cX1_tightest 21 = .ok (.iload 4, 2) := dk_21 4 (dk_at dksX1_tightest_0 21 rfl rfl)
theorem dX1_tightest_23 : decode cX1_tightest 23 = .ok (.aload_n 0, 1) := dk_42 (dk_at dksX1_tightest_0 23 rfl rfl)
theorem dX1_tightest_24 : decode cX1_tightest 24 = .ok (.getfield 10, 3) := dk_180 0 10 (dk_at dksX1_tightest_1 0 rfl rfl)
theorem dX1_tightest_27 : decode cX1_tightest 27 = .ok (.getfield 191, 3) := dk_180 0 191 (dk_at dksX1_tightest_1 3 rfl rfl)
theorem dX1_tightest_30 : decode cX1_tightest 30 = .ok (.invokevirtual 122, 3) := dk_182 0 122 (dk_at dksX1_tightest_1 6 rfl rfl)
theorem dX1_tightest_33 : decode cX1_tightest 33 = .ok (.if_icmp .ge 27, 3) := dk_162 0 27 (dk_at dksX1_tightest_1 9 rfl rfl)
theorem dX1_tightest_36 : decode cX1_tightest 36 = .ok (.iload_n 3, 1) := dk_29 (dk_at dksX1_tightest_1 12 rfl rfl)
theorem dX1_tightest_37 : decode cX1_tightest 37 = .ok (.aload_n 0, 1) := dk_42 (dk_at dksX1_tightest_1 13 rfl rfl)
theorem dX1_tightest_38 : decode cX1_tightest 38 = .ok (.iload 4, 2) := dk_21 4 (dk_at dksX1_tightest_1 14 rfl rfl)
theorem dX1_tightest_40 : decode cX1_tightest 40 = .ok (.iload_n 2, 1) := dk_28 (dk_at dksX1_tightest_1 16 rfl rfl)
theorem dX1_tightest_41 : decode cX1_tightest 41 = .ok (.invokevirtual 352, 3) := dk_182 1 96 (dk_at dksX1_tightest_1 17 rfl rfl)
theorem dX1_tightest_44 : decode cX1_tightest 44 = .ok (.ifCond .eq 7, 3) := dk_153 0 7 (dk_at dksX1_tightest_1 20 rfl rfl)
theorem dX1_tightest_47 : decode cX1_tightest 47 = .ok (.iconst 1, 1) := dk_4 (dk_at dksX1_tightest_1 23 rfl rfl)
theorem dX1_tightest_48 : decode cX1_tightest 48 = .ok (.goto 4, 3) := dk_167 0 4 (dk_at dksX1_tightest_2 0 rfl rfl)
theorem dX1_tightest_51 : decode cX1_tightest 51 = .ok (.iconst 0, 1) := dk_3 (dk_at dksX1_tightest_2 3 rfl rfl)
theorem dX1_tightest_52 : decode cX1_tightest 52 = .ok (.iadd, 1) := dk_96 (dk_at dksX1_tightest_2 4 rfl rfl)
theorem dX1_tightest_53 : decode cX1_tightest 53 = .ok (.istore_n 3, 1) := dk_62 (dk_at dksX1_tightest_2 5 rfl rfl)
theorem dX1_tightest_54 : decode cX1_tightest 54 = .ok (.iinc 4 1, 3) := dk_132 4 1 (dk_at dksX1_tightest_2 6 rfl rfl)
theorem dX1_tightest_57 : decode cX1_tightest 57 = .ok (.goto (-36), 3) := dk_167 255 220 (dk_at dksX1_tightest_2 9 rfl rfl)
theorem dX1_tightest_60 : decode cX1_tightest 60 = .ok (.iload_n 3, 1) := dk_29 (dk_at dksX1_tightest_2 12 rfl rfl)
theorem dX1_tightest_61 : decode cX1_tightest 61 = .ok (.iload_n 1, 1) := dk_27 (dk_at dksX1_tightest_2 13 rfl rfl)
theorem dX1_tightest_62 : decode cX1_tightest 62 = .ok (.if_icmp .ne 5, 3) := dk_160 0 5 (dk_at dksX1_tightest_2 14 rfl rfl)
theorem dX1_tightest_65 : decode cX1_tightest 65 = .ok (.iload_n 2, 1) := dk_28 (dk_at dksX1_tightest_2 17 rfl rfl)
theorem dX1_tightest_66 : decode cX1_tightest 66 = .ok (.ireturn, 1) := dk_172 (dk_at dksX1_tightest_2 18 rfl rfl)
theorem dX1_tightest_67 : decode cX1_tightest 67 = .ok (.iinc 2 1, 3) := dk_132 2 1 (dk_at dksX1_tightest_2 19 rfl rfl)
theorem dX1_tightest_70 : decode cX1_tightest 70 = .ok (.goto (-68), 3) := dk_167 255 188 (dk_at dksX1_tightest_3 0 rfl rfl)
theorem dX1_tightest_73 : decode cX1_tightest 73 = .ok (.new 63, 3) := dk_187 0 63 (dk_at dksX1_tightest_3 3 rfl rfl)
theorem dX1_tightest_76 : decode cX1_tightest 76 = .ok (.dup, 1) := dk_89 (dk_at dksX1_tightest_3 6 rfl rfl)
theorem dX1_tightest_77 : decode cX1_tightest 77 = .ok (.invokespecial 65, 3) := dk_183 0 65 (dk_at dksX1_tightest_3 7 rfl rfl)
theorem dX1_tightest_80 : decode cX1_tightest 80 = .ok (.athrow, 1) := dk_191 (dk_at dksX1_tightest_3 10 rfl rfl)
abbrev cX1_isTighter : ByteArray := prog_1_method_45_code
def yX1_isTighter : MethodName := ⟨RX1, "isTighter", "(II)Z"⟩
def dkwX1_isTighter_4 : List UInt8 := [3, 172]
abbrev dktX1_isTighter_4 : List UInt8 := dkwX1_isTighter_4 ++ []
def dkwX1_isTighter_3 : List UInt8 := [161, 0, 20, 45, 180, 0, 211, 25, 4, 180, 0, 211, 160, 0, 12, 27, 28, 162, 0, 7, 4, 167, 0, 4]
abbrev dktX1_isTighter_3 : List UInt8 := dkwX1_isTighter_3 ++ dktX1_isTighter_4
def dkwX1_isTighter_2 : List UInt8 := [153, 0, 14, 21, 5, 156, 0, 7, 4, 167, 0, 4, 3, 172, 45, 180, 0, 211, 25, 4, 180, 0, 211]
abbrev dktX1_isTighter_2 : List UInt8 := dkwX1_isTighter_2 ++ dktX1_isTighter_3
def dkwX1_isTighter_1 : List UInt8 := [182, 0, 143, 192, 0, 194, 58, 4, 42, 45, 182, 1, 71, 42, 25, 4, 182, 1, 71, 100, 54, 5, 21, 5]
abbrev dktX1_isTighter_1 : List UInt8 := dkwX1_isTighter_1 ++ dktX1_isTighter_2
def dkwX1_isTighter_0 : List UInt8 := [42, 180, 0, 10, 180, 0, 191, 27, 182, 0, 143, 192, 0, 194, 78, 42, 180, 0, 10, 180, 0, 191, 28]
abbrev dktX1_isTighter_0 : List UInt8 := dkwX1_isTighter_0 ++ dktX1_isTighter_1
theorem dksX1_isTighter_0 : cX1_isTighter.data.toList.drop 0 = dktX1_isTighter_0 := by decide +kernel
theorem dksX1_isTighter_1 : cX1_isTighter.data.toList.drop 23 = dktX1_isTighter_1 := dk_seg dksX1_isTighter_0 23 rfl rfl
theorem dksX1_isTighter_2 : cX1_isTighter.data.toList.drop 47 = dktX1_isTighter_2 := dk_seg dksX1_isTighter_1 24 rfl rfl
theorem dksX1_isTighter_3 : cX1_isTighter.data.toList.drop 70 = dktX1_isTighter_3 := dk_seg dksX1_isTighter_2 23 rfl rfl
theorem dksX1_isTighter_4 : cX1_isTighter.data.toList.drop 94 = dktX1_isTighter_4 := dk_seg dksX1_isTighter_3 24 rfl rfl
theorem dX1_isTighter_0 : decode cX1_isTighter 0 = .ok (.aload_n 0, 1) := dk_42 (dk_at dksX1_isTighter_0 0 rfl rfl)
theorem dX1_isTighter_1 : decode cX1_isTighter 1 = .ok (.getfield 10, 3) := dk_180 0 10 (dk_at dksX1_isTighter_0 1 rfl rfl)
theorem dX1_isTighter_4 : decode cX1_isTighter 4 = .ok (.getfield 191, 3) := dk_180 0 191 (dk_at dksX1_isTighter_0 4 rfl rfl)
theorem dX1_isTighter_7 : decode cX1_isTighter 7 = .ok (.iload_n 1, 1) := dk_27 (dk_at dksX1_isTighter_0 7 rfl rfl)
theorem dX1_isTighter_8 : decode cX1_isTighter 8 = .ok (.invokevirtual 143, 3) := dk_182 0 143 (dk_at dksX1_isTighter_0 8 rfl rfl)
theorem dX1_isTighter_11 : decode cX1_isTighter 11 = .ok (.checkcast 194, 3) := dk_192 0 194 (dk_at dksX1_isTighter_0 11 rfl rfl)
theorem dX1_isTighter_14 : decode cX1_isTighter 14 = .ok (.astore_n 3, 1) := dk_78 (dk_at dksX1_isTighter_0 14 rfl rfl)
theorem dX1_isTighter_15 : decode cX1_isTighter 15 = .ok (.aload_n 0, 1) := dk_42 (dk_at dksX1_isTighter_0 15 rfl rfl)
theorem dX1_isTighter_16 : decode cX1_isTighter 16 = .ok (.getfield 10, 3) := dk_180 0 10 (dk_at dksX1_isTighter_0 16 rfl rfl)
theorem dX1_isTighter_19 : decode cX1_isTighter 19 = .ok (.getfield 191, 3) := dk_180 0 191 (dk_at dksX1_isTighter_0 19 rfl rfl)
theorem dX1_isTighter_22 : decode cX1_isTighter 22 = .ok (.iload_n 2, 1) := dk_28 (dk_at dksX1_isTighter_0 22 rfl rfl)
theorem dX1_isTighter_23 : decode cX1_isTighter 23 = .ok (.invokevirtual 143, 3) := dk_182 0 143 (dk_at dksX1_isTighter_1 0 rfl rfl)
theorem dX1_isTighter_26 : decode cX1_isTighter 26 = .ok (.checkcast 194, 3) := dk_192 0 194 (dk_at dksX1_isTighter_1 3 rfl rfl)
theorem dX1_isTighter_29 : decode cX1_isTighter 29 = .ok (.astore 4, 2) := dk_58 4 (dk_at dksX1_isTighter_1 6 rfl rfl)
theorem dX1_isTighter_31 : decode cX1_isTighter 31 = .ok (.aload_n 0, 1) := dk_42 (dk_at dksX1_isTighter_1 8 rfl rfl)
theorem dX1_isTighter_32 : decode cX1_isTighter 32 = .ok (.aload_n 3, 1) := dk_45 (dk_at dksX1_isTighter_1 9 rfl rfl)
theorem dX1_isTighter_33 : decode cX1_isTighter 33 = .ok (.invokevirtual 327, 3) := dk_182 1 71 (dk_at dksX1_isTighter_1 10 rfl rfl)
theorem dX1_isTighter_36 : decode cX1_isTighter 36 = .ok (.aload_n 0, 1) := dk_42 (dk_at dksX1_isTighter_1 13 rfl rfl)
theorem dX1_isTighter_37 : decode cX1_isTighter 37 = .ok (.aload 4, 2) := dk_25 4 (dk_at dksX1_isTighter_1 14 rfl rfl)
theorem dX1_isTighter_39 : decode cX1_isTighter 39 = .ok (.invokevirtual 327, 3) := dk_182 1 71 (dk_at dksX1_isTighter_1 16 rfl rfl)
theorem dX1_isTighter_42 : decode cX1_isTighter 42 = .ok (.isub, 1) := dk_100 (dk_at dksX1_isTighter_1 19 rfl rfl)
theorem dX1_isTighter_43 : decode cX1_isTighter 43 = .ok (.istore 5, 2) := dk_54 5 (dk_at dksX1_isTighter_1 20 rfl rfl)
theorem dX1_isTighter_45 : decode cX1_isTighter 45 = .ok (.iload 5, 2) := dk_21 5 (dk_at dksX1_isTighter_1 22 rfl rfl)
theorem dX1_isTighter_47 : decode cX1_isTighter 47 = .ok (.ifCond .eq 14, 3) := dk_153 0 14 (dk_at dksX1_isTighter_2 0 rfl rfl)
theorem dX1_isTighter_50 : decode cX1_isTighter 50 = .ok (.iload 5, 2) := dk_21 5 (dk_at dksX1_isTighter_2 3 rfl rfl)
theorem dX1_isTighter_52 : decode cX1_isTighter 52 = .ok (.ifCond .ge 7, 3) := dk_156 0 7 (dk_at dksX1_isTighter_2 5 rfl rfl)
theorem dX1_isTighter_55 : decode cX1_isTighter 55 = .ok (.iconst 1, 1) := dk_4 (dk_at dksX1_isTighter_2 8 rfl rfl)
theorem dX1_isTighter_56 : decode cX1_isTighter 56 = .ok (.goto 4, 3) := dk_167 0 4 (dk_at dksX1_isTighter_2 9 rfl rfl)
theorem dX1_isTighter_59 : decode cX1_isTighter 59 = .ok (.iconst 0, 1) := dk_3 (dk_at dksX1_isTighter_2 12 rfl rfl)
theorem dX1_isTighter_60 : decode cX1_isTighter 60 = .ok (.ireturn, 1) := dk_172 (dk_at dksX1_isTighter_2 13 rfl rfl)
theorem dX1_isTighter_61 : decode cX1_isTighter 61 = .ok (.aload_n 3, 1) := dk_45 (dk_at dksX1_isTighter_2 14 rfl rfl)
theorem dX1_isTighter_62 : decode cX1_isTighter 62 = .ok (.getfield 211, 3) := dk_180 0 211 (dk_at dksX1_isTighter_2 15 rfl rfl)
theorem dX1_isTighter_65 : decode cX1_isTighter 65 = .ok (.aload 4, 2) := dk_25 4 (dk_at dksX1_isTighter_2 18 rfl rfl)
theorem dX1_isTighter_67 : decode cX1_isTighter 67 = .ok (.getfield 211, 3) := dk_180 0 211 (dk_at dksX1_isTighter_2 20 rfl rfl)
theorem dX1_isTighter_70 : decode cX1_isTighter 70 = .ok (.if_icmp .lt 20, 3) := dk_161 0 20 (dk_at dksX1_isTighter_3 0 rfl rfl)
theorem dX1_isTighter_73 : decode cX1_isTighter 73 = .ok (.aload_n 3, 1) := dk_45 (dk_at dksX1_isTighter_3 3 rfl rfl)
theorem dX1_isTighter_74 : decode cX1_isTighter 74 = .ok (.getfield 211, 3) := dk_180 0 211 (dk_at dksX1_isTighter_3 4 rfl rfl)
theorem dX1_isTighter_77 : decode cX1_isTighter 77 = .ok (.aload 4, 2) := dk_25 4 (dk_at dksX1_isTighter_3 7 rfl rfl)
theorem dX1_isTighter_79 : decode cX1_isTighter 79 = .ok (.getfield 211, 3) := dk_180 0 211 (dk_at dksX1_isTighter_3 9 rfl rfl)
theorem dX1_isTighter_82 : decode cX1_isTighter 82 = .ok (.if_icmp .ne 12, 3) := dk_160 0 12 (dk_at dksX1_isTighter_3 12 rfl rfl)
theorem dX1_isTighter_85 : decode cX1_isTighter 85 = .ok (.iload_n 1, 1) := dk_27 (dk_at dksX1_isTighter_3 15 rfl rfl)
theorem dX1_isTighter_86 : decode cX1_isTighter 86 = .ok (.iload_n 2, 1) := dk_28 (dk_at dksX1_isTighter_3 16 rfl rfl)
theorem dX1_isTighter_87 : decode cX1_isTighter 87 = .ok (.if_icmp .ge 7, 3) := dk_162 0 7 (dk_at dksX1_isTighter_3 17 rfl rfl)
theorem dX1_isTighter_90 : decode cX1_isTighter 90 = .ok (.iconst 1, 1) := dk_4 (dk_at dksX1_isTighter_3 20 rfl rfl)
theorem dX1_isTighter_91 : decode cX1_isTighter 91 = .ok (.goto 4, 3) := dk_167 0 4 (dk_at dksX1_isTighter_3 21 rfl rfl)
theorem dX1_isTighter_94 : decode cX1_isTighter 94 = .ok (.iconst 0, 1) := dk_3 (dk_at dksX1_isTighter_4 0 rfl rfl)
theorem dX1_isTighter_95 : decode cX1_isTighter 95 = .ok (.ireturn, 1) := dk_172 (dk_at dksX1_isTighter_4 1 rfl rfl)
abbrev cX1_event : ByteArray := prog_1_method_48_code
def yX1_event : MethodName := ⟨RX1, "event", "(I)I"⟩
def dkwX1_event_4 : List UInt8 := [160, 0, 9, 25, 4, 182, 1, 103, 172, 167, 255, 170, 187, 0, 63, 89, 183, 0, 65, 191]
abbrev dktX1_event_4 : List UInt8 := dkwX1_event_4 ++ []
def dkwX1_event_3 : List UInt8 := [25, 4, 184, 1, 106, 153, 0, 7, 4, 167, 0, 4, 3, 96, 54, 5, 167, 255, 214, 21, 5, 27]
abbrev dktX1_event_3 : List UInt8 := dkwX1_event_3 ++ dktX1_event_4
def dkwX1_event_2 : List UInt8 := [185, 0, 246, 1, 0, 153, 0, 38, 25, 6, 185, 0, 252, 1, 0, 192, 0, 234, 58, 7, 21, 5, 25, 7]
abbrev dktX1_event_2 : List UInt8 := dkwX1_event_2 ++ dktX1_event_3
def dkwX1_event_1 : List UInt8 := [185, 0, 252, 1, 0, 192, 0, 234, 58, 4, 3, 54, 5, 44, 182, 0, 242, 58, 6, 25, 6]
abbrev dktX1_event_1 : List UInt8 := dkwX1_event_1 ++ dktX1_event_2
def dkwX1_event_0 : List UInt8 := [42, 182, 0, 226, 180, 1, 75, 77, 44, 182, 0, 242, 78, 45, 185, 0, 246, 1, 0, 153, 0, 83, 45]
abbrev dktX1_event_0 : List UInt8 := dkwX1_event_0 ++ dktX1_event_1
theorem dksX1_event_0 : cX1_event.data.toList.drop 0 = dktX1_event_0 := by decide +kernel
theorem dksX1_event_1 : cX1_event.data.toList.drop 23 = dktX1_event_1 := dk_seg dksX1_event_0 23 rfl rfl
theorem dksX1_event_2 : cX1_event.data.toList.drop 44 = dktX1_event_2 := dk_seg dksX1_event_1 21 rfl rfl
theorem dksX1_event_3 : cX1_event.data.toList.drop 68 = dktX1_event_3 := dk_seg dksX1_event_2 24 rfl rfl
theorem dksX1_event_4 : cX1_event.data.toList.drop 90 = dktX1_event_4 := dk_seg dksX1_event_3 22 rfl rfl
theorem dX1_event_0 : decode cX1_event 0 = .ok (.aload_n 0, 1) := dk_42 (dk_at dksX1_event_0 0 rfl rfl)
theorem dX1_event_1 : decode cX1_event 1 = .ok (.invokevirtual 226, 3) := dk_182 0 226 (dk_at dksX1_event_0 1 rfl rfl)
theorem dX1_event_4 : decode cX1_event 4 = .ok (.getfield 331, 3) := dk_180 1 75 (dk_at dksX1_event_0 4 rfl rfl)
theorem dX1_event_7 : decode cX1_event 7 = .ok (.astore_n 2, 1) := dk_77 (dk_at dksX1_event_0 7 rfl rfl)
theorem dX1_event_8 : decode cX1_event 8 = .ok (.aload_n 2, 1) := dk_44 (dk_at dksX1_event_0 8 rfl rfl)
theorem dX1_event_9 : decode cX1_event 9 = .ok (.invokevirtual 242, 3) := dk_182 0 242 (dk_at dksX1_event_0 9 rfl rfl)
theorem dX1_event_12 : decode cX1_event 12 = .ok (.astore_n 3, 1) := dk_78 (dk_at dksX1_event_0 12 rfl rfl)
theorem dX1_event_13 : decode cX1_event 13 = .ok (.aload_n 3, 1) := dk_45 (dk_at dksX1_event_0 13 rfl rfl)
theorem dX1_event_14 : decode cX1_event 14 = .ok (.invokeinterface 246 1, 5) := by decide +kernel
theorem dX1_event_19 : decode cX1_event 19 = .ok (.ifCond .eq 83, 3) := dk_153 0 83 (dk_at dksX1_event_0 19 rfl rfl)
theorem dX1_event_22 : decode cX1_event 22 = .ok (.aload_n 3, 1) := dk_45 (dk_at dksX1_event_0 22 rfl rfl)
theorem dX1_event_23 : decode cX1_event 23 = .ok (.invokeinterface 252 1, 5) := by decide +kernel
theorem dX1_event_28 : decode cX1_event 28 = .ok (.checkcast 234, 3) := dk_192 0 234 (dk_at dksX1_event_1 5 rfl rfl)
theorem dX1_event_31 : decode cX1_event 31 = .ok (.astore 4, 2) := dk_58 4 (dk_at dksX1_event_1 8 rfl rfl)
theorem dX1_event_33 : decode cX1_event 33 = .ok (.iconst 0, 1) := dk_3 (dk_at dksX1_event_1 10 rfl rfl)
theorem dX1_event_34 : decode cX1_event 34 = .ok (.istore 5, 2) := dk_54 5 (dk_at dksX1_event_1 11 rfl rfl)
theorem dX1_event_36 : decode cX1_event 36 = .ok (.aload_n 2, 1) := dk_44 (dk_at dksX1_event_1 13 rfl rfl)
theorem dX1_event_37 : decode cX1_event 37 = .ok (.invokevirtual 242, 3) := dk_182 0 242 (dk_at dksX1_event_1 14 rfl rfl)
theorem dX1_event_40 : decode cX1_event 40 = .ok (.astore 6, 2) := dk_58 6 (dk_at dksX1_event_1 17 rfl rfl)
theorem dX1_event_42 : decode cX1_event 42 = .ok (.aload 6, 2) := dk_25 6 (dk_at dksX1_event_1 19 rfl rfl)
theorem dX1_event_44 : decode cX1_event 44 = .ok (.invokeinterface 246 1, 5) := by decide +kernel
theorem dX1_event_49 : decode cX1_event 49 = .ok (.ifCond .eq 38, 3) := dk_153 0 38 (dk_at dksX1_event_2 5 rfl rfl)
theorem dX1_event_52 : decode cX1_event 52 = .ok (.aload 6, 2) := dk_25 6 (dk_at dksX1_event_2 8 rfl rfl)
theorem dX1_event_54 : decode cX1_event 54 = .ok (.invokeinterface 252 1, 5) := by decide +kernel
theorem dX1_event_59 : decode cX1_event 59 = .ok (.checkcast 234, 3) := dk_192 0 234 (dk_at dksX1_event_2 15 rfl rfl)
theorem dX1_event_62 : decode cX1_event 62 = .ok (.astore 7, 2) := dk_58 7 (dk_at dksX1_event_2 18 rfl rfl)
theorem dX1_event_64 : decode cX1_event 64 = .ok (.iload 5, 2) := dk_21 5 (dk_at dksX1_event_2 20 rfl rfl)
theorem dX1_event_66 : decode cX1_event 66 = .ok (.aload 7, 2) := dk_25 7 (dk_at dksX1_event_2 22 rfl rfl)
theorem dX1_event_68 : decode cX1_event 68 = .ok (.aload 4, 2) := dk_25 4 (dk_at dksX1_event_3 0 rfl rfl)
theorem dX1_event_70 : decode cX1_event 70 = .ok (.invokestatic 362, 3) := dk_184 1 106 (dk_at dksX1_event_3 2 rfl rfl)
theorem dX1_event_73 : decode cX1_event 73 = .ok (.ifCond .eq 7, 3) := dk_153 0 7 (dk_at dksX1_event_3 5 rfl rfl)
theorem dX1_event_76 : decode cX1_event 76 = .ok (.iconst 1, 1) := dk_4 (dk_at dksX1_event_3 8 rfl rfl)
theorem dX1_event_77 : decode cX1_event 77 = .ok (.goto 4, 3) := dk_167 0 4 (dk_at dksX1_event_3 9 rfl rfl)
theorem dX1_event_80 : decode cX1_event 80 = .ok (.iconst 0, 1) := dk_3 (dk_at dksX1_event_3 12 rfl rfl)
theorem dX1_event_81 : decode cX1_event 81 = .ok (.iadd, 1) := dk_96 (dk_at dksX1_event_3 13 rfl rfl)
theorem dX1_event_82 : decode cX1_event 82 = .ok (.istore 5, 2) := dk_54 5 (dk_at dksX1_event_3 14 rfl rfl)
theorem dX1_event_84 : decode cX1_event 84 = .ok (.goto (-42), 3) := dk_167 255 214 (dk_at dksX1_event_3 16 rfl rfl)
theorem dX1_event_87 : decode cX1_event 87 = .ok (.iload 5, 2) := dk_21 5 (dk_at dksX1_event_3 19 rfl rfl)
theorem dX1_event_89 : decode cX1_event 89 = .ok (.iload_n 1, 1) := dk_27 (dk_at dksX1_event_3 21 rfl rfl)
theorem dX1_event_90 : decode cX1_event 90 = .ok (.if_icmp .ne 9, 3) := dk_160 0 9 (dk_at dksX1_event_4 0 rfl rfl)
theorem dX1_event_93 : decode cX1_event 93 = .ok (.aload 4, 2) := dk_25 4 (dk_at dksX1_event_4 3 rfl rfl)
theorem dX1_event_95 : decode cX1_event 95 = .ok (.invokevirtual 359, 3) := dk_182 1 103 (dk_at dksX1_event_4 5 rfl rfl)
theorem dX1_event_98 : decode cX1_event 98 = .ok (.ireturn, 1) := dk_172 (dk_at dksX1_event_4 8 rfl rfl)
theorem dX1_event_99 : decode cX1_event 99 = .ok (.goto (-86), 3) := dk_167 255 170 (dk_at dksX1_event_4 9 rfl rfl)
theorem dX1_event_102 : decode cX1_event 102 = .ok (.new 63, 3) := dk_187 0 63 (dk_at dksX1_event_4 12 rfl rfl)
theorem dX1_event_105 : decode cX1_event 105 = .ok (.dup, 1) := dk_89 (dk_at dksX1_event_4 15 rfl rfl)
theorem dX1_event_106 : decode cX1_event 106 = .ok (.invokespecial 65, 3) := dk_183 0 65 (dk_at dksX1_event_4 16 rfl rfl)
theorem dX1_event_109 : decode cX1_event 109 = .ok (.athrow, 1) := dk_191 (dk_at dksX1_event_4 19 rfl rfl)
abbrev cX1_isBefore : ByteArray := prog_1_method_47_code
def yX1_isBefore : MethodName := ⟨RX1, "isBefore", "(LCoachTimetable$Event;LCoachTimetable$Event;)Z"⟩
def dkwX1_isBefore_3 : List UInt8 := [182, 1, 103, 43, 182, 1, 103, 162, 0, 7, 4, 167, 0, 4, 3, 172]
abbrev dktX1_isBefore_3 : List UInt8 := dkwX1_isBefore_3 ++ []
def dkwX1_isBefore_2 : List UInt8 := [180, 1, 100, 178, 0, 171, 166, 0, 7, 4, 167, 0, 4, 3, 159, 0, 7, 28, 167, 0, 19, 42]
abbrev dktX1_isBefore_2 : List UInt8 := dkwX1_isBefore_2 ++ dktX1_isBefore_3
def dkwX1_isBefore_1 : List UInt8 := [167, 0, 4, 3, 172, 42, 180, 1, 100, 178, 0, 171, 166, 0, 7, 4, 167, 0, 4, 3, 61, 28, 43]
abbrev dktX1_isBefore_1 : List UInt8 := dkwX1_isBefore_1 ++ dktX1_isBefore_2
def dkwX1_isBefore_0 : List UInt8 := [42, 180, 1, 41, 43, 180, 1, 41, 159, 0, 20, 42, 180, 1, 41, 43, 180, 1, 41, 162, 0, 7, 4]
abbrev dktX1_isBefore_0 : List UInt8 := dkwX1_isBefore_0 ++ dktX1_isBefore_1
theorem dksX1_isBefore_0 : cX1_isBefore.data.toList.drop 0 = dktX1_isBefore_0 := by decide +kernel
theorem dksX1_isBefore_1 : cX1_isBefore.data.toList.drop 23 = dktX1_isBefore_1 := dk_seg dksX1_isBefore_0 23 rfl rfl
theorem dksX1_isBefore_2 : cX1_isBefore.data.toList.drop 46 = dktX1_isBefore_2 := dk_seg dksX1_isBefore_1 23 rfl rfl
theorem dksX1_isBefore_3 : cX1_isBefore.data.toList.drop 68 = dktX1_isBefore_3 := dk_seg dksX1_isBefore_2 22 rfl rfl
theorem dX1_isBefore_0 : decode cX1_isBefore 0 = .ok (.aload_n 0, 1) := dk_42 (dk_at dksX1_isBefore_0 0 rfl rfl)
theorem dX1_isBefore_1 : decode cX1_isBefore 1 = .ok (.getfield 297, 3) := dk_180 1 41 (dk_at dksX1_isBefore_0 1 rfl rfl)
theorem dX1_isBefore_4 : decode cX1_isBefore 4 = .ok (.aload_n 1, 1) := dk_43 (dk_at dksX1_isBefore_0 4 rfl rfl)
theorem dX1_isBefore_5 : decode cX1_isBefore 5 = .ok (.getfield 297, 3) := dk_180 1 41 (dk_at dksX1_isBefore_0 5 rfl rfl)
theorem dX1_isBefore_8 : decode cX1_isBefore 8 = .ok (.if_icmp .eq 20, 3) := dk_159 0 20 (dk_at dksX1_isBefore_0 8 rfl rfl)
theorem dX1_isBefore_11 : decode cX1_isBefore 11 = .ok (.aload_n 0, 1) := dk_42 (dk_at dksX1_isBefore_0 11 rfl rfl)
theorem dX1_isBefore_12 : decode cX1_isBefore 12 = .ok (.getfield 297, 3) := dk_180 1 41 (dk_at dksX1_isBefore_0 12 rfl rfl)
theorem dX1_isBefore_15 : decode cX1_isBefore 15 = .ok (.aload_n 1, 1) := dk_43 (dk_at dksX1_isBefore_0 15 rfl rfl)
theorem dX1_isBefore_16 : decode cX1_isBefore 16 = .ok (.getfield 297, 3) := dk_180 1 41 (dk_at dksX1_isBefore_0 16 rfl rfl)
theorem dX1_isBefore_19 : decode cX1_isBefore 19 = .ok (.if_icmp .ge 7, 3) := dk_162 0 7 (dk_at dksX1_isBefore_0 19 rfl rfl)
theorem dX1_isBefore_22 : decode cX1_isBefore 22 = .ok (.iconst 1, 1) := dk_4 (dk_at dksX1_isBefore_0 22 rfl rfl)
theorem dX1_isBefore_23 : decode cX1_isBefore 23 = .ok (.goto 4, 3) := dk_167 0 4 (dk_at dksX1_isBefore_1 0 rfl rfl)
theorem dX1_isBefore_26 : decode cX1_isBefore 26 = .ok (.iconst 0, 1) := dk_3 (dk_at dksX1_isBefore_1 3 rfl rfl)
theorem dX1_isBefore_27 : decode cX1_isBefore 27 = .ok (.ireturn, 1) := dk_172 (dk_at dksX1_isBefore_1 4 rfl rfl)
theorem dX1_isBefore_28 : decode cX1_isBefore 28 = .ok (.aload_n 0, 1) := dk_42 (dk_at dksX1_isBefore_1 5 rfl rfl)
theorem dX1_isBefore_29 : decode cX1_isBefore 29 = .ok (.getfield 356, 3) := dk_180 1 100 (dk_at dksX1_isBefore_1 6 rfl rfl)
theorem dX1_isBefore_32 : decode cX1_isBefore 32 = .ok (.getstatic 171, 3) := dk_178 0 171 (dk_at dksX1_isBefore_1 9 rfl rfl)
theorem dX1_isBefore_35 : decode cX1_isBefore 35 = .ok (.if_acmp .ne 7, 3) := dk_166 0 7 (dk_at dksX1_isBefore_1 12 rfl rfl)
theorem dX1_isBefore_38 : decode cX1_isBefore 38 = .ok (.iconst 1, 1) := dk_4 (dk_at dksX1_isBefore_1 15 rfl rfl)
theorem dX1_isBefore_39 : decode cX1_isBefore 39 = .ok (.goto 4, 3) := dk_167 0 4 (dk_at dksX1_isBefore_1 16 rfl rfl)
theorem dX1_isBefore_42 : decode cX1_isBefore 42 = .ok (.iconst 0, 1) := dk_3 (dk_at dksX1_isBefore_1 19 rfl rfl)
theorem dX1_isBefore_43 : decode cX1_isBefore 43 = .ok (.istore_n 2, 1) := dk_61 (dk_at dksX1_isBefore_1 20 rfl rfl)
theorem dX1_isBefore_44 : decode cX1_isBefore 44 = .ok (.iload_n 2, 1) := dk_28 (dk_at dksX1_isBefore_1 21 rfl rfl)
theorem dX1_isBefore_45 : decode cX1_isBefore 45 = .ok (.aload_n 1, 1) := dk_43 (dk_at dksX1_isBefore_1 22 rfl rfl)
theorem dX1_isBefore_46 : decode cX1_isBefore 46 = .ok (.getfield 356, 3) := dk_180 1 100 (dk_at dksX1_isBefore_2 0 rfl rfl)
theorem dX1_isBefore_49 : decode cX1_isBefore 49 = .ok (.getstatic 171, 3) := dk_178 0 171 (dk_at dksX1_isBefore_2 3 rfl rfl)
theorem dX1_isBefore_52 : decode cX1_isBefore 52 = .ok (.if_acmp .ne 7, 3) := dk_166 0 7 (dk_at dksX1_isBefore_2 6 rfl rfl)
theorem dX1_isBefore_55 : decode cX1_isBefore 55 = .ok (.iconst 1, 1) := dk_4 (dk_at dksX1_isBefore_2 9 rfl rfl)
theorem dX1_isBefore_56 : decode cX1_isBefore 56 = .ok (.goto 4, 3) := dk_167 0 4 (dk_at dksX1_isBefore_2 10 rfl rfl)
theorem dX1_isBefore_59 : decode cX1_isBefore 59 = .ok (.iconst 0, 1) := dk_3 (dk_at dksX1_isBefore_2 13 rfl rfl)
theorem dX1_isBefore_60 : decode cX1_isBefore 60 = .ok (.if_icmp .eq 7, 3) := dk_159 0 7 (dk_at dksX1_isBefore_2 14 rfl rfl)
theorem dX1_isBefore_63 : decode cX1_isBefore 63 = .ok (.iload_n 2, 1) := dk_28 (dk_at dksX1_isBefore_2 17 rfl rfl)
theorem dX1_isBefore_64 : decode cX1_isBefore 64 = .ok (.goto 19, 3) := dk_167 0 19 (dk_at dksX1_isBefore_2 18 rfl rfl)
theorem dX1_isBefore_67 : decode cX1_isBefore 67 = .ok (.aload_n 0, 1) := dk_42 (dk_at dksX1_isBefore_2 21 rfl rfl)
theorem dX1_isBefore_68 : decode cX1_isBefore 68 = .ok (.invokevirtual 359, 3) := dk_182 1 103 (dk_at dksX1_isBefore_3 0 rfl rfl)
theorem dX1_isBefore_71 : decode cX1_isBefore 71 = .ok (.aload_n 1, 1) := dk_43 (dk_at dksX1_isBefore_3 3 rfl rfl)
theorem dX1_isBefore_72 : decode cX1_isBefore 72 = .ok (.invokevirtual 359, 3) := dk_182 1 103 (dk_at dksX1_isBefore_3 4 rfl rfl)
theorem dX1_isBefore_75 : decode cX1_isBefore 75 = .ok (.if_icmp .ge 7, 3) := dk_162 0 7 (dk_at dksX1_isBefore_3 7 rfl rfl)
theorem dX1_isBefore_78 : decode cX1_isBefore 78 = .ok (.iconst 1, 1) := dk_4 (dk_at dksX1_isBefore_3 10 rfl rfl)
theorem dX1_isBefore_79 : decode cX1_isBefore 79 = .ok (.goto 4, 3) := dk_167 0 4 (dk_at dksX1_isBefore_3 11 rfl rfl)
theorem dX1_isBefore_82 : decode cX1_isBefore 82 = .ok (.iconst 0, 1) := dk_3 (dk_at dksX1_isBefore_3 14 rfl rfl)
theorem dX1_isBefore_83 : decode cX1_isBefore 83 = .ok (.ireturn, 1) := dk_172 (dk_at dksX1_isBefore_3 15 rfl rfl)
abbrev cX1_append : ByteArray := prog_1_method_52_code
def yX1_append : MethodName := ⟨RX1, "append", "(C)I"⟩
def dkwX1_append_1 : List UInt8 := [167, 0, 4, 3, 184, 1, 163, 42, 180, 0, 26, 27, 182, 1, 166, 87, 42, 180, 0, 26, 182, 1, 160, 172]
abbrev dktX1_append_1 : List UInt8 := dkwX1_append_1 ++ []
def dkwX1_append_0 : List UInt8 := [27, 16, 32, 16, 126, 184, 0, 49, 184, 1, 9, 42, 180, 0, 26, 182, 1, 160, 16, 60, 162, 0, 7, 4]
abbrev dktX1_append_0 : List UInt8 := dkwX1_append_0 ++ dktX1_append_1
theorem dksX1_append_0 : cX1_append.data.toList.drop 0 = dktX1_append_0 := by decide +kernel
theorem dksX1_append_1 : cX1_append.data.toList.drop 24 = dktX1_append_1 := dk_seg dksX1_append_0 24 rfl rfl
theorem dX1_append_0 : decode cX1_append 0 = .ok (.iload_n 1, 1) := dk_27 (dk_at dksX1_append_0 0 rfl rfl)
theorem dX1_append_1 : decode cX1_append 1 = .ok (.bipush 32, 2) := dk_16 32 (dk_at dksX1_append_0 1 rfl rfl)
theorem dX1_append_3 : decode cX1_append 3 = .ok (.bipush 126, 2) := dk_16 126 (dk_at dksX1_append_0 3 rfl rfl)
theorem dX1_append_5 : decode cX1_append 5 = .ok (.invokestatic 49, 3) := dk_184 0 49 (dk_at dksX1_append_0 5 rfl rfl)
theorem dX1_append_8 : decode cX1_append 8 = .ok (.invokestatic 265, 3) := dk_184 1 9 (dk_at dksX1_append_0 8 rfl rfl)
theorem dX1_append_11 : decode cX1_append 11 = .ok (.aload_n 0, 1) := dk_42 (dk_at dksX1_append_0 11 rfl rfl)
theorem dX1_append_12 : decode cX1_append 12 = .ok (.getfield 26, 3) := dk_180 0 26 (dk_at dksX1_append_0 12 rfl rfl)
theorem dX1_append_15 : decode cX1_append 15 = .ok (.invokevirtual 416, 3) := dk_182 1 160 (dk_at dksX1_append_0 15 rfl rfl)
theorem dX1_append_18 : decode cX1_append 18 = .ok (.bipush 60, 2) := dk_16 60 (dk_at dksX1_append_0 18 rfl rfl)
theorem dX1_append_20 : decode cX1_append 20 = .ok (.if_icmp .ge 7, 3) := dk_162 0 7 (dk_at dksX1_append_0 20 rfl rfl)
theorem dX1_append_23 : decode cX1_append 23 = .ok (.iconst 1, 1) := dk_4 (dk_at dksX1_append_0 23 rfl rfl)
theorem dX1_append_24 : decode cX1_append 24 = .ok (.goto 4, 3) := dk_167 0 4 (dk_at dksX1_append_1 0 rfl rfl)
theorem dX1_append_27 : decode cX1_append 27 = .ok (.iconst 0, 1) := dk_3 (dk_at dksX1_append_1 3 rfl rfl)
theorem dX1_append_28 : decode cX1_append 28 = .ok (.invokestatic 419, 3) := dk_184 1 163 (dk_at dksX1_append_1 4 rfl rfl)
theorem dX1_append_31 : decode cX1_append 31 = .ok (.aload_n 0, 1) := dk_42 (dk_at dksX1_append_1 7 rfl rfl)
theorem dX1_append_32 : decode cX1_append 32 = .ok (.getfield 26, 3) := dk_180 0 26 (dk_at dksX1_append_1 8 rfl rfl)
theorem dX1_append_35 : decode cX1_append 35 = .ok (.iload_n 1, 1) := dk_27 (dk_at dksX1_append_1 11 rfl rfl)
theorem dX1_append_36 : decode cX1_append 36 = .ok (.invokevirtual 422, 3) := dk_182 1 166 (dk_at dksX1_append_1 12 rfl rfl)
theorem dX1_append_39 : decode cX1_append 39 = .ok (.pop, 1) := dk_87 (dk_at dksX1_append_1 15 rfl rfl)
theorem dX1_append_40 : decode cX1_append 40 = .ok (.aload_n 0, 1) := dk_42 (dk_at dksX1_append_1 16 rfl rfl)
theorem dX1_append_41 : decode cX1_append 41 = .ok (.getfield 26, 3) := dk_180 0 26 (dk_at dksX1_append_1 17 rfl rfl)
theorem dX1_append_44 : decode cX1_append 44 = .ok (.invokevirtual 416, 3) := dk_182 1 160 (dk_at dksX1_append_1 20 rfl rfl)
theorem dX1_append_47 : decode cX1_append 47 = .ok (.ireturn, 1) := dk_172 (dk_at dksX1_append_1 23 rfl rfl)
abbrev cX1_checkState : ByteArray := prog_1_method_8_code
def yX1_checkState : MethodName := ⟨RX1, "checkState", "(Z)V"⟩
def dkwX1_checkState_0 : List UInt8 := [26, 154, 0, 11, 187, 0, 66, 89, 183, 0, 68, 191, 177]
abbrev dktX1_checkState_0 : List UInt8 := dkwX1_checkState_0 ++ []
theorem dksX1_checkState_0 : cX1_checkState.data.toList.drop 0 = dktX1_checkState_0 := by decide +kernel
theorem dX1_checkState_0 : decode cX1_checkState 0 = .ok (.iload_n 0, 1) := dk_26 (dk_at dksX1_checkState_0 0 rfl rfl)
theorem dX1_checkState_1 : decode cX1_checkState 1 = .ok (.ifCond .ne 11, 3) := dk_154 0 11 (dk_at dksX1_checkState_0 1 rfl rfl)
theorem dX1_checkState_4 : decode cX1_checkState 4 = .ok (.new 66, 3) := dk_187 0 66 (dk_at dksX1_checkState_0 4 rfl rfl)
theorem dX1_checkState_7 : decode cX1_checkState 7 = .ok (.dup, 1) := dk_89 (dk_at dksX1_checkState_0 7 rfl rfl)
theorem dX1_checkState_8 : decode cX1_checkState 8 = .ok (.invokespecial 68, 3) := dk_183 0 68 (dk_at dksX1_checkState_0 8 rfl rfl)
theorem dX1_checkState_11 : decode cX1_checkState 11 = .ok (.athrow, 1) := dk_191 (dk_at dksX1_checkState_0 11 rfl rfl)
theorem dX1_checkState_12 : decode cX1_checkState 12 = .ok (.return_, 1) := dk_177 (dk_at dksX1_checkState_0 12 rfl rfl)
abbrev cX1_run : ByteArray := prog_1_method_53_code
def yX1_run : MethodName := ⟨RX1, "run", "()I"⟩
def dkwX1_run_2 : List UInt8 := [43, 180, 1, 185, 182, 1, 188, 172]
abbrev dktX1_run_2 : List UInt8 := dkwX1_run_2 ++ []
def dkwX1_run_1 : List UInt8 := [43, 182, 1, 182, 181, 0, 33, 42, 180, 0, 33, 2, 160, 0, 7, 4, 167, 0, 4, 3, 184, 1, 9, 42]
abbrev dktX1_run_1 : List UInt8 := dkwX1_run_1 ++ dktX1_run_2
def dkwX1_run_0 : List UInt8 := [187, 1, 170, 89, 42, 180, 0, 26, 182, 1, 172, 183, 1, 176, 76, 42, 180, 0, 26, 3, 182, 1, 179, 42]
abbrev dktX1_run_0 : List UInt8 := dkwX1_run_0 ++ dktX1_run_1
theorem dksX1_run_0 : cX1_run.data.toList.drop 0 = dktX1_run_0 := by decide +kernel
theorem dksX1_run_1 : cX1_run.data.toList.drop 24 = dktX1_run_1 := dk_seg dksX1_run_0 24 rfl rfl
theorem dksX1_run_2 : cX1_run.data.toList.drop 48 = dktX1_run_2 := dk_seg dksX1_run_1 24 rfl rfl
theorem dX1_run_0 : decode cX1_run 0 = .ok (.new 426, 3) := dk_187 1 170 (dk_at dksX1_run_0 0 rfl rfl)
theorem dX1_run_3 : decode cX1_run 3 = .ok (.dup, 1) := dk_89 (dk_at dksX1_run_0 3 rfl rfl)
theorem dX1_run_4 : decode cX1_run 4 = .ok (.aload_n 0, 1) := dk_42 (dk_at dksX1_run_0 4 rfl rfl)
theorem dX1_run_5 : decode cX1_run 5 = .ok (.getfield 26, 3) := dk_180 0 26 (dk_at dksX1_run_0 5 rfl rfl)
theorem dX1_run_8 : decode cX1_run 8 = .ok (.invokevirtual 428, 3) := dk_182 1 172 (dk_at dksX1_run_0 8 rfl rfl)
theorem dX1_run_11 : decode cX1_run 11 = .ok (.invokespecial 432, 3) := dk_183 1 176 (dk_at dksX1_run_0 11 rfl rfl)
theorem dX1_run_14 : decode cX1_run 14 = .ok (.astore_n 1, 1) := dk_76 (dk_at dksX1_run_0 14 rfl rfl)
theorem dX1_run_15 : decode cX1_run 15 = .ok (.aload_n 0, 1) := dk_42 (dk_at dksX1_run_0 15 rfl rfl)
theorem dX1_run_16 : decode cX1_run 16 = .ok (.getfield 26, 3) := dk_180 0 26 (dk_at dksX1_run_0 16 rfl rfl)
theorem dX1_run_19 : decode cX1_run 19 = .ok (.iconst 0, 1) := dk_3 (dk_at dksX1_run_0 19 rfl rfl)
theorem dX1_run_20 : decode cX1_run 20 = .ok (.invokevirtual 435, 3) := dk_182 1 179 (dk_at dksX1_run_0 20 rfl rfl)
theorem dX1_run_23 : decode cX1_run 23 = .ok (.aload_n 0, 1) := dk_42 (dk_at dksX1_run_0 23 rfl rfl)
theorem dX1_run_24 : decode cX1_run 24 = .ok (.aload_n 1, 1) := dk_43 (dk_at dksX1_run_1 0 rfl rfl)
theorem dX1_run_25 : decode cX1_run 25 = .ok (.invokevirtual 438, 3) := dk_182 1 182 (dk_at dksX1_run_1 1 rfl rfl)
theorem dX1_run_28 : decode cX1_run 28 = .ok (.putfield 33, 3) := dk_181 0 33 (dk_at dksX1_run_1 4 rfl rfl)
theorem dX1_run_31 : decode cX1_run 31 = .ok (.aload_n 0, 1) := dk_42 (dk_at dksX1_run_1 7 rfl rfl)
theorem dX1_run_32 : decode cX1_run 32 = .ok (.getfield 33, 3) := dk_180 0 33 (dk_at dksX1_run_1 8 rfl rfl)
theorem dX1_run_35 : decode cX1_run 35 = .ok (.iconst (-1), 1) := dk_2 (dk_at dksX1_run_1 11 rfl rfl)
theorem dX1_run_36 : decode cX1_run 36 = .ok (.if_icmp .ne 7, 3) := dk_160 0 7 (dk_at dksX1_run_1 12 rfl rfl)
theorem dX1_run_39 : decode cX1_run 39 = .ok (.iconst 1, 1) := dk_4 (dk_at dksX1_run_1 15 rfl rfl)
theorem dX1_run_40 : decode cX1_run 40 = .ok (.goto 4, 3) := dk_167 0 4 (dk_at dksX1_run_1 16 rfl rfl)
theorem dX1_run_43 : decode cX1_run 43 = .ok (.iconst 0, 1) := dk_3 (dk_at dksX1_run_1 19 rfl rfl)
theorem dX1_run_44 : decode cX1_run 44 = .ok (.invokestatic 265, 3) := dk_184 1 9 (dk_at dksX1_run_1 20 rfl rfl)
theorem dX1_run_47 : decode cX1_run 47 = .ok (.aload_n 0, 1) := dk_42 (dk_at dksX1_run_1 23 rfl rfl)
theorem dX1_run_48 : decode cX1_run 48 = .ok (.aload_n 1, 1) := dk_43 (dk_at dksX1_run_2 0 rfl rfl)
theorem dX1_run_49 : decode cX1_run 49 = .ok (.getfield 441, 3) := dk_180 1 185 (dk_at dksX1_run_2 1 rfl rfl)
theorem dX1_run_52 : decode cX1_run 52 = .ok (.invokevirtual 444, 3) := dk_182 1 188 (dk_at dksX1_run_2 4 rfl rfl)
theorem dX1_run_55 : decode cX1_run 55 = .ok (.ireturn, 1) := dk_172 (dk_at dksX1_run_2 7 rfl rfl)
abbrev cX1_doAll : ByteArray := prog_1_method_51_code
def yX1_doAll : MethodName := ⟨RX1, "doAll", "(Ljava/util/ArrayList;)I"⟩
def dkwX1_doAll_5 : List UInt8 := [182, 0, 125, 42, 25, 4, 181, 0, 10, 29, 172]
abbrev dktX1_doAll_5 : List UInt8 := dkwX1_doAll_5 ++ []
def dkwX1_doAll_4 : List UInt8 := [191, 58, 6, 42, 3, 181, 0, 82, 25, 6, 191, 42, 180, 0, 10, 58, 4, 42, 44, 181, 0, 10, 42]
abbrev dktX1_doAll_4 : List UInt8 := dkwX1_doAll_4 ++ dktX1_doAll_5
def dkwX1_doAll_3 : List UInt8 := [44, 181, 0, 10, 42, 187, 0, 37, 89, 16, 11, 29, 42, 180, 0, 42, 183, 0, 39, 181, 0, 42, 25, 4]
abbrev dktX1_doAll_3 : List UInt8 := dkwX1_doAll_3 ++ dktX1_doAll_4
def dkwX1_doAll_2 : List UInt8 := [42, 25, 5, 182, 1, 156, 87, 132, 3, 1, 167, 255, 224, 42, 3, 181, 0, 82, 167, 0, 41, 58, 4, 42]
abbrev dktX1_doAll_2 : List UInt8 := dkwX1_doAll_2 ++ dktX1_doAll_3
def dkwX1_doAll_1 : List UInt8 := [58, 4, 25, 4, 185, 0, 246, 1, 0, 153, 0, 28, 25, 4, 185, 0, 252, 1, 0, 192, 1, 111, 58, 5]
abbrev dktX1_doAll_1 : List UInt8 := dkwX1_doAll_1 ++ dktX1_doAll_2
def dkwX1_doAll_0 : List UInt8 := [42, 180, 0, 10, 77, 42, 44, 182, 0, 86, 181, 0, 10, 42, 4, 181, 0, 82, 3, 62, 43, 182, 0, 242]
abbrev dktX1_doAll_0 : List UInt8 := dkwX1_doAll_0 ++ dktX1_doAll_1
theorem dksX1_doAll_0 : cX1_doAll.data.toList.drop 0 = dktX1_doAll_0 := by decide +kernel
theorem dksX1_doAll_1 : cX1_doAll.data.toList.drop 24 = dktX1_doAll_1 := dk_seg dksX1_doAll_0 24 rfl rfl
theorem dksX1_doAll_2 : cX1_doAll.data.toList.drop 48 = dktX1_doAll_2 := dk_seg dksX1_doAll_1 24 rfl rfl
theorem dksX1_doAll_3 : cX1_doAll.data.toList.drop 72 = dktX1_doAll_3 := dk_seg dksX1_doAll_2 24 rfl rfl
theorem dksX1_doAll_4 : cX1_doAll.data.toList.drop 96 = dktX1_doAll_4 := dk_seg dksX1_doAll_3 24 rfl rfl
theorem dksX1_doAll_5 : cX1_doAll.data.toList.drop 119 = dktX1_doAll_5 := dk_seg dksX1_doAll_4 23 rfl rfl
theorem dX1_doAll_0 : decode cX1_doAll 0 = .ok (.aload_n 0, 1) := dk_42 (dk_at dksX1_doAll_0 0 rfl rfl)
theorem dX1_doAll_1 : decode cX1_doAll 1 = .ok (.getfield 10, 3) := dk_180 0 10 (dk_at dksX1_doAll_0 1 rfl rfl)
theorem dX1_doAll_4 : decode cX1_doAll 4 = .ok (.astore_n 2, 1) := dk_77 (dk_at dksX1_doAll_0 4 rfl rfl)
theorem dX1_doAll_5 : decode cX1_doAll 5 = .ok (.aload_n 0, 1) := dk_42 (dk_at dksX1_doAll_0 5 rfl rfl)
theorem dX1_doAll_6 : decode cX1_doAll 6 = .ok (.aload_n 2, 1) := dk_44 (dk_at dksX1_doAll_0 6 rfl rfl)
theorem dX1_doAll_7 : decode cX1_doAll 7 = .ok (.invokevirtual 86, 3) := dk_182 0 86 (dk_at dksX1_doAll_0 7 rfl rfl)
theorem dX1_doAll_10 : decode cX1_doAll 10 = .ok (.putfield 10, 3) := dk_181 0 10 (dk_at dksX1_doAll_0 10 rfl rfl)
theorem dX1_doAll_13 : decode cX1_doAll 13 = .ok (.aload_n 0, 1) := dk_42 (dk_at dksX1_doAll_0 13 rfl rfl)
theorem dX1_doAll_14 : decode cX1_doAll 14 = .ok (.iconst 1, 1) := dk_4 (dk_at dksX1_doAll_0 14 rfl rfl)
theorem dX1_doAll_15 : decode cX1_doAll 15 = .ok (.putfield 82, 3) := dk_181 0 82 (dk_at dksX1_doAll_0 15 rfl rfl)
theorem dX1_doAll_18 : decode cX1_doAll 18 = .ok (.iconst 0, 1) := dk_3 (dk_at dksX1_doAll_0 18 rfl rfl)
theorem dX1_doAll_19 : decode cX1_doAll 19 = .ok (.istore_n 3, 1) := dk_62 (dk_at dksX1_doAll_0 19 rfl rfl)
theorem dX1_doAll_20 : decode cX1_doAll 20 = .ok (.aload_n 1, 1) := dk_43 (dk_at dksX1_doAll_0 20 rfl rfl)
theorem dX1_doAll_21 : decode cX1_doAll 21 = .ok (.invokevirtual 242, 3) := dk_182 0 242 (dk_at dksX1_doAll_0 21 rfl rfl)
theorem dX1_doAll_24 : decode cX1_doAll 24 = .ok (.astore 4, 2) := dk_58 4 (dk_at dksX1_doAll_1 0 rfl rfl)
theorem dX1_doAll_26 : decode cX1_doAll 26 = .ok (.aload 4, 2) := dk_25 4 (dk_at dksX1_doAll_1 2 rfl rfl)
theorem dX1_doAll_28 : decode cX1_doAll 28 = .ok (.invokeinterface 246 1, 5) := by decide +kernel
theorem dX1_doAll_33 : decode cX1_doAll 33 = .ok (.ifCond .eq 28, 3) := dk_153 0 28 (dk_at dksX1_doAll_1 9 rfl rfl)
theorem dX1_doAll_36 : decode cX1_doAll 36 = .ok (.aload 4, 2) := dk_25 4 (dk_at dksX1_doAll_1 12 rfl rfl)
theorem dX1_doAll_38 : decode cX1_doAll 38 = .ok (.invokeinterface 252 1, 5) := by decide +kernel
theorem dX1_doAll_43 : decode cX1_doAll 43 = .ok (.checkcast 367, 3) := dk_192 1 111 (dk_at dksX1_doAll_1 19 rfl rfl)
theorem dX1_doAll_46 : decode cX1_doAll 46 = .ok (.astore 5, 2) := dk_58 5 (dk_at dksX1_doAll_1 22 rfl rfl)
theorem dX1_doAll_48 : decode cX1_doAll 48 = .ok (.aload_n 0, 1) := dk_42 (dk_at dksX1_doAll_2 0 rfl rfl)
theorem dX1_doAll_49 : decode cX1_doAll 49 = .ok (.aload 5, 2) := dk_25 5 (dk_at dksX1_doAll_2 1 rfl rfl)
theorem dX1_doAll_51 : decode cX1_doAll 51 = .ok (.invokevirtual 412, 3) := dk_182 1 156 (dk_at dksX1_doAll_2 3 rfl rfl)
theorem dX1_doAll_54 : decode cX1_doAll 54 = .ok (.pop, 1) := dk_87 (dk_at dksX1_doAll_2 6 rfl rfl)
theorem dX1_doAll_55 : decode cX1_doAll 55 = .ok (.iinc 3 1, 3) := dk_132 3 1 (dk_at dksX1_doAll_2 7 rfl rfl)
theorem dX1_doAll_58 : decode cX1_doAll 58 = .ok (.goto (-32), 3) := dk_167 255 224 (dk_at dksX1_doAll_2 10 rfl rfl)
theorem dX1_doAll_61 : decode cX1_doAll 61 = .ok (.aload_n 0, 1) := dk_42 (dk_at dksX1_doAll_2 13 rfl rfl)
theorem dX1_doAll_62 : decode cX1_doAll 62 = .ok (.iconst 0, 1) := dk_3 (dk_at dksX1_doAll_2 14 rfl rfl)
theorem dX1_doAll_63 : decode cX1_doAll 63 = .ok (.putfield 82, 3) := dk_181 0 82 (dk_at dksX1_doAll_2 15 rfl rfl)
theorem dX1_doAll_66 : decode cX1_doAll 66 = .ok (.goto 41, 3) := dk_167 0 41 (dk_at dksX1_doAll_2 18 rfl rfl)
theorem dX1_doAll_69 : decode cX1_doAll 69 = .ok (.astore 4, 2) := dk_58 4 (dk_at dksX1_doAll_2 21 rfl rfl)
theorem dX1_doAll_71 : decode cX1_doAll 71 = .ok (.aload_n 0, 1) := dk_42 (dk_at dksX1_doAll_2 23 rfl rfl)
theorem dX1_doAll_72 : decode cX1_doAll 72 = .ok (.aload_n 2, 1) := dk_44 (dk_at dksX1_doAll_3 0 rfl rfl)
theorem dX1_doAll_73 : decode cX1_doAll 73 = .ok (.putfield 10, 3) := dk_181 0 10 (dk_at dksX1_doAll_3 1 rfl rfl)
theorem dX1_doAll_76 : decode cX1_doAll 76 = .ok (.aload_n 0, 1) := dk_42 (dk_at dksX1_doAll_3 4 rfl rfl)
theorem dX1_doAll_77 : decode cX1_doAll 77 = .ok (.new 37, 3) := dk_187 0 37 (dk_at dksX1_doAll_3 5 rfl rfl)
theorem dX1_doAll_80 : decode cX1_doAll 80 = .ok (.dup, 1) := dk_89 (dk_at dksX1_doAll_3 8 rfl rfl)
theorem dX1_doAll_81 : decode cX1_doAll 81 = .ok (.bipush 11, 2) := dk_16 11 (dk_at dksX1_doAll_3 9 rfl rfl)
theorem dX1_doAll_83 : decode cX1_doAll 83 = .ok (.iload_n 3, 1) := dk_29 (dk_at dksX1_doAll_3 11 rfl rfl)
theorem dX1_doAll_84 : decode cX1_doAll 84 = .ok (.aload_n 0, 1) := dk_42 (dk_at dksX1_doAll_3 12 rfl rfl)
theorem dX1_doAll_85 : decode cX1_doAll 85 = .ok (.getfield 42, 3) := dk_180 0 42 (dk_at dksX1_doAll_3 13 rfl rfl)
theorem dX1_doAll_88 : decode cX1_doAll 88 = .ok (.invokespecial 39, 3) := dk_183 0 39 (dk_at dksX1_doAll_3 16 rfl rfl)
theorem dX1_doAll_91 : decode cX1_doAll 91 = .ok (.putfield 42, 3) := dk_181 0 42 (dk_at dksX1_doAll_3 19 rfl rfl)
theorem dX1_doAll_94 : decode cX1_doAll 94 = .ok (.aload 4, 2) := dk_25 4 (dk_at dksX1_doAll_3 22 rfl rfl)
theorem dX1_doAll_96 : decode cX1_doAll 96 = .ok (.athrow, 1) := dk_191 (dk_at dksX1_doAll_4 0 rfl rfl)
theorem dX1_doAll_97 : decode cX1_doAll 97 = .ok (.astore 6, 2) := dk_58 6 (dk_at dksX1_doAll_4 1 rfl rfl)
theorem dX1_doAll_99 : decode cX1_doAll 99 = .ok (.aload_n 0, 1) := dk_42 (dk_at dksX1_doAll_4 3 rfl rfl)
theorem dX1_doAll_100 : decode cX1_doAll 100 = .ok (.iconst 0, 1) := dk_3 (dk_at dksX1_doAll_4 4 rfl rfl)
theorem dX1_doAll_101 : decode cX1_doAll 101 = .ok (.putfield 82, 3) := dk_181 0 82 (dk_at dksX1_doAll_4 5 rfl rfl)
theorem dX1_doAll_104 : decode cX1_doAll 104 = .ok (.aload 6, 2) := dk_25 6 (dk_at dksX1_doAll_4 8 rfl rfl)
theorem dX1_doAll_106 : decode cX1_doAll 106 = .ok (.athrow, 1) := dk_191 (dk_at dksX1_doAll_4 10 rfl rfl)
theorem dX1_doAll_107 : decode cX1_doAll 107 = .ok (.aload_n 0, 1) := dk_42 (dk_at dksX1_doAll_4 11 rfl rfl)
theorem dX1_doAll_108 : decode cX1_doAll 108 = .ok (.getfield 10, 3) := dk_180 0 10 (dk_at dksX1_doAll_4 12 rfl rfl)
theorem dX1_doAll_111 : decode cX1_doAll 111 = .ok (.astore 4, 2) := dk_58 4 (dk_at dksX1_doAll_4 15 rfl rfl)
theorem dX1_doAll_113 : decode cX1_doAll 113 = .ok (.aload_n 0, 1) := dk_42 (dk_at dksX1_doAll_4 17 rfl rfl)
theorem dX1_doAll_114 : decode cX1_doAll 114 = .ok (.aload_n 2, 1) := dk_44 (dk_at dksX1_doAll_4 18 rfl rfl)
theorem dX1_doAll_115 : decode cX1_doAll 115 = .ok (.putfield 10, 3) := dk_181 0 10 (dk_at dksX1_doAll_4 19 rfl rfl)
theorem dX1_doAll_118 : decode cX1_doAll 118 = .ok (.aload_n 0, 1) := dk_42 (dk_at dksX1_doAll_4 22 rfl rfl)
theorem dX1_doAll_119 : decode cX1_doAll 119 = .ok (.invokevirtual 125, 3) := dk_182 0 125 (dk_at dksX1_doAll_5 0 rfl rfl)
theorem dX1_doAll_122 : decode cX1_doAll 122 = .ok (.aload_n 0, 1) := dk_42 (dk_at dksX1_doAll_5 3 rfl rfl)
theorem dX1_doAll_123 : decode cX1_doAll 123 = .ok (.aload 4, 2) := dk_25 4 (dk_at dksX1_doAll_5 4 rfl rfl)
theorem dX1_doAll_125 : decode cX1_doAll 125 = .ok (.putfield 10, 3) := dk_181 0 10 (dk_at dksX1_doAll_5 6 rfl rfl)
theorem dX1_doAll_128 : decode cX1_doAll 128 = .ok (.iload_n 3, 1) := dk_29 (dk_at dksX1_doAll_5 9 rfl rfl)
theorem dX1_doAll_129 : decode cX1_doAll 129 = .ok (.ireturn, 1) := dk_172 (dk_at dksX1_doAll_5 10 rfl rfl)
abbrev cX1_does : ByteArray := prog_1_method_50_code
def yX1_does : MethodName := ⟨RX1, "does", "(LCoachTimetable$Command;)I"⟩
def dkwX1_does_12 : List UInt8 := [3, 46, 44, 4, 46, 182, 1, 154, 172]
abbrev dktX1_does_12 : List UInt8 := dkwX1_does_12 ++ []
def dkwX1_does_11 : List UInt8 := [44, 3, 46, 44, 4, 46, 44, 5, 46, 44, 6, 46, 44, 7, 46, 44, 8, 46, 182, 1, 152, 172, 42, 44]
abbrev dktX1_does_11 : List UInt8 := dkwX1_does_11 ++ dktX1_does_12
def dkwX1_does_10 : List UInt8 := [182, 1, 145, 172, 42, 44, 3, 46, 182, 1, 148, 172, 42, 44, 3, 46, 44, 4, 46, 182, 1, 150, 172, 42]
abbrev dktX1_does_10 : List UInt8 := dkwX1_does_10 ++ dktX1_does_11
def dkwX1_does_9 : List UInt8 := [46, 44, 5, 46, 44, 6, 46, 44, 7, 46, 44, 8, 46, 182, 1, 142, 172, 42, 44, 3, 46, 44, 4, 46]
abbrev dktX1_does_9 : List UInt8 := dkwX1_does_9 ++ dktX1_does_10
def dkwX1_does_8 : List UInt8 := [42, 44, 3, 46, 44, 4, 46, 43, 180, 1, 136, 44, 5, 46, 182, 1, 139, 172, 42, 44, 3, 46, 44, 4]
abbrev dktX1_does_8 : List UInt8 := dkwX1_does_8 ++ dktX1_does_9
def dkwX1_does_7 : List UInt8 := [170, 0, 0, 0, 131, 0, 0, 0, 0, 0, 0, 0, 5, 0, 0, 0, 37, 0, 0, 0, 55, 0, 0, 0, 78, 0, 0, 0, 89, 0, 0, 0, 97, 0, 0, 0, 108]
abbrev dktX1_does_7 : List UInt8 := dkwX1_does_7 ++ dktX1_does_8
def dkwX1_does_6 : List UInt8 := [54, 4, 21, 4]
abbrev dktX1_does_6 : List UInt8 := dkwX1_does_6 ++ dktX1_does_7
def dkwX1_does_5 : List UInt8 := [182, 1, 126, 153, 0, 22, 7, 54, 4, 167, 0, 16, 45, 19, 1, 134, 182, 1, 126, 153, 0, 6, 8]
abbrev dktX1_does_5 : List UInt8 := dkwX1_does_5 ++ dktX1_does_6
def dkwX1_does_4 : List UInt8 := [167, 0, 48, 45, 19, 1, 131, 182, 1, 126, 153, 0, 38, 6, 54, 4, 167, 0, 32, 45, 19, 1, 132]
abbrev dktX1_does_4 : List UInt8 := dkwX1_does_4 ++ dktX1_does_5
def dkwX1_does_3 : List UInt8 := [153, 0, 70, 4, 54, 4, 167, 0, 64, 45, 19, 1, 130, 182, 1, 126, 153, 0, 54, 5, 54, 4]
abbrev dktX1_does_3 : List UInt8 := dkwX1_does_3 ++ dktX1_does_4
def dkwX1_does_2 : List UInt8 := [45, 19, 1, 125, 182, 1, 126, 153, 0, 86, 3, 54, 4, 167, 0, 80, 45, 19, 1, 129, 182, 1, 126]
abbrev dktX1_does_2 : List UInt8 := dkwX1_does_2 ++ dktX1_does_3
def dkwX1_does_1 : List UInt8 := [171, 0, 0, 0, 0, 0, 152, 0, 0, 0, 6, 0, 1, 130, 66, 0, 0, 0, 107, 0, 1, 162, 14, 0, 0, 0, 139, 0, 50, 146, 166, 0, 0, 0, 59, 0, 50, 175, 250, 0, 0, 0, 75, 0, 54, 128, 125, 0, 0, 0, 123, 6, 35, 75, 187, 0, 0, 0, 91]
abbrev dktX1_does_1 : List UInt8 := dkwX1_does_1 ++ dktX1_does_2
def dkwX1_does_0 : List UInt8 := [43, 180, 1, 110, 77, 43, 180, 1, 116, 78, 2, 54, 4, 45, 182, 1, 120]
abbrev dktX1_does_0 : List UInt8 := dkwX1_does_0 ++ dktX1_does_1
theorem dksX1_does_0 : cX1_does.data.toList.drop 0 = dktX1_does_0 := by decide +kernel
theorem dksX1_does_1 : cX1_does.data.toList.drop 17 = dktX1_does_1 := dk_seg dksX1_does_0 17 rfl rfl
theorem dksX1_does_2 : cX1_does.data.toList.drop 76 = dktX1_does_2 := dk_seg dksX1_does_1 59 rfl rfl
theorem dksX1_does_3 : cX1_does.data.toList.drop 99 = dktX1_does_3 := dk_seg dksX1_does_2 23 rfl rfl
theorem dksX1_does_4 : cX1_does.data.toList.drop 121 = dktX1_does_4 := dk_seg dksX1_does_3 22 rfl rfl
theorem dksX1_does_5 : cX1_does.data.toList.drop 144 = dktX1_does_5 := dk_seg dksX1_does_4 23 rfl rfl
theorem dksX1_does_6 : cX1_does.data.toList.drop 167 = dktX1_does_6 := dk_seg dksX1_does_5 23 rfl rfl
theorem dksX1_does_7 : cX1_does.data.toList.drop 171 = dktX1_does_7 := dk_seg dksX1_does_6 4 rfl rfl
theorem dksX1_does_8 : cX1_does.data.toList.drop 208 = dktX1_does_8 := dk_seg dksX1_does_7 37 rfl rfl
theorem dksX1_does_9 : cX1_does.data.toList.drop 232 = dktX1_does_9 := dk_seg dksX1_does_8 24 rfl rfl
theorem dksX1_does_10 : cX1_does.data.toList.drop 256 = dktX1_does_10 := dk_seg dksX1_does_9 24 rfl rfl
theorem dksX1_does_11 : cX1_does.data.toList.drop 280 = dktX1_does_11 := dk_seg dksX1_does_10 24 rfl rfl
theorem dksX1_does_12 : cX1_does.data.toList.drop 304 = dktX1_does_12 := dk_seg dksX1_does_11 24 rfl rfl
theorem dX1_does_0 : decode cX1_does 0 = .ok (.aload_n 1, 1) := dk_43 (dk_at dksX1_does_0 0 rfl rfl)
theorem dX1_does_1 : decode cX1_does 1 = .ok (.getfield 366, 3) := dk_180 1 110 (dk_at dksX1_does_0 1 rfl rfl)
theorem dX1_does_4 : decode cX1_does 4 = .ok (.astore_n 2, 1) := dk_77 (dk_at dksX1_does_0 4 rfl rfl)
theorem dX1_does_5 : decode cX1_does 5 = .ok (.aload_n 1, 1) := dk_43 (dk_at dksX1_does_0 5 rfl rfl)
theorem dX1_does_6 : decode cX1_does 6 = .ok (.getfield 372, 3) := dk_180 1 116 (dk_at dksX1_does_0 6 rfl rfl)
theorem dX1_does_9 : decode cX1_does 9 = .ok (.astore_n 3, 1) := dk_78 (dk_at dksX1_does_0 9 rfl rfl)
theorem dX1_does_10 : decode cX1_does 10 = .ok (.iconst (-1), 1) := dk_2 (dk_at dksX1_does_0 10 rfl rfl)
theorem dX1_does_11 : decode cX1_does 11 = .ok (.istore 4, 2) := dk_54 4 (dk_at dksX1_does_0 11 rfl rfl)
theorem dX1_does_13 : decode cX1_does 13 = .ok (.aload_n 3, 1) := dk_45 (dk_at dksX1_does_0 13 rfl rfl)
theorem dX1_does_14 : decode cX1_does 14 = .ok (.invokevirtual 376, 3) := dk_182 1 120 (dk_at dksX1_does_0 14 rfl rfl)
theorem dX1_does_17 : decode cX1_does 17 = .ok (.lookupswitch 152 #[(98882, 107), (107022, 139), (3314342, 59), (3321850, 75), (3571837, 123), (102976443, 91)], 59) := by decide +kernel
theorem dX1_does_76 : decode cX1_does 76 = .ok (.aload_n 3, 1) := dk_45 (dk_at dksX1_does_2 0 rfl rfl)
theorem dX1_does_77 : decode cX1_does 77 = .ok (.ldc_w 381, 3) := dk_19 1 125 (dk_at dksX1_does_2 1 rfl rfl)
theorem dX1_does_80 : decode cX1_does 80 = .ok (.invokevirtual 382, 3) := dk_182 1 126 (dk_at dksX1_does_2 4 rfl rfl)
theorem dX1_does_83 : decode cX1_does 83 = .ok (.ifCond .eq 86, 3) := dk_153 0 86 (dk_at dksX1_does_2 7 rfl rfl)
theorem dX1_does_86 : decode cX1_does 86 = .ok (.iconst 0, 1) := dk_3 (dk_at dksX1_does_2 10 rfl rfl)
theorem dX1_does_87 : decode cX1_does 87 = .ok (.istore 4, 2) := dk_54 4 (dk_at dksX1_does_2 11 rfl rfl)
theorem dX1_does_89 : decode cX1_does 89 = .ok (.goto 80, 3) := dk_167 0 80 (dk_at dksX1_does_2 13 rfl rfl)
theorem dX1_does_92 : decode cX1_does 92 = .ok (.aload_n 3, 1) := dk_45 (dk_at dksX1_does_2 16 rfl rfl)
theorem dX1_does_93 : decode cX1_does 93 = .ok (.ldc_w 385, 3) := dk_19 1 129 (dk_at dksX1_does_2 17 rfl rfl)
theorem dX1_does_96 : decode cX1_does 96 = .ok (.invokevirtual 382, 3) := dk_182 1 126 (dk_at dksX1_does_2 20 rfl rfl)
theorem dX1_does_99 : decode cX1_does 99 = .ok (.ifCond .eq 70, 3) := dk_153 0 70 (dk_at dksX1_does_3 0 rfl rfl)
theorem dX1_does_102 : decode cX1_does 102 = .ok (.iconst 1, 1) := dk_4 (dk_at dksX1_does_3 3 rfl rfl)
theorem dX1_does_103 : decode cX1_does 103 = .ok (.istore 4, 2) := dk_54 4 (dk_at dksX1_does_3 4 rfl rfl)
theorem dX1_does_105 : decode cX1_does 105 = .ok (.goto 64, 3) := dk_167 0 64 (dk_at dksX1_does_3 6 rfl rfl)
theorem dX1_does_108 : decode cX1_does 108 = .ok (.aload_n 3, 1) := dk_45 (dk_at dksX1_does_3 9 rfl rfl)
theorem dX1_does_109 : decode cX1_does 109 = .ok (.ldc_w 386, 3) := dk_19 1 130 (dk_at dksX1_does_3 10 rfl rfl)
theorem dX1_does_112 : decode cX1_does 112 = .ok (.invokevirtual 382, 3) := dk_182 1 126 (dk_at dksX1_does_3 13 rfl rfl)
theorem dX1_does_115 : decode cX1_does 115 = .ok (.ifCond .eq 54, 3) := dk_153 0 54 (dk_at dksX1_does_3 16 rfl rfl)
theorem dX1_does_118 : decode cX1_does 118 = .ok (.iconst 2, 1) := dk_5 (dk_at dksX1_does_3 19 rfl rfl)
theorem dX1_does_119 : decode cX1_does 119 = .ok (.istore 4, 2) := dk_54 4 (dk_at dksX1_does_3 20 rfl rfl)
theorem dX1_does_121 : decode cX1_does 121 = .ok (.goto 48, 3) := dk_167 0 48 (dk_at dksX1_does_4 0 rfl rfl)
theorem dX1_does_124 : decode cX1_does 124 = .ok (.aload_n 3, 1) := dk_45 (dk_at dksX1_does_4 3 rfl rfl)
theorem dX1_does_125 : decode cX1_does 125 = .ok (.ldc_w 387, 3) := dk_19 1 131 (dk_at dksX1_does_4 4 rfl rfl)
theorem dX1_does_128 : decode cX1_does 128 = .ok (.invokevirtual 382, 3) := dk_182 1 126 (dk_at dksX1_does_4 7 rfl rfl)
theorem dX1_does_131 : decode cX1_does 131 = .ok (.ifCond .eq 38, 3) := dk_153 0 38 (dk_at dksX1_does_4 10 rfl rfl)
theorem dX1_does_134 : decode cX1_does 134 = .ok (.iconst 3, 1) := dk_6 (dk_at dksX1_does_4 13 rfl rfl)
theorem dX1_does_135 : decode cX1_does 135 = .ok (.istore 4, 2) := dk_54 4 (dk_at dksX1_does_4 14 rfl rfl)
theorem dX1_does_137 : decode cX1_does 137 = .ok (.goto 32, 3) := dk_167 0 32 (dk_at dksX1_does_4 16 rfl rfl)
theorem dX1_does_140 : decode cX1_does 140 = .ok (.aload_n 3, 1) := dk_45 (dk_at dksX1_does_4 19 rfl rfl)
theorem dX1_does_141 : decode cX1_does 141 = .ok (.ldc_w 388, 3) := dk_19 1 132 (dk_at dksX1_does_4 20 rfl rfl)
theorem dX1_does_144 : decode cX1_does 144 = .ok (.invokevirtual 382, 3) := dk_182 1 126 (dk_at dksX1_does_5 0 rfl rfl)
theorem dX1_does_147 : decode cX1_does 147 = .ok (.ifCond .eq 22, 3) := dk_153 0 22 (dk_at dksX1_does_5 3 rfl rfl)
theorem dX1_does_150 : decode cX1_does 150 = .ok (.iconst 4, 1) := dk_7 (dk_at dksX1_does_5 6 rfl rfl)
theorem dX1_does_151 : decode cX1_does 151 = .ok (.istore 4, 2) := dk_54 4 (dk_at dksX1_does_5 7 rfl rfl)
theorem dX1_does_153 : decode cX1_does 153 = .ok (.goto 16, 3) := dk_167 0 16 (dk_at dksX1_does_5 9 rfl rfl)
theorem dX1_does_156 : decode cX1_does 156 = .ok (.aload_n 3, 1) := dk_45 (dk_at dksX1_does_5 12 rfl rfl)
theorem dX1_does_157 : decode cX1_does 157 = .ok (.ldc_w 390, 3) := dk_19 1 134 (dk_at dksX1_does_5 13 rfl rfl)
theorem dX1_does_160 : decode cX1_does 160 = .ok (.invokevirtual 382, 3) := dk_182 1 126 (dk_at dksX1_does_5 16 rfl rfl)
theorem dX1_does_163 : decode cX1_does 163 = .ok (.ifCond .eq 6, 3) := dk_153 0 6 (dk_at dksX1_does_5 19 rfl rfl)
theorem dX1_does_166 : decode cX1_does 166 = .ok (.iconst 5, 1) := dk_8 (dk_at dksX1_does_5 22 rfl rfl)
theorem dX1_does_167 : decode cX1_does 167 = .ok (.istore 4, 2) := dk_54 4 (dk_at dksX1_does_6 0 rfl rfl)
theorem dX1_does_169 : decode cX1_does 169 = .ok (.iload 4, 2) := dk_21 4 (dk_at dksX1_does_6 2 rfl rfl)
theorem dX1_does_171 : decode cX1_does 171 = .ok (.tableswitch 131 0 5 #[37, 55, 78, 89, 97, 108], 37) := by decide +kernel
theorem dX1_does_208 : decode cX1_does 208 = .ok (.aload_n 0, 1) := dk_42 (dk_at dksX1_does_8 0 rfl rfl)
theorem dX1_does_209 : decode cX1_does 209 = .ok (.aload_n 2, 1) := dk_44 (dk_at dksX1_does_8 1 rfl rfl)
theorem dX1_does_210 : decode cX1_does 210 = .ok (.iconst 0, 1) := dk_3 (dk_at dksX1_does_8 2 rfl rfl)
theorem dX1_does_211 : decode cX1_does 211 = .ok (.iaload, 1) := dk_46 (dk_at dksX1_does_8 3 rfl rfl)
theorem dX1_does_212 : decode cX1_does 212 = .ok (.aload_n 2, 1) := dk_44 (dk_at dksX1_does_8 4 rfl rfl)
theorem dX1_does_213 : decode cX1_does 213 = .ok (.iconst 1, 1) := dk_4 (dk_at dksX1_does_8 5 rfl rfl)
theorem dX1_does_214 : decode cX1_does 214 = .ok (.iaload, 1) := dk_46 (dk_at dksX1_does_8 6 rfl rfl)
theorem dX1_does_215 : decode cX1_does 215 = .ok (.aload_n 1, 1) := dk_43 (dk_at dksX1_does_8 7 rfl rfl)
theorem dX1_does_216 : decode cX1_does 216 = .ok (.getfield 392, 3) := dk_180 1 136 (dk_at dksX1_does_8 8 rfl rfl)
theorem dX1_does_219 : decode cX1_does 219 = .ok (.aload_n 2, 1) := dk_44 (dk_at dksX1_does_8 11 rfl rfl)
theorem dX1_does_220 : decode cX1_does 220 = .ok (.iconst 2, 1) := dk_5 (dk_at dksX1_does_8 12 rfl rfl)
theorem dX1_does_221 : decode cX1_does 221 = .ok (.iaload, 1) := dk_46 (dk_at dksX1_does_8 13 rfl rfl)
theorem dX1_does_222 : decode cX1_does 222 = .ok (.invokevirtual 395, 3) := dk_182 1 139 (dk_at dksX1_does_8 14 rfl rfl)
theorem dX1_does_225 : decode cX1_does 225 = .ok (.ireturn, 1) := dk_172 (dk_at dksX1_does_8 17 rfl rfl)
theorem dX1_does_226 : decode cX1_does 226 = .ok (.aload_n 0, 1) := dk_42 (dk_at dksX1_does_8 18 rfl rfl)
theorem dX1_does_227 : decode cX1_does 227 = .ok (.aload_n 2, 1) := dk_44 (dk_at dksX1_does_8 19 rfl rfl)
theorem dX1_does_228 : decode cX1_does 228 = .ok (.iconst 0, 1) := dk_3 (dk_at dksX1_does_8 20 rfl rfl)
theorem dX1_does_229 : decode cX1_does 229 = .ok (.iaload, 1) := dk_46 (dk_at dksX1_does_8 21 rfl rfl)
theorem dX1_does_230 : decode cX1_does 230 = .ok (.aload_n 2, 1) := dk_44 (dk_at dksX1_does_8 22 rfl rfl)
theorem dX1_does_231 : decode cX1_does 231 = .ok (.iconst 1, 1) := dk_4 (dk_at dksX1_does_8 23 rfl rfl)
theorem dX1_does_232 : decode cX1_does 232 = .ok (.iaload, 1) := dk_46 (dk_at dksX1_does_9 0 rfl rfl)
theorem dX1_does_233 : decode cX1_does 233 = .ok (.aload_n 2, 1) := dk_44 (dk_at dksX1_does_9 1 rfl rfl)
theorem dX1_does_234 : decode cX1_does 234 = .ok (.iconst 2, 1) := dk_5 (dk_at dksX1_does_9 2 rfl rfl)
theorem dX1_does_235 : decode cX1_does 235 = .ok (.iaload, 1) := dk_46 (dk_at dksX1_does_9 3 rfl rfl)
theorem dX1_does_236 : decode cX1_does 236 = .ok (.aload_n 2, 1) := dk_44 (dk_at dksX1_does_9 4 rfl rfl)
theorem dX1_does_237 : decode cX1_does 237 = .ok (.iconst 3, 1) := dk_6 (dk_at dksX1_does_9 5 rfl rfl)
theorem dX1_does_238 : decode cX1_does 238 = .ok (.iaload, 1) := dk_46 (dk_at dksX1_does_9 6 rfl rfl)
theorem dX1_does_239 : decode cX1_does 239 = .ok (.aload_n 2, 1) := dk_44 (dk_at dksX1_does_9 7 rfl rfl)
theorem dX1_does_240 : decode cX1_does 240 = .ok (.iconst 4, 1) := dk_7 (dk_at dksX1_does_9 8 rfl rfl)
theorem dX1_does_241 : decode cX1_does 241 = .ok (.iaload, 1) := dk_46 (dk_at dksX1_does_9 9 rfl rfl)
theorem dX1_does_242 : decode cX1_does 242 = .ok (.aload_n 2, 1) := dk_44 (dk_at dksX1_does_9 10 rfl rfl)
theorem dX1_does_243 : decode cX1_does 243 = .ok (.iconst 5, 1) := dk_8 (dk_at dksX1_does_9 11 rfl rfl)
theorem dX1_does_244 : decode cX1_does 244 = .ok (.iaload, 1) := dk_46 (dk_at dksX1_does_9 12 rfl rfl)
theorem dX1_does_245 : decode cX1_does 245 = .ok (.invokevirtual 398, 3) := dk_182 1 142 (dk_at dksX1_does_9 13 rfl rfl)
theorem dX1_does_248 : decode cX1_does 248 = .ok (.ireturn, 1) := dk_172 (dk_at dksX1_does_9 16 rfl rfl)
theorem dX1_does_249 : decode cX1_does 249 = .ok (.aload_n 0, 1) := dk_42 (dk_at dksX1_does_9 17 rfl rfl)
theorem dX1_does_250 : decode cX1_does 250 = .ok (.aload_n 2, 1) := dk_44 (dk_at dksX1_does_9 18 rfl rfl)
theorem dX1_does_251 : decode cX1_does 251 = .ok (.iconst 0, 1) := dk_3 (dk_at dksX1_does_9 19 rfl rfl)
theorem dX1_does_252 : decode cX1_does 252 = .ok (.iaload, 1) := dk_46 (dk_at dksX1_does_9 20 rfl rfl)
theorem dX1_does_253 : decode cX1_does 253 = .ok (.aload_n 2, 1) := dk_44 (dk_at dksX1_does_9 21 rfl rfl)
theorem dX1_does_254 : decode cX1_does 254 = .ok (.iconst 1, 1) := dk_4 (dk_at dksX1_does_9 22 rfl rfl)
theorem dX1_does_255 : decode cX1_does 255 = .ok (.iaload, 1) := dk_46 (dk_at dksX1_does_9 23 rfl rfl)
theorem dX1_does_256 : decode cX1_does 256 = .ok (.invokevirtual 401, 3) := dk_182 1 145 (dk_at dksX1_does_10 0 rfl rfl)
theorem dX1_does_259 : decode cX1_does 259 = .ok (.ireturn, 1) := dk_172 (dk_at dksX1_does_10 3 rfl rfl)
theorem dX1_does_260 : decode cX1_does 260 = .ok (.aload_n 0, 1) := dk_42 (dk_at dksX1_does_10 4 rfl rfl)
theorem dX1_does_261 : decode cX1_does 261 = .ok (.aload_n 2, 1) := dk_44 (dk_at dksX1_does_10 5 rfl rfl)
theorem dX1_does_262 : decode cX1_does 262 = .ok (.iconst 0, 1) := dk_3 (dk_at dksX1_does_10 6 rfl rfl)
theorem dX1_does_263 : decode cX1_does 263 = .ok (.iaload, 1) := dk_46 (dk_at dksX1_does_10 7 rfl rfl)
theorem dX1_does_264 : decode cX1_does 264 = .ok (.invokevirtual 404, 3) := dk_182 1 148 (dk_at dksX1_does_10 8 rfl rfl)
theorem dX1_does_267 : decode cX1_does 267 = .ok (.ireturn, 1) := dk_172 (dk_at dksX1_does_10 11 rfl rfl)
theorem dX1_does_268 : decode cX1_does 268 = .ok (.aload_n 0, 1) := dk_42 (dk_at dksX1_does_10 12 rfl rfl)
theorem dX1_does_269 : decode cX1_does 269 = .ok (.aload_n 2, 1) := dk_44 (dk_at dksX1_does_10 13 rfl rfl)
theorem dX1_does_270 : decode cX1_does 270 = .ok (.iconst 0, 1) := dk_3 (dk_at dksX1_does_10 14 rfl rfl)
theorem dX1_does_271 : decode cX1_does 271 = .ok (.iaload, 1) := dk_46 (dk_at dksX1_does_10 15 rfl rfl)
theorem dX1_does_272 : decode cX1_does 272 = .ok (.aload_n 2, 1) := dk_44 (dk_at dksX1_does_10 16 rfl rfl)
theorem dX1_does_273 : decode cX1_does 273 = .ok (.iconst 1, 1) := dk_4 (dk_at dksX1_does_10 17 rfl rfl)
theorem dX1_does_274 : decode cX1_does 274 = .ok (.iaload, 1) := dk_46 (dk_at dksX1_does_10 18 rfl rfl)
theorem dX1_does_275 : decode cX1_does 275 = .ok (.invokevirtual 406, 3) := dk_182 1 150 (dk_at dksX1_does_10 19 rfl rfl)
theorem dX1_does_278 : decode cX1_does 278 = .ok (.ireturn, 1) := dk_172 (dk_at dksX1_does_10 22 rfl rfl)
theorem dX1_does_279 : decode cX1_does 279 = .ok (.aload_n 0, 1) := dk_42 (dk_at dksX1_does_10 23 rfl rfl)
theorem dX1_does_280 : decode cX1_does 280 = .ok (.aload_n 2, 1) := dk_44 (dk_at dksX1_does_11 0 rfl rfl)
theorem dX1_does_281 : decode cX1_does 281 = .ok (.iconst 0, 1) := dk_3 (dk_at dksX1_does_11 1 rfl rfl)
theorem dX1_does_282 : decode cX1_does 282 = .ok (.iaload, 1) := dk_46 (dk_at dksX1_does_11 2 rfl rfl)
theorem dX1_does_283 : decode cX1_does 283 = .ok (.aload_n 2, 1) := dk_44 (dk_at dksX1_does_11 3 rfl rfl)
theorem dX1_does_284 : decode cX1_does 284 = .ok (.iconst 1, 1) := dk_4 (dk_at dksX1_does_11 4 rfl rfl)
theorem dX1_does_285 : decode cX1_does 285 = .ok (.iaload, 1) := dk_46 (dk_at dksX1_does_11 5 rfl rfl)
theorem dX1_does_286 : decode cX1_does 286 = .ok (.aload_n 2, 1) := dk_44 (dk_at dksX1_does_11 6 rfl rfl)
theorem dX1_does_287 : decode cX1_does 287 = .ok (.iconst 2, 1) := dk_5 (dk_at dksX1_does_11 7 rfl rfl)
theorem dX1_does_288 : decode cX1_does 288 = .ok (.iaload, 1) := dk_46 (dk_at dksX1_does_11 8 rfl rfl)
theorem dX1_does_289 : decode cX1_does 289 = .ok (.aload_n 2, 1) := dk_44 (dk_at dksX1_does_11 9 rfl rfl)
theorem dX1_does_290 : decode cX1_does 290 = .ok (.iconst 3, 1) := dk_6 (dk_at dksX1_does_11 10 rfl rfl)
theorem dX1_does_291 : decode cX1_does 291 = .ok (.iaload, 1) := dk_46 (dk_at dksX1_does_11 11 rfl rfl)
theorem dX1_does_292 : decode cX1_does 292 = .ok (.aload_n 2, 1) := dk_44 (dk_at dksX1_does_11 12 rfl rfl)
theorem dX1_does_293 : decode cX1_does 293 = .ok (.iconst 4, 1) := dk_7 (dk_at dksX1_does_11 13 rfl rfl)
theorem dX1_does_294 : decode cX1_does 294 = .ok (.iaload, 1) := dk_46 (dk_at dksX1_does_11 14 rfl rfl)
theorem dX1_does_295 : decode cX1_does 295 = .ok (.aload_n 2, 1) := dk_44 (dk_at dksX1_does_11 15 rfl rfl)
theorem dX1_does_296 : decode cX1_does 296 = .ok (.iconst 5, 1) := dk_8 (dk_at dksX1_does_11 16 rfl rfl)
theorem dX1_does_297 : decode cX1_does 297 = .ok (.iaload, 1) := dk_46 (dk_at dksX1_does_11 17 rfl rfl)
theorem dX1_does_298 : decode cX1_does 298 = .ok (.invokevirtual 408, 3) := dk_182 1 152 (dk_at dksX1_does_11 18 rfl rfl)
theorem dX1_does_301 : decode cX1_does 301 = .ok (.ireturn, 1) := dk_172 (dk_at dksX1_does_11 21 rfl rfl)
theorem dX1_does_302 : decode cX1_does 302 = .ok (.aload_n 0, 1) := dk_42 (dk_at dksX1_does_11 22 rfl rfl)
theorem dX1_does_303 : decode cX1_does 303 = .ok (.aload_n 2, 1) := dk_44 (dk_at dksX1_does_11 23 rfl rfl)
theorem dX1_does_304 : decode cX1_does 304 = .ok (.iconst 0, 1) := dk_3 (dk_at dksX1_does_12 0 rfl rfl)
theorem dX1_does_305 : decode cX1_does 305 = .ok (.iaload, 1) := dk_46 (dk_at dksX1_does_12 1 rfl rfl)
theorem dX1_does_306 : decode cX1_does 306 = .ok (.aload_n 2, 1) := dk_44 (dk_at dksX1_does_12 2 rfl rfl)
theorem dX1_does_307 : decode cX1_does 307 = .ok (.iconst 1, 1) := dk_4 (dk_at dksX1_does_12 3 rfl rfl)
theorem dX1_does_308 : decode cX1_does 308 = .ok (.iaload, 1) := dk_46 (dk_at dksX1_does_12 4 rfl rfl)
theorem dX1_does_309 : decode cX1_does 309 = .ok (.invokevirtual 410, 3) := dk_182 1 154 (dk_at dksX1_does_12 5 rfl rfl)
theorem dX1_does_312 : decode cX1_does 312 = .ok (.ireturn, 1) := dk_172 (dk_at dksX1_does_12 8 rfl rfl)
abbrev cX1_reason : ByteArray := prog_1_method_55_code
def yX1_reason : MethodName := ⟨RX1, "reason", "(IZ)I"⟩
def dkwX1_reason_2 : List UInt8 := [199, 0, 7, 3, 167, 0, 18, 28, 153, 0, 10, 45, 180, 1, 197, 167, 0, 7, 45, 180, 1, 200, 172]
abbrev dktX1_reason_2 : List UInt8 := dkwX1_reason_2 ++ []
def dkwX1_reason_1 : List UInt8 := [167, 0, 10, 42, 180, 0, 42, 180, 1, 192, 78, 45, 198, 0, 7, 4, 167, 0, 4, 3, 184, 1, 194, 45]
abbrev dktX1_reason_1 : List UInt8 := dkwX1_reason_1 ++ dktX1_reason_2
def dkwX1_reason_0 : List UInt8 := [27, 3, 4, 184, 0, 49, 184, 1, 9, 42, 180, 0, 42, 198, 0, 7, 27, 154, 0, 10, 42, 180, 0, 42]
abbrev dktX1_reason_0 : List UInt8 := dkwX1_reason_0 ++ dktX1_reason_1
theorem dksX1_reason_0 : cX1_reason.data.toList.drop 0 = dktX1_reason_0 := by decide +kernel
theorem dksX1_reason_1 : cX1_reason.data.toList.drop 24 = dktX1_reason_1 := dk_seg dksX1_reason_0 24 rfl rfl
theorem dksX1_reason_2 : cX1_reason.data.toList.drop 48 = dktX1_reason_2 := dk_seg dksX1_reason_1 24 rfl rfl
theorem dX1_reason_0 : decode cX1_reason 0 = .ok (.iload_n 1, 1) := dk_27 (dk_at dksX1_reason_0 0 rfl rfl)
theorem dX1_reason_1 : decode cX1_reason 1 = .ok (.iconst 0, 1) := dk_3 (dk_at dksX1_reason_0 1 rfl rfl)
theorem dX1_reason_2 : decode cX1_reason 2 = .ok (.iconst 1, 1) := dk_4 (dk_at dksX1_reason_0 2 rfl rfl)
theorem dX1_reason_3 : decode cX1_reason 3 = .ok (.invokestatic 49, 3) := dk_184 0 49 (dk_at dksX1_reason_0 3 rfl rfl)
theorem dX1_reason_6 : decode cX1_reason 6 = .ok (.invokestatic 265, 3) := dk_184 1 9 (dk_at dksX1_reason_0 6 rfl rfl)
theorem dX1_reason_9 : decode cX1_reason 9 = .ok (.aload_n 0, 1) := dk_42 (dk_at dksX1_reason_0 9 rfl rfl)
theorem dX1_reason_10 : decode cX1_reason 10 = .ok (.getfield 42, 3) := dk_180 0 42 (dk_at dksX1_reason_0 10 rfl rfl)
theorem dX1_reason_13 : decode cX1_reason 13 = .ok (.ifnull 7, 3) := dk_198 0 7 (dk_at dksX1_reason_0 13 rfl rfl)
theorem dX1_reason_16 : decode cX1_reason 16 = .ok (.iload_n 1, 1) := dk_27 (dk_at dksX1_reason_0 16 rfl rfl)
theorem dX1_reason_17 : decode cX1_reason 17 = .ok (.ifCond .ne 10, 3) := dk_154 0 10 (dk_at dksX1_reason_0 17 rfl rfl)
theorem dX1_reason_20 : decode cX1_reason 20 = .ok (.aload_n 0, 1) := dk_42 (dk_at dksX1_reason_0 20 rfl rfl)
theorem dX1_reason_21 : decode cX1_reason 21 = .ok (.getfield 42, 3) := dk_180 0 42 (dk_at dksX1_reason_0 21 rfl rfl)
theorem dX1_reason_24 : decode cX1_reason 24 = .ok (.goto 10, 3) := dk_167 0 10 (dk_at dksX1_reason_1 0 rfl rfl)
theorem dX1_reason_27 : decode cX1_reason 27 = .ok (.aload_n 0, 1) := dk_42 (dk_at dksX1_reason_1 3 rfl rfl)
theorem dX1_reason_28 : decode cX1_reason 28 = .ok (.getfield 42, 3) := dk_180 0 42 (dk_at dksX1_reason_1 4 rfl rfl)
theorem dX1_reason_31 : decode cX1_reason 31 = .ok (.getfield 448, 3) := dk_180 1 192 (dk_at dksX1_reason_1 7 rfl rfl)
theorem dX1_reason_34 : decode cX1_reason 34 = .ok (.astore_n 3, 1) := dk_78 (dk_at dksX1_reason_1 10 rfl rfl)
theorem dX1_reason_35 : decode cX1_reason 35 = .ok (.aload_n 3, 1) := dk_45 (dk_at dksX1_reason_1 11 rfl rfl)
theorem dX1_reason_36 : decode cX1_reason 36 = .ok (.ifnull 7, 3) := dk_198 0 7 (dk_at dksX1_reason_1 12 rfl rfl)
theorem dX1_reason_39 : decode cX1_reason 39 = .ok (.iconst 1, 1) := dk_4 (dk_at dksX1_reason_1 15 rfl rfl)
theorem dX1_reason_40 : decode cX1_reason 40 = .ok (.goto 4, 3) := dk_167 0 4 (dk_at dksX1_reason_1 16 rfl rfl)
theorem dX1_reason_43 : decode cX1_reason 43 = .ok (.iconst 0, 1) := dk_3 (dk_at dksX1_reason_1 19 rfl rfl)
theorem dX1_reason_44 : decode cX1_reason 44 = .ok (.invokestatic 450, 3) := dk_184 1 194 (dk_at dksX1_reason_1 20 rfl rfl)
theorem dX1_reason_47 : decode cX1_reason 47 = .ok (.aload_n 3, 1) := dk_45 (dk_at dksX1_reason_1 23 rfl rfl)
theorem dX1_reason_48 : decode cX1_reason 48 = .ok (.ifnonnull 7, 3) := dk_199 0 7 (dk_at dksX1_reason_2 0 rfl rfl)
theorem dX1_reason_51 : decode cX1_reason 51 = .ok (.iconst 0, 1) := dk_3 (dk_at dksX1_reason_2 3 rfl rfl)
theorem dX1_reason_52 : decode cX1_reason 52 = .ok (.goto 18, 3) := dk_167 0 18 (dk_at dksX1_reason_2 4 rfl rfl)
theorem dX1_reason_55 : decode cX1_reason 55 = .ok (.iload_n 2, 1) := dk_28 (dk_at dksX1_reason_2 7 rfl rfl)
theorem dX1_reason_56 : decode cX1_reason 56 = .ok (.ifCond .eq 10, 3) := dk_153 0 10 (dk_at dksX1_reason_2 8 rfl rfl)
theorem dX1_reason_59 : decode cX1_reason 59 = .ok (.aload_n 3, 1) := dk_45 (dk_at dksX1_reason_2 11 rfl rfl)
theorem dX1_reason_60 : decode cX1_reason 60 = .ok (.getfield 453, 3) := dk_180 1 197 (dk_at dksX1_reason_2 12 rfl rfl)
theorem dX1_reason_63 : decode cX1_reason 63 = .ok (.goto 7, 3) := dk_167 0 7 (dk_at dksX1_reason_2 15 rfl rfl)
theorem dX1_reason_66 : decode cX1_reason 66 = .ok (.aload_n 3, 1) := dk_45 (dk_at dksX1_reason_2 18 rfl rfl)
theorem dX1_reason_67 : decode cX1_reason 67 = .ok (.getfield 456, 3) := dk_180 1 200 (dk_at dksX1_reason_2 19 rfl rfl)
theorem dX1_reason_70 : decode cX1_reason 70 = .ok (.ireturn, 1) := dk_172 (dk_at dksX1_reason_2 22 rfl rfl)
abbrev cX1_checkElement : ByteArray := prog_1_method_7_code
def yX1_checkElement : MethodName := ⟨RX1, "checkElement", "(Z)V"⟩
def dkwX1_checkElement_0 : List UInt8 := [26, 154, 0, 11, 187, 0, 63, 89, 183, 0, 65, 191, 177]
abbrev dktX1_checkElement_0 : List UInt8 := dkwX1_checkElement_0 ++ []
theorem dksX1_checkElement_0 : cX1_checkElement.data.toList.drop 0 = dktX1_checkElement_0 := by decide +kernel
theorem dX1_checkElement_0 : decode cX1_checkElement 0 = .ok (.iload_n 0, 1) := dk_26 (dk_at dksX1_checkElement_0 0 rfl rfl)
theorem dX1_checkElement_1 : decode cX1_checkElement 1 = .ok (.ifCond .ne 11, 3) := dk_154 0 11 (dk_at dksX1_checkElement_0 1 rfl rfl)
theorem dX1_checkElement_4 : decode cX1_checkElement 4 = .ok (.new 63, 3) := dk_187 0 63 (dk_at dksX1_checkElement_0 4 rfl rfl)
theorem dX1_checkElement_7 : decode cX1_checkElement 7 = .ok (.dup, 1) := dk_89 (dk_at dksX1_checkElement_0 7 rfl rfl)
theorem dX1_checkElement_8 : decode cX1_checkElement 8 = .ok (.invokespecial 65, 3) := dk_183 0 65 (dk_at dksX1_checkElement_0 8 rfl rfl)
theorem dX1_checkElement_11 : decode cX1_checkElement 11 = .ok (.athrow, 1) := dk_191 (dk_at dksX1_checkElement_0 11 rfl rfl)
theorem dX1_checkElement_12 : decode cX1_checkElement 12 = .ok (.return_, 1) := dk_177 (dk_at dksX1_checkElement_0 12 rfl rfl)
abbrev cX1_tell : ByteArray := prog_1_method_57_code
def yX1_tell : MethodName := ⟨RX1, "tell", "(I)I"⟩
def dkwX1_tell_5 : List UInt8 := [182, 1, 160, 172]
abbrev dktX1_tell_5 : List UInt8 := dkwX1_tell_5 ++ []
def dkwX1_tell_4 : List UInt8 := [45, 27, 21, 4, 178, 0, 181, 19, 1, 217, 182, 1, 213, 132, 4, 1, 167, 255, 168, 42, 180, 0, 30]
abbrev dktX1_tell_4 : List UInt8 := dkwX1_tell_4 ++ dktX1_tell_5
def dkwX1_tell_3 : List UInt8 := [182, 1, 206, 16, 64, 182, 1, 166, 87, 42, 45, 27, 21, 4, 178, 0, 171, 19, 1, 211, 182, 1, 213, 42]
abbrev dktX1_tell_3 : List UInt8 := dkwX1_tell_3 ++ dktX1_tell_4
def dkwX1_tell_2 : List UInt8 := [167, 0, 6, 19, 1, 211, 182, 1, 203, 44, 180, 0, 131, 21, 4, 182, 0, 143, 192, 0, 134, 180, 0, 161]
abbrev dktX1_tell_2 : List UInt8 := dkwX1_tell_2 ++ dktX1_tell_3
def dkwX1_tell_1 : List UInt8 := [44, 180, 0, 131, 182, 0, 122, 162, 0, 82, 42, 180, 0, 30, 21, 4, 158, 0, 9, 19, 1, 209]
abbrev dktX1_tell_1 : List UInt8 := dkwX1_tell_1 ++ dktX1_tell_2
def dkwX1_tell_0 : List UInt8 := [42, 27, 182, 1, 5, 77, 42, 182, 0, 226, 78, 42, 180, 0, 30, 3, 182, 1, 179, 3, 54, 4, 21, 4]
abbrev dktX1_tell_0 : List UInt8 := dkwX1_tell_0 ++ dktX1_tell_1
theorem dksX1_tell_0 : cX1_tell.data.toList.drop 0 = dktX1_tell_0 := by decide +kernel
theorem dksX1_tell_1 : cX1_tell.data.toList.drop 24 = dktX1_tell_1 := dk_seg dksX1_tell_0 24 rfl rfl
theorem dksX1_tell_2 : cX1_tell.data.toList.drop 46 = dktX1_tell_2 := dk_seg dksX1_tell_1 22 rfl rfl
theorem dksX1_tell_3 : cX1_tell.data.toList.drop 70 = dktX1_tell_3 := dk_seg dksX1_tell_2 24 rfl rfl
theorem dksX1_tell_4 : cX1_tell.data.toList.drop 94 = dktX1_tell_4 := dk_seg dksX1_tell_3 24 rfl rfl
theorem dksX1_tell_5 : cX1_tell.data.toList.drop 117 = dktX1_tell_5 := dk_seg dksX1_tell_4 23 rfl rfl
theorem dX1_tell_0 : decode cX1_tell 0 = .ok (.aload_n 0, 1) := dk_42 (dk_at dksX1_tell_0 0 rfl rfl)
theorem dX1_tell_1 : decode cX1_tell 1 = .ok (.iload_n 1, 1) := dk_27 (dk_at dksX1_tell_0 1 rfl rfl)
theorem dX1_tell_2 : decode cX1_tell 2 = .ok (.invokevirtual 261, 3) := dk_182 1 5 (dk_at dksX1_tell_0 2 rfl rfl)
theorem dX1_tell_5 : decode cX1_tell 5 = .ok (.astore_n 2, 1) := dk_77 (dk_at dksX1_tell_0 5 rfl rfl)
theorem dX1_tell_6 : decode cX1_tell 6 = .ok (.aload_n 0, 1) := dk_42 (dk_at dksX1_tell_0 6 rfl rfl)
theorem dX1_tell_7 : decode cX1_tell 7 = .ok (.invokevirtual 226, 3) := dk_182 0 226 (dk_at dksX1_tell_0 7 rfl rfl)
theorem dX1_tell_10 : decode cX1_tell 10 = .ok (.astore_n 3, 1) := dk_78 (dk_at dksX1_tell_0 10 rfl rfl)
theorem dX1_tell_11 : decode cX1_tell 11 = .ok (.aload_n 0, 1) := dk_42 (dk_at dksX1_tell_0 11 rfl rfl)
theorem dX1_tell_12 : decode cX1_tell 12 = .ok (.getfield 30, 3) := dk_180 0 30 (dk_at dksX1_tell_0 12 rfl rfl)
theorem dX1_tell_15 : decode cX1_tell 15 = .ok (.iconst 0, 1) := dk_3 (dk_at dksX1_tell_0 15 rfl rfl)
theorem dX1_tell_16 : decode cX1_tell 16 = .ok (.invokevirtual 435, 3) := dk_182 1 179 (dk_at dksX1_tell_0 16 rfl rfl)
theorem dX1_tell_19 : decode cX1_tell 19 = .ok (.iconst 0, 1) := dk_3 (dk_at dksX1_tell_0 19 rfl rfl)
theorem dX1_tell_20 : decode cX1_tell 20 = .ok (.istore 4, 2) := dk_54 4 (dk_at dksX1_tell_0 20 rfl rfl)
theorem dX1_tell_22 : decode cX1_tell 22 = .ok (.iload 4, 2) := dk_21 4 (dk_at dksX1_tell_0 22 rfl rfl)
theorem dX1_tell_24 : decode cX1_tell 24 = .ok (.aload_n 2, 1) := dk_44 (dk_at dksX1_tell_1 0 rfl rfl)
theorem dX1_tell_25 : decode cX1_tell 25 = .ok (.getfield 131, 3) := dk_180 0 131 (dk_at dksX1_tell_1 1 rfl rfl)
theorem dX1_tell_28 : decode cX1_tell 28 = .ok (.invokevirtual 122, 3) := dk_182 0 122 (dk_at dksX1_tell_1 4 rfl rfl)
theorem dX1_tell_31 : decode cX1_tell 31 = .ok (.if_icmp .ge 82, 3) := dk_162 0 82 (dk_at dksX1_tell_1 7 rfl rfl)
theorem dX1_tell_34 : decode cX1_tell 34 = .ok (.aload_n 0, 1) := dk_42 (dk_at dksX1_tell_1 10 rfl rfl)
theorem dX1_tell_35 : decode cX1_tell 35 = .ok (.getfield 30, 3) := dk_180 0 30 (dk_at dksX1_tell_1 11 rfl rfl)
theorem dX1_tell_38 : decode cX1_tell 38 = .ok (.iload 4, 2) := dk_21 4 (dk_at dksX1_tell_1 14 rfl rfl)
theorem dX1_tell_40 : decode cX1_tell 40 = .ok (.ifCond .le 9, 3) := dk_158 0 9 (dk_at dksX1_tell_1 16 rfl rfl)
theorem dX1_tell_43 : decode cX1_tell 43 = .ok (.ldc_w 465, 3) := dk_19 1 209 (dk_at dksX1_tell_1 19 rfl rfl)
theorem dX1_tell_46 : decode cX1_tell 46 = .ok (.goto 6, 3) := dk_167 0 6 (dk_at dksX1_tell_2 0 rfl rfl)
theorem dX1_tell_49 : decode cX1_tell 49 = .ok (.ldc_w 467, 3) := dk_19 1 211 (dk_at dksX1_tell_2 3 rfl rfl)
theorem dX1_tell_52 : decode cX1_tell 52 = .ok (.invokevirtual 459, 3) := dk_182 1 203 (dk_at dksX1_tell_2 6 rfl rfl)
theorem dX1_tell_55 : decode cX1_tell 55 = .ok (.aload_n 2, 1) := dk_44 (dk_at dksX1_tell_2 9 rfl rfl)
theorem dX1_tell_56 : decode cX1_tell 56 = .ok (.getfield 131, 3) := dk_180 0 131 (dk_at dksX1_tell_2 10 rfl rfl)
theorem dX1_tell_59 : decode cX1_tell 59 = .ok (.iload 4, 2) := dk_21 4 (dk_at dksX1_tell_2 13 rfl rfl)
theorem dX1_tell_61 : decode cX1_tell 61 = .ok (.invokevirtual 143, 3) := dk_182 0 143 (dk_at dksX1_tell_2 15 rfl rfl)
theorem dX1_tell_64 : decode cX1_tell 64 = .ok (.checkcast 134, 3) := dk_192 0 134 (dk_at dksX1_tell_2 18 rfl rfl)
theorem dX1_tell_67 : decode cX1_tell 67 = .ok (.getfield 161, 3) := dk_180 0 161 (dk_at dksX1_tell_2 21 rfl rfl)
theorem dX1_tell_70 : decode cX1_tell 70 = .ok (.invokevirtual 462, 3) := dk_182 1 206 (dk_at dksX1_tell_3 0 rfl rfl)
theorem dX1_tell_73 : decode cX1_tell 73 = .ok (.bipush 64, 2) := dk_16 64 (dk_at dksX1_tell_3 3 rfl rfl)
theorem dX1_tell_75 : decode cX1_tell 75 = .ok (.invokevirtual 422, 3) := dk_182 1 166 (dk_at dksX1_tell_3 5 rfl rfl)
theorem dX1_tell_78 : decode cX1_tell 78 = .ok (.pop, 1) := dk_87 (dk_at dksX1_tell_3 8 rfl rfl)
theorem dX1_tell_79 : decode cX1_tell 79 = .ok (.aload_n 0, 1) := dk_42 (dk_at dksX1_tell_3 9 rfl rfl)
theorem dX1_tell_80 : decode cX1_tell 80 = .ok (.aload_n 3, 1) := dk_45 (dk_at dksX1_tell_3 10 rfl rfl)
theorem dX1_tell_81 : decode cX1_tell 81 = .ok (.iload_n 1, 1) := dk_27 (dk_at dksX1_tell_3 11 rfl rfl)
theorem dX1_tell_82 : decode cX1_tell 82 = .ok (.iload 4, 2) := dk_21 4 (dk_at dksX1_tell_3 12 rfl rfl)
theorem dX1_tell_84 : decode cX1_tell 84 = .ok (.getstatic 171, 3) := dk_178 0 171 (dk_at dksX1_tell_3 14 rfl rfl)
theorem dX1_tell_87 : decode cX1_tell 87 = .ok (.ldc_w 467, 3) := dk_19 1 211 (dk_at dksX1_tell_3 17 rfl rfl)
theorem dX1_tell_90 : decode cX1_tell 90 = .ok (.invokevirtual 469, 3) := dk_182 1 213 (dk_at dksX1_tell_3 20 rfl rfl)
theorem dX1_tell_93 : decode cX1_tell 93 = .ok (.aload_n 0, 1) := dk_42 (dk_at dksX1_tell_3 23 rfl rfl)
theorem dX1_tell_94 : decode cX1_tell 94 = .ok (.aload_n 3, 1) := dk_45 (dk_at dksX1_tell_4 0 rfl rfl)
theorem dX1_tell_95 : decode cX1_tell 95 = .ok (.iload_n 1, 1) := dk_27 (dk_at dksX1_tell_4 1 rfl rfl)
theorem dX1_tell_96 : decode cX1_tell 96 = .ok (.iload 4, 2) := dk_21 4 (dk_at dksX1_tell_4 2 rfl rfl)
theorem dX1_tell_98 : decode cX1_tell 98 = .ok (.getstatic 181, 3) := dk_178 0 181 (dk_at dksX1_tell_4 4 rfl rfl)
theorem dX1_tell_101 : decode cX1_tell 101 = .ok (.ldc_w 473, 3) := dk_19 1 217 (dk_at dksX1_tell_4 7 rfl rfl)
theorem dX1_tell_104 : decode cX1_tell 104 = .ok (.invokevirtual 469, 3) := dk_182 1 213 (dk_at dksX1_tell_4 10 rfl rfl)
theorem dX1_tell_107 : decode cX1_tell 107 = .ok (.iinc 4 1, 3) := dk_132 4 1 (dk_at dksX1_tell_4 13 rfl rfl)
theorem dX1_tell_110 : decode cX1_tell 110 = .ok (.goto (-88), 3) := dk_167 255 168 (dk_at dksX1_tell_4 16 rfl rfl)
theorem dX1_tell_113 : decode cX1_tell 113 = .ok (.aload_n 0, 1) := dk_42 (dk_at dksX1_tell_4 19 rfl rfl)
theorem dX1_tell_114 : decode cX1_tell 114 = .ok (.getfield 30, 3) := dk_180 0 30 (dk_at dksX1_tell_4 20 rfl rfl)
theorem dX1_tell_117 : decode cX1_tell 117 = .ok (.invokevirtual 416, 3) := dk_182 1 160 (dk_at dksX1_tell_5 0 rfl rfl)
theorem dX1_tell_120 : decode cX1_tell 120 = .ok (.ireturn, 1) := dk_172 (dk_at dksX1_tell_5 3 rfl rfl)
abbrev cX1_writesEvent : ByteArray := prog_1_method_56_code
def yX1_writesEvent : MethodName := ⟨RX1, "writesEvent", "(LCoachTimetable$Net;IILCoachTimetable$Side;Ljava/lang/String;)V"⟩
def dkwX1_writesEvent_2 : List UInt8 := [16, 43, 182, 1, 166, 25, 6, 182, 0, 233, 182, 1, 206, 87, 177]
abbrev dktX1_writesEvent_2 : List UInt8 := dkwX1_writesEvent_2 ++ []
def dkwX1_writesEvent_1 : List UInt8 := [182, 1, 203, 25, 6, 180, 1, 41, 182, 1, 206, 87, 25, 6, 182, 0, 233, 158, 0, 21, 42, 180, 0, 30]
abbrev dktX1_writesEvent_1 : List UInt8 := dkwX1_writesEvent_1 ++ dktX1_writesEvent_2
def dkwX1_writesEvent_0 : List UInt8 := [43, 28, 29, 25, 4, 182, 0, 229, 58, 6, 25, 6, 199, 0, 4, 177, 42, 180, 0, 30, 25, 5]
abbrev dktX1_writesEvent_0 : List UInt8 := dkwX1_writesEvent_0 ++ dktX1_writesEvent_1
theorem dksX1_writesEvent_0 : cX1_writesEvent.data.toList.drop 0 = dktX1_writesEvent_0 := by decide +kernel
theorem dksX1_writesEvent_1 : cX1_writesEvent.data.toList.drop 22 = dktX1_writesEvent_1 := dk_seg dksX1_writesEvent_0 22 rfl rfl
theorem dksX1_writesEvent_2 : cX1_writesEvent.data.toList.drop 46 = dktX1_writesEvent_2 := dk_seg dksX1_writesEvent_1 24 rfl rfl
theorem dX1_writesEvent_0 : decode cX1_writesEvent 0 = .ok (.aload_n 1, 1) := dk_43 (dk_at dksX1_writesEvent_0 0 rfl rfl)
theorem dX1_writesEvent_1 : decode cX1_writesEvent 1 = .ok (.iload_n 2, 1) := dk_28 (dk_at dksX1_writesEvent_0 1 rfl rfl)
theorem dX1_writesEvent_2 : decode cX1_writesEvent 2 = .ok (.iload_n 3, 1) := dk_29 (dk_at dksX1_writesEvent_0 2 rfl rfl)
theorem dX1_writesEvent_3 : decode cX1_writesEvent 3 = .ok (.aload 4, 2) := dk_25 4 (dk_at dksX1_writesEvent_0 3 rfl rfl)
theorem dX1_writesEvent_5 : decode cX1_writesEvent 5 = .ok (.invokevirtual 229, 3) := dk_182 0 229 (dk_at dksX1_writesEvent_0 5 rfl rfl)
theorem dX1_writesEvent_8 : decode cX1_writesEvent 8 = .ok (.astore 6, 2) := dk_58 6 (dk_at dksX1_writesEvent_0 8 rfl rfl)
theorem dX1_writesEvent_10 : decode cX1_writesEvent 10 = .ok (.aload 6, 2) := dk_25 6 (dk_at dksX1_writesEvent_0 10 rfl rfl)
theorem dX1_writesEvent_12 : decode cX1_writesEvent 12 = .ok (.ifnonnull 4, 3) := dk_199 0 4 (dk_at dksX1_writesEvent_0 12 rfl rfl)
theorem dX1_writesEvent_15 : decode cX1_writesEvent 15 = .ok (.return_, 1) := dk_177 (dk_at dksX1_writesEvent_0 15 rfl rfl)
theorem dX1_writesEvent_16 : decode cX1_writesEvent 16 = .ok (.aload_n 0, 1) := dk_42 (dk_at dksX1_writesEvent_0 16 rfl rfl)
theorem dX1_writesEvent_17 : decode cX1_writesEvent 17 = .ok (.getfield 30, 3) := dk_180 0 30 (dk_at dksX1_writesEvent_0 17 rfl rfl)
theorem dX1_writesEvent_20 : decode cX1_writesEvent 20 = .ok (.aload 5, 2) := dk_25 5 (dk_at dksX1_writesEvent_0 20 rfl rfl)
theorem dX1_writesEvent_22 : decode cX1_writesEvent 22 = .ok (.invokevirtual 459, 3) := dk_182 1 203 (dk_at dksX1_writesEvent_1 0 rfl rfl)
theorem dX1_writesEvent_25 : decode cX1_writesEvent 25 = .ok (.aload 6, 2) := dk_25 6 (dk_at dksX1_writesEvent_1 3 rfl rfl)
theorem dX1_writesEvent_27 : decode cX1_writesEvent 27 = .ok (.getfield 297, 3) := dk_180 1 41 (dk_at dksX1_writesEvent_1 5 rfl rfl)
theorem dX1_writesEvent_30 : decode cX1_writesEvent 30 = .ok (.invokevirtual 462, 3) := dk_182 1 206 (dk_at dksX1_writesEvent_1 8 rfl rfl)
theorem dX1_writesEvent_33 : decode cX1_writesEvent 33 = .ok (.pop, 1) := dk_87 (dk_at dksX1_writesEvent_1 11 rfl rfl)
theorem dX1_writesEvent_34 : decode cX1_writesEvent 34 = .ok (.aload 6, 2) := dk_25 6 (dk_at dksX1_writesEvent_1 12 rfl rfl)
theorem dX1_writesEvent_36 : decode cX1_writesEvent 36 = .ok (.invokevirtual 233, 3) := dk_182 0 233 (dk_at dksX1_writesEvent_1 14 rfl rfl)
theorem dX1_writesEvent_39 : decode cX1_writesEvent 39 = .ok (.ifCond .le 21, 3) := dk_158 0 21 (dk_at dksX1_writesEvent_1 17 rfl rfl)
theorem dX1_writesEvent_42 : decode cX1_writesEvent 42 = .ok (.aload_n 0, 1) := dk_42 (dk_at dksX1_writesEvent_1 20 rfl rfl)
theorem dX1_writesEvent_43 : decode cX1_writesEvent 43 = .ok (.getfield 30, 3) := dk_180 0 30 (dk_at dksX1_writesEvent_1 21 rfl rfl)
theorem dX1_writesEvent_46 : decode cX1_writesEvent 46 = .ok (.bipush 43, 2) := dk_16 43 (dk_at dksX1_writesEvent_2 0 rfl rfl)
theorem dX1_writesEvent_48 : decode cX1_writesEvent 48 = .ok (.invokevirtual 422, 3) := dk_182 1 166 (dk_at dksX1_writesEvent_2 2 rfl rfl)
theorem dX1_writesEvent_51 : decode cX1_writesEvent 51 = .ok (.aload 6, 2) := dk_25 6 (dk_at dksX1_writesEvent_2 5 rfl rfl)
theorem dX1_writesEvent_53 : decode cX1_writesEvent 53 = .ok (.invokevirtual 233, 3) := dk_182 0 233 (dk_at dksX1_writesEvent_2 7 rfl rfl)
theorem dX1_writesEvent_56 : decode cX1_writesEvent 56 = .ok (.invokevirtual 462, 3) := dk_182 1 206 (dk_at dksX1_writesEvent_2 10 rfl rfl)
theorem dX1_writesEvent_59 : decode cX1_writesEvent 59 = .ok (.pop, 1) := dk_87 (dk_at dksX1_writesEvent_2 13 rfl rfl)
theorem dX1_writesEvent_60 : decode cX1_writesEvent 60 = .ok (.return_, 1) := dk_177 (dk_at dksX1_writesEvent_2 14 rfl rfl)
abbrev cX1_character : ByteArray := prog_1_method_59_code
def yX1_character : MethodName := ⟨RX1, "character", "(I)C"⟩
def dkwX1_character_1 : List UInt8 := [182, 1, 219, 172]
abbrev dktX1_character_1 : List UInt8 := dkwX1_character_1 ++ []
def dkwX1_character_0 : List UInt8 := [27, 3, 42, 180, 0, 30, 182, 1, 160, 4, 100, 184, 0, 49, 184, 0, 238, 42, 180, 0, 30, 27]
abbrev dktX1_character_0 : List UInt8 := dkwX1_character_0 ++ dktX1_character_1
theorem dksX1_character_0 : cX1_character.data.toList.drop 0 = dktX1_character_0 := by decide +kernel
theorem dksX1_character_1 : cX1_character.data.toList.drop 22 = dktX1_character_1 := dk_seg dksX1_character_0 22 rfl rfl
theorem dX1_character_0 : decode cX1_character 0 = .ok (.iload_n 1, 1) := dk_27 (dk_at dksX1_character_0 0 rfl rfl)
theorem dX1_character_1 : decode cX1_character 1 = .ok (.iconst 0, 1) := dk_3 (dk_at dksX1_character_0 1 rfl rfl)
theorem dX1_character_2 : decode cX1_character 2 = .ok (.aload_n 0, 1) := dk_42 (dk_at dksX1_character_0 2 rfl rfl)
theorem dX1_character_3 : decode cX1_character 3 = .ok (.getfield 30, 3) := dk_180 0 30 (dk_at dksX1_character_0 3 rfl rfl)
theorem dX1_character_6 : decode cX1_character 6 = .ok (.invokevirtual 416, 3) := dk_182 1 160 (dk_at dksX1_character_0 6 rfl rfl)
theorem dX1_character_9 : decode cX1_character 9 = .ok (.iconst 1, 1) := dk_4 (dk_at dksX1_character_0 9 rfl rfl)
theorem dX1_character_10 : decode cX1_character 10 = .ok (.isub, 1) := dk_100 (dk_at dksX1_character_0 10 rfl rfl)
theorem dX1_character_11 : decode cX1_character 11 = .ok (.invokestatic 49, 3) := dk_184 0 49 (dk_at dksX1_character_0 11 rfl rfl)
theorem dX1_character_14 : decode cX1_character 14 = .ok (.invokestatic 238, 3) := dk_184 0 238 (dk_at dksX1_character_0 14 rfl rfl)
theorem dX1_character_17 : decode cX1_character 17 = .ok (.aload_n 0, 1) := dk_42 (dk_at dksX1_character_0 17 rfl rfl)
theorem dX1_character_18 : decode cX1_character 18 = .ok (.getfield 30, 3) := dk_180 0 30 (dk_at dksX1_character_0 18 rfl rfl)
theorem dX1_character_21 : decode cX1_character 21 = .ok (.iload_n 1, 1) := dk_27 (dk_at dksX1_character_0 21 rfl rfl)
theorem dX1_character_22 : decode cX1_character 22 = .ok (.invokevirtual 475, 3) := dk_182 1 219 (dk_at dksX1_character_1 0 rfl rfl)
theorem dX1_character_25 : decode cX1_character 25 = .ok (.ireturn, 1) := dk_172 (dk_at dksX1_character_1 3 rfl rfl)
abbrev cX1_account : ByteArray := prog_1_method_64_code
def yX1_account : MethodName := ⟨RX1, "account", "(I)I"⟩
def dkwX1_account_6 : List UInt8 := [182, 0, 94, 172]
abbrev dktX1_account_6 : List UInt8 := dkwX1_account_6 ++ []
def dkwX1_account_5 : List UInt8 := [180, 0, 199, 172, 42, 180, 0, 10, 180, 0, 208, 172, 42, 180, 0, 26, 182, 1, 160, 172, 42, 180, 0, 19]
abbrev dktX1_account_5 : List UInt8 := dkwX1_account_5 ++ dktX1_account_6
def dkwX1_account_4 : List UInt8 := [182, 0, 226, 184, 1, 231, 172, 42, 182, 1, 235, 172, 42, 182, 0, 226, 184, 1, 236, 172, 42, 180, 0, 10]
abbrev dktX1_account_4 : List UInt8 := dkwX1_account_4 ++ dktX1_account_5
def dkwX1_account_3 : List UInt8 := [180, 0, 10, 180, 0, 191, 182, 0, 122, 172, 42, 182, 0, 226, 182, 1, 89, 172, 42, 182, 1, 228, 172, 42]
abbrev dktX1_account_3 : List UInt8 := dkwX1_account_3 ++ dktX1_account_4
def dkwX1_account_2 : List UInt8 := [42, 180, 0, 10, 180, 0, 118, 182, 0, 122, 172, 42, 182, 0, 226, 180, 1, 75, 182, 0, 122, 172, 42]
abbrev dktX1_account_2 : List UInt8 := dkwX1_account_2 ++ dktX1_account_3
def dkwX1_account_1 : List UInt8 := [170, 0, 0, 0, 148, 0, 0, 0, 0, 0, 0, 0, 10, 0, 0, 0, 57, 0, 0, 0, 68, 0, 0, 0, 79, 0, 0, 0, 90, 0, 0, 0, 98, 0, 0, 0, 103, 0, 0, 0, 111, 0, 0, 0, 116, 0, 0, 0, 124, 0, 0, 0, 132, 0, 0, 0, 140]
abbrev dktX1_account_1 : List UInt8 := dkwX1_account_1 ++ dktX1_account_2
def dkwX1_account_0 : List UInt8 := [27, 3, 16, 11, 184, 0, 49, 184, 1, 9, 27]
abbrev dktX1_account_0 : List UInt8 := dkwX1_account_0 ++ dktX1_account_1
theorem dksX1_account_0 : cX1_account.data.toList.drop 0 = dktX1_account_0 := by decide +kernel
theorem dksX1_account_1 : cX1_account.data.toList.drop 11 = dktX1_account_1 := dk_seg dksX1_account_0 11 rfl rfl
theorem dksX1_account_2 : cX1_account.data.toList.drop 68 = dktX1_account_2 := dk_seg dksX1_account_1 57 rfl rfl
theorem dksX1_account_3 : cX1_account.data.toList.drop 91 = dktX1_account_3 := dk_seg dksX1_account_2 23 rfl rfl
theorem dksX1_account_4 : cX1_account.data.toList.drop 115 = dktX1_account_4 := dk_seg dksX1_account_3 24 rfl rfl
theorem dksX1_account_5 : cX1_account.data.toList.drop 139 = dktX1_account_5 := dk_seg dksX1_account_4 24 rfl rfl
theorem dksX1_account_6 : cX1_account.data.toList.drop 163 = dktX1_account_6 := dk_seg dksX1_account_5 24 rfl rfl
theorem dX1_account_0 : decode cX1_account 0 = .ok (.iload_n 1, 1) := dk_27 (dk_at dksX1_account_0 0 rfl rfl)
theorem dX1_account_1 : decode cX1_account 1 = .ok (.iconst 0, 1) := dk_3 (dk_at dksX1_account_0 1 rfl rfl)
theorem dX1_account_2 : decode cX1_account 2 = .ok (.bipush 11, 2) := dk_16 11 (dk_at dksX1_account_0 2 rfl rfl)
theorem dX1_account_4 : decode cX1_account 4 = .ok (.invokestatic 49, 3) := dk_184 0 49 (dk_at dksX1_account_0 4 rfl rfl)
theorem dX1_account_7 : decode cX1_account 7 = .ok (.invokestatic 265, 3) := dk_184 1 9 (dk_at dksX1_account_0 7 rfl rfl)
theorem dX1_account_10 : decode cX1_account 10 = .ok (.iload_n 1, 1) := dk_27 (dk_at dksX1_account_0 10 rfl rfl)
theorem dX1_account_11 : decode cX1_account 11 = .ok (.tableswitch 148 0 10 #[57, 68, 79, 90, 98, 103, 111, 116, 124, 132, 140], 57) := by decide +kernel
theorem dX1_account_68 : decode cX1_account 68 = .ok (.aload_n 0, 1) := dk_42 (dk_at dksX1_account_2 0 rfl rfl)
theorem dX1_account_69 : decode cX1_account 69 = .ok (.getfield 10, 3) := dk_180 0 10 (dk_at dksX1_account_2 1 rfl rfl)
theorem dX1_account_72 : decode cX1_account 72 = .ok (.getfield 118, 3) := dk_180 0 118 (dk_at dksX1_account_2 4 rfl rfl)
theorem dX1_account_75 : decode cX1_account 75 = .ok (.invokevirtual 122, 3) := dk_182 0 122 (dk_at dksX1_account_2 7 rfl rfl)
theorem dX1_account_78 : decode cX1_account 78 = .ok (.ireturn, 1) := dk_172 (dk_at dksX1_account_2 10 rfl rfl)
theorem dX1_account_79 : decode cX1_account 79 = .ok (.aload_n 0, 1) := dk_42 (dk_at dksX1_account_2 11 rfl rfl)
theorem dX1_account_80 : decode cX1_account 80 = .ok (.invokevirtual 226, 3) := dk_182 0 226 (dk_at dksX1_account_2 12 rfl rfl)
theorem dX1_account_83 : decode cX1_account 83 = .ok (.getfield 331, 3) := dk_180 1 75 (dk_at dksX1_account_2 15 rfl rfl)
theorem dX1_account_86 : decode cX1_account 86 = .ok (.invokevirtual 122, 3) := dk_182 0 122 (dk_at dksX1_account_2 18 rfl rfl)
theorem dX1_account_89 : decode cX1_account 89 = .ok (.ireturn, 1) := dk_172 (dk_at dksX1_account_2 21 rfl rfl)
theorem dX1_account_90 : decode cX1_account 90 = .ok (.aload_n 0, 1) := dk_42 (dk_at dksX1_account_2 22 rfl rfl)
theorem dX1_account_91 : decode cX1_account 91 = .ok (.getfield 10, 3) := dk_180 0 10 (dk_at dksX1_account_3 0 rfl rfl)
theorem dX1_account_94 : decode cX1_account 94 = .ok (.getfield 191, 3) := dk_180 0 191 (dk_at dksX1_account_3 3 rfl rfl)
theorem dX1_account_97 : decode cX1_account 97 = .ok (.invokevirtual 122, 3) := dk_182 0 122 (dk_at dksX1_account_3 6 rfl rfl)
theorem dX1_account_100 : decode cX1_account 100 = .ok (.ireturn, 1) := dk_172 (dk_at dksX1_account_3 9 rfl rfl)
theorem dX1_account_101 : decode cX1_account 101 = .ok (.aload_n 0, 1) := dk_42 (dk_at dksX1_account_3 10 rfl rfl)
theorem dX1_account_102 : decode cX1_account 102 = .ok (.invokevirtual 226, 3) := dk_182 0 226 (dk_at dksX1_account_3 11 rfl rfl)
theorem dX1_account_105 : decode cX1_account 105 = .ok (.invokevirtual 345, 3) := dk_182 1 89 (dk_at dksX1_account_3 14 rfl rfl)
theorem dX1_account_108 : decode cX1_account 108 = .ok (.ireturn, 1) := dk_172 (dk_at dksX1_account_3 17 rfl rfl)
theorem dX1_account_109 : decode cX1_account 109 = .ok (.aload_n 0, 1) := dk_42 (dk_at dksX1_account_3 18 rfl rfl)
theorem dX1_account_110 : decode cX1_account 110 = .ok (.invokevirtual 484, 3) := dk_182 1 228 (dk_at dksX1_account_3 19 rfl rfl)
theorem dX1_account_113 : decode cX1_account 113 = .ok (.ireturn, 1) := dk_172 (dk_at dksX1_account_3 22 rfl rfl)
theorem dX1_account_114 : decode cX1_account 114 = .ok (.aload_n 0, 1) := dk_42 (dk_at dksX1_account_3 23 rfl rfl)
theorem dX1_account_115 : decode cX1_account 115 = .ok (.invokevirtual 226, 3) := dk_182 0 226 (dk_at dksX1_account_4 0 rfl rfl)
theorem dX1_account_118 : decode cX1_account 118 = .ok (.invokestatic 487, 3) := dk_184 1 231 (dk_at dksX1_account_4 3 rfl rfl)
theorem dX1_account_121 : decode cX1_account 121 = .ok (.ireturn, 1) := dk_172 (dk_at dksX1_account_4 6 rfl rfl)
theorem dX1_account_122 : decode cX1_account 122 = .ok (.aload_n 0, 1) := dk_42 (dk_at dksX1_account_4 7 rfl rfl)
theorem dX1_account_123 : decode cX1_account 123 = .ok (.invokevirtual 491, 3) := dk_182 1 235 (dk_at dksX1_account_4 8 rfl rfl)
theorem dX1_account_126 : decode cX1_account 126 = .ok (.ireturn, 1) := dk_172 (dk_at dksX1_account_4 11 rfl rfl)
theorem dX1_account_127 : decode cX1_account 127 = .ok (.aload_n 0, 1) := dk_42 (dk_at dksX1_account_4 12 rfl rfl)
theorem dX1_account_128 : decode cX1_account 128 = .ok (.invokevirtual 226, 3) := dk_182 0 226 (dk_at dksX1_account_4 13 rfl rfl)
theorem dX1_account_131 : decode cX1_account 131 = .ok (.invokestatic 492, 3) := dk_184 1 236 (dk_at dksX1_account_4 16 rfl rfl)
theorem dX1_account_134 : decode cX1_account 134 = .ok (.ireturn, 1) := dk_172 (dk_at dksX1_account_4 19 rfl rfl)
theorem dX1_account_135 : decode cX1_account 135 = .ok (.aload_n 0, 1) := dk_42 (dk_at dksX1_account_4 20 rfl rfl)
theorem dX1_account_136 : decode cX1_account 136 = .ok (.getfield 10, 3) := dk_180 0 10 (dk_at dksX1_account_4 21 rfl rfl)
theorem dX1_account_139 : decode cX1_account 139 = .ok (.getfield 199, 3) := dk_180 0 199 (dk_at dksX1_account_5 0 rfl rfl)
theorem dX1_account_142 : decode cX1_account 142 = .ok (.ireturn, 1) := dk_172 (dk_at dksX1_account_5 3 rfl rfl)
theorem dX1_account_143 : decode cX1_account 143 = .ok (.aload_n 0, 1) := dk_42 (dk_at dksX1_account_5 4 rfl rfl)
theorem dX1_account_144 : decode cX1_account 144 = .ok (.getfield 10, 3) := dk_180 0 10 (dk_at dksX1_account_5 5 rfl rfl)
theorem dX1_account_147 : decode cX1_account 147 = .ok (.getfield 208, 3) := dk_180 0 208 (dk_at dksX1_account_5 8 rfl rfl)
theorem dX1_account_150 : decode cX1_account 150 = .ok (.ireturn, 1) := dk_172 (dk_at dksX1_account_5 11 rfl rfl)
theorem dX1_account_151 : decode cX1_account 151 = .ok (.aload_n 0, 1) := dk_42 (dk_at dksX1_account_5 12 rfl rfl)
theorem dX1_account_152 : decode cX1_account 152 = .ok (.getfield 26, 3) := dk_180 0 26 (dk_at dksX1_account_5 13 rfl rfl)
theorem dX1_account_155 : decode cX1_account 155 = .ok (.invokevirtual 416, 3) := dk_182 1 160 (dk_at dksX1_account_5 16 rfl rfl)
theorem dX1_account_158 : decode cX1_account 158 = .ok (.ireturn, 1) := dk_172 (dk_at dksX1_account_5 19 rfl rfl)
theorem dX1_account_159 : decode cX1_account 159 = .ok (.aload_n 0, 1) := dk_42 (dk_at dksX1_account_5 20 rfl rfl)
theorem dX1_account_160 : decode cX1_account 160 = .ok (.getfield 19, 3) := dk_180 0 19 (dk_at dksX1_account_5 21 rfl rfl)
theorem dX1_account_163 : decode cX1_account 163 = .ok (.invokevirtual 94, 3) := dk_182 0 94 (dk_at dksX1_account_6 0 rfl rfl)
theorem dX1_account_166 : decode cX1_account 166 = .ok (.ireturn, 1) := dk_172 (dk_at dksX1_account_6 3 rfl rfl)
abbrev cX1_turns : ByteArray := prog_1_method_60_code
def yX1_turns : MethodName := ⟨RX1, "turns", "()I"⟩
def dkwX1_turns_2 : List UInt8 := [60, 167, 255, 221, 27, 172]
abbrev dktX1_turns_2 : List UInt8 := dkwX1_turns_2 ++ []
def dkwX1_turns_1 : List UInt8 := [185, 0, 252, 1, 0, 192, 0, 128, 78, 27, 45, 180, 0, 147, 2, 160, 0, 7, 3, 167, 0, 4, 4, 96]
abbrev dktX1_turns_1 : List UInt8 := dkwX1_turns_1 ++ dktX1_turns_2
def dkwX1_turns_0 : List UInt8 := [3, 60, 42, 180, 0, 10, 180, 0, 118, 182, 0, 242, 77, 44, 185, 0, 246, 1, 0, 153, 0, 32, 44]
abbrev dktX1_turns_0 : List UInt8 := dkwX1_turns_0 ++ dktX1_turns_1
theorem dksX1_turns_0 : cX1_turns.data.toList.drop 0 = dktX1_turns_0 := by decide +kernel
theorem dksX1_turns_1 : cX1_turns.data.toList.drop 23 = dktX1_turns_1 := dk_seg dksX1_turns_0 23 rfl rfl
theorem dksX1_turns_2 : cX1_turns.data.toList.drop 47 = dktX1_turns_2 := dk_seg dksX1_turns_1 24 rfl rfl
theorem dX1_turns_0 : decode cX1_turns 0 = .ok (.iconst 0, 1) := dk_3 (dk_at dksX1_turns_0 0 rfl rfl)
theorem dX1_turns_1 : decode cX1_turns 1 = .ok (.istore_n 1, 1) := dk_60 (dk_at dksX1_turns_0 1 rfl rfl)
theorem dX1_turns_2 : decode cX1_turns 2 = .ok (.aload_n 0, 1) := dk_42 (dk_at dksX1_turns_0 2 rfl rfl)
theorem dX1_turns_3 : decode cX1_turns 3 = .ok (.getfield 10, 3) := dk_180 0 10 (dk_at dksX1_turns_0 3 rfl rfl)
theorem dX1_turns_6 : decode cX1_turns 6 = .ok (.getfield 118, 3) := dk_180 0 118 (dk_at dksX1_turns_0 6 rfl rfl)
theorem dX1_turns_9 : decode cX1_turns 9 = .ok (.invokevirtual 242, 3) := dk_182 0 242 (dk_at dksX1_turns_0 9 rfl rfl)
theorem dX1_turns_12 : decode cX1_turns 12 = .ok (.astore_n 2, 1) := dk_77 (dk_at dksX1_turns_0 12 rfl rfl)
theorem dX1_turns_13 : decode cX1_turns 13 = .ok (.aload_n 2, 1) := dk_44 (dk_at dksX1_turns_0 13 rfl rfl)
theorem dX1_turns_14 : decode cX1_turns 14 = .ok (.invokeinterface 246 1, 5) := by decide +kernel
theorem dX1_turns_19 : decode cX1_turns 19 = .ok (.ifCond .eq 32, 3) := dk_153 0 32 (dk_at dksX1_turns_0 19 rfl rfl)
theorem dX1_turns_22 : decode cX1_turns 22 = .ok (.aload_n 2, 1) := dk_44 (dk_at dksX1_turns_0 22 rfl rfl)
theorem dX1_turns_23 : decode cX1_turns 23 = .ok (.invokeinterface 252 1, 5) := by decide +kernel
theorem dX1_turns_28 : decode cX1_turns 28 = .ok (.checkcast 128, 3) := dk_192 0 128 (dk_at dksX1_turns_1 5 rfl rfl)
theorem dX1_turns_31 : decode cX1_turns 31 = .ok (.astore_n 3, 1) := dk_78 (dk_at dksX1_turns_1 8 rfl rfl)
theorem dX1_turns_32 : decode cX1_turns 32 = .ok (.iload_n 1, 1) := dk_27 (dk_at dksX1_turns_1 9 rfl rfl)
theorem dX1_turns_33 : decode cX1_turns 33 = .ok (.aload_n 3, 1) := dk_45 (dk_at dksX1_turns_1 10 rfl rfl)
theorem dX1_turns_34 : decode cX1_turns 34 = .ok (.getfield 147, 3) := dk_180 0 147 (dk_at dksX1_turns_1 11 rfl rfl)
theorem dX1_turns_37 : decode cX1_turns 37 = .ok (.iconst (-1), 1) := dk_2 (dk_at dksX1_turns_1 14 rfl rfl)
theorem dX1_turns_38 : decode cX1_turns 38 = .ok (.if_icmp .ne 7, 3) := dk_160 0 7 (dk_at dksX1_turns_1 15 rfl rfl)
theorem dX1_turns_41 : decode cX1_turns 41 = .ok (.iconst 0, 1) := dk_3 (dk_at dksX1_turns_1 18 rfl rfl)
theorem dX1_turns_42 : decode cX1_turns 42 = .ok (.goto 4, 3) := dk_167 0 4 (dk_at dksX1_turns_1 19 rfl rfl)
theorem dX1_turns_45 : decode cX1_turns 45 = .ok (.iconst 1, 1) := dk_4 (dk_at dksX1_turns_1 22 rfl rfl)
theorem dX1_turns_46 : decode cX1_turns 46 = .ok (.iadd, 1) := dk_96 (dk_at dksX1_turns_1 23 rfl rfl)
theorem dX1_turns_47 : decode cX1_turns 47 = .ok (.istore_n 1, 1) := dk_60 (dk_at dksX1_turns_2 0 rfl rfl)
theorem dX1_turns_48 : decode cX1_turns 48 = .ok (.goto (-35), 3) := dk_167 255 221 (dk_at dksX1_turns_2 1 rfl rfl)
theorem dX1_turns_51 : decode cX1_turns 51 = .ok (.iload_n 1, 1) := dk_27 (dk_at dksX1_turns_2 4 rfl rfl)
theorem dX1_turns_52 : decode cX1_turns 52 = .ok (.ireturn, 1) := dk_172 (dk_at dksX1_turns_2 5 rfl rfl)
abbrev cX1_lateEvents : ByteArray := prog_1_method_62_code
def yX1_lateEvents : MethodName := ⟨RX1, "lateEvents", "(LCoachTimetable$Net;)I"⟩
def dkwX1_lateEvents_2 : List UInt8 := [167, 255, 222, 27, 172]
abbrev dktX1_lateEvents_2 : List UInt8 := dkwX1_lateEvents_2 ++ []
def dkwX1_lateEvents_1 : List UInt8 := [185, 0, 252, 1, 0, 192, 0, 234, 78, 27, 45, 182, 0, 233, 158, 0, 7, 4, 167, 0, 4, 3, 96, 60]
abbrev dktX1_lateEvents_1 : List UInt8 := dkwX1_lateEvents_1 ++ dktX1_lateEvents_2
def dkwX1_lateEvents_0 : List UInt8 := [3, 60, 42, 180, 1, 75, 182, 0, 242, 77, 44, 185, 0, 246, 1, 0, 153, 0, 31, 44]
abbrev dktX1_lateEvents_0 : List UInt8 := dkwX1_lateEvents_0 ++ dktX1_lateEvents_1
theorem dksX1_lateEvents_0 : cX1_lateEvents.data.toList.drop 0 = dktX1_lateEvents_0 := by decide +kernel
theorem dksX1_lateEvents_1 : cX1_lateEvents.data.toList.drop 20 = dktX1_lateEvents_1 := dk_seg dksX1_lateEvents_0 20 rfl rfl
theorem dksX1_lateEvents_2 : cX1_lateEvents.data.toList.drop 44 = dktX1_lateEvents_2 := dk_seg dksX1_lateEvents_1 24 rfl rfl
theorem dX1_lateEvents_0 : decode cX1_lateEvents 0 = .ok (.iconst 0, 1) := dk_3 (dk_at dksX1_lateEvents_0 0 rfl rfl)
theorem dX1_lateEvents_1 : decode cX1_lateEvents 1 = .ok (.istore_n 1, 1) := dk_60 (dk_at dksX1_lateEvents_0 1 rfl rfl)
theorem dX1_lateEvents_2 : decode cX1_lateEvents 2 = .ok (.aload_n 0, 1) := dk_42 (dk_at dksX1_lateEvents_0 2 rfl rfl)
theorem dX1_lateEvents_3 : decode cX1_lateEvents 3 = .ok (.getfield 331, 3) := dk_180 1 75 (dk_at dksX1_lateEvents_0 3 rfl rfl)
theorem dX1_lateEvents_6 : decode cX1_lateEvents 6 = .ok (.invokevirtual 242, 3) := dk_182 0 242 (dk_at dksX1_lateEvents_0 6 rfl rfl)
theorem dX1_lateEvents_9 : decode cX1_lateEvents 9 = .ok (.astore_n 2, 1) := dk_77 (dk_at dksX1_lateEvents_0 9 rfl rfl)
theorem dX1_lateEvents_10 : decode cX1_lateEvents 10 = .ok (.aload_n 2, 1) := dk_44 (dk_at dksX1_lateEvents_0 10 rfl rfl)
theorem dX1_lateEvents_11 : decode cX1_lateEvents 11 = .ok (.invokeinterface 246 1, 5) := by decide +kernel
theorem dX1_lateEvents_16 : decode cX1_lateEvents 16 = .ok (.ifCond .eq 31, 3) := dk_153 0 31 (dk_at dksX1_lateEvents_0 16 rfl rfl)
theorem dX1_lateEvents_19 : decode cX1_lateEvents 19 = .ok (.aload_n 2, 1) := dk_44 (dk_at dksX1_lateEvents_0 19 rfl rfl)
theorem dX1_lateEvents_20 : decode cX1_lateEvents 20 = .ok (.invokeinterface 252 1, 5) := by decide +kernel
theorem dX1_lateEvents_25 : decode cX1_lateEvents 25 = .ok (.checkcast 234, 3) := dk_192 0 234 (dk_at dksX1_lateEvents_1 5 rfl rfl)
theorem dX1_lateEvents_28 : decode cX1_lateEvents 28 = .ok (.astore_n 3, 1) := dk_78 (dk_at dksX1_lateEvents_1 8 rfl rfl)
theorem dX1_lateEvents_29 : decode cX1_lateEvents 29 = .ok (.iload_n 1, 1) := dk_27 (dk_at dksX1_lateEvents_1 9 rfl rfl)
theorem dX1_lateEvents_30 : decode cX1_lateEvents 30 = .ok (.aload_n 3, 1) := dk_45 (dk_at dksX1_lateEvents_1 10 rfl rfl)
theorem dX1_lateEvents_31 : decode cX1_lateEvents 31 = .ok (.invokevirtual 233, 3) := dk_182 0 233 (dk_at dksX1_lateEvents_1 11 rfl rfl)
theorem dX1_lateEvents_34 : decode cX1_lateEvents 34 = .ok (.ifCond .le 7, 3) := dk_158 0 7 (dk_at dksX1_lateEvents_1 14 rfl rfl)
theorem dX1_lateEvents_37 : decode cX1_lateEvents 37 = .ok (.iconst 1, 1) := dk_4 (dk_at dksX1_lateEvents_1 17 rfl rfl)
theorem dX1_lateEvents_38 : decode cX1_lateEvents 38 = .ok (.goto 4, 3) := dk_167 0 4 (dk_at dksX1_lateEvents_1 18 rfl rfl)
theorem dX1_lateEvents_41 : decode cX1_lateEvents 41 = .ok (.iconst 0, 1) := dk_3 (dk_at dksX1_lateEvents_1 21 rfl rfl)
theorem dX1_lateEvents_42 : decode cX1_lateEvents 42 = .ok (.iadd, 1) := dk_96 (dk_at dksX1_lateEvents_1 22 rfl rfl)
theorem dX1_lateEvents_43 : decode cX1_lateEvents 43 = .ok (.istore_n 1, 1) := dk_60 (dk_at dksX1_lateEvents_1 23 rfl rfl)
theorem dX1_lateEvents_44 : decode cX1_lateEvents 44 = .ok (.goto (-34), 3) := dk_167 255 222 (dk_at dksX1_lateEvents_2 0 rfl rfl)
theorem dX1_lateEvents_47 : decode cX1_lateEvents 47 = .ok (.iload_n 1, 1) := dk_27 (dk_at dksX1_lateEvents_2 3 rfl rfl)
theorem dX1_lateEvents_48 : decode cX1_lateEvents 48 = .ok (.ireturn, 1) := dk_172 (dk_at dksX1_lateEvents_2 4 rfl rfl)
abbrev cX1_own : ByteArray := prog_1_method_61_code
def yX1_own : MethodName := ⟨RX1, "own", "()I"⟩
def dkwX1_own_1 : List UInt8 := [185, 0, 252, 1, 0, 192, 0, 128, 78, 27, 45, 182, 1, 12, 96, 60, 167, 255, 230, 27, 172]
abbrev dktX1_own_1 : List UInt8 := dkwX1_own_1 ++ []
def dkwX1_own_0 : List UInt8 := [3, 60, 42, 180, 0, 10, 180, 0, 118, 182, 0, 242, 77, 44, 185, 0, 246, 1, 0, 153, 0, 23, 44]
abbrev dktX1_own_0 : List UInt8 := dkwX1_own_0 ++ dktX1_own_1
theorem dksX1_own_0 : cX1_own.data.toList.drop 0 = dktX1_own_0 := by decide +kernel
theorem dksX1_own_1 : cX1_own.data.toList.drop 23 = dktX1_own_1 := dk_seg dksX1_own_0 23 rfl rfl
theorem dX1_own_0 : decode cX1_own 0 = .ok (.iconst 0, 1) := dk_3 (dk_at dksX1_own_0 0 rfl rfl)
theorem dX1_own_1 : decode cX1_own 1 = .ok (.istore_n 1, 1) := dk_60 (dk_at dksX1_own_0 1 rfl rfl)
theorem dX1_own_2 : decode cX1_own 2 = .ok (.aload_n 0, 1) := dk_42 (dk_at dksX1_own_0 2 rfl rfl)
theorem dX1_own_3 : decode cX1_own 3 = .ok (.getfield 10, 3) := dk_180 0 10 (dk_at dksX1_own_0 3 rfl rfl)
theorem dX1_own_6 : decode cX1_own 6 = .ok (.getfield 118, 3) := dk_180 0 118 (dk_at dksX1_own_0 6 rfl rfl)
theorem dX1_own_9 : decode cX1_own 9 = .ok (.invokevirtual 242, 3) := dk_182 0 242 (dk_at dksX1_own_0 9 rfl rfl)
theorem dX1_own_12 : decode cX1_own 12 = .ok (.astore_n 2, 1) := dk_77 (dk_at dksX1_own_0 12 rfl rfl)
theorem dX1_own_13 : decode cX1_own 13 = .ok (.aload_n 2, 1) := dk_44 (dk_at dksX1_own_0 13 rfl rfl)
theorem dX1_own_14 : decode cX1_own 14 = .ok (.invokeinterface 246 1, 5) := by decide +kernel
theorem dX1_own_19 : decode cX1_own 19 = .ok (.ifCond .eq 23, 3) := dk_153 0 23 (dk_at dksX1_own_0 19 rfl rfl)
theorem dX1_own_22 : decode cX1_own 22 = .ok (.aload_n 2, 1) := dk_44 (dk_at dksX1_own_0 22 rfl rfl)
theorem dX1_own_23 : decode cX1_own 23 = .ok (.invokeinterface 252 1, 5) := by decide +kernel
theorem dX1_own_28 : decode cX1_own 28 = .ok (.checkcast 128, 3) := dk_192 0 128 (dk_at dksX1_own_1 5 rfl rfl)
theorem dX1_own_31 : decode cX1_own 31 = .ok (.astore_n 3, 1) := dk_78 (dk_at dksX1_own_1 8 rfl rfl)
theorem dX1_own_32 : decode cX1_own 32 = .ok (.iload_n 1, 1) := dk_27 (dk_at dksX1_own_1 9 rfl rfl)
theorem dX1_own_33 : decode cX1_own 33 = .ok (.aload_n 3, 1) := dk_45 (dk_at dksX1_own_1 10 rfl rfl)
theorem dX1_own_34 : decode cX1_own 34 = .ok (.invokevirtual 268, 3) := dk_182 1 12 (dk_at dksX1_own_1 11 rfl rfl)
theorem dX1_own_37 : decode cX1_own 37 = .ok (.iadd, 1) := dk_96 (dk_at dksX1_own_1 14 rfl rfl)
theorem dX1_own_38 : decode cX1_own 38 = .ok (.istore_n 1, 1) := dk_60 (dk_at dksX1_own_1 15 rfl rfl)
theorem dX1_own_39 : decode cX1_own 39 = .ok (.goto (-26), 3) := dk_167 255 230 (dk_at dksX1_own_1 16 rfl rfl)
theorem dX1_own_42 : decode cX1_own 42 = .ok (.iload_n 1, 1) := dk_27 (dk_at dksX1_own_1 19 rfl rfl)
theorem dX1_own_43 : decode cX1_own 43 = .ok (.ireturn, 1) := dk_172 (dk_at dksX1_own_1 20 rfl rfl)
abbrev cX1_latest : ByteArray := prog_1_method_63_code
def yX1_latest : MethodName := ⟨RX1, "latest", "(LCoachTimetable$Net;)I"⟩
def dkwX1_latest_1 : List UInt8 := [185, 0, 252, 1, 0, 192, 0, 234, 78, 27, 45, 182, 0, 233, 184, 1, 223, 60, 167, 255, 228, 27, 172]
abbrev dktX1_latest_1 : List UInt8 := dkwX1_latest_1 ++ []
def dkwX1_latest_0 : List UInt8 := [3, 60, 42, 180, 1, 75, 182, 0, 242, 77, 44, 185, 0, 246, 1, 0, 153, 0, 25, 44]
abbrev dktX1_latest_0 : List UInt8 := dkwX1_latest_0 ++ dktX1_latest_1
theorem dksX1_latest_0 : cX1_latest.data.toList.drop 0 = dktX1_latest_0 := by decide +kernel
theorem dksX1_latest_1 : cX1_latest.data.toList.drop 20 = dktX1_latest_1 := dk_seg dksX1_latest_0 20 rfl rfl
theorem dX1_latest_0 : decode cX1_latest 0 = .ok (.iconst 0, 1) := dk_3 (dk_at dksX1_latest_0 0 rfl rfl)
theorem dX1_latest_1 : decode cX1_latest 1 = .ok (.istore_n 1, 1) := dk_60 (dk_at dksX1_latest_0 1 rfl rfl)
theorem dX1_latest_2 : decode cX1_latest 2 = .ok (.aload_n 0, 1) := dk_42 (dk_at dksX1_latest_0 2 rfl rfl)
theorem dX1_latest_3 : decode cX1_latest 3 = .ok (.getfield 331, 3) := dk_180 1 75 (dk_at dksX1_latest_0 3 rfl rfl)
theorem dX1_latest_6 : decode cX1_latest 6 = .ok (.invokevirtual 242, 3) := dk_182 0 242 (dk_at dksX1_latest_0 6 rfl rfl)
theorem dX1_latest_9 : decode cX1_latest 9 = .ok (.astore_n 2, 1) := dk_77 (dk_at dksX1_latest_0 9 rfl rfl)
theorem dX1_latest_10 : decode cX1_latest 10 = .ok (.aload_n 2, 1) := dk_44 (dk_at dksX1_latest_0 10 rfl rfl)
theorem dX1_latest_11 : decode cX1_latest 11 = .ok (.invokeinterface 246 1, 5) := by decide +kernel
theorem dX1_latest_16 : decode cX1_latest 16 = .ok (.ifCond .eq 25, 3) := dk_153 0 25 (dk_at dksX1_latest_0 16 rfl rfl)
theorem dX1_latest_19 : decode cX1_latest 19 = .ok (.aload_n 2, 1) := dk_44 (dk_at dksX1_latest_0 19 rfl rfl)
theorem dX1_latest_20 : decode cX1_latest 20 = .ok (.invokeinterface 252 1, 5) := by decide +kernel
theorem dX1_latest_25 : decode cX1_latest 25 = .ok (.checkcast 234, 3) := dk_192 0 234 (dk_at dksX1_latest_1 5 rfl rfl)
theorem dX1_latest_28 : decode cX1_latest 28 = .ok (.astore_n 3, 1) := dk_78 (dk_at dksX1_latest_1 8 rfl rfl)
theorem dX1_latest_29 : decode cX1_latest 29 = .ok (.iload_n 1, 1) := dk_27 (dk_at dksX1_latest_1 9 rfl rfl)
theorem dX1_latest_30 : decode cX1_latest 30 = .ok (.aload_n 3, 1) := dk_45 (dk_at dksX1_latest_1 10 rfl rfl)
theorem dX1_latest_31 : decode cX1_latest 31 = .ok (.invokevirtual 233, 3) := dk_182 0 233 (dk_at dksX1_latest_1 11 rfl rfl)
theorem dX1_latest_34 : decode cX1_latest 34 = .ok (.invokestatic 479, 3) := dk_184 1 223 (dk_at dksX1_latest_1 14 rfl rfl)
theorem dX1_latest_37 : decode cX1_latest 37 = .ok (.istore_n 1, 1) := dk_60 (dk_at dksX1_latest_1 17 rfl rfl)
theorem dX1_latest_38 : decode cX1_latest 38 = .ok (.goto (-28), 3) := dk_167 255 228 (dk_at dksX1_latest_1 18 rfl rfl)
theorem dX1_latest_41 : decode cX1_latest 41 = .ok (.iload_n 1, 1) := dk_27 (dk_at dksX1_latest_1 21 rfl rfl)
theorem dX1_latest_42 : decode cX1_latest 42 = .ok (.ireturn, 1) := dk_172 (dk_at dksX1_latest_1 22 rfl rfl)
abbrev cX1_meanLate : ByteArray := prog_1_method_66_code
def yX1_meanLate : MethodName := ⟨RX1, "meanLate", "()D"⟩
def dkwX1_meanLate_1 : List UInt8 := [182, 0, 122, 135, 111, 175]
abbrev dktX1_meanLate_1 : List UInt8 := dkwX1_meanLate_1 ++ []
def dkwX1_meanLate_0 : List UInt8 := [42, 182, 0, 226, 76, 43, 180, 1, 75, 182, 0, 122, 184, 1, 242, 43, 182, 1, 79, 135, 43, 180, 1, 75]
abbrev dktX1_meanLate_0 : List UInt8 := dkwX1_meanLate_0 ++ dktX1_meanLate_1
theorem dksX1_meanLate_0 : cX1_meanLate.data.toList.drop 0 = dktX1_meanLate_0 := by decide +kernel
theorem dksX1_meanLate_1 : cX1_meanLate.data.toList.drop 24 = dktX1_meanLate_1 := dk_seg dksX1_meanLate_0 24 rfl rfl
theorem dX1_meanLate_0 : decode cX1_meanLate 0 = .ok (.aload_n 0, 1) := dk_42 (dk_at dksX1_meanLate_0 0 rfl rfl)
theorem dX1_meanLate_1 : decode cX1_meanLate 1 = .ok (.invokevirtual 226, 3) := dk_182 0 226 (dk_at dksX1_meanLate_0 1 rfl rfl)
theorem dX1_meanLate_4 : decode cX1_meanLate 4 = .ok (.astore_n 1, 1) := dk_76 (dk_at dksX1_meanLate_0 4 rfl rfl)
theorem dX1_meanLate_5 : decode cX1_meanLate 5 = .ok (.aload_n 1, 1) := dk_43 (dk_at dksX1_meanLate_0 5 rfl rfl)
theorem dX1_meanLate_6 : decode cX1_meanLate 6 = .ok (.getfield 331, 3) := dk_180 1 75 (dk_at dksX1_meanLate_0 6 rfl rfl)
theorem dX1_meanLate_9 : decode cX1_meanLate 9 = .ok (.invokevirtual 122, 3) := dk_182 0 122 (dk_at dksX1_meanLate_0 9 rfl rfl)
theorem dX1_meanLate_12 : decode cX1_meanLate 12 = .ok (.invokestatic 498, 3) := dk_184 1 242 (dk_at dksX1_meanLate_0 12 rfl rfl)
theorem dX1_meanLate_15 : decode cX1_meanLate 15 = .ok (.aload_n 1, 1) := dk_43 (dk_at dksX1_meanLate_0 15 rfl rfl)
theorem dX1_meanLate_16 : decode cX1_meanLate 16 = .ok (.invokevirtual 335, 3) := dk_182 1 79 (dk_at dksX1_meanLate_0 16 rfl rfl)
theorem dX1_meanLate_19 : decode cX1_meanLate 19 = .ok (.i2d, 1) := dk_135 (dk_at dksX1_meanLate_0 19 rfl rfl)
theorem dX1_meanLate_20 : decode cX1_meanLate 20 = .ok (.aload_n 1, 1) := dk_43 (dk_at dksX1_meanLate_0 20 rfl rfl)
theorem dX1_meanLate_21 : decode cX1_meanLate 21 = .ok (.getfield 331, 3) := dk_180 1 75 (dk_at dksX1_meanLate_0 21 rfl rfl)
theorem dX1_meanLate_24 : decode cX1_meanLate 24 = .ok (.invokevirtual 122, 3) := dk_182 0 122 (dk_at dksX1_meanLate_1 0 rfl rfl)
theorem dX1_meanLate_27 : decode cX1_meanLate 27 = .ok (.i2d, 1) := dk_135 (dk_at dksX1_meanLate_1 3 rfl rfl)
theorem dX1_meanLate_28 : decode cX1_meanLate 28 = .ok (.ddiv, 1) := dk_111 (dk_at dksX1_meanLate_1 4 rfl rfl)
theorem dX1_meanLate_29 : decode cX1_meanLate 29 = .ok (.dreturn, 1) := dk_175 (dk_at dksX1_meanLate_1 5 rfl rfl)
abbrev cX1_checkMany : ByteArray := prog_1_method_65_code
def yX1_checkMany : MethodName := ⟨RX1, "checkMany", "(I)V"⟩
def dkwX1_checkMany_0 : List UInt8 := [26, 154, 0, 11, 187, 1, 239, 89, 183, 1, 241, 191, 177]
abbrev dktX1_checkMany_0 : List UInt8 := dkwX1_checkMany_0 ++ []
theorem dksX1_checkMany_0 : cX1_checkMany.data.toList.drop 0 = dktX1_checkMany_0 := by decide +kernel
theorem dX1_checkMany_0 : decode cX1_checkMany 0 = .ok (.iload_n 0, 1) := dk_26 (dk_at dksX1_checkMany_0 0 rfl rfl)
theorem dX1_checkMany_1 : decode cX1_checkMany 1 = .ok (.ifCond .ne 11, 3) := dk_154 0 11 (dk_at dksX1_checkMany_0 1 rfl rfl)
theorem dX1_checkMany_4 : decode cX1_checkMany 4 = .ok (.new 495, 3) := dk_187 1 239 (dk_at dksX1_checkMany_0 4 rfl rfl)
theorem dX1_checkMany_7 : decode cX1_checkMany 7 = .ok (.dup, 1) := dk_89 (dk_at dksX1_checkMany_0 7 rfl rfl)
theorem dX1_checkMany_8 : decode cX1_checkMany 8 = .ok (.invokespecial 497, 3) := dk_183 1 241 (dk_at dksX1_checkMany_0 8 rfl rfl)
theorem dX1_checkMany_11 : decode cX1_checkMany 11 = .ok (.athrow, 1) := dk_191 (dk_at dksX1_checkMany_0 11 rfl rfl)
theorem dX1_checkMany_12 : decode cX1_checkMany 12 = .ok (.return_, 1) := dk_177 (dk_at dksX1_checkMany_0 12 rfl rfl)
abbrev cX1_keptShare : ByteArray := prog_1_method_67_code
def yX1_keptShare : MethodName := ⟨RX1, "keptShare", "()F"⟩
def dkwX1_keptShare_1 : List UInt8 := [180, 0, 10, 180, 0, 191, 182, 0, 122, 134, 110, 174]
abbrev dktX1_keptShare_1 : List UInt8 := dkwX1_keptShare_1 ++ []
def dkwX1_keptShare_0 : List UInt8 := [42, 180, 0, 10, 180, 0, 191, 182, 0, 122, 184, 1, 242, 42, 182, 0, 226, 182, 1, 89, 134, 42]
abbrev dktX1_keptShare_0 : List UInt8 := dkwX1_keptShare_0 ++ dktX1_keptShare_1
theorem dksX1_keptShare_0 : cX1_keptShare.data.toList.drop 0 = dktX1_keptShare_0 := by decide +kernel
theorem dksX1_keptShare_1 : cX1_keptShare.data.toList.drop 22 = dktX1_keptShare_1 := dk_seg dksX1_keptShare_0 22 rfl rfl
theorem dX1_keptShare_0 : decode cX1_keptShare 0 = .ok (.aload_n 0, 1) := dk_42 (dk_at dksX1_keptShare_0 0 rfl rfl)
theorem dX1_keptShare_1 : decode cX1_keptShare 1 = .ok (.getfield 10, 3) := dk_180 0 10 (dk_at dksX1_keptShare_0 1 rfl rfl)
theorem dX1_keptShare_4 : decode cX1_keptShare 4 = .ok (.getfield 191, 3) := dk_180 0 191 (dk_at dksX1_keptShare_0 4 rfl rfl)
theorem dX1_keptShare_7 : decode cX1_keptShare 7 = .ok (.invokevirtual 122, 3) := dk_182 0 122 (dk_at dksX1_keptShare_0 7 rfl rfl)
theorem dX1_keptShare_10 : decode cX1_keptShare 10 = .ok (.invokestatic 498, 3) := dk_184 1 242 (dk_at dksX1_keptShare_0 10 rfl rfl)
theorem dX1_keptShare_13 : decode cX1_keptShare 13 = .ok (.aload_n 0, 1) := dk_42 (dk_at dksX1_keptShare_0 13 rfl rfl)
theorem dX1_keptShare_14 : decode cX1_keptShare 14 = .ok (.invokevirtual 226, 3) := dk_182 0 226 (dk_at dksX1_keptShare_0 14 rfl rfl)
theorem dX1_keptShare_17 : decode cX1_keptShare 17 = .ok (.invokevirtual 345, 3) := dk_182 1 89 (dk_at dksX1_keptShare_0 17 rfl rfl)
theorem dX1_keptShare_20 : decode cX1_keptShare 20 = .ok (.i2f, 1) := dk_134 (dk_at dksX1_keptShare_0 20 rfl rfl)
theorem dX1_keptShare_21 : decode cX1_keptShare 21 = .ok (.aload_n 0, 1) := dk_42 (dk_at dksX1_keptShare_0 21 rfl rfl)
theorem dX1_keptShare_22 : decode cX1_keptShare 22 = .ok (.getfield 10, 3) := dk_180 0 10 (dk_at dksX1_keptShare_1 0 rfl rfl)
theorem dX1_keptShare_25 : decode cX1_keptShare 25 = .ok (.getfield 191, 3) := dk_180 0 191 (dk_at dksX1_keptShare_1 3 rfl rfl)
theorem dX1_keptShare_28 : decode cX1_keptShare 28 = .ok (.invokevirtual 122, 3) := dk_182 0 122 (dk_at dksX1_keptShare_1 6 rfl rfl)
theorem dX1_keptShare_31 : decode cX1_keptShare 31 = .ok (.i2f, 1) := dk_134 (dk_at dksX1_keptShare_1 9 rfl rfl)
theorem dX1_keptShare_32 : decode cX1_keptShare 32 = .ok (.fdiv, 1) := dk_110 (dk_at dksX1_keptShare_1 10 rfl rfl)
theorem dX1_keptShare_33 : decode cX1_keptShare 33 = .ok (.freturn, 1) := dk_174 (dk_at dksX1_keptShare_1 11 rfl rfl)
abbrev cX1_undo : ByteArray := prog_1_method_68_code
def yX1_undo : MethodName := ⟨RX1, "undo", "()I"⟩
def dkwX1_undo_1 : List UInt8 := [182, 1, 248, 192, 0, 7, 181, 0, 10, 42, 180, 0, 19, 182, 0, 94, 172]
abbrev dktX1_undo_1 : List UInt8 := dkwX1_undo_1 ++ []
def dkwX1_undo_0 : List UInt8 := [42, 180, 0, 19, 182, 1, 245, 154, 0, 7, 4, 167, 0, 4, 3, 184, 1, 163, 42, 42, 180, 0, 19]
abbrev dktX1_undo_0 : List UInt8 := dkwX1_undo_0 ++ dktX1_undo_1
theorem dksX1_undo_0 : cX1_undo.data.toList.drop 0 = dktX1_undo_0 := by decide +kernel
theorem dksX1_undo_1 : cX1_undo.data.toList.drop 23 = dktX1_undo_1 := dk_seg dksX1_undo_0 23 rfl rfl
theorem dX1_undo_0 : decode cX1_undo 0 = .ok (.aload_n 0, 1) := dk_42 (dk_at dksX1_undo_0 0 rfl rfl)
theorem dX1_undo_1 : decode cX1_undo 1 = .ok (.getfield 19, 3) := dk_180 0 19 (dk_at dksX1_undo_0 1 rfl rfl)
theorem dX1_undo_4 : decode cX1_undo 4 = .ok (.invokevirtual 501, 3) := dk_182 1 245 (dk_at dksX1_undo_0 4 rfl rfl)
theorem dX1_undo_7 : decode cX1_undo 7 = .ok (.ifCond .ne 7, 3) := dk_154 0 7 (dk_at dksX1_undo_0 7 rfl rfl)
theorem dX1_undo_10 : decode cX1_undo 10 = .ok (.iconst 1, 1) := dk_4 (dk_at dksX1_undo_0 10 rfl rfl)
theorem dX1_undo_11 : decode cX1_undo 11 = .ok (.goto 4, 3) := dk_167 0 4 (dk_at dksX1_undo_0 11 rfl rfl)
theorem dX1_undo_14 : decode cX1_undo 14 = .ok (.iconst 0, 1) := dk_3 (dk_at dksX1_undo_0 14 rfl rfl)
theorem dX1_undo_15 : decode cX1_undo 15 = .ok (.invokestatic 419, 3) := dk_184 1 163 (dk_at dksX1_undo_0 15 rfl rfl)
theorem dX1_undo_18 : decode cX1_undo 18 = .ok (.aload_n 0, 1) := dk_42 (dk_at dksX1_undo_0 18 rfl rfl)
theorem dX1_undo_19 : decode cX1_undo 19 = .ok (.aload_n 0, 1) := dk_42 (dk_at dksX1_undo_0 19 rfl rfl)
theorem dX1_undo_20 : decode cX1_undo 20 = .ok (.getfield 19, 3) := dk_180 0 19 (dk_at dksX1_undo_0 20 rfl rfl)
theorem dX1_undo_23 : decode cX1_undo 23 = .ok (.invokevirtual 504, 3) := dk_182 1 248 (dk_at dksX1_undo_1 0 rfl rfl)
theorem dX1_undo_26 : decode cX1_undo 26 = .ok (.checkcast 7, 3) := dk_192 0 7 (dk_at dksX1_undo_1 3 rfl rfl)
theorem dX1_undo_29 : decode cX1_undo 29 = .ok (.putfield 10, 3) := dk_181 0 10 (dk_at dksX1_undo_1 6 rfl rfl)
theorem dX1_undo_32 : decode cX1_undo 32 = .ok (.aload_n 0, 1) := dk_42 (dk_at dksX1_undo_1 9 rfl rfl)
theorem dX1_undo_33 : decode cX1_undo 33 = .ok (.getfield 19, 3) := dk_180 0 19 (dk_at dksX1_undo_1 10 rfl rfl)
theorem dX1_undo_36 : decode cX1_undo 36 = .ok (.invokevirtual 94, 3) := dk_182 0 94 (dk_at dksX1_undo_1 13 rfl rfl)
theorem dX1_undo_39 : decode cX1_undo 39 = .ok (.ireturn, 1) := dk_172 (dk_at dksX1_undo_1 16 rfl rfl)
abbrev cX1_restore : ByteArray := prog_1_method_70_code
def yX1_restore : MethodName := ⟨RX1, "restore", "()I"⟩
def dkwX1_restore_1 : List UInt8 := [181, 0, 10, 42, 180, 0, 19, 182, 1, 254, 42, 180, 0, 10, 180, 0, 118, 182, 0, 122, 172]
abbrev dktX1_restore_1 : List UInt8 := dkwX1_restore_1 ++ []
def dkwX1_restore_0 : List UInt8 := [42, 180, 1, 251, 198, 0, 7, 4, 167, 0, 4, 3, 184, 1, 163, 42, 42, 180, 1, 251, 182, 0, 86]
abbrev dktX1_restore_0 : List UInt8 := dkwX1_restore_0 ++ dktX1_restore_1
theorem dksX1_restore_0 : cX1_restore.data.toList.drop 0 = dktX1_restore_0 := by decide +kernel
theorem dksX1_restore_1 : cX1_restore.data.toList.drop 23 = dktX1_restore_1 := dk_seg dksX1_restore_0 23 rfl rfl
theorem dX1_restore_0 : decode cX1_restore 0 = .ok (.aload_n 0, 1) := dk_42 (dk_at dksX1_restore_0 0 rfl rfl)
theorem dX1_restore_1 : decode cX1_restore 1 = .ok (.getfield 507, 3) := dk_180 1 251 (dk_at dksX1_restore_0 1 rfl rfl)
theorem dX1_restore_4 : decode cX1_restore 4 = .ok (.ifnull 7, 3) := dk_198 0 7 (dk_at dksX1_restore_0 4 rfl rfl)
theorem dX1_restore_7 : decode cX1_restore 7 = .ok (.iconst 1, 1) := dk_4 (dk_at dksX1_restore_0 7 rfl rfl)
theorem dX1_restore_8 : decode cX1_restore 8 = .ok (.goto 4, 3) := dk_167 0 4 (dk_at dksX1_restore_0 8 rfl rfl)
theorem dX1_restore_11 : decode cX1_restore 11 = .ok (.iconst 0, 1) := dk_3 (dk_at dksX1_restore_0 11 rfl rfl)
theorem dX1_restore_12 : decode cX1_restore 12 = .ok (.invokestatic 419, 3) := dk_184 1 163 (dk_at dksX1_restore_0 12 rfl rfl)
theorem dX1_restore_15 : decode cX1_restore 15 = .ok (.aload_n 0, 1) := dk_42 (dk_at dksX1_restore_0 15 rfl rfl)
theorem dX1_restore_16 : decode cX1_restore 16 = .ok (.aload_n 0, 1) := dk_42 (dk_at dksX1_restore_0 16 rfl rfl)
theorem dX1_restore_17 : decode cX1_restore 17 = .ok (.getfield 507, 3) := dk_180 1 251 (dk_at dksX1_restore_0 17 rfl rfl)
theorem dX1_restore_20 : decode cX1_restore 20 = .ok (.invokevirtual 86, 3) := dk_182 0 86 (dk_at dksX1_restore_0 20 rfl rfl)
theorem dX1_restore_23 : decode cX1_restore 23 = .ok (.putfield 10, 3) := dk_181 0 10 (dk_at dksX1_restore_1 0 rfl rfl)
theorem dX1_restore_26 : decode cX1_restore 26 = .ok (.aload_n 0, 1) := dk_42 (dk_at dksX1_restore_1 3 rfl rfl)
theorem dX1_restore_27 : decode cX1_restore 27 = .ok (.getfield 19, 3) := dk_180 0 19 (dk_at dksX1_restore_1 4 rfl rfl)
theorem dX1_restore_30 : decode cX1_restore 30 = .ok (.invokevirtual 510, 3) := dk_182 1 254 (dk_at dksX1_restore_1 7 rfl rfl)
theorem dX1_restore_33 : decode cX1_restore 33 = .ok (.aload_n 0, 1) := dk_42 (dk_at dksX1_restore_1 10 rfl rfl)
theorem dX1_restore_34 : decode cX1_restore 34 = .ok (.getfield 10, 3) := dk_180 0 10 (dk_at dksX1_restore_1 11 rfl rfl)
theorem dX1_restore_37 : decode cX1_restore 37 = .ok (.getfield 118, 3) := dk_180 0 118 (dk_at dksX1_restore_1 14 rfl rfl)
theorem dX1_restore_40 : decode cX1_restore 40 = .ok (.invokevirtual 122, 3) := dk_182 0 122 (dk_at dksX1_restore_1 17 rfl rfl)
theorem dX1_restore_43 : decode cX1_restore 43 = .ok (.ireturn, 1) := dk_172 (dk_at dksX1_restore_1 20 rfl rfl)
abbrev cX10_init : ByteArray := prog_5_method_1_code
def yX10_init : MethodName := ⟨RX10, "<init>", "(IILCoachTimetable$Side;LCoachTimetable$Stop;Z)V"⟩
def dkwX10_init_3 : List UInt8 := [181, 0, 46, 42, 42, 180, 0, 38, 181, 0, 48, 177]
abbrev dktX10_init_3 : List UInt8 := dkwX10_init_3 ++ []
def dkwX10_init_2 : List UInt8 := [182, 0, 32, 181, 0, 38, 42, 21, 5, 153, 0, 12, 25, 4, 45, 182, 0, 40, 167, 0, 4, 3]
abbrev dktX10_init_2 : List UInt8 := dkwX10_init_2 ++ dktX10_init_3
def dkwX10_init_1 : List UInt8 := [181, 0, 18, 42, 27, 181, 0, 21, 42, 28, 181, 0, 25, 42, 45, 181, 0, 28, 42, 45, 25, 4]
abbrev dktX10_init_1 : List UInt8 := dkwX10_init_1 ++ dktX10_init_2
def dkwX10_init_0 : List UInt8 := [42, 183, 0, 3, 42, 187, 0, 9, 89, 183, 0, 11, 181, 0, 12, 42, 187, 0, 9, 89, 183, 0, 11]
abbrev dktX10_init_0 : List UInt8 := dkwX10_init_0 ++ dktX10_init_1
theorem dksX10_init_0 : cX10_init.data.toList.drop 0 = dktX10_init_0 := by decide +kernel
theorem dksX10_init_1 : cX10_init.data.toList.drop 23 = dktX10_init_1 := dk_seg dksX10_init_0 23 rfl rfl
theorem dksX10_init_2 : cX10_init.data.toList.drop 45 = dktX10_init_2 := dk_seg dksX10_init_1 22 rfl rfl
theorem dksX10_init_3 : cX10_init.data.toList.drop 67 = dktX10_init_3 := dk_seg dksX10_init_2 22 rfl rfl
theorem dX10_init_0 : decode cX10_init 0 = .ok (.aload_n 0, 1) := dk_42 (dk_at dksX10_init_0 0 rfl rfl)
theorem dX10_init_1 : decode cX10_init 1 = .ok (.invokespecial 3, 3) := dk_183 0 3 (dk_at dksX10_init_0 1 rfl rfl)
theorem dX10_init_4 : decode cX10_init 4 = .ok (.aload_n 0, 1) := dk_42 (dk_at dksX10_init_0 4 rfl rfl)
theorem dX10_init_5 : decode cX10_init 5 = .ok (.new 9, 3) := dk_187 0 9 (dk_at dksX10_init_0 5 rfl rfl)
theorem dX10_init_8 : decode cX10_init 8 = .ok (.dup, 1) := dk_89 (dk_at dksX10_init_0 8 rfl rfl)
theorem dX10_init_9 : decode cX10_init 9 = .ok (.invokespecial 11, 3) := dk_183 0 11 (dk_at dksX10_init_0 9 rfl rfl)
theorem dX10_init_12 : decode cX10_init 12 = .ok (.putfield 12, 3) := dk_181 0 12 (dk_at dksX10_init_0 12 rfl rfl)
theorem dX10_init_15 : decode cX10_init 15 = .ok (.aload_n 0, 1) := dk_42 (dk_at dksX10_init_0 15 rfl rfl)
theorem dX10_init_16 : decode cX10_init 16 = .ok (.new 9, 3) := dk_187 0 9 (dk_at dksX10_init_0 16 rfl rfl)
theorem dX10_init_19 : decode cX10_init 19 = .ok (.dup, 1) := dk_89 (dk_at dksX10_init_0 19 rfl rfl)
theorem dX10_init_20 : decode cX10_init 20 = .ok (.invokespecial 11, 3) := dk_183 0 11 (dk_at dksX10_init_0 20 rfl rfl)
theorem dX10_init_23 : decode cX10_init 23 = .ok (.putfield 18, 3) := dk_181 0 18 (dk_at dksX10_init_1 0 rfl rfl)
theorem dX10_init_26 : decode cX10_init 26 = .ok (.aload_n 0, 1) := dk_42 (dk_at dksX10_init_1 3 rfl rfl)
theorem dX10_init_27 : decode cX10_init 27 = .ok (.iload_n 1, 1) := dk_27 (dk_at dksX10_init_1 4 rfl rfl)
theorem dX10_init_28 : decode cX10_init 28 = .ok (.putfield 21, 3) := dk_181 0 21 (dk_at dksX10_init_1 5 rfl rfl)
theorem dX10_init_31 : decode cX10_init 31 = .ok (.aload_n 0, 1) := dk_42 (dk_at dksX10_init_1 8 rfl rfl)
theorem dX10_init_32 : decode cX10_init 32 = .ok (.iload_n 2, 1) := dk_28 (dk_at dksX10_init_1 9 rfl rfl)
theorem dX10_init_33 : decode cX10_init 33 = .ok (.putfield 25, 3) := dk_181 0 25 (dk_at dksX10_init_1 10 rfl rfl)
theorem dX10_init_36 : decode cX10_init 36 = .ok (.aload_n 0, 1) := dk_42 (dk_at dksX10_init_1 13 rfl rfl)
theorem dX10_init_37 : decode cX10_init 37 = .ok (.aload_n 3, 1) := dk_45 (dk_at dksX10_init_1 14 rfl rfl)
theorem dX10_init_38 : decode cX10_init 38 = .ok (.putfield 28, 3) := dk_181 0 28 (dk_at dksX10_init_1 15 rfl rfl)
theorem dX10_init_41 : decode cX10_init 41 = .ok (.aload_n 0, 1) := dk_42 (dk_at dksX10_init_1 18 rfl rfl)
theorem dX10_init_42 : decode cX10_init 42 = .ok (.aload_n 3, 1) := dk_45 (dk_at dksX10_init_1 19 rfl rfl)
theorem dX10_init_43 : decode cX10_init 43 = .ok (.aload 4, 2) := dk_25 4 (dk_at dksX10_init_1 20 rfl rfl)
theorem dX10_init_45 : decode cX10_init 45 = .ok (.invokevirtual 32, 3) := dk_182 0 32 (dk_at dksX10_init_2 0 rfl rfl)
theorem dX10_init_48 : decode cX10_init 48 = .ok (.putfield 38, 3) := dk_181 0 38 (dk_at dksX10_init_2 3 rfl rfl)
theorem dX10_init_51 : decode cX10_init 51 = .ok (.aload_n 0, 1) := dk_42 (dk_at dksX10_init_2 6 rfl rfl)
theorem dX10_init_52 : decode cX10_init 52 = .ok (.iload 5, 2) := dk_21 5 (dk_at dksX10_init_2 7 rfl rfl)
theorem dX10_init_54 : decode cX10_init 54 = .ok (.ifCond .eq 12, 3) := dk_153 0 12 (dk_at dksX10_init_2 9 rfl rfl)
theorem dX10_init_57 : decode cX10_init 57 = .ok (.aload 4, 2) := dk_25 4 (dk_at dksX10_init_2 12 rfl rfl)
theorem dX10_init_59 : decode cX10_init 59 = .ok (.aload_n 3, 1) := dk_45 (dk_at dksX10_init_2 14 rfl rfl)
theorem dX10_init_60 : decode cX10_init 60 = .ok (.invokevirtual 40, 3) := dk_182 0 40 (dk_at dksX10_init_2 15 rfl rfl)
theorem dX10_init_63 : decode cX10_init 63 = .ok (.goto 4, 3) := dk_167 0 4 (dk_at dksX10_init_2 18 rfl rfl)
theorem dX10_init_66 : decode cX10_init 66 = .ok (.iconst 0, 1) := dk_3 (dk_at dksX10_init_2 21 rfl rfl)
theorem dX10_init_67 : decode cX10_init 67 = .ok (.putfield 46, 3) := dk_181 0 46 (dk_at dksX10_init_3 0 rfl rfl)
theorem dX10_init_70 : decode cX10_init 70 = .ok (.aload_n 0, 1) := dk_42 (dk_at dksX10_init_3 3 rfl rfl)
theorem dX10_init_71 : decode cX10_init 71 = .ok (.aload_n 0, 1) := dk_42 (dk_at dksX10_init_3 4 rfl rfl)
theorem dX10_init_72 : decode cX10_init 72 = .ok (.getfield 38, 3) := dk_180 0 38 (dk_at dksX10_init_3 5 rfl rfl)
theorem dX10_init_75 : decode cX10_init 75 = .ok (.putfield 48, 3) := dk_181 0 48 (dk_at dksX10_init_3 8 rfl rfl)
theorem dX10_init_78 : decode cX10_init 78 = .ok (.return_, 1) := dk_177 (dk_at dksX10_init_3 11 rfl rfl)
abbrev cX10_follows : ByteArray := prog_5_method_2_code
def yX10_follows : MethodName := ⟨RX10, "follows", "(LCoachTimetable$Event;LCoachTimetable$Lead;)V"⟩
def dkwX10_follows_0 : List UInt8 := [42, 180, 0, 12, 44, 182, 0, 51, 87, 42, 180, 0, 18, 43, 182, 0, 51, 87, 177]
abbrev dktX10_follows_0 : List UInt8 := dkwX10_follows_0 ++ []
theorem dksX10_follows_0 : cX10_follows.data.toList.drop 0 = dktX10_follows_0 := by decide +kernel
theorem dX10_follows_0 : decode cX10_follows 0 = .ok (.aload_n 0, 1) := dk_42 (dk_at dksX10_follows_0 0 rfl rfl)
theorem dX10_follows_1 : decode cX10_follows 1 = .ok (.getfield 12, 3) := dk_180 0 12 (dk_at dksX10_follows_0 1 rfl rfl)
theorem dX10_follows_4 : decode cX10_follows 4 = .ok (.aload_n 2, 1) := dk_44 (dk_at dksX10_follows_0 4 rfl rfl)
theorem dX10_follows_5 : decode cX10_follows 5 = .ok (.invokevirtual 51, 3) := dk_182 0 51 (dk_at dksX10_follows_0 5 rfl rfl)
theorem dX10_follows_8 : decode cX10_follows 8 = .ok (.pop, 1) := dk_87 (dk_at dksX10_follows_0 8 rfl rfl)
theorem dX10_follows_9 : decode cX10_follows 9 = .ok (.aload_n 0, 1) := dk_42 (dk_at dksX10_follows_0 9 rfl rfl)
theorem dX10_follows_10 : decode cX10_follows 10 = .ok (.getfield 18, 3) := dk_180 0 18 (dk_at dksX10_follows_0 10 rfl rfl)
theorem dX10_follows_13 : decode cX10_follows 13 = .ok (.aload_n 1, 1) := dk_43 (dk_at dksX10_follows_0 13 rfl rfl)
theorem dX10_follows_14 : decode cX10_follows 14 = .ok (.invokevirtual 51, 3) := dk_182 0 51 (dk_at dksX10_follows_0 14 rfl rfl)
theorem dX10_follows_17 : decode cX10_follows 17 = .ok (.pop, 1) := dk_87 (dk_at dksX10_follows_0 17 rfl rfl)
theorem dX10_follows_18 : decode cX10_follows 18 = .ok (.return_, 1) := dk_177 (dk_at dksX10_follows_0 18 rfl rfl)
abbrev cX10_key : ByteArray := prog_5_method_8_code
def yX10_key : MethodName := ⟨RX10, "key", "()I"⟩
def dkwX10_key_1 : List UInt8 := [3, 167, 0, 4, 4, 96, 172]
abbrev dktX10_key_1 : List UInt8 := dkwX10_key_1 ++ []
def dkwX10_key_0 : List UInt8 := [16, 20, 42, 180, 0, 21, 104, 5, 42, 180, 0, 25, 104, 96, 42, 180, 0, 28, 178, 0, 93, 166, 0, 7]
abbrev dktX10_key_0 : List UInt8 := dkwX10_key_0 ++ dktX10_key_1
theorem dksX10_key_0 : cX10_key.data.toList.drop 0 = dktX10_key_0 := by decide +kernel
theorem dksX10_key_1 : cX10_key.data.toList.drop 24 = dktX10_key_1 := dk_seg dksX10_key_0 24 rfl rfl
theorem dX10_key_0 : decode cX10_key 0 = .ok (.bipush 20, 2) := dk_16 20 (dk_at dksX10_key_0 0 rfl rfl)
theorem dX10_key_2 : decode cX10_key 2 = .ok (.aload_n 0, 1) := dk_42 (dk_at dksX10_key_0 2 rfl rfl)
theorem dX10_key_3 : decode cX10_key 3 = .ok (.getfield 21, 3) := dk_180 0 21 (dk_at dksX10_key_0 3 rfl rfl)
theorem dX10_key_6 : decode cX10_key 6 = .ok (.imul, 1) := dk_104 (dk_at dksX10_key_0 6 rfl rfl)
theorem dX10_key_7 : decode cX10_key 7 = .ok (.iconst 2, 1) := dk_5 (dk_at dksX10_key_0 7 rfl rfl)
theorem dX10_key_8 : decode cX10_key 8 = .ok (.aload_n 0, 1) := dk_42 (dk_at dksX10_key_0 8 rfl rfl)
theorem dX10_key_9 : decode cX10_key 9 = .ok (.getfield 25, 3) := dk_180 0 25 (dk_at dksX10_key_0 9 rfl rfl)
theorem dX10_key_12 : decode cX10_key 12 = .ok (.imul, 1) := dk_104 (dk_at dksX10_key_0 12 rfl rfl)
theorem dX10_key_13 : decode cX10_key 13 = .ok (.iadd, 1) := dk_96 (dk_at dksX10_key_0 13 rfl rfl)
theorem dX10_key_14 : decode cX10_key 14 = .ok (.aload_n 0, 1) := dk_42 (dk_at dksX10_key_0 14 rfl rfl)
theorem dX10_key_15 : decode cX10_key 15 = .ok (.getfield 28, 3) := dk_180 0 28 (dk_at dksX10_key_0 15 rfl rfl)
theorem dX10_key_18 : decode cX10_key 18 = .ok (.getstatic 93, 3) := dk_178 0 93 (dk_at dksX10_key_0 18 rfl rfl)
theorem dX10_key_21 : decode cX10_key 21 = .ok (.if_acmp .ne 7, 3) := dk_166 0 7 (dk_at dksX10_key_0 21 rfl rfl)
theorem dX10_key_24 : decode cX10_key 24 = .ok (.iconst 0, 1) := dk_3 (dk_at dksX10_key_1 0 rfl rfl)
theorem dX10_key_25 : decode cX10_key 25 = .ok (.goto 4, 3) := dk_167 0 4 (dk_at dksX10_key_1 1 rfl rfl)
theorem dX10_key_28 : decode cX10_key 28 = .ok (.iconst 1, 1) := dk_4 (dk_at dksX10_key_1 4 rfl rfl)
theorem dX10_key_29 : decode cX10_key 29 = .ok (.iadd, 1) := dk_96 (dk_at dksX10_key_1 5 rfl rfl)
theorem dX10_key_30 : decode cX10_key 30 = .ok (.ireturn, 1) := dk_172 (dk_at dksX10_key_1 6 rfl rfl)
abbrev cX10_tells : ByteArray := prog_5_method_6_code
def yX10_tells : MethodName := ⟨RX10, "tells", "()Z"⟩
def dkwX10_tells_1 : List UInt8 := [180, 0, 48, 27, 159, 0, 7, 4, 167, 0, 4, 3, 172]
abbrev dktX10_tells_1 : List UInt8 := dkwX10_tells_1 ++ []
def dkwX10_tells_0 : List UInt8 := [42, 180, 0, 48, 60, 42, 182, 0, 90, 42, 42, 180, 0, 65, 42, 180, 0, 46, 96, 181, 0, 48, 42]
abbrev dktX10_tells_0 : List UInt8 := dkwX10_tells_0 ++ dktX10_tells_1
theorem dksX10_tells_0 : cX10_tells.data.toList.drop 0 = dktX10_tells_0 := by decide +kernel
theorem dksX10_tells_1 : cX10_tells.data.toList.drop 23 = dktX10_tells_1 := dk_seg dksX10_tells_0 23 rfl rfl
theorem dX10_tells_0 : decode cX10_tells 0 = .ok (.aload_n 0, 1) := dk_42 (dk_at dksX10_tells_0 0 rfl rfl)
theorem dX10_tells_1 : decode cX10_tells 1 = .ok (.getfield 48, 3) := dk_180 0 48 (dk_at dksX10_tells_0 1 rfl rfl)
theorem dX10_tells_4 : decode cX10_tells 4 = .ok (.istore_n 1, 1) := dk_60 (dk_at dksX10_tells_0 4 rfl rfl)
theorem dX10_tells_5 : decode cX10_tells 5 = .ok (.aload_n 0, 1) := dk_42 (dk_at dksX10_tells_0 5 rfl rfl)
theorem dX10_tells_6 : decode cX10_tells 6 = .ok (.invokevirtual 90, 3) := dk_182 0 90 (dk_at dksX10_tells_0 6 rfl rfl)
theorem dX10_tells_9 : decode cX10_tells 9 = .ok (.aload_n 0, 1) := dk_42 (dk_at dksX10_tells_0 9 rfl rfl)
theorem dX10_tells_10 : decode cX10_tells 10 = .ok (.aload_n 0, 1) := dk_42 (dk_at dksX10_tells_0 10 rfl rfl)
theorem dX10_tells_11 : decode cX10_tells 11 = .ok (.getfield 65, 3) := dk_180 0 65 (dk_at dksX10_tells_0 11 rfl rfl)
theorem dX10_tells_14 : decode cX10_tells 14 = .ok (.aload_n 0, 1) := dk_42 (dk_at dksX10_tells_0 14 rfl rfl)
theorem dX10_tells_15 : decode cX10_tells 15 = .ok (.getfield 46, 3) := dk_180 0 46 (dk_at dksX10_tells_0 15 rfl rfl)
theorem dX10_tells_18 : decode cX10_tells 18 = .ok (.iadd, 1) := dk_96 (dk_at dksX10_tells_0 18 rfl rfl)
theorem dX10_tells_19 : decode cX10_tells 19 = .ok (.putfield 48, 3) := dk_181 0 48 (dk_at dksX10_tells_0 19 rfl rfl)
theorem dX10_tells_22 : decode cX10_tells 22 = .ok (.aload_n 0, 1) := dk_42 (dk_at dksX10_tells_0 22 rfl rfl)
theorem dX10_tells_23 : decode cX10_tells 23 = .ok (.getfield 48, 3) := dk_180 0 48 (dk_at dksX10_tells_1 0 rfl rfl)
theorem dX10_tells_26 : decode cX10_tells 26 = .ok (.iload_n 1, 1) := dk_27 (dk_at dksX10_tells_1 3 rfl rfl)
theorem dX10_tells_27 : decode cX10_tells 27 = .ok (.if_icmp .eq 7, 3) := dk_159 0 7 (dk_at dksX10_tells_1 4 rfl rfl)
theorem dX10_tells_30 : decode cX10_tells 30 = .ok (.iconst 1, 1) := dk_4 (dk_at dksX10_tells_1 7 rfl rfl)
theorem dX10_tells_31 : decode cX10_tells 31 = .ok (.goto 4, 3) := dk_167 0 4 (dk_at dksX10_tells_1 8 rfl rfl)
theorem dX10_tells_34 : decode cX10_tells 34 = .ok (.iconst 0, 1) := dk_3 (dk_at dksX10_tells_1 11 rfl rfl)
theorem dX10_tells_35 : decode cX10_tells 35 = .ok (.ireturn, 1) := dk_172 (dk_at dksX10_tells_1 12 rfl rfl)
abbrev cX10_bases : ByteArray := prog_5_method_5_code
def yX10_bases : MethodName := ⟨RX10, "bases", "()V"⟩
def dkwX10_bases_3 : List UInt8 := [167, 255, 208, 177]
abbrev dktX10_bases_3 : List UInt8 := dkwX10_bases_3 ++ []
def dkwX10_bases_2 : List UInt8 := [42, 27, 182, 0, 85, 42, 180, 0, 12, 27, 182, 0, 55, 192, 0, 59, 182, 0, 86, 132, 1, 1]
abbrev dktX10_bases_2 : List UInt8 := dkwX10_bases_2 ++ dktX10_bases_3
def dkwX10_bases_1 : List UInt8 := [180, 0, 12, 182, 0, 81, 162, 0, 43, 42, 180, 0, 12, 27, 182, 0, 55, 193, 0, 75, 154, 0, 23, 42]
abbrev dktX10_bases_1 : List UInt8 := dkwX10_bases_1 ++ dktX10_bases_2
def dkwX10_bases_0 : List UInt8 := [42, 42, 180, 0, 38, 181, 0, 65, 42, 3, 181, 0, 72, 42, 2, 181, 0, 80, 3, 60, 27, 42]
abbrev dktX10_bases_0 : List UInt8 := dkwX10_bases_0 ++ dktX10_bases_1
theorem dksX10_bases_0 : cX10_bases.data.toList.drop 0 = dktX10_bases_0 := by decide +kernel
theorem dksX10_bases_1 : cX10_bases.data.toList.drop 22 = dktX10_bases_1 := dk_seg dksX10_bases_0 22 rfl rfl
theorem dksX10_bases_2 : cX10_bases.data.toList.drop 46 = dktX10_bases_2 := dk_seg dksX10_bases_1 24 rfl rfl
theorem dksX10_bases_3 : cX10_bases.data.toList.drop 68 = dktX10_bases_3 := dk_seg dksX10_bases_2 22 rfl rfl
theorem dX10_bases_0 : decode cX10_bases 0 = .ok (.aload_n 0, 1) := dk_42 (dk_at dksX10_bases_0 0 rfl rfl)
theorem dX10_bases_1 : decode cX10_bases 1 = .ok (.aload_n 0, 1) := dk_42 (dk_at dksX10_bases_0 1 rfl rfl)
theorem dX10_bases_2 : decode cX10_bases 2 = .ok (.getfield 38, 3) := dk_180 0 38 (dk_at dksX10_bases_0 2 rfl rfl)
theorem dX10_bases_5 : decode cX10_bases 5 = .ok (.putfield 65, 3) := dk_181 0 65 (dk_at dksX10_bases_0 5 rfl rfl)
theorem dX10_bases_8 : decode cX10_bases 8 = .ok (.aload_n 0, 1) := dk_42 (dk_at dksX10_bases_0 8 rfl rfl)
theorem dX10_bases_9 : decode cX10_bases 9 = .ok (.iconst 0, 1) := dk_3 (dk_at dksX10_bases_0 9 rfl rfl)
theorem dX10_bases_10 : decode cX10_bases 10 = .ok (.putfield 72, 3) := dk_181 0 72 (dk_at dksX10_bases_0 10 rfl rfl)
theorem dX10_bases_13 : decode cX10_bases 13 = .ok (.aload_n 0, 1) := dk_42 (dk_at dksX10_bases_0 13 rfl rfl)
theorem dX10_bases_14 : decode cX10_bases 14 = .ok (.iconst (-1), 1) := dk_2 (dk_at dksX10_bases_0 14 rfl rfl)
theorem dX10_bases_15 : decode cX10_bases 15 = .ok (.putfield 80, 3) := dk_181 0 80 (dk_at dksX10_bases_0 15 rfl rfl)
theorem dX10_bases_18 : decode cX10_bases 18 = .ok (.iconst 0, 1) := dk_3 (dk_at dksX10_bases_0 18 rfl rfl)
theorem dX10_bases_19 : decode cX10_bases 19 = .ok (.istore_n 1, 1) := dk_60 (dk_at dksX10_bases_0 19 rfl rfl)
theorem dX10_bases_20 : decode cX10_bases 20 = .ok (.iload_n 1, 1) := dk_27 (dk_at dksX10_bases_0 20 rfl rfl)
theorem dX10_bases_21 : decode cX10_bases 21 = .ok (.aload_n 0, 1) := dk_42 (dk_at dksX10_bases_0 21 rfl rfl)
theorem dX10_bases_22 : decode cX10_bases 22 = .ok (.getfield 12, 3) := dk_180 0 12 (dk_at dksX10_bases_1 0 rfl rfl)
theorem dX10_bases_25 : decode cX10_bases 25 = .ok (.invokevirtual 81, 3) := dk_182 0 81 (dk_at dksX10_bases_1 3 rfl rfl)
theorem dX10_bases_28 : decode cX10_bases 28 = .ok (.if_icmp .ge 43, 3) := dk_162 0 43 (dk_at dksX10_bases_1 6 rfl rfl)
theorem dX10_bases_31 : decode cX10_bases 31 = .ok (.aload_n 0, 1) := dk_42 (dk_at dksX10_bases_1 9 rfl rfl)
theorem dX10_bases_32 : decode cX10_bases 32 = .ok (.getfield 12, 3) := dk_180 0 12 (dk_at dksX10_bases_1 10 rfl rfl)
theorem dX10_bases_35 : decode cX10_bases 35 = .ok (.iload_n 1, 1) := dk_27 (dk_at dksX10_bases_1 13 rfl rfl)
theorem dX10_bases_36 : decode cX10_bases 36 = .ok (.invokevirtual 55, 3) := dk_182 0 55 (dk_at dksX10_bases_1 14 rfl rfl)
theorem dX10_bases_39 : decode cX10_bases 39 = .ok (.instanceof 75, 3) := dk_193 0 75 (dk_at dksX10_bases_1 17 rfl rfl)
theorem dX10_bases_42 : decode cX10_bases 42 = .ok (.ifCond .ne 23, 3) := dk_154 0 23 (dk_at dksX10_bases_1 20 rfl rfl)
theorem dX10_bases_45 : decode cX10_bases 45 = .ok (.aload_n 0, 1) := dk_42 (dk_at dksX10_bases_1 23 rfl rfl)
theorem dX10_bases_46 : decode cX10_bases 46 = .ok (.aload_n 0, 1) := dk_42 (dk_at dksX10_bases_2 0 rfl rfl)
theorem dX10_bases_47 : decode cX10_bases 47 = .ok (.iload_n 1, 1) := dk_27 (dk_at dksX10_bases_2 1 rfl rfl)
theorem dX10_bases_48 : decode cX10_bases 48 = .ok (.invokevirtual 85, 3) := dk_182 0 85 (dk_at dksX10_bases_2 2 rfl rfl)
theorem dX10_bases_51 : decode cX10_bases 51 = .ok (.aload_n 0, 1) := dk_42 (dk_at dksX10_bases_2 5 rfl rfl)
theorem dX10_bases_52 : decode cX10_bases 52 = .ok (.getfield 12, 3) := dk_180 0 12 (dk_at dksX10_bases_2 6 rfl rfl)
theorem dX10_bases_55 : decode cX10_bases 55 = .ok (.iload_n 1, 1) := dk_27 (dk_at dksX10_bases_2 9 rfl rfl)
theorem dX10_bases_56 : decode cX10_bases 56 = .ok (.invokevirtual 55, 3) := dk_182 0 55 (dk_at dksX10_bases_2 10 rfl rfl)
theorem dX10_bases_59 : decode cX10_bases 59 = .ok (.checkcast 59, 3) := dk_192 0 59 (dk_at dksX10_bases_2 13 rfl rfl)
theorem dX10_bases_62 : decode cX10_bases 62 = .ok (.invokevirtual 86, 3) := dk_182 0 86 (dk_at dksX10_bases_2 16 rfl rfl)
theorem dX10_bases_65 : decode cX10_bases 65 = .ok (.iinc 1 1, 3) := dk_132 1 1 (dk_at dksX10_bases_2 19 rfl rfl)
theorem dX10_bases_68 : decode cX10_bases 68 = .ok (.goto (-48), 3) := dk_167 255 208 (dk_at dksX10_bases_3 0 rfl rfl)
theorem dX10_bases_71 : decode cX10_bases 71 = .ok (.return_, 1) := dk_177 (dk_at dksX10_bases_3 3 rfl rfl)
abbrev cX10_due : ByteArray := prog_5_method_3_code
def yX10_due : MethodName := ⟨RX10, "due", "(I)I"⟩
def dkwX10_due_1 : List UInt8 := [180, 0, 48, 185, 0, 61, 2, 0, 172]
abbrev dktX10_due_1 : List UInt8 := dkwX10_due_1 ++ []
def dkwX10_due_0 : List UInt8 := [42, 180, 0, 12, 27, 182, 0, 55, 192, 0, 59, 42, 180, 0, 18, 27, 182, 0, 55, 192, 0, 13]
abbrev dktX10_due_0 : List UInt8 := dkwX10_due_0 ++ dktX10_due_1
theorem dksX10_due_0 : cX10_due.data.toList.drop 0 = dktX10_due_0 := by decide +kernel
theorem dksX10_due_1 : cX10_due.data.toList.drop 22 = dktX10_due_1 := dk_seg dksX10_due_0 22 rfl rfl
theorem dX10_due_0 : decode cX10_due 0 = .ok (.aload_n 0, 1) := dk_42 (dk_at dksX10_due_0 0 rfl rfl)
theorem dX10_due_1 : decode cX10_due 1 = .ok (.getfield 12, 3) := dk_180 0 12 (dk_at dksX10_due_0 1 rfl rfl)
theorem dX10_due_4 : decode cX10_due 4 = .ok (.iload_n 1, 1) := dk_27 (dk_at dksX10_due_0 4 rfl rfl)
theorem dX10_due_5 : decode cX10_due 5 = .ok (.invokevirtual 55, 3) := dk_182 0 55 (dk_at dksX10_due_0 5 rfl rfl)
theorem dX10_due_8 : decode cX10_due 8 = .ok (.checkcast 59, 3) := dk_192 0 59 (dk_at dksX10_due_0 8 rfl rfl)
theorem dX10_due_11 : decode cX10_due 11 = .ok (.aload_n 0, 1) := dk_42 (dk_at dksX10_due_0 11 rfl rfl)
theorem dX10_due_12 : decode cX10_due 12 = .ok (.getfield 18, 3) := dk_180 0 18 (dk_at dksX10_due_0 12 rfl rfl)
theorem dX10_due_15 : decode cX10_due 15 = .ok (.iload_n 1, 1) := dk_27 (dk_at dksX10_due_0 15 rfl rfl)
theorem dX10_due_16 : decode cX10_due 16 = .ok (.invokevirtual 55, 3) := dk_182 0 55 (dk_at dksX10_due_0 16 rfl rfl)
theorem dX10_due_19 : decode cX10_due 19 = .ok (.checkcast 13, 3) := dk_192 0 13 (dk_at dksX10_due_0 19 rfl rfl)
theorem dX10_due_22 : decode cX10_due 22 = .ok (.getfield 48, 3) := dk_180 0 48 (dk_at dksX10_due_1 0 rfl rfl)
theorem dX10_due_25 : decode cX10_due 25 = .ok (.invokeinterface 61 2, 5) := by decide +kernel
theorem dX10_due_30 : decode cX10_due 30 = .ok (.ireturn, 1) := dk_172 (dk_at dksX10_due_1 8 rfl rfl)
abbrev cX10_becomes : ByteArray := prog_5_method_4_code
def yX10_becomes : MethodName := ⟨RX10, "becomes", "(ILCoachTimetable$Lead;)V"⟩
def dkwX10_becomes_1 : List UInt8 := [193, 0, 75, 153, 0, 15, 44, 192, 0, 75, 78, 45, 180, 0, 77, 167, 0, 4, 2, 181, 0, 80, 177]
abbrev dktX10_becomes_1 : List UInt8 := dkwX10_becomes_1 ++ []
def dkwX10_becomes_0 : List UInt8 := [27, 42, 180, 0, 65, 164, 0, 40, 42, 27, 181, 0, 65, 42, 44, 184, 0, 68, 181, 0, 72, 42, 44]
abbrev dktX10_becomes_0 : List UInt8 := dkwX10_becomes_0 ++ dktX10_becomes_1
theorem dksX10_becomes_0 : cX10_becomes.data.toList.drop 0 = dktX10_becomes_0 := by decide +kernel
theorem dksX10_becomes_1 : cX10_becomes.data.toList.drop 23 = dktX10_becomes_1 := dk_seg dksX10_becomes_0 23 rfl rfl
theorem dX10_becomes_0 : decode cX10_becomes 0 = .ok (.iload_n 1, 1) := dk_27 (dk_at dksX10_becomes_0 0 rfl rfl)
theorem dX10_becomes_1 : decode cX10_becomes 1 = .ok (.aload_n 0, 1) := dk_42 (dk_at dksX10_becomes_0 1 rfl rfl)
theorem dX10_becomes_2 : decode cX10_becomes 2 = .ok (.getfield 65, 3) := dk_180 0 65 (dk_at dksX10_becomes_0 2 rfl rfl)
theorem dX10_becomes_5 : decode cX10_becomes 5 = .ok (.if_icmp .le 40, 3) := dk_164 0 40 (dk_at dksX10_becomes_0 5 rfl rfl)
theorem dX10_becomes_8 : decode cX10_becomes 8 = .ok (.aload_n 0, 1) := dk_42 (dk_at dksX10_becomes_0 8 rfl rfl)
theorem dX10_becomes_9 : decode cX10_becomes 9 = .ok (.iload_n 1, 1) := dk_27 (dk_at dksX10_becomes_0 9 rfl rfl)
theorem dX10_becomes_10 : decode cX10_becomes 10 = .ok (.putfield 65, 3) := dk_181 0 65 (dk_at dksX10_becomes_0 10 rfl rfl)
theorem dX10_becomes_13 : decode cX10_becomes 13 = .ok (.aload_n 0, 1) := dk_42 (dk_at dksX10_becomes_0 13 rfl rfl)
theorem dX10_becomes_14 : decode cX10_becomes 14 = .ok (.aload_n 2, 1) := dk_44 (dk_at dksX10_becomes_0 14 rfl rfl)
theorem dX10_becomes_15 : decode cX10_becomes 15 = .ok (.invokestatic 68, 3) := dk_184 0 68 (dk_at dksX10_becomes_0 15 rfl rfl)
theorem dX10_becomes_18 : decode cX10_becomes 18 = .ok (.putfield 72, 3) := dk_181 0 72 (dk_at dksX10_becomes_0 18 rfl rfl)
theorem dX10_becomes_21 : decode cX10_becomes 21 = .ok (.aload_n 0, 1) := dk_42 (dk_at dksX10_becomes_0 21 rfl rfl)
theorem dX10_becomes_22 : decode cX10_becomes 22 = .ok (.aload_n 2, 1) := dk_44 (dk_at dksX10_becomes_0 22 rfl rfl)
theorem dX10_becomes_23 : decode cX10_becomes 23 = .ok (.instanceof 75, 3) := dk_193 0 75 (dk_at dksX10_becomes_1 0 rfl rfl)
theorem dX10_becomes_26 : decode cX10_becomes 26 = .ok (.ifCond .eq 15, 3) := dk_153 0 15 (dk_at dksX10_becomes_1 3 rfl rfl)
theorem dX10_becomes_29 : decode cX10_becomes 29 = .ok (.aload_n 2, 1) := dk_44 (dk_at dksX10_becomes_1 6 rfl rfl)
theorem dX10_becomes_30 : decode cX10_becomes 30 = .ok (.checkcast 75, 3) := dk_192 0 75 (dk_at dksX10_becomes_1 7 rfl rfl)
theorem dX10_becomes_33 : decode cX10_becomes 33 = .ok (.astore_n 3, 1) := dk_78 (dk_at dksX10_becomes_1 10 rfl rfl)
theorem dX10_becomes_34 : decode cX10_becomes 34 = .ok (.aload_n 3, 1) := dk_45 (dk_at dksX10_becomes_1 11 rfl rfl)
theorem dX10_becomes_35 : decode cX10_becomes 35 = .ok (.getfield 77, 3) := dk_180 0 77 (dk_at dksX10_becomes_1 12 rfl rfl)
theorem dX10_becomes_38 : decode cX10_becomes 38 = .ok (.goto 4, 3) := dk_167 0 4 (dk_at dksX10_becomes_1 15 rfl rfl)
theorem dX10_becomes_41 : decode cX10_becomes 41 = .ok (.iconst (-1), 1) := dk_2 (dk_at dksX10_becomes_1 18 rfl rfl)
theorem dX10_becomes_42 : decode cX10_becomes 42 = .ok (.putfield 80, 3) := dk_181 0 80 (dk_at dksX10_becomes_1 19 rfl rfl)
theorem dX10_becomes_45 : decode cX10_becomes 45 = .ok (.return_, 1) := dk_177 (dk_at dksX10_becomes_1 22 rfl rfl)
abbrev cX10_late : ByteArray := prog_5_method_7_code
def yX10_late : MethodName := ⟨RX10, "late", "()I"⟩
def dkwX10_late_0 : List UInt8 := [42, 180, 0, 48, 42, 180, 0, 38, 100, 172]
abbrev dktX10_late_0 : List UInt8 := dkwX10_late_0 ++ []
theorem dksX10_late_0 : cX10_late.data.toList.drop 0 = dktX10_late_0 := by decide +kernel
theorem dX10_late_0 : decode cX10_late 0 = .ok (.aload_n 0, 1) := dk_42 (dk_at dksX10_late_0 0 rfl rfl)
theorem dX10_late_1 : decode cX10_late 1 = .ok (.getfield 48, 3) := dk_180 0 48 (dk_at dksX10_late_0 1 rfl rfl)
theorem dX10_late_4 : decode cX10_late 4 = .ok (.aload_n 0, 1) := dk_42 (dk_at dksX10_late_0 4 rfl rfl)
theorem dX10_late_5 : decode cX10_late 5 = .ok (.getfield 38, 3) := dk_180 0 38 (dk_at dksX10_late_0 5 rfl rfl)
theorem dX10_late_8 : decode cX10_late 8 = .ok (.isub, 1) := dk_100 (dk_at dksX10_late_0 8 rfl rfl)
theorem dX10_late_9 : decode cX10_late 9 = .ok (.ireturn, 1) := dk_172 (dk_at dksX10_late_0 9 rfl rfl)
abbrev cX11_init : ByteArray := prog_7_method_1_code
def yX11_init : MethodName := ⟨RX11, "<init>", "(I)V"⟩
def dkwX11_init_0 : List UInt8 := [42, 183, 0, 1, 42, 27, 181, 0, 7, 177]
abbrev dktX11_init_0 : List UInt8 := dkwX11_init_0 ++ []
theorem dksX11_init_0 : cX11_init.data.toList.drop 0 = dktX11_init_0 := by decide +kernel
theorem dX11_init_0 : decode cX11_init 0 = .ok (.aload_n 0, 1) := dk_42 (dk_at dksX11_init_0 0 rfl rfl)
theorem dX11_init_1 : decode cX11_init 1 = .ok (.invokespecial 1, 3) := dk_183 0 1 (dk_at dksX11_init_0 1 rfl rfl)
theorem dX11_init_4 : decode cX11_init 4 = .ok (.aload_n 0, 1) := dk_42 (dk_at dksX11_init_0 4 rfl rfl)
theorem dX11_init_5 : decode cX11_init 5 = .ok (.iload_n 1, 1) := dk_27 (dk_at dksX11_init_0 5 rfl rfl)
theorem dX11_init_6 : decode cX11_init 6 = .ok (.putfield 7, 3) := dk_181 0 7 (dk_at dksX11_init_0 6 rfl rfl)
theorem dX11_init_9 : decode cX11_init 9 = .ok (.return_, 1) := dk_177 (dk_at dksX11_init_0 9 rfl rfl)
abbrev cX11_due : ByteArray := prog_7_method_2_code
def yX11_due : MethodName := ⟨RX11, "due", "(I)I"⟩
def dkwX11_due_0 : List UInt8 := [27, 42, 180, 0, 7, 96, 172]
abbrev dktX11_due_0 : List UInt8 := dkwX11_due_0 ++ []
theorem dksX11_due_0 : cX11_due.data.toList.drop 0 = dktX11_due_0 := by decide +kernel
theorem dX11_due_0 : decode cX11_due 0 = .ok (.iload_n 1, 1) := dk_27 (dk_at dksX11_due_0 0 rfl rfl)
theorem dX11_due_1 : decode cX11_due 1 = .ok (.aload_n 0, 1) := dk_42 (dk_at dksX11_due_0 1 rfl rfl)
theorem dX11_due_2 : decode cX11_due 2 = .ok (.getfield 7, 3) := dk_180 0 7 (dk_at dksX11_due_0 2 rfl rfl)
theorem dX11_due_5 : decode cX11_due 5 = .ok (.iadd, 1) := dk_96 (dk_at dksX11_due_0 5 rfl rfl)
theorem dX11_due_6 : decode cX11_due 6 = .ok (.ireturn, 1) := dk_172 (dk_at dksX11_due_0 6 rfl rfl)
abbrev cX12_init : ByteArray := prog_4_method_1_code
def yX12_init : MethodName := ⟨RX12, "<init>", "(IILCoachTimetable$Stop;Z)V"⟩
def dkwX12_init_1 : List UInt8 := [2, 181, 0, 26, 177]
abbrev dktX12_init_1 : List UInt8 := dkwX12_init_1 ++ []
def dkwX12_init_0 : List UInt8 := [42, 27, 28, 178, 0, 3, 45, 21, 4, 183, 0, 9, 42, 187, 0, 15, 89, 183, 0, 17, 181, 0, 20, 42]
abbrev dktX12_init_0 : List UInt8 := dkwX12_init_0 ++ dktX12_init_1
theorem dksX12_init_0 : cX12_init.data.toList.drop 0 = dktX12_init_0 := by decide +kernel
theorem dksX12_init_1 : cX12_init.data.toList.drop 24 = dktX12_init_1 := dk_seg dksX12_init_0 24 rfl rfl
theorem dX12_init_0 : decode cX12_init 0 = .ok (.aload_n 0, 1) := dk_42 (dk_at dksX12_init_0 0 rfl rfl)
theorem dX12_init_1 : decode cX12_init 1 = .ok (.iload_n 1, 1) := dk_27 (dk_at dksX12_init_0 1 rfl rfl)
theorem dX12_init_2 : decode cX12_init 2 = .ok (.iload_n 2, 1) := dk_28 (dk_at dksX12_init_0 2 rfl rfl)
theorem dX12_init_3 : decode cX12_init 3 = .ok (.getstatic 3, 3) := dk_178 0 3 (dk_at dksX12_init_0 3 rfl rfl)
theorem dX12_init_6 : decode cX12_init 6 = .ok (.aload_n 3, 1) := dk_45 (dk_at dksX12_init_0 6 rfl rfl)
theorem dX12_init_7 : decode cX12_init 7 = .ok (.iload 4, 2) := dk_21 4 (dk_at dksX12_init_0 7 rfl rfl)
theorem dX12_init_9 : decode cX12_init 9 = .ok (.invokespecial 9, 3) := dk_183 0 9 (dk_at dksX12_init_0 9 rfl rfl)
theorem dX12_init_12 : decode cX12_init 12 = .ok (.aload_n 0, 1) := dk_42 (dk_at dksX12_init_0 12 rfl rfl)
theorem dX12_init_13 : decode cX12_init 13 = .ok (.new 15, 3) := dk_187 0 15 (dk_at dksX12_init_0 13 rfl rfl)
theorem dX12_init_16 : decode cX12_init 16 = .ok (.dup, 1) := dk_89 (dk_at dksX12_init_0 16 rfl rfl)
theorem dX12_init_17 : decode cX12_init 17 = .ok (.invokespecial 17, 3) := dk_183 0 17 (dk_at dksX12_init_0 17 rfl rfl)
theorem dX12_init_20 : decode cX12_init 20 = .ok (.putfield 20, 3) := dk_181 0 20 (dk_at dksX12_init_0 20 rfl rfl)
theorem dX12_init_23 : decode cX12_init 23 = .ok (.aload_n 0, 1) := dk_42 (dk_at dksX12_init_0 23 rfl rfl)
theorem dX12_init_24 : decode cX12_init 24 = .ok (.iconst (-1), 1) := dk_2 (dk_at dksX12_init_1 0 rfl rfl)
theorem dX12_init_25 : decode cX12_init 25 = .ok (.putfield 26, 3) := dk_181 0 26 (dk_at dksX12_init_1 1 rfl rfl)
theorem dX12_init_28 : decode cX12_init 28 = .ok (.return_, 1) := dk_177 (dk_at dksX12_init_1 4 rfl rfl)
abbrev cX12_waits : ByteArray := prog_4_method_2_code
def yX12_waits : MethodName := ⟨RX12, "waits", "(LCoachTimetable$Event;LCoachTimetable$Wait;I)V"⟩
def dkwX12_waits_2 : List UInt8 := [182, 0, 43, 87, 177]
abbrev dktX12_waits_2 : List UInt8 := dkwX12_waits_2 ++ []
def dkwX12_waits_1 : List UInt8 := [184, 0, 37, 182, 0, 43, 87, 167, 255, 227, 42, 43, 44, 182, 0, 47, 42, 180, 0, 20, 29, 184, 0, 37]
abbrev dktX12_waits_1 : List UInt8 := dkwX12_waits_1 ++ dktX12_waits_2
def dkwX12_waits_0 : List UInt8 := [42, 180, 0, 20, 182, 0, 30, 42, 180, 0, 34, 182, 0, 30, 162, 0, 18, 42, 180, 0, 20, 2]
abbrev dktX12_waits_0 : List UInt8 := dkwX12_waits_0 ++ dktX12_waits_1
theorem dksX12_waits_0 : cX12_waits.data.toList.drop 0 = dktX12_waits_0 := by decide +kernel
theorem dksX12_waits_1 : cX12_waits.data.toList.drop 22 = dktX12_waits_1 := dk_seg dksX12_waits_0 22 rfl rfl
theorem dksX12_waits_2 : cX12_waits.data.toList.drop 46 = dktX12_waits_2 := dk_seg dksX12_waits_1 24 rfl rfl
theorem dX12_waits_0 : decode cX12_waits 0 = .ok (.aload_n 0, 1) := dk_42 (dk_at dksX12_waits_0 0 rfl rfl)
theorem dX12_waits_1 : decode cX12_waits 1 = .ok (.getfield 20, 3) := dk_180 0 20 (dk_at dksX12_waits_0 1 rfl rfl)
theorem dX12_waits_4 : decode cX12_waits 4 = .ok (.invokevirtual 30, 3) := dk_182 0 30 (dk_at dksX12_waits_0 4 rfl rfl)
theorem dX12_waits_7 : decode cX12_waits 7 = .ok (.aload_n 0, 1) := dk_42 (dk_at dksX12_waits_0 7 rfl rfl)
theorem dX12_waits_8 : decode cX12_waits 8 = .ok (.getfield 34, 3) := dk_180 0 34 (dk_at dksX12_waits_0 8 rfl rfl)
theorem dX12_waits_11 : decode cX12_waits 11 = .ok (.invokevirtual 30, 3) := dk_182 0 30 (dk_at dksX12_waits_0 11 rfl rfl)
theorem dX12_waits_14 : decode cX12_waits 14 = .ok (.if_icmp .ge 18, 3) := dk_162 0 18 (dk_at dksX12_waits_0 14 rfl rfl)
theorem dX12_waits_17 : decode cX12_waits 17 = .ok (.aload_n 0, 1) := dk_42 (dk_at dksX12_waits_0 17 rfl rfl)
theorem dX12_waits_18 : decode cX12_waits 18 = .ok (.getfield 20, 3) := dk_180 0 20 (dk_at dksX12_waits_0 18 rfl rfl)
theorem dX12_waits_21 : decode cX12_waits 21 = .ok (.iconst (-1), 1) := dk_2 (dk_at dksX12_waits_0 21 rfl rfl)
theorem dX12_waits_22 : decode cX12_waits 22 = .ok (.invokestatic 37, 3) := dk_184 0 37 (dk_at dksX12_waits_1 0 rfl rfl)
theorem dX12_waits_25 : decode cX12_waits 25 = .ok (.invokevirtual 43, 3) := dk_182 0 43 (dk_at dksX12_waits_1 3 rfl rfl)
theorem dX12_waits_28 : decode cX12_waits 28 = .ok (.pop, 1) := dk_87 (dk_at dksX12_waits_1 6 rfl rfl)
theorem dX12_waits_29 : decode cX12_waits 29 = .ok (.goto (-29), 3) := dk_167 255 227 (dk_at dksX12_waits_1 7 rfl rfl)
theorem dX12_waits_32 : decode cX12_waits 32 = .ok (.aload_n 0, 1) := dk_42 (dk_at dksX12_waits_1 10 rfl rfl)
theorem dX12_waits_33 : decode cX12_waits 33 = .ok (.aload_n 1, 1) := dk_43 (dk_at dksX12_waits_1 11 rfl rfl)
theorem dX12_waits_34 : decode cX12_waits 34 = .ok (.aload_n 2, 1) := dk_44 (dk_at dksX12_waits_1 12 rfl rfl)
theorem dX12_waits_35 : decode cX12_waits 35 = .ok (.invokevirtual 47, 3) := dk_182 0 47 (dk_at dksX12_waits_1 13 rfl rfl)
theorem dX12_waits_38 : decode cX12_waits 38 = .ok (.aload_n 0, 1) := dk_42 (dk_at dksX12_waits_1 16 rfl rfl)
theorem dX12_waits_39 : decode cX12_waits 39 = .ok (.getfield 20, 3) := dk_180 0 20 (dk_at dksX12_waits_1 17 rfl rfl)
theorem dX12_waits_42 : decode cX12_waits 42 = .ok (.iload_n 3, 1) := dk_29 (dk_at dksX12_waits_1 20 rfl rfl)
theorem dX12_waits_43 : decode cX12_waits 43 = .ok (.invokestatic 37, 3) := dk_184 0 37 (dk_at dksX12_waits_1 21 rfl rfl)
theorem dX12_waits_46 : decode cX12_waits 46 = .ok (.invokevirtual 43, 3) := dk_182 0 43 (dk_at dksX12_waits_2 0 rfl rfl)
theorem dX12_waits_49 : decode cX12_waits 49 = .ok (.pop, 1) := dk_87 (dk_at dksX12_waits_2 3 rfl rfl)
theorem dX12_waits_50 : decode cX12_waits 50 = .ok (.return_, 1) := dk_177 (dk_at dksX12_waits_2 4 rfl rfl)
abbrev cX12_bases : ByteArray := prog_4_method_4_code
def yX12_bases : MethodName := ⟨RX12, "bases", "()V"⟩
def dkwX12_bases_3 : List UInt8 := [182, 0, 76, 132, 1, 1, 167, 255, 196, 177]
abbrev dktX12_bases_3 : List UInt8 := dkwX12_bases_3 ++ []
def dkwX12_bases_2 : List UInt8 := [182, 0, 70, 153, 0, 23, 42, 42, 27, 182, 0, 51, 42, 180, 0, 34, 27, 182, 0, 57, 192, 0, 74]
abbrev dktX12_bases_2 : List UInt8 := dkwX12_bases_2 ++ dktX12_bases_3
def dkwX12_bases_1 : List UInt8 := [162, 0, 55, 42, 180, 0, 20, 27, 182, 0, 57, 192, 0, 38, 182, 0, 61, 2, 159, 0, 31, 42, 27]
abbrev dktX12_bases_1 : List UInt8 := dkwX12_bases_1 ++ dktX12_bases_2
def dkwX12_bases_0 : List UInt8 := [42, 183, 0, 64, 42, 42, 180, 0, 67, 181, 0, 55, 3, 60, 27, 42, 180, 0, 20, 182, 0, 30]
abbrev dktX12_bases_0 : List UInt8 := dkwX12_bases_0 ++ dktX12_bases_1
theorem dksX12_bases_0 : cX12_bases.data.toList.drop 0 = dktX12_bases_0 := by decide +kernel
theorem dksX12_bases_1 : cX12_bases.data.toList.drop 22 = dktX12_bases_1 := dk_seg dksX12_bases_0 22 rfl rfl
theorem dksX12_bases_2 : cX12_bases.data.toList.drop 45 = dktX12_bases_2 := dk_seg dksX12_bases_1 23 rfl rfl
theorem dksX12_bases_3 : cX12_bases.data.toList.drop 68 = dktX12_bases_3 := dk_seg dksX12_bases_2 23 rfl rfl
theorem dX12_bases_0 : decode cX12_bases 0 = .ok (.aload_n 0, 1) := dk_42 (dk_at dksX12_bases_0 0 rfl rfl)
theorem dX12_bases_1 : decode cX12_bases 1 = .ok (.invokespecial 64, 3) := dk_183 0 64 (dk_at dksX12_bases_0 1 rfl rfl)
theorem dX12_bases_4 : decode cX12_bases 4 = .ok (.aload_n 0, 1) := dk_42 (dk_at dksX12_bases_0 4 rfl rfl)
theorem dX12_bases_5 : decode cX12_bases 5 = .ok (.aload_n 0, 1) := dk_42 (dk_at dksX12_bases_0 5 rfl rfl)
theorem dX12_bases_6 : decode cX12_bases 6 = .ok (.getfield 67, 3) := dk_180 0 67 (dk_at dksX12_bases_0 6 rfl rfl)
theorem dX12_bases_9 : decode cX12_bases 9 = .ok (.putfield 55, 3) := dk_181 0 55 (dk_at dksX12_bases_0 9 rfl rfl)
theorem dX12_bases_12 : decode cX12_bases 12 = .ok (.iconst 0, 1) := dk_3 (dk_at dksX12_bases_0 12 rfl rfl)
theorem dX12_bases_13 : decode cX12_bases 13 = .ok (.istore_n 1, 1) := dk_60 (dk_at dksX12_bases_0 13 rfl rfl)
theorem dX12_bases_14 : decode cX12_bases 14 = .ok (.iload_n 1, 1) := dk_27 (dk_at dksX12_bases_0 14 rfl rfl)
theorem dX12_bases_15 : decode cX12_bases 15 = .ok (.aload_n 0, 1) := dk_42 (dk_at dksX12_bases_0 15 rfl rfl)
theorem dX12_bases_16 : decode cX12_bases 16 = .ok (.getfield 20, 3) := dk_180 0 20 (dk_at dksX12_bases_0 16 rfl rfl)
theorem dX12_bases_19 : decode cX12_bases 19 = .ok (.invokevirtual 30, 3) := dk_182 0 30 (dk_at dksX12_bases_0 19 rfl rfl)
theorem dX12_bases_22 : decode cX12_bases 22 = .ok (.if_icmp .ge 55, 3) := dk_162 0 55 (dk_at dksX12_bases_1 0 rfl rfl)
theorem dX12_bases_25 : decode cX12_bases 25 = .ok (.aload_n 0, 1) := dk_42 (dk_at dksX12_bases_1 3 rfl rfl)
theorem dX12_bases_26 : decode cX12_bases 26 = .ok (.getfield 20, 3) := dk_180 0 20 (dk_at dksX12_bases_1 4 rfl rfl)
theorem dX12_bases_29 : decode cX12_bases 29 = .ok (.iload_n 1, 1) := dk_27 (dk_at dksX12_bases_1 7 rfl rfl)
theorem dX12_bases_30 : decode cX12_bases 30 = .ok (.invokevirtual 57, 3) := dk_182 0 57 (dk_at dksX12_bases_1 8 rfl rfl)
theorem dX12_bases_33 : decode cX12_bases 33 = .ok (.checkcast 38, 3) := dk_192 0 38 (dk_at dksX12_bases_1 11 rfl rfl)
theorem dX12_bases_36 : decode cX12_bases 36 = .ok (.invokevirtual 61, 3) := dk_182 0 61 (dk_at dksX12_bases_1 14 rfl rfl)
theorem dX12_bases_39 : decode cX12_bases 39 = .ok (.iconst (-1), 1) := dk_2 (dk_at dksX12_bases_1 17 rfl rfl)
theorem dX12_bases_40 : decode cX12_bases 40 = .ok (.if_icmp .eq 31, 3) := dk_159 0 31 (dk_at dksX12_bases_1 18 rfl rfl)
theorem dX12_bases_43 : decode cX12_bases 43 = .ok (.aload_n 0, 1) := dk_42 (dk_at dksX12_bases_1 21 rfl rfl)
theorem dX12_bases_44 : decode cX12_bases 44 = .ok (.iload_n 1, 1) := dk_27 (dk_at dksX12_bases_1 22 rfl rfl)
theorem dX12_bases_45 : decode cX12_bases 45 = .ok (.invokevirtual 70, 3) := dk_182 0 70 (dk_at dksX12_bases_2 0 rfl rfl)
theorem dX12_bases_48 : decode cX12_bases 48 = .ok (.ifCond .eq 23, 3) := dk_153 0 23 (dk_at dksX12_bases_2 3 rfl rfl)
theorem dX12_bases_51 : decode cX12_bases 51 = .ok (.aload_n 0, 1) := dk_42 (dk_at dksX12_bases_2 6 rfl rfl)
theorem dX12_bases_52 : decode cX12_bases 52 = .ok (.aload_n 0, 1) := dk_42 (dk_at dksX12_bases_2 7 rfl rfl)
theorem dX12_bases_53 : decode cX12_bases 53 = .ok (.iload_n 1, 1) := dk_27 (dk_at dksX12_bases_2 8 rfl rfl)
theorem dX12_bases_54 : decode cX12_bases 54 = .ok (.invokevirtual 51, 3) := dk_182 0 51 (dk_at dksX12_bases_2 9 rfl rfl)
theorem dX12_bases_57 : decode cX12_bases 57 = .ok (.aload_n 0, 1) := dk_42 (dk_at dksX12_bases_2 12 rfl rfl)
theorem dX12_bases_58 : decode cX12_bases 58 = .ok (.getfield 34, 3) := dk_180 0 34 (dk_at dksX12_bases_2 13 rfl rfl)
theorem dX12_bases_61 : decode cX12_bases 61 = .ok (.iload_n 1, 1) := dk_27 (dk_at dksX12_bases_2 16 rfl rfl)
theorem dX12_bases_62 : decode cX12_bases 62 = .ok (.invokevirtual 57, 3) := dk_182 0 57 (dk_at dksX12_bases_2 17 rfl rfl)
theorem dX12_bases_65 : decode cX12_bases 65 = .ok (.checkcast 74, 3) := dk_192 0 74 (dk_at dksX12_bases_2 20 rfl rfl)
theorem dX12_bases_68 : decode cX12_bases 68 = .ok (.invokevirtual 76, 3) := dk_182 0 76 (dk_at dksX12_bases_3 0 rfl rfl)
theorem dX12_bases_71 : decode cX12_bases 71 = .ok (.iinc 1 1, 3) := dk_132 1 1 (dk_at dksX12_bases_3 3 rfl rfl)
theorem dX12_bases_74 : decode cX12_bases 74 = .ok (.goto (-60), 3) := dk_167 255 196 (dk_at dksX12_bases_3 6 rfl rfl)
theorem dX12_bases_77 : decode cX12_bases 77 = .ok (.return_, 1) := dk_177 (dk_at dksX12_bases_3 9 rfl rfl)
abbrev cX12_isKept : ByteArray := prog_4_method_3_code
def yX12_isKept : MethodName := ⟨RX12, "isKept", "(I)Z"⟩
def dkwX12_isKept_2 : List UInt8 := [3, 172]
abbrev dktX12_isKept_2 : List UInt8 := dkwX12_isKept_2 ++ []
def dkwX12_isKept_1 : List UInt8 := [182, 0, 57, 192, 0, 38, 182, 0, 61, 167, 0, 7, 42, 180, 0, 26, 96, 163, 0, 7, 4, 167, 0, 4]
abbrev dktX12_isKept_1 : List UInt8 := dkwX12_isKept_1 ++ dktX12_isKept_2
def dkwX12_isKept_0 : List UInt8 := [42, 27, 182, 0, 51, 42, 180, 0, 55, 42, 180, 0, 26, 2, 160, 0, 20, 42, 180, 0, 20, 27]
abbrev dktX12_isKept_0 : List UInt8 := dkwX12_isKept_0 ++ dktX12_isKept_1
theorem dksX12_isKept_0 : cX12_isKept.data.toList.drop 0 = dktX12_isKept_0 := by decide +kernel
theorem dksX12_isKept_1 : cX12_isKept.data.toList.drop 22 = dktX12_isKept_1 := dk_seg dksX12_isKept_0 22 rfl rfl
theorem dksX12_isKept_2 : cX12_isKept.data.toList.drop 46 = dktX12_isKept_2 := dk_seg dksX12_isKept_1 24 rfl rfl
theorem dX12_isKept_0 : decode cX12_isKept 0 = .ok (.aload_n 0, 1) := dk_42 (dk_at dksX12_isKept_0 0 rfl rfl)
theorem dX12_isKept_1 : decode cX12_isKept 1 = .ok (.iload_n 1, 1) := dk_27 (dk_at dksX12_isKept_0 1 rfl rfl)
theorem dX12_isKept_2 : decode cX12_isKept 2 = .ok (.invokevirtual 51, 3) := dk_182 0 51 (dk_at dksX12_isKept_0 2 rfl rfl)
theorem dX12_isKept_5 : decode cX12_isKept 5 = .ok (.aload_n 0, 1) := dk_42 (dk_at dksX12_isKept_0 5 rfl rfl)
theorem dX12_isKept_6 : decode cX12_isKept 6 = .ok (.getfield 55, 3) := dk_180 0 55 (dk_at dksX12_isKept_0 6 rfl rfl)
theorem dX12_isKept_9 : decode cX12_isKept 9 = .ok (.aload_n 0, 1) := dk_42 (dk_at dksX12_isKept_0 9 rfl rfl)
theorem dX12_isKept_10 : decode cX12_isKept 10 = .ok (.getfield 26, 3) := dk_180 0 26 (dk_at dksX12_isKept_0 10 rfl rfl)
theorem dX12_isKept_13 : decode cX12_isKept 13 = .ok (.iconst (-1), 1) := dk_2 (dk_at dksX12_isKept_0 13 rfl rfl)
theorem dX12_isKept_14 : decode cX12_isKept 14 = .ok (.if_icmp .ne 20, 3) := dk_160 0 20 (dk_at dksX12_isKept_0 14 rfl rfl)
theorem dX12_isKept_17 : decode cX12_isKept 17 = .ok (.aload_n 0, 1) := dk_42 (dk_at dksX12_isKept_0 17 rfl rfl)
theorem dX12_isKept_18 : decode cX12_isKept 18 = .ok (.getfield 20, 3) := dk_180 0 20 (dk_at dksX12_isKept_0 18 rfl rfl)
theorem dX12_isKept_21 : decode cX12_isKept 21 = .ok (.iload_n 1, 1) := dk_27 (dk_at dksX12_isKept_0 21 rfl rfl)
theorem dX12_isKept_22 : decode cX12_isKept 22 = .ok (.invokevirtual 57, 3) := dk_182 0 57 (dk_at dksX12_isKept_1 0 rfl rfl)
theorem dX12_isKept_25 : decode cX12_isKept 25 = .ok (.checkcast 38, 3) := dk_192 0 38 (dk_at dksX12_isKept_1 3 rfl rfl)
theorem dX12_isKept_28 : decode cX12_isKept 28 = .ok (.invokevirtual 61, 3) := dk_182 0 61 (dk_at dksX12_isKept_1 6 rfl rfl)
theorem dX12_isKept_31 : decode cX12_isKept 31 = .ok (.goto 7, 3) := dk_167 0 7 (dk_at dksX12_isKept_1 9 rfl rfl)
theorem dX12_isKept_34 : decode cX12_isKept 34 = .ok (.aload_n 0, 1) := dk_42 (dk_at dksX12_isKept_1 12 rfl rfl)
theorem dX12_isKept_35 : decode cX12_isKept 35 = .ok (.getfield 26, 3) := dk_180 0 26 (dk_at dksX12_isKept_1 13 rfl rfl)
theorem dX12_isKept_38 : decode cX12_isKept 38 = .ok (.iadd, 1) := dk_96 (dk_at dksX12_isKept_1 16 rfl rfl)
theorem dX12_isKept_39 : decode cX12_isKept 39 = .ok (.if_icmp .gt 7, 3) := dk_163 0 7 (dk_at dksX12_isKept_1 17 rfl rfl)
theorem dX12_isKept_42 : decode cX12_isKept 42 = .ok (.iconst 1, 1) := dk_4 (dk_at dksX12_isKept_1 20 rfl rfl)
theorem dX12_isKept_43 : decode cX12_isKept 43 = .ok (.goto 4, 3) := dk_167 0 4 (dk_at dksX12_isKept_1 21 rfl rfl)
theorem dX12_isKept_46 : decode cX12_isKept 46 = .ok (.iconst 0, 1) := dk_3 (dk_at dksX12_isKept_2 0 rfl rfl)
theorem dX12_isKept_47 : decode cX12_isKept 47 = .ok (.ireturn, 1) := dk_172 (dk_at dksX12_isKept_2 1 rfl rfl)
abbrev cX12_leadOf : ByteArray := prog_4_method_5_code
def yX12_leadOf : MethodName := ⟨RX12, "leadOf", "(I)I"⟩
def dkwX12_leadOf_2 : List UInt8 := [132, 2, 1, 167, 255, 208, 2, 172]
abbrev dktX12_leadOf_2 : List UInt8 := dkwX12_leadOf_2 ++ []
def dkwX12_leadOf_1 : List UInt8 := [25, 4, 193, 0, 80, 153, 0, 19, 25, 4, 192, 0, 80, 78, 45, 180, 0, 82, 27, 160, 0, 5, 28, 172]
abbrev dktX12_leadOf_1 : List UInt8 := dkwX12_leadOf_1 ++ dktX12_leadOf_2
def dkwX12_leadOf_0 : List UInt8 := [3, 61, 28, 42, 180, 0, 34, 182, 0, 30, 162, 0, 43, 42, 180, 0, 34, 28, 182, 0, 57, 58, 4]
abbrev dktX12_leadOf_0 : List UInt8 := dkwX12_leadOf_0 ++ dktX12_leadOf_1
theorem dksX12_leadOf_0 : cX12_leadOf.data.toList.drop 0 = dktX12_leadOf_0 := by decide +kernel
theorem dksX12_leadOf_1 : cX12_leadOf.data.toList.drop 23 = dktX12_leadOf_1 := dk_seg dksX12_leadOf_0 23 rfl rfl
theorem dksX12_leadOf_2 : cX12_leadOf.data.toList.drop 47 = dktX12_leadOf_2 := dk_seg dksX12_leadOf_1 24 rfl rfl
theorem dX12_leadOf_0 : decode cX12_leadOf 0 = .ok (.iconst 0, 1) := dk_3 (dk_at dksX12_leadOf_0 0 rfl rfl)
theorem dX12_leadOf_1 : decode cX12_leadOf 1 = .ok (.istore_n 2, 1) := dk_61 (dk_at dksX12_leadOf_0 1 rfl rfl)
theorem dX12_leadOf_2 : decode cX12_leadOf 2 = .ok (.iload_n 2, 1) := dk_28 (dk_at dksX12_leadOf_0 2 rfl rfl)
theorem dX12_leadOf_3 : decode cX12_leadOf 3 = .ok (.aload_n 0, 1) := dk_42 (dk_at dksX12_leadOf_0 3 rfl rfl)
theorem dX12_leadOf_4 : decode cX12_leadOf 4 = .ok (.getfield 34, 3) := dk_180 0 34 (dk_at dksX12_leadOf_0 4 rfl rfl)
theorem dX12_leadOf_7 : decode cX12_leadOf 7 = .ok (.invokevirtual 30, 3) := dk_182 0 30 (dk_at dksX12_leadOf_0 7 rfl rfl)
theorem dX12_leadOf_10 : decode cX12_leadOf 10 = .ok (.if_icmp .ge 43, 3) := dk_162 0 43 (dk_at dksX12_leadOf_0 10 rfl rfl)
theorem dX12_leadOf_13 : decode cX12_leadOf 13 = .ok (.aload_n 0, 1) := dk_42 (dk_at dksX12_leadOf_0 13 rfl rfl)
theorem dX12_leadOf_14 : decode cX12_leadOf 14 = .ok (.getfield 34, 3) := dk_180 0 34 (dk_at dksX12_leadOf_0 14 rfl rfl)
theorem dX12_leadOf_17 : decode cX12_leadOf 17 = .ok (.iload_n 2, 1) := dk_28 (dk_at dksX12_leadOf_0 17 rfl rfl)
theorem dX12_leadOf_18 : decode cX12_leadOf 18 = .ok (.invokevirtual 57, 3) := dk_182 0 57 (dk_at dksX12_leadOf_0 18 rfl rfl)
theorem dX12_leadOf_21 : decode cX12_leadOf 21 = .ok (.astore 4, 2) := dk_58 4 (dk_at dksX12_leadOf_0 21 rfl rfl)
theorem dX12_leadOf_23 : decode cX12_leadOf 23 = .ok (.aload 4, 2) := dk_25 4 (dk_at dksX12_leadOf_1 0 rfl rfl)
theorem dX12_leadOf_25 : decode cX12_leadOf 25 = .ok (.instanceof 80, 3) := dk_193 0 80 (dk_at dksX12_leadOf_1 2 rfl rfl)
theorem dX12_leadOf_28 : decode cX12_leadOf 28 = .ok (.ifCond .eq 19, 3) := dk_153 0 19 (dk_at dksX12_leadOf_1 5 rfl rfl)
theorem dX12_leadOf_31 : decode cX12_leadOf 31 = .ok (.aload 4, 2) := dk_25 4 (dk_at dksX12_leadOf_1 8 rfl rfl)
theorem dX12_leadOf_33 : decode cX12_leadOf 33 = .ok (.checkcast 80, 3) := dk_192 0 80 (dk_at dksX12_leadOf_1 10 rfl rfl)
theorem dX12_leadOf_36 : decode cX12_leadOf 36 = .ok (.astore_n 3, 1) := dk_78 (dk_at dksX12_leadOf_1 13 rfl rfl)
theorem dX12_leadOf_37 : decode cX12_leadOf 37 = .ok (.aload_n 3, 1) := dk_45 (dk_at dksX12_leadOf_1 14 rfl rfl)
theorem dX12_leadOf_38 : decode cX12_leadOf 38 = .ok (.getfield 82, 3) := dk_180 0 82 (dk_at dksX12_leadOf_1 15 rfl rfl)
theorem dX12_leadOf_41 : decode cX12_leadOf 41 = .ok (.iload_n 1, 1) := dk_27 (dk_at dksX12_leadOf_1 18 rfl rfl)
theorem dX12_leadOf_42 : decode cX12_leadOf 42 = .ok (.if_icmp .ne 5, 3) := dk_160 0 5 (dk_at dksX12_leadOf_1 19 rfl rfl)
theorem dX12_leadOf_45 : decode cX12_leadOf 45 = .ok (.iload_n 2, 1) := dk_28 (dk_at dksX12_leadOf_1 22 rfl rfl)
theorem dX12_leadOf_46 : decode cX12_leadOf 46 = .ok (.ireturn, 1) := dk_172 (dk_at dksX12_leadOf_1 23 rfl rfl)
theorem dX12_leadOf_47 : decode cX12_leadOf 47 = .ok (.iinc 2 1, 3) := dk_132 2 1 (dk_at dksX12_leadOf_2 0 rfl rfl)
theorem dX12_leadOf_50 : decode cX12_leadOf 50 = .ok (.goto (-48), 3) := dk_167 255 208 (dk_at dksX12_leadOf_2 3 rfl rfl)
theorem dX12_leadOf_53 : decode cX12_leadOf 53 = .ok (.iconst (-1), 1) := dk_2 (dk_at dksX12_leadOf_2 6 rfl rfl)
theorem dX12_leadOf_54 : decode cX12_leadOf 54 = .ok (.ireturn, 1) := dk_172 (dk_at dksX12_leadOf_2 7 rfl rfl)
abbrev cX12_baseWithout : ByteArray := prog_4_method_6_code
def yX12_baseWithout : MethodName := ⟨RX12, "baseWithout", "(I)I"⟩
def dkwX12_baseWithout_2 : List UInt8 := [182, 0, 70, 153, 0, 13, 28, 42, 29, 182, 0, 51, 184, 0, 88, 61, 132, 3, 1, 167, 255, 197, 28, 172]
abbrev dktX12_baseWithout_2 : List UInt8 := dkwX12_baseWithout_2 ++ []
def dkwX12_baseWithout_1 : List UInt8 := [182, 0, 57, 192, 0, 38, 182, 0, 61, 2, 159, 0, 30, 29, 42, 27, 182, 0, 85, 159, 0, 21, 42, 29]
abbrev dktX12_baseWithout_1 : List UInt8 := dkwX12_baseWithout_1 ++ dktX12_baseWithout_2
def dkwX12_baseWithout_0 : List UInt8 := [42, 180, 0, 55, 61, 3, 62, 29, 42, 180, 0, 20, 182, 0, 30, 162, 0, 54, 42, 180, 0, 20, 29]
abbrev dktX12_baseWithout_0 : List UInt8 := dkwX12_baseWithout_0 ++ dktX12_baseWithout_1
theorem dksX12_baseWithout_0 : cX12_baseWithout.data.toList.drop 0 = dktX12_baseWithout_0 := by decide +kernel
theorem dksX12_baseWithout_1 : cX12_baseWithout.data.toList.drop 23 = dktX12_baseWithout_1 := dk_seg dksX12_baseWithout_0 23 rfl rfl
theorem dksX12_baseWithout_2 : cX12_baseWithout.data.toList.drop 47 = dktX12_baseWithout_2 := dk_seg dksX12_baseWithout_1 24 rfl rfl
theorem dX12_baseWithout_0 : decode cX12_baseWithout 0 = .ok (.aload_n 0, 1) := dk_42 (dk_at dksX12_baseWithout_0 0 rfl rfl)
theorem dX12_baseWithout_1 : decode cX12_baseWithout 1 = .ok (.getfield 55, 3) := dk_180 0 55 (dk_at dksX12_baseWithout_0 1 rfl rfl)
theorem dX12_baseWithout_4 : decode cX12_baseWithout 4 = .ok (.istore_n 2, 1) := dk_61 (dk_at dksX12_baseWithout_0 4 rfl rfl)
theorem dX12_baseWithout_5 : decode cX12_baseWithout 5 = .ok (.iconst 0, 1) := dk_3 (dk_at dksX12_baseWithout_0 5 rfl rfl)
theorem dX12_baseWithout_6 : decode cX12_baseWithout 6 = .ok (.istore_n 3, 1) := dk_62 (dk_at dksX12_baseWithout_0 6 rfl rfl)
theorem dX12_baseWithout_7 : decode cX12_baseWithout 7 = .ok (.iload_n 3, 1) := dk_29 (dk_at dksX12_baseWithout_0 7 rfl rfl)
theorem dX12_baseWithout_8 : decode cX12_baseWithout 8 = .ok (.aload_n 0, 1) := dk_42 (dk_at dksX12_baseWithout_0 8 rfl rfl)
theorem dX12_baseWithout_9 : decode cX12_baseWithout 9 = .ok (.getfield 20, 3) := dk_180 0 20 (dk_at dksX12_baseWithout_0 9 rfl rfl)
theorem dX12_baseWithout_12 : decode cX12_baseWithout 12 = .ok (.invokevirtual 30, 3) := dk_182 0 30 (dk_at dksX12_baseWithout_0 12 rfl rfl)
theorem dX12_baseWithout_15 : decode cX12_baseWithout 15 = .ok (.if_icmp .ge 54, 3) := dk_162 0 54 (dk_at dksX12_baseWithout_0 15 rfl rfl)
theorem dX12_baseWithout_18 : decode cX12_baseWithout 18 = .ok (.aload_n 0, 1) := dk_42 (dk_at dksX12_baseWithout_0 18 rfl rfl)
theorem dX12_baseWithout_19 : decode cX12_baseWithout 19 = .ok (.getfield 20, 3) := dk_180 0 20 (dk_at dksX12_baseWithout_0 19 rfl rfl)
theorem dX12_baseWithout_22 : decode cX12_baseWithout 22 = .ok (.iload_n 3, 1) := dk_29 (dk_at dksX12_baseWithout_0 22 rfl rfl)
theorem dX12_baseWithout_23 : decode cX12_baseWithout 23 = .ok (.invokevirtual 57, 3) := dk_182 0 57 (dk_at dksX12_baseWithout_1 0 rfl rfl)
theorem dX12_baseWithout_26 : decode cX12_baseWithout 26 = .ok (.checkcast 38, 3) := dk_192 0 38 (dk_at dksX12_baseWithout_1 3 rfl rfl)
theorem dX12_baseWithout_29 : decode cX12_baseWithout 29 = .ok (.invokevirtual 61, 3) := dk_182 0 61 (dk_at dksX12_baseWithout_1 6 rfl rfl)
theorem dX12_baseWithout_32 : decode cX12_baseWithout 32 = .ok (.iconst (-1), 1) := dk_2 (dk_at dksX12_baseWithout_1 9 rfl rfl)
theorem dX12_baseWithout_33 : decode cX12_baseWithout 33 = .ok (.if_icmp .eq 30, 3) := dk_159 0 30 (dk_at dksX12_baseWithout_1 10 rfl rfl)
theorem dX12_baseWithout_36 : decode cX12_baseWithout 36 = .ok (.iload_n 3, 1) := dk_29 (dk_at dksX12_baseWithout_1 13 rfl rfl)
theorem dX12_baseWithout_37 : decode cX12_baseWithout 37 = .ok (.aload_n 0, 1) := dk_42 (dk_at dksX12_baseWithout_1 14 rfl rfl)
theorem dX12_baseWithout_38 : decode cX12_baseWithout 38 = .ok (.iload_n 1, 1) := dk_27 (dk_at dksX12_baseWithout_1 15 rfl rfl)
theorem dX12_baseWithout_39 : decode cX12_baseWithout 39 = .ok (.invokevirtual 85, 3) := dk_182 0 85 (dk_at dksX12_baseWithout_1 16 rfl rfl)
theorem dX12_baseWithout_42 : decode cX12_baseWithout 42 = .ok (.if_icmp .eq 21, 3) := dk_159 0 21 (dk_at dksX12_baseWithout_1 19 rfl rfl)
theorem dX12_baseWithout_45 : decode cX12_baseWithout 45 = .ok (.aload_n 0, 1) := dk_42 (dk_at dksX12_baseWithout_1 22 rfl rfl)
theorem dX12_baseWithout_46 : decode cX12_baseWithout 46 = .ok (.iload_n 3, 1) := dk_29 (dk_at dksX12_baseWithout_1 23 rfl rfl)
theorem dX12_baseWithout_47 : decode cX12_baseWithout 47 = .ok (.invokevirtual 70, 3) := dk_182 0 70 (dk_at dksX12_baseWithout_2 0 rfl rfl)
theorem dX12_baseWithout_50 : decode cX12_baseWithout 50 = .ok (.ifCond .eq 13, 3) := dk_153 0 13 (dk_at dksX12_baseWithout_2 3 rfl rfl)
theorem dX12_baseWithout_53 : decode cX12_baseWithout 53 = .ok (.iload_n 2, 1) := dk_28 (dk_at dksX12_baseWithout_2 6 rfl rfl)
theorem dX12_baseWithout_54 : decode cX12_baseWithout 54 = .ok (.aload_n 0, 1) := dk_42 (dk_at dksX12_baseWithout_2 7 rfl rfl)
theorem dX12_baseWithout_55 : decode cX12_baseWithout 55 = .ok (.iload_n 3, 1) := dk_29 (dk_at dksX12_baseWithout_2 8 rfl rfl)
theorem dX12_baseWithout_56 : decode cX12_baseWithout 56 = .ok (.invokevirtual 51, 3) := dk_182 0 51 (dk_at dksX12_baseWithout_2 9 rfl rfl)
theorem dX12_baseWithout_59 : decode cX12_baseWithout 59 = .ok (.invokestatic 88, 3) := dk_184 0 88 (dk_at dksX12_baseWithout_2 12 rfl rfl)
theorem dX12_baseWithout_62 : decode cX12_baseWithout 62 = .ok (.istore_n 2, 1) := dk_61 (dk_at dksX12_baseWithout_2 15 rfl rfl)
theorem dX12_baseWithout_63 : decode cX12_baseWithout 63 = .ok (.iinc 3 1, 3) := dk_132 3 1 (dk_at dksX12_baseWithout_2 16 rfl rfl)
theorem dX12_baseWithout_66 : decode cX12_baseWithout 66 = .ok (.goto (-59), 3) := dk_167 255 197 (dk_at dksX12_baseWithout_2 19 rfl rfl)
theorem dX12_baseWithout_69 : decode cX12_baseWithout 69 = .ok (.iload_n 2, 1) := dk_28 (dk_at dksX12_baseWithout_2 22 rfl rfl)
theorem dX12_baseWithout_70 : decode cX12_baseWithout 70 = .ok (.ireturn, 1) := dk_172 (dk_at dksX12_baseWithout_2 23 rfl rfl)
abbrev cX13_init : ByteArray := prog_16_method_1_code
def yX13_init : MethodName := ⟨RX13, "<init>", "(I)V"⟩
def dkwX13_init_0 : List UInt8 := [42, 183, 0, 1, 42, 27, 181, 0, 7, 177]
abbrev dktX13_init_0 : List UInt8 := dkwX13_init_0 ++ []
theorem dksX13_init_0 : cX13_init.data.toList.drop 0 = dktX13_init_0 := by decide +kernel
theorem dX13_init_0 : decode cX13_init 0 = .ok (.aload_n 0, 1) := dk_42 (dk_at dksX13_init_0 0 rfl rfl)
theorem dX13_init_1 : decode cX13_init 1 = .ok (.invokespecial 1, 3) := dk_183 0 1 (dk_at dksX13_init_0 1 rfl rfl)
theorem dX13_init_4 : decode cX13_init 4 = .ok (.aload_n 0, 1) := dk_42 (dk_at dksX13_init_0 4 rfl rfl)
theorem dX13_init_5 : decode cX13_init 5 = .ok (.iload_n 1, 1) := dk_27 (dk_at dksX13_init_0 5 rfl rfl)
theorem dX13_init_6 : decode cX13_init 6 = .ok (.putfield 7, 3) := dk_181 0 7 (dk_at dksX13_init_0 6 rfl rfl)
theorem dX13_init_9 : decode cX13_init 9 = .ok (.return_, 1) := dk_177 (dk_at dksX13_init_0 9 rfl rfl)
abbrev cX13_due : ByteArray := prog_16_method_2_code
def yX13_due : MethodName := ⟨RX13, "due", "(I)I"⟩
def dkwX13_due_0 : List UInt8 := [27, 42, 180, 0, 7, 96, 172]
abbrev dktX13_due_0 : List UInt8 := dkwX13_due_0 ++ []
theorem dksX13_due_0 : cX13_due.data.toList.drop 0 = dktX13_due_0 := by decide +kernel
theorem dX13_due_0 : decode cX13_due 0 = .ok (.iload_n 1, 1) := dk_27 (dk_at dksX13_due_0 0 rfl rfl)
theorem dX13_due_1 : decode cX13_due 1 = .ok (.aload_n 0, 1) := dk_42 (dk_at dksX13_due_0 1 rfl rfl)
theorem dX13_due_2 : decode cX13_due 2 = .ok (.getfield 7, 3) := dk_180 0 7 (dk_at dksX13_due_0 2 rfl rfl)
theorem dX13_due_5 : decode cX13_due 5 = .ok (.iadd, 1) := dk_96 (dk_at dksX13_due_0 5 rfl rfl)
theorem dX13_due_6 : decode cX13_due 6 = .ok (.ireturn, 1) := dk_172 (dk_at dksX13_due_0 6 rfl rfl)
abbrev cX14_init : ByteArray := prog_18_method_1_code
def yX14_init : MethodName := ⟨RX14, "<init>", "()V"⟩
theorem dX14_init_0 : decode cX14_init 0 = .ok (.aload_n 0, 1) := by decide +kernel
theorem dX14_init_1 : decode cX14_init 1 = .ok (.invokespecial 3, 3) := by decide +kernel
theorem dX14_init_4 : decode cX14_init 4 = .ok (.return_, 1) := by decide +kernel
abbrev cX14_due : ByteArray := prog_18_method_2_code
def yX14_due : MethodName := ⟨RX14, "due", "(I)I"⟩
def dkwX14_due_0 : List UInt8 := [27, 16, 10, 96, 172]
abbrev dktX14_due_0 : List UInt8 := dkwX14_due_0 ++ []
theorem dksX14_due_0 : cX14_due.data.toList.drop 0 = dktX14_due_0 := by decide +kernel
theorem dX14_due_0 : decode cX14_due 0 = .ok (.iload_n 1, 1) := dk_27 (dk_at dksX14_due_0 0 rfl rfl)
theorem dX14_due_1 : decode cX14_due 1 = .ok (.bipush 10, 2) := dk_16 10 (dk_at dksX14_due_0 1 rfl rfl)
theorem dX14_due_3 : decode cX14_due 3 = .ok (.iadd, 1) := dk_96 (dk_at dksX14_due_0 3 rfl rfl)
theorem dX14_due_4 : decode cX14_due 4 = .ok (.ireturn, 1) := dk_172 (dk_at dksX14_due_0 4 rfl rfl)
abbrev cX15_init : ByteArray := prog_19_method_1_code
def yX15_init : MethodName := ⟨RX15, "<init>", "(II)V"⟩
def dkwX15_init_0 : List UInt8 := [42, 183, 0, 1, 42, 27, 181, 0, 7, 42, 28, 181, 0, 13, 177]
abbrev dktX15_init_0 : List UInt8 := dkwX15_init_0 ++ []
theorem dksX15_init_0 : cX15_init.data.toList.drop 0 = dktX15_init_0 := by decide +kernel
theorem dX15_init_0 : decode cX15_init 0 = .ok (.aload_n 0, 1) := dk_42 (dk_at dksX15_init_0 0 rfl rfl)
theorem dX15_init_1 : decode cX15_init 1 = .ok (.invokespecial 1, 3) := dk_183 0 1 (dk_at dksX15_init_0 1 rfl rfl)
theorem dX15_init_4 : decode cX15_init 4 = .ok (.aload_n 0, 1) := dk_42 (dk_at dksX15_init_0 4 rfl rfl)
theorem dX15_init_5 : decode cX15_init 5 = .ok (.iload_n 1, 1) := dk_27 (dk_at dksX15_init_0 5 rfl rfl)
theorem dX15_init_6 : decode cX15_init 6 = .ok (.putfield 7, 3) := dk_181 0 7 (dk_at dksX15_init_0 6 rfl rfl)
theorem dX15_init_9 : decode cX15_init 9 = .ok (.aload_n 0, 1) := dk_42 (dk_at dksX15_init_0 9 rfl rfl)
theorem dX15_init_10 : decode cX15_init 10 = .ok (.iload_n 2, 1) := dk_28 (dk_at dksX15_init_0 10 rfl rfl)
theorem dX15_init_11 : decode cX15_init 11 = .ok (.putfield 13, 3) := dk_181 0 13 (dk_at dksX15_init_0 11 rfl rfl)
theorem dX15_init_14 : decode cX15_init 14 = .ok (.return_, 1) := dk_177 (dk_at dksX15_init_0 14 rfl rfl)
abbrev cX15_due : ByteArray := prog_19_method_2_code
def yX15_due : MethodName := ⟨RX15, "due", "(I)I"⟩
def dkwX15_due_0 : List UInt8 := [27, 42, 180, 0, 13, 96, 172]
abbrev dktX15_due_0 : List UInt8 := dkwX15_due_0 ++ []
theorem dksX15_due_0 : cX15_due.data.toList.drop 0 = dktX15_due_0 := by decide +kernel
theorem dX15_due_0 : decode cX15_due 0 = .ok (.iload_n 1, 1) := dk_27 (dk_at dksX15_due_0 0 rfl rfl)
theorem dX15_due_1 : decode cX15_due 1 = .ok (.aload_n 0, 1) := dk_42 (dk_at dksX15_due_0 1 rfl rfl)
theorem dX15_due_2 : decode cX15_due 2 = .ok (.getfield 13, 3) := dk_180 0 13 (dk_at dksX15_due_0 2 rfl rfl)
theorem dX15_due_5 : decode cX15_due 5 = .ok (.iadd, 1) := dk_96 (dk_at dksX15_due_0 5 rfl rfl)
theorem dX15_due_6 : decode cX15_due 6 = .ok (.ireturn, 1) := dk_172 (dk_at dksX15_due_0 6 rfl rfl)
abbrev cX16_init : ByteArray := prog_10_method_1_code
def yX16_init : MethodName := ⟨RX16, "<init>", "(Ljava/lang/String;)V"⟩
def dkwX16_init_0 : List UInt8 := [42, 183, 0, 3, 42, 187, 0, 9, 89, 183, 0, 11, 181, 0, 12, 42, 43, 181, 0, 18, 177]
abbrev dktX16_init_0 : List UInt8 := dkwX16_init_0 ++ []
theorem dksX16_init_0 : cX16_init.data.toList.drop 0 = dktX16_init_0 := by decide +kernel
theorem dX16_init_0 : decode cX16_init 0 = .ok (.aload_n 0, 1) := dk_42 (dk_at dksX16_init_0 0 rfl rfl)
theorem dX16_init_1 : decode cX16_init 1 = .ok (.invokespecial 3, 3) := dk_183 0 3 (dk_at dksX16_init_0 1 rfl rfl)
theorem dX16_init_4 : decode cX16_init 4 = .ok (.aload_n 0, 1) := dk_42 (dk_at dksX16_init_0 4 rfl rfl)
theorem dX16_init_5 : decode cX16_init 5 = .ok (.new 9, 3) := dk_187 0 9 (dk_at dksX16_init_0 5 rfl rfl)
theorem dX16_init_8 : decode cX16_init 8 = .ok (.dup, 1) := dk_89 (dk_at dksX16_init_0 8 rfl rfl)
theorem dX16_init_9 : decode cX16_init 9 = .ok (.invokespecial 11, 3) := dk_183 0 11 (dk_at dksX16_init_0 9 rfl rfl)
theorem dX16_init_12 : decode cX16_init 12 = .ok (.putfield 12, 3) := dk_181 0 12 (dk_at dksX16_init_0 12 rfl rfl)
theorem dX16_init_15 : decode cX16_init 15 = .ok (.aload_n 0, 1) := dk_42 (dk_at dksX16_init_0 15 rfl rfl)
theorem dX16_init_16 : decode cX16_init 16 = .ok (.aload_n 1, 1) := dk_43 (dk_at dksX16_init_0 16 rfl rfl)
theorem dX16_init_17 : decode cX16_init 17 = .ok (.putfield 18, 3) := dk_181 0 18 (dk_at dksX16_init_0 17 rfl rfl)
theorem dX16_init_20 : decode cX16_init 20 = .ok (.return_, 1) := dk_177 (dk_at dksX16_init_0 20 rfl rfl)
abbrev cX16_fault : ByteArray := prog_10_method_11_code
def yX16_fault : MethodName := ⟨RX16, "fault", "()I"⟩
def dkwX16_fault_2 : List UInt8 := [153, 0, 10, 42, 180, 0, 22, 167, 0, 4, 2, 172]
abbrev dktX16_fault_2 : List UInt8 := dkwX16_fault_2 ++ []
def dkwX16_fault_1 : List UInt8 := [180, 0, 18, 182, 0, 26, 162, 0, 7, 4, 167, 0, 4, 3, 128, 181, 0, 36, 42, 180, 0, 36]
abbrev dktX16_fault_1 : List UInt8 := dkwX16_fault_1 ++ dktX16_fault_2
def dkwX16_fault_0 : List UInt8 := [42, 182, 0, 126, 42, 16, 59, 182, 0, 44, 154, 255, 246, 42, 89, 180, 0, 36, 42, 180, 0, 22, 42]
abbrev dktX16_fault_0 : List UInt8 := dkwX16_fault_0 ++ dktX16_fault_1
theorem dksX16_fault_0 : cX16_fault.data.toList.drop 0 = dktX16_fault_0 := by decide +kernel
theorem dksX16_fault_1 : cX16_fault.data.toList.drop 23 = dktX16_fault_1 := dk_seg dksX16_fault_0 23 rfl rfl
theorem dksX16_fault_2 : cX16_fault.data.toList.drop 45 = dktX16_fault_2 := dk_seg dksX16_fault_1 22 rfl rfl
theorem dX16_fault_0 : decode cX16_fault 0 = .ok (.aload_n 0, 1) := dk_42 (dk_at dksX16_fault_0 0 rfl rfl)
theorem dX16_fault_1 : decode cX16_fault 1 = .ok (.invokevirtual 126, 3) := dk_182 0 126 (dk_at dksX16_fault_0 1 rfl rfl)
theorem dX16_fault_4 : decode cX16_fault 4 = .ok (.aload_n 0, 1) := dk_42 (dk_at dksX16_fault_0 4 rfl rfl)
theorem dX16_fault_5 : decode cX16_fault 5 = .ok (.bipush 59, 2) := dk_16 59 (dk_at dksX16_fault_0 5 rfl rfl)
theorem dX16_fault_7 : decode cX16_fault 7 = .ok (.invokevirtual 44, 3) := dk_182 0 44 (dk_at dksX16_fault_0 7 rfl rfl)
theorem dX16_fault_10 : decode cX16_fault 10 = .ok (.ifCond .ne (-10), 3) := dk_154 255 246 (dk_at dksX16_fault_0 10 rfl rfl)
theorem dX16_fault_13 : decode cX16_fault 13 = .ok (.aload_n 0, 1) := dk_42 (dk_at dksX16_fault_0 13 rfl rfl)
theorem dX16_fault_14 : decode cX16_fault 14 = .ok (.dup, 1) := dk_89 (dk_at dksX16_fault_0 14 rfl rfl)
theorem dX16_fault_15 : decode cX16_fault 15 = .ok (.getfield 36, 3) := dk_180 0 36 (dk_at dksX16_fault_0 15 rfl rfl)
theorem dX16_fault_18 : decode cX16_fault 18 = .ok (.aload_n 0, 1) := dk_42 (dk_at dksX16_fault_0 18 rfl rfl)
theorem dX16_fault_19 : decode cX16_fault 19 = .ok (.getfield 22, 3) := dk_180 0 22 (dk_at dksX16_fault_0 19 rfl rfl)
theorem dX16_fault_22 : decode cX16_fault 22 = .ok (.aload_n 0, 1) := dk_42 (dk_at dksX16_fault_0 22 rfl rfl)
theorem dX16_fault_23 : decode cX16_fault 23 = .ok (.getfield 18, 3) := dk_180 0 18 (dk_at dksX16_fault_1 0 rfl rfl)
theorem dX16_fault_26 : decode cX16_fault 26 = .ok (.invokevirtual 26, 3) := dk_182 0 26 (dk_at dksX16_fault_1 3 rfl rfl)
theorem dX16_fault_29 : decode cX16_fault 29 = .ok (.if_icmp .ge 7, 3) := dk_162 0 7 (dk_at dksX16_fault_1 6 rfl rfl)
theorem dX16_fault_32 : decode cX16_fault 32 = .ok (.iconst 1, 1) := dk_4 (dk_at dksX16_fault_1 9 rfl rfl)
theorem dX16_fault_33 : decode cX16_fault 33 = .ok (.goto 4, 3) := dk_167 0 4 (dk_at dksX16_fault_1 10 rfl rfl)
theorem dX16_fault_36 : decode cX16_fault 36 = .ok (.iconst 0, 1) := dk_3 (dk_at dksX16_fault_1 13 rfl rfl)
theorem dX16_fault_37 : decode cX16_fault 37 = .ok (.ior, 1) := dk_128 (dk_at dksX16_fault_1 14 rfl rfl)
theorem dX16_fault_38 : decode cX16_fault 38 = .ok (.putfield 36, 3) := dk_181 0 36 (dk_at dksX16_fault_1 15 rfl rfl)
theorem dX16_fault_41 : decode cX16_fault 41 = .ok (.aload_n 0, 1) := dk_42 (dk_at dksX16_fault_1 18 rfl rfl)
theorem dX16_fault_42 : decode cX16_fault 42 = .ok (.getfield 36, 3) := dk_180 0 36 (dk_at dksX16_fault_1 19 rfl rfl)
theorem dX16_fault_45 : decode cX16_fault 45 = .ok (.ifCond .eq 10, 3) := dk_153 0 10 (dk_at dksX16_fault_2 0 rfl rfl)
theorem dX16_fault_48 : decode cX16_fault 48 = .ok (.aload_n 0, 1) := dk_42 (dk_at dksX16_fault_2 3 rfl rfl)
theorem dX16_fault_49 : decode cX16_fault 49 = .ok (.getfield 22, 3) := dk_180 0 22 (dk_at dksX16_fault_2 4 rfl rfl)
theorem dX16_fault_52 : decode cX16_fault 52 = .ok (.goto 4, 3) := dk_167 0 4 (dk_at dksX16_fault_2 7 rfl rfl)
theorem dX16_fault_55 : decode cX16_fault 55 = .ok (.iconst (-1), 1) := dk_2 (dk_at dksX16_fault_2 10 rfl rfl)
theorem dX16_fault_56 : decode cX16_fault 56 = .ok (.ireturn, 1) := dk_172 (dk_at dksX16_fault_2 11 rfl rfl)
abbrev cX16_command : ByteArray := prog_10_method_10_code
def yX16_command : MethodName := ⟨RX16, "command", "()V"⟩
def dkwX16_command_5 : List UInt8 := [79, 132, 3, 1, 132, 4, 1, 167, 255, 166, 42, 180, 0, 12, 43, 182, 0, 123, 87, 177]
abbrev dktX16_command_5 : List UInt8 := dkwX16_command_5 ++ []
def dkwX16_command_4 : List UInt8 := [181, 0, 36, 167, 0, 25, 43, 180, 0, 115, 29, 42, 44, 21, 4, 182, 0, 32, 16, 48, 100, 182, 0, 119]
abbrev dktX16_command_4 : List UInt8 := dkwX16_command_4 ++ dktX16_command_5
def dkwX16_command_3 : List UInt8 := [42, 43, 180, 0, 112, 154, 0, 16, 42, 16, 100, 182, 0, 44, 154, 0, 7, 4, 167, 0, 4, 3]
abbrev dktX16_command_3 : List UInt8 := dkwX16_command_3 ++ dktX16_command_4
def dkwX16_command_2 : List UInt8 := [154, 0, 80, 44, 21, 4, 182, 0, 32, 16, 115, 160, 0, 41, 43, 42, 16, 97, 182, 0, 44, 181, 0, 112]
abbrev dktX16_command_2 : List UInt8 := dkwX16_command_2 ++ dktX16_command_3
def dkwX16_command_1 : List UInt8 := [184, 0, 108, 77, 3, 62, 3, 54, 4, 21, 4, 44, 182, 0, 26, 162, 0, 87, 42, 180, 0, 36]
abbrev dktX16_command_1 : List UInt8 := dkwX16_command_1 ++ dktX16_command_2
def dkwX16_command_0 : List UInt8 := [187, 0, 99, 89, 42, 182, 0, 101, 183, 0, 104, 76, 42, 43, 180, 0, 106, 182, 0, 50, 43, 180, 0, 106]
abbrev dktX16_command_0 : List UInt8 := dkwX16_command_0 ++ dktX16_command_1
theorem dksX16_command_0 : cX16_command.data.toList.drop 0 = dktX16_command_0 := by decide +kernel
theorem dksX16_command_1 : cX16_command.data.toList.drop 24 = dktX16_command_1 := dk_seg dksX16_command_0 24 rfl rfl
theorem dksX16_command_2 : cX16_command.data.toList.drop 46 = dktX16_command_2 := dk_seg dksX16_command_1 22 rfl rfl
theorem dksX16_command_3 : cX16_command.data.toList.drop 70 = dktX16_command_3 := dk_seg dksX16_command_2 24 rfl rfl
theorem dksX16_command_4 : cX16_command.data.toList.drop 92 = dktX16_command_4 := dk_seg dksX16_command_3 22 rfl rfl
theorem dksX16_command_5 : cX16_command.data.toList.drop 116 = dktX16_command_5 := dk_seg dksX16_command_4 24 rfl rfl
theorem dX16_command_0 : decode cX16_command 0 = .ok (.new 99, 3) := dk_187 0 99 (dk_at dksX16_command_0 0 rfl rfl)
theorem dX16_command_3 : decode cX16_command 3 = .ok (.dup, 1) := dk_89 (dk_at dksX16_command_0 3 rfl rfl)
theorem dX16_command_4 : decode cX16_command 4 = .ok (.aload_n 0, 1) := dk_42 (dk_at dksX16_command_0 4 rfl rfl)
theorem dX16_command_5 : decode cX16_command 5 = .ok (.invokevirtual 101, 3) := dk_182 0 101 (dk_at dksX16_command_0 5 rfl rfl)
theorem dX16_command_8 : decode cX16_command 8 = .ok (.invokespecial 104, 3) := dk_183 0 104 (dk_at dksX16_command_0 8 rfl rfl)
theorem dX16_command_11 : decode cX16_command 11 = .ok (.astore_n 1, 1) := dk_76 (dk_at dksX16_command_0 11 rfl rfl)
theorem dX16_command_12 : decode cX16_command 12 = .ok (.aload_n 0, 1) := dk_42 (dk_at dksX16_command_0 12 rfl rfl)
theorem dX16_command_13 : decode cX16_command 13 = .ok (.aload_n 1, 1) := dk_43 (dk_at dksX16_command_0 13 rfl rfl)
theorem dX16_command_14 : decode cX16_command 14 = .ok (.getfield 106, 3) := dk_180 0 106 (dk_at dksX16_command_0 14 rfl rfl)
theorem dX16_command_17 : decode cX16_command 17 = .ok (.invokevirtual 50, 3) := dk_182 0 50 (dk_at dksX16_command_0 17 rfl rfl)
theorem dX16_command_20 : decode cX16_command 20 = .ok (.aload_n 1, 1) := dk_43 (dk_at dksX16_command_0 20 rfl rfl)
theorem dX16_command_21 : decode cX16_command 21 = .ok (.getfield 106, 3) := dk_180 0 106 (dk_at dksX16_command_0 21 rfl rfl)
theorem dX16_command_24 : decode cX16_command 24 = .ok (.invokestatic 108, 3) := dk_184 0 108 (dk_at dksX16_command_1 0 rfl rfl)
theorem dX16_command_27 : decode cX16_command 27 = .ok (.astore_n 2, 1) := dk_77 (dk_at dksX16_command_1 3 rfl rfl)
theorem dX16_command_28 : decode cX16_command 28 = .ok (.iconst 0, 1) := dk_3 (dk_at dksX16_command_1 4 rfl rfl)
theorem dX16_command_29 : decode cX16_command 29 = .ok (.istore_n 3, 1) := dk_62 (dk_at dksX16_command_1 5 rfl rfl)
theorem dX16_command_30 : decode cX16_command 30 = .ok (.iconst 0, 1) := dk_3 (dk_at dksX16_command_1 6 rfl rfl)
theorem dX16_command_31 : decode cX16_command 31 = .ok (.istore 4, 2) := dk_54 4 (dk_at dksX16_command_1 7 rfl rfl)
theorem dX16_command_33 : decode cX16_command 33 = .ok (.iload 4, 2) := dk_21 4 (dk_at dksX16_command_1 9 rfl rfl)
theorem dX16_command_35 : decode cX16_command 35 = .ok (.aload_n 2, 1) := dk_44 (dk_at dksX16_command_1 11 rfl rfl)
theorem dX16_command_36 : decode cX16_command 36 = .ok (.invokevirtual 26, 3) := dk_182 0 26 (dk_at dksX16_command_1 12 rfl rfl)
theorem dX16_command_39 : decode cX16_command 39 = .ok (.if_icmp .ge 87, 3) := dk_162 0 87 (dk_at dksX16_command_1 15 rfl rfl)
theorem dX16_command_42 : decode cX16_command 42 = .ok (.aload_n 0, 1) := dk_42 (dk_at dksX16_command_1 18 rfl rfl)
theorem dX16_command_43 : decode cX16_command 43 = .ok (.getfield 36, 3) := dk_180 0 36 (dk_at dksX16_command_1 19 rfl rfl)
theorem dX16_command_46 : decode cX16_command 46 = .ok (.ifCond .ne 80, 3) := dk_154 0 80 (dk_at dksX16_command_2 0 rfl rfl)
theorem dX16_command_49 : decode cX16_command 49 = .ok (.aload_n 2, 1) := dk_44 (dk_at dksX16_command_2 3 rfl rfl)
theorem dX16_command_50 : decode cX16_command 50 = .ok (.iload 4, 2) := dk_21 4 (dk_at dksX16_command_2 4 rfl rfl)
theorem dX16_command_52 : decode cX16_command 52 = .ok (.invokevirtual 32, 3) := dk_182 0 32 (dk_at dksX16_command_2 6 rfl rfl)
theorem dX16_command_55 : decode cX16_command 55 = .ok (.bipush 115, 2) := dk_16 115 (dk_at dksX16_command_2 9 rfl rfl)
theorem dX16_command_57 : decode cX16_command 57 = .ok (.if_icmp .ne 41, 3) := dk_160 0 41 (dk_at dksX16_command_2 11 rfl rfl)
theorem dX16_command_60 : decode cX16_command 60 = .ok (.aload_n 1, 1) := dk_43 (dk_at dksX16_command_2 14 rfl rfl)
theorem dX16_command_61 : decode cX16_command 61 = .ok (.aload_n 0, 1) := dk_42 (dk_at dksX16_command_2 15 rfl rfl)
theorem dX16_command_62 : decode cX16_command 62 = .ok (.bipush 97, 2) := dk_16 97 (dk_at dksX16_command_2 16 rfl rfl)
theorem dX16_command_64 : decode cX16_command 64 = .ok (.invokevirtual 44, 3) := dk_182 0 44 (dk_at dksX16_command_2 18 rfl rfl)
theorem dX16_command_67 : decode cX16_command 67 = .ok (.putfield 112, 3) := dk_181 0 112 (dk_at dksX16_command_2 21 rfl rfl)
theorem dX16_command_70 : decode cX16_command 70 = .ok (.aload_n 0, 1) := dk_42 (dk_at dksX16_command_3 0 rfl rfl)
theorem dX16_command_71 : decode cX16_command 71 = .ok (.aload_n 1, 1) := dk_43 (dk_at dksX16_command_3 1 rfl rfl)
theorem dX16_command_72 : decode cX16_command 72 = .ok (.getfield 112, 3) := dk_180 0 112 (dk_at dksX16_command_3 2 rfl rfl)
theorem dX16_command_75 : decode cX16_command 75 = .ok (.ifCond .ne 16, 3) := dk_154 0 16 (dk_at dksX16_command_3 5 rfl rfl)
theorem dX16_command_78 : decode cX16_command 78 = .ok (.aload_n 0, 1) := dk_42 (dk_at dksX16_command_3 8 rfl rfl)
theorem dX16_command_79 : decode cX16_command 79 = .ok (.bipush 100, 2) := dk_16 100 (dk_at dksX16_command_3 9 rfl rfl)
theorem dX16_command_81 : decode cX16_command 81 = .ok (.invokevirtual 44, 3) := dk_182 0 44 (dk_at dksX16_command_3 11 rfl rfl)
theorem dX16_command_84 : decode cX16_command 84 = .ok (.ifCond .ne 7, 3) := dk_154 0 7 (dk_at dksX16_command_3 14 rfl rfl)
theorem dX16_command_87 : decode cX16_command 87 = .ok (.iconst 1, 1) := dk_4 (dk_at dksX16_command_3 17 rfl rfl)
theorem dX16_command_88 : decode cX16_command 88 = .ok (.goto 4, 3) := dk_167 0 4 (dk_at dksX16_command_3 18 rfl rfl)
theorem dX16_command_91 : decode cX16_command 91 = .ok (.iconst 0, 1) := dk_3 (dk_at dksX16_command_3 21 rfl rfl)
theorem dX16_command_92 : decode cX16_command 92 = .ok (.putfield 36, 3) := dk_181 0 36 (dk_at dksX16_command_4 0 rfl rfl)
theorem dX16_command_95 : decode cX16_command 95 = .ok (.goto 25, 3) := dk_167 0 25 (dk_at dksX16_command_4 3 rfl rfl)
theorem dX16_command_98 : decode cX16_command 98 = .ok (.aload_n 1, 1) := dk_43 (dk_at dksX16_command_4 6 rfl rfl)
theorem dX16_command_99 : decode cX16_command 99 = .ok (.getfield 115, 3) := dk_180 0 115 (dk_at dksX16_command_4 7 rfl rfl)
theorem dX16_command_102 : decode cX16_command 102 = .ok (.iload_n 3, 1) := dk_29 (dk_at dksX16_command_4 10 rfl rfl)
theorem dX16_command_103 : decode cX16_command 103 = .ok (.aload_n 0, 1) := dk_42 (dk_at dksX16_command_4 11 rfl rfl)
theorem dX16_command_104 : decode cX16_command 104 = .ok (.aload_n 2, 1) := dk_44 (dk_at dksX16_command_4 12 rfl rfl)
theorem dX16_command_105 : decode cX16_command 105 = .ok (.iload 4, 2) := dk_21 4 (dk_at dksX16_command_4 13 rfl rfl)
theorem dX16_command_107 : decode cX16_command 107 = .ok (.invokevirtual 32, 3) := dk_182 0 32 (dk_at dksX16_command_4 15 rfl rfl)
theorem dX16_command_110 : decode cX16_command 110 = .ok (.bipush 48, 2) := dk_16 48 (dk_at dksX16_command_4 18 rfl rfl)
theorem dX16_command_112 : decode cX16_command 112 = .ok (.isub, 1) := dk_100 (dk_at dksX16_command_4 20 rfl rfl)
theorem dX16_command_113 : decode cX16_command 113 = .ok (.invokevirtual 119, 3) := dk_182 0 119 (dk_at dksX16_command_4 21 rfl rfl)
theorem dX16_command_116 : decode cX16_command 116 = .ok (.iastore, 1) := dk_79 (dk_at dksX16_command_5 0 rfl rfl)
theorem dX16_command_117 : decode cX16_command 117 = .ok (.iinc 3 1, 3) := dk_132 3 1 (dk_at dksX16_command_5 1 rfl rfl)
theorem dX16_command_120 : decode cX16_command 120 = .ok (.iinc 4 1, 3) := dk_132 4 1 (dk_at dksX16_command_5 4 rfl rfl)
theorem dX16_command_123 : decode cX16_command 123 = .ok (.goto (-90), 3) := dk_167 255 166 (dk_at dksX16_command_5 7 rfl rfl)
theorem dX16_command_126 : decode cX16_command 126 = .ok (.aload_n 0, 1) := dk_42 (dk_at dksX16_command_5 10 rfl rfl)
theorem dX16_command_127 : decode cX16_command 127 = .ok (.getfield 12, 3) := dk_180 0 12 (dk_at dksX16_command_5 11 rfl rfl)
theorem dX16_command_130 : decode cX16_command 130 = .ok (.aload_n 1, 1) := dk_43 (dk_at dksX16_command_5 14 rfl rfl)
theorem dX16_command_131 : decode cX16_command 131 = .ok (.invokevirtual 123, 3) := dk_182 0 123 (dk_at dksX16_command_5 15 rfl rfl)
theorem dX16_command_134 : decode cX16_command 134 = .ok (.pop, 1) := dk_87 (dk_at dksX16_command_5 18 rfl rfl)
theorem dX16_command_135 : decode cX16_command 135 = .ok (.return_, 1) := dk_177 (dk_at dksX16_command_5 19 rfl rfl)
abbrev cX16_word : ByteArray := prog_10_method_8_code
def yX16_word : MethodName := ⟨RX16, "word", "()Ljava/lang/String;"⟩
def dkwX16_word_5 : List UInt8 := [181, 0, 36, 18, 66, 176]
abbrev dktX16_word_5 : List UInt8 := dkwX16_word_5 ++ []
def dkwX16_word_4 : List UInt8 := [180, 0, 22, 4, 96, 182, 0, 32, 16, 111, 160, 0, 8, 18, 74, 167, 0, 5, 18, 76, 176, 42, 4]
abbrev dktX16_word_4 : List UInt8 := dkwX16_word_4 ++ dktX16_word_5
def dkwX16_word_3 : List UInt8 := [18, 72, 176, 42, 180, 0, 22, 4, 96, 42, 180, 0, 18, 182, 0, 26, 162, 0, 26, 42, 180, 0, 18, 42]
abbrev dktX16_word_3 : List UInt8 := dkwX16_word_3 ++ dktX16_word_4
def dkwX16_word_2 : List UInt8 := [171, 0, 0, 0, 0, 0, 72, 0, 0, 0, 2, 0, 0, 0, 99, 0, 0, 0, 30, 0, 0, 0, 116, 0, 0, 0, 27]
abbrev dktX16_word_2 : List UInt8 := dkwX16_word_2 ++ dktX16_word_3
def dkwX16_word_1 : List UInt8 := [153, 0, 7, 3, 167, 0, 4, 4, 100, 181, 0, 22, 43, 176, 42, 182, 0, 40]
abbrev dktX16_word_1 : List UInt8 := dkwX16_word_1 ++ dktX16_word_2
def dkwX16_word_0 : List UInt8 := [42, 16, 108, 182, 0, 44, 153, 0, 31, 42, 182, 0, 68, 76, 42, 89, 180, 0, 22, 42, 180, 0, 36]
abbrev dktX16_word_0 : List UInt8 := dkwX16_word_0 ++ dktX16_word_1
theorem dksX16_word_0 : cX16_word.data.toList.drop 0 = dktX16_word_0 := by decide +kernel
theorem dksX16_word_1 : cX16_word.data.toList.drop 23 = dktX16_word_1 := dk_seg dksX16_word_0 23 rfl rfl
theorem dksX16_word_2 : cX16_word.data.toList.drop 41 = dktX16_word_2 := dk_seg dksX16_word_1 18 rfl rfl
theorem dksX16_word_3 : cX16_word.data.toList.drop 68 = dktX16_word_3 := dk_seg dksX16_word_2 27 rfl rfl
theorem dksX16_word_4 : cX16_word.data.toList.drop 92 = dktX16_word_4 := dk_seg dksX16_word_3 24 rfl rfl
theorem dksX16_word_5 : cX16_word.data.toList.drop 115 = dktX16_word_5 := dk_seg dksX16_word_4 23 rfl rfl
theorem dX16_word_0 : decode cX16_word 0 = .ok (.aload_n 0, 1) := dk_42 (dk_at dksX16_word_0 0 rfl rfl)
theorem dX16_word_1 : decode cX16_word 1 = .ok (.bipush 108, 2) := dk_16 108 (dk_at dksX16_word_0 1 rfl rfl)
theorem dX16_word_3 : decode cX16_word 3 = .ok (.invokevirtual 44, 3) := dk_182 0 44 (dk_at dksX16_word_0 3 rfl rfl)
theorem dX16_word_6 : decode cX16_word 6 = .ok (.ifCond .eq 31, 3) := dk_153 0 31 (dk_at dksX16_word_0 6 rfl rfl)
theorem dX16_word_9 : decode cX16_word 9 = .ok (.aload_n 0, 1) := dk_42 (dk_at dksX16_word_0 9 rfl rfl)
theorem dX16_word_10 : decode cX16_word 10 = .ok (.invokevirtual 68, 3) := dk_182 0 68 (dk_at dksX16_word_0 10 rfl rfl)
theorem dX16_word_13 : decode cX16_word 13 = .ok (.astore_n 1, 1) := dk_76 (dk_at dksX16_word_0 13 rfl rfl)
theorem dX16_word_14 : decode cX16_word 14 = .ok (.aload_n 0, 1) := dk_42 (dk_at dksX16_word_0 14 rfl rfl)
theorem dX16_word_15 : decode cX16_word 15 = .ok (.dup, 1) := dk_89 (dk_at dksX16_word_0 15 rfl rfl)
theorem dX16_word_16 : decode cX16_word 16 = .ok (.getfield 22, 3) := dk_180 0 22 (dk_at dksX16_word_0 16 rfl rfl)
theorem dX16_word_19 : decode cX16_word 19 = .ok (.aload_n 0, 1) := dk_42 (dk_at dksX16_word_0 19 rfl rfl)
theorem dX16_word_20 : decode cX16_word 20 = .ok (.getfield 36, 3) := dk_180 0 36 (dk_at dksX16_word_0 20 rfl rfl)
theorem dX16_word_23 : decode cX16_word 23 = .ok (.ifCond .eq 7, 3) := dk_153 0 7 (dk_at dksX16_word_1 0 rfl rfl)
theorem dX16_word_26 : decode cX16_word 26 = .ok (.iconst 0, 1) := dk_3 (dk_at dksX16_word_1 3 rfl rfl)
theorem dX16_word_27 : decode cX16_word 27 = .ok (.goto 4, 3) := dk_167 0 4 (dk_at dksX16_word_1 4 rfl rfl)
theorem dX16_word_30 : decode cX16_word 30 = .ok (.iconst 1, 1) := dk_4 (dk_at dksX16_word_1 7 rfl rfl)
theorem dX16_word_31 : decode cX16_word 31 = .ok (.isub, 1) := dk_100 (dk_at dksX16_word_1 8 rfl rfl)
theorem dX16_word_32 : decode cX16_word 32 = .ok (.putfield 22, 3) := dk_181 0 22 (dk_at dksX16_word_1 9 rfl rfl)
theorem dX16_word_35 : decode cX16_word 35 = .ok (.aload_n 1, 1) := dk_43 (dk_at dksX16_word_1 12 rfl rfl)
theorem dX16_word_36 : decode cX16_word 36 = .ok (.areturn, 1) := dk_176 (dk_at dksX16_word_1 13 rfl rfl)
theorem dX16_word_37 : decode cX16_word 37 = .ok (.aload_n 0, 1) := dk_42 (dk_at dksX16_word_1 14 rfl rfl)
theorem dX16_word_38 : decode cX16_word 38 = .ok (.invokevirtual 40, 3) := dk_182 0 40 (dk_at dksX16_word_1 15 rfl rfl)
theorem dX16_word_41 : decode cX16_word 41 = .ok (.lookupswitch 72 #[(99, 30), (116, 27)], 27) := by decide +kernel
theorem dX16_word_68 : decode cX16_word 68 = .ok (.ldc 72, 2) := dk_18 72 (dk_at dksX16_word_3 0 rfl rfl)
theorem dX16_word_70 : decode cX16_word 70 = .ok (.areturn, 1) := dk_176 (dk_at dksX16_word_3 2 rfl rfl)
theorem dX16_word_71 : decode cX16_word 71 = .ok (.aload_n 0, 1) := dk_42 (dk_at dksX16_word_3 3 rfl rfl)
theorem dX16_word_72 : decode cX16_word 72 = .ok (.getfield 22, 3) := dk_180 0 22 (dk_at dksX16_word_3 4 rfl rfl)
theorem dX16_word_75 : decode cX16_word 75 = .ok (.iconst 1, 1) := dk_4 (dk_at dksX16_word_3 7 rfl rfl)
theorem dX16_word_76 : decode cX16_word 76 = .ok (.iadd, 1) := dk_96 (dk_at dksX16_word_3 8 rfl rfl)
theorem dX16_word_77 : decode cX16_word 77 = .ok (.aload_n 0, 1) := dk_42 (dk_at dksX16_word_3 9 rfl rfl)
theorem dX16_word_78 : decode cX16_word 78 = .ok (.getfield 18, 3) := dk_180 0 18 (dk_at dksX16_word_3 10 rfl rfl)
theorem dX16_word_81 : decode cX16_word 81 = .ok (.invokevirtual 26, 3) := dk_182 0 26 (dk_at dksX16_word_3 13 rfl rfl)
theorem dX16_word_84 : decode cX16_word 84 = .ok (.if_icmp .ge 26, 3) := dk_162 0 26 (dk_at dksX16_word_3 16 rfl rfl)
theorem dX16_word_87 : decode cX16_word 87 = .ok (.aload_n 0, 1) := dk_42 (dk_at dksX16_word_3 19 rfl rfl)
theorem dX16_word_88 : decode cX16_word 88 = .ok (.getfield 18, 3) := dk_180 0 18 (dk_at dksX16_word_3 20 rfl rfl)
theorem dX16_word_91 : decode cX16_word 91 = .ok (.aload_n 0, 1) := dk_42 (dk_at dksX16_word_3 23 rfl rfl)
theorem dX16_word_92 : decode cX16_word 92 = .ok (.getfield 22, 3) := dk_180 0 22 (dk_at dksX16_word_4 0 rfl rfl)
theorem dX16_word_95 : decode cX16_word 95 = .ok (.iconst 1, 1) := dk_4 (dk_at dksX16_word_4 3 rfl rfl)
theorem dX16_word_96 : decode cX16_word 96 = .ok (.iadd, 1) := dk_96 (dk_at dksX16_word_4 4 rfl rfl)
theorem dX16_word_97 : decode cX16_word 97 = .ok (.invokevirtual 32, 3) := dk_182 0 32 (dk_at dksX16_word_4 5 rfl rfl)
theorem dX16_word_100 : decode cX16_word 100 = .ok (.bipush 111, 2) := dk_16 111 (dk_at dksX16_word_4 8 rfl rfl)
theorem dX16_word_102 : decode cX16_word 102 = .ok (.if_icmp .ne 8, 3) := dk_160 0 8 (dk_at dksX16_word_4 10 rfl rfl)
theorem dX16_word_105 : decode cX16_word 105 = .ok (.ldc 74, 2) := dk_18 74 (dk_at dksX16_word_4 13 rfl rfl)
theorem dX16_word_107 : decode cX16_word 107 = .ok (.goto 5, 3) := dk_167 0 5 (dk_at dksX16_word_4 15 rfl rfl)
theorem dX16_word_110 : decode cX16_word 110 = .ok (.ldc 76, 2) := dk_18 76 (dk_at dksX16_word_4 18 rfl rfl)
theorem dX16_word_112 : decode cX16_word 112 = .ok (.areturn, 1) := dk_176 (dk_at dksX16_word_4 20 rfl rfl)
theorem dX16_word_113 : decode cX16_word 113 = .ok (.aload_n 0, 1) := dk_42 (dk_at dksX16_word_4 21 rfl rfl)
theorem dX16_word_114 : decode cX16_word 114 = .ok (.iconst 1, 1) := dk_4 (dk_at dksX16_word_4 22 rfl rfl)
theorem dX16_word_115 : decode cX16_word 115 = .ok (.putfield 36, 3) := dk_181 0 36 (dk_at dksX16_word_5 0 rfl rfl)
theorem dX16_word_118 : decode cX16_word 118 = .ok (.ldc 66, 2) := dk_18 66 (dk_at dksX16_word_5 3 rfl rfl)
theorem dX16_word_120 : decode cX16_word 120 = .ok (.areturn, 1) := dk_176 (dk_at dksX16_word_5 5 rfl rfl)
abbrev cX16_takes : ByteArray := prog_10_method_3_code
def yX16_takes : MethodName := ⟨RX16, "takes", "(C)Z"⟩
def dkwX16_takes_1 : List UInt8 := [181, 0, 22, 4, 172]
abbrev dktX16_takes_1 : List UInt8 := dkwX16_takes_1 ++ []
def dkwX16_takes_0 : List UInt8 := [42, 180, 0, 36, 154, 0, 11, 42, 182, 0, 40, 27, 159, 0, 5, 3, 172, 42, 89, 180, 0, 22, 4, 96]
abbrev dktX16_takes_0 : List UInt8 := dkwX16_takes_0 ++ dktX16_takes_1
theorem dksX16_takes_0 : cX16_takes.data.toList.drop 0 = dktX16_takes_0 := by decide +kernel
theorem dksX16_takes_1 : cX16_takes.data.toList.drop 24 = dktX16_takes_1 := dk_seg dksX16_takes_0 24 rfl rfl
theorem dX16_takes_0 : decode cX16_takes 0 = .ok (.aload_n 0, 1) := dk_42 (dk_at dksX16_takes_0 0 rfl rfl)
theorem dX16_takes_1 : decode cX16_takes 1 = .ok (.getfield 36, 3) := dk_180 0 36 (dk_at dksX16_takes_0 1 rfl rfl)
theorem dX16_takes_4 : decode cX16_takes 4 = .ok (.ifCond .ne 11, 3) := dk_154 0 11 (dk_at dksX16_takes_0 4 rfl rfl)
theorem dX16_takes_7 : decode cX16_takes 7 = .ok (.aload_n 0, 1) := dk_42 (dk_at dksX16_takes_0 7 rfl rfl)
theorem dX16_takes_8 : decode cX16_takes 8 = .ok (.invokevirtual 40, 3) := dk_182 0 40 (dk_at dksX16_takes_0 8 rfl rfl)
theorem dX16_takes_11 : decode cX16_takes 11 = .ok (.iload_n 1, 1) := dk_27 (dk_at dksX16_takes_0 11 rfl rfl)
theorem dX16_takes_12 : decode cX16_takes 12 = .ok (.if_icmp .eq 5, 3) := dk_159 0 5 (dk_at dksX16_takes_0 12 rfl rfl)
theorem dX16_takes_15 : decode cX16_takes 15 = .ok (.iconst 0, 1) := dk_3 (dk_at dksX16_takes_0 15 rfl rfl)
theorem dX16_takes_16 : decode cX16_takes 16 = .ok (.ireturn, 1) := dk_172 (dk_at dksX16_takes_0 16 rfl rfl)
theorem dX16_takes_17 : decode cX16_takes 17 = .ok (.aload_n 0, 1) := dk_42 (dk_at dksX16_takes_0 17 rfl rfl)
theorem dX16_takes_18 : decode cX16_takes 18 = .ok (.dup, 1) := dk_89 (dk_at dksX16_takes_0 18 rfl rfl)
theorem dX16_takes_19 : decode cX16_takes 19 = .ok (.getfield 22, 3) := dk_180 0 22 (dk_at dksX16_takes_0 19 rfl rfl)
theorem dX16_takes_22 : decode cX16_takes 22 = .ok (.iconst 1, 1) := dk_4 (dk_at dksX16_takes_0 22 rfl rfl)
theorem dX16_takes_23 : decode cX16_takes 23 = .ok (.iadd, 1) := dk_96 (dk_at dksX16_takes_0 23 rfl rfl)
theorem dX16_takes_24 : decode cX16_takes 24 = .ok (.putfield 22, 3) := dk_181 0 22 (dk_at dksX16_takes_1 0 rfl rfl)
theorem dX16_takes_27 : decode cX16_takes 27 = .ok (.iconst 1, 1) := dk_4 (dk_at dksX16_takes_1 3 rfl rfl)
theorem dX16_takes_28 : decode cX16_takes 28 = .ok (.ireturn, 1) := dk_172 (dk_at dksX16_takes_1 4 rfl rfl)
abbrev cX16_here : ByteArray := prog_10_method_2_code
def yX16_here : MethodName := ⟨RX16, "here", "()C"⟩
def dkwX16_here_1 : List UInt8 := [182, 0, 32, 167, 0, 4, 3, 172]
abbrev dktX16_here_1 : List UInt8 := dkwX16_here_1 ++ []
def dkwX16_here_0 : List UInt8 := [42, 180, 0, 22, 42, 180, 0, 18, 182, 0, 26, 162, 0, 17, 42, 180, 0, 18, 42, 180, 0, 22]
abbrev dktX16_here_0 : List UInt8 := dkwX16_here_0 ++ dktX16_here_1
theorem dksX16_here_0 : cX16_here.data.toList.drop 0 = dktX16_here_0 := by decide +kernel
theorem dksX16_here_1 : cX16_here.data.toList.drop 22 = dktX16_here_1 := dk_seg dksX16_here_0 22 rfl rfl
theorem dX16_here_0 : decode cX16_here 0 = .ok (.aload_n 0, 1) := dk_42 (dk_at dksX16_here_0 0 rfl rfl)
theorem dX16_here_1 : decode cX16_here 1 = .ok (.getfield 22, 3) := dk_180 0 22 (dk_at dksX16_here_0 1 rfl rfl)
theorem dX16_here_4 : decode cX16_here 4 = .ok (.aload_n 0, 1) := dk_42 (dk_at dksX16_here_0 4 rfl rfl)
theorem dX16_here_5 : decode cX16_here 5 = .ok (.getfield 18, 3) := dk_180 0 18 (dk_at dksX16_here_0 5 rfl rfl)
theorem dX16_here_8 : decode cX16_here 8 = .ok (.invokevirtual 26, 3) := dk_182 0 26 (dk_at dksX16_here_0 8 rfl rfl)
theorem dX16_here_11 : decode cX16_here 11 = .ok (.if_icmp .ge 17, 3) := dk_162 0 17 (dk_at dksX16_here_0 11 rfl rfl)
theorem dX16_here_14 : decode cX16_here 14 = .ok (.aload_n 0, 1) := dk_42 (dk_at dksX16_here_0 14 rfl rfl)
theorem dX16_here_15 : decode cX16_here 15 = .ok (.getfield 18, 3) := dk_180 0 18 (dk_at dksX16_here_0 15 rfl rfl)
theorem dX16_here_18 : decode cX16_here 18 = .ok (.aload_n 0, 1) := dk_42 (dk_at dksX16_here_0 18 rfl rfl)
theorem dX16_here_19 : decode cX16_here 19 = .ok (.getfield 22, 3) := dk_180 0 22 (dk_at dksX16_here_0 19 rfl rfl)
theorem dX16_here_22 : decode cX16_here 22 = .ok (.invokevirtual 32, 3) := dk_182 0 32 (dk_at dksX16_here_1 0 rfl rfl)
theorem dX16_here_25 : decode cX16_here 25 = .ok (.goto 4, 3) := dk_167 0 4 (dk_at dksX16_here_1 3 rfl rfl)
theorem dX16_here_28 : decode cX16_here 28 = .ok (.iconst 0, 1) := dk_3 (dk_at dksX16_here_1 6 rfl rfl)
theorem dX16_here_29 : decode cX16_here 29 = .ok (.ireturn, 1) := dk_172 (dk_at dksX16_here_1 7 rfl rfl)
abbrev cX16_wordWithL : ByteArray := prog_10_method_7_code
def yX16_wordWithL : MethodName := ⟨RX16, "wordWithL", "()Ljava/lang/String;"⟩
def dkwX16_wordWithL_4 : List UInt8 := [176, 42, 4, 181, 0, 36, 18, 66, 176]
abbrev dktX16_wordWithL_4 : List UInt8 := dkwX16_wordWithL_4 ++ []
def dkwX16_wordWithL_3 : List UInt8 := [180, 0, 18, 42, 180, 0, 22, 4, 96, 182, 0, 32, 16, 109, 160, 0, 8, 18, 62, 167, 0, 5, 18, 64]
abbrev dktX16_wordWithL_3 : List UInt8 := dkwX16_wordWithL_3 ++ dktX16_wordWithL_4
def dkwX16_wordWithL_2 : List UInt8 := [18, 58, 176, 18, 60, 176, 42, 180, 0, 22, 4, 96, 42, 180, 0, 18, 182, 0, 26, 162, 0, 26, 42]
abbrev dktX16_wordWithL_2 : List UInt8 := dkwX16_wordWithL_2 ++ dktX16_wordWithL_3
def dkwX16_wordWithL_1 : List UInt8 := [171, 0, 0, 0, 0, 0, 0, 84, 0, 0, 0, 3, 0, 0, 0, 97, 0, 0, 0, 36, 0, 0, 0, 101, 0, 0, 0, 39, 0, 0, 0, 105, 0, 0, 0, 42]
abbrev dktX16_wordWithL_1 : List UInt8 := dkwX16_wordWithL_1 ++ dktX16_wordWithL_2
def dkwX16_wordWithL_0 : List UInt8 := [42, 182, 0, 40]
abbrev dktX16_wordWithL_0 : List UInt8 := dkwX16_wordWithL_0 ++ dktX16_wordWithL_1
theorem dksX16_wordWithL_0 : cX16_wordWithL.data.toList.drop 0 = dktX16_wordWithL_0 := by decide +kernel
theorem dksX16_wordWithL_1 : cX16_wordWithL.data.toList.drop 4 = dktX16_wordWithL_1 := dk_seg dksX16_wordWithL_0 4 rfl rfl
theorem dksX16_wordWithL_2 : cX16_wordWithL.data.toList.drop 40 = dktX16_wordWithL_2 := dk_seg dksX16_wordWithL_1 36 rfl rfl
theorem dksX16_wordWithL_3 : cX16_wordWithL.data.toList.drop 63 = dktX16_wordWithL_3 := dk_seg dksX16_wordWithL_2 23 rfl rfl
theorem dksX16_wordWithL_4 : cX16_wordWithL.data.toList.drop 87 = dktX16_wordWithL_4 := dk_seg dksX16_wordWithL_3 24 rfl rfl
theorem dX16_wordWithL_0 : decode cX16_wordWithL 0 = .ok (.aload_n 0, 1) := dk_42 (dk_at dksX16_wordWithL_0 0 rfl rfl)
theorem dX16_wordWithL_1 : decode cX16_wordWithL 1 = .ok (.invokevirtual 40, 3) := dk_182 0 40 (dk_at dksX16_wordWithL_0 1 rfl rfl)
theorem dX16_wordWithL_4 : decode cX16_wordWithL 4 = .ok (.lookupswitch 84 #[(97, 36), (101, 39), (105, 42)], 36) := by decide +kernel
theorem dX16_wordWithL_40 : decode cX16_wordWithL 40 = .ok (.ldc 58, 2) := dk_18 58 (dk_at dksX16_wordWithL_2 0 rfl rfl)
theorem dX16_wordWithL_42 : decode cX16_wordWithL 42 = .ok (.areturn, 1) := dk_176 (dk_at dksX16_wordWithL_2 2 rfl rfl)
theorem dX16_wordWithL_43 : decode cX16_wordWithL 43 = .ok (.ldc 60, 2) := dk_18 60 (dk_at dksX16_wordWithL_2 3 rfl rfl)
theorem dX16_wordWithL_45 : decode cX16_wordWithL 45 = .ok (.areturn, 1) := dk_176 (dk_at dksX16_wordWithL_2 5 rfl rfl)
theorem dX16_wordWithL_46 : decode cX16_wordWithL 46 = .ok (.aload_n 0, 1) := dk_42 (dk_at dksX16_wordWithL_2 6 rfl rfl)
theorem dX16_wordWithL_47 : decode cX16_wordWithL 47 = .ok (.getfield 22, 3) := dk_180 0 22 (dk_at dksX16_wordWithL_2 7 rfl rfl)
theorem dX16_wordWithL_50 : decode cX16_wordWithL 50 = .ok (.iconst 1, 1) := dk_4 (dk_at dksX16_wordWithL_2 10 rfl rfl)
theorem dX16_wordWithL_51 : decode cX16_wordWithL 51 = .ok (.iadd, 1) := dk_96 (dk_at dksX16_wordWithL_2 11 rfl rfl)
theorem dX16_wordWithL_52 : decode cX16_wordWithL 52 = .ok (.aload_n 0, 1) := dk_42 (dk_at dksX16_wordWithL_2 12 rfl rfl)
theorem dX16_wordWithL_53 : decode cX16_wordWithL 53 = .ok (.getfield 18, 3) := dk_180 0 18 (dk_at dksX16_wordWithL_2 13 rfl rfl)
theorem dX16_wordWithL_56 : decode cX16_wordWithL 56 = .ok (.invokevirtual 26, 3) := dk_182 0 26 (dk_at dksX16_wordWithL_2 16 rfl rfl)
theorem dX16_wordWithL_59 : decode cX16_wordWithL 59 = .ok (.if_icmp .ge 26, 3) := dk_162 0 26 (dk_at dksX16_wordWithL_2 19 rfl rfl)
theorem dX16_wordWithL_62 : decode cX16_wordWithL 62 = .ok (.aload_n 0, 1) := dk_42 (dk_at dksX16_wordWithL_2 22 rfl rfl)
theorem dX16_wordWithL_63 : decode cX16_wordWithL 63 = .ok (.getfield 18, 3) := dk_180 0 18 (dk_at dksX16_wordWithL_3 0 rfl rfl)
theorem dX16_wordWithL_66 : decode cX16_wordWithL 66 = .ok (.aload_n 0, 1) := dk_42 (dk_at dksX16_wordWithL_3 3 rfl rfl)
theorem dX16_wordWithL_67 : decode cX16_wordWithL 67 = .ok (.getfield 22, 3) := dk_180 0 22 (dk_at dksX16_wordWithL_3 4 rfl rfl)
theorem dX16_wordWithL_70 : decode cX16_wordWithL 70 = .ok (.iconst 1, 1) := dk_4 (dk_at dksX16_wordWithL_3 7 rfl rfl)
theorem dX16_wordWithL_71 : decode cX16_wordWithL 71 = .ok (.iadd, 1) := dk_96 (dk_at dksX16_wordWithL_3 8 rfl rfl)
theorem dX16_wordWithL_72 : decode cX16_wordWithL 72 = .ok (.invokevirtual 32, 3) := dk_182 0 32 (dk_at dksX16_wordWithL_3 9 rfl rfl)
theorem dX16_wordWithL_75 : decode cX16_wordWithL 75 = .ok (.bipush 109, 2) := dk_16 109 (dk_at dksX16_wordWithL_3 12 rfl rfl)
theorem dX16_wordWithL_77 : decode cX16_wordWithL 77 = .ok (.if_icmp .ne 8, 3) := dk_160 0 8 (dk_at dksX16_wordWithL_3 14 rfl rfl)
theorem dX16_wordWithL_80 : decode cX16_wordWithL 80 = .ok (.ldc 62, 2) := dk_18 62 (dk_at dksX16_wordWithL_3 17 rfl rfl)
theorem dX16_wordWithL_82 : decode cX16_wordWithL 82 = .ok (.goto 5, 3) := dk_167 0 5 (dk_at dksX16_wordWithL_3 19 rfl rfl)
theorem dX16_wordWithL_85 : decode cX16_wordWithL 85 = .ok (.ldc 64, 2) := dk_18 64 (dk_at dksX16_wordWithL_3 22 rfl rfl)
theorem dX16_wordWithL_87 : decode cX16_wordWithL 87 = .ok (.areturn, 1) := dk_176 (dk_at dksX16_wordWithL_4 0 rfl rfl)
theorem dX16_wordWithL_88 : decode cX16_wordWithL 88 = .ok (.aload_n 0, 1) := dk_42 (dk_at dksX16_wordWithL_4 1 rfl rfl)
theorem dX16_wordWithL_89 : decode cX16_wordWithL 89 = .ok (.iconst 1, 1) := dk_4 (dk_at dksX16_wordWithL_4 2 rfl rfl)
theorem dX16_wordWithL_90 : decode cX16_wordWithL 90 = .ok (.putfield 36, 3) := dk_181 0 36 (dk_at dksX16_wordWithL_4 3 rfl rfl)
theorem dX16_wordWithL_93 : decode cX16_wordWithL 93 = .ok (.ldc 66, 2) := dk_18 66 (dk_at dksX16_wordWithL_4 6 rfl rfl)
theorem dX16_wordWithL_95 : decode cX16_wordWithL 95 = .ok (.areturn, 1) := dk_176 (dk_at dksX16_wordWithL_4 8 rfl rfl)
abbrev cX16_wants : ByteArray := prog_10_method_4_code
def yX16_wants : MethodName := ⟨RX16, "wants", "(Ljava/lang/String;)V"⟩
def dkwX16_wants_1 : List UInt8 := [182, 0, 44, 154, 0, 7, 4, 167, 0, 4, 3, 181, 0, 36, 132, 2, 1, 167, 255, 217, 177]
abbrev dktX16_wants_1 : List UInt8 := dkwX16_wants_1 ++ []
def dkwX16_wants_0 : List UInt8 := [3, 61, 28, 43, 182, 0, 26, 162, 0, 37, 42, 180, 0, 36, 154, 0, 30, 42, 42, 43, 28, 182, 0, 32]
abbrev dktX16_wants_0 : List UInt8 := dkwX16_wants_0 ++ dktX16_wants_1
theorem dksX16_wants_0 : cX16_wants.data.toList.drop 0 = dktX16_wants_0 := by decide +kernel
theorem dksX16_wants_1 : cX16_wants.data.toList.drop 24 = dktX16_wants_1 := dk_seg dksX16_wants_0 24 rfl rfl
theorem dX16_wants_0 : decode cX16_wants 0 = .ok (.iconst 0, 1) := dk_3 (dk_at dksX16_wants_0 0 rfl rfl)
theorem dX16_wants_1 : decode cX16_wants 1 = .ok (.istore_n 2, 1) := dk_61 (dk_at dksX16_wants_0 1 rfl rfl)
theorem dX16_wants_2 : decode cX16_wants 2 = .ok (.iload_n 2, 1) := dk_28 (dk_at dksX16_wants_0 2 rfl rfl)
theorem dX16_wants_3 : decode cX16_wants 3 = .ok (.aload_n 1, 1) := dk_43 (dk_at dksX16_wants_0 3 rfl rfl)
theorem dX16_wants_4 : decode cX16_wants 4 = .ok (.invokevirtual 26, 3) := dk_182 0 26 (dk_at dksX16_wants_0 4 rfl rfl)
theorem dX16_wants_7 : decode cX16_wants 7 = .ok (.if_icmp .ge 37, 3) := dk_162 0 37 (dk_at dksX16_wants_0 7 rfl rfl)
theorem dX16_wants_10 : decode cX16_wants 10 = .ok (.aload_n 0, 1) := dk_42 (dk_at dksX16_wants_0 10 rfl rfl)
theorem dX16_wants_11 : decode cX16_wants 11 = .ok (.getfield 36, 3) := dk_180 0 36 (dk_at dksX16_wants_0 11 rfl rfl)
theorem dX16_wants_14 : decode cX16_wants 14 = .ok (.ifCond .ne 30, 3) := dk_154 0 30 (dk_at dksX16_wants_0 14 rfl rfl)
theorem dX16_wants_17 : decode cX16_wants 17 = .ok (.aload_n 0, 1) := dk_42 (dk_at dksX16_wants_0 17 rfl rfl)
theorem dX16_wants_18 : decode cX16_wants 18 = .ok (.aload_n 0, 1) := dk_42 (dk_at dksX16_wants_0 18 rfl rfl)
theorem dX16_wants_19 : decode cX16_wants 19 = .ok (.aload_n 1, 1) := dk_43 (dk_at dksX16_wants_0 19 rfl rfl)
theorem dX16_wants_20 : decode cX16_wants 20 = .ok (.iload_n 2, 1) := dk_28 (dk_at dksX16_wants_0 20 rfl rfl)
theorem dX16_wants_21 : decode cX16_wants 21 = .ok (.invokevirtual 32, 3) := dk_182 0 32 (dk_at dksX16_wants_0 21 rfl rfl)
theorem dX16_wants_24 : decode cX16_wants 24 = .ok (.invokevirtual 44, 3) := dk_182 0 44 (dk_at dksX16_wants_1 0 rfl rfl)
theorem dX16_wants_27 : decode cX16_wants 27 = .ok (.ifCond .ne 7, 3) := dk_154 0 7 (dk_at dksX16_wants_1 3 rfl rfl)
theorem dX16_wants_30 : decode cX16_wants 30 = .ok (.iconst 1, 1) := dk_4 (dk_at dksX16_wants_1 6 rfl rfl)
theorem dX16_wants_31 : decode cX16_wants 31 = .ok (.goto 4, 3) := dk_167 0 4 (dk_at dksX16_wants_1 7 rfl rfl)
theorem dX16_wants_34 : decode cX16_wants 34 = .ok (.iconst 0, 1) := dk_3 (dk_at dksX16_wants_1 10 rfl rfl)
theorem dX16_wants_35 : decode cX16_wants 35 = .ok (.putfield 36, 3) := dk_181 0 36 (dk_at dksX16_wants_1 11 rfl rfl)
theorem dX16_wants_38 : decode cX16_wants 38 = .ok (.iinc 2 1, 3) := dk_132 2 1 (dk_at dksX16_wants_1 14 rfl rfl)
theorem dX16_wants_41 : decode cX16_wants 41 = .ok (.goto (-39), 3) := dk_167 255 217 (dk_at dksX16_wants_1 17 rfl rfl)
theorem dX16_wants_44 : decode cX16_wants 44 = .ok (.return_, 1) := dk_177 (dk_at dksX16_wants_1 20 rfl rfl)
abbrev cX16_form : ByteArray := prog_10_method_9_code
def yX16_form : MethodName := ⟨RX16, "form", "(Ljava/lang/String;)Ljava/lang/String;"⟩
def dkwX16_form_8 : List UInt8 := [18, 85, 176, 18, 87, 176, 18, 89, 176, 18, 91, 176, 18, 93, 176, 18, 95, 176, 18, 97, 176, 18, 66, 176]
abbrev dktX16_form_8 : List UInt8 := dkwX16_form_8 ++ []
def dkwX16_form_7 : List UInt8 := [170, 0, 0, 0, 0, 0, 64, 0, 0, 0, 0, 0, 0, 0, 6, 0, 0, 0, 43, 0, 0, 0, 46, 0, 0, 0, 49, 0, 0, 0, 52, 0, 0, 0, 55, 0, 0, 0, 58, 0, 0, 0, 61]
abbrev dktX16_form_7 : List UInt8 := dkwX16_form_7 ++ dktX16_form_8
def dkwX16_form_6 : List UInt8 := [61, 28]
abbrev dktX16_form_6 : List UInt8 := dkwX16_form_6 ++ dktX16_form_7
def dkwX16_form_5 : List UInt8 := [18, 60, 182, 0, 81, 153, 0, 20, 8, 61, 167, 0, 15, 43, 18, 74, 182, 0, 81, 153, 0, 6, 16, 6]
abbrev dktX16_form_5 : List UInt8 := dkwX16_form_5 ++ dktX16_form_6
def dkwX16_form_4 : List UInt8 := [153, 0, 48, 6, 61, 167, 0, 43, 43, 18, 72, 182, 0, 81, 153, 0, 34, 7, 61, 167, 0, 29, 43]
abbrev dktX16_form_4 : List UInt8 := dkwX16_form_4 ++ dktX16_form_5
def dkwX16_form_3 : List UInt8 := [61, 167, 0, 71, 43, 18, 62, 182, 0, 81, 153, 0, 62, 5, 61, 167, 0, 57, 43, 18, 76, 182, 0, 81]
abbrev dktX16_form_3 : List UInt8 := dkwX16_form_3 ++ dktX16_form_4
def dkwX16_form_2 : List UInt8 := [43, 18, 58, 182, 0, 81, 153, 0, 90, 3, 61, 167, 0, 85, 43, 18, 64, 182, 0, 81, 153, 0, 76, 4]
abbrev dktX16_form_2 : List UInt8 := dkwX16_form_2 ++ dktX16_form_3
def dkwX16_form_1 : List UInt8 := [171, 0, 0, 0, 0, 0, 0, 164, 0, 0, 0, 7, 0, 1, 130, 66, 0, 0, 0, 110, 0, 1, 162, 14, 0, 0, 0, 138, 0, 50, 146, 166, 0, 0, 0, 68, 0, 50, 175, 250, 0, 0, 0, 82, 0, 54, 128, 125, 0, 0, 0, 124, 5, 167, 4, 154, 0, 0, 0, 152, 6, 35, 75, 187, 0, 0, 0, 96]
abbrev dktX16_form_1 : List UInt8 := dkwX16_form_1 ++ dktX16_form_2
def dkwX16_form_0 : List UInt8 := [42, 76, 2, 61, 43, 182, 0, 78]
abbrev dktX16_form_0 : List UInt8 := dkwX16_form_0 ++ dktX16_form_1
theorem dksX16_form_0 : cX16_form.data.toList.drop 0 = dktX16_form_0 := by decide +kernel
theorem dksX16_form_1 : cX16_form.data.toList.drop 8 = dktX16_form_1 := dk_seg dksX16_form_0 8 rfl rfl
theorem dksX16_form_2 : cX16_form.data.toList.drop 76 = dktX16_form_2 := dk_seg dksX16_form_1 68 rfl rfl
theorem dksX16_form_3 : cX16_form.data.toList.drop 100 = dktX16_form_3 := dk_seg dksX16_form_2 24 rfl rfl
theorem dksX16_form_4 : cX16_form.data.toList.drop 124 = dktX16_form_4 := dk_seg dksX16_form_3 24 rfl rfl
theorem dksX16_form_5 : cX16_form.data.toList.drop 147 = dktX16_form_5 := dk_seg dksX16_form_4 23 rfl rfl
theorem dksX16_form_6 : cX16_form.data.toList.drop 171 = dktX16_form_6 := dk_seg dksX16_form_5 24 rfl rfl
theorem dksX16_form_7 : cX16_form.data.toList.drop 173 = dktX16_form_7 := dk_seg dksX16_form_6 2 rfl rfl
theorem dksX16_form_8 : cX16_form.data.toList.drop 216 = dktX16_form_8 := dk_seg dksX16_form_7 43 rfl rfl
theorem dX16_form_0 : decode cX16_form 0 = .ok (.aload_n 0, 1) := dk_42 (dk_at dksX16_form_0 0 rfl rfl)
theorem dX16_form_1 : decode cX16_form 1 = .ok (.astore_n 1, 1) := dk_76 (dk_at dksX16_form_0 1 rfl rfl)
theorem dX16_form_2 : decode cX16_form 2 = .ok (.iconst (-1), 1) := dk_2 (dk_at dksX16_form_0 2 rfl rfl)
theorem dX16_form_3 : decode cX16_form 3 = .ok (.istore_n 2, 1) := dk_61 (dk_at dksX16_form_0 3 rfl rfl)
theorem dX16_form_4 : decode cX16_form 4 = .ok (.aload_n 1, 1) := dk_43 (dk_at dksX16_form_0 4 rfl rfl)
theorem dX16_form_5 : decode cX16_form 5 = .ok (.invokevirtual 78, 3) := dk_182 0 78 (dk_at dksX16_form_0 5 rfl rfl)
theorem dX16_form_8 : decode cX16_form 8 = .ok (.lookupswitch 164 #[(98882, 110), (107022, 138), (3314342, 68), (3321850, 82), (3571837, 124), (94831770, 152), (102976443, 96)], 68) := by decide +kernel
theorem dX16_form_76 : decode cX16_form 76 = .ok (.aload_n 1, 1) := dk_43 (dk_at dksX16_form_2 0 rfl rfl)
theorem dX16_form_77 : decode cX16_form 77 = .ok (.ldc 58, 2) := dk_18 58 (dk_at dksX16_form_2 1 rfl rfl)
theorem dX16_form_79 : decode cX16_form 79 = .ok (.invokevirtual 81, 3) := dk_182 0 81 (dk_at dksX16_form_2 3 rfl rfl)
theorem dX16_form_82 : decode cX16_form 82 = .ok (.ifCond .eq 90, 3) := dk_153 0 90 (dk_at dksX16_form_2 6 rfl rfl)
theorem dX16_form_85 : decode cX16_form 85 = .ok (.iconst 0, 1) := dk_3 (dk_at dksX16_form_2 9 rfl rfl)
theorem dX16_form_86 : decode cX16_form 86 = .ok (.istore_n 2, 1) := dk_61 (dk_at dksX16_form_2 10 rfl rfl)
theorem dX16_form_87 : decode cX16_form 87 = .ok (.goto 85, 3) := dk_167 0 85 (dk_at dksX16_form_2 11 rfl rfl)
theorem dX16_form_90 : decode cX16_form 90 = .ok (.aload_n 1, 1) := dk_43 (dk_at dksX16_form_2 14 rfl rfl)
theorem dX16_form_91 : decode cX16_form 91 = .ok (.ldc 64, 2) := dk_18 64 (dk_at dksX16_form_2 15 rfl rfl)
theorem dX16_form_93 : decode cX16_form 93 = .ok (.invokevirtual 81, 3) := dk_182 0 81 (dk_at dksX16_form_2 17 rfl rfl)
theorem dX16_form_96 : decode cX16_form 96 = .ok (.ifCond .eq 76, 3) := dk_153 0 76 (dk_at dksX16_form_2 20 rfl rfl)
theorem dX16_form_99 : decode cX16_form 99 = .ok (.iconst 1, 1) := dk_4 (dk_at dksX16_form_2 23 rfl rfl)
theorem dX16_form_100 : decode cX16_form 100 = .ok (.istore_n 2, 1) := dk_61 (dk_at dksX16_form_3 0 rfl rfl)
theorem dX16_form_101 : decode cX16_form 101 = .ok (.goto 71, 3) := dk_167 0 71 (dk_at dksX16_form_3 1 rfl rfl)
theorem dX16_form_104 : decode cX16_form 104 = .ok (.aload_n 1, 1) := dk_43 (dk_at dksX16_form_3 4 rfl rfl)
theorem dX16_form_105 : decode cX16_form 105 = .ok (.ldc 62, 2) := dk_18 62 (dk_at dksX16_form_3 5 rfl rfl)
theorem dX16_form_107 : decode cX16_form 107 = .ok (.invokevirtual 81, 3) := dk_182 0 81 (dk_at dksX16_form_3 7 rfl rfl)
theorem dX16_form_110 : decode cX16_form 110 = .ok (.ifCond .eq 62, 3) := dk_153 0 62 (dk_at dksX16_form_3 10 rfl rfl)
theorem dX16_form_113 : decode cX16_form 113 = .ok (.iconst 2, 1) := dk_5 (dk_at dksX16_form_3 13 rfl rfl)
theorem dX16_form_114 : decode cX16_form 114 = .ok (.istore_n 2, 1) := dk_61 (dk_at dksX16_form_3 14 rfl rfl)
theorem dX16_form_115 : decode cX16_form 115 = .ok (.goto 57, 3) := dk_167 0 57 (dk_at dksX16_form_3 15 rfl rfl)
theorem dX16_form_118 : decode cX16_form 118 = .ok (.aload_n 1, 1) := dk_43 (dk_at dksX16_form_3 18 rfl rfl)
theorem dX16_form_119 : decode cX16_form 119 = .ok (.ldc 76, 2) := dk_18 76 (dk_at dksX16_form_3 19 rfl rfl)
theorem dX16_form_121 : decode cX16_form 121 = .ok (.invokevirtual 81, 3) := dk_182 0 81 (dk_at dksX16_form_3 21 rfl rfl)
theorem dX16_form_124 : decode cX16_form 124 = .ok (.ifCond .eq 48, 3) := dk_153 0 48 (dk_at dksX16_form_4 0 rfl rfl)
theorem dX16_form_127 : decode cX16_form 127 = .ok (.iconst 3, 1) := dk_6 (dk_at dksX16_form_4 3 rfl rfl)
theorem dX16_form_128 : decode cX16_form 128 = .ok (.istore_n 2, 1) := dk_61 (dk_at dksX16_form_4 4 rfl rfl)
theorem dX16_form_129 : decode cX16_form 129 = .ok (.goto 43, 3) := dk_167 0 43 (dk_at dksX16_form_4 5 rfl rfl)
theorem dX16_form_132 : decode cX16_form 132 = .ok (.aload_n 1, 1) := dk_43 (dk_at dksX16_form_4 8 rfl rfl)
theorem dX16_form_133 : decode cX16_form 133 = .ok (.ldc 72, 2) := dk_18 72 (dk_at dksX16_form_4 9 rfl rfl)
theorem dX16_form_135 : decode cX16_form 135 = .ok (.invokevirtual 81, 3) := dk_182 0 81 (dk_at dksX16_form_4 11 rfl rfl)
theorem dX16_form_138 : decode cX16_form 138 = .ok (.ifCond .eq 34, 3) := dk_153 0 34 (dk_at dksX16_form_4 14 rfl rfl)
theorem dX16_form_141 : decode cX16_form 141 = .ok (.iconst 4, 1) := dk_7 (dk_at dksX16_form_4 17 rfl rfl)
theorem dX16_form_142 : decode cX16_form 142 = .ok (.istore_n 2, 1) := dk_61 (dk_at dksX16_form_4 18 rfl rfl)
theorem dX16_form_143 : decode cX16_form 143 = .ok (.goto 29, 3) := dk_167 0 29 (dk_at dksX16_form_4 19 rfl rfl)
theorem dX16_form_146 : decode cX16_form 146 = .ok (.aload_n 1, 1) := dk_43 (dk_at dksX16_form_4 22 rfl rfl)
theorem dX16_form_147 : decode cX16_form 147 = .ok (.ldc 60, 2) := dk_18 60 (dk_at dksX16_form_5 0 rfl rfl)
theorem dX16_form_149 : decode cX16_form 149 = .ok (.invokevirtual 81, 3) := dk_182 0 81 (dk_at dksX16_form_5 2 rfl rfl)
theorem dX16_form_152 : decode cX16_form 152 = .ok (.ifCond .eq 20, 3) := dk_153 0 20 (dk_at dksX16_form_5 5 rfl rfl)
theorem dX16_form_155 : decode cX16_form 155 = .ok (.iconst 5, 1) := dk_8 (dk_at dksX16_form_5 8 rfl rfl)
theorem dX16_form_156 : decode cX16_form 156 = .ok (.istore_n 2, 1) := dk_61 (dk_at dksX16_form_5 9 rfl rfl)
theorem dX16_form_157 : decode cX16_form 157 = .ok (.goto 15, 3) := dk_167 0 15 (dk_at dksX16_form_5 10 rfl rfl)
theorem dX16_form_160 : decode cX16_form 160 = .ok (.aload_n 1, 1) := dk_43 (dk_at dksX16_form_5 13 rfl rfl)
theorem dX16_form_161 : decode cX16_form 161 = .ok (.ldc 74, 2) := dk_18 74 (dk_at dksX16_form_5 14 rfl rfl)
theorem dX16_form_163 : decode cX16_form 163 = .ok (.invokevirtual 81, 3) := dk_182 0 81 (dk_at dksX16_form_5 16 rfl rfl)
theorem dX16_form_166 : decode cX16_form 166 = .ok (.ifCond .eq 6, 3) := dk_153 0 6 (dk_at dksX16_form_5 19 rfl rfl)
theorem dX16_form_169 : decode cX16_form 169 = .ok (.bipush 6, 2) := dk_16 6 (dk_at dksX16_form_5 22 rfl rfl)
theorem dX16_form_171 : decode cX16_form 171 = .ok (.istore_n 2, 1) := dk_61 (dk_at dksX16_form_6 0 rfl rfl)
theorem dX16_form_172 : decode cX16_form 172 = .ok (.iload_n 2, 1) := dk_28 (dk_at dksX16_form_6 1 rfl rfl)
theorem dX16_form_173 : decode cX16_form 173 = .ok (.tableswitch 64 0 6 #[43, 46, 49, 52, 55, 58, 61], 43) := by decide +kernel
theorem dX16_form_216 : decode cX16_form 216 = .ok (.ldc 85, 2) := dk_18 85 (dk_at dksX16_form_8 0 rfl rfl)
theorem dX16_form_218 : decode cX16_form 218 = .ok (.areturn, 1) := dk_176 (dk_at dksX16_form_8 2 rfl rfl)
theorem dX16_form_219 : decode cX16_form 219 = .ok (.ldc 87, 2) := dk_18 87 (dk_at dksX16_form_8 3 rfl rfl)
theorem dX16_form_221 : decode cX16_form 221 = .ok (.areturn, 1) := dk_176 (dk_at dksX16_form_8 5 rfl rfl)
theorem dX16_form_222 : decode cX16_form 222 = .ok (.ldc 89, 2) := dk_18 89 (dk_at dksX16_form_8 6 rfl rfl)
theorem dX16_form_224 : decode cX16_form 224 = .ok (.areturn, 1) := dk_176 (dk_at dksX16_form_8 8 rfl rfl)
theorem dX16_form_225 : decode cX16_form 225 = .ok (.ldc 91, 2) := dk_18 91 (dk_at dksX16_form_8 9 rfl rfl)
theorem dX16_form_227 : decode cX16_form 227 = .ok (.areturn, 1) := dk_176 (dk_at dksX16_form_8 11 rfl rfl)
theorem dX16_form_228 : decode cX16_form 228 = .ok (.ldc 93, 2) := dk_18 93 (dk_at dksX16_form_8 12 rfl rfl)
theorem dX16_form_230 : decode cX16_form 230 = .ok (.areturn, 1) := dk_176 (dk_at dksX16_form_8 14 rfl rfl)
theorem dX16_form_231 : decode cX16_form 231 = .ok (.ldc 95, 2) := dk_18 95 (dk_at dksX16_form_8 15 rfl rfl)
theorem dX16_form_233 : decode cX16_form 233 = .ok (.areturn, 1) := dk_176 (dk_at dksX16_form_8 17 rfl rfl)
theorem dX16_form_234 : decode cX16_form 234 = .ok (.ldc 97, 2) := dk_18 97 (dk_at dksX16_form_8 18 rfl rfl)
theorem dX16_form_236 : decode cX16_form 236 = .ok (.areturn, 1) := dk_176 (dk_at dksX16_form_8 20 rfl rfl)
theorem dX16_form_237 : decode cX16_form 237 = .ok (.ldc 66, 2) := dk_18 66 (dk_at dksX16_form_8 21 rfl rfl)
theorem dX16_form_239 : decode cX16_form 239 = .ok (.areturn, 1) := dk_176 (dk_at dksX16_form_8 23 rfl rfl)
abbrev cX16_behindBlank : ByteArray := prog_10_method_6_code
def yX16_behindBlank : MethodName := ⟨RX16, "behindBlank", "(I)I"⟩
def dkwX16_behindBlank_3 : List UInt8 := [181, 0, 22, 132, 3, 1, 167, 255, 211, 28, 172]
abbrev dktX16_behindBlank_3 : List UInt8 := dkwX16_behindBlank_3 ++ []
def dkwX16_behindBlank_2 : List UInt8 := [154, 0, 32, 16, 10, 28, 104, 42, 182, 0, 40, 96, 16, 48, 100, 61, 42, 89, 180, 0, 22, 4, 96]
abbrev dktX16_behindBlank_2 : List UInt8 := dkwX16_behindBlank_2 ++ dktX16_behindBlank_3
def dkwX16_behindBlank_1 : List UInt8 := [181, 0, 36, 3, 61, 3, 62, 29, 27, 162, 0, 46, 42, 182, 0, 54, 153, 0, 39, 42, 180, 0, 36]
abbrev dktX16_behindBlank_1 : List UInt8 := dkwX16_behindBlank_1 ++ dktX16_behindBlank_2
def dkwX16_behindBlank_0 : List UInt8 := [42, 18, 48, 182, 0, 50, 42, 89, 180, 0, 36, 42, 182, 0, 54, 154, 0, 7, 4, 167, 0, 4, 3, 128]
abbrev dktX16_behindBlank_0 : List UInt8 := dkwX16_behindBlank_0 ++ dktX16_behindBlank_1
theorem dksX16_behindBlank_0 : cX16_behindBlank.data.toList.drop 0 = dktX16_behindBlank_0 := by decide +kernel
theorem dksX16_behindBlank_1 : cX16_behindBlank.data.toList.drop 24 = dktX16_behindBlank_1 := dk_seg dksX16_behindBlank_0 24 rfl rfl
theorem dksX16_behindBlank_2 : cX16_behindBlank.data.toList.drop 47 = dktX16_behindBlank_2 := dk_seg dksX16_behindBlank_1 23 rfl rfl
theorem dksX16_behindBlank_3 : cX16_behindBlank.data.toList.drop 70 = dktX16_behindBlank_3 := dk_seg dksX16_behindBlank_2 23 rfl rfl
theorem dX16_behindBlank_0 : decode cX16_behindBlank 0 = .ok (.aload_n 0, 1) := dk_42 (dk_at dksX16_behindBlank_0 0 rfl rfl)
theorem dX16_behindBlank_1 : decode cX16_behindBlank 1 = .ok (.ldc 48, 2) := dk_18 48 (dk_at dksX16_behindBlank_0 1 rfl rfl)
theorem dX16_behindBlank_3 : decode cX16_behindBlank 3 = .ok (.invokevirtual 50, 3) := dk_182 0 50 (dk_at dksX16_behindBlank_0 3 rfl rfl)
theorem dX16_behindBlank_6 : decode cX16_behindBlank 6 = .ok (.aload_n 0, 1) := dk_42 (dk_at dksX16_behindBlank_0 6 rfl rfl)
theorem dX16_behindBlank_7 : decode cX16_behindBlank 7 = .ok (.dup, 1) := dk_89 (dk_at dksX16_behindBlank_0 7 rfl rfl)
theorem dX16_behindBlank_8 : decode cX16_behindBlank 8 = .ok (.getfield 36, 3) := dk_180 0 36 (dk_at dksX16_behindBlank_0 8 rfl rfl)
theorem dX16_behindBlank_11 : decode cX16_behindBlank 11 = .ok (.aload_n 0, 1) := dk_42 (dk_at dksX16_behindBlank_0 11 rfl rfl)
theorem dX16_behindBlank_12 : decode cX16_behindBlank 12 = .ok (.invokevirtual 54, 3) := dk_182 0 54 (dk_at dksX16_behindBlank_0 12 rfl rfl)
theorem dX16_behindBlank_15 : decode cX16_behindBlank 15 = .ok (.ifCond .ne 7, 3) := dk_154 0 7 (dk_at dksX16_behindBlank_0 15 rfl rfl)
theorem dX16_behindBlank_18 : decode cX16_behindBlank 18 = .ok (.iconst 1, 1) := dk_4 (dk_at dksX16_behindBlank_0 18 rfl rfl)
theorem dX16_behindBlank_19 : decode cX16_behindBlank 19 = .ok (.goto 4, 3) := dk_167 0 4 (dk_at dksX16_behindBlank_0 19 rfl rfl)
theorem dX16_behindBlank_22 : decode cX16_behindBlank 22 = .ok (.iconst 0, 1) := dk_3 (dk_at dksX16_behindBlank_0 22 rfl rfl)
theorem dX16_behindBlank_23 : decode cX16_behindBlank 23 = .ok (.ior, 1) := dk_128 (dk_at dksX16_behindBlank_0 23 rfl rfl)
theorem dX16_behindBlank_24 : decode cX16_behindBlank 24 = .ok (.putfield 36, 3) := dk_181 0 36 (dk_at dksX16_behindBlank_1 0 rfl rfl)
theorem dX16_behindBlank_27 : decode cX16_behindBlank 27 = .ok (.iconst 0, 1) := dk_3 (dk_at dksX16_behindBlank_1 3 rfl rfl)
theorem dX16_behindBlank_28 : decode cX16_behindBlank 28 = .ok (.istore_n 2, 1) := dk_61 (dk_at dksX16_behindBlank_1 4 rfl rfl)
theorem dX16_behindBlank_29 : decode cX16_behindBlank 29 = .ok (.iconst 0, 1) := dk_3 (dk_at dksX16_behindBlank_1 5 rfl rfl)
theorem dX16_behindBlank_30 : decode cX16_behindBlank 30 = .ok (.istore_n 3, 1) := dk_62 (dk_at dksX16_behindBlank_1 6 rfl rfl)
theorem dX16_behindBlank_31 : decode cX16_behindBlank 31 = .ok (.iload_n 3, 1) := dk_29 (dk_at dksX16_behindBlank_1 7 rfl rfl)
theorem dX16_behindBlank_32 : decode cX16_behindBlank 32 = .ok (.iload_n 1, 1) := dk_27 (dk_at dksX16_behindBlank_1 8 rfl rfl)
theorem dX16_behindBlank_33 : decode cX16_behindBlank 33 = .ok (.if_icmp .ge 46, 3) := dk_162 0 46 (dk_at dksX16_behindBlank_1 9 rfl rfl)
theorem dX16_behindBlank_36 : decode cX16_behindBlank 36 = .ok (.aload_n 0, 1) := dk_42 (dk_at dksX16_behindBlank_1 12 rfl rfl)
theorem dX16_behindBlank_37 : decode cX16_behindBlank 37 = .ok (.invokevirtual 54, 3) := dk_182 0 54 (dk_at dksX16_behindBlank_1 13 rfl rfl)
theorem dX16_behindBlank_40 : decode cX16_behindBlank 40 = .ok (.ifCond .eq 39, 3) := dk_153 0 39 (dk_at dksX16_behindBlank_1 16 rfl rfl)
theorem dX16_behindBlank_43 : decode cX16_behindBlank 43 = .ok (.aload_n 0, 1) := dk_42 (dk_at dksX16_behindBlank_1 19 rfl rfl)
theorem dX16_behindBlank_44 : decode cX16_behindBlank 44 = .ok (.getfield 36, 3) := dk_180 0 36 (dk_at dksX16_behindBlank_1 20 rfl rfl)
theorem dX16_behindBlank_47 : decode cX16_behindBlank 47 = .ok (.ifCond .ne 32, 3) := dk_154 0 32 (dk_at dksX16_behindBlank_2 0 rfl rfl)
theorem dX16_behindBlank_50 : decode cX16_behindBlank 50 = .ok (.bipush 10, 2) := dk_16 10 (dk_at dksX16_behindBlank_2 3 rfl rfl)
theorem dX16_behindBlank_52 : decode cX16_behindBlank 52 = .ok (.iload_n 2, 1) := dk_28 (dk_at dksX16_behindBlank_2 5 rfl rfl)
theorem dX16_behindBlank_53 : decode cX16_behindBlank 53 = .ok (.imul, 1) := dk_104 (dk_at dksX16_behindBlank_2 6 rfl rfl)
theorem dX16_behindBlank_54 : decode cX16_behindBlank 54 = .ok (.aload_n 0, 1) := dk_42 (dk_at dksX16_behindBlank_2 7 rfl rfl)
theorem dX16_behindBlank_55 : decode cX16_behindBlank 55 = .ok (.invokevirtual 40, 3) := dk_182 0 40 (dk_at dksX16_behindBlank_2 8 rfl rfl)
theorem dX16_behindBlank_58 : decode cX16_behindBlank 58 = .ok (.iadd, 1) := dk_96 (dk_at dksX16_behindBlank_2 11 rfl rfl)
theorem dX16_behindBlank_59 : decode cX16_behindBlank 59 = .ok (.bipush 48, 2) := dk_16 48 (dk_at dksX16_behindBlank_2 12 rfl rfl)
theorem dX16_behindBlank_61 : decode cX16_behindBlank 61 = .ok (.isub, 1) := dk_100 (dk_at dksX16_behindBlank_2 14 rfl rfl)
theorem dX16_behindBlank_62 : decode cX16_behindBlank 62 = .ok (.istore_n 2, 1) := dk_61 (dk_at dksX16_behindBlank_2 15 rfl rfl)
theorem dX16_behindBlank_63 : decode cX16_behindBlank 63 = .ok (.aload_n 0, 1) := dk_42 (dk_at dksX16_behindBlank_2 16 rfl rfl)
theorem dX16_behindBlank_64 : decode cX16_behindBlank 64 = .ok (.dup, 1) := dk_89 (dk_at dksX16_behindBlank_2 17 rfl rfl)
theorem dX16_behindBlank_65 : decode cX16_behindBlank 65 = .ok (.getfield 22, 3) := dk_180 0 22 (dk_at dksX16_behindBlank_2 18 rfl rfl)
theorem dX16_behindBlank_68 : decode cX16_behindBlank 68 = .ok (.iconst 1, 1) := dk_4 (dk_at dksX16_behindBlank_2 21 rfl rfl)
theorem dX16_behindBlank_69 : decode cX16_behindBlank 69 = .ok (.iadd, 1) := dk_96 (dk_at dksX16_behindBlank_2 22 rfl rfl)
theorem dX16_behindBlank_70 : decode cX16_behindBlank 70 = .ok (.putfield 22, 3) := dk_181 0 22 (dk_at dksX16_behindBlank_3 0 rfl rfl)
theorem dX16_behindBlank_73 : decode cX16_behindBlank 73 = .ok (.iinc 3 1, 3) := dk_132 3 1 (dk_at dksX16_behindBlank_3 3 rfl rfl)
theorem dX16_behindBlank_76 : decode cX16_behindBlank 76 = .ok (.goto (-45), 3) := dk_167 255 211 (dk_at dksX16_behindBlank_3 6 rfl rfl)
theorem dX16_behindBlank_79 : decode cX16_behindBlank 79 = .ok (.iload_n 2, 1) := dk_28 (dk_at dksX16_behindBlank_3 9 rfl rfl)
theorem dX16_behindBlank_80 : decode cX16_behindBlank 80 = .ok (.ireturn, 1) := dk_172 (dk_at dksX16_behindBlank_3 10 rfl rfl)
abbrev cX16_isDigit : ByteArray := prog_10_method_5_code
def yX16_isDigit : MethodName := ⟨RX16, "isDigit", "()Z"⟩
def dkwX16_isDigit_0 : List UInt8 := [42, 182, 0, 40, 16, 48, 161, 0, 16, 42, 182, 0, 40, 16, 57, 163, 0, 7, 4, 167, 0, 4, 3, 172]
abbrev dktX16_isDigit_0 : List UInt8 := dkwX16_isDigit_0 ++ []
theorem dksX16_isDigit_0 : cX16_isDigit.data.toList.drop 0 = dktX16_isDigit_0 := by decide +kernel
theorem dX16_isDigit_0 : decode cX16_isDigit 0 = .ok (.aload_n 0, 1) := dk_42 (dk_at dksX16_isDigit_0 0 rfl rfl)
theorem dX16_isDigit_1 : decode cX16_isDigit 1 = .ok (.invokevirtual 40, 3) := dk_182 0 40 (dk_at dksX16_isDigit_0 1 rfl rfl)
theorem dX16_isDigit_4 : decode cX16_isDigit 4 = .ok (.bipush 48, 2) := dk_16 48 (dk_at dksX16_isDigit_0 4 rfl rfl)
theorem dX16_isDigit_6 : decode cX16_isDigit 6 = .ok (.if_icmp .lt 16, 3) := dk_161 0 16 (dk_at dksX16_isDigit_0 6 rfl rfl)
theorem dX16_isDigit_9 : decode cX16_isDigit 9 = .ok (.aload_n 0, 1) := dk_42 (dk_at dksX16_isDigit_0 9 rfl rfl)
theorem dX16_isDigit_10 : decode cX16_isDigit 10 = .ok (.invokevirtual 40, 3) := dk_182 0 40 (dk_at dksX16_isDigit_0 10 rfl rfl)
theorem dX16_isDigit_13 : decode cX16_isDigit 13 = .ok (.bipush 57, 2) := dk_16 57 (dk_at dksX16_isDigit_0 13 rfl rfl)
theorem dX16_isDigit_15 : decode cX16_isDigit 15 = .ok (.if_icmp .gt 7, 3) := dk_163 0 7 (dk_at dksX16_isDigit_0 15 rfl rfl)
theorem dX16_isDigit_18 : decode cX16_isDigit 18 = .ok (.iconst 1, 1) := dk_4 (dk_at dksX16_isDigit_0 18 rfl rfl)
theorem dX16_isDigit_19 : decode cX16_isDigit 19 = .ok (.goto 4, 3) := dk_167 0 4 (dk_at dksX16_isDigit_0 19 rfl rfl)
theorem dX16_isDigit_22 : decode cX16_isDigit 22 = .ok (.iconst 0, 1) := dk_3 (dk_at dksX16_isDigit_0 22 rfl rfl)
theorem dX16_isDigit_23 : decode cX16_isDigit 23 = .ok (.ireturn, 1) := dk_172 (dk_at dksX16_isDigit_0 23 rfl rfl)
abbrev cX17_init : ByteArray := prog_3_method_1_code
def yX17_init : MethodName := ⟨RX17, "<init>", "(Ljava/lang/String;)V"⟩
def dkwX17_init_0 : List UInt8 := [42, 183, 0, 1, 42, 16, 6, 188, 10, 181, 0, 7, 42, 43, 181, 0, 13, 177]
abbrev dktX17_init_0 : List UInt8 := dkwX17_init_0 ++ []
theorem dksX17_init_0 : cX17_init.data.toList.drop 0 = dktX17_init_0 := by decide +kernel
theorem dX17_init_0 : decode cX17_init 0 = .ok (.aload_n 0, 1) := dk_42 (dk_at dksX17_init_0 0 rfl rfl)
theorem dX17_init_1 : decode cX17_init 1 = .ok (.invokespecial 1, 3) := dk_183 0 1 (dk_at dksX17_init_0 1 rfl rfl)
theorem dX17_init_4 : decode cX17_init 4 = .ok (.aload_n 0, 1) := dk_42 (dk_at dksX17_init_0 4 rfl rfl)
theorem dX17_init_5 : decode cX17_init 5 = .ok (.bipush 6, 2) := dk_16 6 (dk_at dksX17_init_0 5 rfl rfl)
theorem dX17_init_7 : decode cX17_init 7 = .ok (.newarray .int, 2) := dk_188_10 (dk_at dksX17_init_0 7 rfl rfl)
theorem dX17_init_9 : decode cX17_init 9 = .ok (.putfield 7, 3) := dk_181 0 7 (dk_at dksX17_init_0 9 rfl rfl)
theorem dX17_init_12 : decode cX17_init 12 = .ok (.aload_n 0, 1) := dk_42 (dk_at dksX17_init_0 12 rfl rfl)
theorem dX17_init_13 : decode cX17_init 13 = .ok (.aload_n 1, 1) := dk_43 (dk_at dksX17_init_0 13 rfl rfl)
theorem dX17_init_14 : decode cX17_init 14 = .ok (.putfield 13, 3) := dk_181 0 13 (dk_at dksX17_init_0 14 rfl rfl)
theorem dX17_init_17 : decode cX17_init 17 = .ok (.return_, 1) := dk_177 (dk_at dksX17_init_0 17 rfl rfl)
abbrev cX18_planned : ByteArray := prog_13_method_2_code
def yX18_planned : MethodName := ⟨RX18, "planned", "(LCoachTimetable$Stop;)I"⟩
theorem dX18_planned_0 : decode cX18_planned 0 = .ok (.aload_n 1, 1) := by decide +kernel
theorem dX18_planned_1 : decode cX18_planned 1 = .ok (.getfield 7, 3) := by decide +kernel
theorem dX18_planned_4 : decode cX18_planned 4 = .ok (.ireturn, 1) := by decide +kernel
abbrev cX18_own : ByteArray := prog_13_method_3_code
def yX18_own : MethodName := ⟨RX18, "own", "(LCoachTimetable$Stop;)I"⟩
theorem dX18_own_0 : decode cX18_own 0 = .ok (.aload_n 1, 1) := by decide +kernel
theorem dX18_own_1 : decode cX18_own 1 = .ok (.getfield 13, 3) := by decide +kernel
theorem dX18_own_4 : decode cX18_own 4 = .ok (.ireturn, 1) := by decide +kernel
abbrev cX18_isAt : ByteArray := prog_13_method_5_code
def yX18_isAt : MethodName := ⟨RX18, "isAt", "(II)Z"⟩
def dkwX18_isAt_0 : List UInt8 := [27, 158, 0, 12, 27, 28, 162, 0, 7, 4, 167, 0, 4, 3, 172]
abbrev dktX18_isAt_0 : List UInt8 := dkwX18_isAt_0 ++ []
theorem dksX18_isAt_0 : cX18_isAt.data.toList.drop 0 = dktX18_isAt_0 := by decide +kernel
theorem dX18_isAt_0 : decode cX18_isAt 0 = .ok (.iload_n 1, 1) := dk_27 (dk_at dksX18_isAt_0 0 rfl rfl)
theorem dX18_isAt_1 : decode cX18_isAt 1 = .ok (.ifCond .le 12, 3) := dk_158 0 12 (dk_at dksX18_isAt_0 1 rfl rfl)
theorem dX18_isAt_4 : decode cX18_isAt 4 = .ok (.iload_n 1, 1) := dk_27 (dk_at dksX18_isAt_0 4 rfl rfl)
theorem dX18_isAt_5 : decode cX18_isAt 5 = .ok (.iload_n 2, 1) := dk_28 (dk_at dksX18_isAt_0 5 rfl rfl)
theorem dX18_isAt_6 : decode cX18_isAt 6 = .ok (.if_icmp .ge 7, 3) := dk_162 0 7 (dk_at dksX18_isAt_0 6 rfl rfl)
theorem dX18_isAt_9 : decode cX18_isAt 9 = .ok (.iconst 1, 1) := dk_4 (dk_at dksX18_isAt_0 9 rfl rfl)
theorem dX18_isAt_10 : decode cX18_isAt 10 = .ok (.goto 4, 3) := dk_167 0 4 (dk_at dksX18_isAt_0 10 rfl rfl)
theorem dX18_isAt_13 : decode cX18_isAt 13 = .ok (.iconst 0, 1) := dk_3 (dk_at dksX18_isAt_0 13 rfl rfl)
theorem dX18_isAt_14 : decode cX18_isAt 14 = .ok (.ireturn, 1) := dk_172 (dk_at dksX18_isAt_0 14 rfl rfl)
abbrev cX18_lays : ByteArray := prog_13_method_4_code
def yX18_lays : MethodName := ⟨RX18, "lays", "(LCoachTimetable$Stop;I)V"⟩
def dkwX18_lays_0 : List UInt8 := [43, 28, 181, 0, 13, 177]
abbrev dktX18_lays_0 : List UInt8 := dkwX18_lays_0 ++ []
theorem dksX18_lays_0 : cX18_lays.data.toList.drop 0 = dktX18_lays_0 := by decide +kernel
theorem dX18_lays_0 : decode cX18_lays 0 = .ok (.aload_n 1, 1) := dk_43 (dk_at dksX18_lays_0 0 rfl rfl)
theorem dX18_lays_1 : decode cX18_lays 1 = .ok (.iload_n 2, 1) := dk_28 (dk_at dksX18_lays_0 1 rfl rfl)
theorem dX18_lays_2 : decode cX18_lays 2 = .ok (.putfield 13, 3) := dk_181 0 13 (dk_at dksX18_lays_0 2 rfl rfl)
theorem dX18_lays_5 : decode cX18_lays 5 = .ok (.return_, 1) := dk_177 (dk_at dksX18_lays_0 5 rfl rfl)
abbrev cX19_planned : ByteArray := prog_14_method_2_code
def yX19_planned : MethodName := ⟨RX19, "planned", "(LCoachTimetable$Stop;)I"⟩
theorem dX19_planned_0 : decode cX19_planned 0 = .ok (.aload_n 1, 1) := by decide +kernel
theorem dX19_planned_1 : decode cX19_planned 1 = .ok (.getfield 7, 3) := by decide +kernel
theorem dX19_planned_4 : decode cX19_planned 4 = .ok (.ireturn, 1) := by decide +kernel
abbrev cX19_own : ByteArray := prog_14_method_3_code
def yX19_own : MethodName := ⟨RX19, "own", "(LCoachTimetable$Stop;)I"⟩
theorem dX19_own_0 : decode cX19_own 0 = .ok (.aload_n 1, 1) := by decide +kernel
theorem dX19_own_1 : decode cX19_own 1 = .ok (.getfield 13, 3) := by decide +kernel
theorem dX19_own_4 : decode cX19_own 4 = .ok (.ireturn, 1) := by decide +kernel
abbrev cX19_isAt : ByteArray := prog_14_method_5_code
def yX19_isAt : MethodName := ⟨RX19, "isAt", "(II)Z"⟩
def dkwX19_isAt_0 : List UInt8 := [27, 155, 0, 14, 27, 28, 4, 100, 162, 0, 7, 4, 167, 0, 4, 3, 172]
abbrev dktX19_isAt_0 : List UInt8 := dkwX19_isAt_0 ++ []
theorem dksX19_isAt_0 : cX19_isAt.data.toList.drop 0 = dktX19_isAt_0 := by decide +kernel
theorem dX19_isAt_0 : decode cX19_isAt 0 = .ok (.iload_n 1, 1) := dk_27 (dk_at dksX19_isAt_0 0 rfl rfl)
theorem dX19_isAt_1 : decode cX19_isAt 1 = .ok (.ifCond .lt 14, 3) := dk_155 0 14 (dk_at dksX19_isAt_0 1 rfl rfl)
theorem dX19_isAt_4 : decode cX19_isAt 4 = .ok (.iload_n 1, 1) := dk_27 (dk_at dksX19_isAt_0 4 rfl rfl)
theorem dX19_isAt_5 : decode cX19_isAt 5 = .ok (.iload_n 2, 1) := dk_28 (dk_at dksX19_isAt_0 5 rfl rfl)
theorem dX19_isAt_6 : decode cX19_isAt 6 = .ok (.iconst 1, 1) := dk_4 (dk_at dksX19_isAt_0 6 rfl rfl)
theorem dX19_isAt_7 : decode cX19_isAt 7 = .ok (.isub, 1) := dk_100 (dk_at dksX19_isAt_0 7 rfl rfl)
theorem dX19_isAt_8 : decode cX19_isAt 8 = .ok (.if_icmp .ge 7, 3) := dk_162 0 7 (dk_at dksX19_isAt_0 8 rfl rfl)
theorem dX19_isAt_11 : decode cX19_isAt 11 = .ok (.iconst 1, 1) := dk_4 (dk_at dksX19_isAt_0 11 rfl rfl)
theorem dX19_isAt_12 : decode cX19_isAt 12 = .ok (.goto 4, 3) := dk_167 0 4 (dk_at dksX19_isAt_0 12 rfl rfl)
theorem dX19_isAt_15 : decode cX19_isAt 15 = .ok (.iconst 0, 1) := dk_3 (dk_at dksX19_isAt_0 15 rfl rfl)
theorem dX19_isAt_16 : decode cX19_isAt 16 = .ok (.ireturn, 1) := dk_172 (dk_at dksX19_isAt_0 16 rfl rfl)
abbrev cX19_lays : ByteArray := prog_14_method_4_code
def yX19_lays : MethodName := ⟨RX19, "lays", "(LCoachTimetable$Stop;I)V"⟩
def dkwX19_lays_0 : List UInt8 := [43, 28, 181, 0, 13, 177]
abbrev dktX19_lays_0 : List UInt8 := dkwX19_lays_0 ++ []
theorem dksX19_lays_0 : cX19_lays.data.toList.drop 0 = dktX19_lays_0 := by decide +kernel
theorem dX19_lays_0 : decode cX19_lays 0 = .ok (.aload_n 1, 1) := dk_43 (dk_at dksX19_lays_0 0 rfl rfl)
theorem dX19_lays_1 : decode cX19_lays 1 = .ok (.iload_n 2, 1) := dk_28 (dk_at dksX19_lays_0 1 rfl rfl)
theorem dX19_lays_2 : decode cX19_lays 2 = .ok (.putfield 13, 3) := dk_181 0 13 (dk_at dksX19_lays_0 2 rfl rfl)
theorem dX19_lays_5 : decode cX19_lays 5 = .ok (.return_, 1) := dk_177 (dk_at dksX19_lays_0 5 rfl rfl)
abbrev cX2_init : ByteArray := prog_15_method_1_code
def yX2_init : MethodName := ⟨RX2, "<init>", "()V"⟩
def dkwX2_init_1 : List UInt8 := [181, 0, 16, 177]
abbrev dktX2_init_1 : List UInt8 := dkwX2_init_1 ++ []
def dkwX2_init_0 : List UInt8 := [42, 183, 0, 1, 42, 187, 0, 7, 89, 183, 0, 9, 181, 0, 10, 42, 187, 0, 7, 89, 183, 0, 9]
abbrev dktX2_init_0 : List UInt8 := dkwX2_init_0 ++ dktX2_init_1
theorem dksX2_init_0 : cX2_init.data.toList.drop 0 = dktX2_init_0 := by decide +kernel
theorem dksX2_init_1 : cX2_init.data.toList.drop 23 = dktX2_init_1 := dk_seg dksX2_init_0 23 rfl rfl
theorem dX2_init_0 : decode cX2_init 0 = .ok (.aload_n 0, 1) := dk_42 (dk_at dksX2_init_0 0 rfl rfl)
theorem dX2_init_1 : decode cX2_init 1 = .ok (.invokespecial 1, 3) := dk_183 0 1 (dk_at dksX2_init_0 1 rfl rfl)
theorem dX2_init_4 : decode cX2_init 4 = .ok (.aload_n 0, 1) := dk_42 (dk_at dksX2_init_0 4 rfl rfl)
theorem dX2_init_5 : decode cX2_init 5 = .ok (.new 7, 3) := dk_187 0 7 (dk_at dksX2_init_0 5 rfl rfl)
theorem dX2_init_8 : decode cX2_init 8 = .ok (.dup, 1) := dk_89 (dk_at dksX2_init_0 8 rfl rfl)
theorem dX2_init_9 : decode cX2_init 9 = .ok (.invokespecial 9, 3) := dk_183 0 9 (dk_at dksX2_init_0 9 rfl rfl)
theorem dX2_init_12 : decode cX2_init 12 = .ok (.putfield 10, 3) := dk_181 0 10 (dk_at dksX2_init_0 12 rfl rfl)
theorem dX2_init_15 : decode cX2_init 15 = .ok (.aload_n 0, 1) := dk_42 (dk_at dksX2_init_0 15 rfl rfl)
theorem dX2_init_16 : decode cX2_init 16 = .ok (.new 7, 3) := dk_187 0 7 (dk_at dksX2_init_0 16 rfl rfl)
theorem dX2_init_19 : decode cX2_init 19 = .ok (.dup, 1) := dk_89 (dk_at dksX2_init_0 19 rfl rfl)
theorem dX2_init_20 : decode cX2_init 20 = .ok (.invokespecial 9, 3) := dk_183 0 9 (dk_at dksX2_init_0 20 rfl rfl)
theorem dX2_init_23 : decode cX2_init 23 = .ok (.putfield 16, 3) := dk_181 0 16 (dk_at dksX2_init_1 0 rfl rfl)
theorem dX2_init_26 : decode cX2_init 26 = .ok (.return_, 1) := dk_177 (dk_at dksX2_init_1 3 rfl rfl)
abbrev cX2_copy : ByteArray := prog_15_method_2_code
def yX2_copy : MethodName := ⟨RX2, "copy", "()LCoachTimetable$State;"⟩
def dkwX2_copy_4 : List UInt8 := [43, 42, 180, 0, 49, 181, 0, 49, 43, 42, 180, 0, 53, 181, 0, 53, 43, 176]
abbrev dktX2_copy_4 : List UInt8 := dkwX2_copy_4 ++ []
def dkwX2_copy_3 : List UInt8 := [185, 0, 30, 1, 0, 192, 0, 44, 78, 43, 180, 0, 16, 45, 182, 0, 46, 182, 0, 40, 87, 167, 255, 225]
abbrev dktX2_copy_3 : List UInt8 := dkwX2_copy_3 ++ dktX2_copy_4
def dkwX2_copy_2 : List UInt8 := [87, 167, 255, 225, 42, 180, 0, 16, 182, 0, 20, 77, 44, 185, 0, 24, 1, 0, 153, 0, 28, 44]
abbrev dktX2_copy_2 : List UInt8 := dkwX2_copy_2 ++ dktX2_copy_3
def dkwX2_copy_1 : List UInt8 := [153, 0, 28, 44, 185, 0, 30, 1, 0, 192, 0, 34, 78, 43, 180, 0, 10, 45, 182, 0, 36, 182, 0, 40]
abbrev dktX2_copy_1 : List UInt8 := dkwX2_copy_1 ++ dktX2_copy_2
def dkwX2_copy_0 : List UInt8 := [187, 0, 11, 89, 183, 0, 19, 76, 42, 180, 0, 10, 182, 0, 20, 77, 44, 185, 0, 24, 1, 0]
abbrev dktX2_copy_0 : List UInt8 := dkwX2_copy_0 ++ dktX2_copy_1
theorem dksX2_copy_0 : cX2_copy.data.toList.drop 0 = dktX2_copy_0 := by decide +kernel
theorem dksX2_copy_1 : cX2_copy.data.toList.drop 22 = dktX2_copy_1 := dk_seg dksX2_copy_0 22 rfl rfl
theorem dksX2_copy_2 : cX2_copy.data.toList.drop 46 = dktX2_copy_2 := dk_seg dksX2_copy_1 24 rfl rfl
theorem dksX2_copy_3 : cX2_copy.data.toList.drop 68 = dktX2_copy_3 := dk_seg dksX2_copy_2 22 rfl rfl
theorem dksX2_copy_4 : cX2_copy.data.toList.drop 92 = dktX2_copy_4 := dk_seg dksX2_copy_3 24 rfl rfl
theorem dX2_copy_0 : decode cX2_copy 0 = .ok (.new 11, 3) := dk_187 0 11 (dk_at dksX2_copy_0 0 rfl rfl)
theorem dX2_copy_3 : decode cX2_copy 3 = .ok (.dup, 1) := dk_89 (dk_at dksX2_copy_0 3 rfl rfl)
theorem dX2_copy_4 : decode cX2_copy 4 = .ok (.invokespecial 19, 3) := dk_183 0 19 (dk_at dksX2_copy_0 4 rfl rfl)
theorem dX2_copy_7 : decode cX2_copy 7 = .ok (.astore_n 1, 1) := dk_76 (dk_at dksX2_copy_0 7 rfl rfl)
theorem dX2_copy_8 : decode cX2_copy 8 = .ok (.aload_n 0, 1) := dk_42 (dk_at dksX2_copy_0 8 rfl rfl)
theorem dX2_copy_9 : decode cX2_copy 9 = .ok (.getfield 10, 3) := dk_180 0 10 (dk_at dksX2_copy_0 9 rfl rfl)
theorem dX2_copy_12 : decode cX2_copy 12 = .ok (.invokevirtual 20, 3) := dk_182 0 20 (dk_at dksX2_copy_0 12 rfl rfl)
theorem dX2_copy_15 : decode cX2_copy 15 = .ok (.astore_n 2, 1) := dk_77 (dk_at dksX2_copy_0 15 rfl rfl)
theorem dX2_copy_16 : decode cX2_copy 16 = .ok (.aload_n 2, 1) := dk_44 (dk_at dksX2_copy_0 16 rfl rfl)
theorem dX2_copy_17 : decode cX2_copy 17 = .ok (.invokeinterface 24 1, 5) := by decide +kernel
theorem dX2_copy_22 : decode cX2_copy 22 = .ok (.ifCond .eq 28, 3) := dk_153 0 28 (dk_at dksX2_copy_1 0 rfl rfl)
theorem dX2_copy_25 : decode cX2_copy 25 = .ok (.aload_n 2, 1) := dk_44 (dk_at dksX2_copy_1 3 rfl rfl)
theorem dX2_copy_26 : decode cX2_copy 26 = .ok (.invokeinterface 30 1, 5) := by decide +kernel
theorem dX2_copy_31 : decode cX2_copy 31 = .ok (.checkcast 34, 3) := dk_192 0 34 (dk_at dksX2_copy_1 9 rfl rfl)
theorem dX2_copy_34 : decode cX2_copy 34 = .ok (.astore_n 3, 1) := dk_78 (dk_at dksX2_copy_1 12 rfl rfl)
theorem dX2_copy_35 : decode cX2_copy 35 = .ok (.aload_n 1, 1) := dk_43 (dk_at dksX2_copy_1 13 rfl rfl)
theorem dX2_copy_36 : decode cX2_copy 36 = .ok (.getfield 10, 3) := dk_180 0 10 (dk_at dksX2_copy_1 14 rfl rfl)
theorem dX2_copy_39 : decode cX2_copy 39 = .ok (.aload_n 3, 1) := dk_45 (dk_at dksX2_copy_1 17 rfl rfl)
theorem dX2_copy_40 : decode cX2_copy 40 = .ok (.invokevirtual 36, 3) := dk_182 0 36 (dk_at dksX2_copy_1 18 rfl rfl)
theorem dX2_copy_43 : decode cX2_copy 43 = .ok (.invokevirtual 40, 3) := dk_182 0 40 (dk_at dksX2_copy_1 21 rfl rfl)
theorem dX2_copy_46 : decode cX2_copy 46 = .ok (.pop, 1) := dk_87 (dk_at dksX2_copy_2 0 rfl rfl)
theorem dX2_copy_47 : decode cX2_copy 47 = .ok (.goto (-31), 3) := dk_167 255 225 (dk_at dksX2_copy_2 1 rfl rfl)
theorem dX2_copy_50 : decode cX2_copy 50 = .ok (.aload_n 0, 1) := dk_42 (dk_at dksX2_copy_2 4 rfl rfl)
theorem dX2_copy_51 : decode cX2_copy 51 = .ok (.getfield 16, 3) := dk_180 0 16 (dk_at dksX2_copy_2 5 rfl rfl)
theorem dX2_copy_54 : decode cX2_copy 54 = .ok (.invokevirtual 20, 3) := dk_182 0 20 (dk_at dksX2_copy_2 8 rfl rfl)
theorem dX2_copy_57 : decode cX2_copy 57 = .ok (.astore_n 2, 1) := dk_77 (dk_at dksX2_copy_2 11 rfl rfl)
theorem dX2_copy_58 : decode cX2_copy 58 = .ok (.aload_n 2, 1) := dk_44 (dk_at dksX2_copy_2 12 rfl rfl)
theorem dX2_copy_59 : decode cX2_copy 59 = .ok (.invokeinterface 24 1, 5) := by decide +kernel
theorem dX2_copy_64 : decode cX2_copy 64 = .ok (.ifCond .eq 28, 3) := dk_153 0 28 (dk_at dksX2_copy_2 18 rfl rfl)
theorem dX2_copy_67 : decode cX2_copy 67 = .ok (.aload_n 2, 1) := dk_44 (dk_at dksX2_copy_2 21 rfl rfl)
theorem dX2_copy_68 : decode cX2_copy 68 = .ok (.invokeinterface 30 1, 5) := by decide +kernel
theorem dX2_copy_73 : decode cX2_copy 73 = .ok (.checkcast 44, 3) := dk_192 0 44 (dk_at dksX2_copy_3 5 rfl rfl)
theorem dX2_copy_76 : decode cX2_copy 76 = .ok (.astore_n 3, 1) := dk_78 (dk_at dksX2_copy_3 8 rfl rfl)
theorem dX2_copy_77 : decode cX2_copy 77 = .ok (.aload_n 1, 1) := dk_43 (dk_at dksX2_copy_3 9 rfl rfl)
theorem dX2_copy_78 : decode cX2_copy 78 = .ok (.getfield 16, 3) := dk_180 0 16 (dk_at dksX2_copy_3 10 rfl rfl)
theorem dX2_copy_81 : decode cX2_copy 81 = .ok (.aload_n 3, 1) := dk_45 (dk_at dksX2_copy_3 13 rfl rfl)
theorem dX2_copy_82 : decode cX2_copy 82 = .ok (.invokevirtual 46, 3) := dk_182 0 46 (dk_at dksX2_copy_3 14 rfl rfl)
theorem dX2_copy_85 : decode cX2_copy 85 = .ok (.invokevirtual 40, 3) := dk_182 0 40 (dk_at dksX2_copy_3 17 rfl rfl)
theorem dX2_copy_88 : decode cX2_copy 88 = .ok (.pop, 1) := dk_87 (dk_at dksX2_copy_3 20 rfl rfl)
theorem dX2_copy_89 : decode cX2_copy 89 = .ok (.goto (-31), 3) := dk_167 255 225 (dk_at dksX2_copy_3 21 rfl rfl)
theorem dX2_copy_92 : decode cX2_copy 92 = .ok (.aload_n 1, 1) := dk_43 (dk_at dksX2_copy_4 0 rfl rfl)
theorem dX2_copy_93 : decode cX2_copy 93 = .ok (.aload_n 0, 1) := dk_42 (dk_at dksX2_copy_4 1 rfl rfl)
theorem dX2_copy_94 : decode cX2_copy 94 = .ok (.getfield 49, 3) := dk_180 0 49 (dk_at dksX2_copy_4 2 rfl rfl)
theorem dX2_copy_97 : decode cX2_copy 97 = .ok (.putfield 49, 3) := dk_181 0 49 (dk_at dksX2_copy_4 5 rfl rfl)
theorem dX2_copy_100 : decode cX2_copy 100 = .ok (.aload_n 1, 1) := dk_43 (dk_at dksX2_copy_4 8 rfl rfl)
theorem dX2_copy_101 : decode cX2_copy 101 = .ok (.aload_n 0, 1) := dk_42 (dk_at dksX2_copy_4 9 rfl rfl)
theorem dX2_copy_102 : decode cX2_copy 102 = .ok (.getfield 53, 3) := dk_180 0 53 (dk_at dksX2_copy_4 10 rfl rfl)
theorem dX2_copy_105 : decode cX2_copy 105 = .ok (.putfield 53, 3) := dk_181 0 53 (dk_at dksX2_copy_4 13 rfl rfl)
theorem dX2_copy_108 : decode cX2_copy 108 = .ok (.aload_n 1, 1) := dk_43 (dk_at dksX2_copy_4 16 rfl rfl)
theorem dX2_copy_109 : decode cX2_copy 109 = .ok (.areturn, 1) := dk_176 (dk_at dksX2_copy_4 17 rfl rfl)
abbrev cX2_isCoach : ByteArray := prog_15_method_3_code
def yX2_isCoach : MethodName := ⟨RX2, "isCoach", "(I)Z"⟩
def dkwX2_isCoach_0 : List UInt8 := [27, 3, 42, 180, 0, 10, 182, 0, 56, 4, 100, 184, 0, 60, 172]
abbrev dktX2_isCoach_0 : List UInt8 := dkwX2_isCoach_0 ++ []
theorem dksX2_isCoach_0 : cX2_isCoach.data.toList.drop 0 = dktX2_isCoach_0 := by decide +kernel
theorem dX2_isCoach_0 : decode cX2_isCoach 0 = .ok (.iload_n 1, 1) := dk_27 (dk_at dksX2_isCoach_0 0 rfl rfl)
theorem dX2_isCoach_1 : decode cX2_isCoach 1 = .ok (.iconst 0, 1) := dk_3 (dk_at dksX2_isCoach_0 1 rfl rfl)
theorem dX2_isCoach_2 : decode cX2_isCoach 2 = .ok (.aload_n 0, 1) := dk_42 (dk_at dksX2_isCoach_0 2 rfl rfl)
theorem dX2_isCoach_3 : decode cX2_isCoach 3 = .ok (.getfield 10, 3) := dk_180 0 10 (dk_at dksX2_isCoach_0 3 rfl rfl)
theorem dX2_isCoach_6 : decode cX2_isCoach 6 = .ok (.invokevirtual 56, 3) := dk_182 0 56 (dk_at dksX2_isCoach_0 6 rfl rfl)
theorem dX2_isCoach_9 : decode cX2_isCoach 9 = .ok (.iconst 1, 1) := dk_4 (dk_at dksX2_isCoach_0 9 rfl rfl)
theorem dX2_isCoach_10 : decode cX2_isCoach 10 = .ok (.isub, 1) := dk_100 (dk_at dksX2_isCoach_0 10 rfl rfl)
theorem dX2_isCoach_11 : decode cX2_isCoach 11 = .ok (.invokestatic 60, 3) := dk_184 0 60 (dk_at dksX2_isCoach_0 11 rfl rfl)
theorem dX2_isCoach_14 : decode cX2_isCoach 14 = .ok (.ireturn, 1) := dk_172 (dk_at dksX2_isCoach_0 14 rfl rfl)
abbrev cX2_isEvent : ByteArray := prog_15_method_4_code
def yX2_isEvent : MethodName := ⟨RX2, "isEvent", "(IILCoachTimetable$Side;)Z"⟩
def dkwX2_isEvent_1 : List UInt8 := [153, 0, 7, 4, 167, 0, 4, 3, 172]
abbrev dktX2_isEvent_1 : List UInt8 := dkwX2_isEvent_1 ++ []
def dkwX2_isEvent_0 : List UInt8 := [42, 27, 182, 0, 66, 153, 0, 26, 42, 180, 0, 10, 27, 182, 0, 70, 192, 0, 34, 28, 45, 182, 0, 74]
abbrev dktX2_isEvent_0 : List UInt8 := dkwX2_isEvent_0 ++ dktX2_isEvent_1
theorem dksX2_isEvent_0 : cX2_isEvent.data.toList.drop 0 = dktX2_isEvent_0 := by decide +kernel
theorem dksX2_isEvent_1 : cX2_isEvent.data.toList.drop 24 = dktX2_isEvent_1 := dk_seg dksX2_isEvent_0 24 rfl rfl
theorem dX2_isEvent_0 : decode cX2_isEvent 0 = .ok (.aload_n 0, 1) := dk_42 (dk_at dksX2_isEvent_0 0 rfl rfl)
theorem dX2_isEvent_1 : decode cX2_isEvent 1 = .ok (.iload_n 1, 1) := dk_27 (dk_at dksX2_isEvent_0 1 rfl rfl)
theorem dX2_isEvent_2 : decode cX2_isEvent 2 = .ok (.invokevirtual 66, 3) := dk_182 0 66 (dk_at dksX2_isEvent_0 2 rfl rfl)
theorem dX2_isEvent_5 : decode cX2_isEvent 5 = .ok (.ifCond .eq 26, 3) := dk_153 0 26 (dk_at dksX2_isEvent_0 5 rfl rfl)
theorem dX2_isEvent_8 : decode cX2_isEvent 8 = .ok (.aload_n 0, 1) := dk_42 (dk_at dksX2_isEvent_0 8 rfl rfl)
theorem dX2_isEvent_9 : decode cX2_isEvent 9 = .ok (.getfield 10, 3) := dk_180 0 10 (dk_at dksX2_isEvent_0 9 rfl rfl)
theorem dX2_isEvent_12 : decode cX2_isEvent 12 = .ok (.iload_n 1, 1) := dk_27 (dk_at dksX2_isEvent_0 12 rfl rfl)
theorem dX2_isEvent_13 : decode cX2_isEvent 13 = .ok (.invokevirtual 70, 3) := dk_182 0 70 (dk_at dksX2_isEvent_0 13 rfl rfl)
theorem dX2_isEvent_16 : decode cX2_isEvent 16 = .ok (.checkcast 34, 3) := dk_192 0 34 (dk_at dksX2_isEvent_0 16 rfl rfl)
theorem dX2_isEvent_19 : decode cX2_isEvent 19 = .ok (.iload_n 2, 1) := dk_28 (dk_at dksX2_isEvent_0 19 rfl rfl)
theorem dX2_isEvent_20 : decode cX2_isEvent 20 = .ok (.aload_n 3, 1) := dk_45 (dk_at dksX2_isEvent_0 20 rfl rfl)
theorem dX2_isEvent_21 : decode cX2_isEvent 21 = .ok (.invokevirtual 74, 3) := dk_182 0 74 (dk_at dksX2_isEvent_0 21 rfl rfl)
theorem dX2_isEvent_24 : decode cX2_isEvent 24 = .ok (.ifCond .eq 7, 3) := dk_153 0 7 (dk_at dksX2_isEvent_1 0 rfl rfl)
theorem dX2_isEvent_27 : decode cX2_isEvent 27 = .ok (.iconst 1, 1) := dk_4 (dk_at dksX2_isEvent_1 3 rfl rfl)
theorem dX2_isEvent_28 : decode cX2_isEvent 28 = .ok (.goto 4, 3) := dk_167 0 4 (dk_at dksX2_isEvent_1 4 rfl rfl)
theorem dX2_isEvent_31 : decode cX2_isEvent 31 = .ok (.iconst 0, 1) := dk_3 (dk_at dksX2_isEvent_1 7 rfl rfl)
theorem dX2_isEvent_32 : decode cX2_isEvent 32 = .ok (.ireturn, 1) := dk_172 (dk_at dksX2_isEvent_1 8 rfl rfl)
abbrev cX2_stop : ByteArray := prog_15_method_5_code
def yX2_stop : MethodName := ⟨RX2, "stop", "(II)LCoachTimetable$Stop;"⟩
def dkwX2_stop_0 : List UInt8 := [42, 180, 0, 10, 27, 182, 0, 70, 192, 0, 34, 180, 0, 78, 28, 182, 0, 70, 192, 0, 81, 176]
abbrev dktX2_stop_0 : List UInt8 := dkwX2_stop_0 ++ []
theorem dksX2_stop_0 : cX2_stop.data.toList.drop 0 = dktX2_stop_0 := by decide +kernel
theorem dX2_stop_0 : decode cX2_stop 0 = .ok (.aload_n 0, 1) := dk_42 (dk_at dksX2_stop_0 0 rfl rfl)
theorem dX2_stop_1 : decode cX2_stop 1 = .ok (.getfield 10, 3) := dk_180 0 10 (dk_at dksX2_stop_0 1 rfl rfl)
theorem dX2_stop_4 : decode cX2_stop 4 = .ok (.iload_n 1, 1) := dk_27 (dk_at dksX2_stop_0 4 rfl rfl)
theorem dX2_stop_5 : decode cX2_stop 5 = .ok (.invokevirtual 70, 3) := dk_182 0 70 (dk_at dksX2_stop_0 5 rfl rfl)
theorem dX2_stop_8 : decode cX2_stop 8 = .ok (.checkcast 34, 3) := dk_192 0 34 (dk_at dksX2_stop_0 8 rfl rfl)
theorem dX2_stop_11 : decode cX2_stop 11 = .ok (.getfield 78, 3) := dk_180 0 78 (dk_at dksX2_stop_0 11 rfl rfl)
theorem dX2_stop_14 : decode cX2_stop 14 = .ok (.iload_n 2, 1) := dk_28 (dk_at dksX2_stop_0 14 rfl rfl)
theorem dX2_stop_15 : decode cX2_stop 15 = .ok (.invokevirtual 70, 3) := dk_182 0 70 (dk_at dksX2_stop_0 15 rfl rfl)
theorem dX2_stop_18 : decode cX2_stop 18 = .ok (.checkcast 81, 3) := dk_192 0 81 (dk_at dksX2_stop_0 18 rfl rfl)
theorem dX2_stop_21 : decode cX2_stop 21 = .ok (.areturn, 1) := dk_176 (dk_at dksX2_stop_0 21 rfl rfl)
abbrev cX2_isLink : ByteArray := prog_15_method_6_code
def yX2_isLink : MethodName := ⟨RX2, "isLink", "(I)Z"⟩
def dkwX2_isLink_0 : List UInt8 := [27, 3, 42, 180, 0, 16, 182, 0, 56, 4, 100, 184, 0, 60, 172]
abbrev dktX2_isLink_0 : List UInt8 := dkwX2_isLink_0 ++ []
theorem dksX2_isLink_0 : cX2_isLink.data.toList.drop 0 = dktX2_isLink_0 := by decide +kernel
theorem dX2_isLink_0 : decode cX2_isLink 0 = .ok (.iload_n 1, 1) := dk_27 (dk_at dksX2_isLink_0 0 rfl rfl)
theorem dX2_isLink_1 : decode cX2_isLink 1 = .ok (.iconst 0, 1) := dk_3 (dk_at dksX2_isLink_0 1 rfl rfl)
theorem dX2_isLink_2 : decode cX2_isLink 2 = .ok (.aload_n 0, 1) := dk_42 (dk_at dksX2_isLink_0 2 rfl rfl)
theorem dX2_isLink_3 : decode cX2_isLink 3 = .ok (.getfield 16, 3) := dk_180 0 16 (dk_at dksX2_isLink_0 3 rfl rfl)
theorem dX2_isLink_6 : decode cX2_isLink 6 = .ok (.invokevirtual 56, 3) := dk_182 0 56 (dk_at dksX2_isLink_0 6 rfl rfl)
theorem dX2_isLink_9 : decode cX2_isLink 9 = .ok (.iconst 1, 1) := dk_4 (dk_at dksX2_isLink_0 9 rfl rfl)
theorem dX2_isLink_10 : decode cX2_isLink 10 = .ok (.isub, 1) := dk_100 (dk_at dksX2_isLink_0 10 rfl rfl)
theorem dX2_isLink_11 : decode cX2_isLink 11 = .ok (.invokestatic 60, 3) := dk_184 0 60 (dk_at dksX2_isLink_0 11 rfl rfl)
theorem dX2_isLink_14 : decode cX2_isLink 14 = .ok (.ireturn, 1) := dk_172 (dk_at dksX2_isLink_0 14 rfl rfl)
abbrev cX4_init : ByteArray := prog_11_method_1_code
def yX4_init : MethodName := ⟨RX4, "<init>", "(IILCoachTimetable$Reason;)V"⟩
def dkwX4_init_0 : List UInt8 := [42, 183, 0, 1, 42, 27, 181, 0, 7, 42, 28, 181, 0, 13, 42, 45, 181, 0, 16, 177]
abbrev dktX4_init_0 : List UInt8 := dkwX4_init_0 ++ []
theorem dksX4_init_0 : cX4_init.data.toList.drop 0 = dktX4_init_0 := by decide +kernel
theorem dX4_init_0 : decode cX4_init 0 = .ok (.aload_n 0, 1) := dk_42 (dk_at dksX4_init_0 0 rfl rfl)
theorem dX4_init_1 : decode cX4_init 1 = .ok (.invokespecial 1, 3) := dk_183 0 1 (dk_at dksX4_init_0 1 rfl rfl)
theorem dX4_init_4 : decode cX4_init 4 = .ok (.aload_n 0, 1) := dk_42 (dk_at dksX4_init_0 4 rfl rfl)
theorem dX4_init_5 : decode cX4_init 5 = .ok (.iload_n 1, 1) := dk_27 (dk_at dksX4_init_0 5 rfl rfl)
theorem dX4_init_6 : decode cX4_init 6 = .ok (.putfield 7, 3) := dk_181 0 7 (dk_at dksX4_init_0 6 rfl rfl)
theorem dX4_init_9 : decode cX4_init 9 = .ok (.aload_n 0, 1) := dk_42 (dk_at dksX4_init_0 9 rfl rfl)
theorem dX4_init_10 : decode cX4_init 10 = .ok (.iload_n 2, 1) := dk_28 (dk_at dksX4_init_0 10 rfl rfl)
theorem dX4_init_11 : decode cX4_init 11 = .ok (.putfield 13, 3) := dk_181 0 13 (dk_at dksX4_init_0 11 rfl rfl)
theorem dX4_init_14 : decode cX4_init 14 = .ok (.aload_n 0, 1) := dk_42 (dk_at dksX4_init_0 14 rfl rfl)
theorem dX4_init_15 : decode cX4_init 15 = .ok (.aload_n 3, 1) := dk_45 (dk_at dksX4_init_0 15 rfl rfl)
theorem dX4_init_16 : decode cX4_init 16 = .ok (.putfield 16, 3) := dk_181 0 16 (dk_at dksX4_init_0 16 rfl rfl)
theorem dX4_init_19 : decode cX4_init 19 = .ok (.return_, 1) := dk_177 (dk_at dksX4_init_0 19 rfl rfl)
abbrev cX5_copy : ByteArray := prog_2_method_2_code
def yX5_copy : MethodName := ⟨RX5, "copy", "()LCoachTimetable$Coach;"⟩
def dkwX5_copy_2 : List UInt8 := [87, 167, 255, 225, 43, 42, 180, 0, 18, 181, 0, 18, 43, 42, 180, 0, 22, 181, 0, 22, 43, 176]
abbrev dktX5_copy_2 : List UInt8 := dkwX5_copy_2 ++ []
def dkwX5_copy_1 : List UInt8 := [153, 0, 28, 44, 185, 0, 36, 1, 0, 192, 0, 40, 78, 43, 180, 0, 12, 45, 182, 0, 42, 182, 0, 46]
abbrev dktX5_copy_1 : List UInt8 := dkwX5_copy_1 ++ dktX5_copy_2
def dkwX5_copy_0 : List UInt8 := [187, 0, 13, 89, 183, 0, 25, 76, 42, 180, 0, 12, 182, 0, 26, 77, 44, 185, 0, 30, 1, 0]
abbrev dktX5_copy_0 : List UInt8 := dkwX5_copy_0 ++ dktX5_copy_1
theorem dksX5_copy_0 : cX5_copy.data.toList.drop 0 = dktX5_copy_0 := by decide +kernel
theorem dksX5_copy_1 : cX5_copy.data.toList.drop 22 = dktX5_copy_1 := dk_seg dksX5_copy_0 22 rfl rfl
theorem dksX5_copy_2 : cX5_copy.data.toList.drop 46 = dktX5_copy_2 := dk_seg dksX5_copy_1 24 rfl rfl
theorem dX5_copy_0 : decode cX5_copy 0 = .ok (.new 13, 3) := dk_187 0 13 (dk_at dksX5_copy_0 0 rfl rfl)
theorem dX5_copy_3 : decode cX5_copy 3 = .ok (.dup, 1) := dk_89 (dk_at dksX5_copy_0 3 rfl rfl)
theorem dX5_copy_4 : decode cX5_copy 4 = .ok (.invokespecial 25, 3) := dk_183 0 25 (dk_at dksX5_copy_0 4 rfl rfl)
theorem dX5_copy_7 : decode cX5_copy 7 = .ok (.astore_n 1, 1) := dk_76 (dk_at dksX5_copy_0 7 rfl rfl)
theorem dX5_copy_8 : decode cX5_copy 8 = .ok (.aload_n 0, 1) := dk_42 (dk_at dksX5_copy_0 8 rfl rfl)
theorem dX5_copy_9 : decode cX5_copy 9 = .ok (.getfield 12, 3) := dk_180 0 12 (dk_at dksX5_copy_0 9 rfl rfl)
theorem dX5_copy_12 : decode cX5_copy 12 = .ok (.invokevirtual 26, 3) := dk_182 0 26 (dk_at dksX5_copy_0 12 rfl rfl)
theorem dX5_copy_15 : decode cX5_copy 15 = .ok (.astore_n 2, 1) := dk_77 (dk_at dksX5_copy_0 15 rfl rfl)
theorem dX5_copy_16 : decode cX5_copy 16 = .ok (.aload_n 2, 1) := dk_44 (dk_at dksX5_copy_0 16 rfl rfl)
theorem dX5_copy_17 : decode cX5_copy 17 = .ok (.invokeinterface 30 1, 5) := by decide +kernel
theorem dX5_copy_22 : decode cX5_copy 22 = .ok (.ifCond .eq 28, 3) := dk_153 0 28 (dk_at dksX5_copy_1 0 rfl rfl)
theorem dX5_copy_25 : decode cX5_copy 25 = .ok (.aload_n 2, 1) := dk_44 (dk_at dksX5_copy_1 3 rfl rfl)
theorem dX5_copy_26 : decode cX5_copy 26 = .ok (.invokeinterface 36 1, 5) := by decide +kernel
theorem dX5_copy_31 : decode cX5_copy 31 = .ok (.checkcast 40, 3) := dk_192 0 40 (dk_at dksX5_copy_1 9 rfl rfl)
theorem dX5_copy_34 : decode cX5_copy 34 = .ok (.astore_n 3, 1) := dk_78 (dk_at dksX5_copy_1 12 rfl rfl)
theorem dX5_copy_35 : decode cX5_copy 35 = .ok (.aload_n 1, 1) := dk_43 (dk_at dksX5_copy_1 13 rfl rfl)
theorem dX5_copy_36 : decode cX5_copy 36 = .ok (.getfield 12, 3) := dk_180 0 12 (dk_at dksX5_copy_1 14 rfl rfl)
theorem dX5_copy_39 : decode cX5_copy 39 = .ok (.aload_n 3, 1) := dk_45 (dk_at dksX5_copy_1 17 rfl rfl)
theorem dX5_copy_40 : decode cX5_copy 40 = .ok (.invokevirtual 42, 3) := dk_182 0 42 (dk_at dksX5_copy_1 18 rfl rfl)
theorem dX5_copy_43 : decode cX5_copy 43 = .ok (.invokevirtual 46, 3) := dk_182 0 46 (dk_at dksX5_copy_1 21 rfl rfl)
theorem dX5_copy_46 : decode cX5_copy 46 = .ok (.pop, 1) := dk_87 (dk_at dksX5_copy_2 0 rfl rfl)
theorem dX5_copy_47 : decode cX5_copy 47 = .ok (.goto (-31), 3) := dk_167 255 225 (dk_at dksX5_copy_2 1 rfl rfl)
theorem dX5_copy_50 : decode cX5_copy 50 = .ok (.aload_n 1, 1) := dk_43 (dk_at dksX5_copy_2 4 rfl rfl)
theorem dX5_copy_51 : decode cX5_copy 51 = .ok (.aload_n 0, 1) := dk_42 (dk_at dksX5_copy_2 5 rfl rfl)
theorem dX5_copy_52 : decode cX5_copy 52 = .ok (.getfield 18, 3) := dk_180 0 18 (dk_at dksX5_copy_2 6 rfl rfl)
theorem dX5_copy_55 : decode cX5_copy 55 = .ok (.putfield 18, 3) := dk_181 0 18 (dk_at dksX5_copy_2 9 rfl rfl)
theorem dX5_copy_58 : decode cX5_copy 58 = .ok (.aload_n 1, 1) := dk_43 (dk_at dksX5_copy_2 12 rfl rfl)
theorem dX5_copy_59 : decode cX5_copy 59 = .ok (.aload_n 0, 1) := dk_42 (dk_at dksX5_copy_2 13 rfl rfl)
theorem dX5_copy_60 : decode cX5_copy 60 = .ok (.getfield 22, 3) := dk_180 0 22 (dk_at dksX5_copy_2 14 rfl rfl)
theorem dX5_copy_63 : decode cX5_copy 63 = .ok (.putfield 22, 3) := dk_181 0 22 (dk_at dksX5_copy_2 17 rfl rfl)
theorem dX5_copy_66 : decode cX5_copy 66 = .ok (.aload_n 1, 1) := dk_43 (dk_at dksX5_copy_2 20 rfl rfl)
theorem dX5_copy_67 : decode cX5_copy 67 = .ok (.areturn, 1) := dk_176 (dk_at dksX5_copy_2 21 rfl rfl)
abbrev cX5_init : ByteArray := prog_2_method_1_code
def yX5_init : MethodName := ⟨RX5, "<init>", "()V"⟩
def dkwX5_init_1 : List UInt8 := [181, 0, 22, 177]
abbrev dktX5_init_1 : List UInt8 := dkwX5_init_1 ++ []
def dkwX5_init_0 : List UInt8 := [42, 183, 0, 3, 42, 187, 0, 9, 89, 183, 0, 11, 181, 0, 12, 42, 2, 181, 0, 18, 42, 2]
abbrev dktX5_init_0 : List UInt8 := dkwX5_init_0 ++ dktX5_init_1
theorem dksX5_init_0 : cX5_init.data.toList.drop 0 = dktX5_init_0 := by decide +kernel
theorem dksX5_init_1 : cX5_init.data.toList.drop 22 = dktX5_init_1 := dk_seg dksX5_init_0 22 rfl rfl
theorem dX5_init_0 : decode cX5_init 0 = .ok (.aload_n 0, 1) := dk_42 (dk_at dksX5_init_0 0 rfl rfl)
theorem dX5_init_1 : decode cX5_init 1 = .ok (.invokespecial 3, 3) := dk_183 0 3 (dk_at dksX5_init_0 1 rfl rfl)
theorem dX5_init_4 : decode cX5_init 4 = .ok (.aload_n 0, 1) := dk_42 (dk_at dksX5_init_0 4 rfl rfl)
theorem dX5_init_5 : decode cX5_init 5 = .ok (.new 9, 3) := dk_187 0 9 (dk_at dksX5_init_0 5 rfl rfl)
theorem dX5_init_8 : decode cX5_init 8 = .ok (.dup, 1) := dk_89 (dk_at dksX5_init_0 8 rfl rfl)
theorem dX5_init_9 : decode cX5_init 9 = .ok (.invokespecial 11, 3) := dk_183 0 11 (dk_at dksX5_init_0 9 rfl rfl)
theorem dX5_init_12 : decode cX5_init 12 = .ok (.putfield 12, 3) := dk_181 0 12 (dk_at dksX5_init_0 12 rfl rfl)
theorem dX5_init_15 : decode cX5_init 15 = .ok (.aload_n 0, 1) := dk_42 (dk_at dksX5_init_0 15 rfl rfl)
theorem dX5_init_16 : decode cX5_init 16 = .ok (.iconst (-1), 1) := dk_2 (dk_at dksX5_init_0 16 rfl rfl)
theorem dX5_init_17 : decode cX5_init 17 = .ok (.putfield 18, 3) := dk_181 0 18 (dk_at dksX5_init_0 17 rfl rfl)
theorem dX5_init_20 : decode cX5_init 20 = .ok (.aload_n 0, 1) := dk_42 (dk_at dksX5_init_0 20 rfl rfl)
theorem dX5_init_21 : decode cX5_init 21 = .ok (.iconst (-1), 1) := dk_2 (dk_at dksX5_init_0 21 rfl rfl)
theorem dX5_init_22 : decode cX5_init 22 = .ok (.putfield 22, 3) := dk_181 0 22 (dk_at dksX5_init_1 0 rfl rfl)
theorem dX5_init_25 : decode cX5_init 25 = .ok (.return_, 1) := dk_177 (dk_at dksX5_init_1 3 rfl rfl)
abbrev cX5_last : ByteArray := prog_2_method_3_code
def yX5_last : MethodName := ⟨RX5, "last", "()LCoachTimetable$Stop;"⟩
def dkwX5_last_0 : List UInt8 := [42, 180, 0, 12, 42, 180, 0, 12, 182, 0, 50, 4, 100, 182, 0, 54, 192, 0, 40, 176]
abbrev dktX5_last_0 : List UInt8 := dkwX5_last_0 ++ []
theorem dksX5_last_0 : cX5_last.data.toList.drop 0 = dktX5_last_0 := by decide +kernel
theorem dX5_last_0 : decode cX5_last 0 = .ok (.aload_n 0, 1) := dk_42 (dk_at dksX5_last_0 0 rfl rfl)
theorem dX5_last_1 : decode cX5_last 1 = .ok (.getfield 12, 3) := dk_180 0 12 (dk_at dksX5_last_0 1 rfl rfl)
theorem dX5_last_4 : decode cX5_last 4 = .ok (.aload_n 0, 1) := dk_42 (dk_at dksX5_last_0 4 rfl rfl)
theorem dX5_last_5 : decode cX5_last 5 = .ok (.getfield 12, 3) := dk_180 0 12 (dk_at dksX5_last_0 5 rfl rfl)
theorem dX5_last_8 : decode cX5_last 8 = .ok (.invokevirtual 50, 3) := dk_182 0 50 (dk_at dksX5_last_0 8 rfl rfl)
theorem dX5_last_11 : decode cX5_last 11 = .ok (.iconst 1, 1) := dk_4 (dk_at dksX5_last_0 11 rfl rfl)
theorem dX5_last_12 : decode cX5_last 12 = .ok (.isub, 1) := dk_100 (dk_at dksX5_last_0 12 rfl rfl)
theorem dX5_last_13 : decode cX5_last 13 = .ok (.invokevirtual 54, 3) := dk_182 0 54 (dk_at dksX5_last_0 13 rfl rfl)
theorem dX5_last_16 : decode cX5_last 16 = .ok (.checkcast 40, 3) := dk_192 0 40 (dk_at dksX5_last_0 16 rfl rfl)
theorem dX5_last_19 : decode cX5_last 19 = .ok (.areturn, 1) := dk_176 (dk_at dksX5_last_0 19 rfl rfl)
abbrev cX5_hasEvent : ByteArray := prog_2_method_4_code
def yX5_hasEvent : MethodName := ⟨RX5, "hasEvent", "(ILCoachTimetable$Side;)Z"⟩
def dkwX5_hasEvent_0 : List UInt8 := [44, 27, 42, 180, 0, 12, 182, 0, 50, 182, 0, 58, 172]
abbrev dktX5_hasEvent_0 : List UInt8 := dkwX5_hasEvent_0 ++ []
theorem dksX5_hasEvent_0 : cX5_hasEvent.data.toList.drop 0 = dktX5_hasEvent_0 := by decide +kernel
theorem dX5_hasEvent_0 : decode cX5_hasEvent 0 = .ok (.aload_n 2, 1) := dk_44 (dk_at dksX5_hasEvent_0 0 rfl rfl)
theorem dX5_hasEvent_1 : decode cX5_hasEvent 1 = .ok (.iload_n 1, 1) := dk_27 (dk_at dksX5_hasEvent_0 1 rfl rfl)
theorem dX5_hasEvent_2 : decode cX5_hasEvent 2 = .ok (.aload_n 0, 1) := dk_42 (dk_at dksX5_hasEvent_0 2 rfl rfl)
theorem dX5_hasEvent_3 : decode cX5_hasEvent 3 = .ok (.getfield 12, 3) := dk_180 0 12 (dk_at dksX5_hasEvent_0 3 rfl rfl)
theorem dX5_hasEvent_6 : decode cX5_hasEvent 6 = .ok (.invokevirtual 50, 3) := dk_182 0 50 (dk_at dksX5_hasEvent_0 6 rfl rfl)
theorem dX5_hasEvent_9 : decode cX5_hasEvent 9 = .ok (.invokevirtual 58, 3) := dk_182 0 58 (dk_at dksX5_hasEvent_0 9 rfl rfl)
theorem dX5_hasEvent_12 : decode cX5_hasEvent 12 = .ok (.ireturn, 1) := dk_172 (dk_at dksX5_hasEvent_0 12 rfl rfl)
abbrev cX5_own : ByteArray := prog_2_method_5_code
def yX5_own : MethodName := ⟨RX5, "own", "()I"⟩
def dkwX5_own_2 : List UInt8 := [27, 172]
abbrev dktX5_own_2 : List UInt8 := dkwX5_own_2 ++ []
def dkwX5_own_1 : List UInt8 := [185, 0, 36, 1, 0, 192, 0, 40, 78, 27, 45, 180, 0, 64, 45, 180, 0, 67, 96, 96, 60, 167, 255, 225]
abbrev dktX5_own_1 : List UInt8 := dkwX5_own_1 ++ dktX5_own_2
def dkwX5_own_0 : List UInt8 := [3, 60, 42, 180, 0, 12, 182, 0, 26, 77, 44, 185, 0, 30, 1, 0, 153, 0, 28, 44]
abbrev dktX5_own_0 : List UInt8 := dkwX5_own_0 ++ dktX5_own_1
theorem dksX5_own_0 : cX5_own.data.toList.drop 0 = dktX5_own_0 := by decide +kernel
theorem dksX5_own_1 : cX5_own.data.toList.drop 20 = dktX5_own_1 := dk_seg dksX5_own_0 20 rfl rfl
theorem dksX5_own_2 : cX5_own.data.toList.drop 44 = dktX5_own_2 := dk_seg dksX5_own_1 24 rfl rfl
theorem dX5_own_0 : decode cX5_own 0 = .ok (.iconst 0, 1) := dk_3 (dk_at dksX5_own_0 0 rfl rfl)
theorem dX5_own_1 : decode cX5_own 1 = .ok (.istore_n 1, 1) := dk_60 (dk_at dksX5_own_0 1 rfl rfl)
theorem dX5_own_2 : decode cX5_own 2 = .ok (.aload_n 0, 1) := dk_42 (dk_at dksX5_own_0 2 rfl rfl)
theorem dX5_own_3 : decode cX5_own 3 = .ok (.getfield 12, 3) := dk_180 0 12 (dk_at dksX5_own_0 3 rfl rfl)
theorem dX5_own_6 : decode cX5_own 6 = .ok (.invokevirtual 26, 3) := dk_182 0 26 (dk_at dksX5_own_0 6 rfl rfl)
theorem dX5_own_9 : decode cX5_own 9 = .ok (.astore_n 2, 1) := dk_77 (dk_at dksX5_own_0 9 rfl rfl)
theorem dX5_own_10 : decode cX5_own 10 = .ok (.aload_n 2, 1) := dk_44 (dk_at dksX5_own_0 10 rfl rfl)
theorem dX5_own_11 : decode cX5_own 11 = .ok (.invokeinterface 30 1, 5) := by decide +kernel
theorem dX5_own_16 : decode cX5_own 16 = .ok (.ifCond .eq 28, 3) := dk_153 0 28 (dk_at dksX5_own_0 16 rfl rfl)
theorem dX5_own_19 : decode cX5_own 19 = .ok (.aload_n 2, 1) := dk_44 (dk_at dksX5_own_0 19 rfl rfl)
theorem dX5_own_20 : decode cX5_own 20 = .ok (.invokeinterface 36 1, 5) := by decide +kernel
theorem dX5_own_25 : decode cX5_own 25 = .ok (.checkcast 40, 3) := dk_192 0 40 (dk_at dksX5_own_1 5 rfl rfl)
theorem dX5_own_28 : decode cX5_own 28 = .ok (.astore_n 3, 1) := dk_78 (dk_at dksX5_own_1 8 rfl rfl)
theorem dX5_own_29 : decode cX5_own 29 = .ok (.iload_n 1, 1) := dk_27 (dk_at dksX5_own_1 9 rfl rfl)
theorem dX5_own_30 : decode cX5_own 30 = .ok (.aload_n 3, 1) := dk_45 (dk_at dksX5_own_1 10 rfl rfl)
theorem dX5_own_31 : decode cX5_own 31 = .ok (.getfield 64, 3) := dk_180 0 64 (dk_at dksX5_own_1 11 rfl rfl)
theorem dX5_own_34 : decode cX5_own 34 = .ok (.aload_n 3, 1) := dk_45 (dk_at dksX5_own_1 14 rfl rfl)
theorem dX5_own_35 : decode cX5_own 35 = .ok (.getfield 67, 3) := dk_180 0 67 (dk_at dksX5_own_1 15 rfl rfl)
theorem dX5_own_38 : decode cX5_own 38 = .ok (.iadd, 1) := dk_96 (dk_at dksX5_own_1 18 rfl rfl)
theorem dX5_own_39 : decode cX5_own 39 = .ok (.iadd, 1) := dk_96 (dk_at dksX5_own_1 19 rfl rfl)
theorem dX5_own_40 : decode cX5_own 40 = .ok (.istore_n 1, 1) := dk_60 (dk_at dksX5_own_1 20 rfl rfl)
theorem dX5_own_41 : decode cX5_own 41 = .ok (.goto (-31), 3) := dk_167 255 225 (dk_at dksX5_own_1 21 rfl rfl)
theorem dX5_own_44 : decode cX5_own 44 = .ok (.iload_n 1, 1) := dk_27 (dk_at dksX5_own_2 0 rfl rfl)
theorem dX5_own_45 : decode cX5_own 45 = .ok (.ireturn, 1) := dk_172 (dk_at dksX5_own_2 1 rfl rfl)
abbrev cX6_own : ByteArray := prog_17_method_3_code
def yX6_own : MethodName := ⟨RX6, "own", "(LCoachTimetable$Side;)I"⟩
def dkwX6_own_0 : List UInt8 := [43, 42, 182, 0, 40, 172]
abbrev dktX6_own_0 : List UInt8 := dkwX6_own_0 ++ []
theorem dksX6_own_0 : cX6_own.data.toList.drop 0 = dktX6_own_0 := by decide +kernel
theorem dX6_own_0 : decode cX6_own 0 = .ok (.aload_n 1, 1) := dk_43 (dk_at dksX6_own_0 0 rfl rfl)
theorem dX6_own_1 : decode cX6_own 1 = .ok (.aload_n 0, 1) := dk_42 (dk_at dksX6_own_0 1 rfl rfl)
theorem dX6_own_2 : decode cX6_own 2 = .ok (.invokevirtual 40, 3) := dk_182 0 40 (dk_at dksX6_own_0 2 rfl rfl)
theorem dX6_own_5 : decode cX6_own 5 = .ok (.ireturn, 1) := dk_172 (dk_at dksX6_own_0 5 rfl rfl)
abbrev cX6_copy : ByteArray := prog_17_method_2_code
def yX6_copy : MethodName := ⟨RX6, "copy", "()LCoachTimetable$Stop;"⟩
def dkwX6_copy_2 : List UInt8 := [180, 0, 37, 181, 0, 37, 43, 176]
abbrev dktX6_copy_2 : List UInt8 := dkwX6_copy_2 ++ []
def dkwX6_copy_1 : List UInt8 := [42, 180, 0, 25, 42, 180, 0, 28, 183, 0, 31, 76, 43, 42, 180, 0, 34, 181, 0, 34, 43, 42]
abbrev dktX6_copy_1 : List UInt8 := dkwX6_copy_1 ++ dktX6_copy_2
def dkwX6_copy_0 : List UInt8 := [187, 0, 8, 89, 42, 180, 0, 7, 42, 180, 0, 13, 42, 180, 0, 16, 42, 180, 0, 19, 42, 180, 0, 22]
abbrev dktX6_copy_0 : List UInt8 := dkwX6_copy_0 ++ dktX6_copy_1
theorem dksX6_copy_0 : cX6_copy.data.toList.drop 0 = dktX6_copy_0 := by decide +kernel
theorem dksX6_copy_1 : cX6_copy.data.toList.drop 24 = dktX6_copy_1 := dk_seg dksX6_copy_0 24 rfl rfl
theorem dksX6_copy_2 : cX6_copy.data.toList.drop 46 = dktX6_copy_2 := dk_seg dksX6_copy_1 22 rfl rfl
theorem dX6_copy_0 : decode cX6_copy 0 = .ok (.new 8, 3) := dk_187 0 8 (dk_at dksX6_copy_0 0 rfl rfl)
theorem dX6_copy_3 : decode cX6_copy 3 = .ok (.dup, 1) := dk_89 (dk_at dksX6_copy_0 3 rfl rfl)
theorem dX6_copy_4 : decode cX6_copy 4 = .ok (.aload_n 0, 1) := dk_42 (dk_at dksX6_copy_0 4 rfl rfl)
theorem dX6_copy_5 : decode cX6_copy 5 = .ok (.getfield 7, 3) := dk_180 0 7 (dk_at dksX6_copy_0 5 rfl rfl)
theorem dX6_copy_8 : decode cX6_copy 8 = .ok (.aload_n 0, 1) := dk_42 (dk_at dksX6_copy_0 8 rfl rfl)
theorem dX6_copy_9 : decode cX6_copy 9 = .ok (.getfield 13, 3) := dk_180 0 13 (dk_at dksX6_copy_0 9 rfl rfl)
theorem dX6_copy_12 : decode cX6_copy 12 = .ok (.aload_n 0, 1) := dk_42 (dk_at dksX6_copy_0 12 rfl rfl)
theorem dX6_copy_13 : decode cX6_copy 13 = .ok (.getfield 16, 3) := dk_180 0 16 (dk_at dksX6_copy_0 13 rfl rfl)
theorem dX6_copy_16 : decode cX6_copy 16 = .ok (.aload_n 0, 1) := dk_42 (dk_at dksX6_copy_0 16 rfl rfl)
theorem dX6_copy_17 : decode cX6_copy 17 = .ok (.getfield 19, 3) := dk_180 0 19 (dk_at dksX6_copy_0 17 rfl rfl)
theorem dX6_copy_20 : decode cX6_copy 20 = .ok (.aload_n 0, 1) := dk_42 (dk_at dksX6_copy_0 20 rfl rfl)
theorem dX6_copy_21 : decode cX6_copy 21 = .ok (.getfield 22, 3) := dk_180 0 22 (dk_at dksX6_copy_0 21 rfl rfl)
theorem dX6_copy_24 : decode cX6_copy 24 = .ok (.aload_n 0, 1) := dk_42 (dk_at dksX6_copy_1 0 rfl rfl)
theorem dX6_copy_25 : decode cX6_copy 25 = .ok (.getfield 25, 3) := dk_180 0 25 (dk_at dksX6_copy_1 1 rfl rfl)
theorem dX6_copy_28 : decode cX6_copy 28 = .ok (.aload_n 0, 1) := dk_42 (dk_at dksX6_copy_1 4 rfl rfl)
theorem dX6_copy_29 : decode cX6_copy 29 = .ok (.getfield 28, 3) := dk_180 0 28 (dk_at dksX6_copy_1 5 rfl rfl)
theorem dX6_copy_32 : decode cX6_copy 32 = .ok (.invokespecial 31, 3) := dk_183 0 31 (dk_at dksX6_copy_1 8 rfl rfl)
theorem dX6_copy_35 : decode cX6_copy 35 = .ok (.astore_n 1, 1) := dk_76 (dk_at dksX6_copy_1 11 rfl rfl)
theorem dX6_copy_36 : decode cX6_copy 36 = .ok (.aload_n 1, 1) := dk_43 (dk_at dksX6_copy_1 12 rfl rfl)
theorem dX6_copy_37 : decode cX6_copy 37 = .ok (.aload_n 0, 1) := dk_42 (dk_at dksX6_copy_1 13 rfl rfl)
theorem dX6_copy_38 : decode cX6_copy 38 = .ok (.getfield 34, 3) := dk_180 0 34 (dk_at dksX6_copy_1 14 rfl rfl)
theorem dX6_copy_41 : decode cX6_copy 41 = .ok (.putfield 34, 3) := dk_181 0 34 (dk_at dksX6_copy_1 17 rfl rfl)
theorem dX6_copy_44 : decode cX6_copy 44 = .ok (.aload_n 1, 1) := dk_43 (dk_at dksX6_copy_1 20 rfl rfl)
theorem dX6_copy_45 : decode cX6_copy 45 = .ok (.aload_n 0, 1) := dk_42 (dk_at dksX6_copy_1 21 rfl rfl)
theorem dX6_copy_46 : decode cX6_copy 46 = .ok (.getfield 37, 3) := dk_180 0 37 (dk_at dksX6_copy_2 0 rfl rfl)
theorem dX6_copy_49 : decode cX6_copy 49 = .ok (.putfield 37, 3) := dk_181 0 37 (dk_at dksX6_copy_2 3 rfl rfl)
theorem dX6_copy_52 : decode cX6_copy 52 = .ok (.aload_n 1, 1) := dk_43 (dk_at dksX6_copy_2 6 rfl rfl)
theorem dX6_copy_53 : decode cX6_copy 53 = .ok (.areturn, 1) := dk_176 (dk_at dksX6_copy_2 7 rfl rfl)
abbrev cX6_init : ByteArray := prog_17_method_1_code
def yX6_init : MethodName := ⟨RX6, "<init>", "(IIIIIII)V"⟩
def dkwX6_init_1 : List UInt8 := [181, 0, 19, 42, 21, 5, 181, 0, 22, 42, 21, 6, 181, 0, 25, 42, 21, 7, 181, 0, 28, 177]
abbrev dktX6_init_1 : List UInt8 := dkwX6_init_1 ++ []
def dkwX6_init_0 : List UInt8 := [42, 183, 0, 1, 42, 27, 181, 0, 7, 42, 28, 181, 0, 13, 42, 29, 181, 0, 16, 42, 21, 4]
abbrev dktX6_init_0 : List UInt8 := dkwX6_init_0 ++ dktX6_init_1
theorem dksX6_init_0 : cX6_init.data.toList.drop 0 = dktX6_init_0 := by decide +kernel
theorem dksX6_init_1 : cX6_init.data.toList.drop 22 = dktX6_init_1 := dk_seg dksX6_init_0 22 rfl rfl
theorem dX6_init_0 : decode cX6_init 0 = .ok (.aload_n 0, 1) := dk_42 (dk_at dksX6_init_0 0 rfl rfl)
theorem dX6_init_1 : decode cX6_init 1 = .ok (.invokespecial 1, 3) := dk_183 0 1 (dk_at dksX6_init_0 1 rfl rfl)
theorem dX6_init_4 : decode cX6_init 4 = .ok (.aload_n 0, 1) := dk_42 (dk_at dksX6_init_0 4 rfl rfl)
theorem dX6_init_5 : decode cX6_init 5 = .ok (.iload_n 1, 1) := dk_27 (dk_at dksX6_init_0 5 rfl rfl)
theorem dX6_init_6 : decode cX6_init 6 = .ok (.putfield 7, 3) := dk_181 0 7 (dk_at dksX6_init_0 6 rfl rfl)
theorem dX6_init_9 : decode cX6_init 9 = .ok (.aload_n 0, 1) := dk_42 (dk_at dksX6_init_0 9 rfl rfl)
theorem dX6_init_10 : decode cX6_init 10 = .ok (.iload_n 2, 1) := dk_28 (dk_at dksX6_init_0 10 rfl rfl)
theorem dX6_init_11 : decode cX6_init 11 = .ok (.putfield 13, 3) := dk_181 0 13 (dk_at dksX6_init_0 11 rfl rfl)
theorem dX6_init_14 : decode cX6_init 14 = .ok (.aload_n 0, 1) := dk_42 (dk_at dksX6_init_0 14 rfl rfl)
theorem dX6_init_15 : decode cX6_init 15 = .ok (.iload_n 3, 1) := dk_29 (dk_at dksX6_init_0 15 rfl rfl)
theorem dX6_init_16 : decode cX6_init 16 = .ok (.putfield 16, 3) := dk_181 0 16 (dk_at dksX6_init_0 16 rfl rfl)
theorem dX6_init_19 : decode cX6_init 19 = .ok (.aload_n 0, 1) := dk_42 (dk_at dksX6_init_0 19 rfl rfl)
theorem dX6_init_20 : decode cX6_init 20 = .ok (.iload 4, 2) := dk_21 4 (dk_at dksX6_init_0 20 rfl rfl)
theorem dX6_init_22 : decode cX6_init 22 = .ok (.putfield 19, 3) := dk_181 0 19 (dk_at dksX6_init_1 0 rfl rfl)
theorem dX6_init_25 : decode cX6_init 25 = .ok (.aload_n 0, 1) := dk_42 (dk_at dksX6_init_1 3 rfl rfl)
theorem dX6_init_26 : decode cX6_init 26 = .ok (.iload 5, 2) := dk_21 5 (dk_at dksX6_init_1 4 rfl rfl)
theorem dX6_init_28 : decode cX6_init 28 = .ok (.putfield 22, 3) := dk_181 0 22 (dk_at dksX6_init_1 6 rfl rfl)
theorem dX6_init_31 : decode cX6_init 31 = .ok (.aload_n 0, 1) := dk_42 (dk_at dksX6_init_1 9 rfl rfl)
theorem dX6_init_32 : decode cX6_init 32 = .ok (.iload 6, 2) := dk_21 6 (dk_at dksX6_init_1 10 rfl rfl)
theorem dX6_init_34 : decode cX6_init 34 = .ok (.putfield 25, 3) := dk_181 0 25 (dk_at dksX6_init_1 12 rfl rfl)
theorem dX6_init_37 : decode cX6_init 37 = .ok (.aload_n 0, 1) := dk_42 (dk_at dksX6_init_1 15 rfl rfl)
theorem dX6_init_38 : decode cX6_init 38 = .ok (.iload 7, 2) := dk_21 7 (dk_at dksX6_init_1 16 rfl rfl)
theorem dX6_init_40 : decode cX6_init 40 = .ok (.putfield 28, 3) := dk_181 0 28 (dk_at dksX6_init_1 18 rfl rfl)
theorem dX6_init_43 : decode cX6_init 43 = .ok (.return_, 1) := dk_177 (dk_at dksX6_init_1 21 rfl rfl)
abbrev cX7_copy : ByteArray := prog_8_method_2_code
def yX7_copy : MethodName := ⟨RX7, "copy", "()LCoachTimetable$Link;"⟩
def dkwX7_copy_1 : List UInt8 := [42, 180, 0, 25, 183, 0, 28, 176]
abbrev dktX7_copy_1 : List UInt8 := dkwX7_copy_1 ++ []
def dkwX7_copy_0 : List UInt8 := [187, 0, 8, 89, 42, 180, 0, 7, 42, 180, 0, 13, 42, 180, 0, 16, 42, 180, 0, 19, 42, 180, 0, 22]
abbrev dktX7_copy_0 : List UInt8 := dkwX7_copy_0 ++ dktX7_copy_1
theorem dksX7_copy_0 : cX7_copy.data.toList.drop 0 = dktX7_copy_0 := by decide +kernel
theorem dksX7_copy_1 : cX7_copy.data.toList.drop 24 = dktX7_copy_1 := dk_seg dksX7_copy_0 24 rfl rfl
theorem dX7_copy_0 : decode cX7_copy 0 = .ok (.new 8, 3) := dk_187 0 8 (dk_at dksX7_copy_0 0 rfl rfl)
theorem dX7_copy_3 : decode cX7_copy 3 = .ok (.dup, 1) := dk_89 (dk_at dksX7_copy_0 3 rfl rfl)
theorem dX7_copy_4 : decode cX7_copy 4 = .ok (.aload_n 0, 1) := dk_42 (dk_at dksX7_copy_0 4 rfl rfl)
theorem dX7_copy_5 : decode cX7_copy 5 = .ok (.getfield 7, 3) := dk_180 0 7 (dk_at dksX7_copy_0 5 rfl rfl)
theorem dX7_copy_8 : decode cX7_copy 8 = .ok (.aload_n 0, 1) := dk_42 (dk_at dksX7_copy_0 8 rfl rfl)
theorem dX7_copy_9 : decode cX7_copy 9 = .ok (.getfield 13, 3) := dk_180 0 13 (dk_at dksX7_copy_0 9 rfl rfl)
theorem dX7_copy_12 : decode cX7_copy 12 = .ok (.aload_n 0, 1) := dk_42 (dk_at dksX7_copy_0 12 rfl rfl)
theorem dX7_copy_13 : decode cX7_copy 13 = .ok (.getfield 16, 3) := dk_180 0 16 (dk_at dksX7_copy_0 13 rfl rfl)
theorem dX7_copy_16 : decode cX7_copy 16 = .ok (.aload_n 0, 1) := dk_42 (dk_at dksX7_copy_0 16 rfl rfl)
theorem dX7_copy_17 : decode cX7_copy 17 = .ok (.getfield 19, 3) := dk_180 0 19 (dk_at dksX7_copy_0 17 rfl rfl)
theorem dX7_copy_20 : decode cX7_copy 20 = .ok (.aload_n 0, 1) := dk_42 (dk_at dksX7_copy_0 20 rfl rfl)
theorem dX7_copy_21 : decode cX7_copy 21 = .ok (.getfield 22, 3) := dk_180 0 22 (dk_at dksX7_copy_0 21 rfl rfl)
theorem dX7_copy_24 : decode cX7_copy 24 = .ok (.aload_n 0, 1) := dk_42 (dk_at dksX7_copy_1 0 rfl rfl)
theorem dX7_copy_25 : decode cX7_copy 25 = .ok (.getfield 25, 3) := dk_180 0 25 (dk_at dksX7_copy_1 1 rfl rfl)
theorem dX7_copy_28 : decode cX7_copy 28 = .ok (.invokespecial 28, 3) := dk_183 0 28 (dk_at dksX7_copy_1 4 rfl rfl)
theorem dX7_copy_31 : decode cX7_copy 31 = .ok (.areturn, 1) := dk_176 (dk_at dksX7_copy_1 7 rfl rfl)
abbrev cX7_init : ByteArray := prog_8_method_1_code
def yX7_init : MethodName := ⟨RX7, "<init>", "(IIIIII)V"⟩
def dkwX7_init_1 : List UInt8 := [181, 0, 19, 42, 21, 5, 181, 0, 22, 42, 21, 6, 181, 0, 25, 177]
abbrev dktX7_init_1 : List UInt8 := dkwX7_init_1 ++ []
def dkwX7_init_0 : List UInt8 := [42, 183, 0, 1, 42, 27, 181, 0, 7, 42, 28, 181, 0, 13, 42, 29, 181, 0, 16, 42, 21, 4]
abbrev dktX7_init_0 : List UInt8 := dkwX7_init_0 ++ dktX7_init_1
theorem dksX7_init_0 : cX7_init.data.toList.drop 0 = dktX7_init_0 := by decide +kernel
theorem dksX7_init_1 : cX7_init.data.toList.drop 22 = dktX7_init_1 := dk_seg dksX7_init_0 22 rfl rfl
theorem dX7_init_0 : decode cX7_init 0 = .ok (.aload_n 0, 1) := dk_42 (dk_at dksX7_init_0 0 rfl rfl)
theorem dX7_init_1 : decode cX7_init 1 = .ok (.invokespecial 1, 3) := dk_183 0 1 (dk_at dksX7_init_0 1 rfl rfl)
theorem dX7_init_4 : decode cX7_init 4 = .ok (.aload_n 0, 1) := dk_42 (dk_at dksX7_init_0 4 rfl rfl)
theorem dX7_init_5 : decode cX7_init 5 = .ok (.iload_n 1, 1) := dk_27 (dk_at dksX7_init_0 5 rfl rfl)
theorem dX7_init_6 : decode cX7_init 6 = .ok (.putfield 7, 3) := dk_181 0 7 (dk_at dksX7_init_0 6 rfl rfl)
theorem dX7_init_9 : decode cX7_init 9 = .ok (.aload_n 0, 1) := dk_42 (dk_at dksX7_init_0 9 rfl rfl)
theorem dX7_init_10 : decode cX7_init 10 = .ok (.iload_n 2, 1) := dk_28 (dk_at dksX7_init_0 10 rfl rfl)
theorem dX7_init_11 : decode cX7_init 11 = .ok (.putfield 13, 3) := dk_181 0 13 (dk_at dksX7_init_0 11 rfl rfl)
theorem dX7_init_14 : decode cX7_init 14 = .ok (.aload_n 0, 1) := dk_42 (dk_at dksX7_init_0 14 rfl rfl)
theorem dX7_init_15 : decode cX7_init 15 = .ok (.iload_n 3, 1) := dk_29 (dk_at dksX7_init_0 15 rfl rfl)
theorem dX7_init_16 : decode cX7_init 16 = .ok (.putfield 16, 3) := dk_181 0 16 (dk_at dksX7_init_0 16 rfl rfl)
theorem dX7_init_19 : decode cX7_init 19 = .ok (.aload_n 0, 1) := dk_42 (dk_at dksX7_init_0 19 rfl rfl)
theorem dX7_init_20 : decode cX7_init 20 = .ok (.iload 4, 2) := dk_21 4 (dk_at dksX7_init_0 20 rfl rfl)
theorem dX7_init_22 : decode cX7_init 22 = .ok (.putfield 19, 3) := dk_181 0 19 (dk_at dksX7_init_1 0 rfl rfl)
theorem dX7_init_25 : decode cX7_init 25 = .ok (.aload_n 0, 1) := dk_42 (dk_at dksX7_init_1 3 rfl rfl)
theorem dX7_init_26 : decode cX7_init 26 = .ok (.iload 5, 2) := dk_21 5 (dk_at dksX7_init_1 4 rfl rfl)
theorem dX7_init_28 : decode cX7_init 28 = .ok (.putfield 22, 3) := dk_181 0 22 (dk_at dksX7_init_1 6 rfl rfl)
theorem dX7_init_31 : decode cX7_init 31 = .ok (.aload_n 0, 1) := dk_42 (dk_at dksX7_init_1 9 rfl rfl)
theorem dX7_init_32 : decode cX7_init 32 = .ok (.iload 6, 2) := dk_21 6 (dk_at dksX7_init_1 10 rfl rfl)
theorem dX7_init_34 : decode cX7_init 34 = .ok (.putfield 25, 3) := dk_181 0 25 (dk_at dksX7_init_1 12 rfl rfl)
theorem dX7_init_37 : decode cX7_init 37 = .ok (.return_, 1) := dk_177 (dk_at dksX7_init_1 15 rfl rfl)
abbrev cX8_of : ByteArray := prog_12_method_8_code
def yX8_of : MethodName := ⟨RX8, "of", "(Z)LCoachTimetable$Side;"⟩
def dkwX8_of_0 : List UInt8 := [26, 153, 0, 9, 178, 0, 3, 167, 0, 6, 178, 0, 7, 176]
abbrev dktX8_of_0 : List UInt8 := dkwX8_of_0 ++ []
theorem dksX8_of_0 : cX8_of.data.toList.drop 0 = dktX8_of_0 := by decide +kernel
theorem dX8_of_0 : decode cX8_of 0 = .ok (.iload_n 0, 1) := dk_26 (dk_at dksX8_of_0 0 rfl rfl)
theorem dX8_of_1 : decode cX8_of 1 = .ok (.ifCond .eq 9, 3) := dk_153 0 9 (dk_at dksX8_of_0 1 rfl rfl)
theorem dX8_of_4 : decode cX8_of 4 = .ok (.getstatic 3, 3) := dk_178 0 3 (dk_at dksX8_of_0 4 rfl rfl)
theorem dX8_of_7 : decode cX8_of 7 = .ok (.goto 6, 3) := dk_167 0 6 (dk_at dksX8_of_0 7 rfl rfl)
theorem dX8_of_10 : decode cX8_of 10 = .ok (.getstatic 7, 3) := dk_178 0 7 (dk_at dksX8_of_0 10 rfl rfl)
theorem dX8_of_13 : decode cX8_of 13 = .ok (.areturn, 1) := dk_176 (dk_at dksX8_of_0 13 rfl rfl)
abbrev cX9_init : ByteArray := prog_9_method_1_code
def yX9_init : MethodName := ⟨RX9, "<init>", "(LCoachTimetable$State;I)V"⟩
def dkwX9_init_4 : List UInt8 := [167, 255, 237, 177]
abbrev dktX9_init_4 : List UInt8 := dkwX9_init_4 ++ []
def dkwX9_init_3 : List UInt8 := [167, 255, 237, 3, 62, 29, 43, 180, 0, 42, 182, 0, 31, 162, 0, 14, 42, 29, 182, 0, 45, 132, 3, 1]
abbrev dktX9_init_3 : List UInt8 := dkwX9_init_3 ++ dktX9_init_4
def dkwX9_init_2 : List UInt8 := [167, 255, 237, 3, 62, 29, 43, 180, 0, 26, 182, 0, 31, 162, 0, 14, 42, 29, 182, 0, 39, 132, 3, 1]
abbrev dktX9_init_2 : List UInt8 := dkwX9_init_2 ++ dktX9_init_3
def dkwX9_init_1 : List UInt8 := [181, 0, 22, 3, 62, 29, 43, 180, 0, 26, 182, 0, 31, 162, 0, 14, 42, 29, 182, 0, 35, 132, 3, 1]
abbrev dktX9_init_1 : List UInt8 := dkwX9_init_1 ++ dktX9_init_2
def dkwX9_init_0 : List UInt8 := [42, 183, 0, 3, 42, 187, 0, 9, 89, 183, 0, 11, 181, 0, 12, 42, 43, 181, 0, 18, 42, 28]
abbrev dktX9_init_0 : List UInt8 := dkwX9_init_0 ++ dktX9_init_1
theorem dksX9_init_0 : cX9_init.data.toList.drop 0 = dktX9_init_0 := by decide +kernel
theorem dksX9_init_1 : cX9_init.data.toList.drop 22 = dktX9_init_1 := dk_seg dksX9_init_0 22 rfl rfl
theorem dksX9_init_2 : cX9_init.data.toList.drop 46 = dktX9_init_2 := dk_seg dksX9_init_1 24 rfl rfl
theorem dksX9_init_3 : cX9_init.data.toList.drop 70 = dktX9_init_3 := dk_seg dksX9_init_2 24 rfl rfl
theorem dksX9_init_4 : cX9_init.data.toList.drop 94 = dktX9_init_4 := dk_seg dksX9_init_3 24 rfl rfl
theorem dX9_init_0 : decode cX9_init 0 = .ok (.aload_n 0, 1) := dk_42 (dk_at dksX9_init_0 0 rfl rfl)
theorem dX9_init_1 : decode cX9_init 1 = .ok (.invokespecial 3, 3) := dk_183 0 3 (dk_at dksX9_init_0 1 rfl rfl)
theorem dX9_init_4 : decode cX9_init 4 = .ok (.aload_n 0, 1) := dk_42 (dk_at dksX9_init_0 4 rfl rfl)
theorem dX9_init_5 : decode cX9_init 5 = .ok (.new 9, 3) := dk_187 0 9 (dk_at dksX9_init_0 5 rfl rfl)
theorem dX9_init_8 : decode cX9_init 8 = .ok (.dup, 1) := dk_89 (dk_at dksX9_init_0 8 rfl rfl)
theorem dX9_init_9 : decode cX9_init 9 = .ok (.invokespecial 11, 3) := dk_183 0 11 (dk_at dksX9_init_0 9 rfl rfl)
theorem dX9_init_12 : decode cX9_init 12 = .ok (.putfield 12, 3) := dk_181 0 12 (dk_at dksX9_init_0 12 rfl rfl)
theorem dX9_init_15 : decode cX9_init 15 = .ok (.aload_n 0, 1) := dk_42 (dk_at dksX9_init_0 15 rfl rfl)
theorem dX9_init_16 : decode cX9_init 16 = .ok (.aload_n 1, 1) := dk_43 (dk_at dksX9_init_0 16 rfl rfl)
theorem dX9_init_17 : decode cX9_init 17 = .ok (.putfield 18, 3) := dk_181 0 18 (dk_at dksX9_init_0 17 rfl rfl)
theorem dX9_init_20 : decode cX9_init 20 = .ok (.aload_n 0, 1) := dk_42 (dk_at dksX9_init_0 20 rfl rfl)
theorem dX9_init_21 : decode cX9_init 21 = .ok (.iload_n 2, 1) := dk_28 (dk_at dksX9_init_0 21 rfl rfl)
theorem dX9_init_22 : decode cX9_init 22 = .ok (.putfield 22, 3) := dk_181 0 22 (dk_at dksX9_init_1 0 rfl rfl)
theorem dX9_init_25 : decode cX9_init 25 = .ok (.iconst 0, 1) := dk_3 (dk_at dksX9_init_1 3 rfl rfl)
theorem dX9_init_26 : decode cX9_init 26 = .ok (.istore_n 3, 1) := dk_62 (dk_at dksX9_init_1 4 rfl rfl)
theorem dX9_init_27 : decode cX9_init 27 = .ok (.iload_n 3, 1) := dk_29 (dk_at dksX9_init_1 5 rfl rfl)
theorem dX9_init_28 : decode cX9_init 28 = .ok (.aload_n 1, 1) := dk_43 (dk_at dksX9_init_1 6 rfl rfl)
theorem dX9_init_29 : decode cX9_init 29 = .ok (.getfield 26, 3) := dk_180 0 26 (dk_at dksX9_init_1 7 rfl rfl)
theorem dX9_init_32 : decode cX9_init 32 = .ok (.invokevirtual 31, 3) := dk_182 0 31 (dk_at dksX9_init_1 10 rfl rfl)
theorem dX9_init_35 : decode cX9_init 35 = .ok (.if_icmp .ge 14, 3) := dk_162 0 14 (dk_at dksX9_init_1 13 rfl rfl)
theorem dX9_init_38 : decode cX9_init 38 = .ok (.aload_n 0, 1) := dk_42 (dk_at dksX9_init_1 16 rfl rfl)
theorem dX9_init_39 : decode cX9_init 39 = .ok (.iload_n 3, 1) := dk_29 (dk_at dksX9_init_1 17 rfl rfl)
theorem dX9_init_40 : decode cX9_init 40 = .ok (.invokevirtual 35, 3) := dk_182 0 35 (dk_at dksX9_init_1 18 rfl rfl)
theorem dX9_init_43 : decode cX9_init 43 = .ok (.iinc 3 1, 3) := dk_132 3 1 (dk_at dksX9_init_1 21 rfl rfl)
theorem dX9_init_46 : decode cX9_init 46 = .ok (.goto (-19), 3) := dk_167 255 237 (dk_at dksX9_init_2 0 rfl rfl)
theorem dX9_init_49 : decode cX9_init 49 = .ok (.iconst 0, 1) := dk_3 (dk_at dksX9_init_2 3 rfl rfl)
theorem dX9_init_50 : decode cX9_init 50 = .ok (.istore_n 3, 1) := dk_62 (dk_at dksX9_init_2 4 rfl rfl)
theorem dX9_init_51 : decode cX9_init 51 = .ok (.iload_n 3, 1) := dk_29 (dk_at dksX9_init_2 5 rfl rfl)
theorem dX9_init_52 : decode cX9_init 52 = .ok (.aload_n 1, 1) := dk_43 (dk_at dksX9_init_2 6 rfl rfl)
theorem dX9_init_53 : decode cX9_init 53 = .ok (.getfield 26, 3) := dk_180 0 26 (dk_at dksX9_init_2 7 rfl rfl)
theorem dX9_init_56 : decode cX9_init 56 = .ok (.invokevirtual 31, 3) := dk_182 0 31 (dk_at dksX9_init_2 10 rfl rfl)
theorem dX9_init_59 : decode cX9_init 59 = .ok (.if_icmp .ge 14, 3) := dk_162 0 14 (dk_at dksX9_init_2 13 rfl rfl)
theorem dX9_init_62 : decode cX9_init 62 = .ok (.aload_n 0, 1) := dk_42 (dk_at dksX9_init_2 16 rfl rfl)
theorem dX9_init_63 : decode cX9_init 63 = .ok (.iload_n 3, 1) := dk_29 (dk_at dksX9_init_2 17 rfl rfl)
theorem dX9_init_64 : decode cX9_init 64 = .ok (.invokevirtual 39, 3) := dk_182 0 39 (dk_at dksX9_init_2 18 rfl rfl)
theorem dX9_init_67 : decode cX9_init 67 = .ok (.iinc 3 1, 3) := dk_132 3 1 (dk_at dksX9_init_2 21 rfl rfl)
theorem dX9_init_70 : decode cX9_init 70 = .ok (.goto (-19), 3) := dk_167 255 237 (dk_at dksX9_init_3 0 rfl rfl)
theorem dX9_init_73 : decode cX9_init 73 = .ok (.iconst 0, 1) := dk_3 (dk_at dksX9_init_3 3 rfl rfl)
theorem dX9_init_74 : decode cX9_init 74 = .ok (.istore_n 3, 1) := dk_62 (dk_at dksX9_init_3 4 rfl rfl)
theorem dX9_init_75 : decode cX9_init 75 = .ok (.iload_n 3, 1) := dk_29 (dk_at dksX9_init_3 5 rfl rfl)
theorem dX9_init_76 : decode cX9_init 76 = .ok (.aload_n 1, 1) := dk_43 (dk_at dksX9_init_3 6 rfl rfl)
theorem dX9_init_77 : decode cX9_init 77 = .ok (.getfield 42, 3) := dk_180 0 42 (dk_at dksX9_init_3 7 rfl rfl)
theorem dX9_init_80 : decode cX9_init 80 = .ok (.invokevirtual 31, 3) := dk_182 0 31 (dk_at dksX9_init_3 10 rfl rfl)
theorem dX9_init_83 : decode cX9_init 83 = .ok (.if_icmp .ge 14, 3) := dk_162 0 14 (dk_at dksX9_init_3 13 rfl rfl)
theorem dX9_init_86 : decode cX9_init 86 = .ok (.aload_n 0, 1) := dk_42 (dk_at dksX9_init_3 16 rfl rfl)
theorem dX9_init_87 : decode cX9_init 87 = .ok (.iload_n 3, 1) := dk_29 (dk_at dksX9_init_3 17 rfl rfl)
theorem dX9_init_88 : decode cX9_init 88 = .ok (.invokevirtual 45, 3) := dk_182 0 45 (dk_at dksX9_init_3 18 rfl rfl)
theorem dX9_init_91 : decode cX9_init 91 = .ok (.iinc 3 1, 3) := dk_132 3 1 (dk_at dksX9_init_3 21 rfl rfl)
theorem dX9_init_94 : decode cX9_init 94 = .ok (.goto (-19), 3) := dk_167 255 237 (dk_at dksX9_init_4 0 rfl rfl)
theorem dX9_init_97 : decode cX9_init 97 = .ok (.return_, 1) := dk_177 (dk_at dksX9_init_4 3 rfl rfl)
abbrev cX9_adds : ByteArray := prog_9_method_2_code
def yX9_adds : MethodName := ⟨RX9, "adds", "(I)V"⟩
def dkwX9_adds_8 : List UInt8 := [167, 255, 93, 177]
abbrev dktX9_adds_8 : List UInt8 := dkwX9_adds_8 ++ []
def dkwX9_adds_7 : List UInt8 := [183, 0, 94, 182, 0, 95, 42, 180, 0, 12, 25, 6, 182, 0, 80, 87, 25, 6, 78, 132, 4, 1]
abbrev dktX9_adds_7 : List UInt8 := dkwX9_adds_7 ++ dktX9_adds_8
def dkwX9_adds_6 : List UInt8 := [3, 183, 0, 86, 58, 6, 21, 4, 158, 0, 21, 25, 6, 45, 187, 0, 89, 89, 25, 5, 180, 0, 91]
abbrev dktX9_adds_6 : List UInt8 := dkwX9_adds_6 ++ dktX9_adds_7
def dkwX9_adds_5 : List UInt8 := [162, 0, 66, 187, 0, 84, 89, 27, 21, 4, 25, 5, 27, 42, 180, 0, 22, 159, 0, 7, 4, 167, 0, 4]
abbrev dktX9_adds_5 : List UInt8 := dkwX9_adds_5 ++ dktX9_adds_6
def dkwX9_adds_4 : List UInt8 := [182, 0, 76, 42, 180, 0, 12, 25, 6, 182, 0, 80, 87, 25, 6, 78, 21, 4, 44, 182, 0, 31, 4, 100]
abbrev dktX9_adds_4 : List UInt8 := dkwX9_adds_4 ++ dktX9_adds_5
def dkwX9_adds_3 : List UInt8 := [167, 0, 4, 3, 183, 0, 66, 58, 6, 25, 6, 45, 187, 0, 69, 89, 25, 5, 180, 0, 71, 183, 0, 74]
abbrev dktX9_adds_3 : List UInt8 := dkwX9_adds_3 ++ dktX9_adds_4
def dkwX9_adds_2 : List UInt8 := [158, 0, 64, 187, 0, 58, 89, 27, 21, 4, 178, 0, 60, 25, 5, 27, 42, 180, 0, 22, 159, 0, 7, 4]
abbrev dktX9_adds_2 : List UInt8 := dkwX9_adds_2 ++ dktX9_adds_3
def dkwX9_adds_1 : List UInt8 := [21, 4, 44, 182, 0, 31, 162, 0, 160, 44, 21, 4, 182, 0, 47, 192, 0, 56, 58, 5, 21, 4]
abbrev dktX9_adds_1 : List UInt8 := dkwX9_adds_1 ++ dktX9_adds_2
def dkwX9_adds_0 : List UInt8 := [42, 180, 0, 18, 180, 0, 26, 27, 182, 0, 47, 192, 0, 51, 180, 0, 53, 77, 1, 78, 3, 54, 4]
abbrev dktX9_adds_0 : List UInt8 := dkwX9_adds_0 ++ dktX9_adds_1
theorem dksX9_adds_0 : cX9_adds.data.toList.drop 0 = dktX9_adds_0 := by decide +kernel
theorem dksX9_adds_1 : cX9_adds.data.toList.drop 23 = dktX9_adds_1 := dk_seg dksX9_adds_0 23 rfl rfl
theorem dksX9_adds_2 : cX9_adds.data.toList.drop 45 = dktX9_adds_2 := dk_seg dksX9_adds_1 22 rfl rfl
theorem dksX9_adds_3 : cX9_adds.data.toList.drop 69 = dktX9_adds_3 := dk_seg dksX9_adds_2 24 rfl rfl
theorem dksX9_adds_4 : cX9_adds.data.toList.drop 93 = dktX9_adds_4 := dk_seg dksX9_adds_3 24 rfl rfl
theorem dksX9_adds_5 : cX9_adds.data.toList.drop 117 = dktX9_adds_5 := dk_seg dksX9_adds_4 24 rfl rfl
theorem dksX9_adds_6 : cX9_adds.data.toList.drop 141 = dktX9_adds_6 := dk_seg dksX9_adds_5 24 rfl rfl
theorem dksX9_adds_7 : cX9_adds.data.toList.drop 164 = dktX9_adds_7 := dk_seg dksX9_adds_6 23 rfl rfl
theorem dksX9_adds_8 : cX9_adds.data.toList.drop 186 = dktX9_adds_8 := dk_seg dksX9_adds_7 22 rfl rfl
theorem dX9_adds_0 : decode cX9_adds 0 = .ok (.aload_n 0, 1) := dk_42 (dk_at dksX9_adds_0 0 rfl rfl)
theorem dX9_adds_1 : decode cX9_adds 1 = .ok (.getfield 18, 3) := dk_180 0 18 (dk_at dksX9_adds_0 1 rfl rfl)
theorem dX9_adds_4 : decode cX9_adds 4 = .ok (.getfield 26, 3) := dk_180 0 26 (dk_at dksX9_adds_0 4 rfl rfl)
theorem dX9_adds_7 : decode cX9_adds 7 = .ok (.iload_n 1, 1) := dk_27 (dk_at dksX9_adds_0 7 rfl rfl)
theorem dX9_adds_8 : decode cX9_adds 8 = .ok (.invokevirtual 47, 3) := dk_182 0 47 (dk_at dksX9_adds_0 8 rfl rfl)
theorem dX9_adds_11 : decode cX9_adds 11 = .ok (.checkcast 51, 3) := dk_192 0 51 (dk_at dksX9_adds_0 11 rfl rfl)
theorem dX9_adds_14 : decode cX9_adds 14 = .ok (.getfield 53, 3) := dk_180 0 53 (dk_at dksX9_adds_0 14 rfl rfl)
theorem dX9_adds_17 : decode cX9_adds 17 = .ok (.astore_n 2, 1) := dk_77 (dk_at dksX9_adds_0 17 rfl rfl)
theorem dX9_adds_18 : decode cX9_adds 18 = .ok (.aconst_null, 1) := dk_1 (dk_at dksX9_adds_0 18 rfl rfl)
theorem dX9_adds_19 : decode cX9_adds 19 = .ok (.astore_n 3, 1) := dk_78 (dk_at dksX9_adds_0 19 rfl rfl)
theorem dX9_adds_20 : decode cX9_adds 20 = .ok (.iconst 0, 1) := dk_3 (dk_at dksX9_adds_0 20 rfl rfl)
theorem dX9_adds_21 : decode cX9_adds 21 = .ok (.istore 4, 2) := dk_54 4 (dk_at dksX9_adds_0 21 rfl rfl)
theorem dX9_adds_23 : decode cX9_adds 23 = .ok (.iload 4, 2) := dk_21 4 (dk_at dksX9_adds_1 0 rfl rfl)
theorem dX9_adds_25 : decode cX9_adds 25 = .ok (.aload_n 2, 1) := dk_44 (dk_at dksX9_adds_1 2 rfl rfl)
theorem dX9_adds_26 : decode cX9_adds 26 = .ok (.invokevirtual 31, 3) := dk_182 0 31 (dk_at dksX9_adds_1 3 rfl rfl)
theorem dX9_adds_29 : decode cX9_adds 29 = .ok (.if_icmp .ge 160, 3) := dk_162 0 160 (dk_at dksX9_adds_1 6 rfl rfl)
theorem dX9_adds_32 : decode cX9_adds 32 = .ok (.aload_n 2, 1) := dk_44 (dk_at dksX9_adds_1 9 rfl rfl)
theorem dX9_adds_33 : decode cX9_adds 33 = .ok (.iload 4, 2) := dk_21 4 (dk_at dksX9_adds_1 10 rfl rfl)
theorem dX9_adds_35 : decode cX9_adds 35 = .ok (.invokevirtual 47, 3) := dk_182 0 47 (dk_at dksX9_adds_1 12 rfl rfl)
theorem dX9_adds_38 : decode cX9_adds 38 = .ok (.checkcast 56, 3) := dk_192 0 56 (dk_at dksX9_adds_1 15 rfl rfl)
theorem dX9_adds_41 : decode cX9_adds 41 = .ok (.astore 5, 2) := dk_58 5 (dk_at dksX9_adds_1 18 rfl rfl)
theorem dX9_adds_43 : decode cX9_adds 43 = .ok (.iload 4, 2) := dk_21 4 (dk_at dksX9_adds_1 20 rfl rfl)
theorem dX9_adds_45 : decode cX9_adds 45 = .ok (.ifCond .le 64, 3) := dk_158 0 64 (dk_at dksX9_adds_2 0 rfl rfl)
theorem dX9_adds_48 : decode cX9_adds 48 = .ok (.new 58, 3) := dk_187 0 58 (dk_at dksX9_adds_2 3 rfl rfl)
theorem dX9_adds_51 : decode cX9_adds 51 = .ok (.dup, 1) := dk_89 (dk_at dksX9_adds_2 6 rfl rfl)
theorem dX9_adds_52 : decode cX9_adds 52 = .ok (.iload_n 1, 1) := dk_27 (dk_at dksX9_adds_2 7 rfl rfl)
theorem dX9_adds_53 : decode cX9_adds 53 = .ok (.iload 4, 2) := dk_21 4 (dk_at dksX9_adds_2 8 rfl rfl)
theorem dX9_adds_55 : decode cX9_adds 55 = .ok (.getstatic 60, 3) := dk_178 0 60 (dk_at dksX9_adds_2 10 rfl rfl)
theorem dX9_adds_58 : decode cX9_adds 58 = .ok (.aload 5, 2) := dk_25 5 (dk_at dksX9_adds_2 13 rfl rfl)
theorem dX9_adds_60 : decode cX9_adds 60 = .ok (.iload_n 1, 1) := dk_27 (dk_at dksX9_adds_2 15 rfl rfl)
theorem dX9_adds_61 : decode cX9_adds 61 = .ok (.aload_n 0, 1) := dk_42 (dk_at dksX9_adds_2 16 rfl rfl)
theorem dX9_adds_62 : decode cX9_adds 62 = .ok (.getfield 22, 3) := dk_180 0 22 (dk_at dksX9_adds_2 17 rfl rfl)
theorem dX9_adds_65 : decode cX9_adds 65 = .ok (.if_icmp .eq 7, 3) := dk_159 0 7 (dk_at dksX9_adds_2 20 rfl rfl)
theorem dX9_adds_68 : decode cX9_adds 68 = .ok (.iconst 1, 1) := dk_4 (dk_at dksX9_adds_2 23 rfl rfl)
theorem dX9_adds_69 : decode cX9_adds 69 = .ok (.goto 4, 3) := dk_167 0 4 (dk_at dksX9_adds_3 0 rfl rfl)
theorem dX9_adds_72 : decode cX9_adds 72 = .ok (.iconst 0, 1) := dk_3 (dk_at dksX9_adds_3 3 rfl rfl)
theorem dX9_adds_73 : decode cX9_adds 73 = .ok (.invokespecial 66, 3) := dk_183 0 66 (dk_at dksX9_adds_3 4 rfl rfl)
theorem dX9_adds_76 : decode cX9_adds 76 = .ok (.astore 6, 2) := dk_58 6 (dk_at dksX9_adds_3 7 rfl rfl)
theorem dX9_adds_78 : decode cX9_adds 78 = .ok (.aload 6, 2) := dk_25 6 (dk_at dksX9_adds_3 9 rfl rfl)
theorem dX9_adds_80 : decode cX9_adds 80 = .ok (.aload_n 3, 1) := dk_45 (dk_at dksX9_adds_3 11 rfl rfl)
theorem dX9_adds_81 : decode cX9_adds 81 = .ok (.new 69, 3) := dk_187 0 69 (dk_at dksX9_adds_3 12 rfl rfl)
theorem dX9_adds_84 : decode cX9_adds 84 = .ok (.dup, 1) := dk_89 (dk_at dksX9_adds_3 15 rfl rfl)
theorem dX9_adds_85 : decode cX9_adds 85 = .ok (.aload 5, 2) := dk_25 5 (dk_at dksX9_adds_3 16 rfl rfl)
theorem dX9_adds_87 : decode cX9_adds 87 = .ok (.getfield 71, 3) := dk_180 0 71 (dk_at dksX9_adds_3 18 rfl rfl)
theorem dX9_adds_90 : decode cX9_adds 90 = .ok (.invokespecial 74, 3) := dk_183 0 74 (dk_at dksX9_adds_3 21 rfl rfl)
theorem dX9_adds_93 : decode cX9_adds 93 = .ok (.invokevirtual 76, 3) := dk_182 0 76 (dk_at dksX9_adds_4 0 rfl rfl)
theorem dX9_adds_96 : decode cX9_adds 96 = .ok (.aload_n 0, 1) := dk_42 (dk_at dksX9_adds_4 3 rfl rfl)
theorem dX9_adds_97 : decode cX9_adds 97 = .ok (.getfield 12, 3) := dk_180 0 12 (dk_at dksX9_adds_4 4 rfl rfl)
theorem dX9_adds_100 : decode cX9_adds 100 = .ok (.aload 6, 2) := dk_25 6 (dk_at dksX9_adds_4 7 rfl rfl)
theorem dX9_adds_102 : decode cX9_adds 102 = .ok (.invokevirtual 80, 3) := dk_182 0 80 (dk_at dksX9_adds_4 9 rfl rfl)
theorem dX9_adds_105 : decode cX9_adds 105 = .ok (.pop, 1) := dk_87 (dk_at dksX9_adds_4 12 rfl rfl)
theorem dX9_adds_106 : decode cX9_adds 106 = .ok (.aload 6, 2) := dk_25 6 (dk_at dksX9_adds_4 13 rfl rfl)
theorem dX9_adds_108 : decode cX9_adds 108 = .ok (.astore_n 3, 1) := dk_78 (dk_at dksX9_adds_4 15 rfl rfl)
theorem dX9_adds_109 : decode cX9_adds 109 = .ok (.iload 4, 2) := dk_21 4 (dk_at dksX9_adds_4 16 rfl rfl)
theorem dX9_adds_111 : decode cX9_adds 111 = .ok (.aload_n 2, 1) := dk_44 (dk_at dksX9_adds_4 18 rfl rfl)
theorem dX9_adds_112 : decode cX9_adds 112 = .ok (.invokevirtual 31, 3) := dk_182 0 31 (dk_at dksX9_adds_4 19 rfl rfl)
theorem dX9_adds_115 : decode cX9_adds 115 = .ok (.iconst 1, 1) := dk_4 (dk_at dksX9_adds_4 22 rfl rfl)
theorem dX9_adds_116 : decode cX9_adds 116 = .ok (.isub, 1) := dk_100 (dk_at dksX9_adds_4 23 rfl rfl)
theorem dX9_adds_117 : decode cX9_adds 117 = .ok (.if_icmp .ge 66, 3) := dk_162 0 66 (dk_at dksX9_adds_5 0 rfl rfl)
theorem dX9_adds_120 : decode cX9_adds 120 = .ok (.new 84, 3) := dk_187 0 84 (dk_at dksX9_adds_5 3 rfl rfl)
theorem dX9_adds_123 : decode cX9_adds 123 = .ok (.dup, 1) := dk_89 (dk_at dksX9_adds_5 6 rfl rfl)
theorem dX9_adds_124 : decode cX9_adds 124 = .ok (.iload_n 1, 1) := dk_27 (dk_at dksX9_adds_5 7 rfl rfl)
theorem dX9_adds_125 : decode cX9_adds 125 = .ok (.iload 4, 2) := dk_21 4 (dk_at dksX9_adds_5 8 rfl rfl)
theorem dX9_adds_127 : decode cX9_adds 127 = .ok (.aload 5, 2) := dk_25 5 (dk_at dksX9_adds_5 10 rfl rfl)
theorem dX9_adds_129 : decode cX9_adds 129 = .ok (.iload_n 1, 1) := dk_27 (dk_at dksX9_adds_5 12 rfl rfl)
theorem dX9_adds_130 : decode cX9_adds 130 = .ok (.aload_n 0, 1) := dk_42 (dk_at dksX9_adds_5 13 rfl rfl)
theorem dX9_adds_131 : decode cX9_adds 131 = .ok (.getfield 22, 3) := dk_180 0 22 (dk_at dksX9_adds_5 14 rfl rfl)
theorem dX9_adds_134 : decode cX9_adds 134 = .ok (.if_icmp .eq 7, 3) := dk_159 0 7 (dk_at dksX9_adds_5 17 rfl rfl)
theorem dX9_adds_137 : decode cX9_adds 137 = .ok (.iconst 1, 1) := dk_4 (dk_at dksX9_adds_5 20 rfl rfl)
theorem dX9_adds_138 : decode cX9_adds 138 = .ok (.goto 4, 3) := dk_167 0 4 (dk_at dksX9_adds_5 21 rfl rfl)
theorem dX9_adds_141 : decode cX9_adds 141 = .ok (.iconst 0, 1) := dk_3 (dk_at dksX9_adds_6 0 rfl rfl)
theorem dX9_adds_142 : decode cX9_adds 142 = .ok (.invokespecial 86, 3) := dk_183 0 86 (dk_at dksX9_adds_6 1 rfl rfl)
theorem dX9_adds_145 : decode cX9_adds 145 = .ok (.astore 6, 2) := dk_58 6 (dk_at dksX9_adds_6 4 rfl rfl)
theorem dX9_adds_147 : decode cX9_adds 147 = .ok (.iload 4, 2) := dk_21 4 (dk_at dksX9_adds_6 6 rfl rfl)
theorem dX9_adds_149 : decode cX9_adds 149 = .ok (.ifCond .le 21, 3) := dk_158 0 21 (dk_at dksX9_adds_6 8 rfl rfl)
theorem dX9_adds_152 : decode cX9_adds 152 = .ok (.aload 6, 2) := dk_25 6 (dk_at dksX9_adds_6 11 rfl rfl)
theorem dX9_adds_154 : decode cX9_adds 154 = .ok (.aload_n 3, 1) := dk_45 (dk_at dksX9_adds_6 13 rfl rfl)
theorem dX9_adds_155 : decode cX9_adds 155 = .ok (.new 89, 3) := dk_187 0 89 (dk_at dksX9_adds_6 14 rfl rfl)
theorem dX9_adds_158 : decode cX9_adds 158 = .ok (.dup, 1) := dk_89 (dk_at dksX9_adds_6 17 rfl rfl)
theorem dX9_adds_159 : decode cX9_adds 159 = .ok (.aload 5, 2) := dk_25 5 (dk_at dksX9_adds_6 18 rfl rfl)
theorem dX9_adds_161 : decode cX9_adds 161 = .ok (.getfield 91, 3) := dk_180 0 91 (dk_at dksX9_adds_6 20 rfl rfl)
theorem dX9_adds_164 : decode cX9_adds 164 = .ok (.invokespecial 94, 3) := dk_183 0 94 (dk_at dksX9_adds_7 0 rfl rfl)
theorem dX9_adds_167 : decode cX9_adds 167 = .ok (.invokevirtual 95, 3) := dk_182 0 95 (dk_at dksX9_adds_7 3 rfl rfl)
theorem dX9_adds_170 : decode cX9_adds 170 = .ok (.aload_n 0, 1) := dk_42 (dk_at dksX9_adds_7 6 rfl rfl)
theorem dX9_adds_171 : decode cX9_adds 171 = .ok (.getfield 12, 3) := dk_180 0 12 (dk_at dksX9_adds_7 7 rfl rfl)
theorem dX9_adds_174 : decode cX9_adds 174 = .ok (.aload 6, 2) := dk_25 6 (dk_at dksX9_adds_7 10 rfl rfl)
theorem dX9_adds_176 : decode cX9_adds 176 = .ok (.invokevirtual 80, 3) := dk_182 0 80 (dk_at dksX9_adds_7 12 rfl rfl)
theorem dX9_adds_179 : decode cX9_adds 179 = .ok (.pop, 1) := dk_87 (dk_at dksX9_adds_7 15 rfl rfl)
theorem dX9_adds_180 : decode cX9_adds 180 = .ok (.aload 6, 2) := dk_25 6 (dk_at dksX9_adds_7 16 rfl rfl)
theorem dX9_adds_182 : decode cX9_adds 182 = .ok (.astore_n 3, 1) := dk_78 (dk_at dksX9_adds_7 18 rfl rfl)
theorem dX9_adds_183 : decode cX9_adds 183 = .ok (.iinc 4 1, 3) := dk_132 4 1 (dk_at dksX9_adds_7 19 rfl rfl)
theorem dX9_adds_186 : decode cX9_adds 186 = .ok (.goto (-163), 3) := dk_167 255 93 (dk_at dksX9_adds_8 0 rfl rfl)
theorem dX9_adds_189 : decode cX9_adds 189 = .ok (.return_, 1) := dk_177 (dk_at dksX9_adds_8 3 rfl rfl)
abbrev cX9_turns : ByteArray := prog_9_method_3_code
def yX9_turns : MethodName := ⟨RX9, "turns", "(I)V"⟩
def dkwX9_turns_3 : List UInt8 := [182, 0, 76, 177]
abbrev dktX9_turns_3 : List UInt8 := dkwX9_turns_3 ++ []
def dkwX9_turns_2 : List UInt8 := [3, 178, 0, 99, 182, 0, 102, 42, 27, 29, 178, 0, 60, 182, 0, 102, 187, 0, 106, 89, 183, 0, 108]
abbrev dktX9_turns_2 : List UInt8 := dkwX9_turns_2 ++ dktX9_turns_3
def dkwX9_turns_1 : List UInt8 := [180, 0, 18, 180, 0, 26, 27, 182, 0, 47, 192, 0, 51, 180, 0, 53, 182, 0, 31, 4, 100, 62, 42, 28]
abbrev dktX9_turns_1 : List UInt8 := dkwX9_turns_1 ++ dktX9_turns_2
def dkwX9_turns_0 : List UInt8 := [42, 180, 0, 18, 180, 0, 26, 27, 182, 0, 47, 192, 0, 51, 180, 0, 96, 61, 28, 2, 159, 0, 54, 42]
abbrev dktX9_turns_0 : List UInt8 := dkwX9_turns_0 ++ dktX9_turns_1
theorem dksX9_turns_0 : cX9_turns.data.toList.drop 0 = dktX9_turns_0 := by decide +kernel
theorem dksX9_turns_1 : cX9_turns.data.toList.drop 24 = dktX9_turns_1 := dk_seg dksX9_turns_0 24 rfl rfl
theorem dksX9_turns_2 : cX9_turns.data.toList.drop 48 = dktX9_turns_2 := dk_seg dksX9_turns_1 24 rfl rfl
theorem dksX9_turns_3 : cX9_turns.data.toList.drop 71 = dktX9_turns_3 := dk_seg dksX9_turns_2 23 rfl rfl
theorem dX9_turns_0 : decode cX9_turns 0 = .ok (.aload_n 0, 1) := dk_42 (dk_at dksX9_turns_0 0 rfl rfl)
theorem dX9_turns_1 : decode cX9_turns 1 = .ok (.getfield 18, 3) := dk_180 0 18 (dk_at dksX9_turns_0 1 rfl rfl)
theorem dX9_turns_4 : decode cX9_turns 4 = .ok (.getfield 26, 3) := dk_180 0 26 (dk_at dksX9_turns_0 4 rfl rfl)
theorem dX9_turns_7 : decode cX9_turns 7 = .ok (.iload_n 1, 1) := dk_27 (dk_at dksX9_turns_0 7 rfl rfl)
theorem dX9_turns_8 : decode cX9_turns 8 = .ok (.invokevirtual 47, 3) := dk_182 0 47 (dk_at dksX9_turns_0 8 rfl rfl)
theorem dX9_turns_11 : decode cX9_turns 11 = .ok (.checkcast 51, 3) := dk_192 0 51 (dk_at dksX9_turns_0 11 rfl rfl)
theorem dX9_turns_14 : decode cX9_turns 14 = .ok (.getfield 96, 3) := dk_180 0 96 (dk_at dksX9_turns_0 14 rfl rfl)
theorem dX9_turns_17 : decode cX9_turns 17 = .ok (.istore_n 2, 1) := dk_61 (dk_at dksX9_turns_0 17 rfl rfl)
theorem dX9_turns_18 : decode cX9_turns 18 = .ok (.iload_n 2, 1) := dk_28 (dk_at dksX9_turns_0 18 rfl rfl)
theorem dX9_turns_19 : decode cX9_turns 19 = .ok (.iconst (-1), 1) := dk_2 (dk_at dksX9_turns_0 19 rfl rfl)
theorem dX9_turns_20 : decode cX9_turns 20 = .ok (.if_icmp .eq 54, 3) := dk_159 0 54 (dk_at dksX9_turns_0 20 rfl rfl)
theorem dX9_turns_23 : decode cX9_turns 23 = .ok (.aload_n 0, 1) := dk_42 (dk_at dksX9_turns_0 23 rfl rfl)
theorem dX9_turns_24 : decode cX9_turns 24 = .ok (.getfield 18, 3) := dk_180 0 18 (dk_at dksX9_turns_1 0 rfl rfl)
theorem dX9_turns_27 : decode cX9_turns 27 = .ok (.getfield 26, 3) := dk_180 0 26 (dk_at dksX9_turns_1 3 rfl rfl)
theorem dX9_turns_30 : decode cX9_turns 30 = .ok (.iload_n 1, 1) := dk_27 (dk_at dksX9_turns_1 6 rfl rfl)
theorem dX9_turns_31 : decode cX9_turns 31 = .ok (.invokevirtual 47, 3) := dk_182 0 47 (dk_at dksX9_turns_1 7 rfl rfl)
theorem dX9_turns_34 : decode cX9_turns 34 = .ok (.checkcast 51, 3) := dk_192 0 51 (dk_at dksX9_turns_1 10 rfl rfl)
theorem dX9_turns_37 : decode cX9_turns 37 = .ok (.getfield 53, 3) := dk_180 0 53 (dk_at dksX9_turns_1 13 rfl rfl)
theorem dX9_turns_40 : decode cX9_turns 40 = .ok (.invokevirtual 31, 3) := dk_182 0 31 (dk_at dksX9_turns_1 16 rfl rfl)
theorem dX9_turns_43 : decode cX9_turns 43 = .ok (.iconst 1, 1) := dk_4 (dk_at dksX9_turns_1 19 rfl rfl)
theorem dX9_turns_44 : decode cX9_turns 44 = .ok (.isub, 1) := dk_100 (dk_at dksX9_turns_1 20 rfl rfl)
theorem dX9_turns_45 : decode cX9_turns 45 = .ok (.istore_n 3, 1) := dk_62 (dk_at dksX9_turns_1 21 rfl rfl)
theorem dX9_turns_46 : decode cX9_turns 46 = .ok (.aload_n 0, 1) := dk_42 (dk_at dksX9_turns_1 22 rfl rfl)
theorem dX9_turns_47 : decode cX9_turns 47 = .ok (.iload_n 2, 1) := dk_28 (dk_at dksX9_turns_1 23 rfl rfl)
theorem dX9_turns_48 : decode cX9_turns 48 = .ok (.iconst 0, 1) := dk_3 (dk_at dksX9_turns_2 0 rfl rfl)
theorem dX9_turns_49 : decode cX9_turns 49 = .ok (.getstatic 99, 3) := dk_178 0 99 (dk_at dksX9_turns_2 1 rfl rfl)
theorem dX9_turns_52 : decode cX9_turns 52 = .ok (.invokevirtual 102, 3) := dk_182 0 102 (dk_at dksX9_turns_2 4 rfl rfl)
theorem dX9_turns_55 : decode cX9_turns 55 = .ok (.aload_n 0, 1) := dk_42 (dk_at dksX9_turns_2 7 rfl rfl)
theorem dX9_turns_56 : decode cX9_turns 56 = .ok (.iload_n 1, 1) := dk_27 (dk_at dksX9_turns_2 8 rfl rfl)
theorem dX9_turns_57 : decode cX9_turns 57 = .ok (.iload_n 3, 1) := dk_29 (dk_at dksX9_turns_2 9 rfl rfl)
theorem dX9_turns_58 : decode cX9_turns 58 = .ok (.getstatic 60, 3) := dk_178 0 60 (dk_at dksX9_turns_2 10 rfl rfl)
theorem dX9_turns_61 : decode cX9_turns 61 = .ok (.invokevirtual 102, 3) := dk_182 0 102 (dk_at dksX9_turns_2 13 rfl rfl)
theorem dX9_turns_64 : decode cX9_turns 64 = .ok (.new 106, 3) := dk_187 0 106 (dk_at dksX9_turns_2 16 rfl rfl)
theorem dX9_turns_67 : decode cX9_turns 67 = .ok (.dup, 1) := dk_89 (dk_at dksX9_turns_2 19 rfl rfl)
theorem dX9_turns_68 : decode cX9_turns 68 = .ok (.invokespecial 108, 3) := dk_183 0 108 (dk_at dksX9_turns_2 20 rfl rfl)
theorem dX9_turns_71 : decode cX9_turns 71 = .ok (.invokevirtual 76, 3) := dk_182 0 76 (dk_at dksX9_turns_3 0 rfl rfl)
theorem dX9_turns_74 : decode cX9_turns 74 = .ok (.return_, 1) := dk_177 (dk_at dksX9_turns_3 3 rfl rfl)
abbrev cX9_event : ByteArray := prog_9_method_6_code
def yX9_event : MethodName := ⟨RX9, "event", "(IILCoachTimetable$Side;)LCoachTimetable$Event;"⟩
def dkwX9_event_2 : List UInt8 := [28, 160, 0, 15, 25, 5, 180, 0, 156, 45, 166, 0, 6, 25, 5, 176, 167, 255, 204, 1, 176]
abbrev dktX9_event_2 : List UInt8 := dkwX9_event_2 ++ []
def dkwX9_event_1 : List UInt8 := [185, 0, 150, 1, 0, 192, 0, 58, 58, 5, 25, 5, 180, 0, 154, 27, 160, 0, 24, 25, 5, 180, 0, 155]
abbrev dktX9_event_1 : List UInt8 := dkwX9_event_1 ++ dktX9_event_2
def dkwX9_event_0 : List UInt8 := [42, 180, 0, 12, 182, 0, 140, 58, 4, 25, 4, 185, 0, 144, 1, 0, 153, 0, 48, 25, 4]
abbrev dktX9_event_0 : List UInt8 := dkwX9_event_0 ++ dktX9_event_1
theorem dksX9_event_0 : cX9_event.data.toList.drop 0 = dktX9_event_0 := by decide +kernel
theorem dksX9_event_1 : cX9_event.data.toList.drop 21 = dktX9_event_1 := dk_seg dksX9_event_0 21 rfl rfl
theorem dksX9_event_2 : cX9_event.data.toList.drop 45 = dktX9_event_2 := dk_seg dksX9_event_1 24 rfl rfl
theorem dX9_event_0 : decode cX9_event 0 = .ok (.aload_n 0, 1) := dk_42 (dk_at dksX9_event_0 0 rfl rfl)
theorem dX9_event_1 : decode cX9_event 1 = .ok (.getfield 12, 3) := dk_180 0 12 (dk_at dksX9_event_0 1 rfl rfl)
theorem dX9_event_4 : decode cX9_event 4 = .ok (.invokevirtual 140, 3) := dk_182 0 140 (dk_at dksX9_event_0 4 rfl rfl)
theorem dX9_event_7 : decode cX9_event 7 = .ok (.astore 4, 2) := dk_58 4 (dk_at dksX9_event_0 7 rfl rfl)
theorem dX9_event_9 : decode cX9_event 9 = .ok (.aload 4, 2) := dk_25 4 (dk_at dksX9_event_0 9 rfl rfl)
theorem dX9_event_11 : decode cX9_event 11 = .ok (.invokeinterface 144 1, 5) := by decide +kernel
theorem dX9_event_16 : decode cX9_event 16 = .ok (.ifCond .eq 48, 3) := dk_153 0 48 (dk_at dksX9_event_0 16 rfl rfl)
theorem dX9_event_19 : decode cX9_event 19 = .ok (.aload 4, 2) := dk_25 4 (dk_at dksX9_event_0 19 rfl rfl)
theorem dX9_event_21 : decode cX9_event 21 = .ok (.invokeinterface 150 1, 5) := by decide +kernel
theorem dX9_event_26 : decode cX9_event 26 = .ok (.checkcast 58, 3) := dk_192 0 58 (dk_at dksX9_event_1 5 rfl rfl)
theorem dX9_event_29 : decode cX9_event 29 = .ok (.astore 5, 2) := dk_58 5 (dk_at dksX9_event_1 8 rfl rfl)
theorem dX9_event_31 : decode cX9_event 31 = .ok (.aload 5, 2) := dk_25 5 (dk_at dksX9_event_1 10 rfl rfl)
theorem dX9_event_33 : decode cX9_event 33 = .ok (.getfield 154, 3) := dk_180 0 154 (dk_at dksX9_event_1 12 rfl rfl)
theorem dX9_event_36 : decode cX9_event 36 = .ok (.iload_n 1, 1) := dk_27 (dk_at dksX9_event_1 15 rfl rfl)
theorem dX9_event_37 : decode cX9_event 37 = .ok (.if_icmp .ne 24, 3) := dk_160 0 24 (dk_at dksX9_event_1 16 rfl rfl)
theorem dX9_event_40 : decode cX9_event 40 = .ok (.aload 5, 2) := dk_25 5 (dk_at dksX9_event_1 19 rfl rfl)
theorem dX9_event_42 : decode cX9_event 42 = .ok (.getfield 155, 3) := dk_180 0 155 (dk_at dksX9_event_1 21 rfl rfl)
theorem dX9_event_45 : decode cX9_event 45 = .ok (.iload_n 2, 1) := dk_28 (dk_at dksX9_event_2 0 rfl rfl)
theorem dX9_event_46 : decode cX9_event 46 = .ok (.if_icmp .ne 15, 3) := dk_160 0 15 (dk_at dksX9_event_2 1 rfl rfl)
theorem dX9_event_49 : decode cX9_event 49 = .ok (.aload 5, 2) := dk_25 5 (dk_at dksX9_event_2 4 rfl rfl)
theorem dX9_event_51 : decode cX9_event 51 = .ok (.getfield 156, 3) := dk_180 0 156 (dk_at dksX9_event_2 6 rfl rfl)
theorem dX9_event_54 : decode cX9_event 54 = .ok (.aload_n 3, 1) := dk_45 (dk_at dksX9_event_2 9 rfl rfl)
theorem dX9_event_55 : decode cX9_event 55 = .ok (.if_acmp .ne 6, 3) := dk_166 0 6 (dk_at dksX9_event_2 10 rfl rfl)
theorem dX9_event_58 : decode cX9_event 58 = .ok (.aload 5, 2) := dk_25 5 (dk_at dksX9_event_2 13 rfl rfl)
theorem dX9_event_60 : decode cX9_event 60 = .ok (.areturn, 1) := dk_176 (dk_at dksX9_event_2 15 rfl rfl)
theorem dX9_event_61 : decode cX9_event 61 = .ok (.goto (-52), 3) := dk_167 255 204 (dk_at dksX9_event_2 16 rfl rfl)
theorem dX9_event_64 : decode cX9_event 64 = .ok (.aconst_null, 1) := dk_1 (dk_at dksX9_event_2 19 rfl rfl)
theorem dX9_event_65 : decode cX9_event 65 = .ok (.areturn, 1) := dk_176 (dk_at dksX9_event_2 20 rfl rfl)
abbrev cX9_links : ByteArray := prog_9_method_4_code
def yX9_links : MethodName := ⟨RX9, "links", "(I)V"⟩
def dkwX9_links_2 : List UInt8 := [183, 0, 124, 44, 180, 0, 127, 182, 0, 130, 177]
abbrev dktX9_links_2 : List UInt8 := dkwX9_links_2 ++ []
def dkwX9_links_1 : List UInt8 := [180, 0, 115, 44, 180, 0, 118, 178, 0, 60, 182, 0, 102, 187, 0, 121, 89, 27, 44, 180, 0, 123]
abbrev dktX9_links_1 : List UInt8 := dkwX9_links_1 ++ dktX9_links_2
def dkwX9_links_0 : List UInt8 := [42, 180, 0, 18, 180, 0, 42, 27, 182, 0, 47, 192, 0, 109, 77, 42, 44, 182, 0, 111, 78, 45, 42, 44]
abbrev dktX9_links_0 : List UInt8 := dkwX9_links_0 ++ dktX9_links_1
theorem dksX9_links_0 : cX9_links.data.toList.drop 0 = dktX9_links_0 := by decide +kernel
theorem dksX9_links_1 : cX9_links.data.toList.drop 24 = dktX9_links_1 := dk_seg dksX9_links_0 24 rfl rfl
theorem dksX9_links_2 : cX9_links.data.toList.drop 46 = dktX9_links_2 := dk_seg dksX9_links_1 22 rfl rfl
theorem dX9_links_0 : decode cX9_links 0 = .ok (.aload_n 0, 1) := dk_42 (dk_at dksX9_links_0 0 rfl rfl)
theorem dX9_links_1 : decode cX9_links 1 = .ok (.getfield 18, 3) := dk_180 0 18 (dk_at dksX9_links_0 1 rfl rfl)
theorem dX9_links_4 : decode cX9_links 4 = .ok (.getfield 42, 3) := dk_180 0 42 (dk_at dksX9_links_0 4 rfl rfl)
theorem dX9_links_7 : decode cX9_links 7 = .ok (.iload_n 1, 1) := dk_27 (dk_at dksX9_links_0 7 rfl rfl)
theorem dX9_links_8 : decode cX9_links 8 = .ok (.invokevirtual 47, 3) := dk_182 0 47 (dk_at dksX9_links_0 8 rfl rfl)
theorem dX9_links_11 : decode cX9_links 11 = .ok (.checkcast 109, 3) := dk_192 0 109 (dk_at dksX9_links_0 11 rfl rfl)
theorem dX9_links_14 : decode cX9_links 14 = .ok (.astore_n 2, 1) := dk_77 (dk_at dksX9_links_0 14 rfl rfl)
theorem dX9_links_15 : decode cX9_links 15 = .ok (.aload_n 0, 1) := dk_42 (dk_at dksX9_links_0 15 rfl rfl)
theorem dX9_links_16 : decode cX9_links 16 = .ok (.aload_n 2, 1) := dk_44 (dk_at dksX9_links_0 16 rfl rfl)
theorem dX9_links_17 : decode cX9_links 17 = .ok (.invokevirtual 111, 3) := dk_182 0 111 (dk_at dksX9_links_0 17 rfl rfl)
theorem dX9_links_20 : decode cX9_links 20 = .ok (.astore_n 3, 1) := dk_78 (dk_at dksX9_links_0 20 rfl rfl)
theorem dX9_links_21 : decode cX9_links 21 = .ok (.aload_n 3, 1) := dk_45 (dk_at dksX9_links_0 21 rfl rfl)
theorem dX9_links_22 : decode cX9_links 22 = .ok (.aload_n 0, 1) := dk_42 (dk_at dksX9_links_0 22 rfl rfl)
theorem dX9_links_23 : decode cX9_links 23 = .ok (.aload_n 2, 1) := dk_44 (dk_at dksX9_links_0 23 rfl rfl)
theorem dX9_links_24 : decode cX9_links 24 = .ok (.getfield 115, 3) := dk_180 0 115 (dk_at dksX9_links_1 0 rfl rfl)
theorem dX9_links_27 : decode cX9_links 27 = .ok (.aload_n 2, 1) := dk_44 (dk_at dksX9_links_1 3 rfl rfl)
theorem dX9_links_28 : decode cX9_links 28 = .ok (.getfield 118, 3) := dk_180 0 118 (dk_at dksX9_links_1 4 rfl rfl)
theorem dX9_links_31 : decode cX9_links 31 = .ok (.getstatic 60, 3) := dk_178 0 60 (dk_at dksX9_links_1 7 rfl rfl)
theorem dX9_links_34 : decode cX9_links 34 = .ok (.invokevirtual 102, 3) := dk_182 0 102 (dk_at dksX9_links_1 10 rfl rfl)
theorem dX9_links_37 : decode cX9_links 37 = .ok (.new 121, 3) := dk_187 0 121 (dk_at dksX9_links_1 13 rfl rfl)
theorem dX9_links_40 : decode cX9_links 40 = .ok (.dup, 1) := dk_89 (dk_at dksX9_links_1 16 rfl rfl)
theorem dX9_links_41 : decode cX9_links 41 = .ok (.iload_n 1, 1) := dk_27 (dk_at dksX9_links_1 17 rfl rfl)
theorem dX9_links_42 : decode cX9_links 42 = .ok (.aload_n 2, 1) := dk_44 (dk_at dksX9_links_1 18 rfl rfl)
theorem dX9_links_43 : decode cX9_links 43 = .ok (.getfield 123, 3) := dk_180 0 123 (dk_at dksX9_links_1 19 rfl rfl)
theorem dX9_links_46 : decode cX9_links 46 = .ok (.invokespecial 124, 3) := dk_183 0 124 (dk_at dksX9_links_2 0 rfl rfl)
theorem dX9_links_49 : decode cX9_links 49 = .ok (.aload_n 2, 1) := dk_44 (dk_at dksX9_links_2 3 rfl rfl)
theorem dX9_links_50 : decode cX9_links 50 = .ok (.getfield 127, 3) := dk_180 0 127 (dk_at dksX9_links_2 4 rfl rfl)
theorem dX9_links_53 : decode cX9_links 53 = .ok (.invokevirtual 130, 3) := dk_182 0 130 (dk_at dksX9_links_2 7 rfl rfl)
theorem dX9_links_56 : decode cX9_links 56 = .ok (.return_, 1) := dk_177 (dk_at dksX9_links_2 10 rfl rfl)
abbrev cX9_departureOf : ByteArray := prog_9_method_5_code
def yX9_departureOf : MethodName := ⟨RX9, "departureOf", "(LCoachTimetable$Link;)LCoachTimetable$Departure;"⟩
def dkwX9_departureOf_1 : List UInt8 := [192, 0, 84, 77, 44, 167, 0, 4, 1, 176]
abbrev dktX9_departureOf_1 : List UInt8 := dkwX9_departureOf_1 ++ []
def dkwX9_departureOf_0 : List UInt8 := [42, 43, 180, 0, 134, 43, 180, 0, 137, 178, 0, 99, 182, 0, 102, 78, 45, 193, 0, 84, 153, 0, 12, 45]
abbrev dktX9_departureOf_0 : List UInt8 := dkwX9_departureOf_0 ++ dktX9_departureOf_1
theorem dksX9_departureOf_0 : cX9_departureOf.data.toList.drop 0 = dktX9_departureOf_0 := by decide +kernel
theorem dksX9_departureOf_1 : cX9_departureOf.data.toList.drop 24 = dktX9_departureOf_1 := dk_seg dksX9_departureOf_0 24 rfl rfl
theorem dX9_departureOf_0 : decode cX9_departureOf 0 = .ok (.aload_n 0, 1) := dk_42 (dk_at dksX9_departureOf_0 0 rfl rfl)
theorem dX9_departureOf_1 : decode cX9_departureOf 1 = .ok (.aload_n 1, 1) := dk_43 (dk_at dksX9_departureOf_0 1 rfl rfl)
theorem dX9_departureOf_2 : decode cX9_departureOf 2 = .ok (.getfield 134, 3) := dk_180 0 134 (dk_at dksX9_departureOf_0 2 rfl rfl)
theorem dX9_departureOf_5 : decode cX9_departureOf 5 = .ok (.aload_n 1, 1) := dk_43 (dk_at dksX9_departureOf_0 5 rfl rfl)
theorem dX9_departureOf_6 : decode cX9_departureOf 6 = .ok (.getfield 137, 3) := dk_180 0 137 (dk_at dksX9_departureOf_0 6 rfl rfl)
theorem dX9_departureOf_9 : decode cX9_departureOf 9 = .ok (.getstatic 99, 3) := dk_178 0 99 (dk_at dksX9_departureOf_0 9 rfl rfl)
theorem dX9_departureOf_12 : decode cX9_departureOf 12 = .ok (.invokevirtual 102, 3) := dk_182 0 102 (dk_at dksX9_departureOf_0 12 rfl rfl)
theorem dX9_departureOf_15 : decode cX9_departureOf 15 = .ok (.astore_n 3, 1) := dk_78 (dk_at dksX9_departureOf_0 15 rfl rfl)
theorem dX9_departureOf_16 : decode cX9_departureOf 16 = .ok (.aload_n 3, 1) := dk_45 (dk_at dksX9_departureOf_0 16 rfl rfl)
theorem dX9_departureOf_17 : decode cX9_departureOf 17 = .ok (.instanceof 84, 3) := dk_193 0 84 (dk_at dksX9_departureOf_0 17 rfl rfl)
theorem dX9_departureOf_20 : decode cX9_departureOf 20 = .ok (.ifCond .eq 12, 3) := dk_153 0 12 (dk_at dksX9_departureOf_0 20 rfl rfl)
theorem dX9_departureOf_23 : decode cX9_departureOf 23 = .ok (.aload_n 3, 1) := dk_45 (dk_at dksX9_departureOf_0 23 rfl rfl)
theorem dX9_departureOf_24 : decode cX9_departureOf 24 = .ok (.checkcast 84, 3) := dk_192 0 84 (dk_at dksX9_departureOf_1 0 rfl rfl)
theorem dX9_departureOf_27 : decode cX9_departureOf 27 = .ok (.astore_n 2, 1) := dk_77 (dk_at dksX9_departureOf_1 3 rfl rfl)
theorem dX9_departureOf_28 : decode cX9_departureOf 28 = .ok (.aload_n 2, 1) := dk_44 (dk_at dksX9_departureOf_1 4 rfl rfl)
theorem dX9_departureOf_29 : decode cX9_departureOf 29 = .ok (.goto 4, 3) := dk_167 0 4 (dk_at dksX9_departureOf_1 5 rfl rfl)
theorem dX9_departureOf_32 : decode cX9_departureOf 32 = .ok (.aconst_null, 1) := dk_1 (dk_at dksX9_departureOf_1 8 rfl rfl)
theorem dX9_departureOf_33 : decode cX9_departureOf 33 = .ok (.areturn, 1) := dk_176 (dk_at dksX9_departureOf_1 9 rfl rfl)
abbrev cX9_inTurn : ByteArray := prog_9_method_9_code
def yX9_inTurn : MethodName := ⟨RX9, "inTurn", "()LCoachTimetable$Net;"⟩
def dkwX9_inTurn_4 : List UInt8 := [180, 0, 12, 29, 182, 0, 47, 192, 0, 58, 182, 0, 176, 87, 132, 2, 1, 167, 255, 156, 42, 176]
abbrev dktX9_inTurn_4 : List UInt8 := dkwX9_inTurn_4 ++ []
def dkwX9_inTurn_3 : List UInt8 := [192, 0, 58, 184, 0, 172, 153, 0, 6, 21, 4, 62, 132, 4, 1, 167, 255, 197, 43, 29, 4, 84, 42]
abbrev dktX9_inTurn_3 : List UInt8 := dkwX9_inTurn_3 ++ dktX9_inTurn_4
def dkwX9_inTurn_2 : List UInt8 := [2, 159, 0, 32, 42, 180, 0, 12, 21, 4, 182, 0, 47, 192, 0, 58, 42, 180, 0, 12, 29, 182, 0, 47]
abbrev dktX9_inTurn_2 : List UInt8 := dkwX9_inTurn_2 ++ dktX9_inTurn_3
def dkwX9_inTurn_1 : List UInt8 := [62, 3, 54, 4, 21, 4, 42, 180, 0, 12, 182, 0, 31, 162, 0, 53, 43, 21, 4, 51, 154, 0, 40, 29]
abbrev dktX9_inTurn_1 : List UInt8 := dkwX9_inTurn_1 ++ dktX9_inTurn_2
def dkwX9_inTurn_0 : List UInt8 := [42, 180, 0, 12, 182, 0, 31, 188, 4, 76, 3, 61, 28, 42, 180, 0, 12, 182, 0, 31, 162, 0, 95, 2]
abbrev dktX9_inTurn_0 : List UInt8 := dkwX9_inTurn_0 ++ dktX9_inTurn_1
theorem dksX9_inTurn_0 : cX9_inTurn.data.toList.drop 0 = dktX9_inTurn_0 := by decide +kernel
theorem dksX9_inTurn_1 : cX9_inTurn.data.toList.drop 24 = dktX9_inTurn_1 := dk_seg dksX9_inTurn_0 24 rfl rfl
theorem dksX9_inTurn_2 : cX9_inTurn.data.toList.drop 48 = dktX9_inTurn_2 := dk_seg dksX9_inTurn_1 24 rfl rfl
theorem dksX9_inTurn_3 : cX9_inTurn.data.toList.drop 72 = dktX9_inTurn_3 := dk_seg dksX9_inTurn_2 24 rfl rfl
theorem dksX9_inTurn_4 : cX9_inTurn.data.toList.drop 95 = dktX9_inTurn_4 := dk_seg dksX9_inTurn_3 23 rfl rfl
theorem dX9_inTurn_0 : decode cX9_inTurn 0 = .ok (.aload_n 0, 1) := dk_42 (dk_at dksX9_inTurn_0 0 rfl rfl)
theorem dX9_inTurn_1 : decode cX9_inTurn 1 = .ok (.getfield 12, 3) := dk_180 0 12 (dk_at dksX9_inTurn_0 1 rfl rfl)
theorem dX9_inTurn_4 : decode cX9_inTurn 4 = .ok (.invokevirtual 31, 3) := dk_182 0 31 (dk_at dksX9_inTurn_0 4 rfl rfl)
theorem dX9_inTurn_7 : decode cX9_inTurn 7 = .ok (.newarray .boolean, 2) := dk_188_4 (dk_at dksX9_inTurn_0 7 rfl rfl)
theorem dX9_inTurn_9 : decode cX9_inTurn 9 = .ok (.astore_n 1, 1) := dk_76 (dk_at dksX9_inTurn_0 9 rfl rfl)
theorem dX9_inTurn_10 : decode cX9_inTurn 10 = .ok (.iconst 0, 1) := dk_3 (dk_at dksX9_inTurn_0 10 rfl rfl)
theorem dX9_inTurn_11 : decode cX9_inTurn 11 = .ok (.istore_n 2, 1) := dk_61 (dk_at dksX9_inTurn_0 11 rfl rfl)
theorem dX9_inTurn_12 : decode cX9_inTurn 12 = .ok (.iload_n 2, 1) := dk_28 (dk_at dksX9_inTurn_0 12 rfl rfl)
theorem dX9_inTurn_13 : decode cX9_inTurn 13 = .ok (.aload_n 0, 1) := dk_42 (dk_at dksX9_inTurn_0 13 rfl rfl)
theorem dX9_inTurn_14 : decode cX9_inTurn 14 = .ok (.getfield 12, 3) := dk_180 0 12 (dk_at dksX9_inTurn_0 14 rfl rfl)
theorem dX9_inTurn_17 : decode cX9_inTurn 17 = .ok (.invokevirtual 31, 3) := dk_182 0 31 (dk_at dksX9_inTurn_0 17 rfl rfl)
theorem dX9_inTurn_20 : decode cX9_inTurn 20 = .ok (.if_icmp .ge 95, 3) := dk_162 0 95 (dk_at dksX9_inTurn_0 20 rfl rfl)
theorem dX9_inTurn_23 : decode cX9_inTurn 23 = .ok (.iconst (-1), 1) := dk_2 (dk_at dksX9_inTurn_0 23 rfl rfl)
theorem dX9_inTurn_24 : decode cX9_inTurn 24 = .ok (.istore_n 3, 1) := dk_62 (dk_at dksX9_inTurn_1 0 rfl rfl)
theorem dX9_inTurn_25 : decode cX9_inTurn 25 = .ok (.iconst 0, 1) := dk_3 (dk_at dksX9_inTurn_1 1 rfl rfl)
theorem dX9_inTurn_26 : decode cX9_inTurn 26 = .ok (.istore 4, 2) := dk_54 4 (dk_at dksX9_inTurn_1 2 rfl rfl)
theorem dX9_inTurn_28 : decode cX9_inTurn 28 = .ok (.iload 4, 2) := dk_21 4 (dk_at dksX9_inTurn_1 4 rfl rfl)
theorem dX9_inTurn_30 : decode cX9_inTurn 30 = .ok (.aload_n 0, 1) := dk_42 (dk_at dksX9_inTurn_1 6 rfl rfl)
theorem dX9_inTurn_31 : decode cX9_inTurn 31 = .ok (.getfield 12, 3) := dk_180 0 12 (dk_at dksX9_inTurn_1 7 rfl rfl)
theorem dX9_inTurn_34 : decode cX9_inTurn 34 = .ok (.invokevirtual 31, 3) := dk_182 0 31 (dk_at dksX9_inTurn_1 10 rfl rfl)
theorem dX9_inTurn_37 : decode cX9_inTurn 37 = .ok (.if_icmp .ge 53, 3) := dk_162 0 53 (dk_at dksX9_inTurn_1 13 rfl rfl)
theorem dX9_inTurn_40 : decode cX9_inTurn 40 = .ok (.aload_n 1, 1) := dk_43 (dk_at dksX9_inTurn_1 16 rfl rfl)
theorem dX9_inTurn_41 : decode cX9_inTurn 41 = .ok (.iload 4, 2) := dk_21 4 (dk_at dksX9_inTurn_1 17 rfl rfl)
theorem dX9_inTurn_43 : decode cX9_inTurn 43 = .ok (.baload, 1) := dk_51 (dk_at dksX9_inTurn_1 19 rfl rfl)
theorem dX9_inTurn_44 : decode cX9_inTurn 44 = .ok (.ifCond .ne 40, 3) := dk_154 0 40 (dk_at dksX9_inTurn_1 20 rfl rfl)
theorem dX9_inTurn_47 : decode cX9_inTurn 47 = .ok (.iload_n 3, 1) := dk_29 (dk_at dksX9_inTurn_1 23 rfl rfl)
theorem dX9_inTurn_48 : decode cX9_inTurn 48 = .ok (.iconst (-1), 1) := dk_2 (dk_at dksX9_inTurn_2 0 rfl rfl)
theorem dX9_inTurn_49 : decode cX9_inTurn 49 = .ok (.if_icmp .eq 32, 3) := dk_159 0 32 (dk_at dksX9_inTurn_2 1 rfl rfl)
theorem dX9_inTurn_52 : decode cX9_inTurn 52 = .ok (.aload_n 0, 1) := dk_42 (dk_at dksX9_inTurn_2 4 rfl rfl)
theorem dX9_inTurn_53 : decode cX9_inTurn 53 = .ok (.getfield 12, 3) := dk_180 0 12 (dk_at dksX9_inTurn_2 5 rfl rfl)
theorem dX9_inTurn_56 : decode cX9_inTurn 56 = .ok (.iload 4, 2) := dk_21 4 (dk_at dksX9_inTurn_2 8 rfl rfl)
theorem dX9_inTurn_58 : decode cX9_inTurn 58 = .ok (.invokevirtual 47, 3) := dk_182 0 47 (dk_at dksX9_inTurn_2 10 rfl rfl)
theorem dX9_inTurn_61 : decode cX9_inTurn 61 = .ok (.checkcast 58, 3) := dk_192 0 58 (dk_at dksX9_inTurn_2 13 rfl rfl)
theorem dX9_inTurn_64 : decode cX9_inTurn 64 = .ok (.aload_n 0, 1) := dk_42 (dk_at dksX9_inTurn_2 16 rfl rfl)
theorem dX9_inTurn_65 : decode cX9_inTurn 65 = .ok (.getfield 12, 3) := dk_180 0 12 (dk_at dksX9_inTurn_2 17 rfl rfl)
theorem dX9_inTurn_68 : decode cX9_inTurn 68 = .ok (.iload_n 3, 1) := dk_29 (dk_at dksX9_inTurn_2 20 rfl rfl)
theorem dX9_inTurn_69 : decode cX9_inTurn 69 = .ok (.invokevirtual 47, 3) := dk_182 0 47 (dk_at dksX9_inTurn_2 21 rfl rfl)
theorem dX9_inTurn_72 : decode cX9_inTurn 72 = .ok (.checkcast 58, 3) := dk_192 0 58 (dk_at dksX9_inTurn_3 0 rfl rfl)
theorem dX9_inTurn_75 : decode cX9_inTurn 75 = .ok (.invokestatic 172, 3) := dk_184 0 172 (dk_at dksX9_inTurn_3 3 rfl rfl)
theorem dX9_inTurn_78 : decode cX9_inTurn 78 = .ok (.ifCond .eq 6, 3) := dk_153 0 6 (dk_at dksX9_inTurn_3 6 rfl rfl)
theorem dX9_inTurn_81 : decode cX9_inTurn 81 = .ok (.iload 4, 2) := dk_21 4 (dk_at dksX9_inTurn_3 9 rfl rfl)
theorem dX9_inTurn_83 : decode cX9_inTurn 83 = .ok (.istore_n 3, 1) := dk_62 (dk_at dksX9_inTurn_3 11 rfl rfl)
theorem dX9_inTurn_84 : decode cX9_inTurn 84 = .ok (.iinc 4 1, 3) := dk_132 4 1 (dk_at dksX9_inTurn_3 12 rfl rfl)
theorem dX9_inTurn_87 : decode cX9_inTurn 87 = .ok (.goto (-59), 3) := dk_167 255 197 (dk_at dksX9_inTurn_3 15 rfl rfl)
theorem dX9_inTurn_90 : decode cX9_inTurn 90 = .ok (.aload_n 1, 1) := dk_43 (dk_at dksX9_inTurn_3 18 rfl rfl)
theorem dX9_inTurn_91 : decode cX9_inTurn 91 = .ok (.iload_n 3, 1) := dk_29 (dk_at dksX9_inTurn_3 19 rfl rfl)
theorem dX9_inTurn_92 : decode cX9_inTurn 92 = .ok (.iconst 1, 1) := dk_4 (dk_at dksX9_inTurn_3 20 rfl rfl)
theorem dX9_inTurn_93 : decode cX9_inTurn 93 = .ok (.bastore, 1) := dk_84 (dk_at dksX9_inTurn_3 21 rfl rfl)
theorem dX9_inTurn_94 : decode cX9_inTurn 94 = .ok (.aload_n 0, 1) := dk_42 (dk_at dksX9_inTurn_3 22 rfl rfl)
theorem dX9_inTurn_95 : decode cX9_inTurn 95 = .ok (.getfield 12, 3) := dk_180 0 12 (dk_at dksX9_inTurn_4 0 rfl rfl)
theorem dX9_inTurn_98 : decode cX9_inTurn 98 = .ok (.iload_n 3, 1) := dk_29 (dk_at dksX9_inTurn_4 3 rfl rfl)
theorem dX9_inTurn_99 : decode cX9_inTurn 99 = .ok (.invokevirtual 47, 3) := dk_182 0 47 (dk_at dksX9_inTurn_4 4 rfl rfl)
theorem dX9_inTurn_102 : decode cX9_inTurn 102 = .ok (.checkcast 58, 3) := dk_192 0 58 (dk_at dksX9_inTurn_4 7 rfl rfl)
theorem dX9_inTurn_105 : decode cX9_inTurn 105 = .ok (.invokevirtual 176, 3) := dk_182 0 176 (dk_at dksX9_inTurn_4 10 rfl rfl)
theorem dX9_inTurn_108 : decode cX9_inTurn 108 = .ok (.pop, 1) := dk_87 (dk_at dksX9_inTurn_4 13 rfl rfl)
theorem dX9_inTurn_109 : decode cX9_inTurn 109 = .ok (.iinc 2 1, 3) := dk_132 2 1 (dk_at dksX9_inTurn_4 14 rfl rfl)
theorem dX9_inTurn_112 : decode cX9_inTurn 112 = .ok (.goto (-100), 3) := dk_167 255 156 (dk_at dksX9_inTurn_4 17 rfl rfl)
theorem dX9_inTurn_115 : decode cX9_inTurn 115 = .ok (.aload_n 0, 1) := dk_42 (dk_at dksX9_inTurn_4 20 rfl rfl)
theorem dX9_inTurn_116 : decode cX9_inTurn 116 = .ok (.areturn, 1) := dk_176 (dk_at dksX9_inTurn_4 21 rfl rfl)
abbrev cX9_isAhead : ByteArray := prog_9_method_7_code
def yX9_isAhead : MethodName := ⟨RX9, "isAhead", "(LCoachTimetable$Event;LCoachTimetable$Event;)Z"⟩
def dkwX9_isAhead_3 : List UInt8 := [182, 0, 162, 43, 182, 0, 162, 162, 0, 7, 4, 167, 0, 4, 3, 172]
abbrev dktX9_isAhead_3 : List UInt8 := dkwX9_isAhead_3 ++ []
def dkwX9_isAhead_2 : List UInt8 := [180, 0, 156, 178, 0, 60, 166, 0, 7, 4, 167, 0, 4, 3, 159, 0, 7, 28, 167, 0, 19, 42]
abbrev dktX9_isAhead_2 : List UInt8 := dkwX9_isAhead_2 ++ dktX9_isAhead_3
def dkwX9_isAhead_1 : List UInt8 := [167, 0, 4, 3, 172, 42, 180, 0, 156, 178, 0, 60, 166, 0, 7, 4, 167, 0, 4, 3, 61, 28, 43]
abbrev dktX9_isAhead_1 : List UInt8 := dkwX9_isAhead_1 ++ dktX9_isAhead_2
def dkwX9_isAhead_0 : List UInt8 := [42, 180, 0, 159, 43, 180, 0, 159, 159, 0, 20, 42, 180, 0, 159, 43, 180, 0, 159, 162, 0, 7, 4]
abbrev dktX9_isAhead_0 : List UInt8 := dkwX9_isAhead_0 ++ dktX9_isAhead_1
theorem dksX9_isAhead_0 : cX9_isAhead.data.toList.drop 0 = dktX9_isAhead_0 := by decide +kernel
theorem dksX9_isAhead_1 : cX9_isAhead.data.toList.drop 23 = dktX9_isAhead_1 := dk_seg dksX9_isAhead_0 23 rfl rfl
theorem dksX9_isAhead_2 : cX9_isAhead.data.toList.drop 46 = dktX9_isAhead_2 := dk_seg dksX9_isAhead_1 23 rfl rfl
theorem dksX9_isAhead_3 : cX9_isAhead.data.toList.drop 68 = dktX9_isAhead_3 := dk_seg dksX9_isAhead_2 22 rfl rfl
theorem dX9_isAhead_0 : decode cX9_isAhead 0 = .ok (.aload_n 0, 1) := dk_42 (dk_at dksX9_isAhead_0 0 rfl rfl)
theorem dX9_isAhead_1 : decode cX9_isAhead 1 = .ok (.getfield 159, 3) := dk_180 0 159 (dk_at dksX9_isAhead_0 1 rfl rfl)
theorem dX9_isAhead_4 : decode cX9_isAhead 4 = .ok (.aload_n 1, 1) := dk_43 (dk_at dksX9_isAhead_0 4 rfl rfl)
theorem dX9_isAhead_5 : decode cX9_isAhead 5 = .ok (.getfield 159, 3) := dk_180 0 159 (dk_at dksX9_isAhead_0 5 rfl rfl)
theorem dX9_isAhead_8 : decode cX9_isAhead 8 = .ok (.if_icmp .eq 20, 3) := dk_159 0 20 (dk_at dksX9_isAhead_0 8 rfl rfl)
theorem dX9_isAhead_11 : decode cX9_isAhead 11 = .ok (.aload_n 0, 1) := dk_42 (dk_at dksX9_isAhead_0 11 rfl rfl)
theorem dX9_isAhead_12 : decode cX9_isAhead 12 = .ok (.getfield 159, 3) := dk_180 0 159 (dk_at dksX9_isAhead_0 12 rfl rfl)
theorem dX9_isAhead_15 : decode cX9_isAhead 15 = .ok (.aload_n 1, 1) := dk_43 (dk_at dksX9_isAhead_0 15 rfl rfl)
theorem dX9_isAhead_16 : decode cX9_isAhead 16 = .ok (.getfield 159, 3) := dk_180 0 159 (dk_at dksX9_isAhead_0 16 rfl rfl)
theorem dX9_isAhead_19 : decode cX9_isAhead 19 = .ok (.if_icmp .ge 7, 3) := dk_162 0 7 (dk_at dksX9_isAhead_0 19 rfl rfl)
theorem dX9_isAhead_22 : decode cX9_isAhead 22 = .ok (.iconst 1, 1) := dk_4 (dk_at dksX9_isAhead_0 22 rfl rfl)
theorem dX9_isAhead_23 : decode cX9_isAhead 23 = .ok (.goto 4, 3) := dk_167 0 4 (dk_at dksX9_isAhead_1 0 rfl rfl)
theorem dX9_isAhead_26 : decode cX9_isAhead 26 = .ok (.iconst 0, 1) := dk_3 (dk_at dksX9_isAhead_1 3 rfl rfl)
theorem dX9_isAhead_27 : decode cX9_isAhead 27 = .ok (.ireturn, 1) := dk_172 (dk_at dksX9_isAhead_1 4 rfl rfl)
theorem dX9_isAhead_28 : decode cX9_isAhead 28 = .ok (.aload_n 0, 1) := dk_42 (dk_at dksX9_isAhead_1 5 rfl rfl)
theorem dX9_isAhead_29 : decode cX9_isAhead 29 = .ok (.getfield 156, 3) := dk_180 0 156 (dk_at dksX9_isAhead_1 6 rfl rfl)
theorem dX9_isAhead_32 : decode cX9_isAhead 32 = .ok (.getstatic 60, 3) := dk_178 0 60 (dk_at dksX9_isAhead_1 9 rfl rfl)
theorem dX9_isAhead_35 : decode cX9_isAhead 35 = .ok (.if_acmp .ne 7, 3) := dk_166 0 7 (dk_at dksX9_isAhead_1 12 rfl rfl)
theorem dX9_isAhead_38 : decode cX9_isAhead 38 = .ok (.iconst 1, 1) := dk_4 (dk_at dksX9_isAhead_1 15 rfl rfl)
theorem dX9_isAhead_39 : decode cX9_isAhead 39 = .ok (.goto 4, 3) := dk_167 0 4 (dk_at dksX9_isAhead_1 16 rfl rfl)
theorem dX9_isAhead_42 : decode cX9_isAhead 42 = .ok (.iconst 0, 1) := dk_3 (dk_at dksX9_isAhead_1 19 rfl rfl)
theorem dX9_isAhead_43 : decode cX9_isAhead 43 = .ok (.istore_n 2, 1) := dk_61 (dk_at dksX9_isAhead_1 20 rfl rfl)
theorem dX9_isAhead_44 : decode cX9_isAhead 44 = .ok (.iload_n 2, 1) := dk_28 (dk_at dksX9_isAhead_1 21 rfl rfl)
theorem dX9_isAhead_45 : decode cX9_isAhead 45 = .ok (.aload_n 1, 1) := dk_43 (dk_at dksX9_isAhead_1 22 rfl rfl)
theorem dX9_isAhead_46 : decode cX9_isAhead 46 = .ok (.getfield 156, 3) := dk_180 0 156 (dk_at dksX9_isAhead_2 0 rfl rfl)
theorem dX9_isAhead_49 : decode cX9_isAhead 49 = .ok (.getstatic 60, 3) := dk_178 0 60 (dk_at dksX9_isAhead_2 3 rfl rfl)
theorem dX9_isAhead_52 : decode cX9_isAhead 52 = .ok (.if_acmp .ne 7, 3) := dk_166 0 7 (dk_at dksX9_isAhead_2 6 rfl rfl)
theorem dX9_isAhead_55 : decode cX9_isAhead 55 = .ok (.iconst 1, 1) := dk_4 (dk_at dksX9_isAhead_2 9 rfl rfl)
theorem dX9_isAhead_56 : decode cX9_isAhead 56 = .ok (.goto 4, 3) := dk_167 0 4 (dk_at dksX9_isAhead_2 10 rfl rfl)
theorem dX9_isAhead_59 : decode cX9_isAhead 59 = .ok (.iconst 0, 1) := dk_3 (dk_at dksX9_isAhead_2 13 rfl rfl)
theorem dX9_isAhead_60 : decode cX9_isAhead 60 = .ok (.if_icmp .eq 7, 3) := dk_159 0 7 (dk_at dksX9_isAhead_2 14 rfl rfl)
theorem dX9_isAhead_63 : decode cX9_isAhead 63 = .ok (.iload_n 2, 1) := dk_28 (dk_at dksX9_isAhead_2 17 rfl rfl)
theorem dX9_isAhead_64 : decode cX9_isAhead 64 = .ok (.goto 19, 3) := dk_167 0 19 (dk_at dksX9_isAhead_2 18 rfl rfl)
theorem dX9_isAhead_67 : decode cX9_isAhead 67 = .ok (.aload_n 0, 1) := dk_42 (dk_at dksX9_isAhead_2 21 rfl rfl)
theorem dX9_isAhead_68 : decode cX9_isAhead 68 = .ok (.invokevirtual 162, 3) := dk_182 0 162 (dk_at dksX9_isAhead_3 0 rfl rfl)
theorem dX9_isAhead_71 : decode cX9_isAhead 71 = .ok (.aload_n 1, 1) := dk_43 (dk_at dksX9_isAhead_3 3 rfl rfl)
theorem dX9_isAhead_72 : decode cX9_isAhead 72 = .ok (.invokevirtual 162, 3) := dk_182 0 162 (dk_at dksX9_isAhead_3 4 rfl rfl)
theorem dX9_isAhead_75 : decode cX9_isAhead 75 = .ok (.if_icmp .ge 7, 3) := dk_162 0 7 (dk_at dksX9_isAhead_3 7 rfl rfl)
theorem dX9_isAhead_78 : decode cX9_isAhead 78 = .ok (.iconst 1, 1) := dk_4 (dk_at dksX9_isAhead_3 10 rfl rfl)
theorem dX9_isAhead_79 : decode cX9_isAhead 79 = .ok (.goto 4, 3) := dk_167 0 4 (dk_at dksX9_isAhead_3 11 rfl rfl)
theorem dX9_isAhead_82 : decode cX9_isAhead 82 = .ok (.iconst 0, 1) := dk_3 (dk_at dksX9_isAhead_3 14 rfl rfl)
theorem dX9_isAhead_83 : decode cX9_isAhead 83 = .ok (.ireturn, 1) := dk_172 (dk_at dksX9_isAhead_3 15 rfl rfl)
abbrev cX9_total : ByteArray := prog_9_method_14_code
def yX9_total : MethodName := ⟨RX9, "total", "()I"⟩
def dkwX9_total_1 : List UInt8 := [185, 0, 150, 1, 0, 192, 0, 58, 78, 27, 45, 182, 0, 200, 96, 60, 167, 255, 230, 27, 172]
abbrev dktX9_total_1 : List UInt8 := dkwX9_total_1 ++ []
def dkwX9_total_0 : List UInt8 := [3, 60, 42, 180, 0, 12, 182, 0, 140, 77, 44, 185, 0, 144, 1, 0, 153, 0, 23, 44]
abbrev dktX9_total_0 : List UInt8 := dkwX9_total_0 ++ dktX9_total_1
theorem dksX9_total_0 : cX9_total.data.toList.drop 0 = dktX9_total_0 := by decide +kernel
theorem dksX9_total_1 : cX9_total.data.toList.drop 20 = dktX9_total_1 := dk_seg dksX9_total_0 20 rfl rfl
theorem dX9_total_0 : decode cX9_total 0 = .ok (.iconst 0, 1) := dk_3 (dk_at dksX9_total_0 0 rfl rfl)
theorem dX9_total_1 : decode cX9_total 1 = .ok (.istore_n 1, 1) := dk_60 (dk_at dksX9_total_0 1 rfl rfl)
theorem dX9_total_2 : decode cX9_total 2 = .ok (.aload_n 0, 1) := dk_42 (dk_at dksX9_total_0 2 rfl rfl)
theorem dX9_total_3 : decode cX9_total 3 = .ok (.getfield 12, 3) := dk_180 0 12 (dk_at dksX9_total_0 3 rfl rfl)
theorem dX9_total_6 : decode cX9_total 6 = .ok (.invokevirtual 140, 3) := dk_182 0 140 (dk_at dksX9_total_0 6 rfl rfl)
theorem dX9_total_9 : decode cX9_total 9 = .ok (.astore_n 2, 1) := dk_77 (dk_at dksX9_total_0 9 rfl rfl)
theorem dX9_total_10 : decode cX9_total 10 = .ok (.aload_n 2, 1) := dk_44 (dk_at dksX9_total_0 10 rfl rfl)
theorem dX9_total_11 : decode cX9_total 11 = .ok (.invokeinterface 144 1, 5) := by decide +kernel
theorem dX9_total_16 : decode cX9_total 16 = .ok (.ifCond .eq 23, 3) := dk_153 0 23 (dk_at dksX9_total_0 16 rfl rfl)
theorem dX9_total_19 : decode cX9_total 19 = .ok (.aload_n 2, 1) := dk_44 (dk_at dksX9_total_0 19 rfl rfl)
theorem dX9_total_20 : decode cX9_total 20 = .ok (.invokeinterface 150 1, 5) := by decide +kernel
theorem dX9_total_25 : decode cX9_total 25 = .ok (.checkcast 58, 3) := dk_192 0 58 (dk_at dksX9_total_1 5 rfl rfl)
theorem dX9_total_28 : decode cX9_total 28 = .ok (.astore_n 3, 1) := dk_78 (dk_at dksX9_total_1 8 rfl rfl)
theorem dX9_total_29 : decode cX9_total 29 = .ok (.iload_n 1, 1) := dk_27 (dk_at dksX9_total_1 9 rfl rfl)
theorem dX9_total_30 : decode cX9_total 30 = .ok (.aload_n 3, 1) := dk_45 (dk_at dksX9_total_1 10 rfl rfl)
theorem dX9_total_31 : decode cX9_total 31 = .ok (.invokevirtual 200, 3) := dk_182 0 200 (dk_at dksX9_total_1 11 rfl rfl)
theorem dX9_total_34 : decode cX9_total 34 = .ok (.iadd, 1) := dk_96 (dk_at dksX9_total_1 14 rfl rfl)
theorem dX9_total_35 : decode cX9_total 35 = .ok (.istore_n 1, 1) := dk_60 (dk_at dksX9_total_1 15 rfl rfl)
theorem dX9_total_36 : decode cX9_total 36 = .ok (.goto (-26), 3) := dk_167 255 230 (dk_at dksX9_total_1 16 rfl rfl)
theorem dX9_total_39 : decode cX9_total 39 = .ok (.iload_n 1, 1) := dk_27 (dk_at dksX9_total_1 19 rfl rfl)
theorem dX9_total_40 : decode cX9_total 40 = .ok (.ireturn, 1) := dk_172 (dk_at dksX9_total_1 20 rfl rfl)
abbrev cX9_inRounds : ByteArray := prog_9_method_10_code
def yX9_inRounds : MethodName := ⟨RX9, "inRounds", "()LCoachTimetable$Net;"⟩
def dkwX9_inRounds_2 : List UInt8 := [167, 255, 213, 42, 176]
abbrev dktX9_inRounds_2 : List UInt8 := dkwX9_inRounds_2 ++ []
def dkwX9_inRounds_1 : List UInt8 := [153, 0, 23, 44, 185, 0, 150, 1, 0, 192, 0, 58, 78, 27, 45, 182, 0, 176, 128, 60, 167, 255, 230]
abbrev dktX9_inRounds_1 : List UInt8 := dkwX9_inRounds_1 ++ dktX9_inRounds_2
def dkwX9_inRounds_0 : List UInt8 := [4, 60, 27, 153, 0, 45, 3, 60, 42, 180, 0, 12, 182, 0, 140, 77, 44, 185, 0, 144, 1, 0]
abbrev dktX9_inRounds_0 : List UInt8 := dkwX9_inRounds_0 ++ dktX9_inRounds_1
theorem dksX9_inRounds_0 : cX9_inRounds.data.toList.drop 0 = dktX9_inRounds_0 := by decide +kernel
theorem dksX9_inRounds_1 : cX9_inRounds.data.toList.drop 22 = dktX9_inRounds_1 := dk_seg dksX9_inRounds_0 22 rfl rfl
theorem dksX9_inRounds_2 : cX9_inRounds.data.toList.drop 45 = dktX9_inRounds_2 := dk_seg dksX9_inRounds_1 23 rfl rfl
theorem dX9_inRounds_0 : decode cX9_inRounds 0 = .ok (.iconst 1, 1) := dk_4 (dk_at dksX9_inRounds_0 0 rfl rfl)
theorem dX9_inRounds_1 : decode cX9_inRounds 1 = .ok (.istore_n 1, 1) := dk_60 (dk_at dksX9_inRounds_0 1 rfl rfl)
theorem dX9_inRounds_2 : decode cX9_inRounds 2 = .ok (.iload_n 1, 1) := dk_27 (dk_at dksX9_inRounds_0 2 rfl rfl)
theorem dX9_inRounds_3 : decode cX9_inRounds 3 = .ok (.ifCond .eq 45, 3) := dk_153 0 45 (dk_at dksX9_inRounds_0 3 rfl rfl)
theorem dX9_inRounds_6 : decode cX9_inRounds 6 = .ok (.iconst 0, 1) := dk_3 (dk_at dksX9_inRounds_0 6 rfl rfl)
theorem dX9_inRounds_7 : decode cX9_inRounds 7 = .ok (.istore_n 1, 1) := dk_60 (dk_at dksX9_inRounds_0 7 rfl rfl)
theorem dX9_inRounds_8 : decode cX9_inRounds 8 = .ok (.aload_n 0, 1) := dk_42 (dk_at dksX9_inRounds_0 8 rfl rfl)
theorem dX9_inRounds_9 : decode cX9_inRounds 9 = .ok (.getfield 12, 3) := dk_180 0 12 (dk_at dksX9_inRounds_0 9 rfl rfl)
theorem dX9_inRounds_12 : decode cX9_inRounds 12 = .ok (.invokevirtual 140, 3) := dk_182 0 140 (dk_at dksX9_inRounds_0 12 rfl rfl)
theorem dX9_inRounds_15 : decode cX9_inRounds 15 = .ok (.astore_n 2, 1) := dk_77 (dk_at dksX9_inRounds_0 15 rfl rfl)
theorem dX9_inRounds_16 : decode cX9_inRounds 16 = .ok (.aload_n 2, 1) := dk_44 (dk_at dksX9_inRounds_0 16 rfl rfl)
theorem dX9_inRounds_17 : decode cX9_inRounds 17 = .ok (.invokeinterface 144 1, 5) := by decide +kernel
theorem dX9_inRounds_22 : decode cX9_inRounds 22 = .ok (.ifCond .eq 23, 3) := dk_153 0 23 (dk_at dksX9_inRounds_1 0 rfl rfl)
theorem dX9_inRounds_25 : decode cX9_inRounds 25 = .ok (.aload_n 2, 1) := dk_44 (dk_at dksX9_inRounds_1 3 rfl rfl)
theorem dX9_inRounds_26 : decode cX9_inRounds 26 = .ok (.invokeinterface 150 1, 5) := by decide +kernel
theorem dX9_inRounds_31 : decode cX9_inRounds 31 = .ok (.checkcast 58, 3) := dk_192 0 58 (dk_at dksX9_inRounds_1 9 rfl rfl)
theorem dX9_inRounds_34 : decode cX9_inRounds 34 = .ok (.astore_n 3, 1) := dk_78 (dk_at dksX9_inRounds_1 12 rfl rfl)
theorem dX9_inRounds_35 : decode cX9_inRounds 35 = .ok (.iload_n 1, 1) := dk_27 (dk_at dksX9_inRounds_1 13 rfl rfl)
theorem dX9_inRounds_36 : decode cX9_inRounds 36 = .ok (.aload_n 3, 1) := dk_45 (dk_at dksX9_inRounds_1 14 rfl rfl)
theorem dX9_inRounds_37 : decode cX9_inRounds 37 = .ok (.invokevirtual 176, 3) := dk_182 0 176 (dk_at dksX9_inRounds_1 15 rfl rfl)
theorem dX9_inRounds_40 : decode cX9_inRounds 40 = .ok (.ior, 1) := dk_128 (dk_at dksX9_inRounds_1 18 rfl rfl)
theorem dX9_inRounds_41 : decode cX9_inRounds 41 = .ok (.istore_n 1, 1) := dk_60 (dk_at dksX9_inRounds_1 19 rfl rfl)
theorem dX9_inRounds_42 : decode cX9_inRounds 42 = .ok (.goto (-26), 3) := dk_167 255 230 (dk_at dksX9_inRounds_1 20 rfl rfl)
theorem dX9_inRounds_45 : decode cX9_inRounds 45 = .ok (.goto (-43), 3) := dk_167 255 213 (dk_at dksX9_inRounds_2 0 rfl rfl)
theorem dX9_inRounds_48 : decode cX9_inRounds 48 = .ok (.aload_n 0, 1) := dk_42 (dk_at dksX9_inRounds_2 3 rfl rfl)
theorem dX9_inRounds_49 : decode cX9_inRounds 49 = .ok (.areturn, 1) := dk_176 (dk_at dksX9_inRounds_2 4 rfl rfl)
abbrev cX9_isKept : ByteArray := prog_9_method_11_code
def yX9_isKept : MethodName := ⟨RX9, "isKept", "(I)Z"⟩
def dkwX9_isKept_1 : List UInt8 := [182, 0, 179, 182, 0, 183, 172]
abbrev dktX9_isKept_1 : List UInt8 := dkwX9_isKept_1 ++ []
def dkwX9_isKept_0 : List UInt8 := [42, 42, 180, 0, 18, 180, 0, 42, 27, 182, 0, 47, 192, 0, 109, 182, 0, 111, 77, 44, 44, 27]
abbrev dktX9_isKept_0 : List UInt8 := dkwX9_isKept_0 ++ dktX9_isKept_1
theorem dksX9_isKept_0 : cX9_isKept.data.toList.drop 0 = dktX9_isKept_0 := by decide +kernel
theorem dksX9_isKept_1 : cX9_isKept.data.toList.drop 22 = dktX9_isKept_1 := dk_seg dksX9_isKept_0 22 rfl rfl
theorem dX9_isKept_0 : decode cX9_isKept 0 = .ok (.aload_n 0, 1) := dk_42 (dk_at dksX9_isKept_0 0 rfl rfl)
theorem dX9_isKept_1 : decode cX9_isKept 1 = .ok (.aload_n 0, 1) := dk_42 (dk_at dksX9_isKept_0 1 rfl rfl)
theorem dX9_isKept_2 : decode cX9_isKept 2 = .ok (.getfield 18, 3) := dk_180 0 18 (dk_at dksX9_isKept_0 2 rfl rfl)
theorem dX9_isKept_5 : decode cX9_isKept 5 = .ok (.getfield 42, 3) := dk_180 0 42 (dk_at dksX9_isKept_0 5 rfl rfl)
theorem dX9_isKept_8 : decode cX9_isKept 8 = .ok (.iload_n 1, 1) := dk_27 (dk_at dksX9_isKept_0 8 rfl rfl)
theorem dX9_isKept_9 : decode cX9_isKept 9 = .ok (.invokevirtual 47, 3) := dk_182 0 47 (dk_at dksX9_isKept_0 9 rfl rfl)
theorem dX9_isKept_12 : decode cX9_isKept 12 = .ok (.checkcast 109, 3) := dk_192 0 109 (dk_at dksX9_isKept_0 12 rfl rfl)
theorem dX9_isKept_15 : decode cX9_isKept 15 = .ok (.invokevirtual 111, 3) := dk_182 0 111 (dk_at dksX9_isKept_0 15 rfl rfl)
theorem dX9_isKept_18 : decode cX9_isKept 18 = .ok (.astore_n 2, 1) := dk_77 (dk_at dksX9_isKept_0 18 rfl rfl)
theorem dX9_isKept_19 : decode cX9_isKept 19 = .ok (.aload_n 2, 1) := dk_44 (dk_at dksX9_isKept_0 19 rfl rfl)
theorem dX9_isKept_20 : decode cX9_isKept 20 = .ok (.aload_n 2, 1) := dk_44 (dk_at dksX9_isKept_0 20 rfl rfl)
theorem dX9_isKept_21 : decode cX9_isKept 21 = .ok (.iload_n 1, 1) := dk_27 (dk_at dksX9_isKept_0 21 rfl rfl)
theorem dX9_isKept_22 : decode cX9_isKept 22 = .ok (.invokevirtual 179, 3) := dk_182 0 179 (dk_at dksX9_isKept_1 0 rfl rfl)
theorem dX9_isKept_25 : decode cX9_isKept 25 = .ok (.invokevirtual 183, 3) := dk_182 0 183 (dk_at dksX9_isKept_1 3 rfl rfl)
theorem dX9_isKept_28 : decode cX9_isKept 28 = .ok (.ireturn, 1) := dk_172 (dk_at dksX9_isKept_1 6 rfl rfl)
abbrev cX9_waited : ByteArray := prog_9_method_13_code
def yX9_waited : MethodName := ⟨RX9, "waited", "(I)I"⟩
def dkwX9_waited_2 : List UInt8 := [167, 0, 4, 3, 172]
abbrev dktX9_waited_2 : List UInt8 := dkwX9_waited_2 ++ []
def dkwX9_waited_1 : List UInt8 := [153, 0, 25, 3, 44, 44, 27, 182, 0, 179, 182, 0, 188, 44, 27, 182, 0, 191, 100, 184, 0, 194]
abbrev dktX9_waited_1 : List UInt8 := dkwX9_waited_1 ++ dktX9_waited_2
def dkwX9_waited_0 : List UInt8 := [42, 42, 180, 0, 18, 180, 0, 42, 27, 182, 0, 47, 192, 0, 109, 182, 0, 111, 77, 42, 27, 182, 0, 187]
abbrev dktX9_waited_0 : List UInt8 := dkwX9_waited_0 ++ dktX9_waited_1
theorem dksX9_waited_0 : cX9_waited.data.toList.drop 0 = dktX9_waited_0 := by decide +kernel
theorem dksX9_waited_1 : cX9_waited.data.toList.drop 24 = dktX9_waited_1 := dk_seg dksX9_waited_0 24 rfl rfl
theorem dksX9_waited_2 : cX9_waited.data.toList.drop 46 = dktX9_waited_2 := dk_seg dksX9_waited_1 22 rfl rfl
theorem dX9_waited_0 : decode cX9_waited 0 = .ok (.aload_n 0, 1) := dk_42 (dk_at dksX9_waited_0 0 rfl rfl)
theorem dX9_waited_1 : decode cX9_waited 1 = .ok (.aload_n 0, 1) := dk_42 (dk_at dksX9_waited_0 1 rfl rfl)
theorem dX9_waited_2 : decode cX9_waited 2 = .ok (.getfield 18, 3) := dk_180 0 18 (dk_at dksX9_waited_0 2 rfl rfl)
theorem dX9_waited_5 : decode cX9_waited 5 = .ok (.getfield 42, 3) := dk_180 0 42 (dk_at dksX9_waited_0 5 rfl rfl)
theorem dX9_waited_8 : decode cX9_waited 8 = .ok (.iload_n 1, 1) := dk_27 (dk_at dksX9_waited_0 8 rfl rfl)
theorem dX9_waited_9 : decode cX9_waited 9 = .ok (.invokevirtual 47, 3) := dk_182 0 47 (dk_at dksX9_waited_0 9 rfl rfl)
theorem dX9_waited_12 : decode cX9_waited 12 = .ok (.checkcast 109, 3) := dk_192 0 109 (dk_at dksX9_waited_0 12 rfl rfl)
theorem dX9_waited_15 : decode cX9_waited 15 = .ok (.invokevirtual 111, 3) := dk_182 0 111 (dk_at dksX9_waited_0 15 rfl rfl)
theorem dX9_waited_18 : decode cX9_waited 18 = .ok (.astore_n 2, 1) := dk_77 (dk_at dksX9_waited_0 18 rfl rfl)
theorem dX9_waited_19 : decode cX9_waited 19 = .ok (.aload_n 0, 1) := dk_42 (dk_at dksX9_waited_0 19 rfl rfl)
theorem dX9_waited_20 : decode cX9_waited 20 = .ok (.iload_n 1, 1) := dk_27 (dk_at dksX9_waited_0 20 rfl rfl)
theorem dX9_waited_21 : decode cX9_waited 21 = .ok (.invokevirtual 187, 3) := dk_182 0 187 (dk_at dksX9_waited_0 21 rfl rfl)
theorem dX9_waited_24 : decode cX9_waited 24 = .ok (.ifCond .eq 25, 3) := dk_153 0 25 (dk_at dksX9_waited_1 0 rfl rfl)
theorem dX9_waited_27 : decode cX9_waited 27 = .ok (.iconst 0, 1) := dk_3 (dk_at dksX9_waited_1 3 rfl rfl)
theorem dX9_waited_28 : decode cX9_waited 28 = .ok (.aload_n 2, 1) := dk_44 (dk_at dksX9_waited_1 4 rfl rfl)
theorem dX9_waited_29 : decode cX9_waited 29 = .ok (.aload_n 2, 1) := dk_44 (dk_at dksX9_waited_1 5 rfl rfl)
theorem dX9_waited_30 : decode cX9_waited 30 = .ok (.iload_n 1, 1) := dk_27 (dk_at dksX9_waited_1 6 rfl rfl)
theorem dX9_waited_31 : decode cX9_waited 31 = .ok (.invokevirtual 179, 3) := dk_182 0 179 (dk_at dksX9_waited_1 7 rfl rfl)
theorem dX9_waited_34 : decode cX9_waited 34 = .ok (.invokevirtual 188, 3) := dk_182 0 188 (dk_at dksX9_waited_1 10 rfl rfl)
theorem dX9_waited_37 : decode cX9_waited 37 = .ok (.aload_n 2, 1) := dk_44 (dk_at dksX9_waited_1 13 rfl rfl)
theorem dX9_waited_38 : decode cX9_waited 38 = .ok (.iload_n 1, 1) := dk_27 (dk_at dksX9_waited_1 14 rfl rfl)
theorem dX9_waited_39 : decode cX9_waited 39 = .ok (.invokevirtual 191, 3) := dk_182 0 191 (dk_at dksX9_waited_1 15 rfl rfl)
theorem dX9_waited_42 : decode cX9_waited 42 = .ok (.isub, 1) := dk_100 (dk_at dksX9_waited_1 18 rfl rfl)
theorem dX9_waited_43 : decode cX9_waited 43 = .ok (.invokestatic 194, 3) := dk_184 0 194 (dk_at dksX9_waited_1 19 rfl rfl)
theorem dX9_waited_46 : decode cX9_waited 46 = .ok (.goto 4, 3) := dk_167 0 4 (dk_at dksX9_waited_2 0 rfl rfl)
theorem dX9_waited_49 : decode cX9_waited 49 = .ok (.iconst 0, 1) := dk_3 (dk_at dksX9_waited_2 3 rfl rfl)
theorem dX9_waited_50 : decode cX9_waited 50 = .ok (.ireturn, 1) := dk_172 (dk_at dksX9_waited_2 4 rfl rfl)
abbrev cX9_lateAtEnd : ByteArray := prog_9_method_16_code
def yX9_lateAtEnd : MethodName := ⟨RX9, "lateAtEnd", "(I)I"⟩
def dkwX9_lateAtEnd_0 : List UInt8 := [42, 27, 182, 0, 203, 77, 44, 199, 0, 7, 3, 167, 0, 7, 44, 182, 0, 200, 172]
abbrev dktX9_lateAtEnd_0 : List UInt8 := dkwX9_lateAtEnd_0 ++ []
theorem dksX9_lateAtEnd_0 : cX9_lateAtEnd.data.toList.drop 0 = dktX9_lateAtEnd_0 := by decide +kernel
theorem dX9_lateAtEnd_0 : decode cX9_lateAtEnd 0 = .ok (.aload_n 0, 1) := dk_42 (dk_at dksX9_lateAtEnd_0 0 rfl rfl)
theorem dX9_lateAtEnd_1 : decode cX9_lateAtEnd 1 = .ok (.iload_n 1, 1) := dk_27 (dk_at dksX9_lateAtEnd_0 1 rfl rfl)
theorem dX9_lateAtEnd_2 : decode cX9_lateAtEnd 2 = .ok (.invokevirtual 203, 3) := dk_182 0 203 (dk_at dksX9_lateAtEnd_0 2 rfl rfl)
theorem dX9_lateAtEnd_5 : decode cX9_lateAtEnd 5 = .ok (.astore_n 2, 1) := dk_77 (dk_at dksX9_lateAtEnd_0 5 rfl rfl)
theorem dX9_lateAtEnd_6 : decode cX9_lateAtEnd 6 = .ok (.aload_n 2, 1) := dk_44 (dk_at dksX9_lateAtEnd_0 6 rfl rfl)
theorem dX9_lateAtEnd_7 : decode cX9_lateAtEnd 7 = .ok (.ifnonnull 7, 3) := dk_199 0 7 (dk_at dksX9_lateAtEnd_0 7 rfl rfl)
theorem dX9_lateAtEnd_10 : decode cX9_lateAtEnd 10 = .ok (.iconst 0, 1) := dk_3 (dk_at dksX9_lateAtEnd_0 10 rfl rfl)
theorem dX9_lateAtEnd_11 : decode cX9_lateAtEnd 11 = .ok (.goto 7, 3) := dk_167 0 7 (dk_at dksX9_lateAtEnd_0 11 rfl rfl)
theorem dX9_lateAtEnd_14 : decode cX9_lateAtEnd 14 = .ok (.aload_n 2, 1) := dk_44 (dk_at dksX9_lateAtEnd_0 14 rfl rfl)
theorem dX9_lateAtEnd_15 : decode cX9_lateAtEnd 15 = .ok (.invokevirtual 200, 3) := dk_182 0 200 (dk_at dksX9_lateAtEnd_0 15 rfl rfl)
theorem dX9_lateAtEnd_18 : decode cX9_lateAtEnd 18 = .ok (.ireturn, 1) := dk_172 (dk_at dksX9_lateAtEnd_0 18 rfl rfl)
abbrev cX9_lastOf : ByteArray := prog_9_method_15_code
def yX9_lastOf : MethodName := ⟨RX9, "lastOf", "(I)LCoachTimetable$Event;"⟩
def dkwX9_lastOf_2 : List UInt8 := [44, 77, 167, 255, 220, 44, 176]
abbrev dktX9_lastOf_2 : List UInt8 := dkwX9_lastOf_2 ++ []
def dkwX9_lastOf_1 : List UInt8 := [185, 0, 150, 1, 0, 192, 0, 58, 58, 4, 25, 4, 180, 0, 154, 27, 160, 0, 8, 25, 4, 167, 0, 4]
abbrev dktX9_lastOf_1 : List UInt8 := dkwX9_lastOf_1 ++ dktX9_lastOf_2
def dkwX9_lastOf_0 : List UInt8 := [1, 77, 42, 180, 0, 12, 182, 0, 140, 78, 45, 185, 0, 144, 1, 0, 153, 0, 33, 45]
abbrev dktX9_lastOf_0 : List UInt8 := dkwX9_lastOf_0 ++ dktX9_lastOf_1
theorem dksX9_lastOf_0 : cX9_lastOf.data.toList.drop 0 = dktX9_lastOf_0 := by decide +kernel
theorem dksX9_lastOf_1 : cX9_lastOf.data.toList.drop 20 = dktX9_lastOf_1 := dk_seg dksX9_lastOf_0 20 rfl rfl
theorem dksX9_lastOf_2 : cX9_lastOf.data.toList.drop 44 = dktX9_lastOf_2 := dk_seg dksX9_lastOf_1 24 rfl rfl
theorem dX9_lastOf_0 : decode cX9_lastOf 0 = .ok (.aconst_null, 1) := dk_1 (dk_at dksX9_lastOf_0 0 rfl rfl)
theorem dX9_lastOf_1 : decode cX9_lastOf 1 = .ok (.astore_n 2, 1) := dk_77 (dk_at dksX9_lastOf_0 1 rfl rfl)
theorem dX9_lastOf_2 : decode cX9_lastOf 2 = .ok (.aload_n 0, 1) := dk_42 (dk_at dksX9_lastOf_0 2 rfl rfl)
theorem dX9_lastOf_3 : decode cX9_lastOf 3 = .ok (.getfield 12, 3) := dk_180 0 12 (dk_at dksX9_lastOf_0 3 rfl rfl)
theorem dX9_lastOf_6 : decode cX9_lastOf 6 = .ok (.invokevirtual 140, 3) := dk_182 0 140 (dk_at dksX9_lastOf_0 6 rfl rfl)
theorem dX9_lastOf_9 : decode cX9_lastOf 9 = .ok (.astore_n 3, 1) := dk_78 (dk_at dksX9_lastOf_0 9 rfl rfl)
theorem dX9_lastOf_10 : decode cX9_lastOf 10 = .ok (.aload_n 3, 1) := dk_45 (dk_at dksX9_lastOf_0 10 rfl rfl)
theorem dX9_lastOf_11 : decode cX9_lastOf 11 = .ok (.invokeinterface 144 1, 5) := by decide +kernel
theorem dX9_lastOf_16 : decode cX9_lastOf 16 = .ok (.ifCond .eq 33, 3) := dk_153 0 33 (dk_at dksX9_lastOf_0 16 rfl rfl)
theorem dX9_lastOf_19 : decode cX9_lastOf 19 = .ok (.aload_n 3, 1) := dk_45 (dk_at dksX9_lastOf_0 19 rfl rfl)
theorem dX9_lastOf_20 : decode cX9_lastOf 20 = .ok (.invokeinterface 150 1, 5) := by decide +kernel
theorem dX9_lastOf_25 : decode cX9_lastOf 25 = .ok (.checkcast 58, 3) := dk_192 0 58 (dk_at dksX9_lastOf_1 5 rfl rfl)
theorem dX9_lastOf_28 : decode cX9_lastOf 28 = .ok (.astore 4, 2) := dk_58 4 (dk_at dksX9_lastOf_1 8 rfl rfl)
theorem dX9_lastOf_30 : decode cX9_lastOf 30 = .ok (.aload 4, 2) := dk_25 4 (dk_at dksX9_lastOf_1 10 rfl rfl)
theorem dX9_lastOf_32 : decode cX9_lastOf 32 = .ok (.getfield 154, 3) := dk_180 0 154 (dk_at dksX9_lastOf_1 12 rfl rfl)
theorem dX9_lastOf_35 : decode cX9_lastOf 35 = .ok (.iload_n 1, 1) := dk_27 (dk_at dksX9_lastOf_1 15 rfl rfl)
theorem dX9_lastOf_36 : decode cX9_lastOf 36 = .ok (.if_icmp .ne 8, 3) := dk_160 0 8 (dk_at dksX9_lastOf_1 16 rfl rfl)
theorem dX9_lastOf_39 : decode cX9_lastOf 39 = .ok (.aload 4, 2) := dk_25 4 (dk_at dksX9_lastOf_1 19 rfl rfl)
theorem dX9_lastOf_41 : decode cX9_lastOf 41 = .ok (.goto 4, 3) := dk_167 0 4 (dk_at dksX9_lastOf_1 21 rfl rfl)
theorem dX9_lastOf_44 : decode cX9_lastOf 44 = .ok (.aload_n 2, 1) := dk_44 (dk_at dksX9_lastOf_2 0 rfl rfl)
theorem dX9_lastOf_45 : decode cX9_lastOf 45 = .ok (.astore_n 2, 1) := dk_77 (dk_at dksX9_lastOf_2 1 rfl rfl)
theorem dX9_lastOf_46 : decode cX9_lastOf 46 = .ok (.goto (-36), 3) := dk_167 255 220 (dk_at dksX9_lastOf_2 2 rfl rfl)
theorem dX9_lastOf_49 : decode cX9_lastOf 49 = .ok (.aload_n 2, 1) := dk_44 (dk_at dksX9_lastOf_2 5 rfl rfl)
theorem dX9_lastOf_50 : decode cX9_lastOf 50 = .ok (.areturn, 1) := dk_176 (dk_at dksX9_lastOf_2 6 rfl rfl)
abbrev cX9_with : ByteArray := prog_9_method_8_code
def yX9_with : MethodName := ⟨RX9, "with", "(I)LCoachTimetable$Net;"⟩
def dkwX9_with_2 : List UInt8 := [167, 255, 218, 42, 182, 0, 168, 176]
abbrev dktX9_with_2 : List UInt8 := dkwX9_with_2 ++ []
def dkwX9_with_1 : List UInt8 := [192, 0, 58, 78, 45, 193, 0, 84, 153, 0, 15, 45, 192, 0, 84, 58, 4, 25, 4, 27, 181, 0, 165]
abbrev dktX9_with_1 : List UInt8 := dkwX9_with_1 ++ dktX9_with_2
def dkwX9_with_0 : List UInt8 := [42, 180, 0, 12, 182, 0, 140, 77, 44, 185, 0, 144, 1, 0, 153, 0, 35, 44, 185, 0, 150, 1, 0]
abbrev dktX9_with_0 : List UInt8 := dkwX9_with_0 ++ dktX9_with_1
theorem dksX9_with_0 : cX9_with.data.toList.drop 0 = dktX9_with_0 := by decide +kernel
theorem dksX9_with_1 : cX9_with.data.toList.drop 23 = dktX9_with_1 := dk_seg dksX9_with_0 23 rfl rfl
theorem dksX9_with_2 : cX9_with.data.toList.drop 46 = dktX9_with_2 := dk_seg dksX9_with_1 23 rfl rfl
theorem dX9_with_0 : decode cX9_with 0 = .ok (.aload_n 0, 1) := dk_42 (dk_at dksX9_with_0 0 rfl rfl)
theorem dX9_with_1 : decode cX9_with 1 = .ok (.getfield 12, 3) := dk_180 0 12 (dk_at dksX9_with_0 1 rfl rfl)
theorem dX9_with_4 : decode cX9_with 4 = .ok (.invokevirtual 140, 3) := dk_182 0 140 (dk_at dksX9_with_0 4 rfl rfl)
theorem dX9_with_7 : decode cX9_with 7 = .ok (.astore_n 2, 1) := dk_77 (dk_at dksX9_with_0 7 rfl rfl)
theorem dX9_with_8 : decode cX9_with 8 = .ok (.aload_n 2, 1) := dk_44 (dk_at dksX9_with_0 8 rfl rfl)
theorem dX9_with_9 : decode cX9_with 9 = .ok (.invokeinterface 144 1, 5) := by decide +kernel
theorem dX9_with_14 : decode cX9_with 14 = .ok (.ifCond .eq 35, 3) := dk_153 0 35 (dk_at dksX9_with_0 14 rfl rfl)
theorem dX9_with_17 : decode cX9_with 17 = .ok (.aload_n 2, 1) := dk_44 (dk_at dksX9_with_0 17 rfl rfl)
theorem dX9_with_18 : decode cX9_with 18 = .ok (.invokeinterface 150 1, 5) := by decide +kernel
theorem dX9_with_23 : decode cX9_with 23 = .ok (.checkcast 58, 3) := dk_192 0 58 (dk_at dksX9_with_1 0 rfl rfl)
theorem dX9_with_26 : decode cX9_with 26 = .ok (.astore_n 3, 1) := dk_78 (dk_at dksX9_with_1 3 rfl rfl)
theorem dX9_with_27 : decode cX9_with 27 = .ok (.aload_n 3, 1) := dk_45 (dk_at dksX9_with_1 4 rfl rfl)
theorem dX9_with_28 : decode cX9_with 28 = .ok (.instanceof 84, 3) := dk_193 0 84 (dk_at dksX9_with_1 5 rfl rfl)
theorem dX9_with_31 : decode cX9_with 31 = .ok (.ifCond .eq 15, 3) := dk_153 0 15 (dk_at dksX9_with_1 8 rfl rfl)
theorem dX9_with_34 : decode cX9_with 34 = .ok (.aload_n 3, 1) := dk_45 (dk_at dksX9_with_1 11 rfl rfl)
theorem dX9_with_35 : decode cX9_with 35 = .ok (.checkcast 84, 3) := dk_192 0 84 (dk_at dksX9_with_1 12 rfl rfl)
theorem dX9_with_38 : decode cX9_with 38 = .ok (.astore 4, 2) := dk_58 4 (dk_at dksX9_with_1 15 rfl rfl)
theorem dX9_with_40 : decode cX9_with 40 = .ok (.aload 4, 2) := dk_25 4 (dk_at dksX9_with_1 17 rfl rfl)
theorem dX9_with_42 : decode cX9_with 42 = .ok (.iload_n 1, 1) := dk_27 (dk_at dksX9_with_1 19 rfl rfl)
theorem dX9_with_43 : decode cX9_with 43 = .ok (.putfield 165, 3) := dk_181 0 165 (dk_at dksX9_with_1 20 rfl rfl)
theorem dX9_with_46 : decode cX9_with 46 = .ok (.goto (-38), 3) := dk_167 255 218 (dk_at dksX9_with_2 0 rfl rfl)
theorem dX9_with_49 : decode cX9_with 49 = .ok (.aload_n 0, 1) := dk_42 (dk_at dksX9_with_2 3 rfl rfl)
theorem dX9_with_50 : decode cX9_with 50 = .ok (.invokevirtual 168, 3) := dk_182 0 168 (dk_at dksX9_with_2 4 rfl rfl)
theorem dX9_with_53 : decode cX9_with 53 = .ok (.areturn, 1) := dk_176 (dk_at dksX9_with_2 7 rfl rfl)
abbrev cX9_kept : ByteArray := prog_9_method_12_code
def yX9_kept : MethodName := ⟨RX9, "kept", "()I"⟩
def dkwX9_kept_1 : List UInt8 := [153, 0, 7, 4, 167, 0, 4, 3, 96, 60, 132, 2, 1, 167, 255, 223, 27, 172]
abbrev dktX9_kept_1 : List UInt8 := dkwX9_kept_1 ++ []
def dkwX9_kept_0 : List UInt8 := [3, 60, 3, 61, 28, 42, 180, 0, 18, 180, 0, 42, 182, 0, 31, 162, 0, 25, 27, 42, 28, 182, 0, 187]
abbrev dktX9_kept_0 : List UInt8 := dkwX9_kept_0 ++ dktX9_kept_1
theorem dksX9_kept_0 : cX9_kept.data.toList.drop 0 = dktX9_kept_0 := by decide +kernel
theorem dksX9_kept_1 : cX9_kept.data.toList.drop 24 = dktX9_kept_1 := dk_seg dksX9_kept_0 24 rfl rfl
theorem dX9_kept_0 : decode cX9_kept 0 = .ok (.iconst 0, 1) := dk_3 (dk_at dksX9_kept_0 0 rfl rfl)
theorem dX9_kept_1 : decode cX9_kept 1 = .ok (.istore_n 1, 1) := dk_60 (dk_at dksX9_kept_0 1 rfl rfl)
theorem dX9_kept_2 : decode cX9_kept 2 = .ok (.iconst 0, 1) := dk_3 (dk_at dksX9_kept_0 2 rfl rfl)
theorem dX9_kept_3 : decode cX9_kept 3 = .ok (.istore_n 2, 1) := dk_61 (dk_at dksX9_kept_0 3 rfl rfl)
theorem dX9_kept_4 : decode cX9_kept 4 = .ok (.iload_n 2, 1) := dk_28 (dk_at dksX9_kept_0 4 rfl rfl)
theorem dX9_kept_5 : decode cX9_kept 5 = .ok (.aload_n 0, 1) := dk_42 (dk_at dksX9_kept_0 5 rfl rfl)
theorem dX9_kept_6 : decode cX9_kept 6 = .ok (.getfield 18, 3) := dk_180 0 18 (dk_at dksX9_kept_0 6 rfl rfl)
theorem dX9_kept_9 : decode cX9_kept 9 = .ok (.getfield 42, 3) := dk_180 0 42 (dk_at dksX9_kept_0 9 rfl rfl)
theorem dX9_kept_12 : decode cX9_kept 12 = .ok (.invokevirtual 31, 3) := dk_182 0 31 (dk_at dksX9_kept_0 12 rfl rfl)
theorem dX9_kept_15 : decode cX9_kept 15 = .ok (.if_icmp .ge 25, 3) := dk_162 0 25 (dk_at dksX9_kept_0 15 rfl rfl)
theorem dX9_kept_18 : decode cX9_kept 18 = .ok (.iload_n 1, 1) := dk_27 (dk_at dksX9_kept_0 18 rfl rfl)
theorem dX9_kept_19 : decode cX9_kept 19 = .ok (.aload_n 0, 1) := dk_42 (dk_at dksX9_kept_0 19 rfl rfl)
theorem dX9_kept_20 : decode cX9_kept 20 = .ok (.iload_n 2, 1) := dk_28 (dk_at dksX9_kept_0 20 rfl rfl)
theorem dX9_kept_21 : decode cX9_kept 21 = .ok (.invokevirtual 187, 3) := dk_182 0 187 (dk_at dksX9_kept_0 21 rfl rfl)
theorem dX9_kept_24 : decode cX9_kept 24 = .ok (.ifCond .eq 7, 3) := dk_153 0 7 (dk_at dksX9_kept_1 0 rfl rfl)
theorem dX9_kept_27 : decode cX9_kept 27 = .ok (.iconst 1, 1) := dk_4 (dk_at dksX9_kept_1 3 rfl rfl)
theorem dX9_kept_28 : decode cX9_kept 28 = .ok (.goto 4, 3) := dk_167 0 4 (dk_at dksX9_kept_1 4 rfl rfl)
theorem dX9_kept_31 : decode cX9_kept 31 = .ok (.iconst 0, 1) := dk_3 (dk_at dksX9_kept_1 7 rfl rfl)
theorem dX9_kept_32 : decode cX9_kept 32 = .ok (.iadd, 1) := dk_96 (dk_at dksX9_kept_1 8 rfl rfl)
theorem dX9_kept_33 : decode cX9_kept 33 = .ok (.istore_n 1, 1) := dk_60 (dk_at dksX9_kept_1 9 rfl rfl)
theorem dX9_kept_34 : decode cX9_kept 34 = .ok (.iinc 2 1, 3) := dk_132 2 1 (dk_at dksX9_kept_1 10 rfl rfl)
theorem dX9_kept_37 : decode cX9_kept 37 = .ok (.goto (-33), 3) := dk_167 255 223 (dk_at dksX9_kept_1 13 rfl rfl)
theorem dX9_kept_40 : decode cX9_kept 40 = .ok (.iload_n 1, 1) := dk_27 (dk_at dksX9_kept_1 16 rfl rfl)
theorem dX9_kept_41 : decode cX9_kept 41 = .ok (.ireturn, 1) := dk_172 (dk_at dksX9_kept_1 17 rfl rfl)
