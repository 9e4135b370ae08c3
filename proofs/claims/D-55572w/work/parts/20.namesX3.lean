set_option maxRecDepth 100000
abbrev cX3_init : ByteArray := prog_21_method_1_code
def yX3_init : MethodName := ⟨RX3, "<init>", "()V"⟩
def dkwX3_init_19 : List UInt8 := [181, 0, 63, 42, 17, 1, 0, 188, 10, 181, 0, 66, 177]
abbrev dktX3_init_19 : List UInt8 := dkwX3_init_19 ++ []
def dkwX3_init_18 : List UInt8 := [89, 7, 3, 79, 89, 8, 7, 79, 89, 16, 6, 4, 79, 181, 0, 60, 42, 17, 1, 232, 188, 10]
abbrev dktX3_init_18 : List UInt8 := dkwX3_init_18 ++ dktX3_init_19
def dkwX3_init_17 : List UInt8 := [181, 0, 57, 42, 16, 7, 188, 10, 89, 3, 4, 79, 89, 4, 5, 79, 89, 5, 5, 79, 89, 6, 4, 79]
abbrev dktX3_init_17 : List UInt8 := dkwX3_init_17 ++ dktX3_init_18
def dkwX3_init_16 : List UInt8 := [4, 7, 79, 89, 5, 3, 79, 89, 6, 3, 79, 89, 7, 5, 79, 89, 8, 5, 79, 89, 16, 6, 4, 79]
abbrev dktX3_init_16 : List UInt8 := dkwX3_init_16 ++ dktX3_init_17
def dkwX3_init_15 : List UInt8 := [16, 6, 16, 23, 79, 89, 16, 7, 16, 28, 79, 181, 0, 54, 42, 16, 7, 188, 10, 89, 3, 5, 79, 89]
abbrev dktX3_init_15 : List UInt8 := dkwX3_init_15 ++ dktX3_init_16
def dkwX3_init_14 : List UInt8 := [4, 7, 79, 89, 5, 16, 8, 79, 89, 6, 16, 13, 79, 89, 7, 16, 16, 79, 89, 8, 16, 20, 79, 89]
abbrev dktX3_init_14 : List UInt8 := dkwX3_init_14 ++ dktX3_init_15
def dkwX3_init_13 : List UInt8 := [16, 26, 16, 99, 85, 89, 16, 27, 16, 104, 85, 181, 0, 50, 42, 16, 8, 188, 10, 89, 3, 3, 79, 89]
abbrev dktX3_init_13 : List UInt8 := dkwX3_init_13 ++ dktX3_init_14
def dkwX3_init_12 : List UInt8 := [16, 22, 16, 103, 85, 89, 16, 23, 16, 99, 85, 89, 16, 24, 16, 111, 85, 89, 16, 25, 16, 97, 85, 89]
abbrev dktX3_init_12 : List UInt8 := dkwX3_init_12 ++ dktX3_init_13
def dkwX3_init_11 : List UInt8 := [16, 18, 16, 114, 85, 89, 16, 19, 16, 110, 85, 89, 16, 20, 16, 108, 85, 89, 16, 21, 16, 101, 85, 89]
abbrev dktX3_init_11 : List UInt8 := dkwX3_init_11 ++ dktX3_init_12
def dkwX3_init_10 : List UInt8 := [16, 14, 16, 117, 85, 89, 16, 15, 16, 116, 85, 89, 16, 16, 16, 116, 85, 89, 16, 17, 16, 117, 85, 89]
abbrev dktX3_init_10 : List UInt8 := dkwX3_init_10 ++ dktX3_init_11
def dkwX3_init_9 : List UInt8 := [16, 10, 16, 109, 85, 89, 16, 11, 16, 105, 85, 89, 16, 12, 16, 116, 85, 89, 16, 13, 16, 99, 85, 89]
abbrev dktX3_init_9 : List UInt8 := dkwX3_init_9 ++ dktX3_init_10
def dkwX3_init_8 : List UInt8 := [16, 6, 16, 110, 85, 89, 16, 7, 16, 107, 85, 89, 16, 8, 16, 108, 85, 89, 16, 9, 16, 105, 85, 89]
abbrev dktX3_init_8 : List UInt8 := dkwX3_init_8 ++ dktX3_init_9
def dkwX3_init_7 : List UInt8 := [16, 97, 85, 89, 5, 16, 116, 85, 89, 6, 16, 101, 85, 89, 7, 16, 108, 85, 89, 8, 16, 105, 85, 89]
abbrev dktX3_init_7 : List UInt8 := dkwX3_init_7 ++ dktX3_init_8
def dkwX3_init_6 : List UInt8 := [181, 0, 44, 42, 16, 72, 188, 10, 181, 0, 47, 42, 16, 28, 188, 5, 89, 3, 16, 108, 85, 89, 4]
abbrev dktX3_init_6 : List UInt8 := dkwX3_init_6 ++ dktX3_init_7
def dkwX3_init_5 : List UInt8 := [181, 0, 35, 42, 16, 6, 188, 10, 181, 0, 38, 42, 16, 72, 188, 10, 181, 0, 41, 42, 16, 72, 188, 10]
abbrev dktX3_init_5 : List UInt8 := dkwX3_init_5 ++ dktX3_init_6
def dkwX3_init_4 : List UInt8 := [16, 9, 79, 89, 4, 16, 60, 79, 89, 5, 16, 30, 79, 89, 6, 16, 60, 79, 89, 7, 16, 60, 79]
abbrev dktX3_init_4 : List UInt8 := dkwX3_init_4 ++ dktX3_init_5
def dkwX3_init_3 : List UInt8 := [4, 79, 89, 5, 3, 79, 89, 6, 3, 79, 89, 7, 3, 79, 181, 0, 32, 42, 8, 188, 10, 89, 3]
abbrev dktX3_init_3 : List UInt8 := dkwX3_init_3 ++ dktX3_init_4
def dkwX3_init_2 : List UInt8 := [16, 60, 188, 10, 181, 0, 26, 42, 8, 188, 10, 181, 0, 29, 42, 8, 188, 10, 89, 3, 3, 79, 89, 4]
abbrev dktX3_init_2 : List UInt8 := dkwX3_init_2 ++ dktX3_init_3
def dkwX3_init_1 : List UInt8 := [17, 1, 156, 188, 10, 181, 0, 16, 42, 17, 12, 224, 188, 10, 181, 0, 19, 42, 2, 181, 0, 22, 42]
abbrev dktX3_init_1 : List UInt8 := dkwX3_init_1 ++ dktX3_init_2
def dkwX3_init_0 : List UInt8 := [42, 183, 0, 1, 42, 17, 1, 156, 188, 10, 181, 0, 9, 42, 17, 1, 156, 188, 10, 181, 0, 13, 42]
abbrev dktX3_init_0 : List UInt8 := dkwX3_init_0 ++ dktX3_init_1
theorem dksX3_init_0 : cX3_init.data.toList.drop 0 = dktX3_init_0 := by decide +kernel
theorem dksX3_init_1 : cX3_init.data.toList.drop 23 = dktX3_init_1 := dk_seg dksX3_init_0 23 rfl rfl
theorem dksX3_init_2 : cX3_init.data.toList.drop 46 = dktX3_init_2 := dk_seg dksX3_init_1 23 rfl rfl
theorem dksX3_init_3 : cX3_init.data.toList.drop 70 = dktX3_init_3 := dk_seg dksX3_init_2 24 rfl rfl
theorem dksX3_init_4 : cX3_init.data.toList.drop 93 = dktX3_init_4 := dk_seg dksX3_init_3 23 rfl rfl
theorem dksX3_init_5 : cX3_init.data.toList.drop 116 = dktX3_init_5 := dk_seg dksX3_init_4 23 rfl rfl
theorem dksX3_init_6 : cX3_init.data.toList.drop 140 = dktX3_init_6 := dk_seg dksX3_init_5 24 rfl rfl
theorem dksX3_init_7 : cX3_init.data.toList.drop 163 = dktX3_init_7 := dk_seg dksX3_init_6 23 rfl rfl
theorem dksX3_init_8 : cX3_init.data.toList.drop 187 = dktX3_init_8 := dk_seg dksX3_init_7 24 rfl rfl
theorem dksX3_init_9 : cX3_init.data.toList.drop 211 = dktX3_init_9 := dk_seg dksX3_init_8 24 rfl rfl
theorem dksX3_init_10 : cX3_init.data.toList.drop 235 = dktX3_init_10 := dk_seg dksX3_init_9 24 rfl rfl
theorem dksX3_init_11 : cX3_init.data.toList.drop 259 = dktX3_init_11 := dk_seg dksX3_init_10 24 rfl rfl
theorem dksX3_init_12 : cX3_init.data.toList.drop 283 = dktX3_init_12 := dk_seg dksX3_init_11 24 rfl rfl
theorem dksX3_init_13 : cX3_init.data.toList.drop 307 = dktX3_init_13 := dk_seg dksX3_init_12 24 rfl rfl
theorem dksX3_init_14 : cX3_init.data.toList.drop 331 = dktX3_init_14 := dk_seg dksX3_init_13 24 rfl rfl
theorem dksX3_init_15 : cX3_init.data.toList.drop 355 = dktX3_init_15 := dk_seg dksX3_init_14 24 rfl rfl
theorem dksX3_init_16 : cX3_init.data.toList.drop 379 = dktX3_init_16 := dk_seg dksX3_init_15 24 rfl rfl
theorem dksX3_init_17 : cX3_init.data.toList.drop 403 = dktX3_init_17 := dk_seg dksX3_init_16 24 rfl rfl
theorem dksX3_init_18 : cX3_init.data.toList.drop 427 = dktX3_init_18 := dk_seg dksX3_init_17 24 rfl rfl
theorem dksX3_init_19 : cX3_init.data.toList.drop 449 = dktX3_init_19 := dk_seg dksX3_init_18 22 rfl rfl
theorem dX3_init_0 : decode cX3_init 0 = .ok (.aload_n 0, 1) := dk_42 (dk_at dksX3_init_0 0 rfl rfl)
theorem dX3_init_1 : decode cX3_init 1 = .ok (.invokespecial 1, 3) := dk_183 0 1 (dk_at dksX3_init_0 1 rfl rfl)
theorem dX3_init_4 : decode cX3_init 4 = .ok (.aload_n 0, 1) := dk_42 (dk_at dksX3_init_0 4 rfl rfl)
theorem dX3_init_5 : decode cX3_init 5 = .ok (.sipush 412, 3) := dk_17 1 156 (dk_at dksX3_init_0 5 rfl rfl)
theorem dX3_init_8 : decode cX3_init 8 = .ok (.newarray .int, 2) := dk_188_10 (dk_at dksX3_init_0 8 rfl rfl)
theorem dX3_init_10 : decode cX3_init 10 = .ok (.putfield 9, 3) := dk_181 0 9 (dk_at dksX3_init_0 10 rfl rfl)
theorem dX3_init_13 : decode cX3_init 13 = .ok (.aload_n 0, 1) := dk_42 (dk_at dksX3_init_0 13 rfl rfl)
theorem dX3_init_14 : decode cX3_init 14 = .ok (.sipush 412, 3) := dk_17 1 156 (dk_at dksX3_init_0 14 rfl rfl)
theorem dX3_init_17 : decode cX3_init 17 = .ok (.newarray .int, 2) := dk_188_10 (dk_at dksX3_init_0 17 rfl rfl)
theorem dX3_init_19 : decode cX3_init 19 = .ok (.putfield 13, 3) := dk_181 0 13 (dk_at dksX3_init_0 19 rfl rfl)
theorem dX3_init_22 : decode cX3_init 22 = .ok (.aload_n 0, 1) := dk_42 (dk_at dksX3_init_0 22 rfl rfl)
theorem dX3_init_23 : decode cX3_init 23 = .ok (.sipush 412, 3) := dk_17 1 156 (dk_at dksX3_init_1 0 rfl rfl)
theorem dX3_init_26 : decode cX3_init 26 = .ok (.newarray .int, 2) := dk_188_10 (dk_at dksX3_init_1 3 rfl rfl)
theorem dX3_init_28 : decode cX3_init 28 = .ok (.putfield 16, 3) := dk_181 0 16 (dk_at dksX3_init_1 5 rfl rfl)
theorem dX3_init_31 : decode cX3_init 31 = .ok (.aload_n 0, 1) := dk_42 (dk_at dksX3_init_1 8 rfl rfl)
theorem dX3_init_32 : decode cX3_init 32 = .ok (.sipush 3296, 3) := dk_17 12 224 (dk_at dksX3_init_1 9 rfl rfl)
theorem dX3_init_35 : decode cX3_init 35 = .ok (.newarray .int, 2) := dk_188_10 (dk_at dksX3_init_1 12 rfl rfl)
theorem dX3_init_37 : decode cX3_init 37 = .ok (.putfield 19, 3) := dk_181 0 19 (dk_at dksX3_init_1 14 rfl rfl)
theorem dX3_init_40 : decode cX3_init 40 = .ok (.aload_n 0, 1) := dk_42 (dk_at dksX3_init_1 17 rfl rfl)
theorem dX3_init_41 : decode cX3_init 41 = .ok (.iconst (-1), 1) := dk_2 (dk_at dksX3_init_1 18 rfl rfl)
theorem dX3_init_42 : decode cX3_init 42 = .ok (.putfield 22, 3) := dk_181 0 22 (dk_at dksX3_init_1 19 rfl rfl)
theorem dX3_init_45 : decode cX3_init 45 = .ok (.aload_n 0, 1) := dk_42 (dk_at dksX3_init_1 22 rfl rfl)
theorem dX3_init_46 : decode cX3_init 46 = .ok (.bipush 60, 2) := dk_16 60 (dk_at dksX3_init_2 0 rfl rfl)
theorem dX3_init_48 : decode cX3_init 48 = .ok (.newarray .int, 2) := dk_188_10 (dk_at dksX3_init_2 2 rfl rfl)
theorem dX3_init_50 : decode cX3_init 50 = .ok (.putfield 26, 3) := dk_181 0 26 (dk_at dksX3_init_2 4 rfl rfl)
theorem dX3_init_53 : decode cX3_init 53 = .ok (.aload_n 0, 1) := dk_42 (dk_at dksX3_init_2 7 rfl rfl)
theorem dX3_init_54 : decode cX3_init 54 = .ok (.iconst 5, 1) := dk_8 (dk_at dksX3_init_2 8 rfl rfl)
theorem dX3_init_55 : decode cX3_init 55 = .ok (.newarray .int, 2) := dk_188_10 (dk_at dksX3_init_2 9 rfl rfl)
theorem dX3_init_57 : decode cX3_init 57 = .ok (.putfield 29, 3) := dk_181 0 29 (dk_at dksX3_init_2 11 rfl rfl)
theorem dX3_init_60 : decode cX3_init 60 = .ok (.aload_n 0, 1) := dk_42 (dk_at dksX3_init_2 14 rfl rfl)
theorem dX3_init_61 : decode cX3_init 61 = .ok (.iconst 5, 1) := dk_8 (dk_at dksX3_init_2 15 rfl rfl)
theorem dX3_init_62 : decode cX3_init 62 = .ok (.newarray .int, 2) := dk_188_10 (dk_at dksX3_init_2 16 rfl rfl)
theorem dX3_init_64 : decode cX3_init 64 = .ok (.dup, 1) := dk_89 (dk_at dksX3_init_2 18 rfl rfl)
theorem dX3_init_65 : decode cX3_init 65 = .ok (.iconst 0, 1) := dk_3 (dk_at dksX3_init_2 19 rfl rfl)
theorem dX3_init_66 : decode cX3_init 66 = .ok (.iconst 0, 1) := dk_3 (dk_at dksX3_init_2 20 rfl rfl)
theorem dX3_init_67 : decode cX3_init 67 = .ok (.iastore, 1) := dk_79 (dk_at dksX3_init_2 21 rfl rfl)
theorem dX3_init_68 : decode cX3_init 68 = .ok (.dup, 1) := dk_89 (dk_at dksX3_init_2 22 rfl rfl)
theorem dX3_init_69 : decode cX3_init 69 = .ok (.iconst 1, 1) := dk_4 (dk_at dksX3_init_2 23 rfl rfl)
theorem dX3_init_70 : decode cX3_init 70 = .ok (.iconst 1, 1) := dk_4 (dk_at dksX3_init_3 0 rfl rfl)
theorem dX3_init_71 : decode cX3_init 71 = .ok (.iastore, 1) := dk_79 (dk_at dksX3_init_3 1 rfl rfl)
theorem dX3_init_72 : decode cX3_init 72 = .ok (.dup, 1) := dk_89 (dk_at dksX3_init_3 2 rfl rfl)
theorem dX3_init_73 : decode cX3_init 73 = .ok (.iconst 2, 1) := dk_5 (dk_at dksX3_init_3 3 rfl rfl)
theorem dX3_init_74 : decode cX3_init 74 = .ok (.iconst 0, 1) := dk_3 (dk_at dksX3_init_3 4 rfl rfl)
theorem dX3_init_75 : decode cX3_init 75 = .ok (.iastore, 1) := dk_79 (dk_at dksX3_init_3 5 rfl rfl)
theorem dX3_init_76 : decode cX3_init 76 = .ok (.dup, 1) := dk_89 (dk_at dksX3_init_3 6 rfl rfl)
theorem dX3_init_77 : decode cX3_init 77 = .ok (.iconst 3, 1) := dk_6 (dk_at dksX3_init_3 7 rfl rfl)
theorem dX3_init_78 : decode cX3_init 78 = .ok (.iconst 0, 1) := dk_3 (dk_at dksX3_init_3 8 rfl rfl)
theorem dX3_init_79 : decode cX3_init 79 = .ok (.iastore, 1) := dk_79 (dk_at dksX3_init_3 9 rfl rfl)
theorem dX3_init_80 : decode cX3_init 80 = .ok (.dup, 1) := dk_89 (dk_at dksX3_init_3 10 rfl rfl)
theorem dX3_init_81 : decode cX3_init 81 = .ok (.iconst 4, 1) := dk_7 (dk_at dksX3_init_3 11 rfl rfl)
theorem dX3_init_82 : decode cX3_init 82 = .ok (.iconst 0, 1) := dk_3 (dk_at dksX3_init_3 12 rfl rfl)
theorem dX3_init_83 : decode cX3_init 83 = .ok (.iastore, 1) := dk_79 (dk_at dksX3_init_3 13 rfl rfl)
theorem dX3_init_84 : decode cX3_init 84 = .ok (.putfield 32, 3) := dk_181 0 32 (dk_at dksX3_init_3 14 rfl rfl)
theorem dX3_init_87 : decode cX3_init 87 = .ok (.aload_n 0, 1) := dk_42 (dk_at dksX3_init_3 17 rfl rfl)
theorem dX3_init_88 : decode cX3_init 88 = .ok (.iconst 5, 1) := dk_8 (dk_at dksX3_init_3 18 rfl rfl)
theorem dX3_init_89 : decode cX3_init 89 = .ok (.newarray .int, 2) := dk_188_10 (dk_at dksX3_init_3 19 rfl rfl)
theorem dX3_init_91 : decode cX3_init 91 = .ok (.dup, 1) := dk_89 (dk_at dksX3_init_3 21 rfl rfl)
theorem dX3_init_92 : decode cX3_init 92 = .ok (.iconst 0, 1) := dk_3 (dk_at dksX3_init_3 22 rfl rfl)
theorem dX3_init_93 : decode cX3_init 93 = .ok (.bipush 9, 2) := dk_16 9 (dk_at dksX3_init_4 0 rfl rfl)
theorem dX3_init_95 : decode cX3_init 95 = .ok (.iastore, 1) := dk_79 (dk_at dksX3_init_4 2 rfl rfl)
theorem dX3_init_96 : decode cX3_init 96 = .ok (.dup, 1) := dk_89 (dk_at dksX3_init_4 3 rfl rfl)
theorem dX3_init_97 : decode cX3_init 97 = .ok (.iconst 1, 1) := dk_4 (dk_at dksX3_init_4 4 rfl rfl)
theorem dX3_init_98 : decode cX3_init 98 = .ok (.bipush 60, 2) := dk_16 60 (dk_at dksX3_init_4 5 rfl rfl)
theorem dX3_init_100 : decode cX3_init 100 = .ok (.iastore, 1) := dk_79 (dk_at dksX3_init_4 7 rfl rfl)
theorem dX3_init_101 : decode cX3_init 101 = .ok (.dup, 1) := dk_89 (dk_at dksX3_init_4 8 rfl rfl)
theorem dX3_init_102 : decode cX3_init 102 = .ok (.iconst 2, 1) := dk_5 (dk_at dksX3_init_4 9 rfl rfl)
theorem dX3_init_103 : decode cX3_init 103 = .ok (.bipush 30, 2) := dk_16 30 (dk_at dksX3_init_4 10 rfl rfl)
theorem dX3_init_105 : decode cX3_init 105 = .ok (.iastore, 1) := dk_79 (dk_at dksX3_init_4 12 rfl rfl)
theorem dX3_init_106 : decode cX3_init 106 = .ok (.dup, 1) := dk_89 (dk_at dksX3_init_4 13 rfl rfl)
theorem dX3_init_107 : decode cX3_init 107 = .ok (.iconst 3, 1) := dk_6 (dk_at dksX3_init_4 14 rfl rfl)
theorem dX3_init_108 : decode cX3_init 108 = .ok (.bipush 60, 2) := dk_16 60 (dk_at dksX3_init_4 15 rfl rfl)
theorem dX3_init_110 : decode cX3_init 110 = .ok (.iastore, 1) := dk_79 (dk_at dksX3_init_4 17 rfl rfl)
theorem dX3_init_111 : decode cX3_init 111 = .ok (.dup, 1) := dk_89 (dk_at dksX3_init_4 18 rfl rfl)
theorem dX3_init_112 : decode cX3_init 112 = .ok (.iconst 4, 1) := dk_7 (dk_at dksX3_init_4 19 rfl rfl)
theorem dX3_init_113 : decode cX3_init 113 = .ok (.bipush 60, 2) := dk_16 60 (dk_at dksX3_init_4 20 rfl rfl)
theorem dX3_init_115 : decode cX3_init 115 = .ok (.iastore, 1) := dk_79 (dk_at dksX3_init_4 22 rfl rfl)
theorem dX3_init_116 : decode cX3_init 116 = .ok (.putfield 35, 3) := dk_181 0 35 (dk_at dksX3_init_5 0 rfl rfl)
theorem dX3_init_119 : decode cX3_init 119 = .ok (.aload_n 0, 1) := dk_42 (dk_at dksX3_init_5 3 rfl rfl)
theorem dX3_init_120 : decode cX3_init 120 = .ok (.bipush 6, 2) := dk_16 6 (dk_at dksX3_init_5 4 rfl rfl)
theorem dX3_init_122 : decode cX3_init 122 = .ok (.newarray .int, 2) := dk_188_10 (dk_at dksX3_init_5 6 rfl rfl)
theorem dX3_init_124 : decode cX3_init 124 = .ok (.putfield 38, 3) := dk_181 0 38 (dk_at dksX3_init_5 8 rfl rfl)
theorem dX3_init_127 : decode cX3_init 127 = .ok (.aload_n 0, 1) := dk_42 (dk_at dksX3_init_5 11 rfl rfl)
theorem dX3_init_128 : decode cX3_init 128 = .ok (.bipush 72, 2) := dk_16 72 (dk_at dksX3_init_5 12 rfl rfl)
theorem dX3_init_130 : decode cX3_init 130 = .ok (.newarray .int, 2) := dk_188_10 (dk_at dksX3_init_5 14 rfl rfl)
theorem dX3_init_132 : decode cX3_init 132 = .ok (.putfield 41, 3) := dk_181 0 41 (dk_at dksX3_init_5 16 rfl rfl)
theorem dX3_init_135 : decode cX3_init 135 = .ok (.aload_n 0, 1) := dk_42 (dk_at dksX3_init_5 19 rfl rfl)
theorem dX3_init_136 : decode cX3_init 136 = .ok (.bipush 72, 2) := dk_16 72 (dk_at dksX3_init_5 20 rfl rfl)
theorem dX3_init_138 : decode cX3_init 138 = .ok (.newarray .int, 2) := dk_188_10 (dk_at dksX3_init_5 22 rfl rfl)
theorem dX3_init_140 : decode cX3_init 140 = .ok (.putfield 44, 3) := dk_181 0 44 (dk_at dksX3_init_6 0 rfl rfl)
theorem dX3_init_143 : decode cX3_init 143 = .ok (.aload_n 0, 1) := dk_42 (dk_at dksX3_init_6 3 rfl rfl)
theorem dX3_init_144 : decode cX3_init 144 = .ok (.bipush 72, 2) := dk_16 72 (dk_at dksX3_init_6 4 rfl rfl)
theorem dX3_init_146 : decode cX3_init 146 = .ok (.newarray .int, 2) := dk_188_10 (dk_at dksX3_init_6 6 rfl rfl)
theorem dX3_init_148 : decode cX3_init 148 = .ok (.putfield 47, 3) := dk_181 0 47 (dk_at dksX3_init_6 8 rfl rfl)
theorem dX3_init_151 : decode cX3_init 151 = .ok (.aload_n 0, 1) := dk_42 (dk_at dksX3_init_6 11 rfl rfl)
theorem dX3_init_152 : decode cX3_init 152 = .ok (.bipush 28, 2) := dk_16 28 (dk_at dksX3_init_6 12 rfl rfl)
theorem dX3_init_154 : decode cX3_init 154 = .ok (.newarray .char, 2) := dk_188_5 (dk_at dksX3_init_6 14 rfl rfl)
theorem dX3_init_156 : decode cX3_init 156 = .ok (.dup, 1) := dk_89 (dk_at dksX3_init_6 16 rfl rfl)
theorem dX3_init_157 : decode cX3_init 157 = .ok (.iconst 0, 1) := dk_3 (dk_at dksX3_init_6 17 rfl rfl)
theorem dX3_init_158 : decode cX3_init 158 = .ok (.bipush 108, 2) := dk_16 108 (dk_at dksX3_init_6 18 rfl rfl)
theorem dX3_init_160 : decode cX3_init 160 = .ok (.castore, 1) := dk_85 (dk_at dksX3_init_6 20 rfl rfl)
theorem dX3_init_161 : decode cX3_init 161 = .ok (.dup, 1) := dk_89 (dk_at dksX3_init_6 21 rfl rfl)
theorem dX3_init_162 : decode cX3_init 162 = .ok (.iconst 1, 1) := dk_4 (dk_at dksX3_init_6 22 rfl rfl)
theorem dX3_init_163 : decode cX3_init 163 = .ok (.bipush 97, 2) := dk_16 97 (dk_at dksX3_init_7 0 rfl rfl)
theorem dX3_init_165 : decode cX3_init 165 = .ok (.castore, 1) := dk_85 (dk_at dksX3_init_7 2 rfl rfl)
theorem dX3_init_166 : decode cX3_init 166 = .ok (.dup, 1) := dk_89 (dk_at dksX3_init_7 3 rfl rfl)
theorem dX3_init_167 : decode cX3_init 167 = .ok (.iconst 2, 1) := dk_5 (dk_at dksX3_init_7 4 rfl rfl)
theorem dX3_init_168 : decode cX3_init 168 = .ok (.bipush 116, 2) := dk_16 116 (dk_at dksX3_init_7 5 rfl rfl)
theorem dX3_init_170 : decode cX3_init 170 = .ok (.castore, 1) := dk_85 (dk_at dksX3_init_7 7 rfl rfl)
theorem dX3_init_171 : decode cX3_init 171 = .ok (.dup, 1) := dk_89 (dk_at dksX3_init_7 8 rfl rfl)
theorem dX3_init_172 : decode cX3_init 172 = .ok (.iconst 3, 1) := dk_6 (dk_at dksX3_init_7 9 rfl rfl)
theorem dX3_init_173 : decode cX3_init 173 = .ok (.bipush 101, 2) := dk_16 101 (dk_at dksX3_init_7 10 rfl rfl)
theorem dX3_init_175 : decode cX3_init 175 = .ok (.castore, 1) := dk_85 (dk_at dksX3_init_7 12 rfl rfl)
theorem dX3_init_176 : decode cX3_init 176 = .ok (.dup, 1) := dk_89 (dk_at dksX3_init_7 13 rfl rfl)
theorem dX3_init_177 : decode cX3_init 177 = .ok (.iconst 4, 1) := dk_7 (dk_at dksX3_init_7 14 rfl rfl)
theorem dX3_init_178 : decode cX3_init 178 = .ok (.bipush 108, 2) := dk_16 108 (dk_at dksX3_init_7 15 rfl rfl)
theorem dX3_init_180 : decode cX3_init 180 = .ok (.castore, 1) := dk_85 (dk_at dksX3_init_7 17 rfl rfl)
theorem dX3_init_181 : decode cX3_init 181 = .ok (.dup, 1) := dk_89 (dk_at dksX3_init_7 18 rfl rfl)
theorem dX3_init_182 : decode cX3_init 182 = .ok (.iconst 5, 1) := dk_8 (dk_at dksX3_init_7 19 rfl rfl)
theorem dX3_init_183 : decode cX3_init 183 = .ok (.bipush 105, 2) := dk_16 105 (dk_at dksX3_init_7 20 rfl rfl)
theorem dX3_init_185 : decode cX3_init 185 = .ok (.castore, 1) := dk_85 (dk_at dksX3_init_7 22 rfl rfl)
theorem dX3_init_186 : decode cX3_init 186 = .ok (.dup, 1) := dk_89 (dk_at dksX3_init_7 23 rfl rfl)
theorem dX3_init_187 : decode cX3_init 187 = .ok (.bipush 6, 2) := dk_16 6 (dk_at dksX3_init_8 0 rfl rfl)
theorem dX3_init_189 : decode cX3_init 189 = .ok (.bipush 110, 2) := dk_16 110 (dk_at dksX3_init_8 2 rfl rfl)
theorem dX3_init_191 : decode cX3_init 191 = .ok (.castore, 1) := dk_85 (dk_at dksX3_init_8 4 rfl rfl)
theorem dX3_init_192 : decode cX3_init 192 = .ok (.dup, 1) := dk_89 (dk_at dksX3_init_8 5 rfl rfl)
theorem dX3_init_193 : decode cX3_init 193 = .ok (.bipush 7, 2) := dk_16 7 (dk_at dksX3_init_8 6 rfl rfl)
theorem dX3_init_195 : decode cX3_init 195 = .ok (.bipush 107, 2) := dk_16 107 (dk_at dksX3_init_8 8 rfl rfl)
theorem dX3_init_197 : decode cX3_init 197 = .ok (.castore, 1) := dk_85 (dk_at dksX3_init_8 10 rfl rfl)
theorem dX3_init_198 : decode cX3_init 198 = .ok (.dup, 1) := dk_89 (dk_at dksX3_init_8 11 rfl rfl)
theorem dX3_init_199 : decode cX3_init 199 = .ok (.bipush 8, 2) := dk_16 8 (dk_at dksX3_init_8 12 rfl rfl)
theorem dX3_init_201 : decode cX3_init 201 = .ok (.bipush 108, 2) := dk_16 108 (dk_at dksX3_init_8 14 rfl rfl)
theorem dX3_init_203 : decode cX3_init 203 = .ok (.castore, 1) := dk_85 (dk_at dksX3_init_8 16 rfl rfl)
theorem dX3_init_204 : decode cX3_init 204 = .ok (.dup, 1) := dk_89 (dk_at dksX3_init_8 17 rfl rfl)
theorem dX3_init_205 : decode cX3_init 205 = .ok (.bipush 9, 2) := dk_16 9 (dk_at dksX3_init_8 18 rfl rfl)
theorem dX3_init_207 : decode cX3_init 207 = .ok (.bipush 105, 2) := dk_16 105 (dk_at dksX3_init_8 20 rfl rfl)
theorem dX3_init_209 : decode cX3_init 209 = .ok (.castore, 1) := dk_85 (dk_at dksX3_init_8 22 rfl rfl)
theorem dX3_init_210 : decode cX3_init 210 = .ok (.dup, 1) := dk_89 (dk_at dksX3_init_8 23 rfl rfl)
theorem dX3_init_211 : decode cX3_init 211 = .ok (.bipush 10, 2) := dk_16 10 (dk_at dksX3_init_9 0 rfl rfl)
theorem dX3_init_213 : decode cX3_init 213 = .ok (.bipush 109, 2) := dk_16 109 (dk_at dksX3_init_9 2 rfl rfl)
theorem dX3_init_215 : decode cX3_init 215 = .ok (.castore, 1) := dk_85 (dk_at dksX3_init_9 4 rfl rfl)
theorem dX3_init_216 : decode cX3_init 216 = .ok (.dup, 1) := dk_89 (dk_at dksX3_init_9 5 rfl rfl)
theorem dX3_init_217 : decode cX3_init 217 = .ok (.bipush 11, 2) := dk_16 11 (dk_at dksX3_init_9 6 rfl rfl)
theorem dX3_init_219 : decode cX3_init 219 = .ok (.bipush 105, 2) := dk_16 105 (dk_at dksX3_init_9 8 rfl rfl)
theorem dX3_init_221 : decode cX3_init 221 = .ok (.castore, 1) := dk_85 (dk_at dksX3_init_9 10 rfl rfl)
theorem dX3_init_222 : decode cX3_init 222 = .ok (.dup, 1) := dk_89 (dk_at dksX3_init_9 11 rfl rfl)
theorem dX3_init_223 : decode cX3_init 223 = .ok (.bipush 12, 2) := dk_16 12 (dk_at dksX3_init_9 12 rfl rfl)
theorem dX3_init_225 : decode cX3_init 225 = .ok (.bipush 116, 2) := dk_16 116 (dk_at dksX3_init_9 14 rfl rfl)
theorem dX3_init_227 : decode cX3_init 227 = .ok (.castore, 1) := dk_85 (dk_at dksX3_init_9 16 rfl rfl)
theorem dX3_init_228 : decode cX3_init 228 = .ok (.dup, 1) := dk_89 (dk_at dksX3_init_9 17 rfl rfl)
theorem dX3_init_229 : decode cX3_init 229 = .ok (.bipush 13, 2) := dk_16 13 (dk_at dksX3_init_9 18 rfl rfl)
theorem dX3_init_231 : decode cX3_init 231 = .ok (.bipush 99, 2) := dk_16 99 (dk_at dksX3_init_9 20 rfl rfl)
theorem dX3_init_233 : decode cX3_init 233 = .ok (.castore, 1) := dk_85 (dk_at dksX3_init_9 22 rfl rfl)
theorem dX3_init_234 : decode cX3_init 234 = .ok (.dup, 1) := dk_89 (dk_at dksX3_init_9 23 rfl rfl)
theorem dX3_init_235 : decode cX3_init 235 = .ok (.bipush 14, 2) := dk_16 14 (dk_at dksX3_init_10 0 rfl rfl)
theorem dX3_init_237 : decode cX3_init 237 = .ok (.bipush 117, 2) := dk_16 117 (dk_at dksX3_init_10 2 rfl rfl)
theorem dX3_init_239 : decode cX3_init 239 = .ok (.castore, 1) := dk_85 (dk_at dksX3_init_10 4 rfl rfl)
theorem dX3_init_240 : decode cX3_init 240 = .ok (.dup, 1) := dk_89 (dk_at dksX3_init_10 5 rfl rfl)
theorem dX3_init_241 : decode cX3_init 241 = .ok (.bipush 15, 2) := dk_16 15 (dk_at dksX3_init_10 6 rfl rfl)
theorem dX3_init_243 : decode cX3_init 243 = .ok (.bipush 116, 2) := dk_16 116 (dk_at dksX3_init_10 8 rfl rfl)
theorem dX3_init_245 : decode cX3_init 245 = .ok (.castore, 1) := dk_85 (dk_at dksX3_init_10 10 rfl rfl)
theorem dX3_init_246 : decode cX3_init 246 = .ok (.dup, 1) := dk_89 (dk_at dksX3_init_10 11 rfl rfl)
theorem dX3_init_247 : decode cX3_init 247 = .ok (.bipush 16, 2) := dk_16 16 (dk_at dksX3_init_10 12 rfl rfl)
theorem dX3_init_249 : decode cX3_init 249 = .ok (.bipush 116, 2) := dk_16 116 (dk_at dksX3_init_10 14 rfl rfl)
theorem dX3_init_251 : decode cX3_init 251 = .ok (.castore, 1) := dk_85 (dk_at dksX3_init_10 16 rfl rfl)
theorem dX3_init_252 : decode cX3_init 252 = .ok (.dup, 1) := dk_89 (dk_at dksX3_init_10 17 rfl rfl)
theorem dX3_init_253 : decode cX3_init 253 = .ok (.bipush 17, 2) := dk_16 17 (dk_at dksX3_init_10 18 rfl rfl)
theorem dX3_init_255 : decode cX3_init 255 = .ok (.bipush 117, 2) := dk_16 117 (dk_at dksX3_init_10 20 rfl rfl)
theorem dX3_init_257 : decode cX3_init 257 = .ok (.castore, 1) := dk_85 (dk_at dksX3_init_10 22 rfl rfl)
theorem dX3_init_258 : decode cX3_init 258 = .ok (.dup, 1) := dk_89 (dk_at dksX3_init_10 23 rfl rfl)
theorem dX3_init_259 : decode cX3_init 259 = .ok (.bipush 18, 2) := dk_16 18 (dk_at dksX3_init_11 0 rfl rfl)
theorem dX3_init_261 : decode cX3_init 261 = .ok (.bipush 114, 2) := dk_16 114 (dk_at dksX3_init_11 2 rfl rfl)
theorem dX3_init_263 : decode cX3_init 263 = .ok (.castore, 1) := dk_85 (dk_at dksX3_init_11 4 rfl rfl)
theorem dX3_init_264 : decode cX3_init 264 = .ok (.dup, 1) := dk_89 (dk_at dksX3_init_11 5 rfl rfl)
theorem dX3_init_265 : decode cX3_init 265 = .ok (.bipush 19, 2) := dk_16 19 (dk_at dksX3_init_11 6 rfl rfl)
theorem dX3_init_267 : decode cX3_init 267 = .ok (.bipush 110, 2) := dk_16 110 (dk_at dksX3_init_11 8 rfl rfl)
theorem dX3_init_269 : decode cX3_init 269 = .ok (.castore, 1) := dk_85 (dk_at dksX3_init_11 10 rfl rfl)
theorem dX3_init_270 : decode cX3_init 270 = .ok (.dup, 1) := dk_89 (dk_at dksX3_init_11 11 rfl rfl)
theorem dX3_init_271 : decode cX3_init 271 = .ok (.bipush 20, 2) := dk_16 20 (dk_at dksX3_init_11 12 rfl rfl)
theorem dX3_init_273 : decode cX3_init 273 = .ok (.bipush 108, 2) := dk_16 108 (dk_at dksX3_init_11 14 rfl rfl)
theorem dX3_init_275 : decode cX3_init 275 = .ok (.castore, 1) := dk_85 (dk_at dksX3_init_11 16 rfl rfl)
theorem dX3_init_276 : decode cX3_init 276 = .ok (.dup, 1) := dk_89 (dk_at dksX3_init_11 17 rfl rfl)
theorem dX3_init_277 : decode cX3_init 277 = .ok (.bipush 21, 2) := dk_16 21 (dk_at dksX3_init_11 18 rfl rfl)
theorem dX3_init_279 : decode cX3_init 279 = .ok (.bipush 101, 2) := dk_16 101 (dk_at dksX3_init_11 20 rfl rfl)
theorem dX3_init_281 : decode cX3_init 281 = .ok (.castore, 1) := dk_85 (dk_at dksX3_init_11 22 rfl rfl)
theorem dX3_init_282 : decode cX3_init 282 = .ok (.dup, 1) := dk_89 (dk_at dksX3_init_11 23 rfl rfl)
theorem dX3_init_283 : decode cX3_init 283 = .ok (.bipush 22, 2) := dk_16 22 (dk_at dksX3_init_12 0 rfl rfl)
theorem dX3_init_285 : decode cX3_init 285 = .ok (.bipush 103, 2) := dk_16 103 (dk_at dksX3_init_12 2 rfl rfl)
theorem dX3_init_287 : decode cX3_init 287 = .ok (.castore, 1) := dk_85 (dk_at dksX3_init_12 4 rfl rfl)
theorem dX3_init_288 : decode cX3_init 288 = .ok (.dup, 1) := dk_89 (dk_at dksX3_init_12 5 rfl rfl)
theorem dX3_init_289 : decode cX3_init 289 = .ok (.bipush 23, 2) := dk_16 23 (dk_at dksX3_init_12 6 rfl rfl)
theorem dX3_init_291 : decode cX3_init 291 = .ok (.bipush 99, 2) := dk_16 99 (dk_at dksX3_init_12 8 rfl rfl)
theorem dX3_init_293 : decode cX3_init 293 = .ok (.castore, 1) := dk_85 (dk_at dksX3_init_12 10 rfl rfl)
theorem dX3_init_294 : decode cX3_init 294 = .ok (.dup, 1) := dk_89 (dk_at dksX3_init_12 11 rfl rfl)
theorem dX3_init_295 : decode cX3_init 295 = .ok (.bipush 24, 2) := dk_16 24 (dk_at dksX3_init_12 12 rfl rfl)
theorem dX3_init_297 : decode cX3_init 297 = .ok (.bipush 111, 2) := dk_16 111 (dk_at dksX3_init_12 14 rfl rfl)
theorem dX3_init_299 : decode cX3_init 299 = .ok (.castore, 1) := dk_85 (dk_at dksX3_init_12 16 rfl rfl)
theorem dX3_init_300 : decode cX3_init 300 = .ok (.dup, 1) := dk_89 (dk_at dksX3_init_12 17 rfl rfl)
theorem dX3_init_301 : decode cX3_init 301 = .ok (.bipush 25, 2) := dk_16 25 (dk_at dksX3_init_12 18 rfl rfl)
theorem dX3_init_303 : decode cX3_init 303 = .ok (.bipush 97, 2) := dk_16 97 (dk_at dksX3_init_12 20 rfl rfl)
theorem dX3_init_305 : decode cX3_init 305 = .ok (.castore, 1) := dk_85 (dk_at dksX3_init_12 22 rfl rfl)
theorem dX3_init_306 : decode cX3_init 306 = .ok (.dup, 1) := dk_89 (dk_at dksX3_init_12 23 rfl rfl)
theorem dX3_init_307 : decode cX3_init 307 = .ok (.bipush 26, 2) := dk_16 26 (dk_at dksX3_init_13 0 rfl rfl)
theorem dX3_init_309 : decode cX3_init 309 = .ok (.bipush 99, 2) := dk_16 99 (dk_at dksX3_init_13 2 rfl rfl)
theorem dX3_init_311 : decode cX3_init 311 = .ok (.castore, 1) := dk_85 (dk_at dksX3_init_13 4 rfl rfl)
theorem dX3_init_312 : decode cX3_init 312 = .ok (.dup, 1) := dk_89 (dk_at dksX3_init_13 5 rfl rfl)
theorem dX3_init_313 : decode cX3_init 313 = .ok (.bipush 27, 2) := dk_16 27 (dk_at dksX3_init_13 6 rfl rfl)
theorem dX3_init_315 : decode cX3_init 315 = .ok (.bipush 104, 2) := dk_16 104 (dk_at dksX3_init_13 8 rfl rfl)
theorem dX3_init_317 : decode cX3_init 317 = .ok (.castore, 1) := dk_85 (dk_at dksX3_init_13 10 rfl rfl)
theorem dX3_init_318 : decode cX3_init 318 = .ok (.putfield 50, 3) := dk_181 0 50 (dk_at dksX3_init_13 11 rfl rfl)
theorem dX3_init_321 : decode cX3_init 321 = .ok (.aload_n 0, 1) := dk_42 (dk_at dksX3_init_13 14 rfl rfl)
theorem dX3_init_322 : decode cX3_init 322 = .ok (.bipush 8, 2) := dk_16 8 (dk_at dksX3_init_13 15 rfl rfl)
theorem dX3_init_324 : decode cX3_init 324 = .ok (.newarray .int, 2) := dk_188_10 (dk_at dksX3_init_13 17 rfl rfl)
theorem dX3_init_326 : decode cX3_init 326 = .ok (.dup, 1) := dk_89 (dk_at dksX3_init_13 19 rfl rfl)
theorem dX3_init_327 : decode cX3_init 327 = .ok (.iconst 0, 1) := dk_3 (dk_at dksX3_init_13 20 rfl rfl)
theorem dX3_init_328 : decode cX3_init 328 = .ok (.iconst 0, 1) := dk_3 (dk_at dksX3_init_13 21 rfl rfl)
theorem dX3_init_329 : decode cX3_init 329 = .ok (.iastore, 1) := dk_79 (dk_at dksX3_init_13 22 rfl rfl)
theorem dX3_init_330 : decode cX3_init 330 = .ok (.dup, 1) := dk_89 (dk_at dksX3_init_13 23 rfl rfl)
theorem dX3_init_331 : decode cX3_init 331 = .ok (.iconst 1, 1) := dk_4 (dk_at dksX3_init_14 0 rfl rfl)
theorem dX3_init_332 : decode cX3_init 332 = .ok (.iconst 4, 1) := dk_7 (dk_at dksX3_init_14 1 rfl rfl)
theorem dX3_init_333 : decode cX3_init 333 = .ok (.iastore, 1) := dk_79 (dk_at dksX3_init_14 2 rfl rfl)
theorem dX3_init_334 : decode cX3_init 334 = .ok (.dup, 1) := dk_89 (dk_at dksX3_init_14 3 rfl rfl)
theorem dX3_init_335 : decode cX3_init 335 = .ok (.iconst 2, 1) := dk_5 (dk_at dksX3_init_14 4 rfl rfl)
theorem dX3_init_336 : decode cX3_init 336 = .ok (.bipush 8, 2) := dk_16 8 (dk_at dksX3_init_14 5 rfl rfl)
theorem dX3_init_338 : decode cX3_init 338 = .ok (.iastore, 1) := dk_79 (dk_at dksX3_init_14 7 rfl rfl)
theorem dX3_init_339 : decode cX3_init 339 = .ok (.dup, 1) := dk_89 (dk_at dksX3_init_14 8 rfl rfl)
theorem dX3_init_340 : decode cX3_init 340 = .ok (.iconst 3, 1) := dk_6 (dk_at dksX3_init_14 9 rfl rfl)
theorem dX3_init_341 : decode cX3_init 341 = .ok (.bipush 13, 2) := dk_16 13 (dk_at dksX3_init_14 10 rfl rfl)
theorem dX3_init_343 : decode cX3_init 343 = .ok (.iastore, 1) := dk_79 (dk_at dksX3_init_14 12 rfl rfl)
theorem dX3_init_344 : decode cX3_init 344 = .ok (.dup, 1) := dk_89 (dk_at dksX3_init_14 13 rfl rfl)
theorem dX3_init_345 : decode cX3_init 345 = .ok (.iconst 4, 1) := dk_7 (dk_at dksX3_init_14 14 rfl rfl)
theorem dX3_init_346 : decode cX3_init 346 = .ok (.bipush 16, 2) := dk_16 16 (dk_at dksX3_init_14 15 rfl rfl)
theorem dX3_init_348 : decode cX3_init 348 = .ok (.iastore, 1) := dk_79 (dk_at dksX3_init_14 17 rfl rfl)
theorem dX3_init_349 : decode cX3_init 349 = .ok (.dup, 1) := dk_89 (dk_at dksX3_init_14 18 rfl rfl)
theorem dX3_init_350 : decode cX3_init 350 = .ok (.iconst 5, 1) := dk_8 (dk_at dksX3_init_14 19 rfl rfl)
theorem dX3_init_351 : decode cX3_init 351 = .ok (.bipush 20, 2) := dk_16 20 (dk_at dksX3_init_14 20 rfl rfl)
theorem dX3_init_353 : decode cX3_init 353 = .ok (.iastore, 1) := dk_79 (dk_at dksX3_init_14 22 rfl rfl)
theorem dX3_init_354 : decode cX3_init 354 = .ok (.dup, 1) := dk_89 (dk_at dksX3_init_14 23 rfl rfl)
theorem dX3_init_355 : decode cX3_init 355 = .ok (.bipush 6, 2) := dk_16 6 (dk_at dksX3_init_15 0 rfl rfl)
theorem dX3_init_357 : decode cX3_init 357 = .ok (.bipush 23, 2) := dk_16 23 (dk_at dksX3_init_15 2 rfl rfl)
theorem dX3_init_359 : decode cX3_init 359 = .ok (.iastore, 1) := dk_79 (dk_at dksX3_init_15 4 rfl rfl)
theorem dX3_init_360 : decode cX3_init 360 = .ok (.dup, 1) := dk_89 (dk_at dksX3_init_15 5 rfl rfl)
theorem dX3_init_361 : decode cX3_init 361 = .ok (.bipush 7, 2) := dk_16 7 (dk_at dksX3_init_15 6 rfl rfl)
theorem dX3_init_363 : decode cX3_init 363 = .ok (.bipush 28, 2) := dk_16 28 (dk_at dksX3_init_15 8 rfl rfl)
theorem dX3_init_365 : decode cX3_init 365 = .ok (.iastore, 1) := dk_79 (dk_at dksX3_init_15 10 rfl rfl)
theorem dX3_init_366 : decode cX3_init 366 = .ok (.putfield 54, 3) := dk_181 0 54 (dk_at dksX3_init_15 11 rfl rfl)
theorem dX3_init_369 : decode cX3_init 369 = .ok (.aload_n 0, 1) := dk_42 (dk_at dksX3_init_15 14 rfl rfl)
theorem dX3_init_370 : decode cX3_init 370 = .ok (.bipush 7, 2) := dk_16 7 (dk_at dksX3_init_15 15 rfl rfl)
theorem dX3_init_372 : decode cX3_init 372 = .ok (.newarray .int, 2) := dk_188_10 (dk_at dksX3_init_15 17 rfl rfl)
theorem dX3_init_374 : decode cX3_init 374 = .ok (.dup, 1) := dk_89 (dk_at dksX3_init_15 19 rfl rfl)
theorem dX3_init_375 : decode cX3_init 375 = .ok (.iconst 0, 1) := dk_3 (dk_at dksX3_init_15 20 rfl rfl)
theorem dX3_init_376 : decode cX3_init 376 = .ok (.iconst 2, 1) := dk_5 (dk_at dksX3_init_15 21 rfl rfl)
theorem dX3_init_377 : decode cX3_init 377 = .ok (.iastore, 1) := dk_79 (dk_at dksX3_init_15 22 rfl rfl)
theorem dX3_init_378 : decode cX3_init 378 = .ok (.dup, 1) := dk_89 (dk_at dksX3_init_15 23 rfl rfl)
theorem dX3_init_379 : decode cX3_init 379 = .ok (.iconst 1, 1) := dk_4 (dk_at dksX3_init_16 0 rfl rfl)
theorem dX3_init_380 : decode cX3_init 380 = .ok (.iconst 4, 1) := dk_7 (dk_at dksX3_init_16 1 rfl rfl)
theorem dX3_init_381 : decode cX3_init 381 = .ok (.iastore, 1) := dk_79 (dk_at dksX3_init_16 2 rfl rfl)
theorem dX3_init_382 : decode cX3_init 382 = .ok (.dup, 1) := dk_89 (dk_at dksX3_init_16 3 rfl rfl)
theorem dX3_init_383 : decode cX3_init 383 = .ok (.iconst 2, 1) := dk_5 (dk_at dksX3_init_16 4 rfl rfl)
theorem dX3_init_384 : decode cX3_init 384 = .ok (.iconst 0, 1) := dk_3 (dk_at dksX3_init_16 5 rfl rfl)
theorem dX3_init_385 : decode cX3_init 385 = .ok (.iastore, 1) := dk_79 (dk_at dksX3_init_16 6 rfl rfl)
theorem dX3_init_386 : decode cX3_init 386 = .ok (.dup, 1) := dk_89 (dk_at dksX3_init_16 7 rfl rfl)
theorem dX3_init_387 : decode cX3_init 387 = .ok (.iconst 3, 1) := dk_6 (dk_at dksX3_init_16 8 rfl rfl)
theorem dX3_init_388 : decode cX3_init 388 = .ok (.iconst 0, 1) := dk_3 (dk_at dksX3_init_16 9 rfl rfl)
theorem dX3_init_389 : decode cX3_init 389 = .ok (.iastore, 1) := dk_79 (dk_at dksX3_init_16 10 rfl rfl)
theorem dX3_init_390 : decode cX3_init 390 = .ok (.dup, 1) := dk_89 (dk_at dksX3_init_16 11 rfl rfl)
theorem dX3_init_391 : decode cX3_init 391 = .ok (.iconst 4, 1) := dk_7 (dk_at dksX3_init_16 12 rfl rfl)
theorem dX3_init_392 : decode cX3_init 392 = .ok (.iconst 2, 1) := dk_5 (dk_at dksX3_init_16 13 rfl rfl)
theorem dX3_init_393 : decode cX3_init 393 = .ok (.iastore, 1) := dk_79 (dk_at dksX3_init_16 14 rfl rfl)
theorem dX3_init_394 : decode cX3_init 394 = .ok (.dup, 1) := dk_89 (dk_at dksX3_init_16 15 rfl rfl)
theorem dX3_init_395 : decode cX3_init 395 = .ok (.iconst 5, 1) := dk_8 (dk_at dksX3_init_16 16 rfl rfl)
theorem dX3_init_396 : decode cX3_init 396 = .ok (.iconst 2, 1) := dk_5 (dk_at dksX3_init_16 17 rfl rfl)
theorem dX3_init_397 : decode cX3_init 397 = .ok (.iastore, 1) := dk_79 (dk_at dksX3_init_16 18 rfl rfl)
theorem dX3_init_398 : decode cX3_init 398 = .ok (.dup, 1) := dk_89 (dk_at dksX3_init_16 19 rfl rfl)
theorem dX3_init_399 : decode cX3_init 399 = .ok (.bipush 6, 2) := dk_16 6 (dk_at dksX3_init_16 20 rfl rfl)
theorem dX3_init_401 : decode cX3_init 401 = .ok (.iconst 1, 1) := dk_4 (dk_at dksX3_init_16 22 rfl rfl)
theorem dX3_init_402 : decode cX3_init 402 = .ok (.iastore, 1) := dk_79 (dk_at dksX3_init_16 23 rfl rfl)
theorem dX3_init_403 : decode cX3_init 403 = .ok (.putfield 57, 3) := dk_181 0 57 (dk_at dksX3_init_17 0 rfl rfl)
theorem dX3_init_406 : decode cX3_init 406 = .ok (.aload_n 0, 1) := dk_42 (dk_at dksX3_init_17 3 rfl rfl)
theorem dX3_init_407 : decode cX3_init 407 = .ok (.bipush 7, 2) := dk_16 7 (dk_at dksX3_init_17 4 rfl rfl)
theorem dX3_init_409 : decode cX3_init 409 = .ok (.newarray .int, 2) := dk_188_10 (dk_at dksX3_init_17 6 rfl rfl)
theorem dX3_init_411 : decode cX3_init 411 = .ok (.dup, 1) := dk_89 (dk_at dksX3_init_17 8 rfl rfl)
theorem dX3_init_412 : decode cX3_init 412 = .ok (.iconst 0, 1) := dk_3 (dk_at dksX3_init_17 9 rfl rfl)
theorem dX3_init_413 : decode cX3_init 413 = .ok (.iconst 1, 1) := dk_4 (dk_at dksX3_init_17 10 rfl rfl)
theorem dX3_init_414 : decode cX3_init 414 = .ok (.iastore, 1) := dk_79 (dk_at dksX3_init_17 11 rfl rfl)
theorem dX3_init_415 : decode cX3_init 415 = .ok (.dup, 1) := dk_89 (dk_at dksX3_init_17 12 rfl rfl)
theorem dX3_init_416 : decode cX3_init 416 = .ok (.iconst 1, 1) := dk_4 (dk_at dksX3_init_17 13 rfl rfl)
theorem dX3_init_417 : decode cX3_init 417 = .ok (.iconst 2, 1) := dk_5 (dk_at dksX3_init_17 14 rfl rfl)
theorem dX3_init_418 : decode cX3_init 418 = .ok (.iastore, 1) := dk_79 (dk_at dksX3_init_17 15 rfl rfl)
theorem dX3_init_419 : decode cX3_init 419 = .ok (.dup, 1) := dk_89 (dk_at dksX3_init_17 16 rfl rfl)
theorem dX3_init_420 : decode cX3_init 420 = .ok (.iconst 2, 1) := dk_5 (dk_at dksX3_init_17 17 rfl rfl)
theorem dX3_init_421 : decode cX3_init 421 = .ok (.iconst 2, 1) := dk_5 (dk_at dksX3_init_17 18 rfl rfl)
theorem dX3_init_422 : decode cX3_init 422 = .ok (.iastore, 1) := dk_79 (dk_at dksX3_init_17 19 rfl rfl)
theorem dX3_init_423 : decode cX3_init 423 = .ok (.dup, 1) := dk_89 (dk_at dksX3_init_17 20 rfl rfl)
theorem dX3_init_424 : decode cX3_init 424 = .ok (.iconst 3, 1) := dk_6 (dk_at dksX3_init_17 21 rfl rfl)
theorem dX3_init_425 : decode cX3_init 425 = .ok (.iconst 1, 1) := dk_4 (dk_at dksX3_init_17 22 rfl rfl)
theorem dX3_init_426 : decode cX3_init 426 = .ok (.iastore, 1) := dk_79 (dk_at dksX3_init_17 23 rfl rfl)
theorem dX3_init_427 : decode cX3_init 427 = .ok (.dup, 1) := dk_89 (dk_at dksX3_init_18 0 rfl rfl)
theorem dX3_init_428 : decode cX3_init 428 = .ok (.iconst 4, 1) := dk_7 (dk_at dksX3_init_18 1 rfl rfl)
theorem dX3_init_429 : decode cX3_init 429 = .ok (.iconst 0, 1) := dk_3 (dk_at dksX3_init_18 2 rfl rfl)
theorem dX3_init_430 : decode cX3_init 430 = .ok (.iastore, 1) := dk_79 (dk_at dksX3_init_18 3 rfl rfl)
theorem dX3_init_431 : decode cX3_init 431 = .ok (.dup, 1) := dk_89 (dk_at dksX3_init_18 4 rfl rfl)
theorem dX3_init_432 : decode cX3_init 432 = .ok (.iconst 5, 1) := dk_8 (dk_at dksX3_init_18 5 rfl rfl)
theorem dX3_init_433 : decode cX3_init 433 = .ok (.iconst 4, 1) := dk_7 (dk_at dksX3_init_18 6 rfl rfl)
theorem dX3_init_434 : decode cX3_init 434 = .ok (.iastore, 1) := dk_79 (dk_at dksX3_init_18 7 rfl rfl)
theorem dX3_init_435 : decode cX3_init 435 = .ok (.dup, 1) := dk_89 (dk_at dksX3_init_18 8 rfl rfl)
theorem dX3_init_436 : decode cX3_init 436 = .ok (.bipush 6, 2) := dk_16 6 (dk_at dksX3_init_18 9 rfl rfl)
theorem dX3_init_438 : decode cX3_init 438 = .ok (.iconst 1, 1) := dk_4 (dk_at dksX3_init_18 11 rfl rfl)
theorem dX3_init_439 : decode cX3_init 439 = .ok (.iastore, 1) := dk_79 (dk_at dksX3_init_18 12 rfl rfl)
theorem dX3_init_440 : decode cX3_init 440 = .ok (.putfield 60, 3) := dk_181 0 60 (dk_at dksX3_init_18 13 rfl rfl)
theorem dX3_init_443 : decode cX3_init 443 = .ok (.aload_n 0, 1) := dk_42 (dk_at dksX3_init_18 16 rfl rfl)
theorem dX3_init_444 : decode cX3_init 444 = .ok (.sipush 488, 3) := dk_17 1 232 (dk_at dksX3_init_18 17 rfl rfl)
theorem dX3_init_447 : decode cX3_init 447 = .ok (.newarray .int, 2) := dk_188_10 (dk_at dksX3_init_18 20 rfl rfl)
theorem dX3_init_449 : decode cX3_init 449 = .ok (.putfield 63, 3) := dk_181 0 63 (dk_at dksX3_init_19 0 rfl rfl)
theorem dX3_init_452 : decode cX3_init 452 = .ok (.aload_n 0, 1) := dk_42 (dk_at dksX3_init_19 3 rfl rfl)
theorem dX3_init_453 : decode cX3_init 453 = .ok (.sipush 256, 3) := dk_17 1 0 (dk_at dksX3_init_19 4 rfl rfl)
theorem dX3_init_456 : decode cX3_init 456 = .ok (.newarray .int, 2) := dk_188_10 (dk_at dksX3_init_19 7 rfl rfl)
theorem dX3_init_458 : decode cX3_init 458 = .ok (.putfield 66, 3) := dk_181 0 66 (dk_at dksX3_init_19 9 rfl rfl)
theorem dX3_init_461 : decode cX3_init 461 = .ok (.return_, 1) := dk_177 (dk_at dksX3_init_19 12 rfl rfl)
abbrev cX3_thrown : ByteArray := prog_21_method_2_code
def yX3_thrown : MethodName := ⟨RX3, "thrown", "()I"⟩
theorem dX3_thrown_0 : decode cX3_thrown 0 = .ok (.aload_n 0, 1) := by decide +kernel
theorem dX3_thrown_1 : decode cX3_thrown 1 = .ok (.getfield 69, 3) := by decide +kernel
theorem dX3_thrown_4 : decode cX3_thrown 4 = .ok (.ireturn, 1) := by decide +kernel
abbrev cX3_coach : ByteArray := prog_21_method_19_code
def yX3_coach : MethodName := ⟨RX3, "coach", "(II)I"⟩
def dkwX3_coach_0 : List UInt8 := [42, 182, 0, 109, 42, 42, 27, 28, 182, 0, 112, 182, 0, 115, 172]
abbrev dktX3_coach_0 : List UInt8 := dkwX3_coach_0 ++ []
theorem dksX3_coach_0 : cX3_coach.data.toList.drop 0 = dktX3_coach_0 := by decide +kernel
theorem dX3_coach_0 : decode cX3_coach 0 = .ok (.aload_n 0, 1) := dk_42 (dk_at dksX3_coach_0 0 rfl rfl)
theorem dX3_coach_1 : decode cX3_coach 1 = .ok (.invokevirtual 109, 3) := dk_182 0 109 (dk_at dksX3_coach_0 1 rfl rfl)
theorem dX3_coach_4 : decode cX3_coach 4 = .ok (.aload_n 0, 1) := dk_42 (dk_at dksX3_coach_0 4 rfl rfl)
theorem dX3_coach_5 : decode cX3_coach 5 = .ok (.aload_n 0, 1) := dk_42 (dk_at dksX3_coach_0 5 rfl rfl)
theorem dX3_coach_6 : decode cX3_coach 6 = .ok (.iload_n 1, 1) := dk_27 (dk_at dksX3_coach_0 6 rfl rfl)
theorem dX3_coach_7 : decode cX3_coach 7 = .ok (.iload_n 2, 1) := dk_28 (dk_at dksX3_coach_0 7 rfl rfl)
theorem dX3_coach_8 : decode cX3_coach 8 = .ok (.invokevirtual 112, 3) := dk_182 0 112 (dk_at dksX3_coach_0 8 rfl rfl)
theorem dX3_coach_11 : decode cX3_coach 11 = .ok (.invokevirtual 115, 3) := dk_182 0 115 (dk_at dksX3_coach_0 11 rfl rfl)
theorem dX3_coach_14 : decode cX3_coach 14 = .ok (.ireturn, 1) := dk_172 (dk_at dksX3_coach_0 14 rfl rfl)
abbrev cX3_starts : ByteArray := prog_21_method_6_code
def yX3_starts : MethodName := ⟨RX3, "starts", "()V"⟩
def dkwX3_starts_1 : List UInt8 := [46, 79, 132, 1, 1, 167, 255, 234, 177]
abbrev dktX3_starts_1 : List UInt8 := dkwX3_starts_1 ++ []
def dkwX3_starts_0 : List UInt8 := [42, 3, 181, 0, 69, 3, 60, 27, 17, 1, 156, 162, 0, 21, 42, 180, 0, 13, 27, 42, 180, 0, 9, 27]
abbrev dktX3_starts_0 : List UInt8 := dkwX3_starts_0 ++ dktX3_starts_1
theorem dksX3_starts_0 : cX3_starts.data.toList.drop 0 = dktX3_starts_0 := by decide +kernel
theorem dksX3_starts_1 : cX3_starts.data.toList.drop 24 = dktX3_starts_1 := dk_seg dksX3_starts_0 24 rfl rfl
theorem dX3_starts_0 : decode cX3_starts 0 = .ok (.aload_n 0, 1) := dk_42 (dk_at dksX3_starts_0 0 rfl rfl)
theorem dX3_starts_1 : decode cX3_starts 1 = .ok (.iconst 0, 1) := dk_3 (dk_at dksX3_starts_0 1 rfl rfl)
theorem dX3_starts_2 : decode cX3_starts 2 = .ok (.putfield 69, 3) := dk_181 0 69 (dk_at dksX3_starts_0 2 rfl rfl)
theorem dX3_starts_5 : decode cX3_starts 5 = .ok (.iconst 0, 1) := dk_3 (dk_at dksX3_starts_0 5 rfl rfl)
theorem dX3_starts_6 : decode cX3_starts 6 = .ok (.istore_n 1, 1) := dk_60 (dk_at dksX3_starts_0 6 rfl rfl)
theorem dX3_starts_7 : decode cX3_starts 7 = .ok (.iload_n 1, 1) := dk_27 (dk_at dksX3_starts_0 7 rfl rfl)
theorem dX3_starts_8 : decode cX3_starts 8 = .ok (.sipush 412, 3) := dk_17 1 156 (dk_at dksX3_starts_0 8 rfl rfl)
theorem dX3_starts_11 : decode cX3_starts 11 = .ok (.if_icmp .ge 21, 3) := dk_162 0 21 (dk_at dksX3_starts_0 11 rfl rfl)
theorem dX3_starts_14 : decode cX3_starts 14 = .ok (.aload_n 0, 1) := dk_42 (dk_at dksX3_starts_0 14 rfl rfl)
theorem dX3_starts_15 : decode cX3_starts 15 = .ok (.getfield 13, 3) := dk_180 0 13 (dk_at dksX3_starts_0 15 rfl rfl)
theorem dX3_starts_18 : decode cX3_starts 18 = .ok (.iload_n 1, 1) := dk_27 (dk_at dksX3_starts_0 18 rfl rfl)
theorem dX3_starts_19 : decode cX3_starts 19 = .ok (.aload_n 0, 1) := dk_42 (dk_at dksX3_starts_0 19 rfl rfl)
theorem dX3_starts_20 : decode cX3_starts 20 = .ok (.getfield 9, 3) := dk_180 0 9 (dk_at dksX3_starts_0 20 rfl rfl)
theorem dX3_starts_23 : decode cX3_starts 23 = .ok (.iload_n 1, 1) := dk_27 (dk_at dksX3_starts_0 23 rfl rfl)
theorem dX3_starts_24 : decode cX3_starts 24 = .ok (.iaload, 1) := dk_46 (dk_at dksX3_starts_1 0 rfl rfl)
theorem dX3_starts_25 : decode cX3_starts 25 = .ok (.iastore, 1) := dk_79 (dk_at dksX3_starts_1 1 rfl rfl)
theorem dX3_starts_26 : decode cX3_starts 26 = .ok (.iinc 1 1, 3) := dk_132 1 1 (dk_at dksX3_starts_1 2 rfl rfl)
theorem dX3_starts_29 : decode cX3_starts 29 = .ok (.goto (-22), 3) := dk_167 255 234 (dk_at dksX3_starts_1 5 rfl rfl)
theorem dX3_starts_32 : decode cX3_starts 32 = .ok (.return_, 1) := dk_177 (dk_at dksX3_starts_1 8 rfl rfl)
abbrev cX3_coachIt : ByteArray := prog_21_method_18_code
def yX3_coachIt : MethodName := ⟨RX3, "coachIt", "(II)I"⟩
def dkwX3_coachIt_6 : List UInt8 := [180, 0, 9, 21, 4, 16, 7, 96, 4, 96, 28, 79, 42, 180, 0, 9, 3, 92, 46, 4, 96, 79, 29, 172]
abbrev dktX3_coachIt_6 : List UInt8 := dkwX3_coachIt_6 ++ []
def dkwX3_coachIt_5 : List UInt8 := [21, 5, 96, 3, 79, 132, 5, 1, 167, 255, 235, 42, 180, 0, 9, 21, 4, 3, 96, 27, 79, 42]
abbrev dktX3_coachIt_5 : List UInt8 := dkwX3_coachIt_5 ++ dktX3_coachIt_6
def dkwX3_coachIt_4 : List UInt8 := [79, 29, 3, 184, 0, 98, 54, 4, 3, 54, 5, 21, 5, 16, 9, 162, 0, 20, 42, 180, 0, 9, 21, 4]
abbrev dktX3_coachIt_4 : List UInt8 := dkwX3_coachIt_4 ++ dktX3_coachIt_5
def dkwX3_coachIt_3 : List UInt8 := [62, 42, 180, 0, 9, 7, 5, 29, 104, 96, 4, 79, 42, 180, 0, 9, 7, 5, 29, 104, 96, 4, 96, 3]
abbrev dktX3_coachIt_3 : List UInt8 := dkwX3_coachIt_3 ++ dktX3_coachIt_4
def dkwX3_coachIt_2 : List UInt8 := [180, 0, 9, 3, 46, 16, 6, 160, 0, 11, 42, 5, 16, 6, 182, 0, 106, 172, 42, 180, 0, 9, 3, 46]
abbrev dktX3_coachIt_2 : List UInt8 := dkwX3_coachIt_2 ++ dktX3_coachIt_3
def dkwX3_coachIt_1 : List UInt8 := [42, 4, 27, 133, 9, 20, 0, 102, 184, 0, 88, 153, 0, 7, 28, 167, 0, 4, 27, 182, 0, 106, 172, 42]
abbrev dktX3_coachIt_1 : List UInt8 := dkwX3_coachIt_1 ++ dktX3_coachIt_2
def dkwX3_coachIt_0 : List UInt8 := [27, 133, 9, 20, 0, 102, 184, 0, 88, 153, 0, 15, 28, 133, 9, 20, 0, 104, 184, 0, 88, 154, 0, 26]
abbrev dktX3_coachIt_0 : List UInt8 := dkwX3_coachIt_0 ++ dktX3_coachIt_1
theorem dksX3_coachIt_0 : cX3_coachIt.data.toList.drop 0 = dktX3_coachIt_0 := by decide +kernel
theorem dksX3_coachIt_1 : cX3_coachIt.data.toList.drop 24 = dktX3_coachIt_1 := dk_seg dksX3_coachIt_0 24 rfl rfl
theorem dksX3_coachIt_2 : cX3_coachIt.data.toList.drop 48 = dktX3_coachIt_2 := dk_seg dksX3_coachIt_1 24 rfl rfl
theorem dksX3_coachIt_3 : cX3_coachIt.data.toList.drop 72 = dktX3_coachIt_3 := dk_seg dksX3_coachIt_2 24 rfl rfl
theorem dksX3_coachIt_4 : cX3_coachIt.data.toList.drop 96 = dktX3_coachIt_4 := dk_seg dksX3_coachIt_3 24 rfl rfl
theorem dksX3_coachIt_5 : cX3_coachIt.data.toList.drop 120 = dktX3_coachIt_5 := dk_seg dksX3_coachIt_4 24 rfl rfl
theorem dksX3_coachIt_6 : cX3_coachIt.data.toList.drop 142 = dktX3_coachIt_6 := dk_seg dksX3_coachIt_5 22 rfl rfl
theorem dX3_coachIt_0 : decode cX3_coachIt 0 = .ok (.iload_n 1, 1) := dk_27 (dk_at dksX3_coachIt_0 0 rfl rfl)
theorem dX3_coachIt_1 : decode cX3_coachIt 1 = .ok (.i2l, 1) := dk_133 (dk_at dksX3_coachIt_0 1 rfl rfl)
theorem dX3_coachIt_2 : decode cX3_coachIt 2 = .ok (.lconst 0, 1) := dk_9 (dk_at dksX3_coachIt_0 2 rfl rfl)
theorem dX3_coachIt_3 : decode cX3_coachIt 3 = .ok (.ldc2_w 102, 3) := dk_20 0 102 (dk_at dksX3_coachIt_0 3 rfl rfl)
theorem dX3_coachIt_6 : decode cX3_coachIt 6 = .ok (.invokestatic 88, 3) := dk_184 0 88 (dk_at dksX3_coachIt_0 6 rfl rfl)
theorem dX3_coachIt_9 : decode cX3_coachIt 9 = .ok (.ifCond .eq 15, 3) := dk_153 0 15 (dk_at dksX3_coachIt_0 9 rfl rfl)
theorem dX3_coachIt_12 : decode cX3_coachIt 12 = .ok (.iload_n 2, 1) := dk_28 (dk_at dksX3_coachIt_0 12 rfl rfl)
theorem dX3_coachIt_13 : decode cX3_coachIt 13 = .ok (.i2l, 1) := dk_133 (dk_at dksX3_coachIt_0 13 rfl rfl)
theorem dX3_coachIt_14 : decode cX3_coachIt 14 = .ok (.lconst 0, 1) := dk_9 (dk_at dksX3_coachIt_0 14 rfl rfl)
theorem dX3_coachIt_15 : decode cX3_coachIt 15 = .ok (.ldc2_w 104, 3) := dk_20 0 104 (dk_at dksX3_coachIt_0 15 rfl rfl)
theorem dX3_coachIt_18 : decode cX3_coachIt 18 = .ok (.invokestatic 88, 3) := dk_184 0 88 (dk_at dksX3_coachIt_0 18 rfl rfl)
theorem dX3_coachIt_21 : decode cX3_coachIt 21 = .ok (.ifCond .ne 26, 3) := dk_154 0 26 (dk_at dksX3_coachIt_0 21 rfl rfl)
theorem dX3_coachIt_24 : decode cX3_coachIt 24 = .ok (.aload_n 0, 1) := dk_42 (dk_at dksX3_coachIt_1 0 rfl rfl)
theorem dX3_coachIt_25 : decode cX3_coachIt 25 = .ok (.iconst 1, 1) := dk_4 (dk_at dksX3_coachIt_1 1 rfl rfl)
theorem dX3_coachIt_26 : decode cX3_coachIt 26 = .ok (.iload_n 1, 1) := dk_27 (dk_at dksX3_coachIt_1 2 rfl rfl)
theorem dX3_coachIt_27 : decode cX3_coachIt 27 = .ok (.i2l, 1) := dk_133 (dk_at dksX3_coachIt_1 3 rfl rfl)
theorem dX3_coachIt_28 : decode cX3_coachIt 28 = .ok (.lconst 0, 1) := dk_9 (dk_at dksX3_coachIt_1 4 rfl rfl)
theorem dX3_coachIt_29 : decode cX3_coachIt 29 = .ok (.ldc2_w 102, 3) := dk_20 0 102 (dk_at dksX3_coachIt_1 5 rfl rfl)
theorem dX3_coachIt_32 : decode cX3_coachIt 32 = .ok (.invokestatic 88, 3) := dk_184 0 88 (dk_at dksX3_coachIt_1 8 rfl rfl)
theorem dX3_coachIt_35 : decode cX3_coachIt 35 = .ok (.ifCond .eq 7, 3) := dk_153 0 7 (dk_at dksX3_coachIt_1 11 rfl rfl)
theorem dX3_coachIt_38 : decode cX3_coachIt 38 = .ok (.iload_n 2, 1) := dk_28 (dk_at dksX3_coachIt_1 14 rfl rfl)
theorem dX3_coachIt_39 : decode cX3_coachIt 39 = .ok (.goto 4, 3) := dk_167 0 4 (dk_at dksX3_coachIt_1 15 rfl rfl)
theorem dX3_coachIt_42 : decode cX3_coachIt 42 = .ok (.iload_n 1, 1) := dk_27 (dk_at dksX3_coachIt_1 18 rfl rfl)
theorem dX3_coachIt_43 : decode cX3_coachIt 43 = .ok (.invokevirtual 106, 3) := dk_182 0 106 (dk_at dksX3_coachIt_1 19 rfl rfl)
theorem dX3_coachIt_46 : decode cX3_coachIt 46 = .ok (.ireturn, 1) := dk_172 (dk_at dksX3_coachIt_1 22 rfl rfl)
theorem dX3_coachIt_47 : decode cX3_coachIt 47 = .ok (.aload_n 0, 1) := dk_42 (dk_at dksX3_coachIt_1 23 rfl rfl)
theorem dX3_coachIt_48 : decode cX3_coachIt 48 = .ok (.getfield 9, 3) := dk_180 0 9 (dk_at dksX3_coachIt_2 0 rfl rfl)
theorem dX3_coachIt_51 : decode cX3_coachIt 51 = .ok (.iconst 0, 1) := dk_3 (dk_at dksX3_coachIt_2 3 rfl rfl)
theorem dX3_coachIt_52 : decode cX3_coachIt 52 = .ok (.iaload, 1) := dk_46 (dk_at dksX3_coachIt_2 4 rfl rfl)
theorem dX3_coachIt_53 : decode cX3_coachIt 53 = .ok (.bipush 6, 2) := dk_16 6 (dk_at dksX3_coachIt_2 5 rfl rfl)
theorem dX3_coachIt_55 : decode cX3_coachIt 55 = .ok (.if_icmp .ne 11, 3) := dk_160 0 11 (dk_at dksX3_coachIt_2 7 rfl rfl)
theorem dX3_coachIt_58 : decode cX3_coachIt 58 = .ok (.aload_n 0, 1) := dk_42 (dk_at dksX3_coachIt_2 10 rfl rfl)
theorem dX3_coachIt_59 : decode cX3_coachIt 59 = .ok (.iconst 2, 1) := dk_5 (dk_at dksX3_coachIt_2 11 rfl rfl)
theorem dX3_coachIt_60 : decode cX3_coachIt 60 = .ok (.bipush 6, 2) := dk_16 6 (dk_at dksX3_coachIt_2 12 rfl rfl)
theorem dX3_coachIt_62 : decode cX3_coachIt 62 = .ok (.invokevirtual 106, 3) := dk_182 0 106 (dk_at dksX3_coachIt_2 14 rfl rfl)
theorem dX3_coachIt_65 : decode cX3_coachIt 65 = .ok (.ireturn, 1) := dk_172 (dk_at dksX3_coachIt_2 17 rfl rfl)
theorem dX3_coachIt_66 : decode cX3_coachIt 66 = .ok (.aload_n 0, 1) := dk_42 (dk_at dksX3_coachIt_2 18 rfl rfl)
theorem dX3_coachIt_67 : decode cX3_coachIt 67 = .ok (.getfield 9, 3) := dk_180 0 9 (dk_at dksX3_coachIt_2 19 rfl rfl)
theorem dX3_coachIt_70 : decode cX3_coachIt 70 = .ok (.iconst 0, 1) := dk_3 (dk_at dksX3_coachIt_2 22 rfl rfl)
theorem dX3_coachIt_71 : decode cX3_coachIt 71 = .ok (.iaload, 1) := dk_46 (dk_at dksX3_coachIt_2 23 rfl rfl)
theorem dX3_coachIt_72 : decode cX3_coachIt 72 = .ok (.istore_n 3, 1) := dk_62 (dk_at dksX3_coachIt_3 0 rfl rfl)
theorem dX3_coachIt_73 : decode cX3_coachIt 73 = .ok (.aload_n 0, 1) := dk_42 (dk_at dksX3_coachIt_3 1 rfl rfl)
theorem dX3_coachIt_74 : decode cX3_coachIt 74 = .ok (.getfield 9, 3) := dk_180 0 9 (dk_at dksX3_coachIt_3 2 rfl rfl)
theorem dX3_coachIt_77 : decode cX3_coachIt 77 = .ok (.iconst 4, 1) := dk_7 (dk_at dksX3_coachIt_3 5 rfl rfl)
theorem dX3_coachIt_78 : decode cX3_coachIt 78 = .ok (.iconst 2, 1) := dk_5 (dk_at dksX3_coachIt_3 6 rfl rfl)
theorem dX3_coachIt_79 : decode cX3_coachIt 79 = .ok (.iload_n 3, 1) := dk_29 (dk_at dksX3_coachIt_3 7 rfl rfl)
theorem dX3_coachIt_80 : decode cX3_coachIt 80 = .ok (.imul, 1) := dk_104 (dk_at dksX3_coachIt_3 8 rfl rfl)
theorem dX3_coachIt_81 : decode cX3_coachIt 81 = .ok (.iadd, 1) := dk_96 (dk_at dksX3_coachIt_3 9 rfl rfl)
theorem dX3_coachIt_82 : decode cX3_coachIt 82 = .ok (.iconst 1, 1) := dk_4 (dk_at dksX3_coachIt_3 10 rfl rfl)
theorem dX3_coachIt_83 : decode cX3_coachIt 83 = .ok (.iastore, 1) := dk_79 (dk_at dksX3_coachIt_3 11 rfl rfl)
theorem dX3_coachIt_84 : decode cX3_coachIt 84 = .ok (.aload_n 0, 1) := dk_42 (dk_at dksX3_coachIt_3 12 rfl rfl)
theorem dX3_coachIt_85 : decode cX3_coachIt 85 = .ok (.getfield 9, 3) := dk_180 0 9 (dk_at dksX3_coachIt_3 13 rfl rfl)
theorem dX3_coachIt_88 : decode cX3_coachIt 88 = .ok (.iconst 4, 1) := dk_7 (dk_at dksX3_coachIt_3 16 rfl rfl)
theorem dX3_coachIt_89 : decode cX3_coachIt 89 = .ok (.iconst 2, 1) := dk_5 (dk_at dksX3_coachIt_3 17 rfl rfl)
theorem dX3_coachIt_90 : decode cX3_coachIt 90 = .ok (.iload_n 3, 1) := dk_29 (dk_at dksX3_coachIt_3 18 rfl rfl)
theorem dX3_coachIt_91 : decode cX3_coachIt 91 = .ok (.imul, 1) := dk_104 (dk_at dksX3_coachIt_3 19 rfl rfl)
theorem dX3_coachIt_92 : decode cX3_coachIt 92 = .ok (.iadd, 1) := dk_96 (dk_at dksX3_coachIt_3 20 rfl rfl)
theorem dX3_coachIt_93 : decode cX3_coachIt 93 = .ok (.iconst 1, 1) := dk_4 (dk_at dksX3_coachIt_3 21 rfl rfl)
theorem dX3_coachIt_94 : decode cX3_coachIt 94 = .ok (.iadd, 1) := dk_96 (dk_at dksX3_coachIt_3 22 rfl rfl)
theorem dX3_coachIt_95 : decode cX3_coachIt 95 = .ok (.iconst 0, 1) := dk_3 (dk_at dksX3_coachIt_3 23 rfl rfl)
theorem dX3_coachIt_96 : decode cX3_coachIt 96 = .ok (.iastore, 1) := dk_79 (dk_at dksX3_coachIt_4 0 rfl rfl)
theorem dX3_coachIt_97 : decode cX3_coachIt 97 = .ok (.iload_n 3, 1) := dk_29 (dk_at dksX3_coachIt_4 1 rfl rfl)
theorem dX3_coachIt_98 : decode cX3_coachIt 98 = .ok (.iconst 0, 1) := dk_3 (dk_at dksX3_coachIt_4 2 rfl rfl)
theorem dX3_coachIt_99 : decode cX3_coachIt 99 = .ok (.invokestatic 98, 3) := dk_184 0 98 (dk_at dksX3_coachIt_4 3 rfl rfl)
theorem dX3_coachIt_102 : decode cX3_coachIt 102 = .ok (.istore 4, 2) := dk_54 4 (dk_at dksX3_coachIt_4 6 rfl rfl)
theorem dX3_coachIt_104 : decode cX3_coachIt 104 = .ok (.iconst 0, 1) := dk_3 (dk_at dksX3_coachIt_4 8 rfl rfl)
theorem dX3_coachIt_105 : decode cX3_coachIt 105 = .ok (.istore 5, 2) := dk_54 5 (dk_at dksX3_coachIt_4 9 rfl rfl)
theorem dX3_coachIt_107 : decode cX3_coachIt 107 = .ok (.iload 5, 2) := dk_21 5 (dk_at dksX3_coachIt_4 11 rfl rfl)
theorem dX3_coachIt_109 : decode cX3_coachIt 109 = .ok (.bipush 9, 2) := dk_16 9 (dk_at dksX3_coachIt_4 13 rfl rfl)
theorem dX3_coachIt_111 : decode cX3_coachIt 111 = .ok (.if_icmp .ge 20, 3) := dk_162 0 20 (dk_at dksX3_coachIt_4 15 rfl rfl)
theorem dX3_coachIt_114 : decode cX3_coachIt 114 = .ok (.aload_n 0, 1) := dk_42 (dk_at dksX3_coachIt_4 18 rfl rfl)
theorem dX3_coachIt_115 : decode cX3_coachIt 115 = .ok (.getfield 9, 3) := dk_180 0 9 (dk_at dksX3_coachIt_4 19 rfl rfl)
theorem dX3_coachIt_118 : decode cX3_coachIt 118 = .ok (.iload 4, 2) := dk_21 4 (dk_at dksX3_coachIt_4 22 rfl rfl)
theorem dX3_coachIt_120 : decode cX3_coachIt 120 = .ok (.iload 5, 2) := dk_21 5 (dk_at dksX3_coachIt_5 0 rfl rfl)
theorem dX3_coachIt_122 : decode cX3_coachIt 122 = .ok (.iadd, 1) := dk_96 (dk_at dksX3_coachIt_5 2 rfl rfl)
theorem dX3_coachIt_123 : decode cX3_coachIt 123 = .ok (.iconst 0, 1) := dk_3 (dk_at dksX3_coachIt_5 3 rfl rfl)
theorem dX3_coachIt_124 : decode cX3_coachIt 124 = .ok (.iastore, 1) := dk_79 (dk_at dksX3_coachIt_5 4 rfl rfl)
theorem dX3_coachIt_125 : decode cX3_coachIt 125 = .ok (.iinc 5 1, 3) := dk_132 5 1 (dk_at dksX3_coachIt_5 5 rfl rfl)
theorem dX3_coachIt_128 : decode cX3_coachIt 128 = .ok (.goto (-21), 3) := dk_167 255 235 (dk_at dksX3_coachIt_5 8 rfl rfl)
theorem dX3_coachIt_131 : decode cX3_coachIt 131 = .ok (.aload_n 0, 1) := dk_42 (dk_at dksX3_coachIt_5 11 rfl rfl)
theorem dX3_coachIt_132 : decode cX3_coachIt 132 = .ok (.getfield 9, 3) := dk_180 0 9 (dk_at dksX3_coachIt_5 12 rfl rfl)
theorem dX3_coachIt_135 : decode cX3_coachIt 135 = .ok (.iload 4, 2) := dk_21 4 (dk_at dksX3_coachIt_5 15 rfl rfl)
theorem dX3_coachIt_137 : decode cX3_coachIt 137 = .ok (.iconst 0, 1) := dk_3 (dk_at dksX3_coachIt_5 17 rfl rfl)
theorem dX3_coachIt_138 : decode cX3_coachIt 138 = .ok (.iadd, 1) := dk_96 (dk_at dksX3_coachIt_5 18 rfl rfl)
theorem dX3_coachIt_139 : decode cX3_coachIt 139 = .ok (.iload_n 1, 1) := dk_27 (dk_at dksX3_coachIt_5 19 rfl rfl)
theorem dX3_coachIt_140 : decode cX3_coachIt 140 = .ok (.iastore, 1) := dk_79 (dk_at dksX3_coachIt_5 20 rfl rfl)
theorem dX3_coachIt_141 : decode cX3_coachIt 141 = .ok (.aload_n 0, 1) := dk_42 (dk_at dksX3_coachIt_5 21 rfl rfl)
theorem dX3_coachIt_142 : decode cX3_coachIt 142 = .ok (.getfield 9, 3) := dk_180 0 9 (dk_at dksX3_coachIt_6 0 rfl rfl)
theorem dX3_coachIt_145 : decode cX3_coachIt 145 = .ok (.iload 4, 2) := dk_21 4 (dk_at dksX3_coachIt_6 3 rfl rfl)
theorem dX3_coachIt_147 : decode cX3_coachIt 147 = .ok (.bipush 7, 2) := dk_16 7 (dk_at dksX3_coachIt_6 5 rfl rfl)
theorem dX3_coachIt_149 : decode cX3_coachIt 149 = .ok (.iadd, 1) := dk_96 (dk_at dksX3_coachIt_6 7 rfl rfl)
theorem dX3_coachIt_150 : decode cX3_coachIt 150 = .ok (.iconst 1, 1) := dk_4 (dk_at dksX3_coachIt_6 8 rfl rfl)
theorem dX3_coachIt_151 : decode cX3_coachIt 151 = .ok (.iadd, 1) := dk_96 (dk_at dksX3_coachIt_6 9 rfl rfl)
theorem dX3_coachIt_152 : decode cX3_coachIt 152 = .ok (.iload_n 2, 1) := dk_28 (dk_at dksX3_coachIt_6 10 rfl rfl)
theorem dX3_coachIt_153 : decode cX3_coachIt 153 = .ok (.iastore, 1) := dk_79 (dk_at dksX3_coachIt_6 11 rfl rfl)
theorem dX3_coachIt_154 : decode cX3_coachIt 154 = .ok (.aload_n 0, 1) := dk_42 (dk_at dksX3_coachIt_6 12 rfl rfl)
theorem dX3_coachIt_155 : decode cX3_coachIt 155 = .ok (.getfield 9, 3) := dk_180 0 9 (dk_at dksX3_coachIt_6 13 rfl rfl)
theorem dX3_coachIt_158 : decode cX3_coachIt 158 = .ok (.iconst 0, 1) := dk_3 (dk_at dksX3_coachIt_6 16 rfl rfl)
theorem dX3_coachIt_159 : decode cX3_coachIt 159 = .ok (.dup2, 1) := dk_92 (dk_at dksX3_coachIt_6 17 rfl rfl)
theorem dX3_coachIt_160 : decode cX3_coachIt 160 = .ok (.iaload, 1) := dk_46 (dk_at dksX3_coachIt_6 18 rfl rfl)
theorem dX3_coachIt_161 : decode cX3_coachIt 161 = .ok (.iconst 1, 1) := dk_4 (dk_at dksX3_coachIt_6 19 rfl rfl)
theorem dX3_coachIt_162 : decode cX3_coachIt 162 = .ok (.iadd, 1) := dk_96 (dk_at dksX3_coachIt_6 20 rfl rfl)
theorem dX3_coachIt_163 : decode cX3_coachIt 163 = .ok (.iastore, 1) := dk_79 (dk_at dksX3_coachIt_6 21 rfl rfl)
theorem dX3_coachIt_164 : decode cX3_coachIt 164 = .ok (.iload_n 3, 1) := dk_29 (dk_at dksX3_coachIt_6 22 rfl rfl)
theorem dX3_coachIt_165 : decode cX3_coachIt 165 = .ok (.ireturn, 1) := dk_172 (dk_at dksX3_coachIt_6 23 rfl rfl)
abbrev cX3_in : ByteArray := prog_21_method_4_code
def yX3_in : MethodName := ⟨RX3, "in", "(JJJ)Z"⟩
def dkwX3_in_0 : List UInt8 := [30, 32, 148, 155, 0, 14, 30, 22, 4, 148, 157, 0, 7, 4, 167, 0, 4, 3, 172]
abbrev dktX3_in_0 : List UInt8 := dkwX3_in_0 ++ []
theorem dksX3_in_0 : cX3_in.data.toList.drop 0 = dktX3_in_0 := by decide +kernel
theorem dX3_in_0 : decode cX3_in 0 = .ok (.lload_n 0, 1) := dk_30 (dk_at dksX3_in_0 0 rfl rfl)
theorem dX3_in_1 : decode cX3_in 1 = .ok (.lload_n 2, 1) := dk_32 (dk_at dksX3_in_0 1 rfl rfl)
theorem dX3_in_2 : decode cX3_in 2 = .ok (.lcmp, 1) := dk_148 (dk_at dksX3_in_0 2 rfl rfl)
theorem dX3_in_3 : decode cX3_in 3 = .ok (.ifCond .lt 14, 3) := dk_155 0 14 (dk_at dksX3_in_0 3 rfl rfl)
theorem dX3_in_6 : decode cX3_in 6 = .ok (.lload_n 0, 1) := dk_30 (dk_at dksX3_in_0 6 rfl rfl)
theorem dX3_in_7 : decode cX3_in 7 = .ok (.lload 4, 2) := dk_22 4 (dk_at dksX3_in_0 7 rfl rfl)
theorem dX3_in_9 : decode cX3_in 9 = .ok (.lcmp, 1) := dk_148 (dk_at dksX3_in_0 9 rfl rfl)
theorem dX3_in_10 : decode cX3_in 10 = .ok (.ifCond .gt 7, 3) := dk_157 0 7 (dk_at dksX3_in_0 10 rfl rfl)
theorem dX3_in_13 : decode cX3_in 13 = .ok (.iconst 1, 1) := dk_4 (dk_at dksX3_in_0 13 rfl rfl)
theorem dX3_in_14 : decode cX3_in 14 = .ok (.goto 4, 3) := dk_167 0 4 (dk_at dksX3_in_0 14 rfl rfl)
theorem dX3_in_17 : decode cX3_in 17 = .ok (.iconst 0, 1) := dk_3 (dk_at dksX3_in_0 17 rfl rfl)
theorem dX3_in_18 : decode cX3_in 18 = .ok (.ireturn, 1) := dk_172 (dk_at dksX3_in_0 18 rfl rfl)
abbrev cX3_refuse : ByteArray := prog_21_method_5_code
def yX3_refuse : MethodName := ⟨RX3, "refuse", "(II)I"⟩
def dkwX3_refuse_0 : List UInt8 := [42, 27, 181, 0, 72, 42, 28, 181, 0, 75, 42, 3, 181, 0, 78, 42, 4, 182, 0, 81, 172]
abbrev dktX3_refuse_0 : List UInt8 := dkwX3_refuse_0 ++ []
theorem dksX3_refuse_0 : cX3_refuse.data.toList.drop 0 = dktX3_refuse_0 := by decide +kernel
theorem dX3_refuse_0 : decode cX3_refuse 0 = .ok (.aload_n 0, 1) := dk_42 (dk_at dksX3_refuse_0 0 rfl rfl)
theorem dX3_refuse_1 : decode cX3_refuse 1 = .ok (.iload_n 1, 1) := dk_27 (dk_at dksX3_refuse_0 1 rfl rfl)
theorem dX3_refuse_2 : decode cX3_refuse 2 = .ok (.putfield 72, 3) := dk_181 0 72 (dk_at dksX3_refuse_0 2 rfl rfl)
theorem dX3_refuse_5 : decode cX3_refuse 5 = .ok (.aload_n 0, 1) := dk_42 (dk_at dksX3_refuse_0 5 rfl rfl)
theorem dX3_refuse_6 : decode cX3_refuse 6 = .ok (.iload_n 2, 1) := dk_28 (dk_at dksX3_refuse_0 6 rfl rfl)
theorem dX3_refuse_7 : decode cX3_refuse 7 = .ok (.putfield 75, 3) := dk_181 0 75 (dk_at dksX3_refuse_0 7 rfl rfl)
theorem dX3_refuse_10 : decode cX3_refuse 10 = .ok (.aload_n 0, 1) := dk_42 (dk_at dksX3_refuse_0 10 rfl rfl)
theorem dX3_refuse_11 : decode cX3_refuse 11 = .ok (.iconst 0, 1) := dk_3 (dk_at dksX3_refuse_0 11 rfl rfl)
theorem dX3_refuse_12 : decode cX3_refuse 12 = .ok (.putfield 78, 3) := dk_181 0 78 (dk_at dksX3_refuse_0 12 rfl rfl)
theorem dX3_refuse_15 : decode cX3_refuse 15 = .ok (.aload_n 0, 1) := dk_42 (dk_at dksX3_refuse_0 15 rfl rfl)
theorem dX3_refuse_16 : decode cX3_refuse 16 = .ok (.iconst 1, 1) := dk_4 (dk_at dksX3_refuse_0 16 rfl rfl)
theorem dX3_refuse_17 : decode cX3_refuse 17 = .ok (.invokevirtual 81, 3) := dk_182 0 81 (dk_at dksX3_refuse_0 17 rfl rfl)
theorem dX3_refuse_20 : decode cX3_refuse 20 = .ok (.ireturn, 1) := dk_172 (dk_at dksX3_refuse_0 20 rfl rfl)
abbrev cX3_throwing : ByteArray := prog_21_method_3_code
def yX3_throwing : MethodName := ⟨RX3, "throwing", "(I)I"⟩
def dkwX3_throwing_0 : List UInt8 := [42, 27, 181, 0, 69, 2, 172]
abbrev dktX3_throwing_0 : List UInt8 := dkwX3_throwing_0 ++ []
theorem dksX3_throwing_0 : cX3_throwing.data.toList.drop 0 = dktX3_throwing_0 := by decide +kernel
theorem dX3_throwing_0 : decode cX3_throwing 0 = .ok (.aload_n 0, 1) := dk_42 (dk_at dksX3_throwing_0 0 rfl rfl)
theorem dX3_throwing_1 : decode cX3_throwing 1 = .ok (.iload_n 1, 1) := dk_27 (dk_at dksX3_throwing_0 1 rfl rfl)
theorem dX3_throwing_2 : decode cX3_throwing 2 = .ok (.putfield 69, 3) := dk_181 0 69 (dk_at dksX3_throwing_0 2 rfl rfl)
theorem dX3_throwing_5 : decode cX3_throwing 5 = .ok (.iconst (-1), 1) := dk_2 (dk_at dksX3_throwing_0 5 rfl rfl)
theorem dX3_throwing_6 : decode cX3_throwing 6 = .ok (.ireturn, 1) := dk_172 (dk_at dksX3_throwing_0 6 rfl rfl)
abbrev cX3_ofStop : ByteArray := prog_21_method_12_code
def yX3_ofStop : MethodName := ⟨RX3, "ofStop", "(II)I"⟩
def dkwX3_ofStop_0 : List UInt8 := [16, 16, 16, 9, 16, 6, 26, 104, 27, 96, 104, 96, 172]
abbrev dktX3_ofStop_0 : List UInt8 := dkwX3_ofStop_0 ++ []
theorem dksX3_ofStop_0 : cX3_ofStop.data.toList.drop 0 = dktX3_ofStop_0 := by decide +kernel
theorem dX3_ofStop_0 : decode cX3_ofStop 0 = .ok (.bipush 16, 2) := dk_16 16 (dk_at dksX3_ofStop_0 0 rfl rfl)
theorem dX3_ofStop_2 : decode cX3_ofStop 2 = .ok (.bipush 9, 2) := dk_16 9 (dk_at dksX3_ofStop_0 2 rfl rfl)
theorem dX3_ofStop_4 : decode cX3_ofStop 4 = .ok (.bipush 6, 2) := dk_16 6 (dk_at dksX3_ofStop_0 4 rfl rfl)
theorem dX3_ofStop_6 : decode cX3_ofStop 6 = .ok (.iload_n 0, 1) := dk_26 (dk_at dksX3_ofStop_0 6 rfl rfl)
theorem dX3_ofStop_7 : decode cX3_ofStop 7 = .ok (.imul, 1) := dk_104 (dk_at dksX3_ofStop_0 7 rfl rfl)
theorem dX3_ofStop_8 : decode cX3_ofStop 8 = .ok (.iload_n 1, 1) := dk_27 (dk_at dksX3_ofStop_0 8 rfl rfl)
theorem dX3_ofStop_9 : decode cX3_ofStop 9 = .ok (.iadd, 1) := dk_96 (dk_at dksX3_ofStop_0 9 rfl rfl)
theorem dX3_ofStop_10 : decode cX3_ofStop 10 = .ok (.imul, 1) := dk_104 (dk_at dksX3_ofStop_0 10 rfl rfl)
theorem dX3_ofStop_11 : decode cX3_ofStop 11 = .ok (.iadd, 1) := dk_96 (dk_at dksX3_ofStop_0 11 rfl rfl)
theorem dX3_ofStop_12 : decode cX3_ofStop 12 = .ok (.ireturn, 1) := dk_172 (dk_at dksX3_ofStop_0 12 rfl rfl)
abbrev cX3_changed : ByteArray := prog_21_method_7_code
def yX3_changed : MethodName := ⟨RX3, "changed", "(I)I"⟩
def dkwX3_changed_4 : List UInt8 := [167, 255, 225, 42, 89, 180, 0, 85, 4, 96, 181, 0, 85, 27, 172]
abbrev dktX3_changed_4 : List UInt8 := dkwX3_changed_4 ++ []
def dkwX3_changed_3 : List UInt8 := [180, 0, 19, 17, 1, 156, 42, 180, 0, 85, 104, 28, 96, 42, 180, 0, 13, 28, 46, 79, 132, 2, 1]
abbrev dktX3_changed_3 : List UInt8 := dkwX3_changed_3 ++ dktX3_changed_4
def dkwX3_changed_2 : List UInt8 := [167, 255, 230, 42, 89, 180, 0, 85, 4, 100, 181, 0, 85, 3, 61, 28, 17, 1, 156, 162, 0, 30, 42]
abbrev dktX3_changed_2 : List UInt8 := dkwX3_changed_2 ++ dktX3_changed_3
def dkwX3_changed_1 : List UInt8 := [162, 0, 25, 42, 180, 0, 19, 28, 42, 180, 0, 19, 28, 17, 1, 156, 96, 46, 79, 132, 2, 1]
abbrev dktX3_changed_1 : List UInt8 := dkwX3_changed_1 ++ dktX3_changed_2
def dkwX3_changed_0 : List UInt8 := [42, 180, 0, 69, 158, 0, 5, 27, 172, 42, 180, 0, 85, 16, 8, 160, 0, 44, 3, 61, 28, 17, 11, 68]
abbrev dktX3_changed_0 : List UInt8 := dkwX3_changed_0 ++ dktX3_changed_1
theorem dksX3_changed_0 : cX3_changed.data.toList.drop 0 = dktX3_changed_0 := by decide +kernel
theorem dksX3_changed_1 : cX3_changed.data.toList.drop 24 = dktX3_changed_1 := dk_seg dksX3_changed_0 24 rfl rfl
theorem dksX3_changed_2 : cX3_changed.data.toList.drop 46 = dktX3_changed_2 := dk_seg dksX3_changed_1 22 rfl rfl
theorem dksX3_changed_3 : cX3_changed.data.toList.drop 69 = dktX3_changed_3 := dk_seg dksX3_changed_2 23 rfl rfl
theorem dksX3_changed_4 : cX3_changed.data.toList.drop 92 = dktX3_changed_4 := dk_seg dksX3_changed_3 23 rfl rfl
theorem dX3_changed_0 : decode cX3_changed 0 = .ok (.aload_n 0, 1) := dk_42 (dk_at dksX3_changed_0 0 rfl rfl)
theorem dX3_changed_1 : decode cX3_changed 1 = .ok (.getfield 69, 3) := dk_180 0 69 (dk_at dksX3_changed_0 1 rfl rfl)
theorem dX3_changed_4 : decode cX3_changed 4 = .ok (.ifCond .le 5, 3) := dk_158 0 5 (dk_at dksX3_changed_0 4 rfl rfl)
theorem dX3_changed_7 : decode cX3_changed 7 = .ok (.iload_n 1, 1) := dk_27 (dk_at dksX3_changed_0 7 rfl rfl)
theorem dX3_changed_8 : decode cX3_changed 8 = .ok (.ireturn, 1) := dk_172 (dk_at dksX3_changed_0 8 rfl rfl)
theorem dX3_changed_9 : decode cX3_changed 9 = .ok (.aload_n 0, 1) := dk_42 (dk_at dksX3_changed_0 9 rfl rfl)
theorem dX3_changed_10 : decode cX3_changed 10 = .ok (.getfield 85, 3) := dk_180 0 85 (dk_at dksX3_changed_0 10 rfl rfl)
theorem dX3_changed_13 : decode cX3_changed 13 = .ok (.bipush 8, 2) := dk_16 8 (dk_at dksX3_changed_0 13 rfl rfl)
theorem dX3_changed_15 : decode cX3_changed 15 = .ok (.if_icmp .ne 44, 3) := dk_160 0 44 (dk_at dksX3_changed_0 15 rfl rfl)
theorem dX3_changed_18 : decode cX3_changed 18 = .ok (.iconst 0, 1) := dk_3 (dk_at dksX3_changed_0 18 rfl rfl)
theorem dX3_changed_19 : decode cX3_changed 19 = .ok (.istore_n 2, 1) := dk_61 (dk_at dksX3_changed_0 19 rfl rfl)
theorem dX3_changed_20 : decode cX3_changed 20 = .ok (.iload_n 2, 1) := dk_28 (dk_at dksX3_changed_0 20 rfl rfl)
theorem dX3_changed_21 : decode cX3_changed 21 = .ok (.sipush 2884, 3) := dk_17 11 68 (dk_at dksX3_changed_0 21 rfl rfl)
theorem dX3_changed_24 : decode cX3_changed 24 = .ok (.if_icmp .ge 25, 3) := dk_162 0 25 (dk_at dksX3_changed_1 0 rfl rfl)
theorem dX3_changed_27 : decode cX3_changed 27 = .ok (.aload_n 0, 1) := dk_42 (dk_at dksX3_changed_1 3 rfl rfl)
theorem dX3_changed_28 : decode cX3_changed 28 = .ok (.getfield 19, 3) := dk_180 0 19 (dk_at dksX3_changed_1 4 rfl rfl)
theorem dX3_changed_31 : decode cX3_changed 31 = .ok (.iload_n 2, 1) := dk_28 (dk_at dksX3_changed_1 7 rfl rfl)
theorem dX3_changed_32 : decode cX3_changed 32 = .ok (.aload_n 0, 1) := dk_42 (dk_at dksX3_changed_1 8 rfl rfl)
theorem dX3_changed_33 : decode cX3_changed 33 = .ok (.getfield 19, 3) := dk_180 0 19 (dk_at dksX3_changed_1 9 rfl rfl)
theorem dX3_changed_36 : decode cX3_changed 36 = .ok (.iload_n 2, 1) := dk_28 (dk_at dksX3_changed_1 12 rfl rfl)
theorem dX3_changed_37 : decode cX3_changed 37 = .ok (.sipush 412, 3) := dk_17 1 156 (dk_at dksX3_changed_1 13 rfl rfl)
theorem dX3_changed_40 : decode cX3_changed 40 = .ok (.iadd, 1) := dk_96 (dk_at dksX3_changed_1 16 rfl rfl)
theorem dX3_changed_41 : decode cX3_changed 41 = .ok (.iaload, 1) := dk_46 (dk_at dksX3_changed_1 17 rfl rfl)
theorem dX3_changed_42 : decode cX3_changed 42 = .ok (.iastore, 1) := dk_79 (dk_at dksX3_changed_1 18 rfl rfl)
theorem dX3_changed_43 : decode cX3_changed 43 = .ok (.iinc 2 1, 3) := dk_132 2 1 (dk_at dksX3_changed_1 19 rfl rfl)
theorem dX3_changed_46 : decode cX3_changed 46 = .ok (.goto (-26), 3) := dk_167 255 230 (dk_at dksX3_changed_2 0 rfl rfl)
theorem dX3_changed_49 : decode cX3_changed 49 = .ok (.aload_n 0, 1) := dk_42 (dk_at dksX3_changed_2 3 rfl rfl)
theorem dX3_changed_50 : decode cX3_changed 50 = .ok (.dup, 1) := dk_89 (dk_at dksX3_changed_2 4 rfl rfl)
theorem dX3_changed_51 : decode cX3_changed 51 = .ok (.getfield 85, 3) := dk_180 0 85 (dk_at dksX3_changed_2 5 rfl rfl)
theorem dX3_changed_54 : decode cX3_changed 54 = .ok (.iconst 1, 1) := dk_4 (dk_at dksX3_changed_2 8 rfl rfl)
theorem dX3_changed_55 : decode cX3_changed 55 = .ok (.isub, 1) := dk_100 (dk_at dksX3_changed_2 9 rfl rfl)
theorem dX3_changed_56 : decode cX3_changed 56 = .ok (.putfield 85, 3) := dk_181 0 85 (dk_at dksX3_changed_2 10 rfl rfl)
theorem dX3_changed_59 : decode cX3_changed 59 = .ok (.iconst 0, 1) := dk_3 (dk_at dksX3_changed_2 13 rfl rfl)
theorem dX3_changed_60 : decode cX3_changed 60 = .ok (.istore_n 2, 1) := dk_61 (dk_at dksX3_changed_2 14 rfl rfl)
theorem dX3_changed_61 : decode cX3_changed 61 = .ok (.iload_n 2, 1) := dk_28 (dk_at dksX3_changed_2 15 rfl rfl)
theorem dX3_changed_62 : decode cX3_changed 62 = .ok (.sipush 412, 3) := dk_17 1 156 (dk_at dksX3_changed_2 16 rfl rfl)
theorem dX3_changed_65 : decode cX3_changed 65 = .ok (.if_icmp .ge 30, 3) := dk_162 0 30 (dk_at dksX3_changed_2 19 rfl rfl)
theorem dX3_changed_68 : decode cX3_changed 68 = .ok (.aload_n 0, 1) := dk_42 (dk_at dksX3_changed_2 22 rfl rfl)
theorem dX3_changed_69 : decode cX3_changed 69 = .ok (.getfield 19, 3) := dk_180 0 19 (dk_at dksX3_changed_3 0 rfl rfl)
theorem dX3_changed_72 : decode cX3_changed 72 = .ok (.sipush 412, 3) := dk_17 1 156 (dk_at dksX3_changed_3 3 rfl rfl)
theorem dX3_changed_75 : decode cX3_changed 75 = .ok (.aload_n 0, 1) := dk_42 (dk_at dksX3_changed_3 6 rfl rfl)
theorem dX3_changed_76 : decode cX3_changed 76 = .ok (.getfield 85, 3) := dk_180 0 85 (dk_at dksX3_changed_3 7 rfl rfl)
theorem dX3_changed_79 : decode cX3_changed 79 = .ok (.imul, 1) := dk_104 (dk_at dksX3_changed_3 10 rfl rfl)
theorem dX3_changed_80 : decode cX3_changed 80 = .ok (.iload_n 2, 1) := dk_28 (dk_at dksX3_changed_3 11 rfl rfl)
theorem dX3_changed_81 : decode cX3_changed 81 = .ok (.iadd, 1) := dk_96 (dk_at dksX3_changed_3 12 rfl rfl)
theorem dX3_changed_82 : decode cX3_changed 82 = .ok (.aload_n 0, 1) := dk_42 (dk_at dksX3_changed_3 13 rfl rfl)
theorem dX3_changed_83 : decode cX3_changed 83 = .ok (.getfield 13, 3) := dk_180 0 13 (dk_at dksX3_changed_3 14 rfl rfl)
theorem dX3_changed_86 : decode cX3_changed 86 = .ok (.iload_n 2, 1) := dk_28 (dk_at dksX3_changed_3 17 rfl rfl)
theorem dX3_changed_87 : decode cX3_changed 87 = .ok (.iaload, 1) := dk_46 (dk_at dksX3_changed_3 18 rfl rfl)
theorem dX3_changed_88 : decode cX3_changed 88 = .ok (.iastore, 1) := dk_79 (dk_at dksX3_changed_3 19 rfl rfl)
theorem dX3_changed_89 : decode cX3_changed 89 = .ok (.iinc 2 1, 3) := dk_132 2 1 (dk_at dksX3_changed_3 20 rfl rfl)
theorem dX3_changed_92 : decode cX3_changed 92 = .ok (.goto (-31), 3) := dk_167 255 225 (dk_at dksX3_changed_4 0 rfl rfl)
theorem dX3_changed_95 : decode cX3_changed 95 = .ok (.aload_n 0, 1) := dk_42 (dk_at dksX3_changed_4 3 rfl rfl)
theorem dX3_changed_96 : decode cX3_changed 96 = .ok (.dup, 1) := dk_89 (dk_at dksX3_changed_4 4 rfl rfl)
theorem dX3_changed_97 : decode cX3_changed 97 = .ok (.getfield 85, 3) := dk_180 0 85 (dk_at dksX3_changed_4 5 rfl rfl)
theorem dX3_changed_100 : decode cX3_changed 100 = .ok (.iconst 1, 1) := dk_4 (dk_at dksX3_changed_4 8 rfl rfl)
theorem dX3_changed_101 : decode cX3_changed 101 = .ok (.iadd, 1) := dk_96 (dk_at dksX3_changed_4 9 rfl rfl)
theorem dX3_changed_102 : decode cX3_changed 102 = .ok (.putfield 85, 3) := dk_181 0 85 (dk_at dksX3_changed_4 10 rfl rfl)
theorem dX3_changed_105 : decode cX3_changed 105 = .ok (.iload_n 1, 1) := dk_27 (dk_at dksX3_changed_4 13 rfl rfl)
theorem dX3_changed_106 : decode cX3_changed 106 = .ok (.ireturn, 1) := dk_172 (dk_at dksX3_changed_4 14 rfl rfl)
abbrev cX3_leg : ByteArray := prog_21_method_21_code
def yX3_leg : MethodName := ⟨RX3, "leg", "(IIIIII)I"⟩
def dkwX3_leg_2 : List UInt8 := [182, 0, 126, 182, 0, 115, 172]
abbrev dktX3_leg_2 : List UInt8 := dkwX3_leg_2 ++ []
def dkwX3_leg_1 : List UInt8 := [21, 4, 79, 42, 180, 0, 29, 6, 21, 5, 79, 42, 180, 0, 29, 7, 21, 6, 79, 42, 42, 27]
abbrev dktX3_leg_1 : List UInt8 := dkwX3_leg_1 ++ dktX3_leg_2
def dkwX3_leg_0 : List UInt8 := [42, 182, 0, 109, 42, 180, 0, 29, 3, 28, 79, 42, 180, 0, 29, 4, 29, 79, 42, 180, 0, 29, 5]
abbrev dktX3_leg_0 : List UInt8 := dkwX3_leg_0 ++ dktX3_leg_1
theorem dksX3_leg_0 : cX3_leg.data.toList.drop 0 = dktX3_leg_0 := by decide +kernel
theorem dksX3_leg_1 : cX3_leg.data.toList.drop 23 = dktX3_leg_1 := dk_seg dksX3_leg_0 23 rfl rfl
theorem dksX3_leg_2 : cX3_leg.data.toList.drop 45 = dktX3_leg_2 := dk_seg dksX3_leg_1 22 rfl rfl
theorem dX3_leg_0 : decode cX3_leg 0 = .ok (.aload_n 0, 1) := dk_42 (dk_at dksX3_leg_0 0 rfl rfl)
theorem dX3_leg_1 : decode cX3_leg 1 = .ok (.invokevirtual 109, 3) := dk_182 0 109 (dk_at dksX3_leg_0 1 rfl rfl)
theorem dX3_leg_4 : decode cX3_leg 4 = .ok (.aload_n 0, 1) := dk_42 (dk_at dksX3_leg_0 4 rfl rfl)
theorem dX3_leg_5 : decode cX3_leg 5 = .ok (.getfield 29, 3) := dk_180 0 29 (dk_at dksX3_leg_0 5 rfl rfl)
theorem dX3_leg_8 : decode cX3_leg 8 = .ok (.iconst 0, 1) := dk_3 (dk_at dksX3_leg_0 8 rfl rfl)
theorem dX3_leg_9 : decode cX3_leg 9 = .ok (.iload_n 2, 1) := dk_28 (dk_at dksX3_leg_0 9 rfl rfl)
theorem dX3_leg_10 : decode cX3_leg 10 = .ok (.iastore, 1) := dk_79 (dk_at dksX3_leg_0 10 rfl rfl)
theorem dX3_leg_11 : decode cX3_leg 11 = .ok (.aload_n 0, 1) := dk_42 (dk_at dksX3_leg_0 11 rfl rfl)
theorem dX3_leg_12 : decode cX3_leg 12 = .ok (.getfield 29, 3) := dk_180 0 29 (dk_at dksX3_leg_0 12 rfl rfl)
theorem dX3_leg_15 : decode cX3_leg 15 = .ok (.iconst 1, 1) := dk_4 (dk_at dksX3_leg_0 15 rfl rfl)
theorem dX3_leg_16 : decode cX3_leg 16 = .ok (.iload_n 3, 1) := dk_29 (dk_at dksX3_leg_0 16 rfl rfl)
theorem dX3_leg_17 : decode cX3_leg 17 = .ok (.iastore, 1) := dk_79 (dk_at dksX3_leg_0 17 rfl rfl)
theorem dX3_leg_18 : decode cX3_leg 18 = .ok (.aload_n 0, 1) := dk_42 (dk_at dksX3_leg_0 18 rfl rfl)
theorem dX3_leg_19 : decode cX3_leg 19 = .ok (.getfield 29, 3) := dk_180 0 29 (dk_at dksX3_leg_0 19 rfl rfl)
theorem dX3_leg_22 : decode cX3_leg 22 = .ok (.iconst 2, 1) := dk_5 (dk_at dksX3_leg_0 22 rfl rfl)
theorem dX3_leg_23 : decode cX3_leg 23 = .ok (.iload 4, 2) := dk_21 4 (dk_at dksX3_leg_1 0 rfl rfl)
theorem dX3_leg_25 : decode cX3_leg 25 = .ok (.iastore, 1) := dk_79 (dk_at dksX3_leg_1 2 rfl rfl)
theorem dX3_leg_26 : decode cX3_leg 26 = .ok (.aload_n 0, 1) := dk_42 (dk_at dksX3_leg_1 3 rfl rfl)
theorem dX3_leg_27 : decode cX3_leg 27 = .ok (.getfield 29, 3) := dk_180 0 29 (dk_at dksX3_leg_1 4 rfl rfl)
theorem dX3_leg_30 : decode cX3_leg 30 = .ok (.iconst 3, 1) := dk_6 (dk_at dksX3_leg_1 7 rfl rfl)
theorem dX3_leg_31 : decode cX3_leg 31 = .ok (.iload 5, 2) := dk_21 5 (dk_at dksX3_leg_1 8 rfl rfl)
theorem dX3_leg_33 : decode cX3_leg 33 = .ok (.iastore, 1) := dk_79 (dk_at dksX3_leg_1 10 rfl rfl)
theorem dX3_leg_34 : decode cX3_leg 34 = .ok (.aload_n 0, 1) := dk_42 (dk_at dksX3_leg_1 11 rfl rfl)
theorem dX3_leg_35 : decode cX3_leg 35 = .ok (.getfield 29, 3) := dk_180 0 29 (dk_at dksX3_leg_1 12 rfl rfl)
theorem dX3_leg_38 : decode cX3_leg 38 = .ok (.iconst 4, 1) := dk_7 (dk_at dksX3_leg_1 15 rfl rfl)
theorem dX3_leg_39 : decode cX3_leg 39 = .ok (.iload 6, 2) := dk_21 6 (dk_at dksX3_leg_1 16 rfl rfl)
theorem dX3_leg_41 : decode cX3_leg 41 = .ok (.iastore, 1) := dk_79 (dk_at dksX3_leg_1 18 rfl rfl)
theorem dX3_leg_42 : decode cX3_leg 42 = .ok (.aload_n 0, 1) := dk_42 (dk_at dksX3_leg_1 19 rfl rfl)
theorem dX3_leg_43 : decode cX3_leg 43 = .ok (.aload_n 0, 1) := dk_42 (dk_at dksX3_leg_1 20 rfl rfl)
theorem dX3_leg_44 : decode cX3_leg 44 = .ok (.iload_n 1, 1) := dk_27 (dk_at dksX3_leg_1 21 rfl rfl)
theorem dX3_leg_45 : decode cX3_leg 45 = .ok (.invokevirtual 126, 3) := dk_182 0 126 (dk_at dksX3_leg_2 0 rfl rfl)
theorem dX3_leg_48 : decode cX3_leg 48 = .ok (.invokevirtual 115, 3) := dk_182 0 115 (dk_at dksX3_leg_2 3 rfl rfl)
theorem dX3_leg_51 : decode cX3_leg 51 = .ok (.ireturn, 1) := dk_172 (dk_at dksX3_leg_2 6 rfl rfl)
abbrev cX3_legIt : ByteArray := prog_21_method_20_code
def yX3_legIt : MethodName := ⟨RX3, "legIt", "(I)I"⟩
def dkwX3_legIt_11 : List UInt8 := [42, 180, 0, 9, 29, 16, 7, 96, 46, 172]
abbrev dktX3_legIt_11 : List UInt8 := dkwX3_legIt_11 ++ []
def dkwX3_legIt_10 : List UInt8 := [96, 46, 42, 180, 0, 29, 6, 46, 96, 79, 42, 180, 0, 9, 7, 5, 27, 104, 96, 92, 46, 4, 96, 79]
abbrev dktX3_legIt_10 : List UInt8 := dkwX3_legIt_10 ++ dktX3_legIt_11
def dkwX3_legIt_9 : List UInt8 := [180, 0, 29, 5, 46, 96, 79, 42, 180, 0, 9, 29, 16, 7, 96, 4, 96, 42, 180, 0, 9, 29, 16, 7]
abbrev dktX3_legIt_9 : List UInt8 := dkwX3_legIt_9 ++ dktX3_legIt_10
def dkwX3_legIt_8 : List UInt8 := [180, 0, 9, 29, 16, 7, 96, 42, 27, 28, 4, 100, 4, 182, 0, 122, 42, 180, 0, 29, 4, 46, 96, 42]
abbrev dktX3_legIt_8 : List UInt8 := dkwX3_legIt_8 ++ dktX3_legIt_9
def dkwX3_legIt_7 : List UInt8 := [167, 255, 231, 42, 180, 0, 9, 29, 8, 96, 3, 79, 42, 180, 0, 9, 29, 8, 96, 4, 96, 3, 79, 42]
abbrev dktX3_legIt_7 : List UInt8 := dkwX3_legIt_7 ++ dktX3_legIt_8
def dkwX3_legIt_6 : List UInt8 := [162, 0, 25, 42, 180, 0, 9, 29, 21, 4, 96, 42, 180, 0, 29, 21, 4, 46, 79, 132, 4, 1]
abbrev dktX3_legIt_6 : List UInt8 := dkwX3_legIt_6 ++ dktX3_legIt_7
def dkwX3_legIt_5 : List UInt8 := [16, 6, 182, 0, 106, 172, 42, 27, 182, 0, 95, 61, 27, 28, 184, 0, 98, 62, 3, 54, 4, 21, 4, 8]
abbrev dktX3_legIt_5 : List UInt8 := dkwX3_legIt_5 ++ dktX3_legIt_6
def dkwX3_legIt_4 : List UInt8 := [159, 0, 11, 42, 16, 9, 27, 182, 0, 106, 172, 42, 27, 182, 0, 95, 16, 6, 160, 0, 11, 42, 5]
abbrev dktX3_legIt_4 : List UInt8 := dkwX3_legIt_4 ++ dktX3_legIt_5
def dkwX3_legIt_3 : List UInt8 := [4, 42, 180, 0, 29, 28, 46, 182, 0, 106, 172, 132, 2, 1, 167, 255, 189, 42, 27, 182, 0, 92, 2]
abbrev dktX3_legIt_3 : List UInt8 := dkwX3_legIt_3 ++ dktX3_legIt_4
def dkwX3_legIt_2 : List UInt8 := [153, 0, 23, 28, 7, 160, 0, 30, 42, 180, 0, 29, 28, 46, 42, 180, 0, 29, 6, 46, 164, 0, 15, 42]
abbrev dktX3_legIt_2 : List UInt8 := dkwX3_legIt_2 ++ dktX3_legIt_3
def dkwX3_legIt_1 : List UInt8 := [180, 0, 29, 28, 46, 133, 42, 180, 0, 32, 28, 46, 133, 42, 180, 0, 35, 28, 46, 133, 184, 0, 88]
abbrev dktX3_legIt_1 : List UInt8 := dkwX3_legIt_1 ++ dktX3_legIt_2
def dkwX3_legIt_0 : List UInt8 := [42, 27, 182, 0, 118, 154, 0, 10, 42, 6, 27, 182, 0, 106, 172, 3, 61, 28, 8, 162, 0, 68, 42]
abbrev dktX3_legIt_0 : List UInt8 := dkwX3_legIt_0 ++ dktX3_legIt_1
theorem dksX3_legIt_0 : cX3_legIt.data.toList.drop 0 = dktX3_legIt_0 := by decide +kernel
theorem dksX3_legIt_1 : cX3_legIt.data.toList.drop 23 = dktX3_legIt_1 := dk_seg dksX3_legIt_0 23 rfl rfl
theorem dksX3_legIt_2 : cX3_legIt.data.toList.drop 46 = dktX3_legIt_2 := dk_seg dksX3_legIt_1 23 rfl rfl
theorem dksX3_legIt_3 : cX3_legIt.data.toList.drop 70 = dktX3_legIt_3 := dk_seg dksX3_legIt_2 24 rfl rfl
theorem dksX3_legIt_4 : cX3_legIt.data.toList.drop 93 = dktX3_legIt_4 := dk_seg dksX3_legIt_3 23 rfl rfl
theorem dksX3_legIt_5 : cX3_legIt.data.toList.drop 116 = dktX3_legIt_5 := dk_seg dksX3_legIt_4 23 rfl rfl
theorem dksX3_legIt_6 : cX3_legIt.data.toList.drop 140 = dktX3_legIt_6 := dk_seg dksX3_legIt_5 24 rfl rfl
theorem dksX3_legIt_7 : cX3_legIt.data.toList.drop 162 = dktX3_legIt_7 := dk_seg dksX3_legIt_6 22 rfl rfl
theorem dksX3_legIt_8 : cX3_legIt.data.toList.drop 186 = dktX3_legIt_8 := dk_seg dksX3_legIt_7 24 rfl rfl
theorem dksX3_legIt_9 : cX3_legIt.data.toList.drop 210 = dktX3_legIt_9 := dk_seg dksX3_legIt_8 24 rfl rfl
theorem dksX3_legIt_10 : cX3_legIt.data.toList.drop 234 = dktX3_legIt_10 := dk_seg dksX3_legIt_9 24 rfl rfl
theorem dksX3_legIt_11 : cX3_legIt.data.toList.drop 258 = dktX3_legIt_11 := dk_seg dksX3_legIt_10 24 rfl rfl
theorem dX3_legIt_0 : decode cX3_legIt 0 = .ok (.aload_n 0, 1) := dk_42 (dk_at dksX3_legIt_0 0 rfl rfl)
theorem dX3_legIt_1 : decode cX3_legIt 1 = .ok (.iload_n 1, 1) := dk_27 (dk_at dksX3_legIt_0 1 rfl rfl)
theorem dX3_legIt_2 : decode cX3_legIt 2 = .ok (.invokevirtual 118, 3) := dk_182 0 118 (dk_at dksX3_legIt_0 2 rfl rfl)
theorem dX3_legIt_5 : decode cX3_legIt 5 = .ok (.ifCond .ne 10, 3) := dk_154 0 10 (dk_at dksX3_legIt_0 5 rfl rfl)
theorem dX3_legIt_8 : decode cX3_legIt 8 = .ok (.aload_n 0, 1) := dk_42 (dk_at dksX3_legIt_0 8 rfl rfl)
theorem dX3_legIt_9 : decode cX3_legIt 9 = .ok (.iconst 3, 1) := dk_6 (dk_at dksX3_legIt_0 9 rfl rfl)
theorem dX3_legIt_10 : decode cX3_legIt 10 = .ok (.iload_n 1, 1) := dk_27 (dk_at dksX3_legIt_0 10 rfl rfl)
theorem dX3_legIt_11 : decode cX3_legIt 11 = .ok (.invokevirtual 106, 3) := dk_182 0 106 (dk_at dksX3_legIt_0 11 rfl rfl)
theorem dX3_legIt_14 : decode cX3_legIt 14 = .ok (.ireturn, 1) := dk_172 (dk_at dksX3_legIt_0 14 rfl rfl)
theorem dX3_legIt_15 : decode cX3_legIt 15 = .ok (.iconst 0, 1) := dk_3 (dk_at dksX3_legIt_0 15 rfl rfl)
theorem dX3_legIt_16 : decode cX3_legIt 16 = .ok (.istore_n 2, 1) := dk_61 (dk_at dksX3_legIt_0 16 rfl rfl)
theorem dX3_legIt_17 : decode cX3_legIt 17 = .ok (.iload_n 2, 1) := dk_28 (dk_at dksX3_legIt_0 17 rfl rfl)
theorem dX3_legIt_18 : decode cX3_legIt 18 = .ok (.iconst 5, 1) := dk_8 (dk_at dksX3_legIt_0 18 rfl rfl)
theorem dX3_legIt_19 : decode cX3_legIt 19 = .ok (.if_icmp .ge 68, 3) := dk_162 0 68 (dk_at dksX3_legIt_0 19 rfl rfl)
theorem dX3_legIt_22 : decode cX3_legIt 22 = .ok (.aload_n 0, 1) := dk_42 (dk_at dksX3_legIt_0 22 rfl rfl)
theorem dX3_legIt_23 : decode cX3_legIt 23 = .ok (.getfield 29, 3) := dk_180 0 29 (dk_at dksX3_legIt_1 0 rfl rfl)
theorem dX3_legIt_26 : decode cX3_legIt 26 = .ok (.iload_n 2, 1) := dk_28 (dk_at dksX3_legIt_1 3 rfl rfl)
theorem dX3_legIt_27 : decode cX3_legIt 27 = .ok (.iaload, 1) := dk_46 (dk_at dksX3_legIt_1 4 rfl rfl)
theorem dX3_legIt_28 : decode cX3_legIt 28 = .ok (.i2l, 1) := dk_133 (dk_at dksX3_legIt_1 5 rfl rfl)
theorem dX3_legIt_29 : decode cX3_legIt 29 = .ok (.aload_n 0, 1) := dk_42 (dk_at dksX3_legIt_1 6 rfl rfl)
theorem dX3_legIt_30 : decode cX3_legIt 30 = .ok (.getfield 32, 3) := dk_180 0 32 (dk_at dksX3_legIt_1 7 rfl rfl)
theorem dX3_legIt_33 : decode cX3_legIt 33 = .ok (.iload_n 2, 1) := dk_28 (dk_at dksX3_legIt_1 10 rfl rfl)
theorem dX3_legIt_34 : decode cX3_legIt 34 = .ok (.iaload, 1) := dk_46 (dk_at dksX3_legIt_1 11 rfl rfl)
theorem dX3_legIt_35 : decode cX3_legIt 35 = .ok (.i2l, 1) := dk_133 (dk_at dksX3_legIt_1 12 rfl rfl)
theorem dX3_legIt_36 : decode cX3_legIt 36 = .ok (.aload_n 0, 1) := dk_42 (dk_at dksX3_legIt_1 13 rfl rfl)
theorem dX3_legIt_37 : decode cX3_legIt 37 = .ok (.getfield 35, 3) := dk_180 0 35 (dk_at dksX3_legIt_1 14 rfl rfl)
theorem dX3_legIt_40 : decode cX3_legIt 40 = .ok (.iload_n 2, 1) := dk_28 (dk_at dksX3_legIt_1 17 rfl rfl)
theorem dX3_legIt_41 : decode cX3_legIt 41 = .ok (.iaload, 1) := dk_46 (dk_at dksX3_legIt_1 18 rfl rfl)
theorem dX3_legIt_42 : decode cX3_legIt 42 = .ok (.i2l, 1) := dk_133 (dk_at dksX3_legIt_1 19 rfl rfl)
theorem dX3_legIt_43 : decode cX3_legIt 43 = .ok (.invokestatic 88, 3) := dk_184 0 88 (dk_at dksX3_legIt_1 20 rfl rfl)
theorem dX3_legIt_46 : decode cX3_legIt 46 = .ok (.ifCond .eq 23, 3) := dk_153 0 23 (dk_at dksX3_legIt_2 0 rfl rfl)
theorem dX3_legIt_49 : decode cX3_legIt 49 = .ok (.iload_n 2, 1) := dk_28 (dk_at dksX3_legIt_2 3 rfl rfl)
theorem dX3_legIt_50 : decode cX3_legIt 50 = .ok (.iconst 4, 1) := dk_7 (dk_at dksX3_legIt_2 4 rfl rfl)
theorem dX3_legIt_51 : decode cX3_legIt 51 = .ok (.if_icmp .ne 30, 3) := dk_160 0 30 (dk_at dksX3_legIt_2 5 rfl rfl)
theorem dX3_legIt_54 : decode cX3_legIt 54 = .ok (.aload_n 0, 1) := dk_42 (dk_at dksX3_legIt_2 8 rfl rfl)
theorem dX3_legIt_55 : decode cX3_legIt 55 = .ok (.getfield 29, 3) := dk_180 0 29 (dk_at dksX3_legIt_2 9 rfl rfl)
theorem dX3_legIt_58 : decode cX3_legIt 58 = .ok (.iload_n 2, 1) := dk_28 (dk_at dksX3_legIt_2 12 rfl rfl)
theorem dX3_legIt_59 : decode cX3_legIt 59 = .ok (.iaload, 1) := dk_46 (dk_at dksX3_legIt_2 13 rfl rfl)
theorem dX3_legIt_60 : decode cX3_legIt 60 = .ok (.aload_n 0, 1) := dk_42 (dk_at dksX3_legIt_2 14 rfl rfl)
theorem dX3_legIt_61 : decode cX3_legIt 61 = .ok (.getfield 29, 3) := dk_180 0 29 (dk_at dksX3_legIt_2 15 rfl rfl)
theorem dX3_legIt_64 : decode cX3_legIt 64 = .ok (.iconst 3, 1) := dk_6 (dk_at dksX3_legIt_2 18 rfl rfl)
theorem dX3_legIt_65 : decode cX3_legIt 65 = .ok (.iaload, 1) := dk_46 (dk_at dksX3_legIt_2 19 rfl rfl)
theorem dX3_legIt_66 : decode cX3_legIt 66 = .ok (.if_icmp .le 15, 3) := dk_164 0 15 (dk_at dksX3_legIt_2 20 rfl rfl)
theorem dX3_legIt_69 : decode cX3_legIt 69 = .ok (.aload_n 0, 1) := dk_42 (dk_at dksX3_legIt_2 23 rfl rfl)
theorem dX3_legIt_70 : decode cX3_legIt 70 = .ok (.iconst 1, 1) := dk_4 (dk_at dksX3_legIt_3 0 rfl rfl)
theorem dX3_legIt_71 : decode cX3_legIt 71 = .ok (.aload_n 0, 1) := dk_42 (dk_at dksX3_legIt_3 1 rfl rfl)
theorem dX3_legIt_72 : decode cX3_legIt 72 = .ok (.getfield 29, 3) := dk_180 0 29 (dk_at dksX3_legIt_3 2 rfl rfl)
theorem dX3_legIt_75 : decode cX3_legIt 75 = .ok (.iload_n 2, 1) := dk_28 (dk_at dksX3_legIt_3 5 rfl rfl)
theorem dX3_legIt_76 : decode cX3_legIt 76 = .ok (.iaload, 1) := dk_46 (dk_at dksX3_legIt_3 6 rfl rfl)
theorem dX3_legIt_77 : decode cX3_legIt 77 = .ok (.invokevirtual 106, 3) := dk_182 0 106 (dk_at dksX3_legIt_3 7 rfl rfl)
theorem dX3_legIt_80 : decode cX3_legIt 80 = .ok (.ireturn, 1) := dk_172 (dk_at dksX3_legIt_3 10 rfl rfl)
theorem dX3_legIt_81 : decode cX3_legIt 81 = .ok (.iinc 2 1, 3) := dk_132 2 1 (dk_at dksX3_legIt_3 11 rfl rfl)
theorem dX3_legIt_84 : decode cX3_legIt 84 = .ok (.goto (-67), 3) := dk_167 255 189 (dk_at dksX3_legIt_3 14 rfl rfl)
theorem dX3_legIt_87 : decode cX3_legIt 87 = .ok (.aload_n 0, 1) := dk_42 (dk_at dksX3_legIt_3 17 rfl rfl)
theorem dX3_legIt_88 : decode cX3_legIt 88 = .ok (.iload_n 1, 1) := dk_27 (dk_at dksX3_legIt_3 18 rfl rfl)
theorem dX3_legIt_89 : decode cX3_legIt 89 = .ok (.invokevirtual 92, 3) := dk_182 0 92 (dk_at dksX3_legIt_3 19 rfl rfl)
theorem dX3_legIt_92 : decode cX3_legIt 92 = .ok (.iconst (-1), 1) := dk_2 (dk_at dksX3_legIt_3 22 rfl rfl)
theorem dX3_legIt_93 : decode cX3_legIt 93 = .ok (.if_icmp .eq 11, 3) := dk_159 0 11 (dk_at dksX3_legIt_4 0 rfl rfl)
theorem dX3_legIt_96 : decode cX3_legIt 96 = .ok (.aload_n 0, 1) := dk_42 (dk_at dksX3_legIt_4 3 rfl rfl)
theorem dX3_legIt_97 : decode cX3_legIt 97 = .ok (.bipush 9, 2) := dk_16 9 (dk_at dksX3_legIt_4 4 rfl rfl)
theorem dX3_legIt_99 : decode cX3_legIt 99 = .ok (.iload_n 1, 1) := dk_27 (dk_at dksX3_legIt_4 6 rfl rfl)
theorem dX3_legIt_100 : decode cX3_legIt 100 = .ok (.invokevirtual 106, 3) := dk_182 0 106 (dk_at dksX3_legIt_4 7 rfl rfl)
theorem dX3_legIt_103 : decode cX3_legIt 103 = .ok (.ireturn, 1) := dk_172 (dk_at dksX3_legIt_4 10 rfl rfl)
theorem dX3_legIt_104 : decode cX3_legIt 104 = .ok (.aload_n 0, 1) := dk_42 (dk_at dksX3_legIt_4 11 rfl rfl)
theorem dX3_legIt_105 : decode cX3_legIt 105 = .ok (.iload_n 1, 1) := dk_27 (dk_at dksX3_legIt_4 12 rfl rfl)
theorem dX3_legIt_106 : decode cX3_legIt 106 = .ok (.invokevirtual 95, 3) := dk_182 0 95 (dk_at dksX3_legIt_4 13 rfl rfl)
theorem dX3_legIt_109 : decode cX3_legIt 109 = .ok (.bipush 6, 2) := dk_16 6 (dk_at dksX3_legIt_4 16 rfl rfl)
theorem dX3_legIt_111 : decode cX3_legIt 111 = .ok (.if_icmp .ne 11, 3) := dk_160 0 11 (dk_at dksX3_legIt_4 18 rfl rfl)
theorem dX3_legIt_114 : decode cX3_legIt 114 = .ok (.aload_n 0, 1) := dk_42 (dk_at dksX3_legIt_4 21 rfl rfl)
theorem dX3_legIt_115 : decode cX3_legIt 115 = .ok (.iconst 2, 1) := dk_5 (dk_at dksX3_legIt_4 22 rfl rfl)
theorem dX3_legIt_116 : decode cX3_legIt 116 = .ok (.bipush 6, 2) := dk_16 6 (dk_at dksX3_legIt_5 0 rfl rfl)
theorem dX3_legIt_118 : decode cX3_legIt 118 = .ok (.invokevirtual 106, 3) := dk_182 0 106 (dk_at dksX3_legIt_5 2 rfl rfl)
theorem dX3_legIt_121 : decode cX3_legIt 121 = .ok (.ireturn, 1) := dk_172 (dk_at dksX3_legIt_5 5 rfl rfl)
theorem dX3_legIt_122 : decode cX3_legIt 122 = .ok (.aload_n 0, 1) := dk_42 (dk_at dksX3_legIt_5 6 rfl rfl)
theorem dX3_legIt_123 : decode cX3_legIt 123 = .ok (.iload_n 1, 1) := dk_27 (dk_at dksX3_legIt_5 7 rfl rfl)
theorem dX3_legIt_124 : decode cX3_legIt 124 = .ok (.invokevirtual 95, 3) := dk_182 0 95 (dk_at dksX3_legIt_5 8 rfl rfl)
theorem dX3_legIt_127 : decode cX3_legIt 127 = .ok (.istore_n 2, 1) := dk_61 (dk_at dksX3_legIt_5 11 rfl rfl)
theorem dX3_legIt_128 : decode cX3_legIt 128 = .ok (.iload_n 1, 1) := dk_27 (dk_at dksX3_legIt_5 12 rfl rfl)
theorem dX3_legIt_129 : decode cX3_legIt 129 = .ok (.iload_n 2, 1) := dk_28 (dk_at dksX3_legIt_5 13 rfl rfl)
theorem dX3_legIt_130 : decode cX3_legIt 130 = .ok (.invokestatic 98, 3) := dk_184 0 98 (dk_at dksX3_legIt_5 14 rfl rfl)
theorem dX3_legIt_133 : decode cX3_legIt 133 = .ok (.istore_n 3, 1) := dk_62 (dk_at dksX3_legIt_5 17 rfl rfl)
theorem dX3_legIt_134 : decode cX3_legIt 134 = .ok (.iconst 0, 1) := dk_3 (dk_at dksX3_legIt_5 18 rfl rfl)
theorem dX3_legIt_135 : decode cX3_legIt 135 = .ok (.istore 4, 2) := dk_54 4 (dk_at dksX3_legIt_5 19 rfl rfl)
theorem dX3_legIt_137 : decode cX3_legIt 137 = .ok (.iload 4, 2) := dk_21 4 (dk_at dksX3_legIt_5 21 rfl rfl)
theorem dX3_legIt_139 : decode cX3_legIt 139 = .ok (.iconst 5, 1) := dk_8 (dk_at dksX3_legIt_5 23 rfl rfl)
theorem dX3_legIt_140 : decode cX3_legIt 140 = .ok (.if_icmp .ge 25, 3) := dk_162 0 25 (dk_at dksX3_legIt_6 0 rfl rfl)
theorem dX3_legIt_143 : decode cX3_legIt 143 = .ok (.aload_n 0, 1) := dk_42 (dk_at dksX3_legIt_6 3 rfl rfl)
theorem dX3_legIt_144 : decode cX3_legIt 144 = .ok (.getfield 9, 3) := dk_180 0 9 (dk_at dksX3_legIt_6 4 rfl rfl)
theorem dX3_legIt_147 : decode cX3_legIt 147 = .ok (.iload_n 3, 1) := dk_29 (dk_at dksX3_legIt_6 7 rfl rfl)
theorem dX3_legIt_148 : decode cX3_legIt 148 = .ok (.iload 4, 2) := dk_21 4 (dk_at dksX3_legIt_6 8 rfl rfl)
theorem dX3_legIt_150 : decode cX3_legIt 150 = .ok (.iadd, 1) := dk_96 (dk_at dksX3_legIt_6 10 rfl rfl)
theorem dX3_legIt_151 : decode cX3_legIt 151 = .ok (.aload_n 0, 1) := dk_42 (dk_at dksX3_legIt_6 11 rfl rfl)
theorem dX3_legIt_152 : decode cX3_legIt 152 = .ok (.getfield 29, 3) := dk_180 0 29 (dk_at dksX3_legIt_6 12 rfl rfl)
theorem dX3_legIt_155 : decode cX3_legIt 155 = .ok (.iload 4, 2) := dk_21 4 (dk_at dksX3_legIt_6 15 rfl rfl)
theorem dX3_legIt_157 : decode cX3_legIt 157 = .ok (.iaload, 1) := dk_46 (dk_at dksX3_legIt_6 17 rfl rfl)
theorem dX3_legIt_158 : decode cX3_legIt 158 = .ok (.iastore, 1) := dk_79 (dk_at dksX3_legIt_6 18 rfl rfl)
theorem dX3_legIt_159 : decode cX3_legIt 159 = .ok (.iinc 4 1, 3) := dk_132 4 1 (dk_at dksX3_legIt_6 19 rfl rfl)
theorem dX3_legIt_162 : decode cX3_legIt 162 = .ok (.goto (-25), 3) := dk_167 255 231 (dk_at dksX3_legIt_7 0 rfl rfl)
theorem dX3_legIt_165 : decode cX3_legIt 165 = .ok (.aload_n 0, 1) := dk_42 (dk_at dksX3_legIt_7 3 rfl rfl)
theorem dX3_legIt_166 : decode cX3_legIt 166 = .ok (.getfield 9, 3) := dk_180 0 9 (dk_at dksX3_legIt_7 4 rfl rfl)
theorem dX3_legIt_169 : decode cX3_legIt 169 = .ok (.iload_n 3, 1) := dk_29 (dk_at dksX3_legIt_7 7 rfl rfl)
theorem dX3_legIt_170 : decode cX3_legIt 170 = .ok (.iconst 5, 1) := dk_8 (dk_at dksX3_legIt_7 8 rfl rfl)
theorem dX3_legIt_171 : decode cX3_legIt 171 = .ok (.iadd, 1) := dk_96 (dk_at dksX3_legIt_7 9 rfl rfl)
theorem dX3_legIt_172 : decode cX3_legIt 172 = .ok (.iconst 0, 1) := dk_3 (dk_at dksX3_legIt_7 10 rfl rfl)
theorem dX3_legIt_173 : decode cX3_legIt 173 = .ok (.iastore, 1) := dk_79 (dk_at dksX3_legIt_7 11 rfl rfl)
theorem dX3_legIt_174 : decode cX3_legIt 174 = .ok (.aload_n 0, 1) := dk_42 (dk_at dksX3_legIt_7 12 rfl rfl)
theorem dX3_legIt_175 : decode cX3_legIt 175 = .ok (.getfield 9, 3) := dk_180 0 9 (dk_at dksX3_legIt_7 13 rfl rfl)
theorem dX3_legIt_178 : decode cX3_legIt 178 = .ok (.iload_n 3, 1) := dk_29 (dk_at dksX3_legIt_7 16 rfl rfl)
theorem dX3_legIt_179 : decode cX3_legIt 179 = .ok (.iconst 5, 1) := dk_8 (dk_at dksX3_legIt_7 17 rfl rfl)
theorem dX3_legIt_180 : decode cX3_legIt 180 = .ok (.iadd, 1) := dk_96 (dk_at dksX3_legIt_7 18 rfl rfl)
theorem dX3_legIt_181 : decode cX3_legIt 181 = .ok (.iconst 1, 1) := dk_4 (dk_at dksX3_legIt_7 19 rfl rfl)
theorem dX3_legIt_182 : decode cX3_legIt 182 = .ok (.iadd, 1) := dk_96 (dk_at dksX3_legIt_7 20 rfl rfl)
theorem dX3_legIt_183 : decode cX3_legIt 183 = .ok (.iconst 0, 1) := dk_3 (dk_at dksX3_legIt_7 21 rfl rfl)
theorem dX3_legIt_184 : decode cX3_legIt 184 = .ok (.iastore, 1) := dk_79 (dk_at dksX3_legIt_7 22 rfl rfl)
theorem dX3_legIt_185 : decode cX3_legIt 185 = .ok (.aload_n 0, 1) := dk_42 (dk_at dksX3_legIt_7 23 rfl rfl)
theorem dX3_legIt_186 : decode cX3_legIt 186 = .ok (.getfield 9, 3) := dk_180 0 9 (dk_at dksX3_legIt_8 0 rfl rfl)
theorem dX3_legIt_189 : decode cX3_legIt 189 = .ok (.iload_n 3, 1) := dk_29 (dk_at dksX3_legIt_8 3 rfl rfl)
theorem dX3_legIt_190 : decode cX3_legIt 190 = .ok (.bipush 7, 2) := dk_16 7 (dk_at dksX3_legIt_8 4 rfl rfl)
theorem dX3_legIt_192 : decode cX3_legIt 192 = .ok (.iadd, 1) := dk_96 (dk_at dksX3_legIt_8 6 rfl rfl)
theorem dX3_legIt_193 : decode cX3_legIt 193 = .ok (.aload_n 0, 1) := dk_42 (dk_at dksX3_legIt_8 7 rfl rfl)
theorem dX3_legIt_194 : decode cX3_legIt 194 = .ok (.iload_n 1, 1) := dk_27 (dk_at dksX3_legIt_8 8 rfl rfl)
theorem dX3_legIt_195 : decode cX3_legIt 195 = .ok (.iload_n 2, 1) := dk_28 (dk_at dksX3_legIt_8 9 rfl rfl)
theorem dX3_legIt_196 : decode cX3_legIt 196 = .ok (.iconst 1, 1) := dk_4 (dk_at dksX3_legIt_8 10 rfl rfl)
theorem dX3_legIt_197 : decode cX3_legIt 197 = .ok (.isub, 1) := dk_100 (dk_at dksX3_legIt_8 11 rfl rfl)
theorem dX3_legIt_198 : decode cX3_legIt 198 = .ok (.iconst 1, 1) := dk_4 (dk_at dksX3_legIt_8 12 rfl rfl)
theorem dX3_legIt_199 : decode cX3_legIt 199 = .ok (.invokevirtual 122, 3) := dk_182 0 122 (dk_at dksX3_legIt_8 13 rfl rfl)
theorem dX3_legIt_202 : decode cX3_legIt 202 = .ok (.aload_n 0, 1) := dk_42 (dk_at dksX3_legIt_8 16 rfl rfl)
theorem dX3_legIt_203 : decode cX3_legIt 203 = .ok (.getfield 29, 3) := dk_180 0 29 (dk_at dksX3_legIt_8 17 rfl rfl)
theorem dX3_legIt_206 : decode cX3_legIt 206 = .ok (.iconst 1, 1) := dk_4 (dk_at dksX3_legIt_8 20 rfl rfl)
theorem dX3_legIt_207 : decode cX3_legIt 207 = .ok (.iaload, 1) := dk_46 (dk_at dksX3_legIt_8 21 rfl rfl)
theorem dX3_legIt_208 : decode cX3_legIt 208 = .ok (.iadd, 1) := dk_96 (dk_at dksX3_legIt_8 22 rfl rfl)
theorem dX3_legIt_209 : decode cX3_legIt 209 = .ok (.aload_n 0, 1) := dk_42 (dk_at dksX3_legIt_8 23 rfl rfl)
theorem dX3_legIt_210 : decode cX3_legIt 210 = .ok (.getfield 29, 3) := dk_180 0 29 (dk_at dksX3_legIt_9 0 rfl rfl)
theorem dX3_legIt_213 : decode cX3_legIt 213 = .ok (.iconst 2, 1) := dk_5 (dk_at dksX3_legIt_9 3 rfl rfl)
theorem dX3_legIt_214 : decode cX3_legIt 214 = .ok (.iaload, 1) := dk_46 (dk_at dksX3_legIt_9 4 rfl rfl)
theorem dX3_legIt_215 : decode cX3_legIt 215 = .ok (.iadd, 1) := dk_96 (dk_at dksX3_legIt_9 5 rfl rfl)
theorem dX3_legIt_216 : decode cX3_legIt 216 = .ok (.iastore, 1) := dk_79 (dk_at dksX3_legIt_9 6 rfl rfl)
theorem dX3_legIt_217 : decode cX3_legIt 217 = .ok (.aload_n 0, 1) := dk_42 (dk_at dksX3_legIt_9 7 rfl rfl)
theorem dX3_legIt_218 : decode cX3_legIt 218 = .ok (.getfield 9, 3) := dk_180 0 9 (dk_at dksX3_legIt_9 8 rfl rfl)
theorem dX3_legIt_221 : decode cX3_legIt 221 = .ok (.iload_n 3, 1) := dk_29 (dk_at dksX3_legIt_9 11 rfl rfl)
theorem dX3_legIt_222 : decode cX3_legIt 222 = .ok (.bipush 7, 2) := dk_16 7 (dk_at dksX3_legIt_9 12 rfl rfl)
theorem dX3_legIt_224 : decode cX3_legIt 224 = .ok (.iadd, 1) := dk_96 (dk_at dksX3_legIt_9 14 rfl rfl)
theorem dX3_legIt_225 : decode cX3_legIt 225 = .ok (.iconst 1, 1) := dk_4 (dk_at dksX3_legIt_9 15 rfl rfl)
theorem dX3_legIt_226 : decode cX3_legIt 226 = .ok (.iadd, 1) := dk_96 (dk_at dksX3_legIt_9 16 rfl rfl)
theorem dX3_legIt_227 : decode cX3_legIt 227 = .ok (.aload_n 0, 1) := dk_42 (dk_at dksX3_legIt_9 17 rfl rfl)
theorem dX3_legIt_228 : decode cX3_legIt 228 = .ok (.getfield 9, 3) := dk_180 0 9 (dk_at dksX3_legIt_9 18 rfl rfl)
theorem dX3_legIt_231 : decode cX3_legIt 231 = .ok (.iload_n 3, 1) := dk_29 (dk_at dksX3_legIt_9 21 rfl rfl)
theorem dX3_legIt_232 : decode cX3_legIt 232 = .ok (.bipush 7, 2) := dk_16 7 (dk_at dksX3_legIt_9 22 rfl rfl)
theorem dX3_legIt_234 : decode cX3_legIt 234 = .ok (.iadd, 1) := dk_96 (dk_at dksX3_legIt_10 0 rfl rfl)
theorem dX3_legIt_235 : decode cX3_legIt 235 = .ok (.iaload, 1) := dk_46 (dk_at dksX3_legIt_10 1 rfl rfl)
theorem dX3_legIt_236 : decode cX3_legIt 236 = .ok (.aload_n 0, 1) := dk_42 (dk_at dksX3_legIt_10 2 rfl rfl)
theorem dX3_legIt_237 : decode cX3_legIt 237 = .ok (.getfield 29, 3) := dk_180 0 29 (dk_at dksX3_legIt_10 3 rfl rfl)
theorem dX3_legIt_240 : decode cX3_legIt 240 = .ok (.iconst 3, 1) := dk_6 (dk_at dksX3_legIt_10 6 rfl rfl)
theorem dX3_legIt_241 : decode cX3_legIt 241 = .ok (.iaload, 1) := dk_46 (dk_at dksX3_legIt_10 7 rfl rfl)
theorem dX3_legIt_242 : decode cX3_legIt 242 = .ok (.iadd, 1) := dk_96 (dk_at dksX3_legIt_10 8 rfl rfl)
theorem dX3_legIt_243 : decode cX3_legIt 243 = .ok (.iastore, 1) := dk_79 (dk_at dksX3_legIt_10 9 rfl rfl)
theorem dX3_legIt_244 : decode cX3_legIt 244 = .ok (.aload_n 0, 1) := dk_42 (dk_at dksX3_legIt_10 10 rfl rfl)
theorem dX3_legIt_245 : decode cX3_legIt 245 = .ok (.getfield 9, 3) := dk_180 0 9 (dk_at dksX3_legIt_10 11 rfl rfl)
theorem dX3_legIt_248 : decode cX3_legIt 248 = .ok (.iconst 4, 1) := dk_7 (dk_at dksX3_legIt_10 14 rfl rfl)
theorem dX3_legIt_249 : decode cX3_legIt 249 = .ok (.iconst 2, 1) := dk_5 (dk_at dksX3_legIt_10 15 rfl rfl)
theorem dX3_legIt_250 : decode cX3_legIt 250 = .ok (.iload_n 1, 1) := dk_27 (dk_at dksX3_legIt_10 16 rfl rfl)
theorem dX3_legIt_251 : decode cX3_legIt 251 = .ok (.imul, 1) := dk_104 (dk_at dksX3_legIt_10 17 rfl rfl)
theorem dX3_legIt_252 : decode cX3_legIt 252 = .ok (.iadd, 1) := dk_96 (dk_at dksX3_legIt_10 18 rfl rfl)
theorem dX3_legIt_253 : decode cX3_legIt 253 = .ok (.dup2, 1) := dk_92 (dk_at dksX3_legIt_10 19 rfl rfl)
theorem dX3_legIt_254 : decode cX3_legIt 254 = .ok (.iaload, 1) := dk_46 (dk_at dksX3_legIt_10 20 rfl rfl)
theorem dX3_legIt_255 : decode cX3_legIt 255 = .ok (.iconst 1, 1) := dk_4 (dk_at dksX3_legIt_10 21 rfl rfl)
theorem dX3_legIt_256 : decode cX3_legIt 256 = .ok (.iadd, 1) := dk_96 (dk_at dksX3_legIt_10 22 rfl rfl)
theorem dX3_legIt_257 : decode cX3_legIt 257 = .ok (.iastore, 1) := dk_79 (dk_at dksX3_legIt_10 23 rfl rfl)
theorem dX3_legIt_258 : decode cX3_legIt 258 = .ok (.aload_n 0, 1) := dk_42 (dk_at dksX3_legIt_11 0 rfl rfl)
theorem dX3_legIt_259 : decode cX3_legIt 259 = .ok (.getfield 9, 3) := dk_180 0 9 (dk_at dksX3_legIt_11 1 rfl rfl)
theorem dX3_legIt_262 : decode cX3_legIt 262 = .ok (.iload_n 3, 1) := dk_29 (dk_at dksX3_legIt_11 4 rfl rfl)
theorem dX3_legIt_263 : decode cX3_legIt 263 = .ok (.bipush 7, 2) := dk_16 7 (dk_at dksX3_legIt_11 5 rfl rfl)
theorem dX3_legIt_265 : decode cX3_legIt 265 = .ok (.iadd, 1) := dk_96 (dk_at dksX3_legIt_11 7 rfl rfl)
theorem dX3_legIt_266 : decode cX3_legIt 266 = .ok (.iaload, 1) := dk_46 (dk_at dksX3_legIt_11 8 rfl rfl)
theorem dX3_legIt_267 : decode cX3_legIt 267 = .ok (.ireturn, 1) := dk_172 (dk_at dksX3_legIt_11 9 rfl rfl)
abbrev cX3_isCoach : ByteArray := prog_21_method_8_code
def yX3_isCoach : MethodName := ⟨RX3, "isCoach", "(I)Z"⟩
def dkwX3_isCoach_0 : List UInt8 := [27, 133, 9, 42, 180, 0, 9, 3, 46, 4, 100, 133, 184, 0, 88, 172]
abbrev dktX3_isCoach_0 : List UInt8 := dkwX3_isCoach_0 ++ []
theorem dksX3_isCoach_0 : cX3_isCoach.data.toList.drop 0 = dktX3_isCoach_0 := by decide +kernel
theorem dX3_isCoach_0 : decode cX3_isCoach 0 = .ok (.iload_n 1, 1) := dk_27 (dk_at dksX3_isCoach_0 0 rfl rfl)
theorem dX3_isCoach_1 : decode cX3_isCoach 1 = .ok (.i2l, 1) := dk_133 (dk_at dksX3_isCoach_0 1 rfl rfl)
theorem dX3_isCoach_2 : decode cX3_isCoach 2 = .ok (.lconst 0, 1) := dk_9 (dk_at dksX3_isCoach_0 2 rfl rfl)
theorem dX3_isCoach_3 : decode cX3_isCoach 3 = .ok (.aload_n 0, 1) := dk_42 (dk_at dksX3_isCoach_0 3 rfl rfl)
theorem dX3_isCoach_4 : decode cX3_isCoach 4 = .ok (.getfield 9, 3) := dk_180 0 9 (dk_at dksX3_isCoach_0 4 rfl rfl)
theorem dX3_isCoach_7 : decode cX3_isCoach 7 = .ok (.iconst 0, 1) := dk_3 (dk_at dksX3_isCoach_0 7 rfl rfl)
theorem dX3_isCoach_8 : decode cX3_isCoach 8 = .ok (.iaload, 1) := dk_46 (dk_at dksX3_isCoach_0 8 rfl rfl)
theorem dX3_isCoach_9 : decode cX3_isCoach 9 = .ok (.iconst 1, 1) := dk_4 (dk_at dksX3_isCoach_0 9 rfl rfl)
theorem dX3_isCoach_10 : decode cX3_isCoach 10 = .ok (.isub, 1) := dk_100 (dk_at dksX3_isCoach_0 10 rfl rfl)
theorem dX3_isCoach_11 : decode cX3_isCoach 11 = .ok (.i2l, 1) := dk_133 (dk_at dksX3_isCoach_0 11 rfl rfl)
theorem dX3_isCoach_12 : decode cX3_isCoach 12 = .ok (.invokestatic 88, 3) := dk_184 0 88 (dk_at dksX3_isCoach_0 12 rfl rfl)
theorem dX3_isCoach_15 : decode cX3_isCoach 15 = .ok (.ireturn, 1) := dk_172 (dk_at dksX3_isCoach_0 15 rfl rfl)
abbrev cX3_into : ByteArray := prog_21_method_11_code
def yX3_into : MethodName := ⟨RX3, "into", "(I)I"⟩
def dkwX3_into_0 : List UInt8 := [42, 180, 0, 9, 7, 5, 27, 104, 96, 4, 96, 46, 4, 100, 172]
abbrev dktX3_into_0 : List UInt8 := dkwX3_into_0 ++ []
theorem dksX3_into_0 : cX3_into.data.toList.drop 0 = dktX3_into_0 := by decide +kernel
theorem dX3_into_0 : decode cX3_into 0 = .ok (.aload_n 0, 1) := dk_42 (dk_at dksX3_into_0 0 rfl rfl)
theorem dX3_into_1 : decode cX3_into 1 = .ok (.getfield 9, 3) := dk_180 0 9 (dk_at dksX3_into_0 1 rfl rfl)
theorem dX3_into_4 : decode cX3_into 4 = .ok (.iconst 4, 1) := dk_7 (dk_at dksX3_into_0 4 rfl rfl)
theorem dX3_into_5 : decode cX3_into 5 = .ok (.iconst 2, 1) := dk_5 (dk_at dksX3_into_0 5 rfl rfl)
theorem dX3_into_6 : decode cX3_into 6 = .ok (.iload_n 1, 1) := dk_27 (dk_at dksX3_into_0 6 rfl rfl)
theorem dX3_into_7 : decode cX3_into 7 = .ok (.imul, 1) := dk_104 (dk_at dksX3_into_0 7 rfl rfl)
theorem dX3_into_8 : decode cX3_into 8 = .ok (.iadd, 1) := dk_96 (dk_at dksX3_into_0 8 rfl rfl)
theorem dX3_into_9 : decode cX3_into 9 = .ok (.iconst 1, 1) := dk_4 (dk_at dksX3_into_0 9 rfl rfl)
theorem dX3_into_10 : decode cX3_into 10 = .ok (.iadd, 1) := dk_96 (dk_at dksX3_into_0 10 rfl rfl)
theorem dX3_into_11 : decode cX3_into 11 = .ok (.iaload, 1) := dk_46 (dk_at dksX3_into_0 11 rfl rfl)
theorem dX3_into_12 : decode cX3_into 12 = .ok (.iconst 1, 1) := dk_4 (dk_at dksX3_into_0 12 rfl rfl)
theorem dX3_into_13 : decode cX3_into 13 = .ok (.isub, 1) := dk_100 (dk_at dksX3_into_0 13 rfl rfl)
theorem dX3_into_14 : decode cX3_into 14 = .ok (.ireturn, 1) := dk_172 (dk_at dksX3_into_0 14 rfl rfl)
abbrev cX3_stops : ByteArray := prog_21_method_10_code
def yX3_stops : MethodName := ⟨RX3, "stops", "(I)I"⟩
def dkwX3_stops_0 : List UInt8 := [42, 180, 0, 9, 7, 5, 27, 104, 96, 46, 172]
abbrev dktX3_stops_0 : List UInt8 := dkwX3_stops_0 ++ []
theorem dksX3_stops_0 : cX3_stops.data.toList.drop 0 = dktX3_stops_0 := by decide +kernel
theorem dX3_stops_0 : decode cX3_stops 0 = .ok (.aload_n 0, 1) := dk_42 (dk_at dksX3_stops_0 0 rfl rfl)
theorem dX3_stops_1 : decode cX3_stops 1 = .ok (.getfield 9, 3) := dk_180 0 9 (dk_at dksX3_stops_0 1 rfl rfl)
theorem dX3_stops_4 : decode cX3_stops 4 = .ok (.iconst 4, 1) := dk_7 (dk_at dksX3_stops_0 4 rfl rfl)
theorem dX3_stops_5 : decode cX3_stops 5 = .ok (.iconst 2, 1) := dk_5 (dk_at dksX3_stops_0 5 rfl rfl)
theorem dX3_stops_6 : decode cX3_stops 6 = .ok (.iload_n 1, 1) := dk_27 (dk_at dksX3_stops_0 6 rfl rfl)
theorem dX3_stops_7 : decode cX3_stops 7 = .ok (.imul, 1) := dk_104 (dk_at dksX3_stops_0 7 rfl rfl)
theorem dX3_stops_8 : decode cX3_stops 8 = .ok (.iadd, 1) := dk_96 (dk_at dksX3_stops_0 8 rfl rfl)
theorem dX3_stops_9 : decode cX3_stops 9 = .ok (.iaload, 1) := dk_46 (dk_at dksX3_stops_0 9 rfl rfl)
theorem dX3_stops_10 : decode cX3_stops 10 = .ok (.ireturn, 1) := dk_172 (dk_at dksX3_stops_0 10 rfl rfl)
abbrev cX3_planned : ByteArray := prog_21_method_16_code
def yX3_planned : MethodName := ⟨RX3, "planned", "(III)I"⟩
def dkwX3_planned_0 : List UInt8 := [42, 180, 0, 9, 27, 28, 184, 0, 98, 16, 7, 96, 29, 96, 46, 172]
abbrev dktX3_planned_0 : List UInt8 := dkwX3_planned_0 ++ []
theorem dksX3_planned_0 : cX3_planned.data.toList.drop 0 = dktX3_planned_0 := by decide +kernel
theorem dX3_planned_0 : decode cX3_planned 0 = .ok (.aload_n 0, 1) := dk_42 (dk_at dksX3_planned_0 0 rfl rfl)
theorem dX3_planned_1 : decode cX3_planned 1 = .ok (.getfield 9, 3) := dk_180 0 9 (dk_at dksX3_planned_0 1 rfl rfl)
theorem dX3_planned_4 : decode cX3_planned 4 = .ok (.iload_n 1, 1) := dk_27 (dk_at dksX3_planned_0 4 rfl rfl)
theorem dX3_planned_5 : decode cX3_planned 5 = .ok (.iload_n 2, 1) := dk_28 (dk_at dksX3_planned_0 5 rfl rfl)
theorem dX3_planned_6 : decode cX3_planned 6 = .ok (.invokestatic 98, 3) := dk_184 0 98 (dk_at dksX3_planned_0 6 rfl rfl)
theorem dX3_planned_9 : decode cX3_planned 9 = .ok (.bipush 7, 2) := dk_16 7 (dk_at dksX3_planned_0 9 rfl rfl)
theorem dX3_planned_11 : decode cX3_planned 11 = .ok (.iadd, 1) := dk_96 (dk_at dksX3_planned_0 11 rfl rfl)
theorem dX3_planned_12 : decode cX3_planned 12 = .ok (.iload_n 3, 1) := dk_29 (dk_at dksX3_planned_0 12 rfl rfl)
theorem dX3_planned_13 : decode cX3_planned 13 = .ok (.iadd, 1) := dk_96 (dk_at dksX3_planned_0 13 rfl rfl)
theorem dX3_planned_14 : decode cX3_planned 14 = .ok (.iaload, 1) := dk_46 (dk_at dksX3_planned_0 14 rfl rfl)
theorem dX3_planned_15 : decode cX3_planned 15 = .ok (.ireturn, 1) := dk_172 (dk_at dksX3_planned_0 15 rfl rfl)
abbrev cX3_turn : ByteArray := prog_21_method_23_code
def yX3_turn : MethodName := ⟨RX3, "turn", "(II)I"⟩
def dkwX3_turn_0 : List UInt8 := [42, 182, 0, 109, 42, 42, 27, 28, 182, 0, 132, 182, 0, 115, 172]
abbrev dktX3_turn_0 : List UInt8 := dkwX3_turn_0 ++ []
theorem dksX3_turn_0 : cX3_turn.data.toList.drop 0 = dktX3_turn_0 := by decide +kernel
theorem dX3_turn_0 : decode cX3_turn 0 = .ok (.aload_n 0, 1) := dk_42 (dk_at dksX3_turn_0 0 rfl rfl)
theorem dX3_turn_1 : decode cX3_turn 1 = .ok (.invokevirtual 109, 3) := dk_182 0 109 (dk_at dksX3_turn_0 1 rfl rfl)
theorem dX3_turn_4 : decode cX3_turn 4 = .ok (.aload_n 0, 1) := dk_42 (dk_at dksX3_turn_0 4 rfl rfl)
theorem dX3_turn_5 : decode cX3_turn 5 = .ok (.aload_n 0, 1) := dk_42 (dk_at dksX3_turn_0 5 rfl rfl)
theorem dX3_turn_6 : decode cX3_turn 6 = .ok (.iload_n 1, 1) := dk_27 (dk_at dksX3_turn_0 6 rfl rfl)
theorem dX3_turn_7 : decode cX3_turn 7 = .ok (.iload_n 2, 1) := dk_28 (dk_at dksX3_turn_0 7 rfl rfl)
theorem dX3_turn_8 : decode cX3_turn 8 = .ok (.invokevirtual 132, 3) := dk_182 0 132 (dk_at dksX3_turn_0 8 rfl rfl)
theorem dX3_turn_11 : decode cX3_turn 11 = .ok (.invokevirtual 115, 3) := dk_182 0 115 (dk_at dksX3_turn_0 11 rfl rfl)
theorem dX3_turn_14 : decode cX3_turn 14 = .ok (.ireturn, 1) := dk_172 (dk_at dksX3_turn_0 14 rfl rfl)
abbrev cX3_turnIt : ByteArray := prog_21_method_22_code
def yX3_turnIt : MethodName := ⟨RX3, "turnIt", "(II)I"⟩
def dkwX3_turnIt_8 : List UInt8 := [42, 180, 0, 9, 7, 5, 27, 104, 96, 4, 96, 28, 4, 96, 79, 21, 5, 172]
abbrev dktX3_turnIt_8 : List UInt8 := dkwX3_turnIt_8 ++ []
def dkwX3_turnIt_7 : List UInt8 := [182, 0, 122, 100, 16, 10, 100, 54, 5, 21, 5, 156, 0, 13, 42, 16, 8, 21, 5, 116, 182, 0, 106, 172]
abbrev dktX3_turnIt_7 : List UInt8 := dkwX3_turnIt_7 ++ dktX3_turnIt_8
def dkwX3_turnIt_6 : List UInt8 := [159, 0, 12, 42, 16, 7, 21, 4, 182, 0, 106, 172, 42, 28, 3, 4, 182, 0, 122, 42, 27, 29, 3]
abbrev dktX3_turnIt_6 : List UInt8 := dkwX3_turnIt_6 ++ dktX3_turnIt_7
def dkwX3_turnIt_5 : List UInt8 := [28, 3, 184, 0, 98, 3, 96, 46, 54, 4, 42, 180, 0, 9, 27, 29, 184, 0, 98, 3, 96, 46, 21, 4]
abbrev dktX3_turnIt_5 : List UInt8 := dkwX3_turnIt_5 ++ dktX3_turnIt_6
def dkwX3_turnIt_4 : List UInt8 := [16, 9, 42, 27, 182, 0, 92, 2, 159, 0, 7, 27, 167, 0, 4, 28, 182, 0, 106, 172, 42, 180, 0, 9]
abbrev dktX3_turnIt_4 : List UInt8 := dkwX3_turnIt_4 ++ dktX3_turnIt_5
def dkwX3_turnIt_3 : List UInt8 := [3, 182, 0, 106, 172, 42, 27, 182, 0, 92, 2, 160, 0, 12, 42, 28, 182, 0, 129, 2, 159, 0, 24, 42]
abbrev dktX3_turnIt_3 : List UInt8 := dkwX3_turnIt_3 ++ dktX3_turnIt_4
def dkwX3_turnIt_2 : List UInt8 := [172, 42, 27, 182, 0, 95, 4, 100, 62, 29, 153, 0, 12, 42, 28, 182, 0, 95, 4, 160, 0, 10, 42, 7]
abbrev dktX3_turnIt_2 : List UInt8 := dkwX3_turnIt_2 ++ dktX3_turnIt_3
def dkwX3_turnIt_1 : List UInt8 := [153, 0, 7, 28, 167, 0, 4, 27, 182, 0, 106, 172, 27, 28, 160, 0, 11, 42, 16, 6, 27, 182, 0, 106]
abbrev dktX3_turnIt_1 : List UInt8 := dkwX3_turnIt_1 ++ dktX3_turnIt_2
def dkwX3_turnIt_0 : List UInt8 := [42, 27, 182, 0, 118, 153, 0, 11, 42, 28, 182, 0, 118, 154, 0, 22, 42, 6, 42, 27, 182, 0, 118]
abbrev dktX3_turnIt_0 : List UInt8 := dkwX3_turnIt_0 ++ dktX3_turnIt_1
theorem dksX3_turnIt_0 : cX3_turnIt.data.toList.drop 0 = dktX3_turnIt_0 := by decide +kernel
theorem dksX3_turnIt_1 : cX3_turnIt.data.toList.drop 23 = dktX3_turnIt_1 := dk_seg dksX3_turnIt_0 23 rfl rfl
theorem dksX3_turnIt_2 : cX3_turnIt.data.toList.drop 47 = dktX3_turnIt_2 := dk_seg dksX3_turnIt_1 24 rfl rfl
theorem dksX3_turnIt_3 : cX3_turnIt.data.toList.drop 71 = dktX3_turnIt_3 := dk_seg dksX3_turnIt_2 24 rfl rfl
theorem dksX3_turnIt_4 : cX3_turnIt.data.toList.drop 95 = dktX3_turnIt_4 := dk_seg dksX3_turnIt_3 24 rfl rfl
theorem dksX3_turnIt_5 : cX3_turnIt.data.toList.drop 119 = dktX3_turnIt_5 := dk_seg dksX3_turnIt_4 24 rfl rfl
theorem dksX3_turnIt_6 : cX3_turnIt.data.toList.drop 143 = dktX3_turnIt_6 := dk_seg dksX3_turnIt_5 24 rfl rfl
theorem dksX3_turnIt_7 : cX3_turnIt.data.toList.drop 166 = dktX3_turnIt_7 := dk_seg dksX3_turnIt_6 23 rfl rfl
theorem dksX3_turnIt_8 : cX3_turnIt.data.toList.drop 190 = dktX3_turnIt_8 := dk_seg dksX3_turnIt_7 24 rfl rfl
theorem dX3_turnIt_0 : decode cX3_turnIt 0 = .ok (.aload_n 0, 1) := dk_42 (dk_at dksX3_turnIt_0 0 rfl rfl)
theorem dX3_turnIt_1 : decode cX3_turnIt 1 = .ok (.iload_n 1, 1) := dk_27 (dk_at dksX3_turnIt_0 1 rfl rfl)
theorem dX3_turnIt_2 : decode cX3_turnIt 2 = .ok (.invokevirtual 118, 3) := dk_182 0 118 (dk_at dksX3_turnIt_0 2 rfl rfl)
theorem dX3_turnIt_5 : decode cX3_turnIt 5 = .ok (.ifCond .eq 11, 3) := dk_153 0 11 (dk_at dksX3_turnIt_0 5 rfl rfl)
theorem dX3_turnIt_8 : decode cX3_turnIt 8 = .ok (.aload_n 0, 1) := dk_42 (dk_at dksX3_turnIt_0 8 rfl rfl)
theorem dX3_turnIt_9 : decode cX3_turnIt 9 = .ok (.iload_n 2, 1) := dk_28 (dk_at dksX3_turnIt_0 9 rfl rfl)
theorem dX3_turnIt_10 : decode cX3_turnIt 10 = .ok (.invokevirtual 118, 3) := dk_182 0 118 (dk_at dksX3_turnIt_0 10 rfl rfl)
theorem dX3_turnIt_13 : decode cX3_turnIt 13 = .ok (.ifCond .ne 22, 3) := dk_154 0 22 (dk_at dksX3_turnIt_0 13 rfl rfl)
theorem dX3_turnIt_16 : decode cX3_turnIt 16 = .ok (.aload_n 0, 1) := dk_42 (dk_at dksX3_turnIt_0 16 rfl rfl)
theorem dX3_turnIt_17 : decode cX3_turnIt 17 = .ok (.iconst 3, 1) := dk_6 (dk_at dksX3_turnIt_0 17 rfl rfl)
theorem dX3_turnIt_18 : decode cX3_turnIt 18 = .ok (.aload_n 0, 1) := dk_42 (dk_at dksX3_turnIt_0 18 rfl rfl)
theorem dX3_turnIt_19 : decode cX3_turnIt 19 = .ok (.iload_n 1, 1) := dk_27 (dk_at dksX3_turnIt_0 19 rfl rfl)
theorem dX3_turnIt_20 : decode cX3_turnIt 20 = .ok (.invokevirtual 118, 3) := dk_182 0 118 (dk_at dksX3_turnIt_0 20 rfl rfl)
theorem dX3_turnIt_23 : decode cX3_turnIt 23 = .ok (.ifCond .eq 7, 3) := dk_153 0 7 (dk_at dksX3_turnIt_1 0 rfl rfl)
theorem dX3_turnIt_26 : decode cX3_turnIt 26 = .ok (.iload_n 2, 1) := dk_28 (dk_at dksX3_turnIt_1 3 rfl rfl)
theorem dX3_turnIt_27 : decode cX3_turnIt 27 = .ok (.goto 4, 3) := dk_167 0 4 (dk_at dksX3_turnIt_1 4 rfl rfl)
theorem dX3_turnIt_30 : decode cX3_turnIt 30 = .ok (.iload_n 1, 1) := dk_27 (dk_at dksX3_turnIt_1 7 rfl rfl)
theorem dX3_turnIt_31 : decode cX3_turnIt 31 = .ok (.invokevirtual 106, 3) := dk_182 0 106 (dk_at dksX3_turnIt_1 8 rfl rfl)
theorem dX3_turnIt_34 : decode cX3_turnIt 34 = .ok (.ireturn, 1) := dk_172 (dk_at dksX3_turnIt_1 11 rfl rfl)
theorem dX3_turnIt_35 : decode cX3_turnIt 35 = .ok (.iload_n 1, 1) := dk_27 (dk_at dksX3_turnIt_1 12 rfl rfl)
theorem dX3_turnIt_36 : decode cX3_turnIt 36 = .ok (.iload_n 2, 1) := dk_28 (dk_at dksX3_turnIt_1 13 rfl rfl)
theorem dX3_turnIt_37 : decode cX3_turnIt 37 = .ok (.if_icmp .ne 11, 3) := dk_160 0 11 (dk_at dksX3_turnIt_1 14 rfl rfl)
theorem dX3_turnIt_40 : decode cX3_turnIt 40 = .ok (.aload_n 0, 1) := dk_42 (dk_at dksX3_turnIt_1 17 rfl rfl)
theorem dX3_turnIt_41 : decode cX3_turnIt 41 = .ok (.bipush 6, 2) := dk_16 6 (dk_at dksX3_turnIt_1 18 rfl rfl)
theorem dX3_turnIt_43 : decode cX3_turnIt 43 = .ok (.iload_n 1, 1) := dk_27 (dk_at dksX3_turnIt_1 20 rfl rfl)
theorem dX3_turnIt_44 : decode cX3_turnIt 44 = .ok (.invokevirtual 106, 3) := dk_182 0 106 (dk_at dksX3_turnIt_1 21 rfl rfl)
theorem dX3_turnIt_47 : decode cX3_turnIt 47 = .ok (.ireturn, 1) := dk_172 (dk_at dksX3_turnIt_2 0 rfl rfl)
theorem dX3_turnIt_48 : decode cX3_turnIt 48 = .ok (.aload_n 0, 1) := dk_42 (dk_at dksX3_turnIt_2 1 rfl rfl)
theorem dX3_turnIt_49 : decode cX3_turnIt 49 = .ok (.iload_n 1, 1) := dk_27 (dk_at dksX3_turnIt_2 2 rfl rfl)
theorem dX3_turnIt_50 : decode cX3_turnIt 50 = .ok (.invokevirtual 95, 3) := dk_182 0 95 (dk_at dksX3_turnIt_2 3 rfl rfl)
theorem dX3_turnIt_53 : decode cX3_turnIt 53 = .ok (.iconst 1, 1) := dk_4 (dk_at dksX3_turnIt_2 6 rfl rfl)
theorem dX3_turnIt_54 : decode cX3_turnIt 54 = .ok (.isub, 1) := dk_100 (dk_at dksX3_turnIt_2 7 rfl rfl)
theorem dX3_turnIt_55 : decode cX3_turnIt 55 = .ok (.istore_n 3, 1) := dk_62 (dk_at dksX3_turnIt_2 8 rfl rfl)
theorem dX3_turnIt_56 : decode cX3_turnIt 56 = .ok (.iload_n 3, 1) := dk_29 (dk_at dksX3_turnIt_2 9 rfl rfl)
theorem dX3_turnIt_57 : decode cX3_turnIt 57 = .ok (.ifCond .eq 12, 3) := dk_153 0 12 (dk_at dksX3_turnIt_2 10 rfl rfl)
theorem dX3_turnIt_60 : decode cX3_turnIt 60 = .ok (.aload_n 0, 1) := dk_42 (dk_at dksX3_turnIt_2 13 rfl rfl)
theorem dX3_turnIt_61 : decode cX3_turnIt 61 = .ok (.iload_n 2, 1) := dk_28 (dk_at dksX3_turnIt_2 14 rfl rfl)
theorem dX3_turnIt_62 : decode cX3_turnIt 62 = .ok (.invokevirtual 95, 3) := dk_182 0 95 (dk_at dksX3_turnIt_2 15 rfl rfl)
theorem dX3_turnIt_65 : decode cX3_turnIt 65 = .ok (.iconst 1, 1) := dk_4 (dk_at dksX3_turnIt_2 18 rfl rfl)
theorem dX3_turnIt_66 : decode cX3_turnIt 66 = .ok (.if_icmp .ne 10, 3) := dk_160 0 10 (dk_at dksX3_turnIt_2 19 rfl rfl)
theorem dX3_turnIt_69 : decode cX3_turnIt 69 = .ok (.aload_n 0, 1) := dk_42 (dk_at dksX3_turnIt_2 22 rfl rfl)
theorem dX3_turnIt_70 : decode cX3_turnIt 70 = .ok (.iconst 4, 1) := dk_7 (dk_at dksX3_turnIt_2 23 rfl rfl)
theorem dX3_turnIt_71 : decode cX3_turnIt 71 = .ok (.iconst 0, 1) := dk_3 (dk_at dksX3_turnIt_3 0 rfl rfl)
theorem dX3_turnIt_72 : decode cX3_turnIt 72 = .ok (.invokevirtual 106, 3) := dk_182 0 106 (dk_at dksX3_turnIt_3 1 rfl rfl)
theorem dX3_turnIt_75 : decode cX3_turnIt 75 = .ok (.ireturn, 1) := dk_172 (dk_at dksX3_turnIt_3 4 rfl rfl)
theorem dX3_turnIt_76 : decode cX3_turnIt 76 = .ok (.aload_n 0, 1) := dk_42 (dk_at dksX3_turnIt_3 5 rfl rfl)
theorem dX3_turnIt_77 : decode cX3_turnIt 77 = .ok (.iload_n 1, 1) := dk_27 (dk_at dksX3_turnIt_3 6 rfl rfl)
theorem dX3_turnIt_78 : decode cX3_turnIt 78 = .ok (.invokevirtual 92, 3) := dk_182 0 92 (dk_at dksX3_turnIt_3 7 rfl rfl)
theorem dX3_turnIt_81 : decode cX3_turnIt 81 = .ok (.iconst (-1), 1) := dk_2 (dk_at dksX3_turnIt_3 10 rfl rfl)
theorem dX3_turnIt_82 : decode cX3_turnIt 82 = .ok (.if_icmp .ne 12, 3) := dk_160 0 12 (dk_at dksX3_turnIt_3 11 rfl rfl)
theorem dX3_turnIt_85 : decode cX3_turnIt 85 = .ok (.aload_n 0, 1) := dk_42 (dk_at dksX3_turnIt_3 14 rfl rfl)
theorem dX3_turnIt_86 : decode cX3_turnIt 86 = .ok (.iload_n 2, 1) := dk_28 (dk_at dksX3_turnIt_3 15 rfl rfl)
theorem dX3_turnIt_87 : decode cX3_turnIt 87 = .ok (.invokevirtual 129, 3) := dk_182 0 129 (dk_at dksX3_turnIt_3 16 rfl rfl)
theorem dX3_turnIt_90 : decode cX3_turnIt 90 = .ok (.iconst (-1), 1) := dk_2 (dk_at dksX3_turnIt_3 19 rfl rfl)
theorem dX3_turnIt_91 : decode cX3_turnIt 91 = .ok (.if_icmp .eq 24, 3) := dk_159 0 24 (dk_at dksX3_turnIt_3 20 rfl rfl)
theorem dX3_turnIt_94 : decode cX3_turnIt 94 = .ok (.aload_n 0, 1) := dk_42 (dk_at dksX3_turnIt_3 23 rfl rfl)
theorem dX3_turnIt_95 : decode cX3_turnIt 95 = .ok (.bipush 9, 2) := dk_16 9 (dk_at dksX3_turnIt_4 0 rfl rfl)
theorem dX3_turnIt_97 : decode cX3_turnIt 97 = .ok (.aload_n 0, 1) := dk_42 (dk_at dksX3_turnIt_4 2 rfl rfl)
theorem dX3_turnIt_98 : decode cX3_turnIt 98 = .ok (.iload_n 1, 1) := dk_27 (dk_at dksX3_turnIt_4 3 rfl rfl)
theorem dX3_turnIt_99 : decode cX3_turnIt 99 = .ok (.invokevirtual 92, 3) := dk_182 0 92 (dk_at dksX3_turnIt_4 4 rfl rfl)
theorem dX3_turnIt_102 : decode cX3_turnIt 102 = .ok (.iconst (-1), 1) := dk_2 (dk_at dksX3_turnIt_4 7 rfl rfl)
theorem dX3_turnIt_103 : decode cX3_turnIt 103 = .ok (.if_icmp .eq 7, 3) := dk_159 0 7 (dk_at dksX3_turnIt_4 8 rfl rfl)
theorem dX3_turnIt_106 : decode cX3_turnIt 106 = .ok (.iload_n 1, 1) := dk_27 (dk_at dksX3_turnIt_4 11 rfl rfl)
theorem dX3_turnIt_107 : decode cX3_turnIt 107 = .ok (.goto 4, 3) := dk_167 0 4 (dk_at dksX3_turnIt_4 12 rfl rfl)
theorem dX3_turnIt_110 : decode cX3_turnIt 110 = .ok (.iload_n 2, 1) := dk_28 (dk_at dksX3_turnIt_4 15 rfl rfl)
theorem dX3_turnIt_111 : decode cX3_turnIt 111 = .ok (.invokevirtual 106, 3) := dk_182 0 106 (dk_at dksX3_turnIt_4 16 rfl rfl)
theorem dX3_turnIt_114 : decode cX3_turnIt 114 = .ok (.ireturn, 1) := dk_172 (dk_at dksX3_turnIt_4 19 rfl rfl)
theorem dX3_turnIt_115 : decode cX3_turnIt 115 = .ok (.aload_n 0, 1) := dk_42 (dk_at dksX3_turnIt_4 20 rfl rfl)
theorem dX3_turnIt_116 : decode cX3_turnIt 116 = .ok (.getfield 9, 3) := dk_180 0 9 (dk_at dksX3_turnIt_4 21 rfl rfl)
theorem dX3_turnIt_119 : decode cX3_turnIt 119 = .ok (.iload_n 2, 1) := dk_28 (dk_at dksX3_turnIt_5 0 rfl rfl)
theorem dX3_turnIt_120 : decode cX3_turnIt 120 = .ok (.iconst 0, 1) := dk_3 (dk_at dksX3_turnIt_5 1 rfl rfl)
theorem dX3_turnIt_121 : decode cX3_turnIt 121 = .ok (.invokestatic 98, 3) := dk_184 0 98 (dk_at dksX3_turnIt_5 2 rfl rfl)
theorem dX3_turnIt_124 : decode cX3_turnIt 124 = .ok (.iconst 0, 1) := dk_3 (dk_at dksX3_turnIt_5 5 rfl rfl)
theorem dX3_turnIt_125 : decode cX3_turnIt 125 = .ok (.iadd, 1) := dk_96 (dk_at dksX3_turnIt_5 6 rfl rfl)
theorem dX3_turnIt_126 : decode cX3_turnIt 126 = .ok (.iaload, 1) := dk_46 (dk_at dksX3_turnIt_5 7 rfl rfl)
theorem dX3_turnIt_127 : decode cX3_turnIt 127 = .ok (.istore 4, 2) := dk_54 4 (dk_at dksX3_turnIt_5 8 rfl rfl)
theorem dX3_turnIt_129 : decode cX3_turnIt 129 = .ok (.aload_n 0, 1) := dk_42 (dk_at dksX3_turnIt_5 10 rfl rfl)
theorem dX3_turnIt_130 : decode cX3_turnIt 130 = .ok (.getfield 9, 3) := dk_180 0 9 (dk_at dksX3_turnIt_5 11 rfl rfl)
theorem dX3_turnIt_133 : decode cX3_turnIt 133 = .ok (.iload_n 1, 1) := dk_27 (dk_at dksX3_turnIt_5 14 rfl rfl)
theorem dX3_turnIt_134 : decode cX3_turnIt 134 = .ok (.iload_n 3, 1) := dk_29 (dk_at dksX3_turnIt_5 15 rfl rfl)
theorem dX3_turnIt_135 : decode cX3_turnIt 135 = .ok (.invokestatic 98, 3) := dk_184 0 98 (dk_at dksX3_turnIt_5 16 rfl rfl)
theorem dX3_turnIt_138 : decode cX3_turnIt 138 = .ok (.iconst 0, 1) := dk_3 (dk_at dksX3_turnIt_5 19 rfl rfl)
theorem dX3_turnIt_139 : decode cX3_turnIt 139 = .ok (.iadd, 1) := dk_96 (dk_at dksX3_turnIt_5 20 rfl rfl)
theorem dX3_turnIt_140 : decode cX3_turnIt 140 = .ok (.iaload, 1) := dk_46 (dk_at dksX3_turnIt_5 21 rfl rfl)
theorem dX3_turnIt_141 : decode cX3_turnIt 141 = .ok (.iload 4, 2) := dk_21 4 (dk_at dksX3_turnIt_5 22 rfl rfl)
theorem dX3_turnIt_143 : decode cX3_turnIt 143 = .ok (.if_icmp .eq 12, 3) := dk_159 0 12 (dk_at dksX3_turnIt_6 0 rfl rfl)
theorem dX3_turnIt_146 : decode cX3_turnIt 146 = .ok (.aload_n 0, 1) := dk_42 (dk_at dksX3_turnIt_6 3 rfl rfl)
theorem dX3_turnIt_147 : decode cX3_turnIt 147 = .ok (.bipush 7, 2) := dk_16 7 (dk_at dksX3_turnIt_6 4 rfl rfl)
theorem dX3_turnIt_149 : decode cX3_turnIt 149 = .ok (.iload 4, 2) := dk_21 4 (dk_at dksX3_turnIt_6 6 rfl rfl)
theorem dX3_turnIt_151 : decode cX3_turnIt 151 = .ok (.invokevirtual 106, 3) := dk_182 0 106 (dk_at dksX3_turnIt_6 8 rfl rfl)
theorem dX3_turnIt_154 : decode cX3_turnIt 154 = .ok (.ireturn, 1) := dk_172 (dk_at dksX3_turnIt_6 11 rfl rfl)
theorem dX3_turnIt_155 : decode cX3_turnIt 155 = .ok (.aload_n 0, 1) := dk_42 (dk_at dksX3_turnIt_6 12 rfl rfl)
theorem dX3_turnIt_156 : decode cX3_turnIt 156 = .ok (.iload_n 2, 1) := dk_28 (dk_at dksX3_turnIt_6 13 rfl rfl)
theorem dX3_turnIt_157 : decode cX3_turnIt 157 = .ok (.iconst 0, 1) := dk_3 (dk_at dksX3_turnIt_6 14 rfl rfl)
theorem dX3_turnIt_158 : decode cX3_turnIt 158 = .ok (.iconst 1, 1) := dk_4 (dk_at dksX3_turnIt_6 15 rfl rfl)
theorem dX3_turnIt_159 : decode cX3_turnIt 159 = .ok (.invokevirtual 122, 3) := dk_182 0 122 (dk_at dksX3_turnIt_6 16 rfl rfl)
theorem dX3_turnIt_162 : decode cX3_turnIt 162 = .ok (.aload_n 0, 1) := dk_42 (dk_at dksX3_turnIt_6 19 rfl rfl)
theorem dX3_turnIt_163 : decode cX3_turnIt 163 = .ok (.iload_n 1, 1) := dk_27 (dk_at dksX3_turnIt_6 20 rfl rfl)
theorem dX3_turnIt_164 : decode cX3_turnIt 164 = .ok (.iload_n 3, 1) := dk_29 (dk_at dksX3_turnIt_6 21 rfl rfl)
theorem dX3_turnIt_165 : decode cX3_turnIt 165 = .ok (.iconst 0, 1) := dk_3 (dk_at dksX3_turnIt_6 22 rfl rfl)
theorem dX3_turnIt_166 : decode cX3_turnIt 166 = .ok (.invokevirtual 122, 3) := dk_182 0 122 (dk_at dksX3_turnIt_7 0 rfl rfl)
theorem dX3_turnIt_169 : decode cX3_turnIt 169 = .ok (.isub, 1) := dk_100 (dk_at dksX3_turnIt_7 3 rfl rfl)
theorem dX3_turnIt_170 : decode cX3_turnIt 170 = .ok (.bipush 10, 2) := dk_16 10 (dk_at dksX3_turnIt_7 4 rfl rfl)
theorem dX3_turnIt_172 : decode cX3_turnIt 172 = .ok (.isub, 1) := dk_100 (dk_at dksX3_turnIt_7 6 rfl rfl)
theorem dX3_turnIt_173 : decode cX3_turnIt 173 = .ok (.istore 5, 2) := dk_54 5 (dk_at dksX3_turnIt_7 7 rfl rfl)
theorem dX3_turnIt_175 : decode cX3_turnIt 175 = .ok (.iload 5, 2) := dk_21 5 (dk_at dksX3_turnIt_7 9 rfl rfl)
theorem dX3_turnIt_177 : decode cX3_turnIt 177 = .ok (.ifCond .ge 13, 3) := dk_156 0 13 (dk_at dksX3_turnIt_7 11 rfl rfl)
theorem dX3_turnIt_180 : decode cX3_turnIt 180 = .ok (.aload_n 0, 1) := dk_42 (dk_at dksX3_turnIt_7 14 rfl rfl)
theorem dX3_turnIt_181 : decode cX3_turnIt 181 = .ok (.bipush 8, 2) := dk_16 8 (dk_at dksX3_turnIt_7 15 rfl rfl)
theorem dX3_turnIt_183 : decode cX3_turnIt 183 = .ok (.iload 5, 2) := dk_21 5 (dk_at dksX3_turnIt_7 17 rfl rfl)
theorem dX3_turnIt_185 : decode cX3_turnIt 185 = .ok (.ineg, 1) := dk_116 (dk_at dksX3_turnIt_7 19 rfl rfl)
theorem dX3_turnIt_186 : decode cX3_turnIt 186 = .ok (.invokevirtual 106, 3) := dk_182 0 106 (dk_at dksX3_turnIt_7 20 rfl rfl)
theorem dX3_turnIt_189 : decode cX3_turnIt 189 = .ok (.ireturn, 1) := dk_172 (dk_at dksX3_turnIt_7 23 rfl rfl)
theorem dX3_turnIt_190 : decode cX3_turnIt 190 = .ok (.aload_n 0, 1) := dk_42 (dk_at dksX3_turnIt_8 0 rfl rfl)
theorem dX3_turnIt_191 : decode cX3_turnIt 191 = .ok (.getfield 9, 3) := dk_180 0 9 (dk_at dksX3_turnIt_8 1 rfl rfl)
theorem dX3_turnIt_194 : decode cX3_turnIt 194 = .ok (.iconst 4, 1) := dk_7 (dk_at dksX3_turnIt_8 4 rfl rfl)
theorem dX3_turnIt_195 : decode cX3_turnIt 195 = .ok (.iconst 2, 1) := dk_5 (dk_at dksX3_turnIt_8 5 rfl rfl)
theorem dX3_turnIt_196 : decode cX3_turnIt 196 = .ok (.iload_n 1, 1) := dk_27 (dk_at dksX3_turnIt_8 6 rfl rfl)
theorem dX3_turnIt_197 : decode cX3_turnIt 197 = .ok (.imul, 1) := dk_104 (dk_at dksX3_turnIt_8 7 rfl rfl)
theorem dX3_turnIt_198 : decode cX3_turnIt 198 = .ok (.iadd, 1) := dk_96 (dk_at dksX3_turnIt_8 8 rfl rfl)
theorem dX3_turnIt_199 : decode cX3_turnIt 199 = .ok (.iconst 1, 1) := dk_4 (dk_at dksX3_turnIt_8 9 rfl rfl)
theorem dX3_turnIt_200 : decode cX3_turnIt 200 = .ok (.iadd, 1) := dk_96 (dk_at dksX3_turnIt_8 10 rfl rfl)
theorem dX3_turnIt_201 : decode cX3_turnIt 201 = .ok (.iload_n 2, 1) := dk_28 (dk_at dksX3_turnIt_8 11 rfl rfl)
theorem dX3_turnIt_202 : decode cX3_turnIt 202 = .ok (.iconst 1, 1) := dk_4 (dk_at dksX3_turnIt_8 12 rfl rfl)
theorem dX3_turnIt_203 : decode cX3_turnIt 203 = .ok (.iadd, 1) := dk_96 (dk_at dksX3_turnIt_8 13 rfl rfl)
theorem dX3_turnIt_204 : decode cX3_turnIt 204 = .ok (.iastore, 1) := dk_79 (dk_at dksX3_turnIt_8 14 rfl rfl)
theorem dX3_turnIt_205 : decode cX3_turnIt 205 = .ok (.iload 5, 2) := dk_21 5 (dk_at dksX3_turnIt_8 15 rfl rfl)
theorem dX3_turnIt_207 : decode cX3_turnIt 207 = .ok (.ireturn, 1) := dk_172 (dk_at dksX3_turnIt_8 17 rfl rfl)
abbrev cX3_turnsInto : ByteArray := prog_21_method_14_code
def yX3_turnsInto : MethodName := ⟨RX3, "turnsInto", "(I)I"⟩
def dkwX3_turnsInto_1 : List UInt8 := [132, 2, 1, 167, 255, 232, 2, 172]
abbrev dktX3_turnsInto_1 : List UInt8 := dkwX3_turnsInto_1 ++ []
def dkwX3_turnsInto_0 : List UInt8 := [3, 61, 28, 42, 180, 0, 9, 3, 46, 162, 0, 20, 42, 28, 182, 0, 92, 27, 160, 0, 5, 28, 172]
abbrev dktX3_turnsInto_0 : List UInt8 := dkwX3_turnsInto_0 ++ dktX3_turnsInto_1
theorem dksX3_turnsInto_0 : cX3_turnsInto.data.toList.drop 0 = dktX3_turnsInto_0 := by decide +kernel
theorem dksX3_turnsInto_1 : cX3_turnsInto.data.toList.drop 23 = dktX3_turnsInto_1 := dk_seg dksX3_turnsInto_0 23 rfl rfl
theorem dX3_turnsInto_0 : decode cX3_turnsInto 0 = .ok (.iconst 0, 1) := dk_3 (dk_at dksX3_turnsInto_0 0 rfl rfl)
theorem dX3_turnsInto_1 : decode cX3_turnsInto 1 = .ok (.istore_n 2, 1) := dk_61 (dk_at dksX3_turnsInto_0 1 rfl rfl)
theorem dX3_turnsInto_2 : decode cX3_turnsInto 2 = .ok (.iload_n 2, 1) := dk_28 (dk_at dksX3_turnsInto_0 2 rfl rfl)
theorem dX3_turnsInto_3 : decode cX3_turnsInto 3 = .ok (.aload_n 0, 1) := dk_42 (dk_at dksX3_turnsInto_0 3 rfl rfl)
theorem dX3_turnsInto_4 : decode cX3_turnsInto 4 = .ok (.getfield 9, 3) := dk_180 0 9 (dk_at dksX3_turnsInto_0 4 rfl rfl)
theorem dX3_turnsInto_7 : decode cX3_turnsInto 7 = .ok (.iconst 0, 1) := dk_3 (dk_at dksX3_turnsInto_0 7 rfl rfl)
theorem dX3_turnsInto_8 : decode cX3_turnsInto 8 = .ok (.iaload, 1) := dk_46 (dk_at dksX3_turnsInto_0 8 rfl rfl)
theorem dX3_turnsInto_9 : decode cX3_turnsInto 9 = .ok (.if_icmp .ge 20, 3) := dk_162 0 20 (dk_at dksX3_turnsInto_0 9 rfl rfl)
theorem dX3_turnsInto_12 : decode cX3_turnsInto 12 = .ok (.aload_n 0, 1) := dk_42 (dk_at dksX3_turnsInto_0 12 rfl rfl)
theorem dX3_turnsInto_13 : decode cX3_turnsInto 13 = .ok (.iload_n 2, 1) := dk_28 (dk_at dksX3_turnsInto_0 13 rfl rfl)
theorem dX3_turnsInto_14 : decode cX3_turnsInto 14 = .ok (.invokevirtual 92, 3) := dk_182 0 92 (dk_at dksX3_turnsInto_0 14 rfl rfl)
theorem dX3_turnsInto_17 : decode cX3_turnsInto 17 = .ok (.iload_n 1, 1) := dk_27 (dk_at dksX3_turnsInto_0 17 rfl rfl)
theorem dX3_turnsInto_18 : decode cX3_turnsInto 18 = .ok (.if_icmp .ne 5, 3) := dk_160 0 5 (dk_at dksX3_turnsInto_0 18 rfl rfl)
theorem dX3_turnsInto_21 : decode cX3_turnsInto 21 = .ok (.iload_n 2, 1) := dk_28 (dk_at dksX3_turnsInto_0 21 rfl rfl)
theorem dX3_turnsInto_22 : decode cX3_turnsInto 22 = .ok (.ireturn, 1) := dk_172 (dk_at dksX3_turnsInto_0 22 rfl rfl)
theorem dX3_turnsInto_23 : decode cX3_turnsInto 23 = .ok (.iinc 2 1, 3) := dk_132 2 1 (dk_at dksX3_turnsInto_1 0 rfl rfl)
theorem dX3_turnsInto_26 : decode cX3_turnsInto 26 = .ok (.goto (-24), 3) := dk_167 255 232 (dk_at dksX3_turnsInto_1 3 rfl rfl)
theorem dX3_turnsInto_29 : decode cX3_turnsInto 29 = .ok (.iconst (-1), 1) := dk_2 (dk_at dksX3_turnsInto_1 6 rfl rfl)
theorem dX3_turnsInto_30 : decode cX3_turnsInto 30 = .ok (.ireturn, 1) := dk_172 (dk_at dksX3_turnsInto_1 7 rfl rfl)
abbrev cX3_link : ByteArray := prog_21_method_25_code
def yX3_link : MethodName := ⟨RX3, "link", "(IIIIII)I"⟩
def dkwX3_link_2 : List UInt8 := [79, 42, 42, 182, 0, 144, 182, 0, 115, 172]
abbrev dktX3_link_2 : List UInt8 := dkwX3_link_2 ++ []
def dkwX3_link_1 : List UInt8 := [79, 42, 180, 0, 38, 6, 21, 4, 79, 42, 180, 0, 38, 7, 21, 5, 79, 42, 180, 0, 38, 8, 21, 6]
abbrev dktX3_link_1 : List UInt8 := dkwX3_link_1 ++ dktX3_link_2
def dkwX3_link_0 : List UInt8 := [42, 182, 0, 109, 42, 180, 0, 38, 3, 27, 79, 42, 180, 0, 38, 4, 28, 79, 42, 180, 0, 38, 5, 29]
abbrev dktX3_link_0 : List UInt8 := dkwX3_link_0 ++ dktX3_link_1
theorem dksX3_link_0 : cX3_link.data.toList.drop 0 = dktX3_link_0 := by decide +kernel
theorem dksX3_link_1 : cX3_link.data.toList.drop 24 = dktX3_link_1 := dk_seg dksX3_link_0 24 rfl rfl
theorem dksX3_link_2 : cX3_link.data.toList.drop 48 = dktX3_link_2 := dk_seg dksX3_link_1 24 rfl rfl
theorem dX3_link_0 : decode cX3_link 0 = .ok (.aload_n 0, 1) := dk_42 (dk_at dksX3_link_0 0 rfl rfl)
theorem dX3_link_1 : decode cX3_link 1 = .ok (.invokevirtual 109, 3) := dk_182 0 109 (dk_at dksX3_link_0 1 rfl rfl)
theorem dX3_link_4 : decode cX3_link 4 = .ok (.aload_n 0, 1) := dk_42 (dk_at dksX3_link_0 4 rfl rfl)
theorem dX3_link_5 : decode cX3_link 5 = .ok (.getfield 38, 3) := dk_180 0 38 (dk_at dksX3_link_0 5 rfl rfl)
theorem dX3_link_8 : decode cX3_link 8 = .ok (.iconst 0, 1) := dk_3 (dk_at dksX3_link_0 8 rfl rfl)
theorem dX3_link_9 : decode cX3_link 9 = .ok (.iload_n 1, 1) := dk_27 (dk_at dksX3_link_0 9 rfl rfl)
theorem dX3_link_10 : decode cX3_link 10 = .ok (.iastore, 1) := dk_79 (dk_at dksX3_link_0 10 rfl rfl)
theorem dX3_link_11 : decode cX3_link 11 = .ok (.aload_n 0, 1) := dk_42 (dk_at dksX3_link_0 11 rfl rfl)
theorem dX3_link_12 : decode cX3_link 12 = .ok (.getfield 38, 3) := dk_180 0 38 (dk_at dksX3_link_0 12 rfl rfl)
theorem dX3_link_15 : decode cX3_link 15 = .ok (.iconst 1, 1) := dk_4 (dk_at dksX3_link_0 15 rfl rfl)
theorem dX3_link_16 : decode cX3_link 16 = .ok (.iload_n 2, 1) := dk_28 (dk_at dksX3_link_0 16 rfl rfl)
theorem dX3_link_17 : decode cX3_link 17 = .ok (.iastore, 1) := dk_79 (dk_at dksX3_link_0 17 rfl rfl)
theorem dX3_link_18 : decode cX3_link 18 = .ok (.aload_n 0, 1) := dk_42 (dk_at dksX3_link_0 18 rfl rfl)
theorem dX3_link_19 : decode cX3_link 19 = .ok (.getfield 38, 3) := dk_180 0 38 (dk_at dksX3_link_0 19 rfl rfl)
theorem dX3_link_22 : decode cX3_link 22 = .ok (.iconst 2, 1) := dk_5 (dk_at dksX3_link_0 22 rfl rfl)
theorem dX3_link_23 : decode cX3_link 23 = .ok (.iload_n 3, 1) := dk_29 (dk_at dksX3_link_0 23 rfl rfl)
theorem dX3_link_24 : decode cX3_link 24 = .ok (.iastore, 1) := dk_79 (dk_at dksX3_link_1 0 rfl rfl)
theorem dX3_link_25 : decode cX3_link 25 = .ok (.aload_n 0, 1) := dk_42 (dk_at dksX3_link_1 1 rfl rfl)
theorem dX3_link_26 : decode cX3_link 26 = .ok (.getfield 38, 3) := dk_180 0 38 (dk_at dksX3_link_1 2 rfl rfl)
theorem dX3_link_29 : decode cX3_link 29 = .ok (.iconst 3, 1) := dk_6 (dk_at dksX3_link_1 5 rfl rfl)
theorem dX3_link_30 : decode cX3_link 30 = .ok (.iload 4, 2) := dk_21 4 (dk_at dksX3_link_1 6 rfl rfl)
theorem dX3_link_32 : decode cX3_link 32 = .ok (.iastore, 1) := dk_79 (dk_at dksX3_link_1 8 rfl rfl)
theorem dX3_link_33 : decode cX3_link 33 = .ok (.aload_n 0, 1) := dk_42 (dk_at dksX3_link_1 9 rfl rfl)
theorem dX3_link_34 : decode cX3_link 34 = .ok (.getfield 38, 3) := dk_180 0 38 (dk_at dksX3_link_1 10 rfl rfl)
theorem dX3_link_37 : decode cX3_link 37 = .ok (.iconst 4, 1) := dk_7 (dk_at dksX3_link_1 13 rfl rfl)
theorem dX3_link_38 : decode cX3_link 38 = .ok (.iload 5, 2) := dk_21 5 (dk_at dksX3_link_1 14 rfl rfl)
theorem dX3_link_40 : decode cX3_link 40 = .ok (.iastore, 1) := dk_79 (dk_at dksX3_link_1 16 rfl rfl)
theorem dX3_link_41 : decode cX3_link 41 = .ok (.aload_n 0, 1) := dk_42 (dk_at dksX3_link_1 17 rfl rfl)
theorem dX3_link_42 : decode cX3_link 42 = .ok (.getfield 38, 3) := dk_180 0 38 (dk_at dksX3_link_1 18 rfl rfl)
theorem dX3_link_45 : decode cX3_link 45 = .ok (.iconst 5, 1) := dk_8 (dk_at dksX3_link_1 21 rfl rfl)
theorem dX3_link_46 : decode cX3_link 46 = .ok (.iload 6, 2) := dk_21 6 (dk_at dksX3_link_1 22 rfl rfl)
theorem dX3_link_48 : decode cX3_link 48 = .ok (.iastore, 1) := dk_79 (dk_at dksX3_link_2 0 rfl rfl)
theorem dX3_link_49 : decode cX3_link 49 = .ok (.aload_n 0, 1) := dk_42 (dk_at dksX3_link_2 1 rfl rfl)
theorem dX3_link_50 : decode cX3_link 50 = .ok (.aload_n 0, 1) := dk_42 (dk_at dksX3_link_2 2 rfl rfl)
theorem dX3_link_51 : decode cX3_link 51 = .ok (.invokevirtual 144, 3) := dk_182 0 144 (dk_at dksX3_link_2 3 rfl rfl)
theorem dX3_link_54 : decode cX3_link 54 = .ok (.invokevirtual 115, 3) := dk_182 0 115 (dk_at dksX3_link_2 6 rfl rfl)
theorem dX3_link_57 : decode cX3_link 57 = .ok (.ireturn, 1) := dk_172 (dk_at dksX3_link_2 9 rfl rfl)
abbrev cX3_linkIt : ByteArray := prog_21_method_24_code
def yX3_linkIt : MethodName := ⟨RX3, "linkIt", "()I"⟩
def dkwX3_linkIt_16 : List UInt8 := [180, 0, 9, 4, 46, 4, 100, 172]
abbrev dktX3_linkIt_16 : List UInt8 := dkwX3_linkIt_16 ++ []
def dkwX3_linkIt_15 : List UInt8 := [167, 255, 222, 42, 180, 0, 9, 4, 92, 46, 4, 96, 79, 42, 180, 0, 9, 5, 92, 46, 4, 96, 79, 42]
abbrev dktX3_linkIt_15 : List UInt8 := dkwX3_linkIt_15 ++ dktX3_linkIt_16
def dkwX3_linkIt_14 : List UInt8 := [180, 0, 9, 4, 46, 184, 0, 141, 21, 5, 96, 42, 180, 0, 38, 21, 5, 46, 79, 132, 5, 1]
abbrev dktX3_linkIt_14 : List UInt8 := dkwX3_linkIt_14 ++ dktX3_linkIt_15
def dkwX3_linkIt_13 : List UInt8 := [42, 5, 16, 12, 182, 0, 106, 172, 3, 54, 5, 21, 5, 16, 6, 162, 0, 33, 42, 180, 0, 9, 42]
abbrev dktX3_linkIt_13 : List UInt8 := dkwX3_linkIt_13 ++ dktX3_linkIt_14
def dkwX3_linkIt_12 : List UInt8 := [156, 0, 13, 42, 16, 8, 21, 4, 116, 182, 0, 106, 172, 42, 180, 0, 9, 4, 46, 16, 12, 160, 0, 11]
abbrev dktX3_linkIt_12 : List UInt8 := dkwX3_linkIt_12 ++ dktX3_linkIt_13
def dkwX3_linkIt_11 : List UInt8 := [42, 27, 42, 180, 0, 38, 4, 46, 3, 182, 0, 122, 100, 42, 180, 0, 38, 7, 46, 100, 54, 4, 21, 4]
abbrev dktX3_linkIt_11 : List UInt8 := dkwX3_linkIt_11 ++ dktX3_linkIt_12
def dkwX3_linkIt_10 : List UInt8 := [29, 159, 0, 11, 42, 16, 7, 29, 182, 0, 106, 172, 42, 28, 42, 180, 0, 38, 6, 46, 4, 182, 0, 122]
abbrev dktX3_linkIt_10 : List UInt8 := dkwX3_linkIt_10 ++ dktX3_linkIt_11
def dkwX3_linkIt_9 : List UInt8 := [184, 0, 98, 3, 96, 46, 62, 42, 180, 0, 9, 27, 42, 180, 0, 38, 4, 46, 184, 0, 98, 3, 96, 46]
abbrev dktX3_linkIt_9 : List UInt8 := dkwX3_linkIt_9 ++ dktX3_linkIt_10
def dkwX3_linkIt_8 : List UInt8 := [167, 0, 9, 42, 180, 0, 38, 7, 46, 182, 0, 106, 172, 42, 180, 0, 9, 28, 42, 180, 0, 38, 6, 46]
abbrev dktX3_linkIt_8 : List UInt8 := dkwX3_linkIt_8 ++ dktX3_linkIt_9
def dkwX3_linkIt_7 : List UInt8 := [180, 0, 38, 7, 46, 133, 10, 20, 0, 139, 184, 0, 88, 153, 0, 12, 42, 180, 0, 38, 8, 46]
abbrev dktX3_linkIt_7 : List UInt8 := dkwX3_linkIt_7 ++ dktX3_linkIt_8
def dkwX3_linkIt_6 : List UInt8 := [153, 0, 20, 42, 180, 0, 38, 8, 46, 133, 9, 20, 0, 139, 184, 0, 88, 154, 0, 41, 42, 4, 42]
abbrev dktX3_linkIt_6 : List UInt8 := dkwX3_linkIt_6 ++ dktX3_linkIt_7
def dkwX3_linkIt_5 : List UInt8 := [180, 0, 38, 4, 46, 182, 0, 106, 172, 42, 180, 0, 38, 7, 46, 133, 10, 20, 0, 139, 184, 0, 88]
abbrev dktX3_linkIt_5 : List UInt8 := dkwX3_linkIt_5 ++ dktX3_linkIt_6
def dkwX3_linkIt_4 : List UInt8 := [27, 42, 180, 0, 38, 4, 46, 3, 182, 0, 135, 153, 0, 12, 42, 180, 0, 38, 6, 46, 167, 0, 9, 42]
abbrev dktX3_linkIt_4 : List UInt8 := dkwX3_linkIt_4 ++ dktX3_linkIt_5
def dkwX3_linkIt_3 : List UInt8 := [182, 0, 135, 153, 0, 18, 42, 28, 42, 180, 0, 38, 6, 46, 4, 182, 0, 135, 154, 0, 39, 42, 7, 42]
abbrev dktX3_linkIt_3 : List UInt8 := dkwX3_linkIt_3 ++ dktX3_linkIt_4
def dkwX3_linkIt_2 : List UInt8 := [172, 27, 28, 160, 0, 11, 42, 16, 6, 27, 182, 0, 106, 172, 42, 27, 42, 180, 0, 38, 4, 46, 3]
abbrev dktX3_linkIt_2 : List UInt8 := dkwX3_linkIt_2 ++ dktX3_linkIt_3
def dkwX3_linkIt_1 : List UInt8 := [182, 0, 118, 154, 0, 22, 42, 6, 42, 27, 182, 0, 118, 153, 0, 7, 28, 167, 0, 4, 27, 182, 0, 106]
abbrev dktX3_linkIt_1 : List UInt8 := dkwX3_linkIt_1 ++ dktX3_linkIt_2
def dkwX3_linkIt_0 : List UInt8 := [42, 180, 0, 38, 3, 46, 60, 42, 180, 0, 38, 5, 46, 61, 42, 27, 182, 0, 118, 153, 0, 11, 42, 28]
abbrev dktX3_linkIt_0 : List UInt8 := dkwX3_linkIt_0 ++ dktX3_linkIt_1
theorem dksX3_linkIt_0 : cX3_linkIt.data.toList.drop 0 = dktX3_linkIt_0 := by decide +kernel
theorem dksX3_linkIt_1 : cX3_linkIt.data.toList.drop 24 = dktX3_linkIt_1 := dk_seg dksX3_linkIt_0 24 rfl rfl
theorem dksX3_linkIt_2 : cX3_linkIt.data.toList.drop 48 = dktX3_linkIt_2 := dk_seg dksX3_linkIt_1 24 rfl rfl
theorem dksX3_linkIt_3 : cX3_linkIt.data.toList.drop 71 = dktX3_linkIt_3 := dk_seg dksX3_linkIt_2 23 rfl rfl
theorem dksX3_linkIt_4 : cX3_linkIt.data.toList.drop 95 = dktX3_linkIt_4 := dk_seg dksX3_linkIt_3 24 rfl rfl
theorem dksX3_linkIt_5 : cX3_linkIt.data.toList.drop 119 = dktX3_linkIt_5 := dk_seg dksX3_linkIt_4 24 rfl rfl
theorem dksX3_linkIt_6 : cX3_linkIt.data.toList.drop 142 = dktX3_linkIt_6 := dk_seg dksX3_linkIt_5 23 rfl rfl
theorem dksX3_linkIt_7 : cX3_linkIt.data.toList.drop 165 = dktX3_linkIt_7 := dk_seg dksX3_linkIt_6 23 rfl rfl
theorem dksX3_linkIt_8 : cX3_linkIt.data.toList.drop 187 = dktX3_linkIt_8 := dk_seg dksX3_linkIt_7 22 rfl rfl
theorem dksX3_linkIt_9 : cX3_linkIt.data.toList.drop 211 = dktX3_linkIt_9 := dk_seg dksX3_linkIt_8 24 rfl rfl
theorem dksX3_linkIt_10 : cX3_linkIt.data.toList.drop 235 = dktX3_linkIt_10 := dk_seg dksX3_linkIt_9 24 rfl rfl
theorem dksX3_linkIt_11 : cX3_linkIt.data.toList.drop 259 = dktX3_linkIt_11 := dk_seg dksX3_linkIt_10 24 rfl rfl
theorem dksX3_linkIt_12 : cX3_linkIt.data.toList.drop 283 = dktX3_linkIt_12 := dk_seg dksX3_linkIt_11 24 rfl rfl
theorem dksX3_linkIt_13 : cX3_linkIt.data.toList.drop 307 = dktX3_linkIt_13 := dk_seg dksX3_linkIt_12 24 rfl rfl
theorem dksX3_linkIt_14 : cX3_linkIt.data.toList.drop 330 = dktX3_linkIt_14 := dk_seg dksX3_linkIt_13 23 rfl rfl
theorem dksX3_linkIt_15 : cX3_linkIt.data.toList.drop 352 = dktX3_linkIt_15 := dk_seg dksX3_linkIt_14 22 rfl rfl
theorem dksX3_linkIt_16 : cX3_linkIt.data.toList.drop 376 = dktX3_linkIt_16 := dk_seg dksX3_linkIt_15 24 rfl rfl
theorem dX3_linkIt_0 : decode cX3_linkIt 0 = .ok (.aload_n 0, 1) := dk_42 (dk_at dksX3_linkIt_0 0 rfl rfl)
theorem dX3_linkIt_1 : decode cX3_linkIt 1 = .ok (.getfield 38, 3) := dk_180 0 38 (dk_at dksX3_linkIt_0 1 rfl rfl)
theorem dX3_linkIt_4 : decode cX3_linkIt 4 = .ok (.iconst 0, 1) := dk_3 (dk_at dksX3_linkIt_0 4 rfl rfl)
theorem dX3_linkIt_5 : decode cX3_linkIt 5 = .ok (.iaload, 1) := dk_46 (dk_at dksX3_linkIt_0 5 rfl rfl)
theorem dX3_linkIt_6 : decode cX3_linkIt 6 = .ok (.istore_n 1, 1) := dk_60 (dk_at dksX3_linkIt_0 6 rfl rfl)
theorem dX3_linkIt_7 : decode cX3_linkIt 7 = .ok (.aload_n 0, 1) := dk_42 (dk_at dksX3_linkIt_0 7 rfl rfl)
theorem dX3_linkIt_8 : decode cX3_linkIt 8 = .ok (.getfield 38, 3) := dk_180 0 38 (dk_at dksX3_linkIt_0 8 rfl rfl)
theorem dX3_linkIt_11 : decode cX3_linkIt 11 = .ok (.iconst 2, 1) := dk_5 (dk_at dksX3_linkIt_0 11 rfl rfl)
theorem dX3_linkIt_12 : decode cX3_linkIt 12 = .ok (.iaload, 1) := dk_46 (dk_at dksX3_linkIt_0 12 rfl rfl)
theorem dX3_linkIt_13 : decode cX3_linkIt 13 = .ok (.istore_n 2, 1) := dk_61 (dk_at dksX3_linkIt_0 13 rfl rfl)
theorem dX3_linkIt_14 : decode cX3_linkIt 14 = .ok (.aload_n 0, 1) := dk_42 (dk_at dksX3_linkIt_0 14 rfl rfl)
theorem dX3_linkIt_15 : decode cX3_linkIt 15 = .ok (.iload_n 1, 1) := dk_27 (dk_at dksX3_linkIt_0 15 rfl rfl)
theorem dX3_linkIt_16 : decode cX3_linkIt 16 = .ok (.invokevirtual 118, 3) := dk_182 0 118 (dk_at dksX3_linkIt_0 16 rfl rfl)
theorem dX3_linkIt_19 : decode cX3_linkIt 19 = .ok (.ifCond .eq 11, 3) := dk_153 0 11 (dk_at dksX3_linkIt_0 19 rfl rfl)
theorem dX3_linkIt_22 : decode cX3_linkIt 22 = .ok (.aload_n 0, 1) := dk_42 (dk_at dksX3_linkIt_0 22 rfl rfl)
theorem dX3_linkIt_23 : decode cX3_linkIt 23 = .ok (.iload_n 2, 1) := dk_28 (dk_at dksX3_linkIt_0 23 rfl rfl)
theorem dX3_linkIt_24 : decode cX3_linkIt 24 = .ok (.invokevirtual 118, 3) := dk_182 0 118 (dk_at dksX3_linkIt_1 0 rfl rfl)
theorem dX3_linkIt_27 : decode cX3_linkIt 27 = .ok (.ifCond .ne 22, 3) := dk_154 0 22 (dk_at dksX3_linkIt_1 3 rfl rfl)
theorem dX3_linkIt_30 : decode cX3_linkIt 30 = .ok (.aload_n 0, 1) := dk_42 (dk_at dksX3_linkIt_1 6 rfl rfl)
theorem dX3_linkIt_31 : decode cX3_linkIt 31 = .ok (.iconst 3, 1) := dk_6 (dk_at dksX3_linkIt_1 7 rfl rfl)
theorem dX3_linkIt_32 : decode cX3_linkIt 32 = .ok (.aload_n 0, 1) := dk_42 (dk_at dksX3_linkIt_1 8 rfl rfl)
theorem dX3_linkIt_33 : decode cX3_linkIt 33 = .ok (.iload_n 1, 1) := dk_27 (dk_at dksX3_linkIt_1 9 rfl rfl)
theorem dX3_linkIt_34 : decode cX3_linkIt 34 = .ok (.invokevirtual 118, 3) := dk_182 0 118 (dk_at dksX3_linkIt_1 10 rfl rfl)
theorem dX3_linkIt_37 : decode cX3_linkIt 37 = .ok (.ifCond .eq 7, 3) := dk_153 0 7 (dk_at dksX3_linkIt_1 13 rfl rfl)
theorem dX3_linkIt_40 : decode cX3_linkIt 40 = .ok (.iload_n 2, 1) := dk_28 (dk_at dksX3_linkIt_1 16 rfl rfl)
theorem dX3_linkIt_41 : decode cX3_linkIt 41 = .ok (.goto 4, 3) := dk_167 0 4 (dk_at dksX3_linkIt_1 17 rfl rfl)
theorem dX3_linkIt_44 : decode cX3_linkIt 44 = .ok (.iload_n 1, 1) := dk_27 (dk_at dksX3_linkIt_1 20 rfl rfl)
theorem dX3_linkIt_45 : decode cX3_linkIt 45 = .ok (.invokevirtual 106, 3) := dk_182 0 106 (dk_at dksX3_linkIt_1 21 rfl rfl)
theorem dX3_linkIt_48 : decode cX3_linkIt 48 = .ok (.ireturn, 1) := dk_172 (dk_at dksX3_linkIt_2 0 rfl rfl)
theorem dX3_linkIt_49 : decode cX3_linkIt 49 = .ok (.iload_n 1, 1) := dk_27 (dk_at dksX3_linkIt_2 1 rfl rfl)
theorem dX3_linkIt_50 : decode cX3_linkIt 50 = .ok (.iload_n 2, 1) := dk_28 (dk_at dksX3_linkIt_2 2 rfl rfl)
theorem dX3_linkIt_51 : decode cX3_linkIt 51 = .ok (.if_icmp .ne 11, 3) := dk_160 0 11 (dk_at dksX3_linkIt_2 3 rfl rfl)
theorem dX3_linkIt_54 : decode cX3_linkIt 54 = .ok (.aload_n 0, 1) := dk_42 (dk_at dksX3_linkIt_2 6 rfl rfl)
theorem dX3_linkIt_55 : decode cX3_linkIt 55 = .ok (.bipush 6, 2) := dk_16 6 (dk_at dksX3_linkIt_2 7 rfl rfl)
theorem dX3_linkIt_57 : decode cX3_linkIt 57 = .ok (.iload_n 1, 1) := dk_27 (dk_at dksX3_linkIt_2 9 rfl rfl)
theorem dX3_linkIt_58 : decode cX3_linkIt 58 = .ok (.invokevirtual 106, 3) := dk_182 0 106 (dk_at dksX3_linkIt_2 10 rfl rfl)
theorem dX3_linkIt_61 : decode cX3_linkIt 61 = .ok (.ireturn, 1) := dk_172 (dk_at dksX3_linkIt_2 13 rfl rfl)
theorem dX3_linkIt_62 : decode cX3_linkIt 62 = .ok (.aload_n 0, 1) := dk_42 (dk_at dksX3_linkIt_2 14 rfl rfl)
theorem dX3_linkIt_63 : decode cX3_linkIt 63 = .ok (.iload_n 1, 1) := dk_27 (dk_at dksX3_linkIt_2 15 rfl rfl)
theorem dX3_linkIt_64 : decode cX3_linkIt 64 = .ok (.aload_n 0, 1) := dk_42 (dk_at dksX3_linkIt_2 16 rfl rfl)
theorem dX3_linkIt_65 : decode cX3_linkIt 65 = .ok (.getfield 38, 3) := dk_180 0 38 (dk_at dksX3_linkIt_2 17 rfl rfl)
theorem dX3_linkIt_68 : decode cX3_linkIt 68 = .ok (.iconst 1, 1) := dk_4 (dk_at dksX3_linkIt_2 20 rfl rfl)
theorem dX3_linkIt_69 : decode cX3_linkIt 69 = .ok (.iaload, 1) := dk_46 (dk_at dksX3_linkIt_2 21 rfl rfl)
theorem dX3_linkIt_70 : decode cX3_linkIt 70 = .ok (.iconst 0, 1) := dk_3 (dk_at dksX3_linkIt_2 22 rfl rfl)
theorem dX3_linkIt_71 : decode cX3_linkIt 71 = .ok (.invokevirtual 135, 3) := dk_182 0 135 (dk_at dksX3_linkIt_3 0 rfl rfl)
theorem dX3_linkIt_74 : decode cX3_linkIt 74 = .ok (.ifCond .eq 18, 3) := dk_153 0 18 (dk_at dksX3_linkIt_3 3 rfl rfl)
theorem dX3_linkIt_77 : decode cX3_linkIt 77 = .ok (.aload_n 0, 1) := dk_42 (dk_at dksX3_linkIt_3 6 rfl rfl)
theorem dX3_linkIt_78 : decode cX3_linkIt 78 = .ok (.iload_n 2, 1) := dk_28 (dk_at dksX3_linkIt_3 7 rfl rfl)
theorem dX3_linkIt_79 : decode cX3_linkIt 79 = .ok (.aload_n 0, 1) := dk_42 (dk_at dksX3_linkIt_3 8 rfl rfl)
theorem dX3_linkIt_80 : decode cX3_linkIt 80 = .ok (.getfield 38, 3) := dk_180 0 38 (dk_at dksX3_linkIt_3 9 rfl rfl)
theorem dX3_linkIt_83 : decode cX3_linkIt 83 = .ok (.iconst 3, 1) := dk_6 (dk_at dksX3_linkIt_3 12 rfl rfl)
theorem dX3_linkIt_84 : decode cX3_linkIt 84 = .ok (.iaload, 1) := dk_46 (dk_at dksX3_linkIt_3 13 rfl rfl)
theorem dX3_linkIt_85 : decode cX3_linkIt 85 = .ok (.iconst 1, 1) := dk_4 (dk_at dksX3_linkIt_3 14 rfl rfl)
theorem dX3_linkIt_86 : decode cX3_linkIt 86 = .ok (.invokevirtual 135, 3) := dk_182 0 135 (dk_at dksX3_linkIt_3 15 rfl rfl)
theorem dX3_linkIt_89 : decode cX3_linkIt 89 = .ok (.ifCond .ne 39, 3) := dk_154 0 39 (dk_at dksX3_linkIt_3 18 rfl rfl)
theorem dX3_linkIt_92 : decode cX3_linkIt 92 = .ok (.aload_n 0, 1) := dk_42 (dk_at dksX3_linkIt_3 21 rfl rfl)
theorem dX3_linkIt_93 : decode cX3_linkIt 93 = .ok (.iconst 4, 1) := dk_7 (dk_at dksX3_linkIt_3 22 rfl rfl)
theorem dX3_linkIt_94 : decode cX3_linkIt 94 = .ok (.aload_n 0, 1) := dk_42 (dk_at dksX3_linkIt_3 23 rfl rfl)
theorem dX3_linkIt_95 : decode cX3_linkIt 95 = .ok (.iload_n 1, 1) := dk_27 (dk_at dksX3_linkIt_4 0 rfl rfl)
theorem dX3_linkIt_96 : decode cX3_linkIt 96 = .ok (.aload_n 0, 1) := dk_42 (dk_at dksX3_linkIt_4 1 rfl rfl)
theorem dX3_linkIt_97 : decode cX3_linkIt 97 = .ok (.getfield 38, 3) := dk_180 0 38 (dk_at dksX3_linkIt_4 2 rfl rfl)
theorem dX3_linkIt_100 : decode cX3_linkIt 100 = .ok (.iconst 1, 1) := dk_4 (dk_at dksX3_linkIt_4 5 rfl rfl)
theorem dX3_linkIt_101 : decode cX3_linkIt 101 = .ok (.iaload, 1) := dk_46 (dk_at dksX3_linkIt_4 6 rfl rfl)
theorem dX3_linkIt_102 : decode cX3_linkIt 102 = .ok (.iconst 0, 1) := dk_3 (dk_at dksX3_linkIt_4 7 rfl rfl)
theorem dX3_linkIt_103 : decode cX3_linkIt 103 = .ok (.invokevirtual 135, 3) := dk_182 0 135 (dk_at dksX3_linkIt_4 8 rfl rfl)
theorem dX3_linkIt_106 : decode cX3_linkIt 106 = .ok (.ifCond .eq 12, 3) := dk_153 0 12 (dk_at dksX3_linkIt_4 11 rfl rfl)
theorem dX3_linkIt_109 : decode cX3_linkIt 109 = .ok (.aload_n 0, 1) := dk_42 (dk_at dksX3_linkIt_4 14 rfl rfl)
theorem dX3_linkIt_110 : decode cX3_linkIt 110 = .ok (.getfield 38, 3) := dk_180 0 38 (dk_at dksX3_linkIt_4 15 rfl rfl)
theorem dX3_linkIt_113 : decode cX3_linkIt 113 = .ok (.iconst 3, 1) := dk_6 (dk_at dksX3_linkIt_4 18 rfl rfl)
theorem dX3_linkIt_114 : decode cX3_linkIt 114 = .ok (.iaload, 1) := dk_46 (dk_at dksX3_linkIt_4 19 rfl rfl)
theorem dX3_linkIt_115 : decode cX3_linkIt 115 = .ok (.goto 9, 3) := dk_167 0 9 (dk_at dksX3_linkIt_4 20 rfl rfl)
theorem dX3_linkIt_118 : decode cX3_linkIt 118 = .ok (.aload_n 0, 1) := dk_42 (dk_at dksX3_linkIt_4 23 rfl rfl)
theorem dX3_linkIt_119 : decode cX3_linkIt 119 = .ok (.getfield 38, 3) := dk_180 0 38 (dk_at dksX3_linkIt_5 0 rfl rfl)
theorem dX3_linkIt_122 : decode cX3_linkIt 122 = .ok (.iconst 1, 1) := dk_4 (dk_at dksX3_linkIt_5 3 rfl rfl)
theorem dX3_linkIt_123 : decode cX3_linkIt 123 = .ok (.iaload, 1) := dk_46 (dk_at dksX3_linkIt_5 4 rfl rfl)
theorem dX3_linkIt_124 : decode cX3_linkIt 124 = .ok (.invokevirtual 106, 3) := dk_182 0 106 (dk_at dksX3_linkIt_5 5 rfl rfl)
theorem dX3_linkIt_127 : decode cX3_linkIt 127 = .ok (.ireturn, 1) := dk_172 (dk_at dksX3_linkIt_5 8 rfl rfl)
theorem dX3_linkIt_128 : decode cX3_linkIt 128 = .ok (.aload_n 0, 1) := dk_42 (dk_at dksX3_linkIt_5 9 rfl rfl)
theorem dX3_linkIt_129 : decode cX3_linkIt 129 = .ok (.getfield 38, 3) := dk_180 0 38 (dk_at dksX3_linkIt_5 10 rfl rfl)
theorem dX3_linkIt_132 : decode cX3_linkIt 132 = .ok (.iconst 4, 1) := dk_7 (dk_at dksX3_linkIt_5 13 rfl rfl)
theorem dX3_linkIt_133 : decode cX3_linkIt 133 = .ok (.iaload, 1) := dk_46 (dk_at dksX3_linkIt_5 14 rfl rfl)
theorem dX3_linkIt_134 : decode cX3_linkIt 134 = .ok (.i2l, 1) := dk_133 (dk_at dksX3_linkIt_5 15 rfl rfl)
theorem dX3_linkIt_135 : decode cX3_linkIt 135 = .ok (.lconst 1, 1) := dk_10 (dk_at dksX3_linkIt_5 16 rfl rfl)
theorem dX3_linkIt_136 : decode cX3_linkIt 136 = .ok (.ldc2_w 139, 3) := dk_20 0 139 (dk_at dksX3_linkIt_5 17 rfl rfl)
theorem dX3_linkIt_139 : decode cX3_linkIt 139 = .ok (.invokestatic 88, 3) := dk_184 0 88 (dk_at dksX3_linkIt_5 20 rfl rfl)
theorem dX3_linkIt_142 : decode cX3_linkIt 142 = .ok (.ifCond .eq 20, 3) := dk_153 0 20 (dk_at dksX3_linkIt_6 0 rfl rfl)
theorem dX3_linkIt_145 : decode cX3_linkIt 145 = .ok (.aload_n 0, 1) := dk_42 (dk_at dksX3_linkIt_6 3 rfl rfl)
theorem dX3_linkIt_146 : decode cX3_linkIt 146 = .ok (.getfield 38, 3) := dk_180 0 38 (dk_at dksX3_linkIt_6 4 rfl rfl)
theorem dX3_linkIt_149 : decode cX3_linkIt 149 = .ok (.iconst 5, 1) := dk_8 (dk_at dksX3_linkIt_6 7 rfl rfl)
theorem dX3_linkIt_150 : decode cX3_linkIt 150 = .ok (.iaload, 1) := dk_46 (dk_at dksX3_linkIt_6 8 rfl rfl)
theorem dX3_linkIt_151 : decode cX3_linkIt 151 = .ok (.i2l, 1) := dk_133 (dk_at dksX3_linkIt_6 9 rfl rfl)
theorem dX3_linkIt_152 : decode cX3_linkIt 152 = .ok (.lconst 0, 1) := dk_9 (dk_at dksX3_linkIt_6 10 rfl rfl)
theorem dX3_linkIt_153 : decode cX3_linkIt 153 = .ok (.ldc2_w 139, 3) := dk_20 0 139 (dk_at dksX3_linkIt_6 11 rfl rfl)
theorem dX3_linkIt_156 : decode cX3_linkIt 156 = .ok (.invokestatic 88, 3) := dk_184 0 88 (dk_at dksX3_linkIt_6 14 rfl rfl)
theorem dX3_linkIt_159 : decode cX3_linkIt 159 = .ok (.ifCond .ne 41, 3) := dk_154 0 41 (dk_at dksX3_linkIt_6 17 rfl rfl)
theorem dX3_linkIt_162 : decode cX3_linkIt 162 = .ok (.aload_n 0, 1) := dk_42 (dk_at dksX3_linkIt_6 20 rfl rfl)
theorem dX3_linkIt_163 : decode cX3_linkIt 163 = .ok (.iconst 1, 1) := dk_4 (dk_at dksX3_linkIt_6 21 rfl rfl)
theorem dX3_linkIt_164 : decode cX3_linkIt 164 = .ok (.aload_n 0, 1) := dk_42 (dk_at dksX3_linkIt_6 22 rfl rfl)
theorem dX3_linkIt_165 : decode cX3_linkIt 165 = .ok (.getfield 38, 3) := dk_180 0 38 (dk_at dksX3_linkIt_7 0 rfl rfl)
theorem dX3_linkIt_168 : decode cX3_linkIt 168 = .ok (.iconst 4, 1) := dk_7 (dk_at dksX3_linkIt_7 3 rfl rfl)
theorem dX3_linkIt_169 : decode cX3_linkIt 169 = .ok (.iaload, 1) := dk_46 (dk_at dksX3_linkIt_7 4 rfl rfl)
theorem dX3_linkIt_170 : decode cX3_linkIt 170 = .ok (.i2l, 1) := dk_133 (dk_at dksX3_linkIt_7 5 rfl rfl)
theorem dX3_linkIt_171 : decode cX3_linkIt 171 = .ok (.lconst 1, 1) := dk_10 (dk_at dksX3_linkIt_7 6 rfl rfl)
theorem dX3_linkIt_172 : decode cX3_linkIt 172 = .ok (.ldc2_w 139, 3) := dk_20 0 139 (dk_at dksX3_linkIt_7 7 rfl rfl)
theorem dX3_linkIt_175 : decode cX3_linkIt 175 = .ok (.invokestatic 88, 3) := dk_184 0 88 (dk_at dksX3_linkIt_7 10 rfl rfl)
theorem dX3_linkIt_178 : decode cX3_linkIt 178 = .ok (.ifCond .eq 12, 3) := dk_153 0 12 (dk_at dksX3_linkIt_7 13 rfl rfl)
theorem dX3_linkIt_181 : decode cX3_linkIt 181 = .ok (.aload_n 0, 1) := dk_42 (dk_at dksX3_linkIt_7 16 rfl rfl)
theorem dX3_linkIt_182 : decode cX3_linkIt 182 = .ok (.getfield 38, 3) := dk_180 0 38 (dk_at dksX3_linkIt_7 17 rfl rfl)
theorem dX3_linkIt_185 : decode cX3_linkIt 185 = .ok (.iconst 5, 1) := dk_8 (dk_at dksX3_linkIt_7 20 rfl rfl)
theorem dX3_linkIt_186 : decode cX3_linkIt 186 = .ok (.iaload, 1) := dk_46 (dk_at dksX3_linkIt_7 21 rfl rfl)
theorem dX3_linkIt_187 : decode cX3_linkIt 187 = .ok (.goto 9, 3) := dk_167 0 9 (dk_at dksX3_linkIt_8 0 rfl rfl)
theorem dX3_linkIt_190 : decode cX3_linkIt 190 = .ok (.aload_n 0, 1) := dk_42 (dk_at dksX3_linkIt_8 3 rfl rfl)
theorem dX3_linkIt_191 : decode cX3_linkIt 191 = .ok (.getfield 38, 3) := dk_180 0 38 (dk_at dksX3_linkIt_8 4 rfl rfl)
theorem dX3_linkIt_194 : decode cX3_linkIt 194 = .ok (.iconst 4, 1) := dk_7 (dk_at dksX3_linkIt_8 7 rfl rfl)
theorem dX3_linkIt_195 : decode cX3_linkIt 195 = .ok (.iaload, 1) := dk_46 (dk_at dksX3_linkIt_8 8 rfl rfl)
theorem dX3_linkIt_196 : decode cX3_linkIt 196 = .ok (.invokevirtual 106, 3) := dk_182 0 106 (dk_at dksX3_linkIt_8 9 rfl rfl)
theorem dX3_linkIt_199 : decode cX3_linkIt 199 = .ok (.ireturn, 1) := dk_172 (dk_at dksX3_linkIt_8 12 rfl rfl)
theorem dX3_linkIt_200 : decode cX3_linkIt 200 = .ok (.aload_n 0, 1) := dk_42 (dk_at dksX3_linkIt_8 13 rfl rfl)
theorem dX3_linkIt_201 : decode cX3_linkIt 201 = .ok (.getfield 9, 3) := dk_180 0 9 (dk_at dksX3_linkIt_8 14 rfl rfl)
theorem dX3_linkIt_204 : decode cX3_linkIt 204 = .ok (.iload_n 2, 1) := dk_28 (dk_at dksX3_linkIt_8 17 rfl rfl)
theorem dX3_linkIt_205 : decode cX3_linkIt 205 = .ok (.aload_n 0, 1) := dk_42 (dk_at dksX3_linkIt_8 18 rfl rfl)
theorem dX3_linkIt_206 : decode cX3_linkIt 206 = .ok (.getfield 38, 3) := dk_180 0 38 (dk_at dksX3_linkIt_8 19 rfl rfl)
theorem dX3_linkIt_209 : decode cX3_linkIt 209 = .ok (.iconst 3, 1) := dk_6 (dk_at dksX3_linkIt_8 22 rfl rfl)
theorem dX3_linkIt_210 : decode cX3_linkIt 210 = .ok (.iaload, 1) := dk_46 (dk_at dksX3_linkIt_8 23 rfl rfl)
theorem dX3_linkIt_211 : decode cX3_linkIt 211 = .ok (.invokestatic 98, 3) := dk_184 0 98 (dk_at dksX3_linkIt_9 0 rfl rfl)
theorem dX3_linkIt_214 : decode cX3_linkIt 214 = .ok (.iconst 0, 1) := dk_3 (dk_at dksX3_linkIt_9 3 rfl rfl)
theorem dX3_linkIt_215 : decode cX3_linkIt 215 = .ok (.iadd, 1) := dk_96 (dk_at dksX3_linkIt_9 4 rfl rfl)
theorem dX3_linkIt_216 : decode cX3_linkIt 216 = .ok (.iaload, 1) := dk_46 (dk_at dksX3_linkIt_9 5 rfl rfl)
theorem dX3_linkIt_217 : decode cX3_linkIt 217 = .ok (.istore_n 3, 1) := dk_62 (dk_at dksX3_linkIt_9 6 rfl rfl)
theorem dX3_linkIt_218 : decode cX3_linkIt 218 = .ok (.aload_n 0, 1) := dk_42 (dk_at dksX3_linkIt_9 7 rfl rfl)
theorem dX3_linkIt_219 : decode cX3_linkIt 219 = .ok (.getfield 9, 3) := dk_180 0 9 (dk_at dksX3_linkIt_9 8 rfl rfl)
theorem dX3_linkIt_222 : decode cX3_linkIt 222 = .ok (.iload_n 1, 1) := dk_27 (dk_at dksX3_linkIt_9 11 rfl rfl)
theorem dX3_linkIt_223 : decode cX3_linkIt 223 = .ok (.aload_n 0, 1) := dk_42 (dk_at dksX3_linkIt_9 12 rfl rfl)
theorem dX3_linkIt_224 : decode cX3_linkIt 224 = .ok (.getfield 38, 3) := dk_180 0 38 (dk_at dksX3_linkIt_9 13 rfl rfl)
theorem dX3_linkIt_227 : decode cX3_linkIt 227 = .ok (.iconst 1, 1) := dk_4 (dk_at dksX3_linkIt_9 16 rfl rfl)
theorem dX3_linkIt_228 : decode cX3_linkIt 228 = .ok (.iaload, 1) := dk_46 (dk_at dksX3_linkIt_9 17 rfl rfl)
theorem dX3_linkIt_229 : decode cX3_linkIt 229 = .ok (.invokestatic 98, 3) := dk_184 0 98 (dk_at dksX3_linkIt_9 18 rfl rfl)
theorem dX3_linkIt_232 : decode cX3_linkIt 232 = .ok (.iconst 0, 1) := dk_3 (dk_at dksX3_linkIt_9 21 rfl rfl)
theorem dX3_linkIt_233 : decode cX3_linkIt 233 = .ok (.iadd, 1) := dk_96 (dk_at dksX3_linkIt_9 22 rfl rfl)
theorem dX3_linkIt_234 : decode cX3_linkIt 234 = .ok (.iaload, 1) := dk_46 (dk_at dksX3_linkIt_9 23 rfl rfl)
theorem dX3_linkIt_235 : decode cX3_linkIt 235 = .ok (.iload_n 3, 1) := dk_29 (dk_at dksX3_linkIt_10 0 rfl rfl)
theorem dX3_linkIt_236 : decode cX3_linkIt 236 = .ok (.if_icmp .eq 11, 3) := dk_159 0 11 (dk_at dksX3_linkIt_10 1 rfl rfl)
theorem dX3_linkIt_239 : decode cX3_linkIt 239 = .ok (.aload_n 0, 1) := dk_42 (dk_at dksX3_linkIt_10 4 rfl rfl)
theorem dX3_linkIt_240 : decode cX3_linkIt 240 = .ok (.bipush 7, 2) := dk_16 7 (dk_at dksX3_linkIt_10 5 rfl rfl)
theorem dX3_linkIt_242 : decode cX3_linkIt 242 = .ok (.iload_n 3, 1) := dk_29 (dk_at dksX3_linkIt_10 7 rfl rfl)
theorem dX3_linkIt_243 : decode cX3_linkIt 243 = .ok (.invokevirtual 106, 3) := dk_182 0 106 (dk_at dksX3_linkIt_10 8 rfl rfl)
theorem dX3_linkIt_246 : decode cX3_linkIt 246 = .ok (.ireturn, 1) := dk_172 (dk_at dksX3_linkIt_10 11 rfl rfl)
theorem dX3_linkIt_247 : decode cX3_linkIt 247 = .ok (.aload_n 0, 1) := dk_42 (dk_at dksX3_linkIt_10 12 rfl rfl)
theorem dX3_linkIt_248 : decode cX3_linkIt 248 = .ok (.iload_n 2, 1) := dk_28 (dk_at dksX3_linkIt_10 13 rfl rfl)
theorem dX3_linkIt_249 : decode cX3_linkIt 249 = .ok (.aload_n 0, 1) := dk_42 (dk_at dksX3_linkIt_10 14 rfl rfl)
theorem dX3_linkIt_250 : decode cX3_linkIt 250 = .ok (.getfield 38, 3) := dk_180 0 38 (dk_at dksX3_linkIt_10 15 rfl rfl)
theorem dX3_linkIt_253 : decode cX3_linkIt 253 = .ok (.iconst 3, 1) := dk_6 (dk_at dksX3_linkIt_10 18 rfl rfl)
theorem dX3_linkIt_254 : decode cX3_linkIt 254 = .ok (.iaload, 1) := dk_46 (dk_at dksX3_linkIt_10 19 rfl rfl)
theorem dX3_linkIt_255 : decode cX3_linkIt 255 = .ok (.iconst 1, 1) := dk_4 (dk_at dksX3_linkIt_10 20 rfl rfl)
theorem dX3_linkIt_256 : decode cX3_linkIt 256 = .ok (.invokevirtual 122, 3) := dk_182 0 122 (dk_at dksX3_linkIt_10 21 rfl rfl)
theorem dX3_linkIt_259 : decode cX3_linkIt 259 = .ok (.aload_n 0, 1) := dk_42 (dk_at dksX3_linkIt_11 0 rfl rfl)
theorem dX3_linkIt_260 : decode cX3_linkIt 260 = .ok (.iload_n 1, 1) := dk_27 (dk_at dksX3_linkIt_11 1 rfl rfl)
theorem dX3_linkIt_261 : decode cX3_linkIt 261 = .ok (.aload_n 0, 1) := dk_42 (dk_at dksX3_linkIt_11 2 rfl rfl)
theorem dX3_linkIt_262 : decode cX3_linkIt 262 = .ok (.getfield 38, 3) := dk_180 0 38 (dk_at dksX3_linkIt_11 3 rfl rfl)
theorem dX3_linkIt_265 : decode cX3_linkIt 265 = .ok (.iconst 1, 1) := dk_4 (dk_at dksX3_linkIt_11 6 rfl rfl)
theorem dX3_linkIt_266 : decode cX3_linkIt 266 = .ok (.iaload, 1) := dk_46 (dk_at dksX3_linkIt_11 7 rfl rfl)
theorem dX3_linkIt_267 : decode cX3_linkIt 267 = .ok (.iconst 0, 1) := dk_3 (dk_at dksX3_linkIt_11 8 rfl rfl)
theorem dX3_linkIt_268 : decode cX3_linkIt 268 = .ok (.invokevirtual 122, 3) := dk_182 0 122 (dk_at dksX3_linkIt_11 9 rfl rfl)
theorem dX3_linkIt_271 : decode cX3_linkIt 271 = .ok (.isub, 1) := dk_100 (dk_at dksX3_linkIt_11 12 rfl rfl)
theorem dX3_linkIt_272 : decode cX3_linkIt 272 = .ok (.aload_n 0, 1) := dk_42 (dk_at dksX3_linkIt_11 13 rfl rfl)
theorem dX3_linkIt_273 : decode cX3_linkIt 273 = .ok (.getfield 38, 3) := dk_180 0 38 (dk_at dksX3_linkIt_11 14 rfl rfl)
theorem dX3_linkIt_276 : decode cX3_linkIt 276 = .ok (.iconst 4, 1) := dk_7 (dk_at dksX3_linkIt_11 17 rfl rfl)
theorem dX3_linkIt_277 : decode cX3_linkIt 277 = .ok (.iaload, 1) := dk_46 (dk_at dksX3_linkIt_11 18 rfl rfl)
theorem dX3_linkIt_278 : decode cX3_linkIt 278 = .ok (.isub, 1) := dk_100 (dk_at dksX3_linkIt_11 19 rfl rfl)
theorem dX3_linkIt_279 : decode cX3_linkIt 279 = .ok (.istore 4, 2) := dk_54 4 (dk_at dksX3_linkIt_11 20 rfl rfl)
theorem dX3_linkIt_281 : decode cX3_linkIt 281 = .ok (.iload 4, 2) := dk_21 4 (dk_at dksX3_linkIt_11 22 rfl rfl)
theorem dX3_linkIt_283 : decode cX3_linkIt 283 = .ok (.ifCond .ge 13, 3) := dk_156 0 13 (dk_at dksX3_linkIt_12 0 rfl rfl)
theorem dX3_linkIt_286 : decode cX3_linkIt 286 = .ok (.aload_n 0, 1) := dk_42 (dk_at dksX3_linkIt_12 3 rfl rfl)
theorem dX3_linkIt_287 : decode cX3_linkIt 287 = .ok (.bipush 8, 2) := dk_16 8 (dk_at dksX3_linkIt_12 4 rfl rfl)
theorem dX3_linkIt_289 : decode cX3_linkIt 289 = .ok (.iload 4, 2) := dk_21 4 (dk_at dksX3_linkIt_12 6 rfl rfl)
theorem dX3_linkIt_291 : decode cX3_linkIt 291 = .ok (.ineg, 1) := dk_116 (dk_at dksX3_linkIt_12 8 rfl rfl)
theorem dX3_linkIt_292 : decode cX3_linkIt 292 = .ok (.invokevirtual 106, 3) := dk_182 0 106 (dk_at dksX3_linkIt_12 9 rfl rfl)
theorem dX3_linkIt_295 : decode cX3_linkIt 295 = .ok (.ireturn, 1) := dk_172 (dk_at dksX3_linkIt_12 12 rfl rfl)
theorem dX3_linkIt_296 : decode cX3_linkIt 296 = .ok (.aload_n 0, 1) := dk_42 (dk_at dksX3_linkIt_12 13 rfl rfl)
theorem dX3_linkIt_297 : decode cX3_linkIt 297 = .ok (.getfield 9, 3) := dk_180 0 9 (dk_at dksX3_linkIt_12 14 rfl rfl)
theorem dX3_linkIt_300 : decode cX3_linkIt 300 = .ok (.iconst 1, 1) := dk_4 (dk_at dksX3_linkIt_12 17 rfl rfl)
theorem dX3_linkIt_301 : decode cX3_linkIt 301 = .ok (.iaload, 1) := dk_46 (dk_at dksX3_linkIt_12 18 rfl rfl)
theorem dX3_linkIt_302 : decode cX3_linkIt 302 = .ok (.bipush 12, 2) := dk_16 12 (dk_at dksX3_linkIt_12 19 rfl rfl)
theorem dX3_linkIt_304 : decode cX3_linkIt 304 = .ok (.if_icmp .ne 11, 3) := dk_160 0 11 (dk_at dksX3_linkIt_12 21 rfl rfl)
theorem dX3_linkIt_307 : decode cX3_linkIt 307 = .ok (.aload_n 0, 1) := dk_42 (dk_at dksX3_linkIt_13 0 rfl rfl)
theorem dX3_linkIt_308 : decode cX3_linkIt 308 = .ok (.iconst 2, 1) := dk_5 (dk_at dksX3_linkIt_13 1 rfl rfl)
theorem dX3_linkIt_309 : decode cX3_linkIt 309 = .ok (.bipush 12, 2) := dk_16 12 (dk_at dksX3_linkIt_13 2 rfl rfl)
theorem dX3_linkIt_311 : decode cX3_linkIt 311 = .ok (.invokevirtual 106, 3) := dk_182 0 106 (dk_at dksX3_linkIt_13 4 rfl rfl)
theorem dX3_linkIt_314 : decode cX3_linkIt 314 = .ok (.ireturn, 1) := dk_172 (dk_at dksX3_linkIt_13 7 rfl rfl)
theorem dX3_linkIt_315 : decode cX3_linkIt 315 = .ok (.iconst 0, 1) := dk_3 (dk_at dksX3_linkIt_13 8 rfl rfl)
theorem dX3_linkIt_316 : decode cX3_linkIt 316 = .ok (.istore 5, 2) := dk_54 5 (dk_at dksX3_linkIt_13 9 rfl rfl)
theorem dX3_linkIt_318 : decode cX3_linkIt 318 = .ok (.iload 5, 2) := dk_21 5 (dk_at dksX3_linkIt_13 11 rfl rfl)
theorem dX3_linkIt_320 : decode cX3_linkIt 320 = .ok (.bipush 6, 2) := dk_16 6 (dk_at dksX3_linkIt_13 13 rfl rfl)
theorem dX3_linkIt_322 : decode cX3_linkIt 322 = .ok (.if_icmp .ge 33, 3) := dk_162 0 33 (dk_at dksX3_linkIt_13 15 rfl rfl)
theorem dX3_linkIt_325 : decode cX3_linkIt 325 = .ok (.aload_n 0, 1) := dk_42 (dk_at dksX3_linkIt_13 18 rfl rfl)
theorem dX3_linkIt_326 : decode cX3_linkIt 326 = .ok (.getfield 9, 3) := dk_180 0 9 (dk_at dksX3_linkIt_13 19 rfl rfl)
theorem dX3_linkIt_329 : decode cX3_linkIt 329 = .ok (.aload_n 0, 1) := dk_42 (dk_at dksX3_linkIt_13 22 rfl rfl)
theorem dX3_linkIt_330 : decode cX3_linkIt 330 = .ok (.getfield 9, 3) := dk_180 0 9 (dk_at dksX3_linkIt_14 0 rfl rfl)
theorem dX3_linkIt_333 : decode cX3_linkIt 333 = .ok (.iconst 1, 1) := dk_4 (dk_at dksX3_linkIt_14 3 rfl rfl)
theorem dX3_linkIt_334 : decode cX3_linkIt 334 = .ok (.iaload, 1) := dk_46 (dk_at dksX3_linkIt_14 4 rfl rfl)
theorem dX3_linkIt_335 : decode cX3_linkIt 335 = .ok (.invokestatic 141, 3) := dk_184 0 141 (dk_at dksX3_linkIt_14 5 rfl rfl)
theorem dX3_linkIt_338 : decode cX3_linkIt 338 = .ok (.iload 5, 2) := dk_21 5 (dk_at dksX3_linkIt_14 8 rfl rfl)
theorem dX3_linkIt_340 : decode cX3_linkIt 340 = .ok (.iadd, 1) := dk_96 (dk_at dksX3_linkIt_14 10 rfl rfl)
theorem dX3_linkIt_341 : decode cX3_linkIt 341 = .ok (.aload_n 0, 1) := dk_42 (dk_at dksX3_linkIt_14 11 rfl rfl)
theorem dX3_linkIt_342 : decode cX3_linkIt 342 = .ok (.getfield 38, 3) := dk_180 0 38 (dk_at dksX3_linkIt_14 12 rfl rfl)
theorem dX3_linkIt_345 : decode cX3_linkIt 345 = .ok (.iload 5, 2) := dk_21 5 (dk_at dksX3_linkIt_14 15 rfl rfl)
theorem dX3_linkIt_347 : decode cX3_linkIt 347 = .ok (.iaload, 1) := dk_46 (dk_at dksX3_linkIt_14 17 rfl rfl)
theorem dX3_linkIt_348 : decode cX3_linkIt 348 = .ok (.iastore, 1) := dk_79 (dk_at dksX3_linkIt_14 18 rfl rfl)
theorem dX3_linkIt_349 : decode cX3_linkIt 349 = .ok (.iinc 5 1, 3) := dk_132 5 1 (dk_at dksX3_linkIt_14 19 rfl rfl)
theorem dX3_linkIt_352 : decode cX3_linkIt 352 = .ok (.goto (-34), 3) := dk_167 255 222 (dk_at dksX3_linkIt_15 0 rfl rfl)
theorem dX3_linkIt_355 : decode cX3_linkIt 355 = .ok (.aload_n 0, 1) := dk_42 (dk_at dksX3_linkIt_15 3 rfl rfl)
theorem dX3_linkIt_356 : decode cX3_linkIt 356 = .ok (.getfield 9, 3) := dk_180 0 9 (dk_at dksX3_linkIt_15 4 rfl rfl)
theorem dX3_linkIt_359 : decode cX3_linkIt 359 = .ok (.iconst 1, 1) := dk_4 (dk_at dksX3_linkIt_15 7 rfl rfl)
theorem dX3_linkIt_360 : decode cX3_linkIt 360 = .ok (.dup2, 1) := dk_92 (dk_at dksX3_linkIt_15 8 rfl rfl)
theorem dX3_linkIt_361 : decode cX3_linkIt 361 = .ok (.iaload, 1) := dk_46 (dk_at dksX3_linkIt_15 9 rfl rfl)
theorem dX3_linkIt_362 : decode cX3_linkIt 362 = .ok (.iconst 1, 1) := dk_4 (dk_at dksX3_linkIt_15 10 rfl rfl)
theorem dX3_linkIt_363 : decode cX3_linkIt 363 = .ok (.iadd, 1) := dk_96 (dk_at dksX3_linkIt_15 11 rfl rfl)
theorem dX3_linkIt_364 : decode cX3_linkIt 364 = .ok (.iastore, 1) := dk_79 (dk_at dksX3_linkIt_15 12 rfl rfl)
theorem dX3_linkIt_365 : decode cX3_linkIt 365 = .ok (.aload_n 0, 1) := dk_42 (dk_at dksX3_linkIt_15 13 rfl rfl)
theorem dX3_linkIt_366 : decode cX3_linkIt 366 = .ok (.getfield 9, 3) := dk_180 0 9 (dk_at dksX3_linkIt_15 14 rfl rfl)
theorem dX3_linkIt_369 : decode cX3_linkIt 369 = .ok (.iconst 2, 1) := dk_5 (dk_at dksX3_linkIt_15 17 rfl rfl)
theorem dX3_linkIt_370 : decode cX3_linkIt 370 = .ok (.dup2, 1) := dk_92 (dk_at dksX3_linkIt_15 18 rfl rfl)
theorem dX3_linkIt_371 : decode cX3_linkIt 371 = .ok (.iaload, 1) := dk_46 (dk_at dksX3_linkIt_15 19 rfl rfl)
theorem dX3_linkIt_372 : decode cX3_linkIt 372 = .ok (.iconst 1, 1) := dk_4 (dk_at dksX3_linkIt_15 20 rfl rfl)
theorem dX3_linkIt_373 : decode cX3_linkIt 373 = .ok (.iadd, 1) := dk_96 (dk_at dksX3_linkIt_15 21 rfl rfl)
theorem dX3_linkIt_374 : decode cX3_linkIt 374 = .ok (.iastore, 1) := dk_79 (dk_at dksX3_linkIt_15 22 rfl rfl)
theorem dX3_linkIt_375 : decode cX3_linkIt 375 = .ok (.aload_n 0, 1) := dk_42 (dk_at dksX3_linkIt_15 23 rfl rfl)
theorem dX3_linkIt_376 : decode cX3_linkIt 376 = .ok (.getfield 9, 3) := dk_180 0 9 (dk_at dksX3_linkIt_16 0 rfl rfl)
theorem dX3_linkIt_379 : decode cX3_linkIt 379 = .ok (.iconst 1, 1) := dk_4 (dk_at dksX3_linkIt_16 3 rfl rfl)
theorem dX3_linkIt_380 : decode cX3_linkIt 380 = .ok (.iaload, 1) := dk_46 (dk_at dksX3_linkIt_16 4 rfl rfl)
theorem dX3_linkIt_381 : decode cX3_linkIt 381 = .ok (.iconst 1, 1) := dk_4 (dk_at dksX3_linkIt_16 5 rfl rfl)
theorem dX3_linkIt_382 : decode cX3_linkIt 382 = .ok (.isub, 1) := dk_100 (dk_at dksX3_linkIt_16 6 rfl rfl)
theorem dX3_linkIt_383 : decode cX3_linkIt 383 = .ok (.ireturn, 1) := dk_172 (dk_at dksX3_linkIt_16 7 rfl rfl)
abbrev cX3_isEvent : ByteArray := prog_21_method_15_code
def yX3_isEvent : MethodName := ⟨RX3, "isEvent", "(III)Z"⟩
def dkwX3_isEvent_1 : List UInt8 := [42, 27, 182, 0, 95, 5, 100, 133, 184, 0, 88, 172]
abbrev dktX3_isEvent_1 : List UInt8 := dkwX3_isEvent_1 ++ []
def dkwX3_isEvent_0 : List UInt8 := [29, 154, 0, 20, 28, 133, 10, 42, 27, 182, 0, 95, 4, 100, 133, 184, 0, 88, 167, 0, 17, 28, 133, 9]
abbrev dktX3_isEvent_0 : List UInt8 := dkwX3_isEvent_0 ++ dktX3_isEvent_1
theorem dksX3_isEvent_0 : cX3_isEvent.data.toList.drop 0 = dktX3_isEvent_0 := by decide +kernel
theorem dksX3_isEvent_1 : cX3_isEvent.data.toList.drop 24 = dktX3_isEvent_1 := dk_seg dksX3_isEvent_0 24 rfl rfl
theorem dX3_isEvent_0 : decode cX3_isEvent 0 = .ok (.iload_n 3, 1) := dk_29 (dk_at dksX3_isEvent_0 0 rfl rfl)
theorem dX3_isEvent_1 : decode cX3_isEvent 1 = .ok (.ifCond .ne 20, 3) := dk_154 0 20 (dk_at dksX3_isEvent_0 1 rfl rfl)
theorem dX3_isEvent_4 : decode cX3_isEvent 4 = .ok (.iload_n 2, 1) := dk_28 (dk_at dksX3_isEvent_0 4 rfl rfl)
theorem dX3_isEvent_5 : decode cX3_isEvent 5 = .ok (.i2l, 1) := dk_133 (dk_at dksX3_isEvent_0 5 rfl rfl)
theorem dX3_isEvent_6 : decode cX3_isEvent 6 = .ok (.lconst 1, 1) := dk_10 (dk_at dksX3_isEvent_0 6 rfl rfl)
theorem dX3_isEvent_7 : decode cX3_isEvent 7 = .ok (.aload_n 0, 1) := dk_42 (dk_at dksX3_isEvent_0 7 rfl rfl)
theorem dX3_isEvent_8 : decode cX3_isEvent 8 = .ok (.iload_n 1, 1) := dk_27 (dk_at dksX3_isEvent_0 8 rfl rfl)
theorem dX3_isEvent_9 : decode cX3_isEvent 9 = .ok (.invokevirtual 95, 3) := dk_182 0 95 (dk_at dksX3_isEvent_0 9 rfl rfl)
theorem dX3_isEvent_12 : decode cX3_isEvent 12 = .ok (.iconst 1, 1) := dk_4 (dk_at dksX3_isEvent_0 12 rfl rfl)
theorem dX3_isEvent_13 : decode cX3_isEvent 13 = .ok (.isub, 1) := dk_100 (dk_at dksX3_isEvent_0 13 rfl rfl)
theorem dX3_isEvent_14 : decode cX3_isEvent 14 = .ok (.i2l, 1) := dk_133 (dk_at dksX3_isEvent_0 14 rfl rfl)
theorem dX3_isEvent_15 : decode cX3_isEvent 15 = .ok (.invokestatic 88, 3) := dk_184 0 88 (dk_at dksX3_isEvent_0 15 rfl rfl)
theorem dX3_isEvent_18 : decode cX3_isEvent 18 = .ok (.goto 17, 3) := dk_167 0 17 (dk_at dksX3_isEvent_0 18 rfl rfl)
theorem dX3_isEvent_21 : decode cX3_isEvent 21 = .ok (.iload_n 2, 1) := dk_28 (dk_at dksX3_isEvent_0 21 rfl rfl)
theorem dX3_isEvent_22 : decode cX3_isEvent 22 = .ok (.i2l, 1) := dk_133 (dk_at dksX3_isEvent_0 22 rfl rfl)
theorem dX3_isEvent_23 : decode cX3_isEvent 23 = .ok (.lconst 0, 1) := dk_9 (dk_at dksX3_isEvent_0 23 rfl rfl)
theorem dX3_isEvent_24 : decode cX3_isEvent 24 = .ok (.aload_n 0, 1) := dk_42 (dk_at dksX3_isEvent_1 0 rfl rfl)
theorem dX3_isEvent_25 : decode cX3_isEvent 25 = .ok (.iload_n 1, 1) := dk_27 (dk_at dksX3_isEvent_1 1 rfl rfl)
theorem dX3_isEvent_26 : decode cX3_isEvent 26 = .ok (.invokevirtual 95, 3) := dk_182 0 95 (dk_at dksX3_isEvent_1 2 rfl rfl)
theorem dX3_isEvent_29 : decode cX3_isEvent 29 = .ok (.iconst 2, 1) := dk_5 (dk_at dksX3_isEvent_1 5 rfl rfl)
theorem dX3_isEvent_30 : decode cX3_isEvent 30 = .ok (.isub, 1) := dk_100 (dk_at dksX3_isEvent_1 6 rfl rfl)
theorem dX3_isEvent_31 : decode cX3_isEvent 31 = .ok (.i2l, 1) := dk_133 (dk_at dksX3_isEvent_1 7 rfl rfl)
theorem dX3_isEvent_32 : decode cX3_isEvent 32 = .ok (.invokestatic 88, 3) := dk_184 0 88 (dk_at dksX3_isEvent_1 8 rfl rfl)
theorem dX3_isEvent_35 : decode cX3_isEvent 35 = .ok (.ireturn, 1) := dk_172 (dk_at dksX3_isEvent_1 11 rfl rfl)
abbrev cX3_ofLink : ByteArray := prog_21_method_13_code
def yX3_ofLink : MethodName := ⟨RX3, "ofLink", "(I)I"⟩
def dkwX3_ofLink_0 : List UInt8 := [17, 1, 84, 16, 6, 26, 104, 96, 172]
abbrev dktX3_ofLink_0 : List UInt8 := dkwX3_ofLink_0 ++ []
theorem dksX3_ofLink_0 : cX3_ofLink.data.toList.drop 0 = dktX3_ofLink_0 := by decide +kernel
theorem dX3_ofLink_0 : decode cX3_ofLink 0 = .ok (.sipush 340, 3) := dk_17 1 84 (dk_at dksX3_ofLink_0 0 rfl rfl)
theorem dX3_ofLink_3 : decode cX3_ofLink 3 = .ok (.bipush 6, 2) := dk_16 6 (dk_at dksX3_ofLink_0 3 rfl rfl)
theorem dX3_ofLink_5 : decode cX3_ofLink 5 = .ok (.iload_n 0, 1) := dk_26 (dk_at dksX3_ofLink_0 5 rfl rfl)
theorem dX3_ofLink_6 : decode cX3_ofLink 6 = .ok (.imul, 1) := dk_104 (dk_at dksX3_ofLink_0 6 rfl rfl)
theorem dX3_ofLink_7 : decode cX3_ofLink 7 = .ok (.iadd, 1) := dk_96 (dk_at dksX3_ofLink_0 7 rfl rfl)
theorem dX3_ofLink_8 : decode cX3_ofLink 8 = .ok (.ireturn, 1) := dk_172 (dk_at dksX3_ofLink_0 8 rfl rfl)
abbrev cX3_cut : ByteArray := prog_21_method_27_code
def yX3_cut : MethodName := ⟨RX3, "cut", "(I)I"⟩
def dkwX3_cut_0 : List UInt8 := [42, 182, 0, 109, 42, 42, 27, 182, 0, 151, 182, 0, 115, 172]
abbrev dktX3_cut_0 : List UInt8 := dkwX3_cut_0 ++ []
theorem dksX3_cut_0 : cX3_cut.data.toList.drop 0 = dktX3_cut_0 := by decide +kernel
theorem dX3_cut_0 : decode cX3_cut 0 = .ok (.aload_n 0, 1) := dk_42 (dk_at dksX3_cut_0 0 rfl rfl)
theorem dX3_cut_1 : decode cX3_cut 1 = .ok (.invokevirtual 109, 3) := dk_182 0 109 (dk_at dksX3_cut_0 1 rfl rfl)
theorem dX3_cut_4 : decode cX3_cut 4 = .ok (.aload_n 0, 1) := dk_42 (dk_at dksX3_cut_0 4 rfl rfl)
theorem dX3_cut_5 : decode cX3_cut 5 = .ok (.aload_n 0, 1) := dk_42 (dk_at dksX3_cut_0 5 rfl rfl)
theorem dX3_cut_6 : decode cX3_cut 6 = .ok (.iload_n 1, 1) := dk_27 (dk_at dksX3_cut_0 6 rfl rfl)
theorem dX3_cut_7 : decode cX3_cut 7 = .ok (.invokevirtual 151, 3) := dk_182 0 151 (dk_at dksX3_cut_0 7 rfl rfl)
theorem dX3_cut_10 : decode cX3_cut 10 = .ok (.invokevirtual 115, 3) := dk_182 0 115 (dk_at dksX3_cut_0 10 rfl rfl)
theorem dX3_cut_13 : decode cX3_cut 13 = .ok (.ireturn, 1) := dk_172 (dk_at dksX3_cut_0 13 rfl rfl)
abbrev cX3_cutIt : ByteArray := prog_21_method_26_code
def yX3_cutIt : MethodName := ⟨RX3, "cutIt", "(I)I"⟩
def dkwX3_cutIt_4 : List UInt8 := [4, 46, 172]
abbrev dktX3_cutIt_4 : List UInt8 := dkwX3_cutIt_4 ++ []
def dkwX3_cutIt_3 : List UInt8 := [42, 180, 0, 9, 4, 92, 46, 4, 100, 79, 42, 180, 0, 9, 6, 92, 46, 4, 96, 79, 42, 180, 0, 9]
abbrev dktX3_cutIt_3 : List UInt8 := dkwX3_cutIt_3 ++ dktX3_cutIt_4
def dkwX3_cutIt_2 : List UInt8 := [17, 1, 150, 61, 28, 17, 1, 156, 162, 0, 16, 42, 180, 0, 9, 28, 3, 79, 132, 2, 1, 167, 255, 239]
abbrev dktX3_cutIt_2 : List UInt8 := dkwX3_cutIt_2 ++ dktX3_cutIt_3
def dkwX3_cutIt_1 : List UInt8 := [162, 0, 24, 42, 180, 0, 9, 28, 42, 180, 0, 9, 28, 16, 6, 96, 46, 79, 132, 2, 1, 167, 255, 231]
abbrev dktX3_cutIt_1 : List UInt8 := dkwX3_cutIt_1 ++ dktX3_cutIt_2
def dkwX3_cutIt_0 : List UInt8 := [42, 27, 182, 0, 148, 154, 0, 10, 42, 8, 27, 182, 0, 106, 172, 27, 184, 0, 141, 61, 28, 17, 1, 150]
abbrev dktX3_cutIt_0 : List UInt8 := dkwX3_cutIt_0 ++ dktX3_cutIt_1
theorem dksX3_cutIt_0 : cX3_cutIt.data.toList.drop 0 = dktX3_cutIt_0 := by decide +kernel
theorem dksX3_cutIt_1 : cX3_cutIt.data.toList.drop 24 = dktX3_cutIt_1 := dk_seg dksX3_cutIt_0 24 rfl rfl
theorem dksX3_cutIt_2 : cX3_cutIt.data.toList.drop 48 = dktX3_cutIt_2 := dk_seg dksX3_cutIt_1 24 rfl rfl
theorem dksX3_cutIt_3 : cX3_cutIt.data.toList.drop 72 = dktX3_cutIt_3 := dk_seg dksX3_cutIt_2 24 rfl rfl
theorem dksX3_cutIt_4 : cX3_cutIt.data.toList.drop 96 = dktX3_cutIt_4 := dk_seg dksX3_cutIt_3 24 rfl rfl
theorem dX3_cutIt_0 : decode cX3_cutIt 0 = .ok (.aload_n 0, 1) := dk_42 (dk_at dksX3_cutIt_0 0 rfl rfl)
theorem dX3_cutIt_1 : decode cX3_cutIt 1 = .ok (.iload_n 1, 1) := dk_27 (dk_at dksX3_cutIt_0 1 rfl rfl)
theorem dX3_cutIt_2 : decode cX3_cutIt 2 = .ok (.invokevirtual 148, 3) := dk_182 0 148 (dk_at dksX3_cutIt_0 2 rfl rfl)
theorem dX3_cutIt_5 : decode cX3_cutIt 5 = .ok (.ifCond .ne 10, 3) := dk_154 0 10 (dk_at dksX3_cutIt_0 5 rfl rfl)
theorem dX3_cutIt_8 : decode cX3_cutIt 8 = .ok (.aload_n 0, 1) := dk_42 (dk_at dksX3_cutIt_0 8 rfl rfl)
theorem dX3_cutIt_9 : decode cX3_cutIt 9 = .ok (.iconst 5, 1) := dk_8 (dk_at dksX3_cutIt_0 9 rfl rfl)
theorem dX3_cutIt_10 : decode cX3_cutIt 10 = .ok (.iload_n 1, 1) := dk_27 (dk_at dksX3_cutIt_0 10 rfl rfl)
theorem dX3_cutIt_11 : decode cX3_cutIt 11 = .ok (.invokevirtual 106, 3) := dk_182 0 106 (dk_at dksX3_cutIt_0 11 rfl rfl)
theorem dX3_cutIt_14 : decode cX3_cutIt 14 = .ok (.ireturn, 1) := dk_172 (dk_at dksX3_cutIt_0 14 rfl rfl)
theorem dX3_cutIt_15 : decode cX3_cutIt 15 = .ok (.iload_n 1, 1) := dk_27 (dk_at dksX3_cutIt_0 15 rfl rfl)
theorem dX3_cutIt_16 : decode cX3_cutIt 16 = .ok (.invokestatic 141, 3) := dk_184 0 141 (dk_at dksX3_cutIt_0 16 rfl rfl)
theorem dX3_cutIt_19 : decode cX3_cutIt 19 = .ok (.istore_n 2, 1) := dk_61 (dk_at dksX3_cutIt_0 19 rfl rfl)
theorem dX3_cutIt_20 : decode cX3_cutIt 20 = .ok (.iload_n 2, 1) := dk_28 (dk_at dksX3_cutIt_0 20 rfl rfl)
theorem dX3_cutIt_21 : decode cX3_cutIt 21 = .ok (.sipush 406, 3) := dk_17 1 150 (dk_at dksX3_cutIt_0 21 rfl rfl)
theorem dX3_cutIt_24 : decode cX3_cutIt 24 = .ok (.if_icmp .ge 24, 3) := dk_162 0 24 (dk_at dksX3_cutIt_1 0 rfl rfl)
theorem dX3_cutIt_27 : decode cX3_cutIt 27 = .ok (.aload_n 0, 1) := dk_42 (dk_at dksX3_cutIt_1 3 rfl rfl)
theorem dX3_cutIt_28 : decode cX3_cutIt 28 = .ok (.getfield 9, 3) := dk_180 0 9 (dk_at dksX3_cutIt_1 4 rfl rfl)
theorem dX3_cutIt_31 : decode cX3_cutIt 31 = .ok (.iload_n 2, 1) := dk_28 (dk_at dksX3_cutIt_1 7 rfl rfl)
theorem dX3_cutIt_32 : decode cX3_cutIt 32 = .ok (.aload_n 0, 1) := dk_42 (dk_at dksX3_cutIt_1 8 rfl rfl)
theorem dX3_cutIt_33 : decode cX3_cutIt 33 = .ok (.getfield 9, 3) := dk_180 0 9 (dk_at dksX3_cutIt_1 9 rfl rfl)
theorem dX3_cutIt_36 : decode cX3_cutIt 36 = .ok (.iload_n 2, 1) := dk_28 (dk_at dksX3_cutIt_1 12 rfl rfl)
theorem dX3_cutIt_37 : decode cX3_cutIt 37 = .ok (.bipush 6, 2) := dk_16 6 (dk_at dksX3_cutIt_1 13 rfl rfl)
theorem dX3_cutIt_39 : decode cX3_cutIt 39 = .ok (.iadd, 1) := dk_96 (dk_at dksX3_cutIt_1 15 rfl rfl)
theorem dX3_cutIt_40 : decode cX3_cutIt 40 = .ok (.iaload, 1) := dk_46 (dk_at dksX3_cutIt_1 16 rfl rfl)
theorem dX3_cutIt_41 : decode cX3_cutIt 41 = .ok (.iastore, 1) := dk_79 (dk_at dksX3_cutIt_1 17 rfl rfl)
theorem dX3_cutIt_42 : decode cX3_cutIt 42 = .ok (.iinc 2 1, 3) := dk_132 2 1 (dk_at dksX3_cutIt_1 18 rfl rfl)
theorem dX3_cutIt_45 : decode cX3_cutIt 45 = .ok (.goto (-25), 3) := dk_167 255 231 (dk_at dksX3_cutIt_1 21 rfl rfl)
theorem dX3_cutIt_48 : decode cX3_cutIt 48 = .ok (.sipush 406, 3) := dk_17 1 150 (dk_at dksX3_cutIt_2 0 rfl rfl)
theorem dX3_cutIt_51 : decode cX3_cutIt 51 = .ok (.istore_n 2, 1) := dk_61 (dk_at dksX3_cutIt_2 3 rfl rfl)
theorem dX3_cutIt_52 : decode cX3_cutIt 52 = .ok (.iload_n 2, 1) := dk_28 (dk_at dksX3_cutIt_2 4 rfl rfl)
theorem dX3_cutIt_53 : decode cX3_cutIt 53 = .ok (.sipush 412, 3) := dk_17 1 156 (dk_at dksX3_cutIt_2 5 rfl rfl)
theorem dX3_cutIt_56 : decode cX3_cutIt 56 = .ok (.if_icmp .ge 16, 3) := dk_162 0 16 (dk_at dksX3_cutIt_2 8 rfl rfl)
theorem dX3_cutIt_59 : decode cX3_cutIt 59 = .ok (.aload_n 0, 1) := dk_42 (dk_at dksX3_cutIt_2 11 rfl rfl)
theorem dX3_cutIt_60 : decode cX3_cutIt 60 = .ok (.getfield 9, 3) := dk_180 0 9 (dk_at dksX3_cutIt_2 12 rfl rfl)
theorem dX3_cutIt_63 : decode cX3_cutIt 63 = .ok (.iload_n 2, 1) := dk_28 (dk_at dksX3_cutIt_2 15 rfl rfl)
theorem dX3_cutIt_64 : decode cX3_cutIt 64 = .ok (.iconst 0, 1) := dk_3 (dk_at dksX3_cutIt_2 16 rfl rfl)
theorem dX3_cutIt_65 : decode cX3_cutIt 65 = .ok (.iastore, 1) := dk_79 (dk_at dksX3_cutIt_2 17 rfl rfl)
theorem dX3_cutIt_66 : decode cX3_cutIt 66 = .ok (.iinc 2 1, 3) := dk_132 2 1 (dk_at dksX3_cutIt_2 18 rfl rfl)
theorem dX3_cutIt_69 : decode cX3_cutIt 69 = .ok (.goto (-17), 3) := dk_167 255 239 (dk_at dksX3_cutIt_2 21 rfl rfl)
theorem dX3_cutIt_72 : decode cX3_cutIt 72 = .ok (.aload_n 0, 1) := dk_42 (dk_at dksX3_cutIt_3 0 rfl rfl)
theorem dX3_cutIt_73 : decode cX3_cutIt 73 = .ok (.getfield 9, 3) := dk_180 0 9 (dk_at dksX3_cutIt_3 1 rfl rfl)
theorem dX3_cutIt_76 : decode cX3_cutIt 76 = .ok (.iconst 1, 1) := dk_4 (dk_at dksX3_cutIt_3 4 rfl rfl)
theorem dX3_cutIt_77 : decode cX3_cutIt 77 = .ok (.dup2, 1) := dk_92 (dk_at dksX3_cutIt_3 5 rfl rfl)
theorem dX3_cutIt_78 : decode cX3_cutIt 78 = .ok (.iaload, 1) := dk_46 (dk_at dksX3_cutIt_3 6 rfl rfl)
theorem dX3_cutIt_79 : decode cX3_cutIt 79 = .ok (.iconst 1, 1) := dk_4 (dk_at dksX3_cutIt_3 7 rfl rfl)
theorem dX3_cutIt_80 : decode cX3_cutIt 80 = .ok (.isub, 1) := dk_100 (dk_at dksX3_cutIt_3 8 rfl rfl)
theorem dX3_cutIt_81 : decode cX3_cutIt 81 = .ok (.iastore, 1) := dk_79 (dk_at dksX3_cutIt_3 9 rfl rfl)
theorem dX3_cutIt_82 : decode cX3_cutIt 82 = .ok (.aload_n 0, 1) := dk_42 (dk_at dksX3_cutIt_3 10 rfl rfl)
theorem dX3_cutIt_83 : decode cX3_cutIt 83 = .ok (.getfield 9, 3) := dk_180 0 9 (dk_at dksX3_cutIt_3 11 rfl rfl)
theorem dX3_cutIt_86 : decode cX3_cutIt 86 = .ok (.iconst 3, 1) := dk_6 (dk_at dksX3_cutIt_3 14 rfl rfl)
theorem dX3_cutIt_87 : decode cX3_cutIt 87 = .ok (.dup2, 1) := dk_92 (dk_at dksX3_cutIt_3 15 rfl rfl)
theorem dX3_cutIt_88 : decode cX3_cutIt 88 = .ok (.iaload, 1) := dk_46 (dk_at dksX3_cutIt_3 16 rfl rfl)
theorem dX3_cutIt_89 : decode cX3_cutIt 89 = .ok (.iconst 1, 1) := dk_4 (dk_at dksX3_cutIt_3 17 rfl rfl)
theorem dX3_cutIt_90 : decode cX3_cutIt 90 = .ok (.iadd, 1) := dk_96 (dk_at dksX3_cutIt_3 18 rfl rfl)
theorem dX3_cutIt_91 : decode cX3_cutIt 91 = .ok (.iastore, 1) := dk_79 (dk_at dksX3_cutIt_3 19 rfl rfl)
theorem dX3_cutIt_92 : decode cX3_cutIt 92 = .ok (.aload_n 0, 1) := dk_42 (dk_at dksX3_cutIt_3 20 rfl rfl)
theorem dX3_cutIt_93 : decode cX3_cutIt 93 = .ok (.getfield 9, 3) := dk_180 0 9 (dk_at dksX3_cutIt_3 21 rfl rfl)
theorem dX3_cutIt_96 : decode cX3_cutIt 96 = .ok (.iconst 1, 1) := dk_4 (dk_at dksX3_cutIt_4 0 rfl rfl)
theorem dX3_cutIt_97 : decode cX3_cutIt 97 = .ok (.iaload, 1) := dk_46 (dk_at dksX3_cutIt_4 1 rfl rfl)
theorem dX3_cutIt_98 : decode cX3_cutIt 98 = .ok (.ireturn, 1) := dk_172 (dk_at dksX3_cutIt_4 2 rfl rfl)
abbrev cX3_isLink : ByteArray := prog_21_method_9_code
def yX3_isLink : MethodName := ⟨RX3, "isLink", "(I)Z"⟩
def dkwX3_isLink_0 : List UInt8 := [27, 133, 9, 42, 180, 0, 9, 4, 46, 4, 100, 133, 184, 0, 88, 172]
abbrev dktX3_isLink_0 : List UInt8 := dkwX3_isLink_0 ++ []
theorem dksX3_isLink_0 : cX3_isLink.data.toList.drop 0 = dktX3_isLink_0 := by decide +kernel
theorem dX3_isLink_0 : decode cX3_isLink 0 = .ok (.iload_n 1, 1) := dk_27 (dk_at dksX3_isLink_0 0 rfl rfl)
theorem dX3_isLink_1 : decode cX3_isLink 1 = .ok (.i2l, 1) := dk_133 (dk_at dksX3_isLink_0 1 rfl rfl)
theorem dX3_isLink_2 : decode cX3_isLink 2 = .ok (.lconst 0, 1) := dk_9 (dk_at dksX3_isLink_0 2 rfl rfl)
theorem dX3_isLink_3 : decode cX3_isLink 3 = .ok (.aload_n 0, 1) := dk_42 (dk_at dksX3_isLink_0 3 rfl rfl)
theorem dX3_isLink_4 : decode cX3_isLink 4 = .ok (.getfield 9, 3) := dk_180 0 9 (dk_at dksX3_isLink_0 4 rfl rfl)
theorem dX3_isLink_7 : decode cX3_isLink 7 = .ok (.iconst 1, 1) := dk_4 (dk_at dksX3_isLink_0 7 rfl rfl)
theorem dX3_isLink_8 : decode cX3_isLink 8 = .ok (.iaload, 1) := dk_46 (dk_at dksX3_isLink_0 8 rfl rfl)
theorem dX3_isLink_9 : decode cX3_isLink 9 = .ok (.iconst 1, 1) := dk_4 (dk_at dksX3_isLink_0 9 rfl rfl)
theorem dX3_isLink_10 : decode cX3_isLink 10 = .ok (.isub, 1) := dk_100 (dk_at dksX3_isLink_0 10 rfl rfl)
theorem dX3_isLink_11 : decode cX3_isLink 11 = .ok (.i2l, 1) := dk_133 (dk_at dksX3_isLink_0 11 rfl rfl)
theorem dX3_isLink_12 : decode cX3_isLink 12 = .ok (.invokestatic 88, 3) := dk_184 0 88 (dk_at dksX3_isLink_0 12 rfl rfl)
theorem dX3_isLink_15 : decode cX3_isLink 15 = .ok (.ireturn, 1) := dk_172 (dk_at dksX3_isLink_0 15 rfl rfl)
abbrev cX3_limit : ByteArray := prog_21_method_29_code
def yX3_limit : MethodName := ⟨RX3, "limit", "(II)I"⟩
def dkwX3_limit_0 : List UInt8 := [42, 182, 0, 109, 42, 42, 27, 28, 182, 0, 154, 182, 0, 115, 172]
abbrev dktX3_limit_0 : List UInt8 := dkwX3_limit_0 ++ []
theorem dksX3_limit_0 : cX3_limit.data.toList.drop 0 = dktX3_limit_0 := by decide +kernel
theorem dX3_limit_0 : decode cX3_limit 0 = .ok (.aload_n 0, 1) := dk_42 (dk_at dksX3_limit_0 0 rfl rfl)
theorem dX3_limit_1 : decode cX3_limit 1 = .ok (.invokevirtual 109, 3) := dk_182 0 109 (dk_at dksX3_limit_0 1 rfl rfl)
theorem dX3_limit_4 : decode cX3_limit 4 = .ok (.aload_n 0, 1) := dk_42 (dk_at dksX3_limit_0 4 rfl rfl)
theorem dX3_limit_5 : decode cX3_limit 5 = .ok (.aload_n 0, 1) := dk_42 (dk_at dksX3_limit_0 5 rfl rfl)
theorem dX3_limit_6 : decode cX3_limit 6 = .ok (.iload_n 1, 1) := dk_27 (dk_at dksX3_limit_0 6 rfl rfl)
theorem dX3_limit_7 : decode cX3_limit 7 = .ok (.iload_n 2, 1) := dk_28 (dk_at dksX3_limit_0 7 rfl rfl)
theorem dX3_limit_8 : decode cX3_limit 8 = .ok (.invokevirtual 154, 3) := dk_182 0 154 (dk_at dksX3_limit_0 8 rfl rfl)
theorem dX3_limit_11 : decode cX3_limit 11 = .ok (.invokevirtual 115, 3) := dk_182 0 115 (dk_at dksX3_limit_0 11 rfl rfl)
theorem dX3_limit_14 : decode cX3_limit 14 = .ok (.ireturn, 1) := dk_172 (dk_at dksX3_limit_0 14 rfl rfl)
abbrev cX3_limitIt : ByteArray := prog_21_method_28_code
def yX3_limitIt : MethodName := ⟨RX3, "limitIt", "(II)I"⟩
def dkwX3_limitIt_3 : List UInt8 := [172]
abbrev dktX3_limitIt_3 : List UInt8 := dkwX3_limitIt_3 ++ []
def dkwX3_limitIt_2 : List UInt8 := [160, 0, 11, 42, 16, 10, 28, 182, 0, 106, 172, 42, 180, 0, 9, 27, 184, 0, 141, 8, 96, 28, 79, 29]
abbrev dktX3_limitIt_2 : List UInt8 := dkwX3_limitIt_2 ++ dktX3_limitIt_3
def dkwX3_limitIt_1 : List UInt8 := [154, 0, 10, 42, 4, 28, 182, 0, 106, 172, 42, 180, 0, 9, 27, 184, 0, 141, 8, 96, 46, 62, 29, 28]
abbrev dktX3_limitIt_1 : List UInt8 := dkwX3_limitIt_1 ++ dktX3_limitIt_2
def dkwX3_limitIt_0 : List UInt8 := [42, 27, 182, 0, 148, 154, 0, 10, 42, 8, 27, 182, 0, 106, 172, 28, 133, 9, 20, 0, 139, 184, 0, 88]
abbrev dktX3_limitIt_0 : List UInt8 := dkwX3_limitIt_0 ++ dktX3_limitIt_1
theorem dksX3_limitIt_0 : cX3_limitIt.data.toList.drop 0 = dktX3_limitIt_0 := by decide +kernel
theorem dksX3_limitIt_1 : cX3_limitIt.data.toList.drop 24 = dktX3_limitIt_1 := dk_seg dksX3_limitIt_0 24 rfl rfl
theorem dksX3_limitIt_2 : cX3_limitIt.data.toList.drop 48 = dktX3_limitIt_2 := dk_seg dksX3_limitIt_1 24 rfl rfl
theorem dksX3_limitIt_3 : cX3_limitIt.data.toList.drop 72 = dktX3_limitIt_3 := dk_seg dksX3_limitIt_2 24 rfl rfl
theorem dX3_limitIt_0 : decode cX3_limitIt 0 = .ok (.aload_n 0, 1) := dk_42 (dk_at dksX3_limitIt_0 0 rfl rfl)
theorem dX3_limitIt_1 : decode cX3_limitIt 1 = .ok (.iload_n 1, 1) := dk_27 (dk_at dksX3_limitIt_0 1 rfl rfl)
theorem dX3_limitIt_2 : decode cX3_limitIt 2 = .ok (.invokevirtual 148, 3) := dk_182 0 148 (dk_at dksX3_limitIt_0 2 rfl rfl)
theorem dX3_limitIt_5 : decode cX3_limitIt 5 = .ok (.ifCond .ne 10, 3) := dk_154 0 10 (dk_at dksX3_limitIt_0 5 rfl rfl)
theorem dX3_limitIt_8 : decode cX3_limitIt 8 = .ok (.aload_n 0, 1) := dk_42 (dk_at dksX3_limitIt_0 8 rfl rfl)
theorem dX3_limitIt_9 : decode cX3_limitIt 9 = .ok (.iconst 5, 1) := dk_8 (dk_at dksX3_limitIt_0 9 rfl rfl)
theorem dX3_limitIt_10 : decode cX3_limitIt 10 = .ok (.iload_n 1, 1) := dk_27 (dk_at dksX3_limitIt_0 10 rfl rfl)
theorem dX3_limitIt_11 : decode cX3_limitIt 11 = .ok (.invokevirtual 106, 3) := dk_182 0 106 (dk_at dksX3_limitIt_0 11 rfl rfl)
theorem dX3_limitIt_14 : decode cX3_limitIt 14 = .ok (.ireturn, 1) := dk_172 (dk_at dksX3_limitIt_0 14 rfl rfl)
theorem dX3_limitIt_15 : decode cX3_limitIt 15 = .ok (.iload_n 2, 1) := dk_28 (dk_at dksX3_limitIt_0 15 rfl rfl)
theorem dX3_limitIt_16 : decode cX3_limitIt 16 = .ok (.i2l, 1) := dk_133 (dk_at dksX3_limitIt_0 16 rfl rfl)
theorem dX3_limitIt_17 : decode cX3_limitIt 17 = .ok (.lconst 0, 1) := dk_9 (dk_at dksX3_limitIt_0 17 rfl rfl)
theorem dX3_limitIt_18 : decode cX3_limitIt 18 = .ok (.ldc2_w 139, 3) := dk_20 0 139 (dk_at dksX3_limitIt_0 18 rfl rfl)
theorem dX3_limitIt_21 : decode cX3_limitIt 21 = .ok (.invokestatic 88, 3) := dk_184 0 88 (dk_at dksX3_limitIt_0 21 rfl rfl)
theorem dX3_limitIt_24 : decode cX3_limitIt 24 = .ok (.ifCond .ne 10, 3) := dk_154 0 10 (dk_at dksX3_limitIt_1 0 rfl rfl)
theorem dX3_limitIt_27 : decode cX3_limitIt 27 = .ok (.aload_n 0, 1) := dk_42 (dk_at dksX3_limitIt_1 3 rfl rfl)
theorem dX3_limitIt_28 : decode cX3_limitIt 28 = .ok (.iconst 1, 1) := dk_4 (dk_at dksX3_limitIt_1 4 rfl rfl)
theorem dX3_limitIt_29 : decode cX3_limitIt 29 = .ok (.iload_n 2, 1) := dk_28 (dk_at dksX3_limitIt_1 5 rfl rfl)
theorem dX3_limitIt_30 : decode cX3_limitIt 30 = .ok (.invokevirtual 106, 3) := dk_182 0 106 (dk_at dksX3_limitIt_1 6 rfl rfl)
theorem dX3_limitIt_33 : decode cX3_limitIt 33 = .ok (.ireturn, 1) := dk_172 (dk_at dksX3_limitIt_1 9 rfl rfl)
theorem dX3_limitIt_34 : decode cX3_limitIt 34 = .ok (.aload_n 0, 1) := dk_42 (dk_at dksX3_limitIt_1 10 rfl rfl)
theorem dX3_limitIt_35 : decode cX3_limitIt 35 = .ok (.getfield 9, 3) := dk_180 0 9 (dk_at dksX3_limitIt_1 11 rfl rfl)
theorem dX3_limitIt_38 : decode cX3_limitIt 38 = .ok (.iload_n 1, 1) := dk_27 (dk_at dksX3_limitIt_1 14 rfl rfl)
theorem dX3_limitIt_39 : decode cX3_limitIt 39 = .ok (.invokestatic 141, 3) := dk_184 0 141 (dk_at dksX3_limitIt_1 15 rfl rfl)
theorem dX3_limitIt_42 : decode cX3_limitIt 42 = .ok (.iconst 5, 1) := dk_8 (dk_at dksX3_limitIt_1 18 rfl rfl)
theorem dX3_limitIt_43 : decode cX3_limitIt 43 = .ok (.iadd, 1) := dk_96 (dk_at dksX3_limitIt_1 19 rfl rfl)
theorem dX3_limitIt_44 : decode cX3_limitIt 44 = .ok (.iaload, 1) := dk_46 (dk_at dksX3_limitIt_1 20 rfl rfl)
theorem dX3_limitIt_45 : decode cX3_limitIt 45 = .ok (.istore_n 3, 1) := dk_62 (dk_at dksX3_limitIt_1 21 rfl rfl)
theorem dX3_limitIt_46 : decode cX3_limitIt 46 = .ok (.iload_n 3, 1) := dk_29 (dk_at dksX3_limitIt_1 22 rfl rfl)
theorem dX3_limitIt_47 : decode cX3_limitIt 47 = .ok (.iload_n 2, 1) := dk_28 (dk_at dksX3_limitIt_1 23 rfl rfl)
theorem dX3_limitIt_48 : decode cX3_limitIt 48 = .ok (.if_icmp .ne 11, 3) := dk_160 0 11 (dk_at dksX3_limitIt_2 0 rfl rfl)
theorem dX3_limitIt_51 : decode cX3_limitIt 51 = .ok (.aload_n 0, 1) := dk_42 (dk_at dksX3_limitIt_2 3 rfl rfl)
theorem dX3_limitIt_52 : decode cX3_limitIt 52 = .ok (.bipush 10, 2) := dk_16 10 (dk_at dksX3_limitIt_2 4 rfl rfl)
theorem dX3_limitIt_54 : decode cX3_limitIt 54 = .ok (.iload_n 2, 1) := dk_28 (dk_at dksX3_limitIt_2 6 rfl rfl)
theorem dX3_limitIt_55 : decode cX3_limitIt 55 = .ok (.invokevirtual 106, 3) := dk_182 0 106 (dk_at dksX3_limitIt_2 7 rfl rfl)
theorem dX3_limitIt_58 : decode cX3_limitIt 58 = .ok (.ireturn, 1) := dk_172 (dk_at dksX3_limitIt_2 10 rfl rfl)
theorem dX3_limitIt_59 : decode cX3_limitIt 59 = .ok (.aload_n 0, 1) := dk_42 (dk_at dksX3_limitIt_2 11 rfl rfl)
theorem dX3_limitIt_60 : decode cX3_limitIt 60 = .ok (.getfield 9, 3) := dk_180 0 9 (dk_at dksX3_limitIt_2 12 rfl rfl)
theorem dX3_limitIt_63 : decode cX3_limitIt 63 = .ok (.iload_n 1, 1) := dk_27 (dk_at dksX3_limitIt_2 15 rfl rfl)
theorem dX3_limitIt_64 : decode cX3_limitIt 64 = .ok (.invokestatic 141, 3) := dk_184 0 141 (dk_at dksX3_limitIt_2 16 rfl rfl)
theorem dX3_limitIt_67 : decode cX3_limitIt 67 = .ok (.iconst 5, 1) := dk_8 (dk_at dksX3_limitIt_2 19 rfl rfl)
theorem dX3_limitIt_68 : decode cX3_limitIt 68 = .ok (.iadd, 1) := dk_96 (dk_at dksX3_limitIt_2 20 rfl rfl)
theorem dX3_limitIt_69 : decode cX3_limitIt 69 = .ok (.iload_n 2, 1) := dk_28 (dk_at dksX3_limitIt_2 21 rfl rfl)
theorem dX3_limitIt_70 : decode cX3_limitIt 70 = .ok (.iastore, 1) := dk_79 (dk_at dksX3_limitIt_2 22 rfl rfl)
theorem dX3_limitIt_71 : decode cX3_limitIt 71 = .ok (.iload_n 3, 1) := dk_29 (dk_at dksX3_limitIt_2 23 rfl rfl)
theorem dX3_limitIt_72 : decode cX3_limitIt 72 = .ok (.ireturn, 1) := dk_172 (dk_at dksX3_limitIt_3 0 rfl rfl)
abbrev cX3_late : ByteArray := prog_21_method_31_code
def yX3_late : MethodName := ⟨RX3, "late", "(IIZI)I"⟩
def dkwX3_late_1 : List UInt8 := [182, 0, 115, 172]
abbrev dktX3_late_1 : List UInt8 := dkwX3_late_1 ++ []
def dkwX3_late_0 : List UInt8 := [42, 182, 0, 109, 42, 42, 27, 28, 29, 153, 0, 7, 3, 167, 0, 4, 4, 21, 4, 182, 0, 166]
abbrev dktX3_late_0 : List UInt8 := dkwX3_late_0 ++ dktX3_late_1
theorem dksX3_late_0 : cX3_late.data.toList.drop 0 = dktX3_late_0 := by decide +kernel
theorem dksX3_late_1 : cX3_late.data.toList.drop 22 = dktX3_late_1 := dk_seg dksX3_late_0 22 rfl rfl
theorem dX3_late_0 : decode cX3_late 0 = .ok (.aload_n 0, 1) := dk_42 (dk_at dksX3_late_0 0 rfl rfl)
theorem dX3_late_1 : decode cX3_late 1 = .ok (.invokevirtual 109, 3) := dk_182 0 109 (dk_at dksX3_late_0 1 rfl rfl)
theorem dX3_late_4 : decode cX3_late 4 = .ok (.aload_n 0, 1) := dk_42 (dk_at dksX3_late_0 4 rfl rfl)
theorem dX3_late_5 : decode cX3_late 5 = .ok (.aload_n 0, 1) := dk_42 (dk_at dksX3_late_0 5 rfl rfl)
theorem dX3_late_6 : decode cX3_late 6 = .ok (.iload_n 1, 1) := dk_27 (dk_at dksX3_late_0 6 rfl rfl)
theorem dX3_late_7 : decode cX3_late 7 = .ok (.iload_n 2, 1) := dk_28 (dk_at dksX3_late_0 7 rfl rfl)
theorem dX3_late_8 : decode cX3_late 8 = .ok (.iload_n 3, 1) := dk_29 (dk_at dksX3_late_0 8 rfl rfl)
theorem dX3_late_9 : decode cX3_late 9 = .ok (.ifCond .eq 7, 3) := dk_153 0 7 (dk_at dksX3_late_0 9 rfl rfl)
theorem dX3_late_12 : decode cX3_late 12 = .ok (.iconst 0, 1) := dk_3 (dk_at dksX3_late_0 12 rfl rfl)
theorem dX3_late_13 : decode cX3_late 13 = .ok (.goto 4, 3) := dk_167 0 4 (dk_at dksX3_late_0 13 rfl rfl)
theorem dX3_late_16 : decode cX3_late 16 = .ok (.iconst 1, 1) := dk_4 (dk_at dksX3_late_0 16 rfl rfl)
theorem dX3_late_17 : decode cX3_late 17 = .ok (.iload 4, 2) := dk_21 4 (dk_at dksX3_late_0 17 rfl rfl)
theorem dX3_late_19 : decode cX3_late 19 = .ok (.invokevirtual 166, 3) := dk_182 0 166 (dk_at dksX3_late_0 19 rfl rfl)
theorem dX3_late_22 : decode cX3_late 22 = .ok (.invokevirtual 115, 3) := dk_182 0 115 (dk_at dksX3_late_1 0 rfl rfl)
theorem dX3_late_25 : decode cX3_late 25 = .ok (.ireturn, 1) := dk_172 (dk_at dksX3_late_1 3 rfl rfl)
abbrev cX3_lateIt : ByteArray := prog_21_method_30_code
def yX3_lateIt : MethodName := ⟨RX3, "lateIt", "(IIII)I"⟩
def dkwX3_lateIt_4 : List UInt8 := [42, 2, 2, 182, 0, 159, 42, 27, 28, 29, 182, 0, 163, 172]
abbrev dktX3_lateIt_4 : List UInt8 := dkwX3_lateIt_4 ++ []
def dkwX3_lateIt_3 : List UInt8 := [46, 21, 4, 160, 0, 12, 42, 16, 10, 21, 4, 182, 0, 106, 172, 42, 180, 0, 9, 21, 5, 21, 4, 79]
abbrev dktX3_lateIt_3 : List UInt8 := dkwX3_lateIt_3 ++ dktX3_lateIt_4
def dkwX3_lateIt_2 : List UInt8 := [4, 21, 4, 182, 0, 106, 172, 27, 28, 184, 0, 98, 8, 96, 29, 96, 54, 5, 42, 180, 0, 9, 21, 5]
abbrev dktX3_lateIt_2 : List UInt8 := dkwX3_lateIt_2 ++ dktX3_lateIt_3
def dkwX3_lateIt_1 : List UInt8 := [154, 0, 10, 42, 7, 28, 182, 0, 106, 172, 21, 4, 133, 9, 20, 0, 157, 184, 0, 88, 154, 0, 11, 42]
abbrev dktX3_lateIt_1 : List UInt8 := dkwX3_lateIt_1 ++ dktX3_lateIt_2
def dkwX3_lateIt_0 : List UInt8 := [42, 27, 182, 0, 118, 154, 0, 10, 42, 6, 27, 182, 0, 106, 172, 42, 27, 28, 29, 182, 0, 135]
abbrev dktX3_lateIt_0 : List UInt8 := dkwX3_lateIt_0 ++ dktX3_lateIt_1
theorem dksX3_lateIt_0 : cX3_lateIt.data.toList.drop 0 = dktX3_lateIt_0 := by decide +kernel
theorem dksX3_lateIt_1 : cX3_lateIt.data.toList.drop 22 = dktX3_lateIt_1 := dk_seg dksX3_lateIt_0 22 rfl rfl
theorem dksX3_lateIt_2 : cX3_lateIt.data.toList.drop 46 = dktX3_lateIt_2 := dk_seg dksX3_lateIt_1 24 rfl rfl
theorem dksX3_lateIt_3 : cX3_lateIt.data.toList.drop 70 = dktX3_lateIt_3 := dk_seg dksX3_lateIt_2 24 rfl rfl
theorem dksX3_lateIt_4 : cX3_lateIt.data.toList.drop 94 = dktX3_lateIt_4 := dk_seg dksX3_lateIt_3 24 rfl rfl
theorem dX3_lateIt_0 : decode cX3_lateIt 0 = .ok (.aload_n 0, 1) := dk_42 (dk_at dksX3_lateIt_0 0 rfl rfl)
theorem dX3_lateIt_1 : decode cX3_lateIt 1 = .ok (.iload_n 1, 1) := dk_27 (dk_at dksX3_lateIt_0 1 rfl rfl)
theorem dX3_lateIt_2 : decode cX3_lateIt 2 = .ok (.invokevirtual 118, 3) := dk_182 0 118 (dk_at dksX3_lateIt_0 2 rfl rfl)
theorem dX3_lateIt_5 : decode cX3_lateIt 5 = .ok (.ifCond .ne 10, 3) := dk_154 0 10 (dk_at dksX3_lateIt_0 5 rfl rfl)
theorem dX3_lateIt_8 : decode cX3_lateIt 8 = .ok (.aload_n 0, 1) := dk_42 (dk_at dksX3_lateIt_0 8 rfl rfl)
theorem dX3_lateIt_9 : decode cX3_lateIt 9 = .ok (.iconst 3, 1) := dk_6 (dk_at dksX3_lateIt_0 9 rfl rfl)
theorem dX3_lateIt_10 : decode cX3_lateIt 10 = .ok (.iload_n 1, 1) := dk_27 (dk_at dksX3_lateIt_0 10 rfl rfl)
theorem dX3_lateIt_11 : decode cX3_lateIt 11 = .ok (.invokevirtual 106, 3) := dk_182 0 106 (dk_at dksX3_lateIt_0 11 rfl rfl)
theorem dX3_lateIt_14 : decode cX3_lateIt 14 = .ok (.ireturn, 1) := dk_172 (dk_at dksX3_lateIt_0 14 rfl rfl)
theorem dX3_lateIt_15 : decode cX3_lateIt 15 = .ok (.aload_n 0, 1) := dk_42 (dk_at dksX3_lateIt_0 15 rfl rfl)
theorem dX3_lateIt_16 : decode cX3_lateIt 16 = .ok (.iload_n 1, 1) := dk_27 (dk_at dksX3_lateIt_0 16 rfl rfl)
theorem dX3_lateIt_17 : decode cX3_lateIt 17 = .ok (.iload_n 2, 1) := dk_28 (dk_at dksX3_lateIt_0 17 rfl rfl)
theorem dX3_lateIt_18 : decode cX3_lateIt 18 = .ok (.iload_n 3, 1) := dk_29 (dk_at dksX3_lateIt_0 18 rfl rfl)
theorem dX3_lateIt_19 : decode cX3_lateIt 19 = .ok (.invokevirtual 135, 3) := dk_182 0 135 (dk_at dksX3_lateIt_0 19 rfl rfl)
theorem dX3_lateIt_22 : decode cX3_lateIt 22 = .ok (.ifCond .ne 10, 3) := dk_154 0 10 (dk_at dksX3_lateIt_1 0 rfl rfl)
theorem dX3_lateIt_25 : decode cX3_lateIt 25 = .ok (.aload_n 0, 1) := dk_42 (dk_at dksX3_lateIt_1 3 rfl rfl)
theorem dX3_lateIt_26 : decode cX3_lateIt 26 = .ok (.iconst 4, 1) := dk_7 (dk_at dksX3_lateIt_1 4 rfl rfl)
theorem dX3_lateIt_27 : decode cX3_lateIt 27 = .ok (.iload_n 2, 1) := dk_28 (dk_at dksX3_lateIt_1 5 rfl rfl)
theorem dX3_lateIt_28 : decode cX3_lateIt 28 = .ok (.invokevirtual 106, 3) := dk_182 0 106 (dk_at dksX3_lateIt_1 6 rfl rfl)
theorem dX3_lateIt_31 : decode cX3_lateIt 31 = .ok (.ireturn, 1) := dk_172 (dk_at dksX3_lateIt_1 9 rfl rfl)
theorem dX3_lateIt_32 : decode cX3_lateIt 32 = .ok (.iload 4, 2) := dk_21 4 (dk_at dksX3_lateIt_1 10 rfl rfl)
theorem dX3_lateIt_34 : decode cX3_lateIt 34 = .ok (.i2l, 1) := dk_133 (dk_at dksX3_lateIt_1 12 rfl rfl)
theorem dX3_lateIt_35 : decode cX3_lateIt 35 = .ok (.lconst 0, 1) := dk_9 (dk_at dksX3_lateIt_1 13 rfl rfl)
theorem dX3_lateIt_36 : decode cX3_lateIt 36 = .ok (.ldc2_w 157, 3) := dk_20 0 157 (dk_at dksX3_lateIt_1 14 rfl rfl)
theorem dX3_lateIt_39 : decode cX3_lateIt 39 = .ok (.invokestatic 88, 3) := dk_184 0 88 (dk_at dksX3_lateIt_1 17 rfl rfl)
theorem dX3_lateIt_42 : decode cX3_lateIt 42 = .ok (.ifCond .ne 11, 3) := dk_154 0 11 (dk_at dksX3_lateIt_1 20 rfl rfl)
theorem dX3_lateIt_45 : decode cX3_lateIt 45 = .ok (.aload_n 0, 1) := dk_42 (dk_at dksX3_lateIt_1 23 rfl rfl)
theorem dX3_lateIt_46 : decode cX3_lateIt 46 = .ok (.iconst 1, 1) := dk_4 (dk_at dksX3_lateIt_2 0 rfl rfl)
theorem dX3_lateIt_47 : decode cX3_lateIt 47 = .ok (.iload 4, 2) := dk_21 4 (dk_at dksX3_lateIt_2 1 rfl rfl)
theorem dX3_lateIt_49 : decode cX3_lateIt 49 = .ok (.invokevirtual 106, 3) := dk_182 0 106 (dk_at dksX3_lateIt_2 3 rfl rfl)
theorem dX3_lateIt_52 : decode cX3_lateIt 52 = .ok (.ireturn, 1) := dk_172 (dk_at dksX3_lateIt_2 6 rfl rfl)
theorem dX3_lateIt_53 : decode cX3_lateIt 53 = .ok (.iload_n 1, 1) := dk_27 (dk_at dksX3_lateIt_2 7 rfl rfl)
theorem dX3_lateIt_54 : decode cX3_lateIt 54 = .ok (.iload_n 2, 1) := dk_28 (dk_at dksX3_lateIt_2 8 rfl rfl)
theorem dX3_lateIt_55 : decode cX3_lateIt 55 = .ok (.invokestatic 98, 3) := dk_184 0 98 (dk_at dksX3_lateIt_2 9 rfl rfl)
theorem dX3_lateIt_58 : decode cX3_lateIt 58 = .ok (.iconst 5, 1) := dk_8 (dk_at dksX3_lateIt_2 12 rfl rfl)
theorem dX3_lateIt_59 : decode cX3_lateIt 59 = .ok (.iadd, 1) := dk_96 (dk_at dksX3_lateIt_2 13 rfl rfl)
theorem dX3_lateIt_60 : decode cX3_lateIt 60 = .ok (.iload_n 3, 1) := dk_29 (dk_at dksX3_lateIt_2 14 rfl rfl)
theorem dX3_lateIt_61 : decode cX3_lateIt 61 = .ok (.iadd, 1) := dk_96 (dk_at dksX3_lateIt_2 15 rfl rfl)
theorem dX3_lateIt_62 : decode cX3_lateIt 62 = .ok (.istore 5, 2) := dk_54 5 (dk_at dksX3_lateIt_2 16 rfl rfl)
theorem dX3_lateIt_64 : decode cX3_lateIt 64 = .ok (.aload_n 0, 1) := dk_42 (dk_at dksX3_lateIt_2 18 rfl rfl)
theorem dX3_lateIt_65 : decode cX3_lateIt 65 = .ok (.getfield 9, 3) := dk_180 0 9 (dk_at dksX3_lateIt_2 19 rfl rfl)
theorem dX3_lateIt_68 : decode cX3_lateIt 68 = .ok (.iload 5, 2) := dk_21 5 (dk_at dksX3_lateIt_2 22 rfl rfl)
theorem dX3_lateIt_70 : decode cX3_lateIt 70 = .ok (.iaload, 1) := dk_46 (dk_at dksX3_lateIt_3 0 rfl rfl)
theorem dX3_lateIt_71 : decode cX3_lateIt 71 = .ok (.iload 4, 2) := dk_21 4 (dk_at dksX3_lateIt_3 1 rfl rfl)
theorem dX3_lateIt_73 : decode cX3_lateIt 73 = .ok (.if_icmp .ne 12, 3) := dk_160 0 12 (dk_at dksX3_lateIt_3 3 rfl rfl)
theorem dX3_lateIt_76 : decode cX3_lateIt 76 = .ok (.aload_n 0, 1) := dk_42 (dk_at dksX3_lateIt_3 6 rfl rfl)
theorem dX3_lateIt_77 : decode cX3_lateIt 77 = .ok (.bipush 10, 2) := dk_16 10 (dk_at dksX3_lateIt_3 7 rfl rfl)
theorem dX3_lateIt_79 : decode cX3_lateIt 79 = .ok (.iload 4, 2) := dk_21 4 (dk_at dksX3_lateIt_3 9 rfl rfl)
theorem dX3_lateIt_81 : decode cX3_lateIt 81 = .ok (.invokevirtual 106, 3) := dk_182 0 106 (dk_at dksX3_lateIt_3 11 rfl rfl)
theorem dX3_lateIt_84 : decode cX3_lateIt 84 = .ok (.ireturn, 1) := dk_172 (dk_at dksX3_lateIt_3 14 rfl rfl)
theorem dX3_lateIt_85 : decode cX3_lateIt 85 = .ok (.aload_n 0, 1) := dk_42 (dk_at dksX3_lateIt_3 15 rfl rfl)
theorem dX3_lateIt_86 : decode cX3_lateIt 86 = .ok (.getfield 9, 3) := dk_180 0 9 (dk_at dksX3_lateIt_3 16 rfl rfl)
theorem dX3_lateIt_89 : decode cX3_lateIt 89 = .ok (.iload 5, 2) := dk_21 5 (dk_at dksX3_lateIt_3 19 rfl rfl)
theorem dX3_lateIt_91 : decode cX3_lateIt 91 = .ok (.iload 4, 2) := dk_21 4 (dk_at dksX3_lateIt_3 21 rfl rfl)
theorem dX3_lateIt_93 : decode cX3_lateIt 93 = .ok (.iastore, 1) := dk_79 (dk_at dksX3_lateIt_3 23 rfl rfl)
theorem dX3_lateIt_94 : decode cX3_lateIt 94 = .ok (.aload_n 0, 1) := dk_42 (dk_at dksX3_lateIt_4 0 rfl rfl)
theorem dX3_lateIt_95 : decode cX3_lateIt 95 = .ok (.iconst (-1), 1) := dk_2 (dk_at dksX3_lateIt_4 1 rfl rfl)
theorem dX3_lateIt_96 : decode cX3_lateIt 96 = .ok (.iconst (-1), 1) := dk_2 (dk_at dksX3_lateIt_4 2 rfl rfl)
theorem dX3_lateIt_97 : decode cX3_lateIt 97 = .ok (.invokevirtual 159, 3) := dk_182 0 159 (dk_at dksX3_lateIt_4 3 rfl rfl)
theorem dX3_lateIt_100 : decode cX3_lateIt 100 = .ok (.aload_n 0, 1) := dk_42 (dk_at dksX3_lateIt_4 6 rfl rfl)
theorem dX3_lateIt_101 : decode cX3_lateIt 101 = .ok (.iload_n 1, 1) := dk_27 (dk_at dksX3_lateIt_4 7 rfl rfl)
theorem dX3_lateIt_102 : decode cX3_lateIt 102 = .ok (.iload_n 2, 1) := dk_28 (dk_at dksX3_lateIt_4 8 rfl rfl)
theorem dX3_lateIt_103 : decode cX3_lateIt 103 = .ok (.iload_n 3, 1) := dk_29 (dk_at dksX3_lateIt_4 9 rfl rfl)
theorem dX3_lateIt_104 : decode cX3_lateIt 104 = .ok (.invokevirtual 163, 3) := dk_182 0 163 (dk_at dksX3_lateIt_4 10 rfl rfl)
theorem dX3_lateIt_107 : decode cX3_lateIt 107 = .ok (.ireturn, 1) := dk_172 (dk_at dksX3_lateIt_4 13 rfl rfl)
abbrev cX3_laysMinutes : ByteArray := prog_21_method_37_code
def yX3_laysMinutes : MethodName := ⟨RX3, "laysMinutes", "(II)V"⟩
def dkwX3_laysMinutes_10 : List UInt8 := [167, 255, 117, 167, 255, 105, 177]
abbrev dktX3_laysMinutes_10 : List UInt8 := dkwX3_laysMinutes_10 ++ []
def dkwX3_laysMinutes_9 : List UInt8 := [21, 4, 46, 159, 0, 7, 4, 167, 0, 4, 3, 62, 42, 180, 0, 41, 21, 4, 21, 7, 79, 132, 4, 1]
abbrev dktX3_laysMinutes_9 : List UInt8 := dkwX3_laysMinutes_9 ++ dktX3_laysMinutes_10
def dkwX3_laysMinutes_8 : List UInt8 := [21, 5, 21, 6, 21, 4, 5, 112, 182, 0, 191, 96, 54, 7, 29, 154, 0, 15, 21, 7, 42, 180, 0, 41]
abbrev dktX3_laysMinutes_8 : List UInt8 := dkwX3_laysMinutes_8 ++ dktX3_laysMinutes_9
def dkwX3_laysMinutes_7 : List UInt8 := [182, 0, 185, 167, 0, 12, 42, 21, 5, 21, 6, 2, 182, 0, 188, 79, 42, 180, 0, 44, 21, 4, 46, 42]
abbrev dktX3_laysMinutes_7 : List UInt8 := dkwX3_laysMinutes_7 ++ dktX3_laysMinutes_8
def dkwX3_laysMinutes_6 : List UInt8 := [182, 0, 135, 153, 0, 90, 42, 180, 0, 44, 21, 4, 21, 4, 5, 112, 154, 0, 14, 42, 21, 5, 21, 6]
abbrev dktX3_laysMinutes_6 : List UInt8 := dkwX3_laysMinutes_6 ++ dktX3_laysMinutes_7
def dkwX3_laysMinutes_5 : List UInt8 := [54, 6, 21, 5, 42, 180, 0, 9, 3, 46, 162, 0, 105, 42, 21, 5, 21, 6, 21, 4, 5, 112]
abbrev dktX3_laysMinutes_5 : List UInt8 := dkwX3_laysMinutes_5 ++ dktX3_laysMinutes_6
def dkwX3_laysMinutes_4 : List UInt8 := [3, 54, 4, 21, 4, 16, 72, 162, 0, 138, 21, 4, 16, 12, 108, 54, 5, 21, 4, 5, 108, 16, 6, 112]
abbrev dktX3_laysMinutes_4 : List UInt8 := dkwX3_laysMinutes_4 ++ dktX3_laysMinutes_5
def dkwX3_laysMinutes_3 : List UInt8 := [182, 0, 122, 79, 132, 4, 1, 167, 255, 203, 132, 3, 1, 167, 255, 184, 4, 62, 29, 153, 0, 153, 3, 62]
abbrev dktX3_laysMinutes_3 : List UInt8 := dkwX3_laysMinutes_3 ++ dktX3_laysMinutes_4
def dkwX3_laysMinutes_2 : List UInt8 := [29, 21, 4, 3, 182, 0, 122, 79, 42, 180, 0, 41, 29, 21, 4, 4, 184, 0, 170, 42, 29, 21, 4, 4]
abbrev dktX3_laysMinutes_2 : List UInt8 := dkwX3_laysMinutes_2 ++ dktX3_laysMinutes_3
def dkwX3_laysMinutes_1 : List UInt8 := [54, 4, 21, 4, 42, 29, 182, 0, 95, 162, 0, 49, 42, 180, 0, 41, 29, 21, 4, 3, 184, 0, 170, 42]
abbrev dktX3_laysMinutes_1 : List UInt8 := dkwX3_laysMinutes_1 ++ dktX3_laysMinutes_2
def dkwX3_laysMinutes_0 : List UInt8 := [42, 27, 181, 0, 182, 42, 28, 181, 0, 176, 3, 62, 29, 42, 180, 0, 9, 3, 46, 162, 0, 68, 3]
abbrev dktX3_laysMinutes_0 : List UInt8 := dkwX3_laysMinutes_0 ++ dktX3_laysMinutes_1
theorem dksX3_laysMinutes_0 : cX3_laysMinutes.data.toList.drop 0 = dktX3_laysMinutes_0 := by decide +kernel
theorem dksX3_laysMinutes_1 : cX3_laysMinutes.data.toList.drop 23 = dktX3_laysMinutes_1 := dk_seg dksX3_laysMinutes_0 23 rfl rfl
theorem dksX3_laysMinutes_2 : cX3_laysMinutes.data.toList.drop 47 = dktX3_laysMinutes_2 := dk_seg dksX3_laysMinutes_1 24 rfl rfl
theorem dksX3_laysMinutes_3 : cX3_laysMinutes.data.toList.drop 71 = dktX3_laysMinutes_3 := dk_seg dksX3_laysMinutes_2 24 rfl rfl
theorem dksX3_laysMinutes_4 : cX3_laysMinutes.data.toList.drop 95 = dktX3_laysMinutes_4 := dk_seg dksX3_laysMinutes_3 24 rfl rfl
theorem dksX3_laysMinutes_5 : cX3_laysMinutes.data.toList.drop 119 = dktX3_laysMinutes_5 := dk_seg dksX3_laysMinutes_4 24 rfl rfl
theorem dksX3_laysMinutes_6 : cX3_laysMinutes.data.toList.drop 141 = dktX3_laysMinutes_6 := dk_seg dksX3_laysMinutes_5 22 rfl rfl
theorem dksX3_laysMinutes_7 : cX3_laysMinutes.data.toList.drop 165 = dktX3_laysMinutes_7 := dk_seg dksX3_laysMinutes_6 24 rfl rfl
theorem dksX3_laysMinutes_8 : cX3_laysMinutes.data.toList.drop 189 = dktX3_laysMinutes_8 := dk_seg dksX3_laysMinutes_7 24 rfl rfl
theorem dksX3_laysMinutes_9 : cX3_laysMinutes.data.toList.drop 213 = dktX3_laysMinutes_9 := dk_seg dksX3_laysMinutes_8 24 rfl rfl
theorem dksX3_laysMinutes_10 : cX3_laysMinutes.data.toList.drop 237 = dktX3_laysMinutes_10 := dk_seg dksX3_laysMinutes_9 24 rfl rfl
theorem dX3_laysMinutes_0 : decode cX3_laysMinutes 0 = .ok (.aload_n 0, 1) := dk_42 (dk_at dksX3_laysMinutes_0 0 rfl rfl)
theorem dX3_laysMinutes_1 : decode cX3_laysMinutes 1 = .ok (.iload_n 1, 1) := dk_27 (dk_at dksX3_laysMinutes_0 1 rfl rfl)
theorem dX3_laysMinutes_2 : decode cX3_laysMinutes 2 = .ok (.putfield 182, 3) := dk_181 0 182 (dk_at dksX3_laysMinutes_0 2 rfl rfl)
theorem dX3_laysMinutes_5 : decode cX3_laysMinutes 5 = .ok (.aload_n 0, 1) := dk_42 (dk_at dksX3_laysMinutes_0 5 rfl rfl)
theorem dX3_laysMinutes_6 : decode cX3_laysMinutes 6 = .ok (.iload_n 2, 1) := dk_28 (dk_at dksX3_laysMinutes_0 6 rfl rfl)
theorem dX3_laysMinutes_7 : decode cX3_laysMinutes 7 = .ok (.putfield 176, 3) := dk_181 0 176 (dk_at dksX3_laysMinutes_0 7 rfl rfl)
theorem dX3_laysMinutes_10 : decode cX3_laysMinutes 10 = .ok (.iconst 0, 1) := dk_3 (dk_at dksX3_laysMinutes_0 10 rfl rfl)
theorem dX3_laysMinutes_11 : decode cX3_laysMinutes 11 = .ok (.istore_n 3, 1) := dk_62 (dk_at dksX3_laysMinutes_0 11 rfl rfl)
theorem dX3_laysMinutes_12 : decode cX3_laysMinutes 12 = .ok (.iload_n 3, 1) := dk_29 (dk_at dksX3_laysMinutes_0 12 rfl rfl)
theorem dX3_laysMinutes_13 : decode cX3_laysMinutes 13 = .ok (.aload_n 0, 1) := dk_42 (dk_at dksX3_laysMinutes_0 13 rfl rfl)
theorem dX3_laysMinutes_14 : decode cX3_laysMinutes 14 = .ok (.getfield 9, 3) := dk_180 0 9 (dk_at dksX3_laysMinutes_0 14 rfl rfl)
theorem dX3_laysMinutes_17 : decode cX3_laysMinutes 17 = .ok (.iconst 0, 1) := dk_3 (dk_at dksX3_laysMinutes_0 17 rfl rfl)
theorem dX3_laysMinutes_18 : decode cX3_laysMinutes 18 = .ok (.iaload, 1) := dk_46 (dk_at dksX3_laysMinutes_0 18 rfl rfl)
theorem dX3_laysMinutes_19 : decode cX3_laysMinutes 19 = .ok (.if_icmp .ge 68, 3) := dk_162 0 68 (dk_at dksX3_laysMinutes_0 19 rfl rfl)
theorem dX3_laysMinutes_22 : decode cX3_laysMinutes 22 = .ok (.iconst 0, 1) := dk_3 (dk_at dksX3_laysMinutes_0 22 rfl rfl)
theorem dX3_laysMinutes_23 : decode cX3_laysMinutes 23 = .ok (.istore 4, 2) := dk_54 4 (dk_at dksX3_laysMinutes_1 0 rfl rfl)
theorem dX3_laysMinutes_25 : decode cX3_laysMinutes 25 = .ok (.iload 4, 2) := dk_21 4 (dk_at dksX3_laysMinutes_1 2 rfl rfl)
theorem dX3_laysMinutes_27 : decode cX3_laysMinutes 27 = .ok (.aload_n 0, 1) := dk_42 (dk_at dksX3_laysMinutes_1 4 rfl rfl)
theorem dX3_laysMinutes_28 : decode cX3_laysMinutes 28 = .ok (.iload_n 3, 1) := dk_29 (dk_at dksX3_laysMinutes_1 5 rfl rfl)
theorem dX3_laysMinutes_29 : decode cX3_laysMinutes 29 = .ok (.invokevirtual 95, 3) := dk_182 0 95 (dk_at dksX3_laysMinutes_1 6 rfl rfl)
theorem dX3_laysMinutes_32 : decode cX3_laysMinutes 32 = .ok (.if_icmp .ge 49, 3) := dk_162 0 49 (dk_at dksX3_laysMinutes_1 9 rfl rfl)
theorem dX3_laysMinutes_35 : decode cX3_laysMinutes 35 = .ok (.aload_n 0, 1) := dk_42 (dk_at dksX3_laysMinutes_1 12 rfl rfl)
theorem dX3_laysMinutes_36 : decode cX3_laysMinutes 36 = .ok (.getfield 41, 3) := dk_180 0 41 (dk_at dksX3_laysMinutes_1 13 rfl rfl)
theorem dX3_laysMinutes_39 : decode cX3_laysMinutes 39 = .ok (.iload_n 3, 1) := dk_29 (dk_at dksX3_laysMinutes_1 16 rfl rfl)
theorem dX3_laysMinutes_40 : decode cX3_laysMinutes 40 = .ok (.iload 4, 2) := dk_21 4 (dk_at dksX3_laysMinutes_1 17 rfl rfl)
theorem dX3_laysMinutes_42 : decode cX3_laysMinutes 42 = .ok (.iconst 0, 1) := dk_3 (dk_at dksX3_laysMinutes_1 19 rfl rfl)
theorem dX3_laysMinutes_43 : decode cX3_laysMinutes 43 = .ok (.invokestatic 170, 3) := dk_184 0 170 (dk_at dksX3_laysMinutes_1 20 rfl rfl)
theorem dX3_laysMinutes_46 : decode cX3_laysMinutes 46 = .ok (.aload_n 0, 1) := dk_42 (dk_at dksX3_laysMinutes_1 23 rfl rfl)
theorem dX3_laysMinutes_47 : decode cX3_laysMinutes 47 = .ok (.iload_n 3, 1) := dk_29 (dk_at dksX3_laysMinutes_2 0 rfl rfl)
theorem dX3_laysMinutes_48 : decode cX3_laysMinutes 48 = .ok (.iload 4, 2) := dk_21 4 (dk_at dksX3_laysMinutes_2 1 rfl rfl)
theorem dX3_laysMinutes_50 : decode cX3_laysMinutes 50 = .ok (.iconst 0, 1) := dk_3 (dk_at dksX3_laysMinutes_2 3 rfl rfl)
theorem dX3_laysMinutes_51 : decode cX3_laysMinutes 51 = .ok (.invokevirtual 122, 3) := dk_182 0 122 (dk_at dksX3_laysMinutes_2 4 rfl rfl)
theorem dX3_laysMinutes_54 : decode cX3_laysMinutes 54 = .ok (.iastore, 1) := dk_79 (dk_at dksX3_laysMinutes_2 7 rfl rfl)
theorem dX3_laysMinutes_55 : decode cX3_laysMinutes 55 = .ok (.aload_n 0, 1) := dk_42 (dk_at dksX3_laysMinutes_2 8 rfl rfl)
theorem dX3_laysMinutes_56 : decode cX3_laysMinutes 56 = .ok (.getfield 41, 3) := dk_180 0 41 (dk_at dksX3_laysMinutes_2 9 rfl rfl)
theorem dX3_laysMinutes_59 : decode cX3_laysMinutes 59 = .ok (.iload_n 3, 1) := dk_29 (dk_at dksX3_laysMinutes_2 12 rfl rfl)
theorem dX3_laysMinutes_60 : decode cX3_laysMinutes 60 = .ok (.iload 4, 2) := dk_21 4 (dk_at dksX3_laysMinutes_2 13 rfl rfl)
theorem dX3_laysMinutes_62 : decode cX3_laysMinutes 62 = .ok (.iconst 1, 1) := dk_4 (dk_at dksX3_laysMinutes_2 15 rfl rfl)
theorem dX3_laysMinutes_63 : decode cX3_laysMinutes 63 = .ok (.invokestatic 170, 3) := dk_184 0 170 (dk_at dksX3_laysMinutes_2 16 rfl rfl)
theorem dX3_laysMinutes_66 : decode cX3_laysMinutes 66 = .ok (.aload_n 0, 1) := dk_42 (dk_at dksX3_laysMinutes_2 19 rfl rfl)
theorem dX3_laysMinutes_67 : decode cX3_laysMinutes 67 = .ok (.iload_n 3, 1) := dk_29 (dk_at dksX3_laysMinutes_2 20 rfl rfl)
theorem dX3_laysMinutes_68 : decode cX3_laysMinutes 68 = .ok (.iload 4, 2) := dk_21 4 (dk_at dksX3_laysMinutes_2 21 rfl rfl)
theorem dX3_laysMinutes_70 : decode cX3_laysMinutes 70 = .ok (.iconst 1, 1) := dk_4 (dk_at dksX3_laysMinutes_2 23 rfl rfl)
theorem dX3_laysMinutes_71 : decode cX3_laysMinutes 71 = .ok (.invokevirtual 122, 3) := dk_182 0 122 (dk_at dksX3_laysMinutes_3 0 rfl rfl)
theorem dX3_laysMinutes_74 : decode cX3_laysMinutes 74 = .ok (.iastore, 1) := dk_79 (dk_at dksX3_laysMinutes_3 3 rfl rfl)
theorem dX3_laysMinutes_75 : decode cX3_laysMinutes 75 = .ok (.iinc 4 1, 3) := dk_132 4 1 (dk_at dksX3_laysMinutes_3 4 rfl rfl)
theorem dX3_laysMinutes_78 : decode cX3_laysMinutes 78 = .ok (.goto (-53), 3) := dk_167 255 203 (dk_at dksX3_laysMinutes_3 7 rfl rfl)
theorem dX3_laysMinutes_81 : decode cX3_laysMinutes 81 = .ok (.iinc 3 1, 3) := dk_132 3 1 (dk_at dksX3_laysMinutes_3 10 rfl rfl)
theorem dX3_laysMinutes_84 : decode cX3_laysMinutes 84 = .ok (.goto (-72), 3) := dk_167 255 184 (dk_at dksX3_laysMinutes_3 13 rfl rfl)
theorem dX3_laysMinutes_87 : decode cX3_laysMinutes 87 = .ok (.iconst 1, 1) := dk_4 (dk_at dksX3_laysMinutes_3 16 rfl rfl)
theorem dX3_laysMinutes_88 : decode cX3_laysMinutes 88 = .ok (.istore_n 3, 1) := dk_62 (dk_at dksX3_laysMinutes_3 17 rfl rfl)
theorem dX3_laysMinutes_89 : decode cX3_laysMinutes 89 = .ok (.iload_n 3, 1) := dk_29 (dk_at dksX3_laysMinutes_3 18 rfl rfl)
theorem dX3_laysMinutes_90 : decode cX3_laysMinutes 90 = .ok (.ifCond .eq 153, 3) := dk_153 0 153 (dk_at dksX3_laysMinutes_3 19 rfl rfl)
theorem dX3_laysMinutes_93 : decode cX3_laysMinutes 93 = .ok (.iconst 0, 1) := dk_3 (dk_at dksX3_laysMinutes_3 22 rfl rfl)
theorem dX3_laysMinutes_94 : decode cX3_laysMinutes 94 = .ok (.istore_n 3, 1) := dk_62 (dk_at dksX3_laysMinutes_3 23 rfl rfl)
theorem dX3_laysMinutes_95 : decode cX3_laysMinutes 95 = .ok (.iconst 0, 1) := dk_3 (dk_at dksX3_laysMinutes_4 0 rfl rfl)
theorem dX3_laysMinutes_96 : decode cX3_laysMinutes 96 = .ok (.istore 4, 2) := dk_54 4 (dk_at dksX3_laysMinutes_4 1 rfl rfl)
theorem dX3_laysMinutes_98 : decode cX3_laysMinutes 98 = .ok (.iload 4, 2) := dk_21 4 (dk_at dksX3_laysMinutes_4 3 rfl rfl)
theorem dX3_laysMinutes_100 : decode cX3_laysMinutes 100 = .ok (.bipush 72, 2) := dk_16 72 (dk_at dksX3_laysMinutes_4 5 rfl rfl)
theorem dX3_laysMinutes_102 : decode cX3_laysMinutes 102 = .ok (.if_icmp .ge 138, 3) := dk_162 0 138 (dk_at dksX3_laysMinutes_4 7 rfl rfl)
theorem dX3_laysMinutes_105 : decode cX3_laysMinutes 105 = .ok (.iload 4, 2) := dk_21 4 (dk_at dksX3_laysMinutes_4 10 rfl rfl)
theorem dX3_laysMinutes_107 : decode cX3_laysMinutes 107 = .ok (.bipush 12, 2) := dk_16 12 (dk_at dksX3_laysMinutes_4 12 rfl rfl)
theorem dX3_laysMinutes_109 : decode cX3_laysMinutes 109 = .ok (.idiv, 1) := dk_108 (dk_at dksX3_laysMinutes_4 14 rfl rfl)
theorem dX3_laysMinutes_110 : decode cX3_laysMinutes 110 = .ok (.istore 5, 2) := dk_54 5 (dk_at dksX3_laysMinutes_4 15 rfl rfl)
theorem dX3_laysMinutes_112 : decode cX3_laysMinutes 112 = .ok (.iload 4, 2) := dk_21 4 (dk_at dksX3_laysMinutes_4 17 rfl rfl)
theorem dX3_laysMinutes_114 : decode cX3_laysMinutes 114 = .ok (.iconst 2, 1) := dk_5 (dk_at dksX3_laysMinutes_4 19 rfl rfl)
theorem dX3_laysMinutes_115 : decode cX3_laysMinutes 115 = .ok (.idiv, 1) := dk_108 (dk_at dksX3_laysMinutes_4 20 rfl rfl)
theorem dX3_laysMinutes_116 : decode cX3_laysMinutes 116 = .ok (.bipush 6, 2) := dk_16 6 (dk_at dksX3_laysMinutes_4 21 rfl rfl)
theorem dX3_laysMinutes_118 : decode cX3_laysMinutes 118 = .ok (.irem, 1) := dk_112 (dk_at dksX3_laysMinutes_4 23 rfl rfl)
theorem dX3_laysMinutes_119 : decode cX3_laysMinutes 119 = .ok (.istore 6, 2) := dk_54 6 (dk_at dksX3_laysMinutes_5 0 rfl rfl)
theorem dX3_laysMinutes_121 : decode cX3_laysMinutes 121 = .ok (.iload 5, 2) := dk_21 5 (dk_at dksX3_laysMinutes_5 2 rfl rfl)
theorem dX3_laysMinutes_123 : decode cX3_laysMinutes 123 = .ok (.aload_n 0, 1) := dk_42 (dk_at dksX3_laysMinutes_5 4 rfl rfl)
theorem dX3_laysMinutes_124 : decode cX3_laysMinutes 124 = .ok (.getfield 9, 3) := dk_180 0 9 (dk_at dksX3_laysMinutes_5 5 rfl rfl)
theorem dX3_laysMinutes_127 : decode cX3_laysMinutes 127 = .ok (.iconst 0, 1) := dk_3 (dk_at dksX3_laysMinutes_5 8 rfl rfl)
theorem dX3_laysMinutes_128 : decode cX3_laysMinutes 128 = .ok (.iaload, 1) := dk_46 (dk_at dksX3_laysMinutes_5 9 rfl rfl)
theorem dX3_laysMinutes_129 : decode cX3_laysMinutes 129 = .ok (.if_icmp .ge 105, 3) := dk_162 0 105 (dk_at dksX3_laysMinutes_5 10 rfl rfl)
theorem dX3_laysMinutes_132 : decode cX3_laysMinutes 132 = .ok (.aload_n 0, 1) := dk_42 (dk_at dksX3_laysMinutes_5 13 rfl rfl)
theorem dX3_laysMinutes_133 : decode cX3_laysMinutes 133 = .ok (.iload 5, 2) := dk_21 5 (dk_at dksX3_laysMinutes_5 14 rfl rfl)
theorem dX3_laysMinutes_135 : decode cX3_laysMinutes 135 = .ok (.iload 6, 2) := dk_21 6 (dk_at dksX3_laysMinutes_5 16 rfl rfl)
theorem dX3_laysMinutes_137 : decode cX3_laysMinutes 137 = .ok (.iload 4, 2) := dk_21 4 (dk_at dksX3_laysMinutes_5 18 rfl rfl)
theorem dX3_laysMinutes_139 : decode cX3_laysMinutes 139 = .ok (.iconst 2, 1) := dk_5 (dk_at dksX3_laysMinutes_5 20 rfl rfl)
theorem dX3_laysMinutes_140 : decode cX3_laysMinutes 140 = .ok (.irem, 1) := dk_112 (dk_at dksX3_laysMinutes_5 21 rfl rfl)
theorem dX3_laysMinutes_141 : decode cX3_laysMinutes 141 = .ok (.invokevirtual 135, 3) := dk_182 0 135 (dk_at dksX3_laysMinutes_6 0 rfl rfl)
theorem dX3_laysMinutes_144 : decode cX3_laysMinutes 144 = .ok (.ifCond .eq 90, 3) := dk_153 0 90 (dk_at dksX3_laysMinutes_6 3 rfl rfl)
theorem dX3_laysMinutes_147 : decode cX3_laysMinutes 147 = .ok (.aload_n 0, 1) := dk_42 (dk_at dksX3_laysMinutes_6 6 rfl rfl)
theorem dX3_laysMinutes_148 : decode cX3_laysMinutes 148 = .ok (.getfield 44, 3) := dk_180 0 44 (dk_at dksX3_laysMinutes_6 7 rfl rfl)
theorem dX3_laysMinutes_151 : decode cX3_laysMinutes 151 = .ok (.iload 4, 2) := dk_21 4 (dk_at dksX3_laysMinutes_6 10 rfl rfl)
theorem dX3_laysMinutes_153 : decode cX3_laysMinutes 153 = .ok (.iload 4, 2) := dk_21 4 (dk_at dksX3_laysMinutes_6 12 rfl rfl)
theorem dX3_laysMinutes_155 : decode cX3_laysMinutes 155 = .ok (.iconst 2, 1) := dk_5 (dk_at dksX3_laysMinutes_6 14 rfl rfl)
theorem dX3_laysMinutes_156 : decode cX3_laysMinutes 156 = .ok (.irem, 1) := dk_112 (dk_at dksX3_laysMinutes_6 15 rfl rfl)
theorem dX3_laysMinutes_157 : decode cX3_laysMinutes 157 = .ok (.ifCond .ne 14, 3) := dk_154 0 14 (dk_at dksX3_laysMinutes_6 16 rfl rfl)
theorem dX3_laysMinutes_160 : decode cX3_laysMinutes 160 = .ok (.aload_n 0, 1) := dk_42 (dk_at dksX3_laysMinutes_6 19 rfl rfl)
theorem dX3_laysMinutes_161 : decode cX3_laysMinutes 161 = .ok (.iload 5, 2) := dk_21 5 (dk_at dksX3_laysMinutes_6 20 rfl rfl)
theorem dX3_laysMinutes_163 : decode cX3_laysMinutes 163 = .ok (.iload 6, 2) := dk_21 6 (dk_at dksX3_laysMinutes_6 22 rfl rfl)
theorem dX3_laysMinutes_165 : decode cX3_laysMinutes 165 = .ok (.invokevirtual 185, 3) := dk_182 0 185 (dk_at dksX3_laysMinutes_7 0 rfl rfl)
theorem dX3_laysMinutes_168 : decode cX3_laysMinutes 168 = .ok (.goto 12, 3) := dk_167 0 12 (dk_at dksX3_laysMinutes_7 3 rfl rfl)
theorem dX3_laysMinutes_171 : decode cX3_laysMinutes 171 = .ok (.aload_n 0, 1) := dk_42 (dk_at dksX3_laysMinutes_7 6 rfl rfl)
theorem dX3_laysMinutes_172 : decode cX3_laysMinutes 172 = .ok (.iload 5, 2) := dk_21 5 (dk_at dksX3_laysMinutes_7 7 rfl rfl)
theorem dX3_laysMinutes_174 : decode cX3_laysMinutes 174 = .ok (.iload 6, 2) := dk_21 6 (dk_at dksX3_laysMinutes_7 9 rfl rfl)
theorem dX3_laysMinutes_176 : decode cX3_laysMinutes 176 = .ok (.iconst (-1), 1) := dk_2 (dk_at dksX3_laysMinutes_7 11 rfl rfl)
theorem dX3_laysMinutes_177 : decode cX3_laysMinutes 177 = .ok (.invokevirtual 188, 3) := dk_182 0 188 (dk_at dksX3_laysMinutes_7 12 rfl rfl)
theorem dX3_laysMinutes_180 : decode cX3_laysMinutes 180 = .ok (.iastore, 1) := dk_79 (dk_at dksX3_laysMinutes_7 15 rfl rfl)
theorem dX3_laysMinutes_181 : decode cX3_laysMinutes 181 = .ok (.aload_n 0, 1) := dk_42 (dk_at dksX3_laysMinutes_7 16 rfl rfl)
theorem dX3_laysMinutes_182 : decode cX3_laysMinutes 182 = .ok (.getfield 44, 3) := dk_180 0 44 (dk_at dksX3_laysMinutes_7 17 rfl rfl)
theorem dX3_laysMinutes_185 : decode cX3_laysMinutes 185 = .ok (.iload 4, 2) := dk_21 4 (dk_at dksX3_laysMinutes_7 20 rfl rfl)
theorem dX3_laysMinutes_187 : decode cX3_laysMinutes 187 = .ok (.iaload, 1) := dk_46 (dk_at dksX3_laysMinutes_7 22 rfl rfl)
theorem dX3_laysMinutes_188 : decode cX3_laysMinutes 188 = .ok (.aload_n 0, 1) := dk_42 (dk_at dksX3_laysMinutes_7 23 rfl rfl)
theorem dX3_laysMinutes_189 : decode cX3_laysMinutes 189 = .ok (.iload 5, 2) := dk_21 5 (dk_at dksX3_laysMinutes_8 0 rfl rfl)
theorem dX3_laysMinutes_191 : decode cX3_laysMinutes 191 = .ok (.iload 6, 2) := dk_21 6 (dk_at dksX3_laysMinutes_8 2 rfl rfl)
theorem dX3_laysMinutes_193 : decode cX3_laysMinutes 193 = .ok (.iload 4, 2) := dk_21 4 (dk_at dksX3_laysMinutes_8 4 rfl rfl)
theorem dX3_laysMinutes_195 : decode cX3_laysMinutes 195 = .ok (.iconst 2, 1) := dk_5 (dk_at dksX3_laysMinutes_8 6 rfl rfl)
theorem dX3_laysMinutes_196 : decode cX3_laysMinutes 196 = .ok (.irem, 1) := dk_112 (dk_at dksX3_laysMinutes_8 7 rfl rfl)
theorem dX3_laysMinutes_197 : decode cX3_laysMinutes 197 = .ok (.invokevirtual 191, 3) := dk_182 0 191 (dk_at dksX3_laysMinutes_8 8 rfl rfl)
theorem dX3_laysMinutes_200 : decode cX3_laysMinutes 200 = .ok (.iadd, 1) := dk_96 (dk_at dksX3_laysMinutes_8 11 rfl rfl)
theorem dX3_laysMinutes_201 : decode cX3_laysMinutes 201 = .ok (.istore 7, 2) := dk_54 7 (dk_at dksX3_laysMinutes_8 12 rfl rfl)
theorem dX3_laysMinutes_203 : decode cX3_laysMinutes 203 = .ok (.iload_n 3, 1) := dk_29 (dk_at dksX3_laysMinutes_8 14 rfl rfl)
theorem dX3_laysMinutes_204 : decode cX3_laysMinutes 204 = .ok (.ifCond .ne 15, 3) := dk_154 0 15 (dk_at dksX3_laysMinutes_8 15 rfl rfl)
theorem dX3_laysMinutes_207 : decode cX3_laysMinutes 207 = .ok (.iload 7, 2) := dk_21 7 (dk_at dksX3_laysMinutes_8 18 rfl rfl)
theorem dX3_laysMinutes_209 : decode cX3_laysMinutes 209 = .ok (.aload_n 0, 1) := dk_42 (dk_at dksX3_laysMinutes_8 20 rfl rfl)
theorem dX3_laysMinutes_210 : decode cX3_laysMinutes 210 = .ok (.getfield 41, 3) := dk_180 0 41 (dk_at dksX3_laysMinutes_8 21 rfl rfl)
theorem dX3_laysMinutes_213 : decode cX3_laysMinutes 213 = .ok (.iload 4, 2) := dk_21 4 (dk_at dksX3_laysMinutes_9 0 rfl rfl)
theorem dX3_laysMinutes_215 : decode cX3_laysMinutes 215 = .ok (.iaload, 1) := dk_46 (dk_at dksX3_laysMinutes_9 2 rfl rfl)
theorem dX3_laysMinutes_216 : decode cX3_laysMinutes 216 = .ok (.if_icmp .eq 7, 3) := dk_159 0 7 (dk_at dksX3_laysMinutes_9 3 rfl rfl)
theorem dX3_laysMinutes_219 : decode cX3_laysMinutes 219 = .ok (.iconst 1, 1) := dk_4 (dk_at dksX3_laysMinutes_9 6 rfl rfl)
theorem dX3_laysMinutes_220 : decode cX3_laysMinutes 220 = .ok (.goto 4, 3) := dk_167 0 4 (dk_at dksX3_laysMinutes_9 7 rfl rfl)
theorem dX3_laysMinutes_223 : decode cX3_laysMinutes 223 = .ok (.iconst 0, 1) := dk_3 (dk_at dksX3_laysMinutes_9 10 rfl rfl)
theorem dX3_laysMinutes_224 : decode cX3_laysMinutes 224 = .ok (.istore_n 3, 1) := dk_62 (dk_at dksX3_laysMinutes_9 11 rfl rfl)
theorem dX3_laysMinutes_225 : decode cX3_laysMinutes 225 = .ok (.aload_n 0, 1) := dk_42 (dk_at dksX3_laysMinutes_9 12 rfl rfl)
theorem dX3_laysMinutes_226 : decode cX3_laysMinutes 226 = .ok (.getfield 41, 3) := dk_180 0 41 (dk_at dksX3_laysMinutes_9 13 rfl rfl)
theorem dX3_laysMinutes_229 : decode cX3_laysMinutes 229 = .ok (.iload 4, 2) := dk_21 4 (dk_at dksX3_laysMinutes_9 16 rfl rfl)
theorem dX3_laysMinutes_231 : decode cX3_laysMinutes 231 = .ok (.iload 7, 2) := dk_21 7 (dk_at dksX3_laysMinutes_9 18 rfl rfl)
theorem dX3_laysMinutes_233 : decode cX3_laysMinutes 233 = .ok (.iastore, 1) := dk_79 (dk_at dksX3_laysMinutes_9 20 rfl rfl)
theorem dX3_laysMinutes_234 : decode cX3_laysMinutes 234 = .ok (.iinc 4 1, 3) := dk_132 4 1 (dk_at dksX3_laysMinutes_9 21 rfl rfl)
theorem dX3_laysMinutes_237 : decode cX3_laysMinutes 237 = .ok (.goto (-139), 3) := dk_167 255 117 (dk_at dksX3_laysMinutes_10 0 rfl rfl)
theorem dX3_laysMinutes_240 : decode cX3_laysMinutes 240 = .ok (.goto (-151), 3) := dk_167 255 105 (dk_at dksX3_laysMinutes_10 3 rfl rfl)
theorem dX3_laysMinutes_243 : decode cX3_laysMinutes 243 = .ok (.return_, 1) := dk_177 (dk_at dksX3_laysMinutes_10 6 rfl rfl)
abbrev cX3_ofEvent : ByteArray := prog_21_method_32_code
def yX3_ofEvent : MethodName := ⟨RX3, "ofEvent", "(III)I"⟩
def dkwX3_ofEvent_0 : List UInt8 := [5, 16, 6, 26, 104, 27, 96, 104, 28, 96, 172]
abbrev dktX3_ofEvent_0 : List UInt8 := dkwX3_ofEvent_0 ++ []
theorem dksX3_ofEvent_0 : cX3_ofEvent.data.toList.drop 0 = dktX3_ofEvent_0 := by decide +kernel
theorem dX3_ofEvent_0 : decode cX3_ofEvent 0 = .ok (.iconst 2, 1) := dk_5 (dk_at dksX3_ofEvent_0 0 rfl rfl)
theorem dX3_ofEvent_1 : decode cX3_ofEvent 1 = .ok (.bipush 6, 2) := dk_16 6 (dk_at dksX3_ofEvent_0 1 rfl rfl)
theorem dX3_ofEvent_3 : decode cX3_ofEvent 3 = .ok (.iload_n 0, 1) := dk_26 (dk_at dksX3_ofEvent_0 3 rfl rfl)
theorem dX3_ofEvent_4 : decode cX3_ofEvent 4 = .ok (.imul, 1) := dk_104 (dk_at dksX3_ofEvent_0 4 rfl rfl)
theorem dX3_ofEvent_5 : decode cX3_ofEvent 5 = .ok (.iload_n 1, 1) := dk_27 (dk_at dksX3_ofEvent_0 5 rfl rfl)
theorem dX3_ofEvent_6 : decode cX3_ofEvent 6 = .ok (.iadd, 1) := dk_96 (dk_at dksX3_ofEvent_0 6 rfl rfl)
theorem dX3_ofEvent_7 : decode cX3_ofEvent 7 = .ok (.imul, 1) := dk_104 (dk_at dksX3_ofEvent_0 7 rfl rfl)
theorem dX3_ofEvent_8 : decode cX3_ofEvent 8 = .ok (.iload_n 2, 1) := dk_28 (dk_at dksX3_ofEvent_0 8 rfl rfl)
theorem dX3_ofEvent_9 : decode cX3_ofEvent 9 = .ok (.iadd, 1) := dk_96 (dk_at dksX3_ofEvent_0 9 rfl rfl)
theorem dX3_ofEvent_10 : decode cX3_ofEvent 10 = .ok (.ireturn, 1) := dk_172 (dk_at dksX3_ofEvent_0 10 rfl rfl)
abbrev cX3_arrivalBase : ByteArray := prog_21_method_39_code
def yX3_arrivalBase : MethodName := ⟨RX3, "arrivalBase", "(II)I"⟩
def dkwX3_arrivalBase_0 : List UInt8 := [42, 27, 28, 3, 182, 0, 122, 42, 27, 28, 182, 0, 194, 184, 0, 197, 172]
abbrev dktX3_arrivalBase_0 : List UInt8 := dkwX3_arrivalBase_0 ++ []
theorem dksX3_arrivalBase_0 : cX3_arrivalBase.data.toList.drop 0 = dktX3_arrivalBase_0 := by decide +kernel
theorem dX3_arrivalBase_0 : decode cX3_arrivalBase 0 = .ok (.aload_n 0, 1) := dk_42 (dk_at dksX3_arrivalBase_0 0 rfl rfl)
theorem dX3_arrivalBase_1 : decode cX3_arrivalBase 1 = .ok (.iload_n 1, 1) := dk_27 (dk_at dksX3_arrivalBase_0 1 rfl rfl)
theorem dX3_arrivalBase_2 : decode cX3_arrivalBase 2 = .ok (.iload_n 2, 1) := dk_28 (dk_at dksX3_arrivalBase_0 2 rfl rfl)
theorem dX3_arrivalBase_3 : decode cX3_arrivalBase 3 = .ok (.iconst 0, 1) := dk_3 (dk_at dksX3_arrivalBase_0 3 rfl rfl)
theorem dX3_arrivalBase_4 : decode cX3_arrivalBase 4 = .ok (.invokevirtual 122, 3) := dk_182 0 122 (dk_at dksX3_arrivalBase_0 4 rfl rfl)
theorem dX3_arrivalBase_7 : decode cX3_arrivalBase 7 = .ok (.aload_n 0, 1) := dk_42 (dk_at dksX3_arrivalBase_0 7 rfl rfl)
theorem dX3_arrivalBase_8 : decode cX3_arrivalBase 8 = .ok (.iload_n 1, 1) := dk_27 (dk_at dksX3_arrivalBase_0 8 rfl rfl)
theorem dX3_arrivalBase_9 : decode cX3_arrivalBase 9 = .ok (.iload_n 2, 1) := dk_28 (dk_at dksX3_arrivalBase_0 9 rfl rfl)
theorem dX3_arrivalBase_10 : decode cX3_arrivalBase 10 = .ok (.invokevirtual 194, 3) := dk_182 0 194 (dk_at dksX3_arrivalBase_0 10 rfl rfl)
theorem dX3_arrivalBase_13 : decode cX3_arrivalBase 13 = .ok (.invokestatic 197, 3) := dk_184 0 197 (dk_at dksX3_arrivalBase_0 13 rfl rfl)
theorem dX3_arrivalBase_16 : decode cX3_arrivalBase 16 = .ok (.ireturn, 1) := dk_172 (dk_at dksX3_arrivalBase_0 16 rfl rfl)
abbrev cX3_byLeg : ByteArray := prog_21_method_38_code
def yX3_byLeg : MethodName := ⟨RX3, "byLeg", "(II)I"⟩
def dkwX3_byLeg_0 : List UInt8 := [42, 27, 28, 4, 100, 4, 182, 0, 173, 42, 180, 0, 9, 27, 28, 184, 0, 98, 4, 96, 46, 96, 172]
abbrev dktX3_byLeg_0 : List UInt8 := dkwX3_byLeg_0 ++ []
theorem dksX3_byLeg_0 : cX3_byLeg.data.toList.drop 0 = dktX3_byLeg_0 := by decide +kernel
theorem dX3_byLeg_0 : decode cX3_byLeg 0 = .ok (.aload_n 0, 1) := dk_42 (dk_at dksX3_byLeg_0 0 rfl rfl)
theorem dX3_byLeg_1 : decode cX3_byLeg 1 = .ok (.iload_n 1, 1) := dk_27 (dk_at dksX3_byLeg_0 1 rfl rfl)
theorem dX3_byLeg_2 : decode cX3_byLeg 2 = .ok (.iload_n 2, 1) := dk_28 (dk_at dksX3_byLeg_0 2 rfl rfl)
theorem dX3_byLeg_3 : decode cX3_byLeg 3 = .ok (.iconst 1, 1) := dk_4 (dk_at dksX3_byLeg_0 3 rfl rfl)
theorem dX3_byLeg_4 : decode cX3_byLeg 4 = .ok (.isub, 1) := dk_100 (dk_at dksX3_byLeg_0 4 rfl rfl)
theorem dX3_byLeg_5 : decode cX3_byLeg 5 = .ok (.iconst 1, 1) := dk_4 (dk_at dksX3_byLeg_0 5 rfl rfl)
theorem dX3_byLeg_6 : decode cX3_byLeg 6 = .ok (.invokevirtual 173, 3) := dk_182 0 173 (dk_at dksX3_byLeg_0 6 rfl rfl)
theorem dX3_byLeg_9 : decode cX3_byLeg 9 = .ok (.aload_n 0, 1) := dk_42 (dk_at dksX3_byLeg_0 9 rfl rfl)
theorem dX3_byLeg_10 : decode cX3_byLeg 10 = .ok (.getfield 9, 3) := dk_180 0 9 (dk_at dksX3_byLeg_0 10 rfl rfl)
theorem dX3_byLeg_13 : decode cX3_byLeg 13 = .ok (.iload_n 1, 1) := dk_27 (dk_at dksX3_byLeg_0 13 rfl rfl)
theorem dX3_byLeg_14 : decode cX3_byLeg 14 = .ok (.iload_n 2, 1) := dk_28 (dk_at dksX3_byLeg_0 14 rfl rfl)
theorem dX3_byLeg_15 : decode cX3_byLeg 15 = .ok (.invokestatic 98, 3) := dk_184 0 98 (dk_at dksX3_byLeg_0 15 rfl rfl)
theorem dX3_byLeg_18 : decode cX3_byLeg 18 = .ok (.iconst 1, 1) := dk_4 (dk_at dksX3_byLeg_0 18 rfl rfl)
theorem dX3_byLeg_19 : decode cX3_byLeg 19 = .ok (.iadd, 1) := dk_96 (dk_at dksX3_byLeg_0 19 rfl rfl)
theorem dX3_byLeg_20 : decode cX3_byLeg 20 = .ok (.iaload, 1) := dk_46 (dk_at dksX3_byLeg_0 20 rfl rfl)
theorem dX3_byLeg_21 : decode cX3_byLeg 21 = .ok (.iadd, 1) := dk_96 (dk_at dksX3_byLeg_0 21 rfl rfl)
theorem dX3_byLeg_22 : decode cX3_byLeg 22 = .ok (.ireturn, 1) := dk_172 (dk_at dksX3_byLeg_0 22 rfl rfl)
abbrev cX3_minuteOf : ByteArray := prog_21_method_33_code
def yX3_minuteOf : MethodName := ⟨RX3, "minuteOf", "(III)I"⟩
def dkwX3_minuteOf_0 : List UInt8 := [42, 180, 0, 41, 27, 28, 29, 184, 0, 170, 46, 172]
abbrev dktX3_minuteOf_0 : List UInt8 := dkwX3_minuteOf_0 ++ []
theorem dksX3_minuteOf_0 : cX3_minuteOf.data.toList.drop 0 = dktX3_minuteOf_0 := by decide +kernel
theorem dX3_minuteOf_0 : decode cX3_minuteOf 0 = .ok (.aload_n 0, 1) := dk_42 (dk_at dksX3_minuteOf_0 0 rfl rfl)
theorem dX3_minuteOf_1 : decode cX3_minuteOf 1 = .ok (.getfield 41, 3) := dk_180 0 41 (dk_at dksX3_minuteOf_0 1 rfl rfl)
theorem dX3_minuteOf_4 : decode cX3_minuteOf 4 = .ok (.iload_n 1, 1) := dk_27 (dk_at dksX3_minuteOf_0 4 rfl rfl)
theorem dX3_minuteOf_5 : decode cX3_minuteOf 5 = .ok (.iload_n 2, 1) := dk_28 (dk_at dksX3_minuteOf_0 5 rfl rfl)
theorem dX3_minuteOf_6 : decode cX3_minuteOf 6 = .ok (.iload_n 3, 1) := dk_29 (dk_at dksX3_minuteOf_0 6 rfl rfl)
theorem dX3_minuteOf_7 : decode cX3_minuteOf 7 = .ok (.invokestatic 170, 3) := dk_184 0 170 (dk_at dksX3_minuteOf_0 7 rfl rfl)
theorem dX3_minuteOf_10 : decode cX3_minuteOf 10 = .ok (.iaload, 1) := dk_46 (dk_at dksX3_minuteOf_0 10 rfl rfl)
theorem dX3_minuteOf_11 : decode cX3_minuteOf 11 = .ok (.ireturn, 1) := dk_172 (dk_at dksX3_minuteOf_0 11 rfl rfl)
abbrev cX3_departureBase : ByteArray := prog_21_method_46_code
def yX3_departureBase : MethodName := ⟨RX3, "departureBase", "(III)I"⟩
def dkwX3_departureBase_2 : List UInt8 := [21, 4, 42, 21, 5, 182, 0, 208, 184, 0, 197, 54, 4, 132, 5, 1, 167, 255, 203, 21, 4, 172]
abbrev dktX3_departureBase_2 : List UInt8 := dkwX3_departureBase_2 ++ []
def dkwX3_departureBase_1 : List UInt8 := [29, 159, 0, 36, 42, 21, 5, 27, 28, 182, 0, 217, 153, 0, 25, 42, 21, 5, 182, 0, 220, 153, 0, 16]
abbrev dktX3_departureBase_1 : List UInt8 := dkwX3_departureBase_1 ++ dktX3_departureBase_2
def dkwX3_departureBase_0 : List UInt8 := [42, 27, 28, 182, 0, 211, 54, 4, 3, 54, 5, 21, 5, 42, 180, 0, 9, 4, 46, 162, 0, 48, 21, 5]
abbrev dktX3_departureBase_0 : List UInt8 := dkwX3_departureBase_0 ++ dktX3_departureBase_1
theorem dksX3_departureBase_0 : cX3_departureBase.data.toList.drop 0 = dktX3_departureBase_0 := by decide +kernel
theorem dksX3_departureBase_1 : cX3_departureBase.data.toList.drop 24 = dktX3_departureBase_1 := dk_seg dksX3_departureBase_0 24 rfl rfl
theorem dksX3_departureBase_2 : cX3_departureBase.data.toList.drop 48 = dktX3_departureBase_2 := dk_seg dksX3_departureBase_1 24 rfl rfl
theorem dX3_departureBase_0 : decode cX3_departureBase 0 = .ok (.aload_n 0, 1) := dk_42 (dk_at dksX3_departureBase_0 0 rfl rfl)
theorem dX3_departureBase_1 : decode cX3_departureBase 1 = .ok (.iload_n 1, 1) := dk_27 (dk_at dksX3_departureBase_0 1 rfl rfl)
theorem dX3_departureBase_2 : decode cX3_departureBase 2 = .ok (.iload_n 2, 1) := dk_28 (dk_at dksX3_departureBase_0 2 rfl rfl)
theorem dX3_departureBase_3 : decode cX3_departureBase 3 = .ok (.invokevirtual 211, 3) := dk_182 0 211 (dk_at dksX3_departureBase_0 3 rfl rfl)
theorem dX3_departureBase_6 : decode cX3_departureBase 6 = .ok (.istore 4, 2) := dk_54 4 (dk_at dksX3_departureBase_0 6 rfl rfl)
theorem dX3_departureBase_8 : decode cX3_departureBase 8 = .ok (.iconst 0, 1) := dk_3 (dk_at dksX3_departureBase_0 8 rfl rfl)
theorem dX3_departureBase_9 : decode cX3_departureBase 9 = .ok (.istore 5, 2) := dk_54 5 (dk_at dksX3_departureBase_0 9 rfl rfl)
theorem dX3_departureBase_11 : decode cX3_departureBase 11 = .ok (.iload 5, 2) := dk_21 5 (dk_at dksX3_departureBase_0 11 rfl rfl)
theorem dX3_departureBase_13 : decode cX3_departureBase 13 = .ok (.aload_n 0, 1) := dk_42 (dk_at dksX3_departureBase_0 13 rfl rfl)
theorem dX3_departureBase_14 : decode cX3_departureBase 14 = .ok (.getfield 9, 3) := dk_180 0 9 (dk_at dksX3_departureBase_0 14 rfl rfl)
theorem dX3_departureBase_17 : decode cX3_departureBase 17 = .ok (.iconst 1, 1) := dk_4 (dk_at dksX3_departureBase_0 17 rfl rfl)
theorem dX3_departureBase_18 : decode cX3_departureBase 18 = .ok (.iaload, 1) := dk_46 (dk_at dksX3_departureBase_0 18 rfl rfl)
theorem dX3_departureBase_19 : decode cX3_departureBase 19 = .ok (.if_icmp .ge 48, 3) := dk_162 0 48 (dk_at dksX3_departureBase_0 19 rfl rfl)
theorem dX3_departureBase_22 : decode cX3_departureBase 22 = .ok (.iload 5, 2) := dk_21 5 (dk_at dksX3_departureBase_0 22 rfl rfl)
theorem dX3_departureBase_24 : decode cX3_departureBase 24 = .ok (.iload_n 3, 1) := dk_29 (dk_at dksX3_departureBase_1 0 rfl rfl)
theorem dX3_departureBase_25 : decode cX3_departureBase 25 = .ok (.if_icmp .eq 36, 3) := dk_159 0 36 (dk_at dksX3_departureBase_1 1 rfl rfl)
theorem dX3_departureBase_28 : decode cX3_departureBase 28 = .ok (.aload_n 0, 1) := dk_42 (dk_at dksX3_departureBase_1 4 rfl rfl)
theorem dX3_departureBase_29 : decode cX3_departureBase 29 = .ok (.iload 5, 2) := dk_21 5 (dk_at dksX3_departureBase_1 5 rfl rfl)
theorem dX3_departureBase_31 : decode cX3_departureBase 31 = .ok (.iload_n 1, 1) := dk_27 (dk_at dksX3_departureBase_1 7 rfl rfl)
theorem dX3_departureBase_32 : decode cX3_departureBase 32 = .ok (.iload_n 2, 1) := dk_28 (dk_at dksX3_departureBase_1 8 rfl rfl)
theorem dX3_departureBase_33 : decode cX3_departureBase 33 = .ok (.invokevirtual 217, 3) := dk_182 0 217 (dk_at dksX3_departureBase_1 9 rfl rfl)
theorem dX3_departureBase_36 : decode cX3_departureBase 36 = .ok (.ifCond .eq 25, 3) := dk_153 0 25 (dk_at dksX3_departureBase_1 12 rfl rfl)
theorem dX3_departureBase_39 : decode cX3_departureBase 39 = .ok (.aload_n 0, 1) := dk_42 (dk_at dksX3_departureBase_1 15 rfl rfl)
theorem dX3_departureBase_40 : decode cX3_departureBase 40 = .ok (.iload 5, 2) := dk_21 5 (dk_at dksX3_departureBase_1 16 rfl rfl)
theorem dX3_departureBase_42 : decode cX3_departureBase 42 = .ok (.invokevirtual 220, 3) := dk_182 0 220 (dk_at dksX3_departureBase_1 18 rfl rfl)
theorem dX3_departureBase_45 : decode cX3_departureBase 45 = .ok (.ifCond .eq 16, 3) := dk_153 0 16 (dk_at dksX3_departureBase_1 21 rfl rfl)
theorem dX3_departureBase_48 : decode cX3_departureBase 48 = .ok (.iload 4, 2) := dk_21 4 (dk_at dksX3_departureBase_2 0 rfl rfl)
theorem dX3_departureBase_50 : decode cX3_departureBase 50 = .ok (.aload_n 0, 1) := dk_42 (dk_at dksX3_departureBase_2 2 rfl rfl)
theorem dX3_departureBase_51 : decode cX3_departureBase 51 = .ok (.iload 5, 2) := dk_21 5 (dk_at dksX3_departureBase_2 3 rfl rfl)
theorem dX3_departureBase_53 : decode cX3_departureBase 53 = .ok (.invokevirtual 208, 3) := dk_182 0 208 (dk_at dksX3_departureBase_2 5 rfl rfl)
theorem dX3_departureBase_56 : decode cX3_departureBase 56 = .ok (.invokestatic 197, 3) := dk_184 0 197 (dk_at dksX3_departureBase_2 8 rfl rfl)
theorem dX3_departureBase_59 : decode cX3_departureBase 59 = .ok (.istore 4, 2) := dk_54 4 (dk_at dksX3_departureBase_2 11 rfl rfl)
theorem dX3_departureBase_61 : decode cX3_departureBase 61 = .ok (.iinc 5 1, 3) := dk_132 5 1 (dk_at dksX3_departureBase_2 13 rfl rfl)
theorem dX3_departureBase_64 : decode cX3_departureBase 64 = .ok (.goto (-53), 3) := dk_167 255 203 (dk_at dksX3_departureBase_2 16 rfl rfl)
theorem dX3_departureBase_67 : decode cX3_departureBase 67 = .ok (.iload 4, 2) := dk_21 4 (dk_at dksX3_departureBase_2 19 rfl rfl)
theorem dX3_departureBase_69 : decode cX3_departureBase 69 = .ok (.ireturn, 1) := dk_172 (dk_at dksX3_departureBase_2 21 rfl rfl)
abbrev cX3_due : ByteArray := prog_21_method_42_code
def yX3_due : MethodName := ⟨RX3, "due", "(II)I"⟩
def dkwX3_due_1 : List UInt8 := [184, 0, 197, 172]
abbrev dktX3_due_1 : List UInt8 := dkwX3_due_1 ++ []
def dkwX3_due_0 : List UInt8 := [42, 27, 28, 4, 182, 0, 122, 42, 27, 28, 182, 0, 202, 42, 27, 28, 182, 0, 205, 184, 0, 197]
abbrev dktX3_due_0 : List UInt8 := dkwX3_due_0 ++ dktX3_due_1
theorem dksX3_due_0 : cX3_due.data.toList.drop 0 = dktX3_due_0 := by decide +kernel
theorem dksX3_due_1 : cX3_due.data.toList.drop 22 = dktX3_due_1 := dk_seg dksX3_due_0 22 rfl rfl
theorem dX3_due_0 : decode cX3_due 0 = .ok (.aload_n 0, 1) := dk_42 (dk_at dksX3_due_0 0 rfl rfl)
theorem dX3_due_1 : decode cX3_due 1 = .ok (.iload_n 1, 1) := dk_27 (dk_at dksX3_due_0 1 rfl rfl)
theorem dX3_due_2 : decode cX3_due 2 = .ok (.iload_n 2, 1) := dk_28 (dk_at dksX3_due_0 2 rfl rfl)
theorem dX3_due_3 : decode cX3_due 3 = .ok (.iconst 1, 1) := dk_4 (dk_at dksX3_due_0 3 rfl rfl)
theorem dX3_due_4 : decode cX3_due 4 = .ok (.invokevirtual 122, 3) := dk_182 0 122 (dk_at dksX3_due_0 4 rfl rfl)
theorem dX3_due_7 : decode cX3_due 7 = .ok (.aload_n 0, 1) := dk_42 (dk_at dksX3_due_0 7 rfl rfl)
theorem dX3_due_8 : decode cX3_due 8 = .ok (.iload_n 1, 1) := dk_27 (dk_at dksX3_due_0 8 rfl rfl)
theorem dX3_due_9 : decode cX3_due 9 = .ok (.iload_n 2, 1) := dk_28 (dk_at dksX3_due_0 9 rfl rfl)
theorem dX3_due_10 : decode cX3_due 10 = .ok (.invokevirtual 202, 3) := dk_182 0 202 (dk_at dksX3_due_0 10 rfl rfl)
theorem dX3_due_13 : decode cX3_due 13 = .ok (.aload_n 0, 1) := dk_42 (dk_at dksX3_due_0 13 rfl rfl)
theorem dX3_due_14 : decode cX3_due 14 = .ok (.iload_n 1, 1) := dk_27 (dk_at dksX3_due_0 14 rfl rfl)
theorem dX3_due_15 : decode cX3_due 15 = .ok (.iload_n 2, 1) := dk_28 (dk_at dksX3_due_0 15 rfl rfl)
theorem dX3_due_16 : decode cX3_due 16 = .ok (.invokevirtual 205, 3) := dk_182 0 205 (dk_at dksX3_due_0 16 rfl rfl)
theorem dX3_due_19 : decode cX3_due 19 = .ok (.invokestatic 197, 3) := dk_184 0 197 (dk_at dksX3_due_0 19 rfl rfl)
theorem dX3_due_22 : decode cX3_due 22 = .ok (.invokestatic 197, 3) := dk_184 0 197 (dk_at dksX3_due_1 0 rfl rfl)
theorem dX3_due_25 : decode cX3_due 25 = .ok (.ireturn, 1) := dk_172 (dk_at dksX3_due_1 3 rfl rfl)
abbrev cX3_byStay : ByteArray := prog_21_method_40_code
def yX3_byStay : MethodName := ⟨RX3, "byStay", "(II)I"⟩
def dkwX3_byStay_1 : List UInt8 := [7, 96, 46, 96, 172]
abbrev dktX3_byStay_1 : List UInt8 := dkwX3_byStay_1 ++ []
def dkwX3_byStay_0 : List UInt8 := [28, 154, 0, 7, 2, 167, 0, 23, 42, 27, 28, 3, 182, 0, 173, 42, 180, 0, 9, 27, 28, 184, 0, 98]
abbrev dktX3_byStay_0 : List UInt8 := dkwX3_byStay_0 ++ dktX3_byStay_1
theorem dksX3_byStay_0 : cX3_byStay.data.toList.drop 0 = dktX3_byStay_0 := by decide +kernel
theorem dksX3_byStay_1 : cX3_byStay.data.toList.drop 24 = dktX3_byStay_1 := dk_seg dksX3_byStay_0 24 rfl rfl
theorem dX3_byStay_0 : decode cX3_byStay 0 = .ok (.iload_n 2, 1) := dk_28 (dk_at dksX3_byStay_0 0 rfl rfl)
theorem dX3_byStay_1 : decode cX3_byStay 1 = .ok (.ifCond .ne 7, 3) := dk_154 0 7 (dk_at dksX3_byStay_0 1 rfl rfl)
theorem dX3_byStay_4 : decode cX3_byStay 4 = .ok (.iconst (-1), 1) := dk_2 (dk_at dksX3_byStay_0 4 rfl rfl)
theorem dX3_byStay_5 : decode cX3_byStay 5 = .ok (.goto 23, 3) := dk_167 0 23 (dk_at dksX3_byStay_0 5 rfl rfl)
theorem dX3_byStay_8 : decode cX3_byStay 8 = .ok (.aload_n 0, 1) := dk_42 (dk_at dksX3_byStay_0 8 rfl rfl)
theorem dX3_byStay_9 : decode cX3_byStay 9 = .ok (.iload_n 1, 1) := dk_27 (dk_at dksX3_byStay_0 9 rfl rfl)
theorem dX3_byStay_10 : decode cX3_byStay 10 = .ok (.iload_n 2, 1) := dk_28 (dk_at dksX3_byStay_0 10 rfl rfl)
theorem dX3_byStay_11 : decode cX3_byStay 11 = .ok (.iconst 0, 1) := dk_3 (dk_at dksX3_byStay_0 11 rfl rfl)
theorem dX3_byStay_12 : decode cX3_byStay 12 = .ok (.invokevirtual 173, 3) := dk_182 0 173 (dk_at dksX3_byStay_0 12 rfl rfl)
theorem dX3_byStay_15 : decode cX3_byStay 15 = .ok (.aload_n 0, 1) := dk_42 (dk_at dksX3_byStay_0 15 rfl rfl)
theorem dX3_byStay_16 : decode cX3_byStay 16 = .ok (.getfield 9, 3) := dk_180 0 9 (dk_at dksX3_byStay_0 16 rfl rfl)
theorem dX3_byStay_19 : decode cX3_byStay 19 = .ok (.iload_n 1, 1) := dk_27 (dk_at dksX3_byStay_0 19 rfl rfl)
theorem dX3_byStay_20 : decode cX3_byStay 20 = .ok (.iload_n 2, 1) := dk_28 (dk_at dksX3_byStay_0 20 rfl rfl)
theorem dX3_byStay_21 : decode cX3_byStay 21 = .ok (.invokestatic 98, 3) := dk_184 0 98 (dk_at dksX3_byStay_0 21 rfl rfl)
theorem dX3_byStay_24 : decode cX3_byStay 24 = .ok (.iconst 4, 1) := dk_7 (dk_at dksX3_byStay_1 0 rfl rfl)
theorem dX3_byStay_25 : decode cX3_byStay 25 = .ok (.iadd, 1) := dk_96 (dk_at dksX3_byStay_1 1 rfl rfl)
theorem dX3_byStay_26 : decode cX3_byStay 26 = .ok (.iaload, 1) := dk_46 (dk_at dksX3_byStay_1 2 rfl rfl)
theorem dX3_byStay_27 : decode cX3_byStay 27 = .ok (.iadd, 1) := dk_96 (dk_at dksX3_byStay_1 3 rfl rfl)
theorem dX3_byStay_28 : decode cX3_byStay 28 = .ok (.ireturn, 1) := dk_172 (dk_at dksX3_byStay_1 4 rfl rfl)
abbrev cX3_byTurn : ByteArray := prog_21_method_41_code
def yX3_byTurn : MethodName := ⟨RX3, "byTurn", "(II)I"⟩
def dkwX3_byTurn_1 : List UInt8 := [29, 42, 29, 182, 0, 95, 4, 100, 3, 182, 0, 173, 16, 10, 96, 172]
abbrev dktX3_byTurn_1 : List UInt8 := dkwX3_byTurn_1 ++ []
def dkwX3_byTurn_0 : List UInt8 := [28, 154, 0, 11, 42, 27, 182, 0, 129, 167, 0, 4, 2, 62, 29, 2, 160, 0, 7, 2, 167, 0, 19, 42]
abbrev dktX3_byTurn_0 : List UInt8 := dkwX3_byTurn_0 ++ dktX3_byTurn_1
theorem dksX3_byTurn_0 : cX3_byTurn.data.toList.drop 0 = dktX3_byTurn_0 := by decide +kernel
theorem dksX3_byTurn_1 : cX3_byTurn.data.toList.drop 24 = dktX3_byTurn_1 := dk_seg dksX3_byTurn_0 24 rfl rfl
theorem dX3_byTurn_0 : decode cX3_byTurn 0 = .ok (.iload_n 2, 1) := dk_28 (dk_at dksX3_byTurn_0 0 rfl rfl)
theorem dX3_byTurn_1 : decode cX3_byTurn 1 = .ok (.ifCond .ne 11, 3) := dk_154 0 11 (dk_at dksX3_byTurn_0 1 rfl rfl)
theorem dX3_byTurn_4 : decode cX3_byTurn 4 = .ok (.aload_n 0, 1) := dk_42 (dk_at dksX3_byTurn_0 4 rfl rfl)
theorem dX3_byTurn_5 : decode cX3_byTurn 5 = .ok (.iload_n 1, 1) := dk_27 (dk_at dksX3_byTurn_0 5 rfl rfl)
theorem dX3_byTurn_6 : decode cX3_byTurn 6 = .ok (.invokevirtual 129, 3) := dk_182 0 129 (dk_at dksX3_byTurn_0 6 rfl rfl)
theorem dX3_byTurn_9 : decode cX3_byTurn 9 = .ok (.goto 4, 3) := dk_167 0 4 (dk_at dksX3_byTurn_0 9 rfl rfl)
theorem dX3_byTurn_12 : decode cX3_byTurn 12 = .ok (.iconst (-1), 1) := dk_2 (dk_at dksX3_byTurn_0 12 rfl rfl)
theorem dX3_byTurn_13 : decode cX3_byTurn 13 = .ok (.istore_n 3, 1) := dk_62 (dk_at dksX3_byTurn_0 13 rfl rfl)
theorem dX3_byTurn_14 : decode cX3_byTurn 14 = .ok (.iload_n 3, 1) := dk_29 (dk_at dksX3_byTurn_0 14 rfl rfl)
theorem dX3_byTurn_15 : decode cX3_byTurn 15 = .ok (.iconst (-1), 1) := dk_2 (dk_at dksX3_byTurn_0 15 rfl rfl)
theorem dX3_byTurn_16 : decode cX3_byTurn 16 = .ok (.if_icmp .ne 7, 3) := dk_160 0 7 (dk_at dksX3_byTurn_0 16 rfl rfl)
theorem dX3_byTurn_19 : decode cX3_byTurn 19 = .ok (.iconst (-1), 1) := dk_2 (dk_at dksX3_byTurn_0 19 rfl rfl)
theorem dX3_byTurn_20 : decode cX3_byTurn 20 = .ok (.goto 19, 3) := dk_167 0 19 (dk_at dksX3_byTurn_0 20 rfl rfl)
theorem dX3_byTurn_23 : decode cX3_byTurn 23 = .ok (.aload_n 0, 1) := dk_42 (dk_at dksX3_byTurn_0 23 rfl rfl)
theorem dX3_byTurn_24 : decode cX3_byTurn 24 = .ok (.iload_n 3, 1) := dk_29 (dk_at dksX3_byTurn_1 0 rfl rfl)
theorem dX3_byTurn_25 : decode cX3_byTurn 25 = .ok (.aload_n 0, 1) := dk_42 (dk_at dksX3_byTurn_1 1 rfl rfl)
theorem dX3_byTurn_26 : decode cX3_byTurn 26 = .ok (.iload_n 3, 1) := dk_29 (dk_at dksX3_byTurn_1 2 rfl rfl)
theorem dX3_byTurn_27 : decode cX3_byTurn 27 = .ok (.invokevirtual 95, 3) := dk_182 0 95 (dk_at dksX3_byTurn_1 3 rfl rfl)
theorem dX3_byTurn_30 : decode cX3_byTurn 30 = .ok (.iconst 1, 1) := dk_4 (dk_at dksX3_byTurn_1 6 rfl rfl)
theorem dX3_byTurn_31 : decode cX3_byTurn 31 = .ok (.isub, 1) := dk_100 (dk_at dksX3_byTurn_1 7 rfl rfl)
theorem dX3_byTurn_32 : decode cX3_byTurn 32 = .ok (.iconst 0, 1) := dk_3 (dk_at dksX3_byTurn_1 8 rfl rfl)
theorem dX3_byTurn_33 : decode cX3_byTurn 33 = .ok (.invokevirtual 173, 3) := dk_182 0 173 (dk_at dksX3_byTurn_1 9 rfl rfl)
theorem dX3_byTurn_36 : decode cX3_byTurn 36 = .ok (.bipush 10, 2) := dk_16 10 (dk_at dksX3_byTurn_1 12 rfl rfl)
theorem dX3_byTurn_38 : decode cX3_byTurn 38 = .ok (.iadd, 1) := dk_96 (dk_at dksX3_byTurn_1 14 rfl rfl)
theorem dX3_byTurn_39 : decode cX3_byTurn 39 = .ok (.ireturn, 1) := dk_172 (dk_at dksX3_byTurn_1 15 rfl rfl)
abbrev cX3_isTo : ByteArray := prog_21_method_44_code
def yX3_isTo : MethodName := ⟨RX3, "isTo", "(III)Z"⟩
def dkwX3_isTo_1 : List UInt8 := [96, 46, 29, 160, 0, 7, 4, 167, 0, 4, 3, 172]
abbrev dktX3_isTo_1 : List UInt8 := dkwX3_isTo_1 ++ []
def dkwX3_isTo_0 : List UInt8 := [42, 180, 0, 9, 27, 184, 0, 141, 5, 96, 46, 28, 160, 0, 22, 42, 180, 0, 9, 27, 184, 0, 141, 6]
abbrev dktX3_isTo_0 : List UInt8 := dkwX3_isTo_0 ++ dktX3_isTo_1
theorem dksX3_isTo_0 : cX3_isTo.data.toList.drop 0 = dktX3_isTo_0 := by decide +kernel
theorem dksX3_isTo_1 : cX3_isTo.data.toList.drop 24 = dktX3_isTo_1 := dk_seg dksX3_isTo_0 24 rfl rfl
theorem dX3_isTo_0 : decode cX3_isTo 0 = .ok (.aload_n 0, 1) := dk_42 (dk_at dksX3_isTo_0 0 rfl rfl)
theorem dX3_isTo_1 : decode cX3_isTo 1 = .ok (.getfield 9, 3) := dk_180 0 9 (dk_at dksX3_isTo_0 1 rfl rfl)
theorem dX3_isTo_4 : decode cX3_isTo 4 = .ok (.iload_n 1, 1) := dk_27 (dk_at dksX3_isTo_0 4 rfl rfl)
theorem dX3_isTo_5 : decode cX3_isTo 5 = .ok (.invokestatic 141, 3) := dk_184 0 141 (dk_at dksX3_isTo_0 5 rfl rfl)
theorem dX3_isTo_8 : decode cX3_isTo 8 = .ok (.iconst 2, 1) := dk_5 (dk_at dksX3_isTo_0 8 rfl rfl)
theorem dX3_isTo_9 : decode cX3_isTo 9 = .ok (.iadd, 1) := dk_96 (dk_at dksX3_isTo_0 9 rfl rfl)
theorem dX3_isTo_10 : decode cX3_isTo 10 = .ok (.iaload, 1) := dk_46 (dk_at dksX3_isTo_0 10 rfl rfl)
theorem dX3_isTo_11 : decode cX3_isTo 11 = .ok (.iload_n 2, 1) := dk_28 (dk_at dksX3_isTo_0 11 rfl rfl)
theorem dX3_isTo_12 : decode cX3_isTo 12 = .ok (.if_icmp .ne 22, 3) := dk_160 0 22 (dk_at dksX3_isTo_0 12 rfl rfl)
theorem dX3_isTo_15 : decode cX3_isTo 15 = .ok (.aload_n 0, 1) := dk_42 (dk_at dksX3_isTo_0 15 rfl rfl)
theorem dX3_isTo_16 : decode cX3_isTo 16 = .ok (.getfield 9, 3) := dk_180 0 9 (dk_at dksX3_isTo_0 16 rfl rfl)
theorem dX3_isTo_19 : decode cX3_isTo 19 = .ok (.iload_n 1, 1) := dk_27 (dk_at dksX3_isTo_0 19 rfl rfl)
theorem dX3_isTo_20 : decode cX3_isTo 20 = .ok (.invokestatic 141, 3) := dk_184 0 141 (dk_at dksX3_isTo_0 20 rfl rfl)
theorem dX3_isTo_23 : decode cX3_isTo 23 = .ok (.iconst 3, 1) := dk_6 (dk_at dksX3_isTo_0 23 rfl rfl)
theorem dX3_isTo_24 : decode cX3_isTo 24 = .ok (.iadd, 1) := dk_96 (dk_at dksX3_isTo_1 0 rfl rfl)
theorem dX3_isTo_25 : decode cX3_isTo 25 = .ok (.iaload, 1) := dk_46 (dk_at dksX3_isTo_1 1 rfl rfl)
theorem dX3_isTo_26 : decode cX3_isTo 26 = .ok (.iload_n 3, 1) := dk_29 (dk_at dksX3_isTo_1 2 rfl rfl)
theorem dX3_isTo_27 : decode cX3_isTo 27 = .ok (.if_icmp .ne 7, 3) := dk_160 0 7 (dk_at dksX3_isTo_1 3 rfl rfl)
theorem dX3_isTo_30 : decode cX3_isTo 30 = .ok (.iconst 1, 1) := dk_4 (dk_at dksX3_isTo_1 6 rfl rfl)
theorem dX3_isTo_31 : decode cX3_isTo 31 = .ok (.goto 4, 3) := dk_167 0 4 (dk_at dksX3_isTo_1 7 rfl rfl)
theorem dX3_isTo_34 : decode cX3_isTo 34 = .ok (.iconst 0, 1) := dk_3 (dk_at dksX3_isTo_1 10 rfl rfl)
theorem dX3_isTo_35 : decode cX3_isTo 35 = .ok (.ireturn, 1) := dk_172 (dk_at dksX3_isTo_1 11 rfl rfl)
abbrev cX3_isKept : ByteArray := prog_21_method_45_code
def yX3_isKept : MethodName := ⟨RX3, "isKept", "(I)Z"⟩
def dkwX3_isKept_1 : List UInt8 := [184, 0, 141, 6, 96, 46, 182, 0, 211, 42, 27, 182, 0, 214, 96, 163, 0, 7, 4, 167, 0, 4, 3, 172]
abbrev dktX3_isKept_1 : List UInt8 := dkwX3_isKept_1 ++ []
def dkwX3_isKept_0 : List UInt8 := [42, 27, 182, 0, 208, 42, 42, 180, 0, 9, 27, 184, 0, 141, 5, 96, 46, 42, 180, 0, 9, 27]
abbrev dktX3_isKept_0 : List UInt8 := dkwX3_isKept_0 ++ dktX3_isKept_1
theorem dksX3_isKept_0 : cX3_isKept.data.toList.drop 0 = dktX3_isKept_0 := by decide +kernel
theorem dksX3_isKept_1 : cX3_isKept.data.toList.drop 22 = dktX3_isKept_1 := dk_seg dksX3_isKept_0 22 rfl rfl
theorem dX3_isKept_0 : decode cX3_isKept 0 = .ok (.aload_n 0, 1) := dk_42 (dk_at dksX3_isKept_0 0 rfl rfl)
theorem dX3_isKept_1 : decode cX3_isKept 1 = .ok (.iload_n 1, 1) := dk_27 (dk_at dksX3_isKept_0 1 rfl rfl)
theorem dX3_isKept_2 : decode cX3_isKept 2 = .ok (.invokevirtual 208, 3) := dk_182 0 208 (dk_at dksX3_isKept_0 2 rfl rfl)
theorem dX3_isKept_5 : decode cX3_isKept 5 = .ok (.aload_n 0, 1) := dk_42 (dk_at dksX3_isKept_0 5 rfl rfl)
theorem dX3_isKept_6 : decode cX3_isKept 6 = .ok (.aload_n 0, 1) := dk_42 (dk_at dksX3_isKept_0 6 rfl rfl)
theorem dX3_isKept_7 : decode cX3_isKept 7 = .ok (.getfield 9, 3) := dk_180 0 9 (dk_at dksX3_isKept_0 7 rfl rfl)
theorem dX3_isKept_10 : decode cX3_isKept 10 = .ok (.iload_n 1, 1) := dk_27 (dk_at dksX3_isKept_0 10 rfl rfl)
theorem dX3_isKept_11 : decode cX3_isKept 11 = .ok (.invokestatic 141, 3) := dk_184 0 141 (dk_at dksX3_isKept_0 11 rfl rfl)
theorem dX3_isKept_14 : decode cX3_isKept 14 = .ok (.iconst 2, 1) := dk_5 (dk_at dksX3_isKept_0 14 rfl rfl)
theorem dX3_isKept_15 : decode cX3_isKept 15 = .ok (.iadd, 1) := dk_96 (dk_at dksX3_isKept_0 15 rfl rfl)
theorem dX3_isKept_16 : decode cX3_isKept 16 = .ok (.iaload, 1) := dk_46 (dk_at dksX3_isKept_0 16 rfl rfl)
theorem dX3_isKept_17 : decode cX3_isKept 17 = .ok (.aload_n 0, 1) := dk_42 (dk_at dksX3_isKept_0 17 rfl rfl)
theorem dX3_isKept_18 : decode cX3_isKept 18 = .ok (.getfield 9, 3) := dk_180 0 9 (dk_at dksX3_isKept_0 18 rfl rfl)
theorem dX3_isKept_21 : decode cX3_isKept 21 = .ok (.iload_n 1, 1) := dk_27 (dk_at dksX3_isKept_0 21 rfl rfl)
theorem dX3_isKept_22 : decode cX3_isKept 22 = .ok (.invokestatic 141, 3) := dk_184 0 141 (dk_at dksX3_isKept_1 0 rfl rfl)
theorem dX3_isKept_25 : decode cX3_isKept 25 = .ok (.iconst 3, 1) := dk_6 (dk_at dksX3_isKept_1 3 rfl rfl)
theorem dX3_isKept_26 : decode cX3_isKept 26 = .ok (.iadd, 1) := dk_96 (dk_at dksX3_isKept_1 4 rfl rfl)
theorem dX3_isKept_27 : decode cX3_isKept 27 = .ok (.iaload, 1) := dk_46 (dk_at dksX3_isKept_1 5 rfl rfl)
theorem dX3_isKept_28 : decode cX3_isKept 28 = .ok (.invokevirtual 211, 3) := dk_182 0 211 (dk_at dksX3_isKept_1 6 rfl rfl)
theorem dX3_isKept_31 : decode cX3_isKept 31 = .ok (.aload_n 0, 1) := dk_42 (dk_at dksX3_isKept_1 9 rfl rfl)
theorem dX3_isKept_32 : decode cX3_isKept 32 = .ok (.iload_n 1, 1) := dk_27 (dk_at dksX3_isKept_1 10 rfl rfl)
theorem dX3_isKept_33 : decode cX3_isKept 33 = .ok (.invokevirtual 214, 3) := dk_182 0 214 (dk_at dksX3_isKept_1 11 rfl rfl)
theorem dX3_isKept_36 : decode cX3_isKept 36 = .ok (.iadd, 1) := dk_96 (dk_at dksX3_isKept_1 14 rfl rfl)
theorem dX3_isKept_37 : decode cX3_isKept 37 = .ok (.if_icmp .gt 7, 3) := dk_163 0 7 (dk_at dksX3_isKept_1 15 rfl rfl)
theorem dX3_isKept_40 : decode cX3_isKept 40 = .ok (.iconst 1, 1) := dk_4 (dk_at dksX3_isKept_1 18 rfl rfl)
theorem dX3_isKept_41 : decode cX3_isKept 41 = .ok (.goto 4, 3) := dk_167 0 4 (dk_at dksX3_isKept_1 19 rfl rfl)
theorem dX3_isKept_44 : decode cX3_isKept 44 = .ok (.iconst 0, 1) := dk_3 (dk_at dksX3_isKept_1 22 rfl rfl)
theorem dX3_isKept_45 : decode cX3_isKept 45 = .ok (.ireturn, 1) := dk_172 (dk_at dksX3_isKept_1 23 rfl rfl)
abbrev cX3_byLink : ByteArray := prog_21_method_43_code
def yX3_byLink : MethodName := ⟨RX3, "byLink", "(I)I"⟩
def dkwX3_byLink_1 : List UInt8 := [182, 0, 173, 42, 180, 0, 9, 27, 184, 0, 141, 7, 96, 46, 96, 172]
abbrev dktX3_byLink_1 : List UInt8 := dkwX3_byLink_1 ++ []
def dkwX3_byLink_0 : List UInt8 := [42, 42, 180, 0, 9, 27, 184, 0, 141, 46, 42, 180, 0, 9, 27, 184, 0, 141, 4, 96, 46, 3]
abbrev dktX3_byLink_0 : List UInt8 := dkwX3_byLink_0 ++ dktX3_byLink_1
theorem dksX3_byLink_0 : cX3_byLink.data.toList.drop 0 = dktX3_byLink_0 := by decide +kernel
theorem dksX3_byLink_1 : cX3_byLink.data.toList.drop 22 = dktX3_byLink_1 := dk_seg dksX3_byLink_0 22 rfl rfl
theorem dX3_byLink_0 : decode cX3_byLink 0 = .ok (.aload_n 0, 1) := dk_42 (dk_at dksX3_byLink_0 0 rfl rfl)
theorem dX3_byLink_1 : decode cX3_byLink 1 = .ok (.aload_n 0, 1) := dk_42 (dk_at dksX3_byLink_0 1 rfl rfl)
theorem dX3_byLink_2 : decode cX3_byLink 2 = .ok (.getfield 9, 3) := dk_180 0 9 (dk_at dksX3_byLink_0 2 rfl rfl)
theorem dX3_byLink_5 : decode cX3_byLink 5 = .ok (.iload_n 1, 1) := dk_27 (dk_at dksX3_byLink_0 5 rfl rfl)
theorem dX3_byLink_6 : decode cX3_byLink 6 = .ok (.invokestatic 141, 3) := dk_184 0 141 (dk_at dksX3_byLink_0 6 rfl rfl)
theorem dX3_byLink_9 : decode cX3_byLink 9 = .ok (.iaload, 1) := dk_46 (dk_at dksX3_byLink_0 9 rfl rfl)
theorem dX3_byLink_10 : decode cX3_byLink 10 = .ok (.aload_n 0, 1) := dk_42 (dk_at dksX3_byLink_0 10 rfl rfl)
theorem dX3_byLink_11 : decode cX3_byLink 11 = .ok (.getfield 9, 3) := dk_180 0 9 (dk_at dksX3_byLink_0 11 rfl rfl)
theorem dX3_byLink_14 : decode cX3_byLink 14 = .ok (.iload_n 1, 1) := dk_27 (dk_at dksX3_byLink_0 14 rfl rfl)
theorem dX3_byLink_15 : decode cX3_byLink 15 = .ok (.invokestatic 141, 3) := dk_184 0 141 (dk_at dksX3_byLink_0 15 rfl rfl)
theorem dX3_byLink_18 : decode cX3_byLink 18 = .ok (.iconst 1, 1) := dk_4 (dk_at dksX3_byLink_0 18 rfl rfl)
theorem dX3_byLink_19 : decode cX3_byLink 19 = .ok (.iadd, 1) := dk_96 (dk_at dksX3_byLink_0 19 rfl rfl)
theorem dX3_byLink_20 : decode cX3_byLink 20 = .ok (.iaload, 1) := dk_46 (dk_at dksX3_byLink_0 20 rfl rfl)
theorem dX3_byLink_21 : decode cX3_byLink 21 = .ok (.iconst 0, 1) := dk_3 (dk_at dksX3_byLink_0 21 rfl rfl)
theorem dX3_byLink_22 : decode cX3_byLink 22 = .ok (.invokevirtual 173, 3) := dk_182 0 173 (dk_at dksX3_byLink_1 0 rfl rfl)
theorem dX3_byLink_25 : decode cX3_byLink 25 = .ok (.aload_n 0, 1) := dk_42 (dk_at dksX3_byLink_1 3 rfl rfl)
theorem dX3_byLink_26 : decode cX3_byLink 26 = .ok (.getfield 9, 3) := dk_180 0 9 (dk_at dksX3_byLink_1 4 rfl rfl)
theorem dX3_byLink_29 : decode cX3_byLink 29 = .ok (.iload_n 1, 1) := dk_27 (dk_at dksX3_byLink_1 7 rfl rfl)
theorem dX3_byLink_30 : decode cX3_byLink 30 = .ok (.invokestatic 141, 3) := dk_184 0 141 (dk_at dksX3_byLink_1 8 rfl rfl)
theorem dX3_byLink_33 : decode cX3_byLink 33 = .ok (.iconst 4, 1) := dk_7 (dk_at dksX3_byLink_1 11 rfl rfl)
theorem dX3_byLink_34 : decode cX3_byLink 34 = .ok (.iadd, 1) := dk_96 (dk_at dksX3_byLink_1 12 rfl rfl)
theorem dX3_byLink_35 : decode cX3_byLink 35 = .ok (.iaload, 1) := dk_46 (dk_at dksX3_byLink_1 13 rfl rfl)
theorem dX3_byLink_36 : decode cX3_byLink 36 = .ok (.iadd, 1) := dk_96 (dk_at dksX3_byLink_1 14 rfl rfl)
theorem dX3_byLink_37 : decode cX3_byLink 37 = .ok (.ireturn, 1) := dk_172 (dk_at dksX3_byLink_1 15 rfl rfl)
abbrev cX3_limitOf : ByteArray := prog_21_method_36_code
def yX3_limitOf : MethodName := ⟨RX3, "limitOf", "(I)I"⟩
def dkwX3_limitOf_1 : List UInt8 := [180, 0, 182, 172]
abbrev dktX3_limitOf_1 : List UInt8 := dkwX3_limitOf_1 ++ []
def dkwX3_limitOf_0 : List UInt8 := [42, 180, 0, 182, 2, 160, 0, 17, 42, 180, 0, 9, 27, 184, 0, 141, 8, 96, 46, 167, 0, 7, 42]
abbrev dktX3_limitOf_0 : List UInt8 := dkwX3_limitOf_0 ++ dktX3_limitOf_1
theorem dksX3_limitOf_0 : cX3_limitOf.data.toList.drop 0 = dktX3_limitOf_0 := by decide +kernel
theorem dksX3_limitOf_1 : cX3_limitOf.data.toList.drop 23 = dktX3_limitOf_1 := dk_seg dksX3_limitOf_0 23 rfl rfl
theorem dX3_limitOf_0 : decode cX3_limitOf 0 = .ok (.aload_n 0, 1) := dk_42 (dk_at dksX3_limitOf_0 0 rfl rfl)
theorem dX3_limitOf_1 : decode cX3_limitOf 1 = .ok (.getfield 182, 3) := dk_180 0 182 (dk_at dksX3_limitOf_0 1 rfl rfl)
theorem dX3_limitOf_4 : decode cX3_limitOf 4 = .ok (.iconst (-1), 1) := dk_2 (dk_at dksX3_limitOf_0 4 rfl rfl)
theorem dX3_limitOf_5 : decode cX3_limitOf 5 = .ok (.if_icmp .ne 17, 3) := dk_160 0 17 (dk_at dksX3_limitOf_0 5 rfl rfl)
theorem dX3_limitOf_8 : decode cX3_limitOf 8 = .ok (.aload_n 0, 1) := dk_42 (dk_at dksX3_limitOf_0 8 rfl rfl)
theorem dX3_limitOf_9 : decode cX3_limitOf 9 = .ok (.getfield 9, 3) := dk_180 0 9 (dk_at dksX3_limitOf_0 9 rfl rfl)
theorem dX3_limitOf_12 : decode cX3_limitOf 12 = .ok (.iload_n 1, 1) := dk_27 (dk_at dksX3_limitOf_0 12 rfl rfl)
theorem dX3_limitOf_13 : decode cX3_limitOf 13 = .ok (.invokestatic 141, 3) := dk_184 0 141 (dk_at dksX3_limitOf_0 13 rfl rfl)
theorem dX3_limitOf_16 : decode cX3_limitOf 16 = .ok (.iconst 5, 1) := dk_8 (dk_at dksX3_limitOf_0 16 rfl rfl)
theorem dX3_limitOf_17 : decode cX3_limitOf 17 = .ok (.iadd, 1) := dk_96 (dk_at dksX3_limitOf_0 17 rfl rfl)
theorem dX3_limitOf_18 : decode cX3_limitOf 18 = .ok (.iaload, 1) := dk_46 (dk_at dksX3_limitOf_0 18 rfl rfl)
theorem dX3_limitOf_19 : decode cX3_limitOf 19 = .ok (.goto 7, 3) := dk_167 0 7 (dk_at dksX3_limitOf_0 19 rfl rfl)
theorem dX3_limitOf_22 : decode cX3_limitOf 22 = .ok (.aload_n 0, 1) := dk_42 (dk_at dksX3_limitOf_0 22 rfl rfl)
theorem dX3_limitOf_23 : decode cX3_limitOf 23 = .ok (.getfield 182, 3) := dk_180 0 182 (dk_at dksX3_limitOf_1 0 rfl rfl)
theorem dX3_limitOf_26 : decode cX3_limitOf 26 = .ok (.ireturn, 1) := dk_172 (dk_at dksX3_limitOf_1 3 rfl rfl)
abbrev cX3_ownOf : ByteArray := prog_21_method_35_code
def yX3_ownOf : MethodName := ⟨RX3, "ownOf", "(III)I"⟩
def dkwX3_ownOf_0 : List UInt8 := [27, 42, 180, 0, 176, 160, 0, 7, 3, 167, 0, 10, 42, 27, 28, 29, 182, 0, 179, 172]
abbrev dktX3_ownOf_0 : List UInt8 := dkwX3_ownOf_0 ++ []
theorem dksX3_ownOf_0 : cX3_ownOf.data.toList.drop 0 = dktX3_ownOf_0 := by decide +kernel
theorem dX3_ownOf_0 : decode cX3_ownOf 0 = .ok (.iload_n 1, 1) := dk_27 (dk_at dksX3_ownOf_0 0 rfl rfl)
theorem dX3_ownOf_1 : decode cX3_ownOf 1 = .ok (.aload_n 0, 1) := dk_42 (dk_at dksX3_ownOf_0 1 rfl rfl)
theorem dX3_ownOf_2 : decode cX3_ownOf 2 = .ok (.getfield 176, 3) := dk_180 0 176 (dk_at dksX3_ownOf_0 2 rfl rfl)
theorem dX3_ownOf_5 : decode cX3_ownOf 5 = .ok (.if_icmp .ne 7, 3) := dk_160 0 7 (dk_at dksX3_ownOf_0 5 rfl rfl)
theorem dX3_ownOf_8 : decode cX3_ownOf 8 = .ok (.iconst 0, 1) := dk_3 (dk_at dksX3_ownOf_0 8 rfl rfl)
theorem dX3_ownOf_9 : decode cX3_ownOf 9 = .ok (.goto 10, 3) := dk_167 0 10 (dk_at dksX3_ownOf_0 9 rfl rfl)
theorem dX3_ownOf_12 : decode cX3_ownOf 12 = .ok (.aload_n 0, 1) := dk_42 (dk_at dksX3_ownOf_0 12 rfl rfl)
theorem dX3_ownOf_13 : decode cX3_ownOf 13 = .ok (.iload_n 1, 1) := dk_27 (dk_at dksX3_ownOf_0 13 rfl rfl)
theorem dX3_ownOf_14 : decode cX3_ownOf 14 = .ok (.iload_n 2, 1) := dk_28 (dk_at dksX3_ownOf_0 14 rfl rfl)
theorem dX3_ownOf_15 : decode cX3_ownOf 15 = .ok (.iload_n 3, 1) := dk_29 (dk_at dksX3_ownOf_0 15 rfl rfl)
theorem dX3_ownOf_16 : decode cX3_ownOf 16 = .ok (.invokevirtual 179, 3) := dk_182 0 179 (dk_at dksX3_ownOf_0 16 rfl rfl)
theorem dX3_ownOf_19 : decode cX3_ownOf 19 = .ok (.ireturn, 1) := dk_172 (dk_at dksX3_ownOf_0 19 rfl rfl)
abbrev cX3_own : ByteArray := prog_21_method_17_code
def yX3_own : MethodName := ⟨RX3, "own", "(III)I"⟩
def dkwX3_own_0 : List UInt8 := [42, 180, 0, 9, 27, 28, 184, 0, 98, 8, 96, 29, 96, 46, 172]
abbrev dktX3_own_0 : List UInt8 := dkwX3_own_0 ++ []
theorem dksX3_own_0 : cX3_own.data.toList.drop 0 = dktX3_own_0 := by decide +kernel
theorem dX3_own_0 : decode cX3_own 0 = .ok (.aload_n 0, 1) := dk_42 (dk_at dksX3_own_0 0 rfl rfl)
theorem dX3_own_1 : decode cX3_own 1 = .ok (.getfield 9, 3) := dk_180 0 9 (dk_at dksX3_own_0 1 rfl rfl)
theorem dX3_own_4 : decode cX3_own 4 = .ok (.iload_n 1, 1) := dk_27 (dk_at dksX3_own_0 4 rfl rfl)
theorem dX3_own_5 : decode cX3_own 5 = .ok (.iload_n 2, 1) := dk_28 (dk_at dksX3_own_0 5 rfl rfl)
theorem dX3_own_6 : decode cX3_own 6 = .ok (.invokestatic 98, 3) := dk_184 0 98 (dk_at dksX3_own_0 6 rfl rfl)
theorem dX3_own_9 : decode cX3_own 9 = .ok (.iconst 5, 1) := dk_8 (dk_at dksX3_own_0 9 rfl rfl)
theorem dX3_own_10 : decode cX3_own 10 = .ok (.iadd, 1) := dk_96 (dk_at dksX3_own_0 10 rfl rfl)
theorem dX3_own_11 : decode cX3_own 11 = .ok (.iload_n 3, 1) := dk_29 (dk_at dksX3_own_0 11 rfl rfl)
theorem dX3_own_12 : decode cX3_own 12 = .ok (.iadd, 1) := dk_96 (dk_at dksX3_own_0 12 rfl rfl)
theorem dX3_own_13 : decode cX3_own 13 = .ok (.iaload, 1) := dk_46 (dk_at dksX3_own_0 13 rfl rfl)
theorem dX3_own_14 : decode cX3_own 14 = .ok (.ireturn, 1) := dk_172 (dk_at dksX3_own_0 14 rfl rfl)
abbrev cX3_lateOf : ByteArray := prog_21_method_34_code
def yX3_lateOf : MethodName := ⟨RX3, "lateOf", "(III)I"⟩
def dkwX3_lateOf_0 : List UInt8 := [42, 27, 28, 29, 182, 0, 173, 42, 27, 28, 29, 182, 0, 122, 100, 172]
abbrev dktX3_lateOf_0 : List UInt8 := dkwX3_lateOf_0 ++ []
theorem dksX3_lateOf_0 : cX3_lateOf.data.toList.drop 0 = dktX3_lateOf_0 := by decide +kernel
theorem dX3_lateOf_0 : decode cX3_lateOf 0 = .ok (.aload_n 0, 1) := dk_42 (dk_at dksX3_lateOf_0 0 rfl rfl)
theorem dX3_lateOf_1 : decode cX3_lateOf 1 = .ok (.iload_n 1, 1) := dk_27 (dk_at dksX3_lateOf_0 1 rfl rfl)
theorem dX3_lateOf_2 : decode cX3_lateOf 2 = .ok (.iload_n 2, 1) := dk_28 (dk_at dksX3_lateOf_0 2 rfl rfl)
theorem dX3_lateOf_3 : decode cX3_lateOf 3 = .ok (.iload_n 3, 1) := dk_29 (dk_at dksX3_lateOf_0 3 rfl rfl)
theorem dX3_lateOf_4 : decode cX3_lateOf 4 = .ok (.invokevirtual 173, 3) := dk_182 0 173 (dk_at dksX3_lateOf_0 4 rfl rfl)
theorem dX3_lateOf_7 : decode cX3_lateOf 7 = .ok (.aload_n 0, 1) := dk_42 (dk_at dksX3_lateOf_0 7 rfl rfl)
theorem dX3_lateOf_8 : decode cX3_lateOf 8 = .ok (.iload_n 1, 1) := dk_27 (dk_at dksX3_lateOf_0 8 rfl rfl)
theorem dX3_lateOf_9 : decode cX3_lateOf 9 = .ok (.iload_n 2, 1) := dk_28 (dk_at dksX3_lateOf_0 9 rfl rfl)
theorem dX3_lateOf_10 : decode cX3_lateOf 10 = .ok (.iload_n 3, 1) := dk_29 (dk_at dksX3_lateOf_0 10 rfl rfl)
theorem dX3_lateOf_11 : decode cX3_lateOf 11 = .ok (.invokevirtual 122, 3) := dk_182 0 122 (dk_at dksX3_lateOf_0 11 rfl rfl)
theorem dX3_lateOf_14 : decode cX3_lateOf 14 = .ok (.isub, 1) := dk_100 (dk_at dksX3_lateOf_0 14 rfl rfl)
theorem dX3_lateOf_15 : decode cX3_lateOf 15 = .ok (.ireturn, 1) := dk_172 (dk_at dksX3_lateOf_0 15 rfl rfl)
abbrev cX3_coachOf : ByteArray := prog_21_method_53_code
def yX3_coachOf : MethodName := ⟨RX3, "coachOf", "(II)I"⟩
def dkwX3_coachOf_5 : List UInt8 := [182, 0, 81, 172]
abbrev dktX3_coachOf_5 : List UInt8 := dkwX3_coachOf_5 ++ []
def dkwX3_coachOf_4 : List UInt8 := [42, 27, 182, 0, 129, 172, 42, 27, 3, 182, 0, 229, 172, 42, 27, 5, 182, 0, 229, 172, 42, 5]
abbrev dktX3_coachOf_4 : List UInt8 := dkwX3_coachOf_4 ++ dktX3_coachOf_5
def dkwX3_coachOf_3 : List UInt8 := [42, 27, 182, 0, 95, 172, 42, 27, 182, 0, 223, 172, 42, 27, 182, 0, 226, 172, 42, 27, 182, 0, 92, 172]
abbrev dktX3_coachOf_3 : List UInt8 := dkwX3_coachOf_3 ++ dktX3_coachOf_4
def dkwX3_coachOf_2 : List UInt8 := [170, 0, 0, 0, 0, 86, 0, 0, 0, 0, 0, 0, 0, 6, 0, 0, 0, 42, 0, 0, 0, 48, 0, 0, 0, 54, 0, 0, 0, 60, 0, 0, 0, 66, 0, 0, 0, 72, 0, 0, 0, 79]
abbrev dktX3_coachOf_2 : List UInt8 := dkwX3_coachOf_2 ++ dktX3_coachOf_3
def dkwX3_coachOf_1 : List UInt8 := [182, 0, 159, 28]
abbrev dktX3_coachOf_1 : List UInt8 := dkwX3_coachOf_1 ++ dktX3_coachOf_2
def dkwX3_coachOf_0 : List UInt8 := [42, 3, 181, 0, 69, 42, 27, 182, 0, 118, 154, 0, 9, 42, 4, 182, 0, 81, 172, 42, 2, 2]
abbrev dktX3_coachOf_0 : List UInt8 := dkwX3_coachOf_0 ++ dktX3_coachOf_1
theorem dksX3_coachOf_0 : cX3_coachOf.data.toList.drop 0 = dktX3_coachOf_0 := by decide +kernel
theorem dksX3_coachOf_1 : cX3_coachOf.data.toList.drop 22 = dktX3_coachOf_1 := dk_seg dksX3_coachOf_0 22 rfl rfl
theorem dksX3_coachOf_2 : cX3_coachOf.data.toList.drop 26 = dktX3_coachOf_2 := dk_seg dksX3_coachOf_1 4 rfl rfl
theorem dksX3_coachOf_3 : cX3_coachOf.data.toList.drop 68 = dktX3_coachOf_3 := dk_seg dksX3_coachOf_2 42 rfl rfl
theorem dksX3_coachOf_4 : cX3_coachOf.data.toList.drop 92 = dktX3_coachOf_4 := dk_seg dksX3_coachOf_3 24 rfl rfl
theorem dksX3_coachOf_5 : cX3_coachOf.data.toList.drop 114 = dktX3_coachOf_5 := dk_seg dksX3_coachOf_4 22 rfl rfl
theorem dX3_coachOf_0 : decode cX3_coachOf 0 = .ok (.aload_n 0, 1) := dk_42 (dk_at dksX3_coachOf_0 0 rfl rfl)
theorem dX3_coachOf_1 : decode cX3_coachOf 1 = .ok (.iconst 0, 1) := dk_3 (dk_at dksX3_coachOf_0 1 rfl rfl)
theorem dX3_coachOf_2 : decode cX3_coachOf 2 = .ok (.putfield 69, 3) := dk_181 0 69 (dk_at dksX3_coachOf_0 2 rfl rfl)
theorem dX3_coachOf_5 : decode cX3_coachOf 5 = .ok (.aload_n 0, 1) := dk_42 (dk_at dksX3_coachOf_0 5 rfl rfl)
theorem dX3_coachOf_6 : decode cX3_coachOf 6 = .ok (.iload_n 1, 1) := dk_27 (dk_at dksX3_coachOf_0 6 rfl rfl)
theorem dX3_coachOf_7 : decode cX3_coachOf 7 = .ok (.invokevirtual 118, 3) := dk_182 0 118 (dk_at dksX3_coachOf_0 7 rfl rfl)
theorem dX3_coachOf_10 : decode cX3_coachOf 10 = .ok (.ifCond .ne 9, 3) := dk_154 0 9 (dk_at dksX3_coachOf_0 10 rfl rfl)
theorem dX3_coachOf_13 : decode cX3_coachOf 13 = .ok (.aload_n 0, 1) := dk_42 (dk_at dksX3_coachOf_0 13 rfl rfl)
theorem dX3_coachOf_14 : decode cX3_coachOf 14 = .ok (.iconst 1, 1) := dk_4 (dk_at dksX3_coachOf_0 14 rfl rfl)
theorem dX3_coachOf_15 : decode cX3_coachOf 15 = .ok (.invokevirtual 81, 3) := dk_182 0 81 (dk_at dksX3_coachOf_0 15 rfl rfl)
theorem dX3_coachOf_18 : decode cX3_coachOf 18 = .ok (.ireturn, 1) := dk_172 (dk_at dksX3_coachOf_0 18 rfl rfl)
theorem dX3_coachOf_19 : decode cX3_coachOf 19 = .ok (.aload_n 0, 1) := dk_42 (dk_at dksX3_coachOf_0 19 rfl rfl)
theorem dX3_coachOf_20 : decode cX3_coachOf 20 = .ok (.iconst (-1), 1) := dk_2 (dk_at dksX3_coachOf_0 20 rfl rfl)
theorem dX3_coachOf_21 : decode cX3_coachOf 21 = .ok (.iconst (-1), 1) := dk_2 (dk_at dksX3_coachOf_0 21 rfl rfl)
theorem dX3_coachOf_22 : decode cX3_coachOf 22 = .ok (.invokevirtual 159, 3) := dk_182 0 159 (dk_at dksX3_coachOf_1 0 rfl rfl)
theorem dX3_coachOf_25 : decode cX3_coachOf 25 = .ok (.iload_n 2, 1) := dk_28 (dk_at dksX3_coachOf_1 3 rfl rfl)
theorem dX3_coachOf_26 : decode cX3_coachOf 26 = .ok (.tableswitch 86 0 6 #[42, 48, 54, 60, 66, 72, 79], 42) := by decide +kernel
theorem dX3_coachOf_68 : decode cX3_coachOf 68 = .ok (.aload_n 0, 1) := dk_42 (dk_at dksX3_coachOf_3 0 rfl rfl)
theorem dX3_coachOf_69 : decode cX3_coachOf 69 = .ok (.iload_n 1, 1) := dk_27 (dk_at dksX3_coachOf_3 1 rfl rfl)
theorem dX3_coachOf_70 : decode cX3_coachOf 70 = .ok (.invokevirtual 95, 3) := dk_182 0 95 (dk_at dksX3_coachOf_3 2 rfl rfl)
theorem dX3_coachOf_73 : decode cX3_coachOf 73 = .ok (.ireturn, 1) := dk_172 (dk_at dksX3_coachOf_3 5 rfl rfl)
theorem dX3_coachOf_74 : decode cX3_coachOf 74 = .ok (.aload_n 0, 1) := dk_42 (dk_at dksX3_coachOf_3 6 rfl rfl)
theorem dX3_coachOf_75 : decode cX3_coachOf 75 = .ok (.iload_n 1, 1) := dk_27 (dk_at dksX3_coachOf_3 7 rfl rfl)
theorem dX3_coachOf_76 : decode cX3_coachOf 76 = .ok (.invokevirtual 223, 3) := dk_182 0 223 (dk_at dksX3_coachOf_3 8 rfl rfl)
theorem dX3_coachOf_79 : decode cX3_coachOf 79 = .ok (.ireturn, 1) := dk_172 (dk_at dksX3_coachOf_3 11 rfl rfl)
theorem dX3_coachOf_80 : decode cX3_coachOf 80 = .ok (.aload_n 0, 1) := dk_42 (dk_at dksX3_coachOf_3 12 rfl rfl)
theorem dX3_coachOf_81 : decode cX3_coachOf 81 = .ok (.iload_n 1, 1) := dk_27 (dk_at dksX3_coachOf_3 13 rfl rfl)
theorem dX3_coachOf_82 : decode cX3_coachOf 82 = .ok (.invokevirtual 226, 3) := dk_182 0 226 (dk_at dksX3_coachOf_3 14 rfl rfl)
theorem dX3_coachOf_85 : decode cX3_coachOf 85 = .ok (.ireturn, 1) := dk_172 (dk_at dksX3_coachOf_3 17 rfl rfl)
theorem dX3_coachOf_86 : decode cX3_coachOf 86 = .ok (.aload_n 0, 1) := dk_42 (dk_at dksX3_coachOf_3 18 rfl rfl)
theorem dX3_coachOf_87 : decode cX3_coachOf 87 = .ok (.iload_n 1, 1) := dk_27 (dk_at dksX3_coachOf_3 19 rfl rfl)
theorem dX3_coachOf_88 : decode cX3_coachOf 88 = .ok (.invokevirtual 92, 3) := dk_182 0 92 (dk_at dksX3_coachOf_3 20 rfl rfl)
theorem dX3_coachOf_91 : decode cX3_coachOf 91 = .ok (.ireturn, 1) := dk_172 (dk_at dksX3_coachOf_3 23 rfl rfl)
theorem dX3_coachOf_92 : decode cX3_coachOf 92 = .ok (.aload_n 0, 1) := dk_42 (dk_at dksX3_coachOf_4 0 rfl rfl)
theorem dX3_coachOf_93 : decode cX3_coachOf 93 = .ok (.iload_n 1, 1) := dk_27 (dk_at dksX3_coachOf_4 1 rfl rfl)
theorem dX3_coachOf_94 : decode cX3_coachOf 94 = .ok (.invokevirtual 129, 3) := dk_182 0 129 (dk_at dksX3_coachOf_4 2 rfl rfl)
theorem dX3_coachOf_97 : decode cX3_coachOf 97 = .ok (.ireturn, 1) := dk_172 (dk_at dksX3_coachOf_4 5 rfl rfl)
theorem dX3_coachOf_98 : decode cX3_coachOf 98 = .ok (.aload_n 0, 1) := dk_42 (dk_at dksX3_coachOf_4 6 rfl rfl)
theorem dX3_coachOf_99 : decode cX3_coachOf 99 = .ok (.iload_n 1, 1) := dk_27 (dk_at dksX3_coachOf_4 7 rfl rfl)
theorem dX3_coachOf_100 : decode cX3_coachOf 100 = .ok (.iconst 0, 1) := dk_3 (dk_at dksX3_coachOf_4 8 rfl rfl)
theorem dX3_coachOf_101 : decode cX3_coachOf 101 = .ok (.invokevirtual 229, 3) := dk_182 0 229 (dk_at dksX3_coachOf_4 9 rfl rfl)
theorem dX3_coachOf_104 : decode cX3_coachOf 104 = .ok (.ireturn, 1) := dk_172 (dk_at dksX3_coachOf_4 12 rfl rfl)
theorem dX3_coachOf_105 : decode cX3_coachOf 105 = .ok (.aload_n 0, 1) := dk_42 (dk_at dksX3_coachOf_4 13 rfl rfl)
theorem dX3_coachOf_106 : decode cX3_coachOf 106 = .ok (.iload_n 1, 1) := dk_27 (dk_at dksX3_coachOf_4 14 rfl rfl)
theorem dX3_coachOf_107 : decode cX3_coachOf 107 = .ok (.iconst 2, 1) := dk_5 (dk_at dksX3_coachOf_4 15 rfl rfl)
theorem dX3_coachOf_108 : decode cX3_coachOf 108 = .ok (.invokevirtual 229, 3) := dk_182 0 229 (dk_at dksX3_coachOf_4 16 rfl rfl)
theorem dX3_coachOf_111 : decode cX3_coachOf 111 = .ok (.ireturn, 1) := dk_172 (dk_at dksX3_coachOf_4 19 rfl rfl)
theorem dX3_coachOf_112 : decode cX3_coachOf 112 = .ok (.aload_n 0, 1) := dk_42 (dk_at dksX3_coachOf_4 20 rfl rfl)
theorem dX3_coachOf_113 : decode cX3_coachOf 113 = .ok (.iconst 2, 1) := dk_5 (dk_at dksX3_coachOf_4 21 rfl rfl)
theorem dX3_coachOf_114 : decode cX3_coachOf 114 = .ok (.invokevirtual 81, 3) := dk_182 0 81 (dk_at dksX3_coachOf_5 0 rfl rfl)
theorem dX3_coachOf_117 : decode cX3_coachOf 117 = .ok (.ireturn, 1) := dk_172 (dk_at dksX3_coachOf_5 3 rfl rfl)
abbrev cX3_ownAll : ByteArray := prog_21_method_51_code
def yX3_ownAll : MethodName := ⟨RX3, "ownAll", "(I)I"⟩
def dkwX3_ownAll_1 : List UInt8 := [4, 182, 0, 179, 96, 96, 61, 132, 3, 1, 167, 255, 226, 28, 172]
abbrev dktX3_ownAll_1 : List UInt8 := dkwX3_ownAll_1 ++ []
def dkwX3_ownAll_0 : List UInt8 := [3, 61, 3, 62, 29, 42, 27, 182, 0, 95, 162, 0, 27, 28, 42, 27, 29, 3, 182, 0, 179, 42, 27, 29]
abbrev dktX3_ownAll_0 : List UInt8 := dkwX3_ownAll_0 ++ dktX3_ownAll_1
theorem dksX3_ownAll_0 : cX3_ownAll.data.toList.drop 0 = dktX3_ownAll_0 := by decide +kernel
theorem dksX3_ownAll_1 : cX3_ownAll.data.toList.drop 24 = dktX3_ownAll_1 := dk_seg dksX3_ownAll_0 24 rfl rfl
theorem dX3_ownAll_0 : decode cX3_ownAll 0 = .ok (.iconst 0, 1) := dk_3 (dk_at dksX3_ownAll_0 0 rfl rfl)
theorem dX3_ownAll_1 : decode cX3_ownAll 1 = .ok (.istore_n 2, 1) := dk_61 (dk_at dksX3_ownAll_0 1 rfl rfl)
theorem dX3_ownAll_2 : decode cX3_ownAll 2 = .ok (.iconst 0, 1) := dk_3 (dk_at dksX3_ownAll_0 2 rfl rfl)
theorem dX3_ownAll_3 : decode cX3_ownAll 3 = .ok (.istore_n 3, 1) := dk_62 (dk_at dksX3_ownAll_0 3 rfl rfl)
theorem dX3_ownAll_4 : decode cX3_ownAll 4 = .ok (.iload_n 3, 1) := dk_29 (dk_at dksX3_ownAll_0 4 rfl rfl)
theorem dX3_ownAll_5 : decode cX3_ownAll 5 = .ok (.aload_n 0, 1) := dk_42 (dk_at dksX3_ownAll_0 5 rfl rfl)
theorem dX3_ownAll_6 : decode cX3_ownAll 6 = .ok (.iload_n 1, 1) := dk_27 (dk_at dksX3_ownAll_0 6 rfl rfl)
theorem dX3_ownAll_7 : decode cX3_ownAll 7 = .ok (.invokevirtual 95, 3) := dk_182 0 95 (dk_at dksX3_ownAll_0 7 rfl rfl)
theorem dX3_ownAll_10 : decode cX3_ownAll 10 = .ok (.if_icmp .ge 27, 3) := dk_162 0 27 (dk_at dksX3_ownAll_0 10 rfl rfl)
theorem dX3_ownAll_13 : decode cX3_ownAll 13 = .ok (.iload_n 2, 1) := dk_28 (dk_at dksX3_ownAll_0 13 rfl rfl)
theorem dX3_ownAll_14 : decode cX3_ownAll 14 = .ok (.aload_n 0, 1) := dk_42 (dk_at dksX3_ownAll_0 14 rfl rfl)
theorem dX3_ownAll_15 : decode cX3_ownAll 15 = .ok (.iload_n 1, 1) := dk_27 (dk_at dksX3_ownAll_0 15 rfl rfl)
theorem dX3_ownAll_16 : decode cX3_ownAll 16 = .ok (.iload_n 3, 1) := dk_29 (dk_at dksX3_ownAll_0 16 rfl rfl)
theorem dX3_ownAll_17 : decode cX3_ownAll 17 = .ok (.iconst 0, 1) := dk_3 (dk_at dksX3_ownAll_0 17 rfl rfl)
theorem dX3_ownAll_18 : decode cX3_ownAll 18 = .ok (.invokevirtual 179, 3) := dk_182 0 179 (dk_at dksX3_ownAll_0 18 rfl rfl)
theorem dX3_ownAll_21 : decode cX3_ownAll 21 = .ok (.aload_n 0, 1) := dk_42 (dk_at dksX3_ownAll_0 21 rfl rfl)
theorem dX3_ownAll_22 : decode cX3_ownAll 22 = .ok (.iload_n 1, 1) := dk_27 (dk_at dksX3_ownAll_0 22 rfl rfl)
theorem dX3_ownAll_23 : decode cX3_ownAll 23 = .ok (.iload_n 3, 1) := dk_29 (dk_at dksX3_ownAll_0 23 rfl rfl)
theorem dX3_ownAll_24 : decode cX3_ownAll 24 = .ok (.iconst 1, 1) := dk_4 (dk_at dksX3_ownAll_1 0 rfl rfl)
theorem dX3_ownAll_25 : decode cX3_ownAll 25 = .ok (.invokevirtual 179, 3) := dk_182 0 179 (dk_at dksX3_ownAll_1 1 rfl rfl)
theorem dX3_ownAll_28 : decode cX3_ownAll 28 = .ok (.iadd, 1) := dk_96 (dk_at dksX3_ownAll_1 4 rfl rfl)
theorem dX3_ownAll_29 : decode cX3_ownAll 29 = .ok (.iadd, 1) := dk_96 (dk_at dksX3_ownAll_1 5 rfl rfl)
theorem dX3_ownAll_30 : decode cX3_ownAll 30 = .ok (.istore_n 2, 1) := dk_61 (dk_at dksX3_ownAll_1 6 rfl rfl)
theorem dX3_ownAll_31 : decode cX3_ownAll 31 = .ok (.iinc 3 1, 3) := dk_132 3 1 (dk_at dksX3_ownAll_1 7 rfl rfl)
theorem dX3_ownAll_34 : decode cX3_ownAll 34 = .ok (.goto (-30), 3) := dk_167 255 226 (dk_at dksX3_ownAll_1 10 rfl rfl)
theorem dX3_ownAll_37 : decode cX3_ownAll 37 = .ok (.iload_n 2, 1) := dk_28 (dk_at dksX3_ownAll_1 13 rfl rfl)
theorem dX3_ownAll_38 : decode cX3_ownAll 38 = .ok (.ireturn, 1) := dk_172 (dk_at dksX3_ownAll_1 14 rfl rfl)
abbrev cX3_lastLate : ByteArray := prog_21_method_52_code
def yX3_lastLate : MethodName := ⟨RX3, "lastLate", "(I)I"⟩
def dkwX3_lastLate_1 : List UInt8 := [182, 0, 163, 172]
abbrev dktX3_lastLate_1 : List UInt8 := dkwX3_lastLate_1 ++ []
def dkwX3_lastLate_0 : List UInt8 := [42, 27, 182, 0, 95, 4, 160, 0, 7, 3, 167, 0, 16, 42, 27, 42, 27, 182, 0, 95, 4, 100, 3]
abbrev dktX3_lastLate_0 : List UInt8 := dkwX3_lastLate_0 ++ dktX3_lastLate_1
theorem dksX3_lastLate_0 : cX3_lastLate.data.toList.drop 0 = dktX3_lastLate_0 := by decide +kernel
theorem dksX3_lastLate_1 : cX3_lastLate.data.toList.drop 23 = dktX3_lastLate_1 := dk_seg dksX3_lastLate_0 23 rfl rfl
theorem dX3_lastLate_0 : decode cX3_lastLate 0 = .ok (.aload_n 0, 1) := dk_42 (dk_at dksX3_lastLate_0 0 rfl rfl)
theorem dX3_lastLate_1 : decode cX3_lastLate 1 = .ok (.iload_n 1, 1) := dk_27 (dk_at dksX3_lastLate_0 1 rfl rfl)
theorem dX3_lastLate_2 : decode cX3_lastLate 2 = .ok (.invokevirtual 95, 3) := dk_182 0 95 (dk_at dksX3_lastLate_0 2 rfl rfl)
theorem dX3_lastLate_5 : decode cX3_lastLate 5 = .ok (.iconst 1, 1) := dk_4 (dk_at dksX3_lastLate_0 5 rfl rfl)
theorem dX3_lastLate_6 : decode cX3_lastLate 6 = .ok (.if_icmp .ne 7, 3) := dk_160 0 7 (dk_at dksX3_lastLate_0 6 rfl rfl)
theorem dX3_lastLate_9 : decode cX3_lastLate 9 = .ok (.iconst 0, 1) := dk_3 (dk_at dksX3_lastLate_0 9 rfl rfl)
theorem dX3_lastLate_10 : decode cX3_lastLate 10 = .ok (.goto 16, 3) := dk_167 0 16 (dk_at dksX3_lastLate_0 10 rfl rfl)
theorem dX3_lastLate_13 : decode cX3_lastLate 13 = .ok (.aload_n 0, 1) := dk_42 (dk_at dksX3_lastLate_0 13 rfl rfl)
theorem dX3_lastLate_14 : decode cX3_lastLate 14 = .ok (.iload_n 1, 1) := dk_27 (dk_at dksX3_lastLate_0 14 rfl rfl)
theorem dX3_lastLate_15 : decode cX3_lastLate 15 = .ok (.aload_n 0, 1) := dk_42 (dk_at dksX3_lastLate_0 15 rfl rfl)
theorem dX3_lastLate_16 : decode cX3_lastLate 16 = .ok (.iload_n 1, 1) := dk_27 (dk_at dksX3_lastLate_0 16 rfl rfl)
theorem dX3_lastLate_17 : decode cX3_lastLate 17 = .ok (.invokevirtual 95, 3) := dk_182 0 95 (dk_at dksX3_lastLate_0 17 rfl rfl)
theorem dX3_lastLate_20 : decode cX3_lastLate 20 = .ok (.iconst 1, 1) := dk_4 (dk_at dksX3_lastLate_0 20 rfl rfl)
theorem dX3_lastLate_21 : decode cX3_lastLate 21 = .ok (.isub, 1) := dk_100 (dk_at dksX3_lastLate_0 21 rfl rfl)
theorem dX3_lastLate_22 : decode cX3_lastLate 22 = .ok (.iconst 0, 1) := dk_3 (dk_at dksX3_lastLate_0 22 rfl rfl)
theorem dX3_lastLate_23 : decode cX3_lastLate 23 = .ok (.invokevirtual 163, 3) := dk_182 0 163 (dk_at dksX3_lastLate_1 0 rfl rfl)
theorem dX3_lastLate_26 : decode cX3_lastLate 26 = .ok (.ireturn, 1) := dk_172 (dk_at dksX3_lastLate_1 3 rfl rfl)
abbrev cX3_linksOf : ByteArray := prog_21_method_50_code
def yX3_linksOf : MethodName := ⟨RX3, "linksOf", "(II)I"⟩
def dkwX3_linksOf_2 : List UInt8 := [172]
abbrev dktX3_linksOf_2 : List UInt8 := dkwX3_linksOf_2 ++ []
def dkwX3_linksOf_1 : List UInt8 := [184, 0, 141, 28, 96, 46, 27, 160, 0, 7, 4, 167, 0, 4, 3, 96, 62, 132, 4, 1, 167, 255, 218, 29]
abbrev dktX3_linksOf_1 : List UInt8 := dkwX3_linksOf_1 ++ dktX3_linksOf_2
def dkwX3_linksOf_0 : List UInt8 := [3, 62, 3, 54, 4, 21, 4, 42, 180, 0, 9, 4, 46, 162, 0, 33, 29, 42, 180, 0, 9, 21, 4]
abbrev dktX3_linksOf_0 : List UInt8 := dkwX3_linksOf_0 ++ dktX3_linksOf_1
theorem dksX3_linksOf_0 : cX3_linksOf.data.toList.drop 0 = dktX3_linksOf_0 := by decide +kernel
theorem dksX3_linksOf_1 : cX3_linksOf.data.toList.drop 23 = dktX3_linksOf_1 := dk_seg dksX3_linksOf_0 23 rfl rfl
theorem dksX3_linksOf_2 : cX3_linksOf.data.toList.drop 47 = dktX3_linksOf_2 := dk_seg dksX3_linksOf_1 24 rfl rfl
theorem dX3_linksOf_0 : decode cX3_linksOf 0 = .ok (.iconst 0, 1) := dk_3 (dk_at dksX3_linksOf_0 0 rfl rfl)
theorem dX3_linksOf_1 : decode cX3_linksOf 1 = .ok (.istore_n 3, 1) := dk_62 (dk_at dksX3_linksOf_0 1 rfl rfl)
theorem dX3_linksOf_2 : decode cX3_linksOf 2 = .ok (.iconst 0, 1) := dk_3 (dk_at dksX3_linksOf_0 2 rfl rfl)
theorem dX3_linksOf_3 : decode cX3_linksOf 3 = .ok (.istore 4, 2) := dk_54 4 (dk_at dksX3_linksOf_0 3 rfl rfl)
theorem dX3_linksOf_5 : decode cX3_linksOf 5 = .ok (.iload 4, 2) := dk_21 4 (dk_at dksX3_linksOf_0 5 rfl rfl)
theorem dX3_linksOf_7 : decode cX3_linksOf 7 = .ok (.aload_n 0, 1) := dk_42 (dk_at dksX3_linksOf_0 7 rfl rfl)
theorem dX3_linksOf_8 : decode cX3_linksOf 8 = .ok (.getfield 9, 3) := dk_180 0 9 (dk_at dksX3_linksOf_0 8 rfl rfl)
theorem dX3_linksOf_11 : decode cX3_linksOf 11 = .ok (.iconst 1, 1) := dk_4 (dk_at dksX3_linksOf_0 11 rfl rfl)
theorem dX3_linksOf_12 : decode cX3_linksOf 12 = .ok (.iaload, 1) := dk_46 (dk_at dksX3_linksOf_0 12 rfl rfl)
theorem dX3_linksOf_13 : decode cX3_linksOf 13 = .ok (.if_icmp .ge 33, 3) := dk_162 0 33 (dk_at dksX3_linksOf_0 13 rfl rfl)
theorem dX3_linksOf_16 : decode cX3_linksOf 16 = .ok (.iload_n 3, 1) := dk_29 (dk_at dksX3_linksOf_0 16 rfl rfl)
theorem dX3_linksOf_17 : decode cX3_linksOf 17 = .ok (.aload_n 0, 1) := dk_42 (dk_at dksX3_linksOf_0 17 rfl rfl)
theorem dX3_linksOf_18 : decode cX3_linksOf 18 = .ok (.getfield 9, 3) := dk_180 0 9 (dk_at dksX3_linksOf_0 18 rfl rfl)
theorem dX3_linksOf_21 : decode cX3_linksOf 21 = .ok (.iload 4, 2) := dk_21 4 (dk_at dksX3_linksOf_0 21 rfl rfl)
theorem dX3_linksOf_23 : decode cX3_linksOf 23 = .ok (.invokestatic 141, 3) := dk_184 0 141 (dk_at dksX3_linksOf_1 0 rfl rfl)
theorem dX3_linksOf_26 : decode cX3_linksOf 26 = .ok (.iload_n 2, 1) := dk_28 (dk_at dksX3_linksOf_1 3 rfl rfl)
theorem dX3_linksOf_27 : decode cX3_linksOf 27 = .ok (.iadd, 1) := dk_96 (dk_at dksX3_linksOf_1 4 rfl rfl)
theorem dX3_linksOf_28 : decode cX3_linksOf 28 = .ok (.iaload, 1) := dk_46 (dk_at dksX3_linksOf_1 5 rfl rfl)
theorem dX3_linksOf_29 : decode cX3_linksOf 29 = .ok (.iload_n 1, 1) := dk_27 (dk_at dksX3_linksOf_1 6 rfl rfl)
theorem dX3_linksOf_30 : decode cX3_linksOf 30 = .ok (.if_icmp .ne 7, 3) := dk_160 0 7 (dk_at dksX3_linksOf_1 7 rfl rfl)
theorem dX3_linksOf_33 : decode cX3_linksOf 33 = .ok (.iconst 1, 1) := dk_4 (dk_at dksX3_linksOf_1 10 rfl rfl)
theorem dX3_linksOf_34 : decode cX3_linksOf 34 = .ok (.goto 4, 3) := dk_167 0 4 (dk_at dksX3_linksOf_1 11 rfl rfl)
theorem dX3_linksOf_37 : decode cX3_linksOf 37 = .ok (.iconst 0, 1) := dk_3 (dk_at dksX3_linksOf_1 14 rfl rfl)
theorem dX3_linksOf_38 : decode cX3_linksOf 38 = .ok (.iadd, 1) := dk_96 (dk_at dksX3_linksOf_1 15 rfl rfl)
theorem dX3_linksOf_39 : decode cX3_linksOf 39 = .ok (.istore_n 3, 1) := dk_62 (dk_at dksX3_linksOf_1 16 rfl rfl)
theorem dX3_linksOf_40 : decode cX3_linksOf 40 = .ok (.iinc 4 1, 3) := dk_132 4 1 (dk_at dksX3_linksOf_1 17 rfl rfl)
theorem dX3_linksOf_43 : decode cX3_linksOf 43 = .ok (.goto (-38), 3) := dk_167 255 218 (dk_at dksX3_linksOf_1 20 rfl rfl)
theorem dX3_linksOf_46 : decode cX3_linksOf 46 = .ok (.iload_n 3, 1) := dk_29 (dk_at dksX3_linksOf_1 23 rfl rfl)
theorem dX3_linksOf_47 : decode cX3_linksOf 47 = .ok (.ireturn, 1) := dk_172 (dk_at dksX3_linksOf_2 0 rfl rfl)
abbrev cX3_stopOf : ByteArray := prog_21_method_54_code
def yX3_stopOf : MethodName := ⟨RX3, "stopOf", "(III)I"⟩
def dkwX3_stopOf_2 : List UInt8 := [42, 180, 0, 9, 27, 28, 184, 0, 98, 29, 96, 46, 167, 0, 8, 42, 5, 182, 0, 81, 172]
abbrev dktX3_stopOf_2 : List UInt8 := dkwX3_stopOf_2 ++ []
def dkwX3_stopOf_1 : List UInt8 := [184, 0, 88, 154, 0, 9, 42, 4, 182, 0, 81, 172, 29, 133, 9, 20, 0, 232, 184, 0, 88, 153, 0, 18]
abbrev dktX3_stopOf_1 : List UInt8 := dkwX3_stopOf_1 ++ dktX3_stopOf_2
def dkwX3_stopOf_0 : List UInt8 := [42, 3, 181, 0, 69, 42, 27, 182, 0, 118, 153, 0, 20, 28, 133, 9, 42, 27, 182, 0, 95, 4, 100, 133]
abbrev dktX3_stopOf_0 : List UInt8 := dkwX3_stopOf_0 ++ dktX3_stopOf_1
theorem dksX3_stopOf_0 : cX3_stopOf.data.toList.drop 0 = dktX3_stopOf_0 := by decide +kernel
theorem dksX3_stopOf_1 : cX3_stopOf.data.toList.drop 24 = dktX3_stopOf_1 := dk_seg dksX3_stopOf_0 24 rfl rfl
theorem dksX3_stopOf_2 : cX3_stopOf.data.toList.drop 48 = dktX3_stopOf_2 := dk_seg dksX3_stopOf_1 24 rfl rfl
theorem dX3_stopOf_0 : decode cX3_stopOf 0 = .ok (.aload_n 0, 1) := dk_42 (dk_at dksX3_stopOf_0 0 rfl rfl)
theorem dX3_stopOf_1 : decode cX3_stopOf 1 = .ok (.iconst 0, 1) := dk_3 (dk_at dksX3_stopOf_0 1 rfl rfl)
theorem dX3_stopOf_2 : decode cX3_stopOf 2 = .ok (.putfield 69, 3) := dk_181 0 69 (dk_at dksX3_stopOf_0 2 rfl rfl)
theorem dX3_stopOf_5 : decode cX3_stopOf 5 = .ok (.aload_n 0, 1) := dk_42 (dk_at dksX3_stopOf_0 5 rfl rfl)
theorem dX3_stopOf_6 : decode cX3_stopOf 6 = .ok (.iload_n 1, 1) := dk_27 (dk_at dksX3_stopOf_0 6 rfl rfl)
theorem dX3_stopOf_7 : decode cX3_stopOf 7 = .ok (.invokevirtual 118, 3) := dk_182 0 118 (dk_at dksX3_stopOf_0 7 rfl rfl)
theorem dX3_stopOf_10 : decode cX3_stopOf 10 = .ok (.ifCond .eq 20, 3) := dk_153 0 20 (dk_at dksX3_stopOf_0 10 rfl rfl)
theorem dX3_stopOf_13 : decode cX3_stopOf 13 = .ok (.iload_n 2, 1) := dk_28 (dk_at dksX3_stopOf_0 13 rfl rfl)
theorem dX3_stopOf_14 : decode cX3_stopOf 14 = .ok (.i2l, 1) := dk_133 (dk_at dksX3_stopOf_0 14 rfl rfl)
theorem dX3_stopOf_15 : decode cX3_stopOf 15 = .ok (.lconst 0, 1) := dk_9 (dk_at dksX3_stopOf_0 15 rfl rfl)
theorem dX3_stopOf_16 : decode cX3_stopOf 16 = .ok (.aload_n 0, 1) := dk_42 (dk_at dksX3_stopOf_0 16 rfl rfl)
theorem dX3_stopOf_17 : decode cX3_stopOf 17 = .ok (.iload_n 1, 1) := dk_27 (dk_at dksX3_stopOf_0 17 rfl rfl)
theorem dX3_stopOf_18 : decode cX3_stopOf 18 = .ok (.invokevirtual 95, 3) := dk_182 0 95 (dk_at dksX3_stopOf_0 18 rfl rfl)
theorem dX3_stopOf_21 : decode cX3_stopOf 21 = .ok (.iconst 1, 1) := dk_4 (dk_at dksX3_stopOf_0 21 rfl rfl)
theorem dX3_stopOf_22 : decode cX3_stopOf 22 = .ok (.isub, 1) := dk_100 (dk_at dksX3_stopOf_0 22 rfl rfl)
theorem dX3_stopOf_23 : decode cX3_stopOf 23 = .ok (.i2l, 1) := dk_133 (dk_at dksX3_stopOf_0 23 rfl rfl)
theorem dX3_stopOf_24 : decode cX3_stopOf 24 = .ok (.invokestatic 88, 3) := dk_184 0 88 (dk_at dksX3_stopOf_1 0 rfl rfl)
theorem dX3_stopOf_27 : decode cX3_stopOf 27 = .ok (.ifCond .ne 9, 3) := dk_154 0 9 (dk_at dksX3_stopOf_1 3 rfl rfl)
theorem dX3_stopOf_30 : decode cX3_stopOf 30 = .ok (.aload_n 0, 1) := dk_42 (dk_at dksX3_stopOf_1 6 rfl rfl)
theorem dX3_stopOf_31 : decode cX3_stopOf 31 = .ok (.iconst 1, 1) := dk_4 (dk_at dksX3_stopOf_1 7 rfl rfl)
theorem dX3_stopOf_32 : decode cX3_stopOf 32 = .ok (.invokevirtual 81, 3) := dk_182 0 81 (dk_at dksX3_stopOf_1 8 rfl rfl)
theorem dX3_stopOf_35 : decode cX3_stopOf 35 = .ok (.ireturn, 1) := dk_172 (dk_at dksX3_stopOf_1 11 rfl rfl)
theorem dX3_stopOf_36 : decode cX3_stopOf 36 = .ok (.iload_n 3, 1) := dk_29 (dk_at dksX3_stopOf_1 12 rfl rfl)
theorem dX3_stopOf_37 : decode cX3_stopOf 37 = .ok (.i2l, 1) := dk_133 (dk_at dksX3_stopOf_1 13 rfl rfl)
theorem dX3_stopOf_38 : decode cX3_stopOf 38 = .ok (.lconst 0, 1) := dk_9 (dk_at dksX3_stopOf_1 14 rfl rfl)
theorem dX3_stopOf_39 : decode cX3_stopOf 39 = .ok (.ldc2_w 232, 3) := dk_20 0 232 (dk_at dksX3_stopOf_1 15 rfl rfl)
theorem dX3_stopOf_42 : decode cX3_stopOf 42 = .ok (.invokestatic 88, 3) := dk_184 0 88 (dk_at dksX3_stopOf_1 18 rfl rfl)
theorem dX3_stopOf_45 : decode cX3_stopOf 45 = .ok (.ifCond .eq 18, 3) := dk_153 0 18 (dk_at dksX3_stopOf_1 21 rfl rfl)
theorem dX3_stopOf_48 : decode cX3_stopOf 48 = .ok (.aload_n 0, 1) := dk_42 (dk_at dksX3_stopOf_2 0 rfl rfl)
theorem dX3_stopOf_49 : decode cX3_stopOf 49 = .ok (.getfield 9, 3) := dk_180 0 9 (dk_at dksX3_stopOf_2 1 rfl rfl)
theorem dX3_stopOf_52 : decode cX3_stopOf 52 = .ok (.iload_n 1, 1) := dk_27 (dk_at dksX3_stopOf_2 4 rfl rfl)
theorem dX3_stopOf_53 : decode cX3_stopOf 53 = .ok (.iload_n 2, 1) := dk_28 (dk_at dksX3_stopOf_2 5 rfl rfl)
theorem dX3_stopOf_54 : decode cX3_stopOf 54 = .ok (.invokestatic 98, 3) := dk_184 0 98 (dk_at dksX3_stopOf_2 6 rfl rfl)
theorem dX3_stopOf_57 : decode cX3_stopOf 57 = .ok (.iload_n 3, 1) := dk_29 (dk_at dksX3_stopOf_2 9 rfl rfl)
theorem dX3_stopOf_58 : decode cX3_stopOf 58 = .ok (.iadd, 1) := dk_96 (dk_at dksX3_stopOf_2 10 rfl rfl)
theorem dX3_stopOf_59 : decode cX3_stopOf 59 = .ok (.iaload, 1) := dk_46 (dk_at dksX3_stopOf_2 11 rfl rfl)
theorem dX3_stopOf_60 : decode cX3_stopOf 60 = .ok (.goto 8, 3) := dk_167 0 8 (dk_at dksX3_stopOf_2 12 rfl rfl)
theorem dX3_stopOf_63 : decode cX3_stopOf 63 = .ok (.aload_n 0, 1) := dk_42 (dk_at dksX3_stopOf_2 15 rfl rfl)
theorem dX3_stopOf_64 : decode cX3_stopOf 64 = .ok (.iconst 2, 1) := dk_5 (dk_at dksX3_stopOf_2 16 rfl rfl)
theorem dX3_stopOf_65 : decode cX3_stopOf 65 = .ok (.invokevirtual 81, 3) := dk_182 0 81 (dk_at dksX3_stopOf_2 17 rfl rfl)
theorem dX3_stopOf_68 : decode cX3_stopOf 68 = .ok (.ireturn, 1) := dk_172 (dk_at dksX3_stopOf_2 20 rfl rfl)
abbrev cX3_eventOf : ByteArray := prog_21_method_56_code
def yX3_eventOf : MethodName := ⟨RX3, "eventOf", "(IIZI)I"⟩
def dkwX3_eventOf_6 : List UInt8 := [182, 0, 81, 172]
abbrev dktX3_eventOf_6 : List UInt8 := dkwX3_eventOf_6 ++ []
def dkwX3_eventOf_5 : List UInt8 := [28, 21, 5, 182, 0, 237, 6, 160, 0, 12, 42, 27, 28, 182, 0, 240, 167, 0, 4, 2, 172, 42, 5]
abbrev dktX3_eventOf_5 : List UInt8 := dkwX3_eventOf_5 ++ dktX3_eventOf_6
def dkwX3_eventOf_4 : List UInt8 := [182, 0, 163, 172, 42, 27, 28, 21, 5, 182, 0, 179, 172, 42, 27, 28, 21, 5, 182, 0, 237, 172, 42, 27]
abbrev dktX3_eventOf_4 : List UInt8 := dkwX3_eventOf_4 ++ dktX3_eventOf_5
def dkwX3_eventOf_3 : List UInt8 := [42, 27, 28, 21, 5, 182, 0, 122, 172, 42, 27, 28, 21, 5, 182, 0, 173, 172, 42, 27, 28, 21, 5]
abbrev dktX3_eventOf_3 : List UInt8 := dkwX3_eventOf_3 ++ dktX3_eventOf_4
def dkwX3_eventOf_2 : List UInt8 := [170, 0, 0, 0, 0, 0, 0, 108, 0, 0, 0, 0, 0, 0, 0, 5, 0, 0, 0, 40, 0, 0, 0, 49, 0, 0, 0, 58, 0, 0, 0, 67, 0, 0, 0, 76, 0, 0, 0, 85]
abbrev dktX3_eventOf_2 : List UInt8 := dkwX3_eventOf_2 ++ dktX3_eventOf_3
def dkwX3_eventOf_1 : List UInt8 := [42, 2, 2, 182, 0, 159, 21, 4]
abbrev dktX3_eventOf_1 : List UInt8 := dkwX3_eventOf_1 ++ dktX3_eventOf_2
def dkwX3_eventOf_0 : List UInt8 := [29, 153, 0, 7, 3, 167, 0, 4, 4, 54, 5, 42, 27, 28, 21, 5, 182, 0, 234, 154, 0, 5, 2, 172]
abbrev dktX3_eventOf_0 : List UInt8 := dkwX3_eventOf_0 ++ dktX3_eventOf_1
theorem dksX3_eventOf_0 : cX3_eventOf.data.toList.drop 0 = dktX3_eventOf_0 := by decide +kernel
theorem dksX3_eventOf_1 : cX3_eventOf.data.toList.drop 24 = dktX3_eventOf_1 := dk_seg dksX3_eventOf_0 24 rfl rfl
theorem dksX3_eventOf_2 : cX3_eventOf.data.toList.drop 32 = dktX3_eventOf_2 := dk_seg dksX3_eventOf_1 8 rfl rfl
theorem dksX3_eventOf_3 : cX3_eventOf.data.toList.drop 72 = dktX3_eventOf_3 := dk_seg dksX3_eventOf_2 40 rfl rfl
theorem dksX3_eventOf_4 : cX3_eventOf.data.toList.drop 95 = dktX3_eventOf_4 := dk_seg dksX3_eventOf_3 23 rfl rfl
theorem dksX3_eventOf_5 : cX3_eventOf.data.toList.drop 119 = dktX3_eventOf_5 := dk_seg dksX3_eventOf_4 24 rfl rfl
theorem dksX3_eventOf_6 : cX3_eventOf.data.toList.drop 142 = dktX3_eventOf_6 := dk_seg dksX3_eventOf_5 23 rfl rfl
theorem dX3_eventOf_0 : decode cX3_eventOf 0 = .ok (.iload_n 3, 1) := dk_29 (dk_at dksX3_eventOf_0 0 rfl rfl)
theorem dX3_eventOf_1 : decode cX3_eventOf 1 = .ok (.ifCond .eq 7, 3) := dk_153 0 7 (dk_at dksX3_eventOf_0 1 rfl rfl)
theorem dX3_eventOf_4 : decode cX3_eventOf 4 = .ok (.iconst 0, 1) := dk_3 (dk_at dksX3_eventOf_0 4 rfl rfl)
theorem dX3_eventOf_5 : decode cX3_eventOf 5 = .ok (.goto 4, 3) := dk_167 0 4 (dk_at dksX3_eventOf_0 5 rfl rfl)
theorem dX3_eventOf_8 : decode cX3_eventOf 8 = .ok (.iconst 1, 1) := dk_4 (dk_at dksX3_eventOf_0 8 rfl rfl)
theorem dX3_eventOf_9 : decode cX3_eventOf 9 = .ok (.istore 5, 2) := dk_54 5 (dk_at dksX3_eventOf_0 9 rfl rfl)
theorem dX3_eventOf_11 : decode cX3_eventOf 11 = .ok (.aload_n 0, 1) := dk_42 (dk_at dksX3_eventOf_0 11 rfl rfl)
theorem dX3_eventOf_12 : decode cX3_eventOf 12 = .ok (.iload_n 1, 1) := dk_27 (dk_at dksX3_eventOf_0 12 rfl rfl)
theorem dX3_eventOf_13 : decode cX3_eventOf 13 = .ok (.iload_n 2, 1) := dk_28 (dk_at dksX3_eventOf_0 13 rfl rfl)
theorem dX3_eventOf_14 : decode cX3_eventOf 14 = .ok (.iload 5, 2) := dk_21 5 (dk_at dksX3_eventOf_0 14 rfl rfl)
theorem dX3_eventOf_16 : decode cX3_eventOf 16 = .ok (.invokevirtual 234, 3) := dk_182 0 234 (dk_at dksX3_eventOf_0 16 rfl rfl)
theorem dX3_eventOf_19 : decode cX3_eventOf 19 = .ok (.ifCond .ne 5, 3) := dk_154 0 5 (dk_at dksX3_eventOf_0 19 rfl rfl)
theorem dX3_eventOf_22 : decode cX3_eventOf 22 = .ok (.iconst (-1), 1) := dk_2 (dk_at dksX3_eventOf_0 22 rfl rfl)
theorem dX3_eventOf_23 : decode cX3_eventOf 23 = .ok (.ireturn, 1) := dk_172 (dk_at dksX3_eventOf_0 23 rfl rfl)
theorem dX3_eventOf_24 : decode cX3_eventOf 24 = .ok (.aload_n 0, 1) := dk_42 (dk_at dksX3_eventOf_1 0 rfl rfl)
theorem dX3_eventOf_25 : decode cX3_eventOf 25 = .ok (.iconst (-1), 1) := dk_2 (dk_at dksX3_eventOf_1 1 rfl rfl)
theorem dX3_eventOf_26 : decode cX3_eventOf 26 = .ok (.iconst (-1), 1) := dk_2 (dk_at dksX3_eventOf_1 2 rfl rfl)
theorem dX3_eventOf_27 : decode cX3_eventOf 27 = .ok (.invokevirtual 159, 3) := dk_182 0 159 (dk_at dksX3_eventOf_1 3 rfl rfl)
theorem dX3_eventOf_30 : decode cX3_eventOf 30 = .ok (.iload 4, 2) := dk_21 4 (dk_at dksX3_eventOf_1 6 rfl rfl)
theorem dX3_eventOf_32 : decode cX3_eventOf 32 = .ok (.tableswitch 108 0 5 #[40, 49, 58, 67, 76, 85], 40) := by decide +kernel
theorem dX3_eventOf_72 : decode cX3_eventOf 72 = .ok (.aload_n 0, 1) := dk_42 (dk_at dksX3_eventOf_3 0 rfl rfl)
theorem dX3_eventOf_73 : decode cX3_eventOf 73 = .ok (.iload_n 1, 1) := dk_27 (dk_at dksX3_eventOf_3 1 rfl rfl)
theorem dX3_eventOf_74 : decode cX3_eventOf 74 = .ok (.iload_n 2, 1) := dk_28 (dk_at dksX3_eventOf_3 2 rfl rfl)
theorem dX3_eventOf_75 : decode cX3_eventOf 75 = .ok (.iload 5, 2) := dk_21 5 (dk_at dksX3_eventOf_3 3 rfl rfl)
theorem dX3_eventOf_77 : decode cX3_eventOf 77 = .ok (.invokevirtual 122, 3) := dk_182 0 122 (dk_at dksX3_eventOf_3 5 rfl rfl)
theorem dX3_eventOf_80 : decode cX3_eventOf 80 = .ok (.ireturn, 1) := dk_172 (dk_at dksX3_eventOf_3 8 rfl rfl)
theorem dX3_eventOf_81 : decode cX3_eventOf 81 = .ok (.aload_n 0, 1) := dk_42 (dk_at dksX3_eventOf_3 9 rfl rfl)
theorem dX3_eventOf_82 : decode cX3_eventOf 82 = .ok (.iload_n 1, 1) := dk_27 (dk_at dksX3_eventOf_3 10 rfl rfl)
theorem dX3_eventOf_83 : decode cX3_eventOf 83 = .ok (.iload_n 2, 1) := dk_28 (dk_at dksX3_eventOf_3 11 rfl rfl)
theorem dX3_eventOf_84 : decode cX3_eventOf 84 = .ok (.iload 5, 2) := dk_21 5 (dk_at dksX3_eventOf_3 12 rfl rfl)
theorem dX3_eventOf_86 : decode cX3_eventOf 86 = .ok (.invokevirtual 173, 3) := dk_182 0 173 (dk_at dksX3_eventOf_3 14 rfl rfl)
theorem dX3_eventOf_89 : decode cX3_eventOf 89 = .ok (.ireturn, 1) := dk_172 (dk_at dksX3_eventOf_3 17 rfl rfl)
theorem dX3_eventOf_90 : decode cX3_eventOf 90 = .ok (.aload_n 0, 1) := dk_42 (dk_at dksX3_eventOf_3 18 rfl rfl)
theorem dX3_eventOf_91 : decode cX3_eventOf 91 = .ok (.iload_n 1, 1) := dk_27 (dk_at dksX3_eventOf_3 19 rfl rfl)
theorem dX3_eventOf_92 : decode cX3_eventOf 92 = .ok (.iload_n 2, 1) := dk_28 (dk_at dksX3_eventOf_3 20 rfl rfl)
theorem dX3_eventOf_93 : decode cX3_eventOf 93 = .ok (.iload 5, 2) := dk_21 5 (dk_at dksX3_eventOf_3 21 rfl rfl)
theorem dX3_eventOf_95 : decode cX3_eventOf 95 = .ok (.invokevirtual 163, 3) := dk_182 0 163 (dk_at dksX3_eventOf_4 0 rfl rfl)
theorem dX3_eventOf_98 : decode cX3_eventOf 98 = .ok (.ireturn, 1) := dk_172 (dk_at dksX3_eventOf_4 3 rfl rfl)
theorem dX3_eventOf_99 : decode cX3_eventOf 99 = .ok (.aload_n 0, 1) := dk_42 (dk_at dksX3_eventOf_4 4 rfl rfl)
theorem dX3_eventOf_100 : decode cX3_eventOf 100 = .ok (.iload_n 1, 1) := dk_27 (dk_at dksX3_eventOf_4 5 rfl rfl)
theorem dX3_eventOf_101 : decode cX3_eventOf 101 = .ok (.iload_n 2, 1) := dk_28 (dk_at dksX3_eventOf_4 6 rfl rfl)
theorem dX3_eventOf_102 : decode cX3_eventOf 102 = .ok (.iload 5, 2) := dk_21 5 (dk_at dksX3_eventOf_4 7 rfl rfl)
theorem dX3_eventOf_104 : decode cX3_eventOf 104 = .ok (.invokevirtual 179, 3) := dk_182 0 179 (dk_at dksX3_eventOf_4 9 rfl rfl)
theorem dX3_eventOf_107 : decode cX3_eventOf 107 = .ok (.ireturn, 1) := dk_172 (dk_at dksX3_eventOf_4 12 rfl rfl)
theorem dX3_eventOf_108 : decode cX3_eventOf 108 = .ok (.aload_n 0, 1) := dk_42 (dk_at dksX3_eventOf_4 13 rfl rfl)
theorem dX3_eventOf_109 : decode cX3_eventOf 109 = .ok (.iload_n 1, 1) := dk_27 (dk_at dksX3_eventOf_4 14 rfl rfl)
theorem dX3_eventOf_110 : decode cX3_eventOf 110 = .ok (.iload_n 2, 1) := dk_28 (dk_at dksX3_eventOf_4 15 rfl rfl)
theorem dX3_eventOf_111 : decode cX3_eventOf 111 = .ok (.iload 5, 2) := dk_21 5 (dk_at dksX3_eventOf_4 16 rfl rfl)
theorem dX3_eventOf_113 : decode cX3_eventOf 113 = .ok (.invokevirtual 237, 3) := dk_182 0 237 (dk_at dksX3_eventOf_4 18 rfl rfl)
theorem dX3_eventOf_116 : decode cX3_eventOf 116 = .ok (.ireturn, 1) := dk_172 (dk_at dksX3_eventOf_4 21 rfl rfl)
theorem dX3_eventOf_117 : decode cX3_eventOf 117 = .ok (.aload_n 0, 1) := dk_42 (dk_at dksX3_eventOf_4 22 rfl rfl)
theorem dX3_eventOf_118 : decode cX3_eventOf 118 = .ok (.iload_n 1, 1) := dk_27 (dk_at dksX3_eventOf_4 23 rfl rfl)
theorem dX3_eventOf_119 : decode cX3_eventOf 119 = .ok (.iload_n 2, 1) := dk_28 (dk_at dksX3_eventOf_5 0 rfl rfl)
theorem dX3_eventOf_120 : decode cX3_eventOf 120 = .ok (.iload 5, 2) := dk_21 5 (dk_at dksX3_eventOf_5 1 rfl rfl)
theorem dX3_eventOf_122 : decode cX3_eventOf 122 = .ok (.invokevirtual 237, 3) := dk_182 0 237 (dk_at dksX3_eventOf_5 3 rfl rfl)
theorem dX3_eventOf_125 : decode cX3_eventOf 125 = .ok (.iconst 3, 1) := dk_6 (dk_at dksX3_eventOf_5 6 rfl rfl)
theorem dX3_eventOf_126 : decode cX3_eventOf 126 = .ok (.if_icmp .ne 12, 3) := dk_160 0 12 (dk_at dksX3_eventOf_5 7 rfl rfl)
theorem dX3_eventOf_129 : decode cX3_eventOf 129 = .ok (.aload_n 0, 1) := dk_42 (dk_at dksX3_eventOf_5 10 rfl rfl)
theorem dX3_eventOf_130 : decode cX3_eventOf 130 = .ok (.iload_n 1, 1) := dk_27 (dk_at dksX3_eventOf_5 11 rfl rfl)
theorem dX3_eventOf_131 : decode cX3_eventOf 131 = .ok (.iload_n 2, 1) := dk_28 (dk_at dksX3_eventOf_5 12 rfl rfl)
theorem dX3_eventOf_132 : decode cX3_eventOf 132 = .ok (.invokevirtual 240, 3) := dk_182 0 240 (dk_at dksX3_eventOf_5 13 rfl rfl)
theorem dX3_eventOf_135 : decode cX3_eventOf 135 = .ok (.goto 4, 3) := dk_167 0 4 (dk_at dksX3_eventOf_5 16 rfl rfl)
theorem dX3_eventOf_138 : decode cX3_eventOf 138 = .ok (.iconst (-1), 1) := dk_2 (dk_at dksX3_eventOf_5 19 rfl rfl)
theorem dX3_eventOf_139 : decode cX3_eventOf 139 = .ok (.ireturn, 1) := dk_172 (dk_at dksX3_eventOf_5 20 rfl rfl)
theorem dX3_eventOf_140 : decode cX3_eventOf 140 = .ok (.aload_n 0, 1) := dk_42 (dk_at dksX3_eventOf_5 21 rfl rfl)
theorem dX3_eventOf_141 : decode cX3_eventOf 141 = .ok (.iconst 2, 1) := dk_5 (dk_at dksX3_eventOf_5 22 rfl rfl)
theorem dX3_eventOf_142 : decode cX3_eventOf 142 = .ok (.invokevirtual 81, 3) := dk_182 0 81 (dk_at dksX3_eventOf_6 0 rfl rfl)
theorem dX3_eventOf_145 : decode cX3_eventOf 145 = .ok (.ireturn, 1) := dk_172 (dk_at dksX3_eventOf_6 3 rfl rfl)
abbrev cX3_isOne : ByteArray := prog_21_method_55_code
def yX3_isOne : MethodName := ⟨RX3, "isOne", "(III)Z"⟩
def dkwX3_isOne_1 : List UInt8 := [181, 0, 69, 42, 180, 0, 69, 154, 0, 7, 4, 167, 0, 4, 3, 172]
abbrev dktX3_isOne_1 : List UInt8 := dkwX3_isOne_1 ++ []
def dkwX3_isOne_0 : List UInt8 := [42, 42, 27, 182, 0, 118, 153, 0, 17, 42, 27, 28, 29, 182, 0, 135, 153, 0, 7, 3, 167, 0, 4, 4]
abbrev dktX3_isOne_0 : List UInt8 := dkwX3_isOne_0 ++ dktX3_isOne_1
theorem dksX3_isOne_0 : cX3_isOne.data.toList.drop 0 = dktX3_isOne_0 := by decide +kernel
theorem dksX3_isOne_1 : cX3_isOne.data.toList.drop 24 = dktX3_isOne_1 := dk_seg dksX3_isOne_0 24 rfl rfl
theorem dX3_isOne_0 : decode cX3_isOne 0 = .ok (.aload_n 0, 1) := dk_42 (dk_at dksX3_isOne_0 0 rfl rfl)
theorem dX3_isOne_1 : decode cX3_isOne 1 = .ok (.aload_n 0, 1) := dk_42 (dk_at dksX3_isOne_0 1 rfl rfl)
theorem dX3_isOne_2 : decode cX3_isOne 2 = .ok (.iload_n 1, 1) := dk_27 (dk_at dksX3_isOne_0 2 rfl rfl)
theorem dX3_isOne_3 : decode cX3_isOne 3 = .ok (.invokevirtual 118, 3) := dk_182 0 118 (dk_at dksX3_isOne_0 3 rfl rfl)
theorem dX3_isOne_6 : decode cX3_isOne 6 = .ok (.ifCond .eq 17, 3) := dk_153 0 17 (dk_at dksX3_isOne_0 6 rfl rfl)
theorem dX3_isOne_9 : decode cX3_isOne 9 = .ok (.aload_n 0, 1) := dk_42 (dk_at dksX3_isOne_0 9 rfl rfl)
theorem dX3_isOne_10 : decode cX3_isOne 10 = .ok (.iload_n 1, 1) := dk_27 (dk_at dksX3_isOne_0 10 rfl rfl)
theorem dX3_isOne_11 : decode cX3_isOne 11 = .ok (.iload_n 2, 1) := dk_28 (dk_at dksX3_isOne_0 11 rfl rfl)
theorem dX3_isOne_12 : decode cX3_isOne 12 = .ok (.iload_n 3, 1) := dk_29 (dk_at dksX3_isOne_0 12 rfl rfl)
theorem dX3_isOne_13 : decode cX3_isOne 13 = .ok (.invokevirtual 135, 3) := dk_182 0 135 (dk_at dksX3_isOne_0 13 rfl rfl)
theorem dX3_isOne_16 : decode cX3_isOne 16 = .ok (.ifCond .eq 7, 3) := dk_153 0 7 (dk_at dksX3_isOne_0 16 rfl rfl)
theorem dX3_isOne_19 : decode cX3_isOne 19 = .ok (.iconst 0, 1) := dk_3 (dk_at dksX3_isOne_0 19 rfl rfl)
theorem dX3_isOne_20 : decode cX3_isOne 20 = .ok (.goto 4, 3) := dk_167 0 4 (dk_at dksX3_isOne_0 20 rfl rfl)
theorem dX3_isOne_23 : decode cX3_isOne 23 = .ok (.iconst 1, 1) := dk_4 (dk_at dksX3_isOne_0 23 rfl rfl)
theorem dX3_isOne_24 : decode cX3_isOne 24 = .ok (.putfield 69, 3) := dk_181 0 69 (dk_at dksX3_isOne_1 0 rfl rfl)
theorem dX3_isOne_27 : decode cX3_isOne 27 = .ok (.aload_n 0, 1) := dk_42 (dk_at dksX3_isOne_1 3 rfl rfl)
theorem dX3_isOne_28 : decode cX3_isOne 28 = .ok (.getfield 69, 3) := dk_180 0 69 (dk_at dksX3_isOne_1 4 rfl rfl)
theorem dX3_isOne_31 : decode cX3_isOne 31 = .ok (.ifCond .ne 7, 3) := dk_154 0 7 (dk_at dksX3_isOne_1 7 rfl rfl)
theorem dX3_isOne_34 : decode cX3_isOne 34 = .ok (.iconst 1, 1) := dk_4 (dk_at dksX3_isOne_1 10 rfl rfl)
theorem dX3_isOne_35 : decode cX3_isOne 35 = .ok (.goto 4, 3) := dk_167 0 4 (dk_at dksX3_isOne_1 11 rfl rfl)
theorem dX3_isOne_38 : decode cX3_isOne 38 = .ok (.iconst 0, 1) := dk_3 (dk_at dksX3_isOne_1 14 rfl rfl)
theorem dX3_isOne_39 : decode cX3_isOne 39 = .ok (.ireturn, 1) := dk_172 (dk_at dksX3_isOne_1 15 rfl rfl)
abbrev cX3_cause : ByteArray := prog_21_method_49_code
def yX3_cause : MethodName := ⟨RX3, "cause", "(III)I"⟩
def dkwX3_cause_2 : List UInt8 := [42, 27, 28, 182, 0, 205, 160, 0, 7, 5, 167, 0, 4, 6, 172]
abbrev dktX3_cause_2 : List UInt8 := dkwX3_cause_2 ++ []
def dkwX3_cause_1 : List UInt8 := [160, 0, 5, 3, 172, 29, 153, 0, 14, 21, 4, 42, 27, 28, 182, 0, 202, 160, 0, 5, 4, 172, 21, 4]
abbrev dktX3_cause_1 : List UInt8 := dkwX3_cause_1 ++ dktX3_cause_2
def dkwX3_cause_0 : List UInt8 := [42, 180, 0, 44, 27, 28, 29, 184, 0, 170, 46, 54, 4, 21, 4, 42, 27, 28, 29, 182, 0, 122]
abbrev dktX3_cause_0 : List UInt8 := dkwX3_cause_0 ++ dktX3_cause_1
theorem dksX3_cause_0 : cX3_cause.data.toList.drop 0 = dktX3_cause_0 := by decide +kernel
theorem dksX3_cause_1 : cX3_cause.data.toList.drop 22 = dktX3_cause_1 := dk_seg dksX3_cause_0 22 rfl rfl
theorem dksX3_cause_2 : cX3_cause.data.toList.drop 46 = dktX3_cause_2 := dk_seg dksX3_cause_1 24 rfl rfl
theorem dX3_cause_0 : decode cX3_cause 0 = .ok (.aload_n 0, 1) := dk_42 (dk_at dksX3_cause_0 0 rfl rfl)
theorem dX3_cause_1 : decode cX3_cause 1 = .ok (.getfield 44, 3) := dk_180 0 44 (dk_at dksX3_cause_0 1 rfl rfl)
theorem dX3_cause_4 : decode cX3_cause 4 = .ok (.iload_n 1, 1) := dk_27 (dk_at dksX3_cause_0 4 rfl rfl)
theorem dX3_cause_5 : decode cX3_cause 5 = .ok (.iload_n 2, 1) := dk_28 (dk_at dksX3_cause_0 5 rfl rfl)
theorem dX3_cause_6 : decode cX3_cause 6 = .ok (.iload_n 3, 1) := dk_29 (dk_at dksX3_cause_0 6 rfl rfl)
theorem dX3_cause_7 : decode cX3_cause 7 = .ok (.invokestatic 170, 3) := dk_184 0 170 (dk_at dksX3_cause_0 7 rfl rfl)
theorem dX3_cause_10 : decode cX3_cause 10 = .ok (.iaload, 1) := dk_46 (dk_at dksX3_cause_0 10 rfl rfl)
theorem dX3_cause_11 : decode cX3_cause 11 = .ok (.istore 4, 2) := dk_54 4 (dk_at dksX3_cause_0 11 rfl rfl)
theorem dX3_cause_13 : decode cX3_cause 13 = .ok (.iload 4, 2) := dk_21 4 (dk_at dksX3_cause_0 13 rfl rfl)
theorem dX3_cause_15 : decode cX3_cause 15 = .ok (.aload_n 0, 1) := dk_42 (dk_at dksX3_cause_0 15 rfl rfl)
theorem dX3_cause_16 : decode cX3_cause 16 = .ok (.iload_n 1, 1) := dk_27 (dk_at dksX3_cause_0 16 rfl rfl)
theorem dX3_cause_17 : decode cX3_cause 17 = .ok (.iload_n 2, 1) := dk_28 (dk_at dksX3_cause_0 17 rfl rfl)
theorem dX3_cause_18 : decode cX3_cause 18 = .ok (.iload_n 3, 1) := dk_29 (dk_at dksX3_cause_0 18 rfl rfl)
theorem dX3_cause_19 : decode cX3_cause 19 = .ok (.invokevirtual 122, 3) := dk_182 0 122 (dk_at dksX3_cause_0 19 rfl rfl)
theorem dX3_cause_22 : decode cX3_cause 22 = .ok (.if_icmp .ne 5, 3) := dk_160 0 5 (dk_at dksX3_cause_1 0 rfl rfl)
theorem dX3_cause_25 : decode cX3_cause 25 = .ok (.iconst 0, 1) := dk_3 (dk_at dksX3_cause_1 3 rfl rfl)
theorem dX3_cause_26 : decode cX3_cause 26 = .ok (.ireturn, 1) := dk_172 (dk_at dksX3_cause_1 4 rfl rfl)
theorem dX3_cause_27 : decode cX3_cause 27 = .ok (.iload_n 3, 1) := dk_29 (dk_at dksX3_cause_1 5 rfl rfl)
theorem dX3_cause_28 : decode cX3_cause 28 = .ok (.ifCond .eq 14, 3) := dk_153 0 14 (dk_at dksX3_cause_1 6 rfl rfl)
theorem dX3_cause_31 : decode cX3_cause 31 = .ok (.iload 4, 2) := dk_21 4 (dk_at dksX3_cause_1 9 rfl rfl)
theorem dX3_cause_33 : decode cX3_cause 33 = .ok (.aload_n 0, 1) := dk_42 (dk_at dksX3_cause_1 11 rfl rfl)
theorem dX3_cause_34 : decode cX3_cause 34 = .ok (.iload_n 1, 1) := dk_27 (dk_at dksX3_cause_1 12 rfl rfl)
theorem dX3_cause_35 : decode cX3_cause 35 = .ok (.iload_n 2, 1) := dk_28 (dk_at dksX3_cause_1 13 rfl rfl)
theorem dX3_cause_36 : decode cX3_cause 36 = .ok (.invokevirtual 202, 3) := dk_182 0 202 (dk_at dksX3_cause_1 14 rfl rfl)
theorem dX3_cause_39 : decode cX3_cause 39 = .ok (.if_icmp .ne 5, 3) := dk_160 0 5 (dk_at dksX3_cause_1 17 rfl rfl)
theorem dX3_cause_42 : decode cX3_cause 42 = .ok (.iconst 1, 1) := dk_4 (dk_at dksX3_cause_1 20 rfl rfl)
theorem dX3_cause_43 : decode cX3_cause 43 = .ok (.ireturn, 1) := dk_172 (dk_at dksX3_cause_1 21 rfl rfl)
theorem dX3_cause_44 : decode cX3_cause 44 = .ok (.iload 4, 2) := dk_21 4 (dk_at dksX3_cause_1 22 rfl rfl)
theorem dX3_cause_46 : decode cX3_cause 46 = .ok (.aload_n 0, 1) := dk_42 (dk_at dksX3_cause_2 0 rfl rfl)
theorem dX3_cause_47 : decode cX3_cause 47 = .ok (.iload_n 1, 1) := dk_27 (dk_at dksX3_cause_2 1 rfl rfl)
theorem dX3_cause_48 : decode cX3_cause 48 = .ok (.iload_n 2, 1) := dk_28 (dk_at dksX3_cause_2 2 rfl rfl)
theorem dX3_cause_49 : decode cX3_cause 49 = .ok (.invokevirtual 205, 3) := dk_182 0 205 (dk_at dksX3_cause_2 3 rfl rfl)
theorem dX3_cause_52 : decode cX3_cause 52 = .ok (.if_icmp .ne 7, 3) := dk_160 0 7 (dk_at dksX3_cause_2 6 rfl rfl)
theorem dX3_cause_55 : decode cX3_cause 55 = .ok (.iconst 2, 1) := dk_5 (dk_at dksX3_cause_2 9 rfl rfl)
theorem dX3_cause_56 : decode cX3_cause 56 = .ok (.goto 4, 3) := dk_167 0 4 (dk_at dksX3_cause_2 10 rfl rfl)
theorem dX3_cause_59 : decode cX3_cause 59 = .ok (.iconst 3, 1) := dk_6 (dk_at dksX3_cause_2 13 rfl rfl)
theorem dX3_cause_60 : decode cX3_cause 60 = .ok (.ireturn, 1) := dk_172 (dk_at dksX3_cause_2 14 rfl rfl)
abbrev cX3_causeLink : ByteArray := prog_21_method_48_code
def yX3_causeLink : MethodName := ⟨RX3, "causeLink", "(II)I"⟩
def dkwX3_causeLink_2 : List UInt8 := [160, 0, 5, 29, 172, 132, 3, 1, 167, 255, 204, 2, 172]
abbrev dktX3_causeLink_2 : List UInt8 := dkwX3_causeLink_2 ++ []
def dkwX3_causeLink_1 : List UInt8 := [182, 0, 220, 153, 0, 24, 42, 29, 182, 0, 208, 42, 180, 0, 44, 27, 28, 4, 184, 0, 170, 46]
abbrev dktX3_causeLink_1 : List UInt8 := dkwX3_causeLink_1 ++ dktX3_causeLink_2
def dkwX3_causeLink_0 : List UInt8 := [3, 62, 29, 42, 180, 0, 9, 4, 46, 162, 0, 48, 42, 29, 27, 28, 182, 0, 217, 153, 0, 32, 42, 29]
abbrev dktX3_causeLink_0 : List UInt8 := dkwX3_causeLink_0 ++ dktX3_causeLink_1
theorem dksX3_causeLink_0 : cX3_causeLink.data.toList.drop 0 = dktX3_causeLink_0 := by decide +kernel
theorem dksX3_causeLink_1 : cX3_causeLink.data.toList.drop 24 = dktX3_causeLink_1 := dk_seg dksX3_causeLink_0 24 rfl rfl
theorem dksX3_causeLink_2 : cX3_causeLink.data.toList.drop 46 = dktX3_causeLink_2 := dk_seg dksX3_causeLink_1 22 rfl rfl
theorem dX3_causeLink_0 : decode cX3_causeLink 0 = .ok (.iconst 0, 1) := dk_3 (dk_at dksX3_causeLink_0 0 rfl rfl)
theorem dX3_causeLink_1 : decode cX3_causeLink 1 = .ok (.istore_n 3, 1) := dk_62 (dk_at dksX3_causeLink_0 1 rfl rfl)
theorem dX3_causeLink_2 : decode cX3_causeLink 2 = .ok (.iload_n 3, 1) := dk_29 (dk_at dksX3_causeLink_0 2 rfl rfl)
theorem dX3_causeLink_3 : decode cX3_causeLink 3 = .ok (.aload_n 0, 1) := dk_42 (dk_at dksX3_causeLink_0 3 rfl rfl)
theorem dX3_causeLink_4 : decode cX3_causeLink 4 = .ok (.getfield 9, 3) := dk_180 0 9 (dk_at dksX3_causeLink_0 4 rfl rfl)
theorem dX3_causeLink_7 : decode cX3_causeLink 7 = .ok (.iconst 1, 1) := dk_4 (dk_at dksX3_causeLink_0 7 rfl rfl)
theorem dX3_causeLink_8 : decode cX3_causeLink 8 = .ok (.iaload, 1) := dk_46 (dk_at dksX3_causeLink_0 8 rfl rfl)
theorem dX3_causeLink_9 : decode cX3_causeLink 9 = .ok (.if_icmp .ge 48, 3) := dk_162 0 48 (dk_at dksX3_causeLink_0 9 rfl rfl)
theorem dX3_causeLink_12 : decode cX3_causeLink 12 = .ok (.aload_n 0, 1) := dk_42 (dk_at dksX3_causeLink_0 12 rfl rfl)
theorem dX3_causeLink_13 : decode cX3_causeLink 13 = .ok (.iload_n 3, 1) := dk_29 (dk_at dksX3_causeLink_0 13 rfl rfl)
theorem dX3_causeLink_14 : decode cX3_causeLink 14 = .ok (.iload_n 1, 1) := dk_27 (dk_at dksX3_causeLink_0 14 rfl rfl)
theorem dX3_causeLink_15 : decode cX3_causeLink 15 = .ok (.iload_n 2, 1) := dk_28 (dk_at dksX3_causeLink_0 15 rfl rfl)
theorem dX3_causeLink_16 : decode cX3_causeLink 16 = .ok (.invokevirtual 217, 3) := dk_182 0 217 (dk_at dksX3_causeLink_0 16 rfl rfl)
theorem dX3_causeLink_19 : decode cX3_causeLink 19 = .ok (.ifCond .eq 32, 3) := dk_153 0 32 (dk_at dksX3_causeLink_0 19 rfl rfl)
theorem dX3_causeLink_22 : decode cX3_causeLink 22 = .ok (.aload_n 0, 1) := dk_42 (dk_at dksX3_causeLink_0 22 rfl rfl)
theorem dX3_causeLink_23 : decode cX3_causeLink 23 = .ok (.iload_n 3, 1) := dk_29 (dk_at dksX3_causeLink_0 23 rfl rfl)
theorem dX3_causeLink_24 : decode cX3_causeLink 24 = .ok (.invokevirtual 220, 3) := dk_182 0 220 (dk_at dksX3_causeLink_1 0 rfl rfl)
theorem dX3_causeLink_27 : decode cX3_causeLink 27 = .ok (.ifCond .eq 24, 3) := dk_153 0 24 (dk_at dksX3_causeLink_1 3 rfl rfl)
theorem dX3_causeLink_30 : decode cX3_causeLink 30 = .ok (.aload_n 0, 1) := dk_42 (dk_at dksX3_causeLink_1 6 rfl rfl)
theorem dX3_causeLink_31 : decode cX3_causeLink 31 = .ok (.iload_n 3, 1) := dk_29 (dk_at dksX3_causeLink_1 7 rfl rfl)
theorem dX3_causeLink_32 : decode cX3_causeLink 32 = .ok (.invokevirtual 208, 3) := dk_182 0 208 (dk_at dksX3_causeLink_1 8 rfl rfl)
theorem dX3_causeLink_35 : decode cX3_causeLink 35 = .ok (.aload_n 0, 1) := dk_42 (dk_at dksX3_causeLink_1 11 rfl rfl)
theorem dX3_causeLink_36 : decode cX3_causeLink 36 = .ok (.getfield 44, 3) := dk_180 0 44 (dk_at dksX3_causeLink_1 12 rfl rfl)
theorem dX3_causeLink_39 : decode cX3_causeLink 39 = .ok (.iload_n 1, 1) := dk_27 (dk_at dksX3_causeLink_1 15 rfl rfl)
theorem dX3_causeLink_40 : decode cX3_causeLink 40 = .ok (.iload_n 2, 1) := dk_28 (dk_at dksX3_causeLink_1 16 rfl rfl)
theorem dX3_causeLink_41 : decode cX3_causeLink 41 = .ok (.iconst 1, 1) := dk_4 (dk_at dksX3_causeLink_1 17 rfl rfl)
theorem dX3_causeLink_42 : decode cX3_causeLink 42 = .ok (.invokestatic 170, 3) := dk_184 0 170 (dk_at dksX3_causeLink_1 18 rfl rfl)
theorem dX3_causeLink_45 : decode cX3_causeLink 45 = .ok (.iaload, 1) := dk_46 (dk_at dksX3_causeLink_1 21 rfl rfl)
theorem dX3_causeLink_46 : decode cX3_causeLink 46 = .ok (.if_icmp .ne 5, 3) := dk_160 0 5 (dk_at dksX3_causeLink_2 0 rfl rfl)
theorem dX3_causeLink_49 : decode cX3_causeLink 49 = .ok (.iload_n 3, 1) := dk_29 (dk_at dksX3_causeLink_2 3 rfl rfl)
theorem dX3_causeLink_50 : decode cX3_causeLink 50 = .ok (.ireturn, 1) := dk_172 (dk_at dksX3_causeLink_2 4 rfl rfl)
theorem dX3_causeLink_51 : decode cX3_causeLink 51 = .ok (.iinc 3 1, 3) := dk_132 3 1 (dk_at dksX3_causeLink_2 5 rfl rfl)
theorem dX3_causeLink_54 : decode cX3_causeLink 54 = .ok (.goto (-52), 3) := dk_167 255 204 (dk_at dksX3_causeLink_2 8 rfl rfl)
theorem dX3_causeLink_57 : decode cX3_causeLink 57 = .ok (.iconst (-1), 1) := dk_2 (dk_at dksX3_causeLink_2 11 rfl rfl)
theorem dX3_causeLink_58 : decode cX3_causeLink 58 = .ok (.ireturn, 1) := dk_172 (dk_at dksX3_causeLink_2 12 rfl rfl)
abbrev cX3_minute : ByteArray := prog_21_method_57_code
def yX3_minute : MethodName := ⟨RX3, "minute", "(IIZ)I"⟩
def dkwX3_minute_1 : List UInt8 := [42, 2, 2, 182, 0, 159, 42, 27, 28, 21, 4, 182, 0, 173, 172]
abbrev dktX3_minute_1 : List UInt8 := dkwX3_minute_1 ++ []
def dkwX3_minute_0 : List UInt8 := [29, 153, 0, 7, 3, 167, 0, 4, 4, 54, 4, 42, 27, 28, 21, 4, 182, 0, 234, 154, 0, 5, 2, 172]
abbrev dktX3_minute_0 : List UInt8 := dkwX3_minute_0 ++ dktX3_minute_1
theorem dksX3_minute_0 : cX3_minute.data.toList.drop 0 = dktX3_minute_0 := by decide +kernel
theorem dksX3_minute_1 : cX3_minute.data.toList.drop 24 = dktX3_minute_1 := dk_seg dksX3_minute_0 24 rfl rfl
theorem dX3_minute_0 : decode cX3_minute 0 = .ok (.iload_n 3, 1) := dk_29 (dk_at dksX3_minute_0 0 rfl rfl)
theorem dX3_minute_1 : decode cX3_minute 1 = .ok (.ifCond .eq 7, 3) := dk_153 0 7 (dk_at dksX3_minute_0 1 rfl rfl)
theorem dX3_minute_4 : decode cX3_minute 4 = .ok (.iconst 0, 1) := dk_3 (dk_at dksX3_minute_0 4 rfl rfl)
theorem dX3_minute_5 : decode cX3_minute 5 = .ok (.goto 4, 3) := dk_167 0 4 (dk_at dksX3_minute_0 5 rfl rfl)
theorem dX3_minute_8 : decode cX3_minute 8 = .ok (.iconst 1, 1) := dk_4 (dk_at dksX3_minute_0 8 rfl rfl)
theorem dX3_minute_9 : decode cX3_minute 9 = .ok (.istore 4, 2) := dk_54 4 (dk_at dksX3_minute_0 9 rfl rfl)
theorem dX3_minute_11 : decode cX3_minute 11 = .ok (.aload_n 0, 1) := dk_42 (dk_at dksX3_minute_0 11 rfl rfl)
theorem dX3_minute_12 : decode cX3_minute 12 = .ok (.iload_n 1, 1) := dk_27 (dk_at dksX3_minute_0 12 rfl rfl)
theorem dX3_minute_13 : decode cX3_minute 13 = .ok (.iload_n 2, 1) := dk_28 (dk_at dksX3_minute_0 13 rfl rfl)
theorem dX3_minute_14 : decode cX3_minute 14 = .ok (.iload 4, 2) := dk_21 4 (dk_at dksX3_minute_0 14 rfl rfl)
theorem dX3_minute_16 : decode cX3_minute 16 = .ok (.invokevirtual 234, 3) := dk_182 0 234 (dk_at dksX3_minute_0 16 rfl rfl)
theorem dX3_minute_19 : decode cX3_minute 19 = .ok (.ifCond .ne 5, 3) := dk_154 0 5 (dk_at dksX3_minute_0 19 rfl rfl)
theorem dX3_minute_22 : decode cX3_minute 22 = .ok (.iconst (-1), 1) := dk_2 (dk_at dksX3_minute_0 22 rfl rfl)
theorem dX3_minute_23 : decode cX3_minute 23 = .ok (.ireturn, 1) := dk_172 (dk_at dksX3_minute_0 23 rfl rfl)
theorem dX3_minute_24 : decode cX3_minute 24 = .ok (.aload_n 0, 1) := dk_42 (dk_at dksX3_minute_1 0 rfl rfl)
theorem dX3_minute_25 : decode cX3_minute 25 = .ok (.iconst (-1), 1) := dk_2 (dk_at dksX3_minute_1 1 rfl rfl)
theorem dX3_minute_26 : decode cX3_minute 26 = .ok (.iconst (-1), 1) := dk_2 (dk_at dksX3_minute_1 2 rfl rfl)
theorem dX3_minute_27 : decode cX3_minute 27 = .ok (.invokevirtual 159, 3) := dk_182 0 159 (dk_at dksX3_minute_1 3 rfl rfl)
theorem dX3_minute_30 : decode cX3_minute 30 = .ok (.aload_n 0, 1) := dk_42 (dk_at dksX3_minute_1 6 rfl rfl)
theorem dX3_minute_31 : decode cX3_minute 31 = .ok (.iload_n 1, 1) := dk_27 (dk_at dksX3_minute_1 7 rfl rfl)
theorem dX3_minute_32 : decode cX3_minute 32 = .ok (.iload_n 2, 1) := dk_28 (dk_at dksX3_minute_1 8 rfl rfl)
theorem dX3_minute_33 : decode cX3_minute 33 = .ok (.iload 4, 2) := dk_21 4 (dk_at dksX3_minute_1 9 rfl rfl)
theorem dX3_minute_35 : decode cX3_minute 35 = .ok (.invokevirtual 173, 3) := dk_182 0 173 (dk_at dksX3_minute_1 11 rfl rfl)
theorem dX3_minute_38 : decode cX3_minute 38 = .ok (.ireturn, 1) := dk_172 (dk_at dksX3_minute_1 14 rfl rfl)
abbrev cX3_minuteAgain : ByteArray := prog_21_method_58_code
def yX3_minuteAgain : MethodName := ⟨RX3, "minuteAgain", "(IIZ)I"⟩
def dkwX3_minuteAgain_0 : List UInt8 := [42, 27, 28, 29, 182, 0, 243, 172]
abbrev dktX3_minuteAgain_0 : List UInt8 := dkwX3_minuteAgain_0 ++ []
theorem dksX3_minuteAgain_0 : cX3_minuteAgain.data.toList.drop 0 = dktX3_minuteAgain_0 := by decide +kernel
theorem dX3_minuteAgain_0 : decode cX3_minuteAgain 0 = .ok (.aload_n 0, 1) := dk_42 (dk_at dksX3_minuteAgain_0 0 rfl rfl)
theorem dX3_minuteAgain_1 : decode cX3_minuteAgain 1 = .ok (.iload_n 1, 1) := dk_27 (dk_at dksX3_minuteAgain_0 1 rfl rfl)
theorem dX3_minuteAgain_2 : decode cX3_minuteAgain 2 = .ok (.iload_n 2, 1) := dk_28 (dk_at dksX3_minuteAgain_0 2 rfl rfl)
theorem dX3_minuteAgain_3 : decode cX3_minuteAgain 3 = .ok (.iload_n 3, 1) := dk_29 (dk_at dksX3_minuteAgain_0 3 rfl rfl)
theorem dX3_minuteAgain_4 : decode cX3_minuteAgain 4 = .ok (.invokevirtual 243, 3) := dk_182 0 243 (dk_at dksX3_minuteAgain_0 4 rfl rfl)
theorem dX3_minuteAgain_7 : decode cX3_minuteAgain 7 = .ok (.ireturn, 1) := dk_172 (dk_at dksX3_minuteAgain_0 7 rfl rfl)
abbrev cX3_linkOf : ByteArray := prog_21_method_60_code
def yX3_linkOf : MethodName := ⟨RX3, "linkOf", "(II)I"⟩
def dkwX3_linkOf_4 : List UInt8 := [3, 172, 42, 27, 182, 0, 247, 172, 42, 27, 182, 0, 250, 172, 42, 5, 182, 0, 81, 172]
abbrev dktX3_linkOf_4 : List UInt8 := dkwX3_linkOf_4 ++ []
def dkwX3_linkOf_3 : List UInt8 := [42, 180, 0, 9, 27, 184, 0, 141, 28, 96, 46, 172, 42, 27, 182, 0, 220, 153, 0, 7, 4, 167, 0, 4]
abbrev dktX3_linkOf_3 : List UInt8 := dkwX3_linkOf_3 ++ dktX3_linkOf_4
def dkwX3_linkOf_2 : List UInt8 := [170, 0, 0, 0, 0, 88, 0, 0, 0, 0, 0, 0, 0, 8, 0, 0, 0, 50, 0, 0, 0, 50, 0, 0, 0, 50, 0, 0, 0, 50, 0, 0, 0, 50, 0, 0, 0, 50, 0, 0, 0, 62, 0, 0, 0, 76, 0, 0, 0, 82]
abbrev dktX3_linkOf_2 : List UInt8 := dkwX3_linkOf_2 ++ dktX3_linkOf_3
def dkwX3_linkOf_1 : List UInt8 := [182, 0, 159, 28]
abbrev dktX3_linkOf_1 : List UInt8 := dkwX3_linkOf_1 ++ dktX3_linkOf_2
def dkwX3_linkOf_0 : List UInt8 := [42, 3, 181, 0, 69, 42, 27, 182, 0, 148, 154, 0, 9, 42, 4, 182, 0, 81, 172, 42, 2, 2]
abbrev dktX3_linkOf_0 : List UInt8 := dkwX3_linkOf_0 ++ dktX3_linkOf_1
theorem dksX3_linkOf_0 : cX3_linkOf.data.toList.drop 0 = dktX3_linkOf_0 := by decide +kernel
theorem dksX3_linkOf_1 : cX3_linkOf.data.toList.drop 22 = dktX3_linkOf_1 := dk_seg dksX3_linkOf_0 22 rfl rfl
theorem dksX3_linkOf_2 : cX3_linkOf.data.toList.drop 26 = dktX3_linkOf_2 := dk_seg dksX3_linkOf_1 4 rfl rfl
theorem dksX3_linkOf_3 : cX3_linkOf.data.toList.drop 76 = dktX3_linkOf_3 := dk_seg dksX3_linkOf_2 50 rfl rfl
theorem dksX3_linkOf_4 : cX3_linkOf.data.toList.drop 100 = dktX3_linkOf_4 := dk_seg dksX3_linkOf_3 24 rfl rfl
theorem dX3_linkOf_0 : decode cX3_linkOf 0 = .ok (.aload_n 0, 1) := dk_42 (dk_at dksX3_linkOf_0 0 rfl rfl)
theorem dX3_linkOf_1 : decode cX3_linkOf 1 = .ok (.iconst 0, 1) := dk_3 (dk_at dksX3_linkOf_0 1 rfl rfl)
theorem dX3_linkOf_2 : decode cX3_linkOf 2 = .ok (.putfield 69, 3) := dk_181 0 69 (dk_at dksX3_linkOf_0 2 rfl rfl)
theorem dX3_linkOf_5 : decode cX3_linkOf 5 = .ok (.aload_n 0, 1) := dk_42 (dk_at dksX3_linkOf_0 5 rfl rfl)
theorem dX3_linkOf_6 : decode cX3_linkOf 6 = .ok (.iload_n 1, 1) := dk_27 (dk_at dksX3_linkOf_0 6 rfl rfl)
theorem dX3_linkOf_7 : decode cX3_linkOf 7 = .ok (.invokevirtual 148, 3) := dk_182 0 148 (dk_at dksX3_linkOf_0 7 rfl rfl)
theorem dX3_linkOf_10 : decode cX3_linkOf 10 = .ok (.ifCond .ne 9, 3) := dk_154 0 9 (dk_at dksX3_linkOf_0 10 rfl rfl)
theorem dX3_linkOf_13 : decode cX3_linkOf 13 = .ok (.aload_n 0, 1) := dk_42 (dk_at dksX3_linkOf_0 13 rfl rfl)
theorem dX3_linkOf_14 : decode cX3_linkOf 14 = .ok (.iconst 1, 1) := dk_4 (dk_at dksX3_linkOf_0 14 rfl rfl)
theorem dX3_linkOf_15 : decode cX3_linkOf 15 = .ok (.invokevirtual 81, 3) := dk_182 0 81 (dk_at dksX3_linkOf_0 15 rfl rfl)
theorem dX3_linkOf_18 : decode cX3_linkOf 18 = .ok (.ireturn, 1) := dk_172 (dk_at dksX3_linkOf_0 18 rfl rfl)
theorem dX3_linkOf_19 : decode cX3_linkOf 19 = .ok (.aload_n 0, 1) := dk_42 (dk_at dksX3_linkOf_0 19 rfl rfl)
theorem dX3_linkOf_20 : decode cX3_linkOf 20 = .ok (.iconst (-1), 1) := dk_2 (dk_at dksX3_linkOf_0 20 rfl rfl)
theorem dX3_linkOf_21 : decode cX3_linkOf 21 = .ok (.iconst (-1), 1) := dk_2 (dk_at dksX3_linkOf_0 21 rfl rfl)
theorem dX3_linkOf_22 : decode cX3_linkOf 22 = .ok (.invokevirtual 159, 3) := dk_182 0 159 (dk_at dksX3_linkOf_1 0 rfl rfl)
theorem dX3_linkOf_25 : decode cX3_linkOf 25 = .ok (.iload_n 2, 1) := dk_28 (dk_at dksX3_linkOf_1 3 rfl rfl)
theorem dX3_linkOf_26 : decode cX3_linkOf 26 = .ok (.tableswitch 88 0 8 #[50, 50, 50, 50, 50, 50, 62, 76, 82], 50) := by decide +kernel
theorem dX3_linkOf_76 : decode cX3_linkOf 76 = .ok (.aload_n 0, 1) := dk_42 (dk_at dksX3_linkOf_3 0 rfl rfl)
theorem dX3_linkOf_77 : decode cX3_linkOf 77 = .ok (.getfield 9, 3) := dk_180 0 9 (dk_at dksX3_linkOf_3 1 rfl rfl)
theorem dX3_linkOf_80 : decode cX3_linkOf 80 = .ok (.iload_n 1, 1) := dk_27 (dk_at dksX3_linkOf_3 4 rfl rfl)
theorem dX3_linkOf_81 : decode cX3_linkOf 81 = .ok (.invokestatic 141, 3) := dk_184 0 141 (dk_at dksX3_linkOf_3 5 rfl rfl)
theorem dX3_linkOf_84 : decode cX3_linkOf 84 = .ok (.iload_n 2, 1) := dk_28 (dk_at dksX3_linkOf_3 8 rfl rfl)
theorem dX3_linkOf_85 : decode cX3_linkOf 85 = .ok (.iadd, 1) := dk_96 (dk_at dksX3_linkOf_3 9 rfl rfl)
theorem dX3_linkOf_86 : decode cX3_linkOf 86 = .ok (.iaload, 1) := dk_46 (dk_at dksX3_linkOf_3 10 rfl rfl)
theorem dX3_linkOf_87 : decode cX3_linkOf 87 = .ok (.ireturn, 1) := dk_172 (dk_at dksX3_linkOf_3 11 rfl rfl)
theorem dX3_linkOf_88 : decode cX3_linkOf 88 = .ok (.aload_n 0, 1) := dk_42 (dk_at dksX3_linkOf_3 12 rfl rfl)
theorem dX3_linkOf_89 : decode cX3_linkOf 89 = .ok (.iload_n 1, 1) := dk_27 (dk_at dksX3_linkOf_3 13 rfl rfl)
theorem dX3_linkOf_90 : decode cX3_linkOf 90 = .ok (.invokevirtual 220, 3) := dk_182 0 220 (dk_at dksX3_linkOf_3 14 rfl rfl)
theorem dX3_linkOf_93 : decode cX3_linkOf 93 = .ok (.ifCond .eq 7, 3) := dk_153 0 7 (dk_at dksX3_linkOf_3 17 rfl rfl)
theorem dX3_linkOf_96 : decode cX3_linkOf 96 = .ok (.iconst 1, 1) := dk_4 (dk_at dksX3_linkOf_3 20 rfl rfl)
theorem dX3_linkOf_97 : decode cX3_linkOf 97 = .ok (.goto 4, 3) := dk_167 0 4 (dk_at dksX3_linkOf_3 21 rfl rfl)
theorem dX3_linkOf_100 : decode cX3_linkOf 100 = .ok (.iconst 0, 1) := dk_3 (dk_at dksX3_linkOf_4 0 rfl rfl)
theorem dX3_linkOf_101 : decode cX3_linkOf 101 = .ok (.ireturn, 1) := dk_172 (dk_at dksX3_linkOf_4 1 rfl rfl)
theorem dX3_linkOf_102 : decode cX3_linkOf 102 = .ok (.aload_n 0, 1) := dk_42 (dk_at dksX3_linkOf_4 2 rfl rfl)
theorem dX3_linkOf_103 : decode cX3_linkOf 103 = .ok (.iload_n 1, 1) := dk_27 (dk_at dksX3_linkOf_4 3 rfl rfl)
theorem dX3_linkOf_104 : decode cX3_linkOf 104 = .ok (.invokevirtual 247, 3) := dk_182 0 247 (dk_at dksX3_linkOf_4 4 rfl rfl)
theorem dX3_linkOf_107 : decode cX3_linkOf 107 = .ok (.ireturn, 1) := dk_172 (dk_at dksX3_linkOf_4 7 rfl rfl)
theorem dX3_linkOf_108 : decode cX3_linkOf 108 = .ok (.aload_n 0, 1) := dk_42 (dk_at dksX3_linkOf_4 8 rfl rfl)
theorem dX3_linkOf_109 : decode cX3_linkOf 109 = .ok (.iload_n 1, 1) := dk_27 (dk_at dksX3_linkOf_4 9 rfl rfl)
theorem dX3_linkOf_110 : decode cX3_linkOf 110 = .ok (.invokevirtual 250, 3) := dk_182 0 250 (dk_at dksX3_linkOf_4 10 rfl rfl)
theorem dX3_linkOf_113 : decode cX3_linkOf 113 = .ok (.ireturn, 1) := dk_172 (dk_at dksX3_linkOf_4 13 rfl rfl)
theorem dX3_linkOf_114 : decode cX3_linkOf 114 = .ok (.aload_n 0, 1) := dk_42 (dk_at dksX3_linkOf_4 14 rfl rfl)
theorem dX3_linkOf_115 : decode cX3_linkOf 115 = .ok (.iconst 2, 1) := dk_5 (dk_at dksX3_linkOf_4 15 rfl rfl)
theorem dX3_linkOf_116 : decode cX3_linkOf 116 = .ok (.invokevirtual 81, 3) := dk_182 0 81 (dk_at dksX3_linkOf_4 16 rfl rfl)
theorem dX3_linkOf_119 : decode cX3_linkOf 119 = .ok (.ireturn, 1) := dk_172 (dk_at dksX3_linkOf_4 19 rfl rfl)
abbrev cX3_waitsOf : ByteArray := prog_21_method_47_code
def yX3_waitsOf : MethodName := ⟨RX3, "waitsOf", "(I)I"⟩
def dkwX3_waitsOf_2 : List UInt8 := [167, 0, 4, 3, 172]
abbrev dktX3_waitsOf_2 : List UInt8 := dkwX3_waitsOf_2 ++ []
def dkwX3_waitsOf_1 : List UInt8 := [42, 27, 182, 0, 220, 153, 0, 21, 42, 28, 29, 2, 182, 0, 188, 42, 28, 29, 27, 182, 0, 188, 100]
abbrev dktX3_waitsOf_1 : List UInt8 := dkwX3_waitsOf_1 ++ dktX3_waitsOf_2
def dkwX3_waitsOf_0 : List UInt8 := [42, 180, 0, 9, 27, 184, 0, 141, 5, 96, 46, 61, 42, 180, 0, 9, 27, 184, 0, 141, 6, 96, 46, 62]
abbrev dktX3_waitsOf_0 : List UInt8 := dkwX3_waitsOf_0 ++ dktX3_waitsOf_1
theorem dksX3_waitsOf_0 : cX3_waitsOf.data.toList.drop 0 = dktX3_waitsOf_0 := by decide +kernel
theorem dksX3_waitsOf_1 : cX3_waitsOf.data.toList.drop 24 = dktX3_waitsOf_1 := dk_seg dksX3_waitsOf_0 24 rfl rfl
theorem dksX3_waitsOf_2 : cX3_waitsOf.data.toList.drop 47 = dktX3_waitsOf_2 := dk_seg dksX3_waitsOf_1 23 rfl rfl
theorem dX3_waitsOf_0 : decode cX3_waitsOf 0 = .ok (.aload_n 0, 1) := dk_42 (dk_at dksX3_waitsOf_0 0 rfl rfl)
theorem dX3_waitsOf_1 : decode cX3_waitsOf 1 = .ok (.getfield 9, 3) := dk_180 0 9 (dk_at dksX3_waitsOf_0 1 rfl rfl)
theorem dX3_waitsOf_4 : decode cX3_waitsOf 4 = .ok (.iload_n 1, 1) := dk_27 (dk_at dksX3_waitsOf_0 4 rfl rfl)
theorem dX3_waitsOf_5 : decode cX3_waitsOf 5 = .ok (.invokestatic 141, 3) := dk_184 0 141 (dk_at dksX3_waitsOf_0 5 rfl rfl)
theorem dX3_waitsOf_8 : decode cX3_waitsOf 8 = .ok (.iconst 2, 1) := dk_5 (dk_at dksX3_waitsOf_0 8 rfl rfl)
theorem dX3_waitsOf_9 : decode cX3_waitsOf 9 = .ok (.iadd, 1) := dk_96 (dk_at dksX3_waitsOf_0 9 rfl rfl)
theorem dX3_waitsOf_10 : decode cX3_waitsOf 10 = .ok (.iaload, 1) := dk_46 (dk_at dksX3_waitsOf_0 10 rfl rfl)
theorem dX3_waitsOf_11 : decode cX3_waitsOf 11 = .ok (.istore_n 2, 1) := dk_61 (dk_at dksX3_waitsOf_0 11 rfl rfl)
theorem dX3_waitsOf_12 : decode cX3_waitsOf 12 = .ok (.aload_n 0, 1) := dk_42 (dk_at dksX3_waitsOf_0 12 rfl rfl)
theorem dX3_waitsOf_13 : decode cX3_waitsOf 13 = .ok (.getfield 9, 3) := dk_180 0 9 (dk_at dksX3_waitsOf_0 13 rfl rfl)
theorem dX3_waitsOf_16 : decode cX3_waitsOf 16 = .ok (.iload_n 1, 1) := dk_27 (dk_at dksX3_waitsOf_0 16 rfl rfl)
theorem dX3_waitsOf_17 : decode cX3_waitsOf 17 = .ok (.invokestatic 141, 3) := dk_184 0 141 (dk_at dksX3_waitsOf_0 17 rfl rfl)
theorem dX3_waitsOf_20 : decode cX3_waitsOf 20 = .ok (.iconst 3, 1) := dk_6 (dk_at dksX3_waitsOf_0 20 rfl rfl)
theorem dX3_waitsOf_21 : decode cX3_waitsOf 21 = .ok (.iadd, 1) := dk_96 (dk_at dksX3_waitsOf_0 21 rfl rfl)
theorem dX3_waitsOf_22 : decode cX3_waitsOf 22 = .ok (.iaload, 1) := dk_46 (dk_at dksX3_waitsOf_0 22 rfl rfl)
theorem dX3_waitsOf_23 : decode cX3_waitsOf 23 = .ok (.istore_n 3, 1) := dk_62 (dk_at dksX3_waitsOf_0 23 rfl rfl)
theorem dX3_waitsOf_24 : decode cX3_waitsOf 24 = .ok (.aload_n 0, 1) := dk_42 (dk_at dksX3_waitsOf_1 0 rfl rfl)
theorem dX3_waitsOf_25 : decode cX3_waitsOf 25 = .ok (.iload_n 1, 1) := dk_27 (dk_at dksX3_waitsOf_1 1 rfl rfl)
theorem dX3_waitsOf_26 : decode cX3_waitsOf 26 = .ok (.invokevirtual 220, 3) := dk_182 0 220 (dk_at dksX3_waitsOf_1 2 rfl rfl)
theorem dX3_waitsOf_29 : decode cX3_waitsOf 29 = .ok (.ifCond .eq 21, 3) := dk_153 0 21 (dk_at dksX3_waitsOf_1 5 rfl rfl)
theorem dX3_waitsOf_32 : decode cX3_waitsOf 32 = .ok (.aload_n 0, 1) := dk_42 (dk_at dksX3_waitsOf_1 8 rfl rfl)
theorem dX3_waitsOf_33 : decode cX3_waitsOf 33 = .ok (.iload_n 2, 1) := dk_28 (dk_at dksX3_waitsOf_1 9 rfl rfl)
theorem dX3_waitsOf_34 : decode cX3_waitsOf 34 = .ok (.iload_n 3, 1) := dk_29 (dk_at dksX3_waitsOf_1 10 rfl rfl)
theorem dX3_waitsOf_35 : decode cX3_waitsOf 35 = .ok (.iconst (-1), 1) := dk_2 (dk_at dksX3_waitsOf_1 11 rfl rfl)
theorem dX3_waitsOf_36 : decode cX3_waitsOf 36 = .ok (.invokevirtual 188, 3) := dk_182 0 188 (dk_at dksX3_waitsOf_1 12 rfl rfl)
theorem dX3_waitsOf_39 : decode cX3_waitsOf 39 = .ok (.aload_n 0, 1) := dk_42 (dk_at dksX3_waitsOf_1 15 rfl rfl)
theorem dX3_waitsOf_40 : decode cX3_waitsOf 40 = .ok (.iload_n 2, 1) := dk_28 (dk_at dksX3_waitsOf_1 16 rfl rfl)
theorem dX3_waitsOf_41 : decode cX3_waitsOf 41 = .ok (.iload_n 3, 1) := dk_29 (dk_at dksX3_waitsOf_1 17 rfl rfl)
theorem dX3_waitsOf_42 : decode cX3_waitsOf 42 = .ok (.iload_n 1, 1) := dk_27 (dk_at dksX3_waitsOf_1 18 rfl rfl)
theorem dX3_waitsOf_43 : decode cX3_waitsOf 43 = .ok (.invokevirtual 188, 3) := dk_182 0 188 (dk_at dksX3_waitsOf_1 19 rfl rfl)
theorem dX3_waitsOf_46 : decode cX3_waitsOf 46 = .ok (.isub, 1) := dk_100 (dk_at dksX3_waitsOf_1 22 rfl rfl)
theorem dX3_waitsOf_47 : decode cX3_waitsOf 47 = .ok (.goto 4, 3) := dk_167 0 4 (dk_at dksX3_waitsOf_2 0 rfl rfl)
theorem dX3_waitsOf_50 : decode cX3_waitsOf 50 = .ok (.iconst 0, 1) := dk_3 (dk_at dksX3_waitsOf_2 3 rfl rfl)
theorem dX3_waitsOf_51 : decode cX3_waitsOf 51 = .ok (.ireturn, 1) := dk_172 (dk_at dksX3_waitsOf_2 4 rfl rfl)
abbrev cX3_spareOf : ByteArray := prog_21_method_59_code
def yX3_spareOf : MethodName := ⟨RX3, "spareOf", "(I)I"⟩
def dkwX3_spareOf_2 : List UInt8 := [180, 0, 9, 28, 7, 96, 46, 100, 172]
abbrev dktX3_spareOf_2 : List UInt8 := dkwX3_spareOf_2 ++ []
def dkwX3_spareOf_1 : List UInt8 := [182, 0, 122, 42, 42, 180, 0, 9, 28, 46, 42, 180, 0, 9, 28, 4, 96, 46, 3, 182, 0, 122, 100, 42]
abbrev dktX3_spareOf_1 : List UInt8 := dkwX3_spareOf_1 ++ dktX3_spareOf_2
def dkwX3_spareOf_0 : List UInt8 := [27, 184, 0, 141, 61, 42, 42, 180, 0, 9, 28, 5, 96, 46, 42, 180, 0, 9, 28, 6, 96, 46, 4]
abbrev dktX3_spareOf_0 : List UInt8 := dkwX3_spareOf_0 ++ dktX3_spareOf_1
theorem dksX3_spareOf_0 : cX3_spareOf.data.toList.drop 0 = dktX3_spareOf_0 := by decide +kernel
theorem dksX3_spareOf_1 : cX3_spareOf.data.toList.drop 23 = dktX3_spareOf_1 := dk_seg dksX3_spareOf_0 23 rfl rfl
theorem dksX3_spareOf_2 : cX3_spareOf.data.toList.drop 47 = dktX3_spareOf_2 := dk_seg dksX3_spareOf_1 24 rfl rfl
theorem dX3_spareOf_0 : decode cX3_spareOf 0 = .ok (.iload_n 1, 1) := dk_27 (dk_at dksX3_spareOf_0 0 rfl rfl)
theorem dX3_spareOf_1 : decode cX3_spareOf 1 = .ok (.invokestatic 141, 3) := dk_184 0 141 (dk_at dksX3_spareOf_0 1 rfl rfl)
theorem dX3_spareOf_4 : decode cX3_spareOf 4 = .ok (.istore_n 2, 1) := dk_61 (dk_at dksX3_spareOf_0 4 rfl rfl)
theorem dX3_spareOf_5 : decode cX3_spareOf 5 = .ok (.aload_n 0, 1) := dk_42 (dk_at dksX3_spareOf_0 5 rfl rfl)
theorem dX3_spareOf_6 : decode cX3_spareOf 6 = .ok (.aload_n 0, 1) := dk_42 (dk_at dksX3_spareOf_0 6 rfl rfl)
theorem dX3_spareOf_7 : decode cX3_spareOf 7 = .ok (.getfield 9, 3) := dk_180 0 9 (dk_at dksX3_spareOf_0 7 rfl rfl)
theorem dX3_spareOf_10 : decode cX3_spareOf 10 = .ok (.iload_n 2, 1) := dk_28 (dk_at dksX3_spareOf_0 10 rfl rfl)
theorem dX3_spareOf_11 : decode cX3_spareOf 11 = .ok (.iconst 2, 1) := dk_5 (dk_at dksX3_spareOf_0 11 rfl rfl)
theorem dX3_spareOf_12 : decode cX3_spareOf 12 = .ok (.iadd, 1) := dk_96 (dk_at dksX3_spareOf_0 12 rfl rfl)
theorem dX3_spareOf_13 : decode cX3_spareOf 13 = .ok (.iaload, 1) := dk_46 (dk_at dksX3_spareOf_0 13 rfl rfl)
theorem dX3_spareOf_14 : decode cX3_spareOf 14 = .ok (.aload_n 0, 1) := dk_42 (dk_at dksX3_spareOf_0 14 rfl rfl)
theorem dX3_spareOf_15 : decode cX3_spareOf 15 = .ok (.getfield 9, 3) := dk_180 0 9 (dk_at dksX3_spareOf_0 15 rfl rfl)
theorem dX3_spareOf_18 : decode cX3_spareOf 18 = .ok (.iload_n 2, 1) := dk_28 (dk_at dksX3_spareOf_0 18 rfl rfl)
theorem dX3_spareOf_19 : decode cX3_spareOf 19 = .ok (.iconst 3, 1) := dk_6 (dk_at dksX3_spareOf_0 19 rfl rfl)
theorem dX3_spareOf_20 : decode cX3_spareOf 20 = .ok (.iadd, 1) := dk_96 (dk_at dksX3_spareOf_0 20 rfl rfl)
theorem dX3_spareOf_21 : decode cX3_spareOf 21 = .ok (.iaload, 1) := dk_46 (dk_at dksX3_spareOf_0 21 rfl rfl)
theorem dX3_spareOf_22 : decode cX3_spareOf 22 = .ok (.iconst 1, 1) := dk_4 (dk_at dksX3_spareOf_0 22 rfl rfl)
theorem dX3_spareOf_23 : decode cX3_spareOf 23 = .ok (.invokevirtual 122, 3) := dk_182 0 122 (dk_at dksX3_spareOf_1 0 rfl rfl)
theorem dX3_spareOf_26 : decode cX3_spareOf 26 = .ok (.aload_n 0, 1) := dk_42 (dk_at dksX3_spareOf_1 3 rfl rfl)
theorem dX3_spareOf_27 : decode cX3_spareOf 27 = .ok (.aload_n 0, 1) := dk_42 (dk_at dksX3_spareOf_1 4 rfl rfl)
theorem dX3_spareOf_28 : decode cX3_spareOf 28 = .ok (.getfield 9, 3) := dk_180 0 9 (dk_at dksX3_spareOf_1 5 rfl rfl)
theorem dX3_spareOf_31 : decode cX3_spareOf 31 = .ok (.iload_n 2, 1) := dk_28 (dk_at dksX3_spareOf_1 8 rfl rfl)
theorem dX3_spareOf_32 : decode cX3_spareOf 32 = .ok (.iaload, 1) := dk_46 (dk_at dksX3_spareOf_1 9 rfl rfl)
theorem dX3_spareOf_33 : decode cX3_spareOf 33 = .ok (.aload_n 0, 1) := dk_42 (dk_at dksX3_spareOf_1 10 rfl rfl)
theorem dX3_spareOf_34 : decode cX3_spareOf 34 = .ok (.getfield 9, 3) := dk_180 0 9 (dk_at dksX3_spareOf_1 11 rfl rfl)
theorem dX3_spareOf_37 : decode cX3_spareOf 37 = .ok (.iload_n 2, 1) := dk_28 (dk_at dksX3_spareOf_1 14 rfl rfl)
theorem dX3_spareOf_38 : decode cX3_spareOf 38 = .ok (.iconst 1, 1) := dk_4 (dk_at dksX3_spareOf_1 15 rfl rfl)
theorem dX3_spareOf_39 : decode cX3_spareOf 39 = .ok (.iadd, 1) := dk_96 (dk_at dksX3_spareOf_1 16 rfl rfl)
theorem dX3_spareOf_40 : decode cX3_spareOf 40 = .ok (.iaload, 1) := dk_46 (dk_at dksX3_spareOf_1 17 rfl rfl)
theorem dX3_spareOf_41 : decode cX3_spareOf 41 = .ok (.iconst 0, 1) := dk_3 (dk_at dksX3_spareOf_1 18 rfl rfl)
theorem dX3_spareOf_42 : decode cX3_spareOf 42 = .ok (.invokevirtual 122, 3) := dk_182 0 122 (dk_at dksX3_spareOf_1 19 rfl rfl)
theorem dX3_spareOf_45 : decode cX3_spareOf 45 = .ok (.isub, 1) := dk_100 (dk_at dksX3_spareOf_1 22 rfl rfl)
theorem dX3_spareOf_46 : decode cX3_spareOf 46 = .ok (.aload_n 0, 1) := dk_42 (dk_at dksX3_spareOf_1 23 rfl rfl)
theorem dX3_spareOf_47 : decode cX3_spareOf 47 = .ok (.getfield 9, 3) := dk_180 0 9 (dk_at dksX3_spareOf_2 0 rfl rfl)
theorem dX3_spareOf_50 : decode cX3_spareOf 50 = .ok (.iload_n 2, 1) := dk_28 (dk_at dksX3_spareOf_2 3 rfl rfl)
theorem dX3_spareOf_51 : decode cX3_spareOf 51 = .ok (.iconst 4, 1) := dk_7 (dk_at dksX3_spareOf_2 4 rfl rfl)
theorem dX3_spareOf_52 : decode cX3_spareOf 52 = .ok (.iadd, 1) := dk_96 (dk_at dksX3_spareOf_2 5 rfl rfl)
theorem dX3_spareOf_53 : decode cX3_spareOf 53 = .ok (.iaload, 1) := dk_46 (dk_at dksX3_spareOf_2 6 rfl rfl)
theorem dX3_spareOf_54 : decode cX3_spareOf 54 = .ok (.isub, 1) := dk_100 (dk_at dksX3_spareOf_2 7 rfl rfl)
theorem dX3_spareOf_55 : decode cX3_spareOf 55 = .ok (.ireturn, 1) := dk_172 (dk_at dksX3_spareOf_2 8 rfl rfl)
abbrev cX3_missed : ByteArray := prog_21_method_62_code
def yX3_missed : MethodName := ⟨RX3, "missed", "(I)I"⟩
def dkwX3_missed_2 : List UInt8 := [167, 255, 225, 42, 4, 182, 0, 81, 172]
abbrev dktX3_missed_2 : List UInt8 := dkwX3_missed_2 ++ []
def dkwX3_missed_1 : List UInt8 := [162, 0, 27, 42, 29, 182, 0, 220, 154, 0, 13, 28, 27, 160, 0, 5, 29, 172, 132, 2, 1, 132, 3, 1]
abbrev dktX3_missed_1 : List UInt8 := dkwX3_missed_1 ++ dktX3_missed_2
def dkwX3_missed_0 : List UInt8 := [42, 3, 181, 0, 69, 42, 2, 2, 182, 0, 159, 3, 61, 3, 62, 29, 42, 180, 0, 9, 4, 46]
abbrev dktX3_missed_0 : List UInt8 := dkwX3_missed_0 ++ dktX3_missed_1
theorem dksX3_missed_0 : cX3_missed.data.toList.drop 0 = dktX3_missed_0 := by decide +kernel
theorem dksX3_missed_1 : cX3_missed.data.toList.drop 22 = dktX3_missed_1 := dk_seg dksX3_missed_0 22 rfl rfl
theorem dksX3_missed_2 : cX3_missed.data.toList.drop 46 = dktX3_missed_2 := dk_seg dksX3_missed_1 24 rfl rfl
theorem dX3_missed_0 : decode cX3_missed 0 = .ok (.aload_n 0, 1) := dk_42 (dk_at dksX3_missed_0 0 rfl rfl)
theorem dX3_missed_1 : decode cX3_missed 1 = .ok (.iconst 0, 1) := dk_3 (dk_at dksX3_missed_0 1 rfl rfl)
theorem dX3_missed_2 : decode cX3_missed 2 = .ok (.putfield 69, 3) := dk_181 0 69 (dk_at dksX3_missed_0 2 rfl rfl)
theorem dX3_missed_5 : decode cX3_missed 5 = .ok (.aload_n 0, 1) := dk_42 (dk_at dksX3_missed_0 5 rfl rfl)
theorem dX3_missed_6 : decode cX3_missed 6 = .ok (.iconst (-1), 1) := dk_2 (dk_at dksX3_missed_0 6 rfl rfl)
theorem dX3_missed_7 : decode cX3_missed 7 = .ok (.iconst (-1), 1) := dk_2 (dk_at dksX3_missed_0 7 rfl rfl)
theorem dX3_missed_8 : decode cX3_missed 8 = .ok (.invokevirtual 159, 3) := dk_182 0 159 (dk_at dksX3_missed_0 8 rfl rfl)
theorem dX3_missed_11 : decode cX3_missed 11 = .ok (.iconst 0, 1) := dk_3 (dk_at dksX3_missed_0 11 rfl rfl)
theorem dX3_missed_12 : decode cX3_missed 12 = .ok (.istore_n 2, 1) := dk_61 (dk_at dksX3_missed_0 12 rfl rfl)
theorem dX3_missed_13 : decode cX3_missed 13 = .ok (.iconst 0, 1) := dk_3 (dk_at dksX3_missed_0 13 rfl rfl)
theorem dX3_missed_14 : decode cX3_missed 14 = .ok (.istore_n 3, 1) := dk_62 (dk_at dksX3_missed_0 14 rfl rfl)
theorem dX3_missed_15 : decode cX3_missed 15 = .ok (.iload_n 3, 1) := dk_29 (dk_at dksX3_missed_0 15 rfl rfl)
theorem dX3_missed_16 : decode cX3_missed 16 = .ok (.aload_n 0, 1) := dk_42 (dk_at dksX3_missed_0 16 rfl rfl)
theorem dX3_missed_17 : decode cX3_missed 17 = .ok (.getfield 9, 3) := dk_180 0 9 (dk_at dksX3_missed_0 17 rfl rfl)
theorem dX3_missed_20 : decode cX3_missed 20 = .ok (.iconst 1, 1) := dk_4 (dk_at dksX3_missed_0 20 rfl rfl)
theorem dX3_missed_21 : decode cX3_missed 21 = .ok (.iaload, 1) := dk_46 (dk_at dksX3_missed_0 21 rfl rfl)
theorem dX3_missed_22 : decode cX3_missed 22 = .ok (.if_icmp .ge 27, 3) := dk_162 0 27 (dk_at dksX3_missed_1 0 rfl rfl)
theorem dX3_missed_25 : decode cX3_missed 25 = .ok (.aload_n 0, 1) := dk_42 (dk_at dksX3_missed_1 3 rfl rfl)
theorem dX3_missed_26 : decode cX3_missed 26 = .ok (.iload_n 3, 1) := dk_29 (dk_at dksX3_missed_1 4 rfl rfl)
theorem dX3_missed_27 : decode cX3_missed 27 = .ok (.invokevirtual 220, 3) := dk_182 0 220 (dk_at dksX3_missed_1 5 rfl rfl)
theorem dX3_missed_30 : decode cX3_missed 30 = .ok (.ifCond .ne 13, 3) := dk_154 0 13 (dk_at dksX3_missed_1 8 rfl rfl)
theorem dX3_missed_33 : decode cX3_missed 33 = .ok (.iload_n 2, 1) := dk_28 (dk_at dksX3_missed_1 11 rfl rfl)
theorem dX3_missed_34 : decode cX3_missed 34 = .ok (.iload_n 1, 1) := dk_27 (dk_at dksX3_missed_1 12 rfl rfl)
theorem dX3_missed_35 : decode cX3_missed 35 = .ok (.if_icmp .ne 5, 3) := dk_160 0 5 (dk_at dksX3_missed_1 13 rfl rfl)
theorem dX3_missed_38 : decode cX3_missed 38 = .ok (.iload_n 3, 1) := dk_29 (dk_at dksX3_missed_1 16 rfl rfl)
theorem dX3_missed_39 : decode cX3_missed 39 = .ok (.ireturn, 1) := dk_172 (dk_at dksX3_missed_1 17 rfl rfl)
theorem dX3_missed_40 : decode cX3_missed 40 = .ok (.iinc 2 1, 3) := dk_132 2 1 (dk_at dksX3_missed_1 18 rfl rfl)
theorem dX3_missed_43 : decode cX3_missed 43 = .ok (.iinc 3 1, 3) := dk_132 3 1 (dk_at dksX3_missed_1 21 rfl rfl)
theorem dX3_missed_46 : decode cX3_missed 46 = .ok (.goto (-31), 3) := dk_167 255 225 (dk_at dksX3_missed_2 0 rfl rfl)
theorem dX3_missed_49 : decode cX3_missed 49 = .ok (.aload_n 0, 1) := dk_42 (dk_at dksX3_missed_2 3 rfl rfl)
theorem dX3_missed_50 : decode cX3_missed 50 = .ok (.iconst 1, 1) := dk_4 (dk_at dksX3_missed_2 4 rfl rfl)
theorem dX3_missed_51 : decode cX3_missed 51 = .ok (.invokevirtual 81, 3) := dk_182 0 81 (dk_at dksX3_missed_2 5 rfl rfl)
theorem dX3_missed_54 : decode cX3_missed 54 = .ok (.ireturn, 1) := dk_172 (dk_at dksX3_missed_2 8 rfl rfl)
abbrev cX3_waits : ByteArray := prog_21_method_63_code
def yX3_waits : MethodName := ⟨RX3, "waits", "(I)I"⟩
def dkwX3_waits_3 : List UInt8 := [167, 255, 216, 28, 172]
abbrev dktX3_waits_3 : List UInt8 := dkwX3_waits_3 ++ []
def dkwX3_waits_2 : List UInt8 := [184, 0, 141, 5, 96, 46, 27, 160, 0, 11, 42, 29, 182, 0, 247, 167, 0, 4, 3, 96, 61, 132, 3, 1]
abbrev dktX3_waits_2 : List UInt8 := dkwX3_waits_2 ++ dktX3_waits_3
def dkwX3_waits_1 : List UInt8 := [182, 0, 159, 3, 61, 3, 62, 29, 42, 180, 0, 9, 4, 46, 162, 0, 36, 28, 42, 180, 0, 9, 29]
abbrev dktX3_waits_1 : List UInt8 := dkwX3_waits_1 ++ dktX3_waits_2
def dkwX3_waits_0 : List UInt8 := [42, 3, 181, 0, 69, 42, 27, 182, 0, 118, 154, 0, 9, 42, 4, 182, 0, 81, 172, 42, 2, 2]
abbrev dktX3_waits_0 : List UInt8 := dkwX3_waits_0 ++ dktX3_waits_1
theorem dksX3_waits_0 : cX3_waits.data.toList.drop 0 = dktX3_waits_0 := by decide +kernel
theorem dksX3_waits_1 : cX3_waits.data.toList.drop 22 = dktX3_waits_1 := dk_seg dksX3_waits_0 22 rfl rfl
theorem dksX3_waits_2 : cX3_waits.data.toList.drop 45 = dktX3_waits_2 := dk_seg dksX3_waits_1 23 rfl rfl
theorem dksX3_waits_3 : cX3_waits.data.toList.drop 69 = dktX3_waits_3 := dk_seg dksX3_waits_2 24 rfl rfl
theorem dX3_waits_0 : decode cX3_waits 0 = .ok (.aload_n 0, 1) := dk_42 (dk_at dksX3_waits_0 0 rfl rfl)
theorem dX3_waits_1 : decode cX3_waits 1 = .ok (.iconst 0, 1) := dk_3 (dk_at dksX3_waits_0 1 rfl rfl)
theorem dX3_waits_2 : decode cX3_waits 2 = .ok (.putfield 69, 3) := dk_181 0 69 (dk_at dksX3_waits_0 2 rfl rfl)
theorem dX3_waits_5 : decode cX3_waits 5 = .ok (.aload_n 0, 1) := dk_42 (dk_at dksX3_waits_0 5 rfl rfl)
theorem dX3_waits_6 : decode cX3_waits 6 = .ok (.iload_n 1, 1) := dk_27 (dk_at dksX3_waits_0 6 rfl rfl)
theorem dX3_waits_7 : decode cX3_waits 7 = .ok (.invokevirtual 118, 3) := dk_182 0 118 (dk_at dksX3_waits_0 7 rfl rfl)
theorem dX3_waits_10 : decode cX3_waits 10 = .ok (.ifCond .ne 9, 3) := dk_154 0 9 (dk_at dksX3_waits_0 10 rfl rfl)
theorem dX3_waits_13 : decode cX3_waits 13 = .ok (.aload_n 0, 1) := dk_42 (dk_at dksX3_waits_0 13 rfl rfl)
theorem dX3_waits_14 : decode cX3_waits 14 = .ok (.iconst 1, 1) := dk_4 (dk_at dksX3_waits_0 14 rfl rfl)
theorem dX3_waits_15 : decode cX3_waits 15 = .ok (.invokevirtual 81, 3) := dk_182 0 81 (dk_at dksX3_waits_0 15 rfl rfl)
theorem dX3_waits_18 : decode cX3_waits 18 = .ok (.ireturn, 1) := dk_172 (dk_at dksX3_waits_0 18 rfl rfl)
theorem dX3_waits_19 : decode cX3_waits 19 = .ok (.aload_n 0, 1) := dk_42 (dk_at dksX3_waits_0 19 rfl rfl)
theorem dX3_waits_20 : decode cX3_waits 20 = .ok (.iconst (-1), 1) := dk_2 (dk_at dksX3_waits_0 20 rfl rfl)
theorem dX3_waits_21 : decode cX3_waits 21 = .ok (.iconst (-1), 1) := dk_2 (dk_at dksX3_waits_0 21 rfl rfl)
theorem dX3_waits_22 : decode cX3_waits 22 = .ok (.invokevirtual 159, 3) := dk_182 0 159 (dk_at dksX3_waits_1 0 rfl rfl)
theorem dX3_waits_25 : decode cX3_waits 25 = .ok (.iconst 0, 1) := dk_3 (dk_at dksX3_waits_1 3 rfl rfl)
theorem dX3_waits_26 : decode cX3_waits 26 = .ok (.istore_n 2, 1) := dk_61 (dk_at dksX3_waits_1 4 rfl rfl)
theorem dX3_waits_27 : decode cX3_waits 27 = .ok (.iconst 0, 1) := dk_3 (dk_at dksX3_waits_1 5 rfl rfl)
theorem dX3_waits_28 : decode cX3_waits 28 = .ok (.istore_n 3, 1) := dk_62 (dk_at dksX3_waits_1 6 rfl rfl)
theorem dX3_waits_29 : decode cX3_waits 29 = .ok (.iload_n 3, 1) := dk_29 (dk_at dksX3_waits_1 7 rfl rfl)
theorem dX3_waits_30 : decode cX3_waits 30 = .ok (.aload_n 0, 1) := dk_42 (dk_at dksX3_waits_1 8 rfl rfl)
theorem dX3_waits_31 : decode cX3_waits 31 = .ok (.getfield 9, 3) := dk_180 0 9 (dk_at dksX3_waits_1 9 rfl rfl)
theorem dX3_waits_34 : decode cX3_waits 34 = .ok (.iconst 1, 1) := dk_4 (dk_at dksX3_waits_1 12 rfl rfl)
theorem dX3_waits_35 : decode cX3_waits 35 = .ok (.iaload, 1) := dk_46 (dk_at dksX3_waits_1 13 rfl rfl)
theorem dX3_waits_36 : decode cX3_waits 36 = .ok (.if_icmp .ge 36, 3) := dk_162 0 36 (dk_at dksX3_waits_1 14 rfl rfl)
theorem dX3_waits_39 : decode cX3_waits 39 = .ok (.iload_n 2, 1) := dk_28 (dk_at dksX3_waits_1 17 rfl rfl)
theorem dX3_waits_40 : decode cX3_waits 40 = .ok (.aload_n 0, 1) := dk_42 (dk_at dksX3_waits_1 18 rfl rfl)
theorem dX3_waits_41 : decode cX3_waits 41 = .ok (.getfield 9, 3) := dk_180 0 9 (dk_at dksX3_waits_1 19 rfl rfl)
theorem dX3_waits_44 : decode cX3_waits 44 = .ok (.iload_n 3, 1) := dk_29 (dk_at dksX3_waits_1 22 rfl rfl)
theorem dX3_waits_45 : decode cX3_waits 45 = .ok (.invokestatic 141, 3) := dk_184 0 141 (dk_at dksX3_waits_2 0 rfl rfl)
theorem dX3_waits_48 : decode cX3_waits 48 = .ok (.iconst 2, 1) := dk_5 (dk_at dksX3_waits_2 3 rfl rfl)
theorem dX3_waits_49 : decode cX3_waits 49 = .ok (.iadd, 1) := dk_96 (dk_at dksX3_waits_2 4 rfl rfl)
theorem dX3_waits_50 : decode cX3_waits 50 = .ok (.iaload, 1) := dk_46 (dk_at dksX3_waits_2 5 rfl rfl)
theorem dX3_waits_51 : decode cX3_waits 51 = .ok (.iload_n 1, 1) := dk_27 (dk_at dksX3_waits_2 6 rfl rfl)
theorem dX3_waits_52 : decode cX3_waits 52 = .ok (.if_icmp .ne 11, 3) := dk_160 0 11 (dk_at dksX3_waits_2 7 rfl rfl)
theorem dX3_waits_55 : decode cX3_waits 55 = .ok (.aload_n 0, 1) := dk_42 (dk_at dksX3_waits_2 10 rfl rfl)
theorem dX3_waits_56 : decode cX3_waits 56 = .ok (.iload_n 3, 1) := dk_29 (dk_at dksX3_waits_2 11 rfl rfl)
theorem dX3_waits_57 : decode cX3_waits 57 = .ok (.invokevirtual 247, 3) := dk_182 0 247 (dk_at dksX3_waits_2 12 rfl rfl)
theorem dX3_waits_60 : decode cX3_waits 60 = .ok (.goto 4, 3) := dk_167 0 4 (dk_at dksX3_waits_2 15 rfl rfl)
theorem dX3_waits_63 : decode cX3_waits 63 = .ok (.iconst 0, 1) := dk_3 (dk_at dksX3_waits_2 18 rfl rfl)
theorem dX3_waits_64 : decode cX3_waits 64 = .ok (.iadd, 1) := dk_96 (dk_at dksX3_waits_2 19 rfl rfl)
theorem dX3_waits_65 : decode cX3_waits 65 = .ok (.istore_n 2, 1) := dk_61 (dk_at dksX3_waits_2 20 rfl rfl)
theorem dX3_waits_66 : decode cX3_waits 66 = .ok (.iinc 3 1, 3) := dk_132 3 1 (dk_at dksX3_waits_2 21 rfl rfl)
theorem dX3_waits_69 : decode cX3_waits 69 = .ok (.goto (-40), 3) := dk_167 255 216 (dk_at dksX3_waits_3 0 rfl rfl)
theorem dX3_waits_72 : decode cX3_waits 72 = .ok (.iload_n 2, 1) := dk_28 (dk_at dksX3_waits_3 3 rfl rfl)
theorem dX3_waits_73 : decode cX3_waits 73 = .ok (.ireturn, 1) := dk_172 (dk_at dksX3_waits_3 4 rfl rfl)
abbrev cX3_knocks : ByteArray := prog_21_method_65_code
def yX3_knocks : MethodName := ⟨RX3, "knocks", "(I)I"⟩
def dkwX3_knocks_1 : List UInt8 := [182, 0, 159, 42, 27, 182, 0, 253, 61, 42, 2, 27, 182, 0, 159, 28, 42, 27, 182, 0, 253, 100, 172]
abbrev dktX3_knocks_1 : List UInt8 := dkwX3_knocks_1 ++ []
def dkwX3_knocks_0 : List UInt8 := [42, 3, 181, 0, 69, 42, 27, 182, 0, 118, 154, 0, 9, 42, 4, 182, 0, 81, 172, 42, 2, 2]
abbrev dktX3_knocks_0 : List UInt8 := dkwX3_knocks_0 ++ dktX3_knocks_1
theorem dksX3_knocks_0 : cX3_knocks.data.toList.drop 0 = dktX3_knocks_0 := by decide +kernel
theorem dksX3_knocks_1 : cX3_knocks.data.toList.drop 22 = dktX3_knocks_1 := dk_seg dksX3_knocks_0 22 rfl rfl
theorem dX3_knocks_0 : decode cX3_knocks 0 = .ok (.aload_n 0, 1) := dk_42 (dk_at dksX3_knocks_0 0 rfl rfl)
theorem dX3_knocks_1 : decode cX3_knocks 1 = .ok (.iconst 0, 1) := dk_3 (dk_at dksX3_knocks_0 1 rfl rfl)
theorem dX3_knocks_2 : decode cX3_knocks 2 = .ok (.putfield 69, 3) := dk_181 0 69 (dk_at dksX3_knocks_0 2 rfl rfl)
theorem dX3_knocks_5 : decode cX3_knocks 5 = .ok (.aload_n 0, 1) := dk_42 (dk_at dksX3_knocks_0 5 rfl rfl)
theorem dX3_knocks_6 : decode cX3_knocks 6 = .ok (.iload_n 1, 1) := dk_27 (dk_at dksX3_knocks_0 6 rfl rfl)
theorem dX3_knocks_7 : decode cX3_knocks 7 = .ok (.invokevirtual 118, 3) := dk_182 0 118 (dk_at dksX3_knocks_0 7 rfl rfl)
theorem dX3_knocks_10 : decode cX3_knocks 10 = .ok (.ifCond .ne 9, 3) := dk_154 0 9 (dk_at dksX3_knocks_0 10 rfl rfl)
theorem dX3_knocks_13 : decode cX3_knocks 13 = .ok (.aload_n 0, 1) := dk_42 (dk_at dksX3_knocks_0 13 rfl rfl)
theorem dX3_knocks_14 : decode cX3_knocks 14 = .ok (.iconst 1, 1) := dk_4 (dk_at dksX3_knocks_0 14 rfl rfl)
theorem dX3_knocks_15 : decode cX3_knocks 15 = .ok (.invokevirtual 81, 3) := dk_182 0 81 (dk_at dksX3_knocks_0 15 rfl rfl)
theorem dX3_knocks_18 : decode cX3_knocks 18 = .ok (.ireturn, 1) := dk_172 (dk_at dksX3_knocks_0 18 rfl rfl)
theorem dX3_knocks_19 : decode cX3_knocks 19 = .ok (.aload_n 0, 1) := dk_42 (dk_at dksX3_knocks_0 19 rfl rfl)
theorem dX3_knocks_20 : decode cX3_knocks 20 = .ok (.iconst (-1), 1) := dk_2 (dk_at dksX3_knocks_0 20 rfl rfl)
theorem dX3_knocks_21 : decode cX3_knocks 21 = .ok (.iconst (-1), 1) := dk_2 (dk_at dksX3_knocks_0 21 rfl rfl)
theorem dX3_knocks_22 : decode cX3_knocks 22 = .ok (.invokevirtual 159, 3) := dk_182 0 159 (dk_at dksX3_knocks_1 0 rfl rfl)
theorem dX3_knocks_25 : decode cX3_knocks 25 = .ok (.aload_n 0, 1) := dk_42 (dk_at dksX3_knocks_1 3 rfl rfl)
theorem dX3_knocks_26 : decode cX3_knocks 26 = .ok (.iload_n 1, 1) := dk_27 (dk_at dksX3_knocks_1 4 rfl rfl)
theorem dX3_knocks_27 : decode cX3_knocks 27 = .ok (.invokevirtual 253, 3) := dk_182 0 253 (dk_at dksX3_knocks_1 5 rfl rfl)
theorem dX3_knocks_30 : decode cX3_knocks 30 = .ok (.istore_n 2, 1) := dk_61 (dk_at dksX3_knocks_1 8 rfl rfl)
theorem dX3_knocks_31 : decode cX3_knocks 31 = .ok (.aload_n 0, 1) := dk_42 (dk_at dksX3_knocks_1 9 rfl rfl)
theorem dX3_knocks_32 : decode cX3_knocks 32 = .ok (.iconst (-1), 1) := dk_2 (dk_at dksX3_knocks_1 10 rfl rfl)
theorem dX3_knocks_33 : decode cX3_knocks 33 = .ok (.iload_n 1, 1) := dk_27 (dk_at dksX3_knocks_1 11 rfl rfl)
theorem dX3_knocks_34 : decode cX3_knocks 34 = .ok (.invokevirtual 159, 3) := dk_182 0 159 (dk_at dksX3_knocks_1 12 rfl rfl)
theorem dX3_knocks_37 : decode cX3_knocks 37 = .ok (.iload_n 2, 1) := dk_28 (dk_at dksX3_knocks_1 15 rfl rfl)
theorem dX3_knocks_38 : decode cX3_knocks 38 = .ok (.aload_n 0, 1) := dk_42 (dk_at dksX3_knocks_1 16 rfl rfl)
theorem dX3_knocks_39 : decode cX3_knocks 39 = .ok (.iload_n 1, 1) := dk_27 (dk_at dksX3_knocks_1 17 rfl rfl)
theorem dX3_knocks_40 : decode cX3_knocks 40 = .ok (.invokevirtual 253, 3) := dk_182 0 253 (dk_at dksX3_knocks_1 18 rfl rfl)
theorem dX3_knocks_43 : decode cX3_knocks 43 = .ok (.isub, 1) := dk_100 (dk_at dksX3_knocks_1 21 rfl rfl)
theorem dX3_knocks_44 : decode cX3_knocks 44 = .ok (.ireturn, 1) := dk_172 (dk_at dksX3_knocks_1 22 rfl rfl)
abbrev cX3_lateAll : ByteArray := prog_21_method_64_code
def yX3_lateAll : MethodName := ⟨RX3, "lateAll", "(I)I"⟩
def dkwX3_lateAll_3 : List UInt8 := [112, 29, 5, 112, 182, 0, 163, 167, 0, 4, 3, 96, 61, 132, 3, 1, 167, 255, 172, 28, 172]
abbrev dktX3_lateAll_3 : List UInt8 := dkwX3_lateAll_3 ++ []
def dkwX3_lateAll_2 : List UInt8 := [153, 0, 7, 4, 167, 0, 4, 3, 54, 5, 28, 21, 5, 153, 0, 21, 42, 21, 4, 29, 5, 108, 16, 6]
abbrev dktX3_lateAll_2 : List UInt8 := dkwX3_lateAll_2 ++ dktX3_lateAll_3
def dkwX3_lateAll_1 : List UInt8 := [162, 0, 31, 21, 4, 27, 159, 0, 25, 42, 21, 4, 29, 5, 108, 16, 6, 112, 29, 5, 112, 182, 0, 135]
abbrev dktX3_lateAll_1 : List UInt8 := dkwX3_lateAll_1 ++ dktX3_lateAll_2
def dkwX3_lateAll_0 : List UInt8 := [3, 61, 3, 62, 29, 16, 72, 162, 0, 84, 29, 16, 12, 108, 54, 4, 21, 4, 42, 180, 0, 9, 3, 46]
abbrev dktX3_lateAll_0 : List UInt8 := dkwX3_lateAll_0 ++ dktX3_lateAll_1
theorem dksX3_lateAll_0 : cX3_lateAll.data.toList.drop 0 = dktX3_lateAll_0 := by decide +kernel
theorem dksX3_lateAll_1 : cX3_lateAll.data.toList.drop 24 = dktX3_lateAll_1 := dk_seg dksX3_lateAll_0 24 rfl rfl
theorem dksX3_lateAll_2 : cX3_lateAll.data.toList.drop 48 = dktX3_lateAll_2 := dk_seg dksX3_lateAll_1 24 rfl rfl
theorem dksX3_lateAll_3 : cX3_lateAll.data.toList.drop 72 = dktX3_lateAll_3 := dk_seg dksX3_lateAll_2 24 rfl rfl
theorem dX3_lateAll_0 : decode cX3_lateAll 0 = .ok (.iconst 0, 1) := dk_3 (dk_at dksX3_lateAll_0 0 rfl rfl)
theorem dX3_lateAll_1 : decode cX3_lateAll 1 = .ok (.istore_n 2, 1) := dk_61 (dk_at dksX3_lateAll_0 1 rfl rfl)
theorem dX3_lateAll_2 : decode cX3_lateAll 2 = .ok (.iconst 0, 1) := dk_3 (dk_at dksX3_lateAll_0 2 rfl rfl)
theorem dX3_lateAll_3 : decode cX3_lateAll 3 = .ok (.istore_n 3, 1) := dk_62 (dk_at dksX3_lateAll_0 3 rfl rfl)
theorem dX3_lateAll_4 : decode cX3_lateAll 4 = .ok (.iload_n 3, 1) := dk_29 (dk_at dksX3_lateAll_0 4 rfl rfl)
theorem dX3_lateAll_5 : decode cX3_lateAll 5 = .ok (.bipush 72, 2) := dk_16 72 (dk_at dksX3_lateAll_0 5 rfl rfl)
theorem dX3_lateAll_7 : decode cX3_lateAll 7 = .ok (.if_icmp .ge 84, 3) := dk_162 0 84 (dk_at dksX3_lateAll_0 7 rfl rfl)
theorem dX3_lateAll_10 : decode cX3_lateAll 10 = .ok (.iload_n 3, 1) := dk_29 (dk_at dksX3_lateAll_0 10 rfl rfl)
theorem dX3_lateAll_11 : decode cX3_lateAll 11 = .ok (.bipush 12, 2) := dk_16 12 (dk_at dksX3_lateAll_0 11 rfl rfl)
theorem dX3_lateAll_13 : decode cX3_lateAll 13 = .ok (.idiv, 1) := dk_108 (dk_at dksX3_lateAll_0 13 rfl rfl)
theorem dX3_lateAll_14 : decode cX3_lateAll 14 = .ok (.istore 4, 2) := dk_54 4 (dk_at dksX3_lateAll_0 14 rfl rfl)
theorem dX3_lateAll_16 : decode cX3_lateAll 16 = .ok (.iload 4, 2) := dk_21 4 (dk_at dksX3_lateAll_0 16 rfl rfl)
theorem dX3_lateAll_18 : decode cX3_lateAll 18 = .ok (.aload_n 0, 1) := dk_42 (dk_at dksX3_lateAll_0 18 rfl rfl)
theorem dX3_lateAll_19 : decode cX3_lateAll 19 = .ok (.getfield 9, 3) := dk_180 0 9 (dk_at dksX3_lateAll_0 19 rfl rfl)
theorem dX3_lateAll_22 : decode cX3_lateAll 22 = .ok (.iconst 0, 1) := dk_3 (dk_at dksX3_lateAll_0 22 rfl rfl)
theorem dX3_lateAll_23 : decode cX3_lateAll 23 = .ok (.iaload, 1) := dk_46 (dk_at dksX3_lateAll_0 23 rfl rfl)
theorem dX3_lateAll_24 : decode cX3_lateAll 24 = .ok (.if_icmp .ge 31, 3) := dk_162 0 31 (dk_at dksX3_lateAll_1 0 rfl rfl)
theorem dX3_lateAll_27 : decode cX3_lateAll 27 = .ok (.iload 4, 2) := dk_21 4 (dk_at dksX3_lateAll_1 3 rfl rfl)
theorem dX3_lateAll_29 : decode cX3_lateAll 29 = .ok (.iload_n 1, 1) := dk_27 (dk_at dksX3_lateAll_1 5 rfl rfl)
theorem dX3_lateAll_30 : decode cX3_lateAll 30 = .ok (.if_icmp .eq 25, 3) := dk_159 0 25 (dk_at dksX3_lateAll_1 6 rfl rfl)
theorem dX3_lateAll_33 : decode cX3_lateAll 33 = .ok (.aload_n 0, 1) := dk_42 (dk_at dksX3_lateAll_1 9 rfl rfl)
theorem dX3_lateAll_34 : decode cX3_lateAll 34 = .ok (.iload 4, 2) := dk_21 4 (dk_at dksX3_lateAll_1 10 rfl rfl)
theorem dX3_lateAll_36 : decode cX3_lateAll 36 = .ok (.iload_n 3, 1) := dk_29 (dk_at dksX3_lateAll_1 12 rfl rfl)
theorem dX3_lateAll_37 : decode cX3_lateAll 37 = .ok (.iconst 2, 1) := dk_5 (dk_at dksX3_lateAll_1 13 rfl rfl)
theorem dX3_lateAll_38 : decode cX3_lateAll 38 = .ok (.idiv, 1) := dk_108 (dk_at dksX3_lateAll_1 14 rfl rfl)
theorem dX3_lateAll_39 : decode cX3_lateAll 39 = .ok (.bipush 6, 2) := dk_16 6 (dk_at dksX3_lateAll_1 15 rfl rfl)
theorem dX3_lateAll_41 : decode cX3_lateAll 41 = .ok (.irem, 1) := dk_112 (dk_at dksX3_lateAll_1 17 rfl rfl)
theorem dX3_lateAll_42 : decode cX3_lateAll 42 = .ok (.iload_n 3, 1) := dk_29 (dk_at dksX3_lateAll_1 18 rfl rfl)
theorem dX3_lateAll_43 : decode cX3_lateAll 43 = .ok (.iconst 2, 1) := dk_5 (dk_at dksX3_lateAll_1 19 rfl rfl)
theorem dX3_lateAll_44 : decode cX3_lateAll 44 = .ok (.irem, 1) := dk_112 (dk_at dksX3_lateAll_1 20 rfl rfl)
theorem dX3_lateAll_45 : decode cX3_lateAll 45 = .ok (.invokevirtual 135, 3) := dk_182 0 135 (dk_at dksX3_lateAll_1 21 rfl rfl)
theorem dX3_lateAll_48 : decode cX3_lateAll 48 = .ok (.ifCond .eq 7, 3) := dk_153 0 7 (dk_at dksX3_lateAll_2 0 rfl rfl)
theorem dX3_lateAll_51 : decode cX3_lateAll 51 = .ok (.iconst 1, 1) := dk_4 (dk_at dksX3_lateAll_2 3 rfl rfl)
theorem dX3_lateAll_52 : decode cX3_lateAll 52 = .ok (.goto 4, 3) := dk_167 0 4 (dk_at dksX3_lateAll_2 4 rfl rfl)
theorem dX3_lateAll_55 : decode cX3_lateAll 55 = .ok (.iconst 0, 1) := dk_3 (dk_at dksX3_lateAll_2 7 rfl rfl)
theorem dX3_lateAll_56 : decode cX3_lateAll 56 = .ok (.istore 5, 2) := dk_54 5 (dk_at dksX3_lateAll_2 8 rfl rfl)
theorem dX3_lateAll_58 : decode cX3_lateAll 58 = .ok (.iload_n 2, 1) := dk_28 (dk_at dksX3_lateAll_2 10 rfl rfl)
theorem dX3_lateAll_59 : decode cX3_lateAll 59 = .ok (.iload 5, 2) := dk_21 5 (dk_at dksX3_lateAll_2 11 rfl rfl)
theorem dX3_lateAll_61 : decode cX3_lateAll 61 = .ok (.ifCond .eq 21, 3) := dk_153 0 21 (dk_at dksX3_lateAll_2 13 rfl rfl)
theorem dX3_lateAll_64 : decode cX3_lateAll 64 = .ok (.aload_n 0, 1) := dk_42 (dk_at dksX3_lateAll_2 16 rfl rfl)
theorem dX3_lateAll_65 : decode cX3_lateAll 65 = .ok (.iload 4, 2) := dk_21 4 (dk_at dksX3_lateAll_2 17 rfl rfl)
theorem dX3_lateAll_67 : decode cX3_lateAll 67 = .ok (.iload_n 3, 1) := dk_29 (dk_at dksX3_lateAll_2 19 rfl rfl)
theorem dX3_lateAll_68 : decode cX3_lateAll 68 = .ok (.iconst 2, 1) := dk_5 (dk_at dksX3_lateAll_2 20 rfl rfl)
theorem dX3_lateAll_69 : decode cX3_lateAll 69 = .ok (.idiv, 1) := dk_108 (dk_at dksX3_lateAll_2 21 rfl rfl)
theorem dX3_lateAll_70 : decode cX3_lateAll 70 = .ok (.bipush 6, 2) := dk_16 6 (dk_at dksX3_lateAll_2 22 rfl rfl)
theorem dX3_lateAll_72 : decode cX3_lateAll 72 = .ok (.irem, 1) := dk_112 (dk_at dksX3_lateAll_3 0 rfl rfl)
theorem dX3_lateAll_73 : decode cX3_lateAll 73 = .ok (.iload_n 3, 1) := dk_29 (dk_at dksX3_lateAll_3 1 rfl rfl)
theorem dX3_lateAll_74 : decode cX3_lateAll 74 = .ok (.iconst 2, 1) := dk_5 (dk_at dksX3_lateAll_3 2 rfl rfl)
theorem dX3_lateAll_75 : decode cX3_lateAll 75 = .ok (.irem, 1) := dk_112 (dk_at dksX3_lateAll_3 3 rfl rfl)
theorem dX3_lateAll_76 : decode cX3_lateAll 76 = .ok (.invokevirtual 163, 3) := dk_182 0 163 (dk_at dksX3_lateAll_3 4 rfl rfl)
theorem dX3_lateAll_79 : decode cX3_lateAll 79 = .ok (.goto 4, 3) := dk_167 0 4 (dk_at dksX3_lateAll_3 7 rfl rfl)
theorem dX3_lateAll_82 : decode cX3_lateAll 82 = .ok (.iconst 0, 1) := dk_3 (dk_at dksX3_lateAll_3 10 rfl rfl)
theorem dX3_lateAll_83 : decode cX3_lateAll 83 = .ok (.iadd, 1) := dk_96 (dk_at dksX3_lateAll_3 11 rfl rfl)
theorem dX3_lateAll_84 : decode cX3_lateAll 84 = .ok (.istore_n 2, 1) := dk_61 (dk_at dksX3_lateAll_3 12 rfl rfl)
theorem dX3_lateAll_85 : decode cX3_lateAll 85 = .ok (.iinc 3 1, 3) := dk_132 3 1 (dk_at dksX3_lateAll_3 13 rfl rfl)
theorem dX3_lateAll_88 : decode cX3_lateAll 88 = .ok (.goto (-84), 3) := dk_167 255 172 (dk_at dksX3_lateAll_3 16 rfl rfl)
theorem dX3_lateAll_91 : decode cX3_lateAll 91 = .ok (.iload_n 2, 1) := dk_28 (dk_at dksX3_lateAll_3 19 rfl rfl)
theorem dX3_lateAll_92 : decode cX3_lateAll 92 = .ok (.ireturn, 1) := dk_172 (dk_at dksX3_lateAll_3 20 rfl rfl)
abbrev cX3_reaches : ByteArray := prog_21_method_66_code
def yX3_reaches : MethodName := ⟨RX3, "reaches", "(I)I"⟩
def dkwX3_reaches_6 : List UInt8 := [167, 255, 180, 28, 172]
abbrev dktX3_reaches_6 : List UInt8 := dkwX3_reaches_6 ++ []
def dkwX3_reaches_5 : List UInt8 := [180, 0, 47, 29, 46, 42, 180, 0, 41, 29, 46, 159, 0, 7, 4, 167, 0, 4, 3, 96, 61, 132, 3, 1]
abbrev dktX3_reaches_5 : List UInt8 := dkwX3_reaches_5 ++ dktX3_reaches_6
def dkwX3_reaches_4 : List UInt8 := [159, 0, 40, 42, 21, 4, 29, 5, 108, 16, 6, 112, 29, 5, 112, 182, 0, 135, 153, 0, 22, 42]
abbrev dktX3_reaches_4 : List UInt8 := dkwX3_reaches_4 ++ dktX3_reaches_5
def dkwX3_reaches_3 : List UInt8 := [162, 0, 73, 29, 16, 12, 108, 54, 4, 28, 21, 4, 42, 180, 0, 9, 3, 46, 162, 0, 46, 21, 4, 27]
abbrev dktX3_reaches_3 : List UInt8 := dkwX3_reaches_3 ++ dktX3_reaches_4
def dkwX3_reaches_2 : List UInt8 := [46, 79, 132, 2, 1, 167, 255, 232, 42, 2, 27, 182, 0, 159, 3, 61, 3, 62, 29, 42, 180, 0, 47, 190]
abbrev dktX3_reaches_2 : List UInt8 := dkwX3_reaches_2 ++ dktX3_reaches_3
def dkwX3_reaches_1 : List UInt8 := [182, 0, 159, 3, 61, 28, 42, 180, 0, 47, 190, 162, 0, 21, 42, 180, 0, 47, 28, 42, 180, 0, 41, 28]
abbrev dktX3_reaches_1 : List UInt8 := dkwX3_reaches_1 ++ dktX3_reaches_2
def dkwX3_reaches_0 : List UInt8 := [42, 3, 181, 0, 69, 42, 27, 182, 0, 118, 154, 0, 9, 42, 4, 182, 0, 81, 172, 42, 2, 2]
abbrev dktX3_reaches_0 : List UInt8 := dkwX3_reaches_0 ++ dktX3_reaches_1
theorem dksX3_reaches_0 : cX3_reaches.data.toList.drop 0 = dktX3_reaches_0 := by decide +kernel
theorem dksX3_reaches_1 : cX3_reaches.data.toList.drop 22 = dktX3_reaches_1 := dk_seg dksX3_reaches_0 22 rfl rfl
theorem dksX3_reaches_2 : cX3_reaches.data.toList.drop 46 = dktX3_reaches_2 := dk_seg dksX3_reaches_1 24 rfl rfl
theorem dksX3_reaches_3 : cX3_reaches.data.toList.drop 70 = dktX3_reaches_3 := dk_seg dksX3_reaches_2 24 rfl rfl
theorem dksX3_reaches_4 : cX3_reaches.data.toList.drop 94 = dktX3_reaches_4 := dk_seg dksX3_reaches_3 24 rfl rfl
theorem dksX3_reaches_5 : cX3_reaches.data.toList.drop 116 = dktX3_reaches_5 := dk_seg dksX3_reaches_4 22 rfl rfl
theorem dksX3_reaches_6 : cX3_reaches.data.toList.drop 140 = dktX3_reaches_6 := dk_seg dksX3_reaches_5 24 rfl rfl
theorem dX3_reaches_0 : decode cX3_reaches 0 = .ok (.aload_n 0, 1) := dk_42 (dk_at dksX3_reaches_0 0 rfl rfl)
theorem dX3_reaches_1 : decode cX3_reaches 1 = .ok (.iconst 0, 1) := dk_3 (dk_at dksX3_reaches_0 1 rfl rfl)
theorem dX3_reaches_2 : decode cX3_reaches 2 = .ok (.putfield 69, 3) := dk_181 0 69 (dk_at dksX3_reaches_0 2 rfl rfl)
theorem dX3_reaches_5 : decode cX3_reaches 5 = .ok (.aload_n 0, 1) := dk_42 (dk_at dksX3_reaches_0 5 rfl rfl)
theorem dX3_reaches_6 : decode cX3_reaches 6 = .ok (.iload_n 1, 1) := dk_27 (dk_at dksX3_reaches_0 6 rfl rfl)
theorem dX3_reaches_7 : decode cX3_reaches 7 = .ok (.invokevirtual 118, 3) := dk_182 0 118 (dk_at dksX3_reaches_0 7 rfl rfl)
theorem dX3_reaches_10 : decode cX3_reaches 10 = .ok (.ifCond .ne 9, 3) := dk_154 0 9 (dk_at dksX3_reaches_0 10 rfl rfl)
theorem dX3_reaches_13 : decode cX3_reaches 13 = .ok (.aload_n 0, 1) := dk_42 (dk_at dksX3_reaches_0 13 rfl rfl)
theorem dX3_reaches_14 : decode cX3_reaches 14 = .ok (.iconst 1, 1) := dk_4 (dk_at dksX3_reaches_0 14 rfl rfl)
theorem dX3_reaches_15 : decode cX3_reaches 15 = .ok (.invokevirtual 81, 3) := dk_182 0 81 (dk_at dksX3_reaches_0 15 rfl rfl)
theorem dX3_reaches_18 : decode cX3_reaches 18 = .ok (.ireturn, 1) := dk_172 (dk_at dksX3_reaches_0 18 rfl rfl)
theorem dX3_reaches_19 : decode cX3_reaches 19 = .ok (.aload_n 0, 1) := dk_42 (dk_at dksX3_reaches_0 19 rfl rfl)
theorem dX3_reaches_20 : decode cX3_reaches 20 = .ok (.iconst (-1), 1) := dk_2 (dk_at dksX3_reaches_0 20 rfl rfl)
theorem dX3_reaches_21 : decode cX3_reaches 21 = .ok (.iconst (-1), 1) := dk_2 (dk_at dksX3_reaches_0 21 rfl rfl)
theorem dX3_reaches_22 : decode cX3_reaches 22 = .ok (.invokevirtual 159, 3) := dk_182 0 159 (dk_at dksX3_reaches_1 0 rfl rfl)
theorem dX3_reaches_25 : decode cX3_reaches 25 = .ok (.iconst 0, 1) := dk_3 (dk_at dksX3_reaches_1 3 rfl rfl)
theorem dX3_reaches_26 : decode cX3_reaches 26 = .ok (.istore_n 2, 1) := dk_61 (dk_at dksX3_reaches_1 4 rfl rfl)
theorem dX3_reaches_27 : decode cX3_reaches 27 = .ok (.iload_n 2, 1) := dk_28 (dk_at dksX3_reaches_1 5 rfl rfl)
theorem dX3_reaches_28 : decode cX3_reaches 28 = .ok (.aload_n 0, 1) := dk_42 (dk_at dksX3_reaches_1 6 rfl rfl)
theorem dX3_reaches_29 : decode cX3_reaches 29 = .ok (.getfield 47, 3) := dk_180 0 47 (dk_at dksX3_reaches_1 7 rfl rfl)
theorem dX3_reaches_32 : decode cX3_reaches 32 = .ok (.arraylength, 1) := dk_190 (dk_at dksX3_reaches_1 10 rfl rfl)
theorem dX3_reaches_33 : decode cX3_reaches 33 = .ok (.if_icmp .ge 21, 3) := dk_162 0 21 (dk_at dksX3_reaches_1 11 rfl rfl)
theorem dX3_reaches_36 : decode cX3_reaches 36 = .ok (.aload_n 0, 1) := dk_42 (dk_at dksX3_reaches_1 14 rfl rfl)
theorem dX3_reaches_37 : decode cX3_reaches 37 = .ok (.getfield 47, 3) := dk_180 0 47 (dk_at dksX3_reaches_1 15 rfl rfl)
theorem dX3_reaches_40 : decode cX3_reaches 40 = .ok (.iload_n 2, 1) := dk_28 (dk_at dksX3_reaches_1 18 rfl rfl)
theorem dX3_reaches_41 : decode cX3_reaches 41 = .ok (.aload_n 0, 1) := dk_42 (dk_at dksX3_reaches_1 19 rfl rfl)
theorem dX3_reaches_42 : decode cX3_reaches 42 = .ok (.getfield 41, 3) := dk_180 0 41 (dk_at dksX3_reaches_1 20 rfl rfl)
theorem dX3_reaches_45 : decode cX3_reaches 45 = .ok (.iload_n 2, 1) := dk_28 (dk_at dksX3_reaches_1 23 rfl rfl)
theorem dX3_reaches_46 : decode cX3_reaches 46 = .ok (.iaload, 1) := dk_46 (dk_at dksX3_reaches_2 0 rfl rfl)
theorem dX3_reaches_47 : decode cX3_reaches 47 = .ok (.iastore, 1) := dk_79 (dk_at dksX3_reaches_2 1 rfl rfl)
theorem dX3_reaches_48 : decode cX3_reaches 48 = .ok (.iinc 2 1, 3) := dk_132 2 1 (dk_at dksX3_reaches_2 2 rfl rfl)
theorem dX3_reaches_51 : decode cX3_reaches 51 = .ok (.goto (-24), 3) := dk_167 255 232 (dk_at dksX3_reaches_2 5 rfl rfl)
theorem dX3_reaches_54 : decode cX3_reaches 54 = .ok (.aload_n 0, 1) := dk_42 (dk_at dksX3_reaches_2 8 rfl rfl)
theorem dX3_reaches_55 : decode cX3_reaches 55 = .ok (.iconst (-1), 1) := dk_2 (dk_at dksX3_reaches_2 9 rfl rfl)
theorem dX3_reaches_56 : decode cX3_reaches 56 = .ok (.iload_n 1, 1) := dk_27 (dk_at dksX3_reaches_2 10 rfl rfl)
theorem dX3_reaches_57 : decode cX3_reaches 57 = .ok (.invokevirtual 159, 3) := dk_182 0 159 (dk_at dksX3_reaches_2 11 rfl rfl)
theorem dX3_reaches_60 : decode cX3_reaches 60 = .ok (.iconst 0, 1) := dk_3 (dk_at dksX3_reaches_2 14 rfl rfl)
theorem dX3_reaches_61 : decode cX3_reaches 61 = .ok (.istore_n 2, 1) := dk_61 (dk_at dksX3_reaches_2 15 rfl rfl)
theorem dX3_reaches_62 : decode cX3_reaches 62 = .ok (.iconst 0, 1) := dk_3 (dk_at dksX3_reaches_2 16 rfl rfl)
theorem dX3_reaches_63 : decode cX3_reaches 63 = .ok (.istore_n 3, 1) := dk_62 (dk_at dksX3_reaches_2 17 rfl rfl)
theorem dX3_reaches_64 : decode cX3_reaches 64 = .ok (.iload_n 3, 1) := dk_29 (dk_at dksX3_reaches_2 18 rfl rfl)
theorem dX3_reaches_65 : decode cX3_reaches 65 = .ok (.aload_n 0, 1) := dk_42 (dk_at dksX3_reaches_2 19 rfl rfl)
theorem dX3_reaches_66 : decode cX3_reaches 66 = .ok (.getfield 47, 3) := dk_180 0 47 (dk_at dksX3_reaches_2 20 rfl rfl)
theorem dX3_reaches_69 : decode cX3_reaches 69 = .ok (.arraylength, 1) := dk_190 (dk_at dksX3_reaches_2 23 rfl rfl)
theorem dX3_reaches_70 : decode cX3_reaches 70 = .ok (.if_icmp .ge 73, 3) := dk_162 0 73 (dk_at dksX3_reaches_3 0 rfl rfl)
theorem dX3_reaches_73 : decode cX3_reaches 73 = .ok (.iload_n 3, 1) := dk_29 (dk_at dksX3_reaches_3 3 rfl rfl)
theorem dX3_reaches_74 : decode cX3_reaches 74 = .ok (.bipush 12, 2) := dk_16 12 (dk_at dksX3_reaches_3 4 rfl rfl)
theorem dX3_reaches_76 : decode cX3_reaches 76 = .ok (.idiv, 1) := dk_108 (dk_at dksX3_reaches_3 6 rfl rfl)
theorem dX3_reaches_77 : decode cX3_reaches 77 = .ok (.istore 4, 2) := dk_54 4 (dk_at dksX3_reaches_3 7 rfl rfl)
theorem dX3_reaches_79 : decode cX3_reaches 79 = .ok (.iload_n 2, 1) := dk_28 (dk_at dksX3_reaches_3 9 rfl rfl)
theorem dX3_reaches_80 : decode cX3_reaches 80 = .ok (.iload 4, 2) := dk_21 4 (dk_at dksX3_reaches_3 10 rfl rfl)
theorem dX3_reaches_82 : decode cX3_reaches 82 = .ok (.aload_n 0, 1) := dk_42 (dk_at dksX3_reaches_3 12 rfl rfl)
theorem dX3_reaches_83 : decode cX3_reaches 83 = .ok (.getfield 9, 3) := dk_180 0 9 (dk_at dksX3_reaches_3 13 rfl rfl)
theorem dX3_reaches_86 : decode cX3_reaches 86 = .ok (.iconst 0, 1) := dk_3 (dk_at dksX3_reaches_3 16 rfl rfl)
theorem dX3_reaches_87 : decode cX3_reaches 87 = .ok (.iaload, 1) := dk_46 (dk_at dksX3_reaches_3 17 rfl rfl)
theorem dX3_reaches_88 : decode cX3_reaches 88 = .ok (.if_icmp .ge 46, 3) := dk_162 0 46 (dk_at dksX3_reaches_3 18 rfl rfl)
theorem dX3_reaches_91 : decode cX3_reaches 91 = .ok (.iload 4, 2) := dk_21 4 (dk_at dksX3_reaches_3 21 rfl rfl)
theorem dX3_reaches_93 : decode cX3_reaches 93 = .ok (.iload_n 1, 1) := dk_27 (dk_at dksX3_reaches_3 23 rfl rfl)
theorem dX3_reaches_94 : decode cX3_reaches 94 = .ok (.if_icmp .eq 40, 3) := dk_159 0 40 (dk_at dksX3_reaches_4 0 rfl rfl)
theorem dX3_reaches_97 : decode cX3_reaches 97 = .ok (.aload_n 0, 1) := dk_42 (dk_at dksX3_reaches_4 3 rfl rfl)
theorem dX3_reaches_98 : decode cX3_reaches 98 = .ok (.iload 4, 2) := dk_21 4 (dk_at dksX3_reaches_4 4 rfl rfl)
theorem dX3_reaches_100 : decode cX3_reaches 100 = .ok (.iload_n 3, 1) := dk_29 (dk_at dksX3_reaches_4 6 rfl rfl)
theorem dX3_reaches_101 : decode cX3_reaches 101 = .ok (.iconst 2, 1) := dk_5 (dk_at dksX3_reaches_4 7 rfl rfl)
theorem dX3_reaches_102 : decode cX3_reaches 102 = .ok (.idiv, 1) := dk_108 (dk_at dksX3_reaches_4 8 rfl rfl)
theorem dX3_reaches_103 : decode cX3_reaches 103 = .ok (.bipush 6, 2) := dk_16 6 (dk_at dksX3_reaches_4 9 rfl rfl)
theorem dX3_reaches_105 : decode cX3_reaches 105 = .ok (.irem, 1) := dk_112 (dk_at dksX3_reaches_4 11 rfl rfl)
theorem dX3_reaches_106 : decode cX3_reaches 106 = .ok (.iload_n 3, 1) := dk_29 (dk_at dksX3_reaches_4 12 rfl rfl)
theorem dX3_reaches_107 : decode cX3_reaches 107 = .ok (.iconst 2, 1) := dk_5 (dk_at dksX3_reaches_4 13 rfl rfl)
theorem dX3_reaches_108 : decode cX3_reaches 108 = .ok (.irem, 1) := dk_112 (dk_at dksX3_reaches_4 14 rfl rfl)
theorem dX3_reaches_109 : decode cX3_reaches 109 = .ok (.invokevirtual 135, 3) := dk_182 0 135 (dk_at dksX3_reaches_4 15 rfl rfl)
theorem dX3_reaches_112 : decode cX3_reaches 112 = .ok (.ifCond .eq 22, 3) := dk_153 0 22 (dk_at dksX3_reaches_4 18 rfl rfl)
theorem dX3_reaches_115 : decode cX3_reaches 115 = .ok (.aload_n 0, 1) := dk_42 (dk_at dksX3_reaches_4 21 rfl rfl)
theorem dX3_reaches_116 : decode cX3_reaches 116 = .ok (.getfield 47, 3) := dk_180 0 47 (dk_at dksX3_reaches_5 0 rfl rfl)
theorem dX3_reaches_119 : decode cX3_reaches 119 = .ok (.iload_n 3, 1) := dk_29 (dk_at dksX3_reaches_5 3 rfl rfl)
theorem dX3_reaches_120 : decode cX3_reaches 120 = .ok (.iaload, 1) := dk_46 (dk_at dksX3_reaches_5 4 rfl rfl)
theorem dX3_reaches_121 : decode cX3_reaches 121 = .ok (.aload_n 0, 1) := dk_42 (dk_at dksX3_reaches_5 5 rfl rfl)
theorem dX3_reaches_122 : decode cX3_reaches 122 = .ok (.getfield 41, 3) := dk_180 0 41 (dk_at dksX3_reaches_5 6 rfl rfl)
theorem dX3_reaches_125 : decode cX3_reaches 125 = .ok (.iload_n 3, 1) := dk_29 (dk_at dksX3_reaches_5 9 rfl rfl)
theorem dX3_reaches_126 : decode cX3_reaches 126 = .ok (.iaload, 1) := dk_46 (dk_at dksX3_reaches_5 10 rfl rfl)
theorem dX3_reaches_127 : decode cX3_reaches 127 = .ok (.if_icmp .eq 7, 3) := dk_159 0 7 (dk_at dksX3_reaches_5 11 rfl rfl)
theorem dX3_reaches_130 : decode cX3_reaches 130 = .ok (.iconst 1, 1) := dk_4 (dk_at dksX3_reaches_5 14 rfl rfl)
theorem dX3_reaches_131 : decode cX3_reaches 131 = .ok (.goto 4, 3) := dk_167 0 4 (dk_at dksX3_reaches_5 15 rfl rfl)
theorem dX3_reaches_134 : decode cX3_reaches 134 = .ok (.iconst 0, 1) := dk_3 (dk_at dksX3_reaches_5 18 rfl rfl)
theorem dX3_reaches_135 : decode cX3_reaches 135 = .ok (.iadd, 1) := dk_96 (dk_at dksX3_reaches_5 19 rfl rfl)
theorem dX3_reaches_136 : decode cX3_reaches 136 = .ok (.istore_n 2, 1) := dk_61 (dk_at dksX3_reaches_5 20 rfl rfl)
theorem dX3_reaches_137 : decode cX3_reaches 137 = .ok (.iinc 3 1, 3) := dk_132 3 1 (dk_at dksX3_reaches_5 21 rfl rfl)
theorem dX3_reaches_140 : decode cX3_reaches 140 = .ok (.goto (-76), 3) := dk_167 255 180 (dk_at dksX3_reaches_6 0 rfl rfl)
theorem dX3_reaches_143 : decode cX3_reaches 143 = .ok (.iload_n 2, 1) := dk_28 (dk_at dksX3_reaches_6 3 rfl rfl)
theorem dX3_reaches_144 : decode cX3_reaches 144 = .ok (.ireturn, 1) := dk_172 (dk_at dksX3_reaches_6 4 rfl rfl)
abbrev cX3_total : ByteArray := prog_21_method_67_code
def yX3_total : MethodName := ⟨RX3, "total", "()I"⟩
def dkwX3_total_0 : List UInt8 := [42, 3, 181, 0, 69, 42, 2, 2, 182, 0, 159, 42, 2, 182, 0, 253, 172]
abbrev dktX3_total_0 : List UInt8 := dkwX3_total_0 ++ []
theorem dksX3_total_0 : cX3_total.data.toList.drop 0 = dktX3_total_0 := by decide +kernel
theorem dX3_total_0 : decode cX3_total 0 = .ok (.aload_n 0, 1) := dk_42 (dk_at dksX3_total_0 0 rfl rfl)
theorem dX3_total_1 : decode cX3_total 1 = .ok (.iconst 0, 1) := dk_3 (dk_at dksX3_total_0 1 rfl rfl)
theorem dX3_total_2 : decode cX3_total 2 = .ok (.putfield 69, 3) := dk_181 0 69 (dk_at dksX3_total_0 2 rfl rfl)
theorem dX3_total_5 : decode cX3_total 5 = .ok (.aload_n 0, 1) := dk_42 (dk_at dksX3_total_0 5 rfl rfl)
theorem dX3_total_6 : decode cX3_total 6 = .ok (.iconst (-1), 1) := dk_2 (dk_at dksX3_total_0 6 rfl rfl)
theorem dX3_total_7 : decode cX3_total 7 = .ok (.iconst (-1), 1) := dk_2 (dk_at dksX3_total_0 7 rfl rfl)
theorem dX3_total_8 : decode cX3_total 8 = .ok (.invokevirtual 159, 3) := dk_182 0 159 (dk_at dksX3_total_0 8 rfl rfl)
theorem dX3_total_11 : decode cX3_total 11 = .ok (.aload_n 0, 1) := dk_42 (dk_at dksX3_total_0 11 rfl rfl)
theorem dX3_total_12 : decode cX3_total 12 = .ok (.iconst (-1), 1) := dk_2 (dk_at dksX3_total_0 12 rfl rfl)
theorem dX3_total_13 : decode cX3_total 13 = .ok (.invokevirtual 253, 3) := dk_182 0 253 (dk_at dksX3_total_0 13 rfl rfl)
theorem dX3_total_16 : decode cX3_total 16 = .ok (.ireturn, 1) := dk_172 (dk_at dksX3_total_0 16 rfl rfl)
abbrev cX3_totalWith : ByteArray := prog_21_method_68_code
def yX3_totalWith : MethodName := ⟨RX3, "totalWith", "(I)I"⟩
def dkwX3_totalWith_1 : List UInt8 := [27, 2, 182, 0, 159, 42, 2, 182, 0, 253, 172]
abbrev dktX3_totalWith_1 : List UInt8 := dkwX3_totalWith_1 ++ []
def dkwX3_totalWith_0 : List UInt8 := [42, 3, 181, 0, 69, 27, 133, 9, 20, 0, 139, 184, 0, 88, 154, 0, 9, 42, 4, 182, 0, 81, 172, 42]
abbrev dktX3_totalWith_0 : List UInt8 := dkwX3_totalWith_0 ++ dktX3_totalWith_1
theorem dksX3_totalWith_0 : cX3_totalWith.data.toList.drop 0 = dktX3_totalWith_0 := by decide +kernel
theorem dksX3_totalWith_1 : cX3_totalWith.data.toList.drop 24 = dktX3_totalWith_1 := dk_seg dksX3_totalWith_0 24 rfl rfl
theorem dX3_totalWith_0 : decode cX3_totalWith 0 = .ok (.aload_n 0, 1) := dk_42 (dk_at dksX3_totalWith_0 0 rfl rfl)
theorem dX3_totalWith_1 : decode cX3_totalWith 1 = .ok (.iconst 0, 1) := dk_3 (dk_at dksX3_totalWith_0 1 rfl rfl)
theorem dX3_totalWith_2 : decode cX3_totalWith 2 = .ok (.putfield 69, 3) := dk_181 0 69 (dk_at dksX3_totalWith_0 2 rfl rfl)
theorem dX3_totalWith_5 : decode cX3_totalWith 5 = .ok (.iload_n 1, 1) := dk_27 (dk_at dksX3_totalWith_0 5 rfl rfl)
theorem dX3_totalWith_6 : decode cX3_totalWith 6 = .ok (.i2l, 1) := dk_133 (dk_at dksX3_totalWith_0 6 rfl rfl)
theorem dX3_totalWith_7 : decode cX3_totalWith 7 = .ok (.lconst 0, 1) := dk_9 (dk_at dksX3_totalWith_0 7 rfl rfl)
theorem dX3_totalWith_8 : decode cX3_totalWith 8 = .ok (.ldc2_w 139, 3) := dk_20 0 139 (dk_at dksX3_totalWith_0 8 rfl rfl)
theorem dX3_totalWith_11 : decode cX3_totalWith 11 = .ok (.invokestatic 88, 3) := dk_184 0 88 (dk_at dksX3_totalWith_0 11 rfl rfl)
theorem dX3_totalWith_14 : decode cX3_totalWith 14 = .ok (.ifCond .ne 9, 3) := dk_154 0 9 (dk_at dksX3_totalWith_0 14 rfl rfl)
theorem dX3_totalWith_17 : decode cX3_totalWith 17 = .ok (.aload_n 0, 1) := dk_42 (dk_at dksX3_totalWith_0 17 rfl rfl)
theorem dX3_totalWith_18 : decode cX3_totalWith 18 = .ok (.iconst 1, 1) := dk_4 (dk_at dksX3_totalWith_0 18 rfl rfl)
theorem dX3_totalWith_19 : decode cX3_totalWith 19 = .ok (.invokevirtual 81, 3) := dk_182 0 81 (dk_at dksX3_totalWith_0 19 rfl rfl)
theorem dX3_totalWith_22 : decode cX3_totalWith 22 = .ok (.ireturn, 1) := dk_172 (dk_at dksX3_totalWith_0 22 rfl rfl)
theorem dX3_totalWith_23 : decode cX3_totalWith 23 = .ok (.aload_n 0, 1) := dk_42 (dk_at dksX3_totalWith_0 23 rfl rfl)
theorem dX3_totalWith_24 : decode cX3_totalWith 24 = .ok (.iload_n 1, 1) := dk_27 (dk_at dksX3_totalWith_1 0 rfl rfl)
theorem dX3_totalWith_25 : decode cX3_totalWith 25 = .ok (.iconst (-1), 1) := dk_2 (dk_at dksX3_totalWith_1 1 rfl rfl)
theorem dX3_totalWith_26 : decode cX3_totalWith 26 = .ok (.invokevirtual 159, 3) := dk_182 0 159 (dk_at dksX3_totalWith_1 2 rfl rfl)
theorem dX3_totalWith_29 : decode cX3_totalWith 29 = .ok (.aload_n 0, 1) := dk_42 (dk_at dksX3_totalWith_1 5 rfl rfl)
theorem dX3_totalWith_30 : decode cX3_totalWith 30 = .ok (.iconst (-1), 1) := dk_2 (dk_at dksX3_totalWith_1 6 rfl rfl)
theorem dX3_totalWith_31 : decode cX3_totalWith 31 = .ok (.invokevirtual 253, 3) := dk_182 0 253 (dk_at dksX3_totalWith_1 7 rfl rfl)
theorem dX3_totalWith_34 : decode cX3_totalWith 34 = .ok (.ireturn, 1) := dk_172 (dk_at dksX3_totalWith_1 10 rfl rfl)
abbrev cX3_missedWith : ByteArray := prog_21_method_69_code
def yX3_missedWith : MethodName := ⟨RX3, "missedWith", "(I)I"⟩
def dkwX3_missedWith_1 : List UInt8 := [27, 2, 182, 0, 159, 42, 182, 1, 0, 172]
abbrev dktX3_missedWith_1 : List UInt8 := dkwX3_missedWith_1 ++ []
def dkwX3_missedWith_0 : List UInt8 := [42, 3, 181, 0, 69, 27, 133, 9, 20, 0, 139, 184, 0, 88, 154, 0, 9, 42, 4, 182, 0, 81, 172, 42]
abbrev dktX3_missedWith_0 : List UInt8 := dkwX3_missedWith_0 ++ dktX3_missedWith_1
theorem dksX3_missedWith_0 : cX3_missedWith.data.toList.drop 0 = dktX3_missedWith_0 := by decide +kernel
theorem dksX3_missedWith_1 : cX3_missedWith.data.toList.drop 24 = dktX3_missedWith_1 := dk_seg dksX3_missedWith_0 24 rfl rfl
theorem dX3_missedWith_0 : decode cX3_missedWith 0 = .ok (.aload_n 0, 1) := dk_42 (dk_at dksX3_missedWith_0 0 rfl rfl)
theorem dX3_missedWith_1 : decode cX3_missedWith 1 = .ok (.iconst 0, 1) := dk_3 (dk_at dksX3_missedWith_0 1 rfl rfl)
theorem dX3_missedWith_2 : decode cX3_missedWith 2 = .ok (.putfield 69, 3) := dk_181 0 69 (dk_at dksX3_missedWith_0 2 rfl rfl)
theorem dX3_missedWith_5 : decode cX3_missedWith 5 = .ok (.iload_n 1, 1) := dk_27 (dk_at dksX3_missedWith_0 5 rfl rfl)
theorem dX3_missedWith_6 : decode cX3_missedWith 6 = .ok (.i2l, 1) := dk_133 (dk_at dksX3_missedWith_0 6 rfl rfl)
theorem dX3_missedWith_7 : decode cX3_missedWith 7 = .ok (.lconst 0, 1) := dk_9 (dk_at dksX3_missedWith_0 7 rfl rfl)
theorem dX3_missedWith_8 : decode cX3_missedWith 8 = .ok (.ldc2_w 139, 3) := dk_20 0 139 (dk_at dksX3_missedWith_0 8 rfl rfl)
theorem dX3_missedWith_11 : decode cX3_missedWith 11 = .ok (.invokestatic 88, 3) := dk_184 0 88 (dk_at dksX3_missedWith_0 11 rfl rfl)
theorem dX3_missedWith_14 : decode cX3_missedWith 14 = .ok (.ifCond .ne 9, 3) := dk_154 0 9 (dk_at dksX3_missedWith_0 14 rfl rfl)
theorem dX3_missedWith_17 : decode cX3_missedWith 17 = .ok (.aload_n 0, 1) := dk_42 (dk_at dksX3_missedWith_0 17 rfl rfl)
theorem dX3_missedWith_18 : decode cX3_missedWith 18 = .ok (.iconst 1, 1) := dk_4 (dk_at dksX3_missedWith_0 18 rfl rfl)
theorem dX3_missedWith_19 : decode cX3_missedWith 19 = .ok (.invokevirtual 81, 3) := dk_182 0 81 (dk_at dksX3_missedWith_0 19 rfl rfl)
theorem dX3_missedWith_22 : decode cX3_missedWith 22 = .ok (.ireturn, 1) := dk_172 (dk_at dksX3_missedWith_0 22 rfl rfl)
theorem dX3_missedWith_23 : decode cX3_missedWith 23 = .ok (.aload_n 0, 1) := dk_42 (dk_at dksX3_missedWith_0 23 rfl rfl)
theorem dX3_missedWith_24 : decode cX3_missedWith 24 = .ok (.iload_n 1, 1) := dk_27 (dk_at dksX3_missedWith_1 0 rfl rfl)
theorem dX3_missedWith_25 : decode cX3_missedWith 25 = .ok (.iconst (-1), 1) := dk_2 (dk_at dksX3_missedWith_1 1 rfl rfl)
theorem dX3_missedWith_26 : decode cX3_missedWith 26 = .ok (.invokevirtual 159, 3) := dk_182 0 159 (dk_at dksX3_missedWith_1 2 rfl rfl)
theorem dX3_missedWith_29 : decode cX3_missedWith 29 = .ok (.aload_n 0, 1) := dk_42 (dk_at dksX3_missedWith_1 5 rfl rfl)
theorem dX3_missedWith_30 : decode cX3_missedWith 30 = .ok (.invokevirtual 256, 3) := dk_182 1 0 (dk_at dksX3_missedWith_1 6 rfl rfl)
theorem dX3_missedWith_33 : decode cX3_missedWith 33 = .ok (.ireturn, 1) := dk_172 (dk_at dksX3_missedWith_1 9 rfl rfl)
abbrev cX3_missedOnes : ByteArray := prog_21_method_61_code
def yX3_missedOnes : MethodName := ⟨RX3, "missedOnes", "()I"⟩
def dkwX3_missedOnes_1 : List UInt8 := [167, 0, 4, 4, 96, 60, 132, 2, 1, 167, 255, 227, 27, 172]
abbrev dktX3_missedOnes_1 : List UInt8 := dkwX3_missedOnes_1 ++ []
def dkwX3_missedOnes_0 : List UInt8 := [3, 60, 3, 61, 28, 42, 180, 0, 9, 4, 46, 162, 0, 25, 27, 42, 28, 182, 0, 220, 153, 0, 7, 3]
abbrev dktX3_missedOnes_0 : List UInt8 := dkwX3_missedOnes_0 ++ dktX3_missedOnes_1
theorem dksX3_missedOnes_0 : cX3_missedOnes.data.toList.drop 0 = dktX3_missedOnes_0 := by decide +kernel
theorem dksX3_missedOnes_1 : cX3_missedOnes.data.toList.drop 24 = dktX3_missedOnes_1 := dk_seg dksX3_missedOnes_0 24 rfl rfl
theorem dX3_missedOnes_0 : decode cX3_missedOnes 0 = .ok (.iconst 0, 1) := dk_3 (dk_at dksX3_missedOnes_0 0 rfl rfl)
theorem dX3_missedOnes_1 : decode cX3_missedOnes 1 = .ok (.istore_n 1, 1) := dk_60 (dk_at dksX3_missedOnes_0 1 rfl rfl)
theorem dX3_missedOnes_2 : decode cX3_missedOnes 2 = .ok (.iconst 0, 1) := dk_3 (dk_at dksX3_missedOnes_0 2 rfl rfl)
theorem dX3_missedOnes_3 : decode cX3_missedOnes 3 = .ok (.istore_n 2, 1) := dk_61 (dk_at dksX3_missedOnes_0 3 rfl rfl)
theorem dX3_missedOnes_4 : decode cX3_missedOnes 4 = .ok (.iload_n 2, 1) := dk_28 (dk_at dksX3_missedOnes_0 4 rfl rfl)
theorem dX3_missedOnes_5 : decode cX3_missedOnes 5 = .ok (.aload_n 0, 1) := dk_42 (dk_at dksX3_missedOnes_0 5 rfl rfl)
theorem dX3_missedOnes_6 : decode cX3_missedOnes 6 = .ok (.getfield 9, 3) := dk_180 0 9 (dk_at dksX3_missedOnes_0 6 rfl rfl)
theorem dX3_missedOnes_9 : decode cX3_missedOnes 9 = .ok (.iconst 1, 1) := dk_4 (dk_at dksX3_missedOnes_0 9 rfl rfl)
theorem dX3_missedOnes_10 : decode cX3_missedOnes 10 = .ok (.iaload, 1) := dk_46 (dk_at dksX3_missedOnes_0 10 rfl rfl)
theorem dX3_missedOnes_11 : decode cX3_missedOnes 11 = .ok (.if_icmp .ge 25, 3) := dk_162 0 25 (dk_at dksX3_missedOnes_0 11 rfl rfl)
theorem dX3_missedOnes_14 : decode cX3_missedOnes 14 = .ok (.iload_n 1, 1) := dk_27 (dk_at dksX3_missedOnes_0 14 rfl rfl)
theorem dX3_missedOnes_15 : decode cX3_missedOnes 15 = .ok (.aload_n 0, 1) := dk_42 (dk_at dksX3_missedOnes_0 15 rfl rfl)
theorem dX3_missedOnes_16 : decode cX3_missedOnes 16 = .ok (.iload_n 2, 1) := dk_28 (dk_at dksX3_missedOnes_0 16 rfl rfl)
theorem dX3_missedOnes_17 : decode cX3_missedOnes 17 = .ok (.invokevirtual 220, 3) := dk_182 0 220 (dk_at dksX3_missedOnes_0 17 rfl rfl)
theorem dX3_missedOnes_20 : decode cX3_missedOnes 20 = .ok (.ifCond .eq 7, 3) := dk_153 0 7 (dk_at dksX3_missedOnes_0 20 rfl rfl)
theorem dX3_missedOnes_23 : decode cX3_missedOnes 23 = .ok (.iconst 0, 1) := dk_3 (dk_at dksX3_missedOnes_0 23 rfl rfl)
theorem dX3_missedOnes_24 : decode cX3_missedOnes 24 = .ok (.goto 4, 3) := dk_167 0 4 (dk_at dksX3_missedOnes_1 0 rfl rfl)
theorem dX3_missedOnes_27 : decode cX3_missedOnes 27 = .ok (.iconst 1, 1) := dk_4 (dk_at dksX3_missedOnes_1 3 rfl rfl)
theorem dX3_missedOnes_28 : decode cX3_missedOnes 28 = .ok (.iadd, 1) := dk_96 (dk_at dksX3_missedOnes_1 4 rfl rfl)
theorem dX3_missedOnes_29 : decode cX3_missedOnes 29 = .ok (.istore_n 1, 1) := dk_60 (dk_at dksX3_missedOnes_1 5 rfl rfl)
theorem dX3_missedOnes_30 : decode cX3_missedOnes 30 = .ok (.iinc 2 1, 3) := dk_132 2 1 (dk_at dksX3_missedOnes_1 6 rfl rfl)
theorem dX3_missedOnes_33 : decode cX3_missedOnes 33 = .ok (.goto (-29), 3) := dk_167 255 227 (dk_at dksX3_missedOnes_1 9 rfl rfl)
theorem dX3_missedOnes_36 : decode cX3_missedOnes 36 = .ok (.iload_n 1, 1) := dk_27 (dk_at dksX3_missedOnes_1 12 rfl rfl)
theorem dX3_missedOnes_37 : decode cX3_missedOnes 37 = .ok (.ireturn, 1) := dk_172 (dk_at dksX3_missedOnes_1 13 rfl rfl)
abbrev cX3_bestLimit : ByteArray := prog_21_method_70_code
def yX3_bestLimit : MethodName := ⟨RX3, "bestLimit", "(I)I"⟩
def dkwX3_bestLimit_3 : List UInt8 := [21, 4, 61, 21, 5, 62, 132, 4, 1, 167, 255, 208, 28, 172]
abbrev dktX3_bestLimit_3 : List UInt8 := dkwX3_bestLimit_3 ++ []
def dkwX3_bestLimit_2 : List UInt8 := [182, 0, 253, 27, 42, 182, 1, 0, 104, 96, 54, 5, 21, 4, 153, 0, 9, 21, 5, 29, 162, 0, 9]
abbrev dktX3_bestLimit_2 : List UInt8 := dkwX3_bestLimit_2 ++ dktX3_bestLimit_3
def dkwX3_bestLimit_1 : List UInt8 := [61, 3, 62, 3, 54, 4, 21, 4, 16, 60, 163, 0, 47, 42, 21, 4, 2, 182, 0, 159, 42, 2]
abbrev dktX3_bestLimit_1 : List UInt8 := dkwX3_bestLimit_1 ++ dktX3_bestLimit_2
def dkwX3_bestLimit_0 : List UInt8 := [42, 3, 181, 0, 69, 27, 133, 9, 20, 1, 3, 184, 0, 88, 154, 0, 9, 42, 4, 182, 0, 81, 172, 3]
abbrev dktX3_bestLimit_0 : List UInt8 := dkwX3_bestLimit_0 ++ dktX3_bestLimit_1
theorem dksX3_bestLimit_0 : cX3_bestLimit.data.toList.drop 0 = dktX3_bestLimit_0 := by decide +kernel
theorem dksX3_bestLimit_1 : cX3_bestLimit.data.toList.drop 24 = dktX3_bestLimit_1 := dk_seg dksX3_bestLimit_0 24 rfl rfl
theorem dksX3_bestLimit_2 : cX3_bestLimit.data.toList.drop 46 = dktX3_bestLimit_2 := dk_seg dksX3_bestLimit_1 22 rfl rfl
theorem dksX3_bestLimit_3 : cX3_bestLimit.data.toList.drop 69 = dktX3_bestLimit_3 := dk_seg dksX3_bestLimit_2 23 rfl rfl
theorem dX3_bestLimit_0 : decode cX3_bestLimit 0 = .ok (.aload_n 0, 1) := dk_42 (dk_at dksX3_bestLimit_0 0 rfl rfl)
theorem dX3_bestLimit_1 : decode cX3_bestLimit 1 = .ok (.iconst 0, 1) := dk_3 (dk_at dksX3_bestLimit_0 1 rfl rfl)
theorem dX3_bestLimit_2 : decode cX3_bestLimit 2 = .ok (.putfield 69, 3) := dk_181 0 69 (dk_at dksX3_bestLimit_0 2 rfl rfl)
theorem dX3_bestLimit_5 : decode cX3_bestLimit 5 = .ok (.iload_n 1, 1) := dk_27 (dk_at dksX3_bestLimit_0 5 rfl rfl)
theorem dX3_bestLimit_6 : decode cX3_bestLimit 6 = .ok (.i2l, 1) := dk_133 (dk_at dksX3_bestLimit_0 6 rfl rfl)
theorem dX3_bestLimit_7 : decode cX3_bestLimit 7 = .ok (.lconst 0, 1) := dk_9 (dk_at dksX3_bestLimit_0 7 rfl rfl)
theorem dX3_bestLimit_8 : decode cX3_bestLimit 8 = .ok (.ldc2_w 259, 3) := dk_20 1 3 (dk_at dksX3_bestLimit_0 8 rfl rfl)
theorem dX3_bestLimit_11 : decode cX3_bestLimit 11 = .ok (.invokestatic 88, 3) := dk_184 0 88 (dk_at dksX3_bestLimit_0 11 rfl rfl)
theorem dX3_bestLimit_14 : decode cX3_bestLimit 14 = .ok (.ifCond .ne 9, 3) := dk_154 0 9 (dk_at dksX3_bestLimit_0 14 rfl rfl)
theorem dX3_bestLimit_17 : decode cX3_bestLimit 17 = .ok (.aload_n 0, 1) := dk_42 (dk_at dksX3_bestLimit_0 17 rfl rfl)
theorem dX3_bestLimit_18 : decode cX3_bestLimit 18 = .ok (.iconst 1, 1) := dk_4 (dk_at dksX3_bestLimit_0 18 rfl rfl)
theorem dX3_bestLimit_19 : decode cX3_bestLimit 19 = .ok (.invokevirtual 81, 3) := dk_182 0 81 (dk_at dksX3_bestLimit_0 19 rfl rfl)
theorem dX3_bestLimit_22 : decode cX3_bestLimit 22 = .ok (.ireturn, 1) := dk_172 (dk_at dksX3_bestLimit_0 22 rfl rfl)
theorem dX3_bestLimit_23 : decode cX3_bestLimit 23 = .ok (.iconst 0, 1) := dk_3 (dk_at dksX3_bestLimit_0 23 rfl rfl)
theorem dX3_bestLimit_24 : decode cX3_bestLimit 24 = .ok (.istore_n 2, 1) := dk_61 (dk_at dksX3_bestLimit_1 0 rfl rfl)
theorem dX3_bestLimit_25 : decode cX3_bestLimit 25 = .ok (.iconst 0, 1) := dk_3 (dk_at dksX3_bestLimit_1 1 rfl rfl)
theorem dX3_bestLimit_26 : decode cX3_bestLimit 26 = .ok (.istore_n 3, 1) := dk_62 (dk_at dksX3_bestLimit_1 2 rfl rfl)
theorem dX3_bestLimit_27 : decode cX3_bestLimit 27 = .ok (.iconst 0, 1) := dk_3 (dk_at dksX3_bestLimit_1 3 rfl rfl)
theorem dX3_bestLimit_28 : decode cX3_bestLimit 28 = .ok (.istore 4, 2) := dk_54 4 (dk_at dksX3_bestLimit_1 4 rfl rfl)
theorem dX3_bestLimit_30 : decode cX3_bestLimit 30 = .ok (.iload 4, 2) := dk_21 4 (dk_at dksX3_bestLimit_1 6 rfl rfl)
theorem dX3_bestLimit_32 : decode cX3_bestLimit 32 = .ok (.bipush 60, 2) := dk_16 60 (dk_at dksX3_bestLimit_1 8 rfl rfl)
theorem dX3_bestLimit_34 : decode cX3_bestLimit 34 = .ok (.if_icmp .gt 47, 3) := dk_163 0 47 (dk_at dksX3_bestLimit_1 10 rfl rfl)
theorem dX3_bestLimit_37 : decode cX3_bestLimit 37 = .ok (.aload_n 0, 1) := dk_42 (dk_at dksX3_bestLimit_1 13 rfl rfl)
theorem dX3_bestLimit_38 : decode cX3_bestLimit 38 = .ok (.iload 4, 2) := dk_21 4 (dk_at dksX3_bestLimit_1 14 rfl rfl)
theorem dX3_bestLimit_40 : decode cX3_bestLimit 40 = .ok (.iconst (-1), 1) := dk_2 (dk_at dksX3_bestLimit_1 16 rfl rfl)
theorem dX3_bestLimit_41 : decode cX3_bestLimit 41 = .ok (.invokevirtual 159, 3) := dk_182 0 159 (dk_at dksX3_bestLimit_1 17 rfl rfl)
theorem dX3_bestLimit_44 : decode cX3_bestLimit 44 = .ok (.aload_n 0, 1) := dk_42 (dk_at dksX3_bestLimit_1 20 rfl rfl)
theorem dX3_bestLimit_45 : decode cX3_bestLimit 45 = .ok (.iconst (-1), 1) := dk_2 (dk_at dksX3_bestLimit_1 21 rfl rfl)
theorem dX3_bestLimit_46 : decode cX3_bestLimit 46 = .ok (.invokevirtual 253, 3) := dk_182 0 253 (dk_at dksX3_bestLimit_2 0 rfl rfl)
theorem dX3_bestLimit_49 : decode cX3_bestLimit 49 = .ok (.iload_n 1, 1) := dk_27 (dk_at dksX3_bestLimit_2 3 rfl rfl)
theorem dX3_bestLimit_50 : decode cX3_bestLimit 50 = .ok (.aload_n 0, 1) := dk_42 (dk_at dksX3_bestLimit_2 4 rfl rfl)
theorem dX3_bestLimit_51 : decode cX3_bestLimit 51 = .ok (.invokevirtual 256, 3) := dk_182 1 0 (dk_at dksX3_bestLimit_2 5 rfl rfl)
theorem dX3_bestLimit_54 : decode cX3_bestLimit 54 = .ok (.imul, 1) := dk_104 (dk_at dksX3_bestLimit_2 8 rfl rfl)
theorem dX3_bestLimit_55 : decode cX3_bestLimit 55 = .ok (.iadd, 1) := dk_96 (dk_at dksX3_bestLimit_2 9 rfl rfl)
theorem dX3_bestLimit_56 : decode cX3_bestLimit 56 = .ok (.istore 5, 2) := dk_54 5 (dk_at dksX3_bestLimit_2 10 rfl rfl)
theorem dX3_bestLimit_58 : decode cX3_bestLimit 58 = .ok (.iload 4, 2) := dk_21 4 (dk_at dksX3_bestLimit_2 12 rfl rfl)
theorem dX3_bestLimit_60 : decode cX3_bestLimit 60 = .ok (.ifCond .eq 9, 3) := dk_153 0 9 (dk_at dksX3_bestLimit_2 14 rfl rfl)
theorem dX3_bestLimit_63 : decode cX3_bestLimit 63 = .ok (.iload 5, 2) := dk_21 5 (dk_at dksX3_bestLimit_2 17 rfl rfl)
theorem dX3_bestLimit_65 : decode cX3_bestLimit 65 = .ok (.iload_n 3, 1) := dk_29 (dk_at dksX3_bestLimit_2 19 rfl rfl)
theorem dX3_bestLimit_66 : decode cX3_bestLimit 66 = .ok (.if_icmp .ge 9, 3) := dk_162 0 9 (dk_at dksX3_bestLimit_2 20 rfl rfl)
theorem dX3_bestLimit_69 : decode cX3_bestLimit 69 = .ok (.iload 4, 2) := dk_21 4 (dk_at dksX3_bestLimit_3 0 rfl rfl)
theorem dX3_bestLimit_71 : decode cX3_bestLimit 71 = .ok (.istore_n 2, 1) := dk_61 (dk_at dksX3_bestLimit_3 2 rfl rfl)
theorem dX3_bestLimit_72 : decode cX3_bestLimit 72 = .ok (.iload 5, 2) := dk_21 5 (dk_at dksX3_bestLimit_3 3 rfl rfl)
theorem dX3_bestLimit_74 : decode cX3_bestLimit 74 = .ok (.istore_n 3, 1) := dk_62 (dk_at dksX3_bestLimit_3 5 rfl rfl)
theorem dX3_bestLimit_75 : decode cX3_bestLimit 75 = .ok (.iinc 4 1, 3) := dk_132 4 1 (dk_at dksX3_bestLimit_3 6 rfl rfl)
theorem dX3_bestLimit_78 : decode cX3_bestLimit 78 = .ok (.goto (-48), 3) := dk_167 255 208 (dk_at dksX3_bestLimit_3 9 rfl rfl)
theorem dX3_bestLimit_81 : decode cX3_bestLimit 81 = .ok (.iload_n 2, 1) := dk_28 (dk_at dksX3_bestLimit_3 12 rfl rfl)
theorem dX3_bestLimit_82 : decode cX3_bestLimit 82 = .ok (.ireturn, 1) := dk_172 (dk_at dksX3_bestLimit_3 13 rfl rfl)
abbrev cX3_ranked : ByteArray := prog_21_method_71_code
def yX3_ranked : MethodName := ⟨RX3, "ranked", "(I)I"⟩
def dkwX3_ranked_5 : List UInt8 := [167, 255, 152, 42, 4, 182, 0, 81, 172]
abbrev dktX3_ranked_5 : List UInt8 := dkwX3_ranked_5 ++ []
def dkwX3_ranked_4 : List UInt8 := [4, 167, 0, 4, 3, 96, 62, 132, 4, 1, 167, 255, 180, 29, 27, 160, 0, 5, 28, 172, 132, 2, 1]
abbrev dktX3_ranked_4 : List UInt8 := dkwX3_ranked_4 ++ dktX3_ranked_5
def dkwX3_ranked_3 : List UInt8 := [167, 0, 5, 21, 5, 54, 5, 29, 21, 5, 157, 0, 14, 21, 5, 154, 0, 13, 21, 4, 28, 162, 0, 7]
abbrev dktX3_ranked_3 : List UInt8 := dkwX3_ranked_3 ++ dktX3_ranked_4
def dkwX3_ranked_2 : List UInt8 := [182, 0, 226, 100, 54, 5, 21, 5, 154, 0, 18, 42, 21, 4, 182, 0, 223, 42, 28, 182, 0, 223, 100]
abbrev dktX3_ranked_2 : List UInt8 := dkwX3_ranked_2 ++ dktX3_ranked_3
def dkwX3_ranked_1 : List UInt8 := [62, 3, 54, 4, 21, 4, 42, 180, 0, 9, 3, 46, 162, 0, 71, 42, 21, 4, 182, 0, 226, 42, 28]
abbrev dktX3_ranked_1 : List UInt8 := dkwX3_ranked_1 ++ dktX3_ranked_2
def dkwX3_ranked_0 : List UInt8 := [42, 3, 181, 0, 69, 42, 2, 2, 182, 0, 159, 3, 61, 28, 42, 180, 0, 9, 3, 46, 162, 0, 100, 3]
abbrev dktX3_ranked_0 : List UInt8 := dkwX3_ranked_0 ++ dktX3_ranked_1
theorem dksX3_ranked_0 : cX3_ranked.data.toList.drop 0 = dktX3_ranked_0 := by decide +kernel
theorem dksX3_ranked_1 : cX3_ranked.data.toList.drop 24 = dktX3_ranked_1 := dk_seg dksX3_ranked_0 24 rfl rfl
theorem dksX3_ranked_2 : cX3_ranked.data.toList.drop 47 = dktX3_ranked_2 := dk_seg dksX3_ranked_1 23 rfl rfl
theorem dksX3_ranked_3 : cX3_ranked.data.toList.drop 70 = dktX3_ranked_3 := dk_seg dksX3_ranked_2 23 rfl rfl
theorem dksX3_ranked_4 : cX3_ranked.data.toList.drop 94 = dktX3_ranked_4 := dk_seg dksX3_ranked_3 24 rfl rfl
theorem dksX3_ranked_5 : cX3_ranked.data.toList.drop 117 = dktX3_ranked_5 := dk_seg dksX3_ranked_4 23 rfl rfl
theorem dX3_ranked_0 : decode cX3_ranked 0 = .ok (.aload_n 0, 1) := dk_42 (dk_at dksX3_ranked_0 0 rfl rfl)
theorem dX3_ranked_1 : decode cX3_ranked 1 = .ok (.iconst 0, 1) := dk_3 (dk_at dksX3_ranked_0 1 rfl rfl)
theorem dX3_ranked_2 : decode cX3_ranked 2 = .ok (.putfield 69, 3) := dk_181 0 69 (dk_at dksX3_ranked_0 2 rfl rfl)
theorem dX3_ranked_5 : decode cX3_ranked 5 = .ok (.aload_n 0, 1) := dk_42 (dk_at dksX3_ranked_0 5 rfl rfl)
theorem dX3_ranked_6 : decode cX3_ranked 6 = .ok (.iconst (-1), 1) := dk_2 (dk_at dksX3_ranked_0 6 rfl rfl)
theorem dX3_ranked_7 : decode cX3_ranked 7 = .ok (.iconst (-1), 1) := dk_2 (dk_at dksX3_ranked_0 7 rfl rfl)
theorem dX3_ranked_8 : decode cX3_ranked 8 = .ok (.invokevirtual 159, 3) := dk_182 0 159 (dk_at dksX3_ranked_0 8 rfl rfl)
theorem dX3_ranked_11 : decode cX3_ranked 11 = .ok (.iconst 0, 1) := dk_3 (dk_at dksX3_ranked_0 11 rfl rfl)
theorem dX3_ranked_12 : decode cX3_ranked 12 = .ok (.istore_n 2, 1) := dk_61 (dk_at dksX3_ranked_0 12 rfl rfl)
theorem dX3_ranked_13 : decode cX3_ranked 13 = .ok (.iload_n 2, 1) := dk_28 (dk_at dksX3_ranked_0 13 rfl rfl)
theorem dX3_ranked_14 : decode cX3_ranked 14 = .ok (.aload_n 0, 1) := dk_42 (dk_at dksX3_ranked_0 14 rfl rfl)
theorem dX3_ranked_15 : decode cX3_ranked 15 = .ok (.getfield 9, 3) := dk_180 0 9 (dk_at dksX3_ranked_0 15 rfl rfl)
theorem dX3_ranked_18 : decode cX3_ranked 18 = .ok (.iconst 0, 1) := dk_3 (dk_at dksX3_ranked_0 18 rfl rfl)
theorem dX3_ranked_19 : decode cX3_ranked 19 = .ok (.iaload, 1) := dk_46 (dk_at dksX3_ranked_0 19 rfl rfl)
theorem dX3_ranked_20 : decode cX3_ranked 20 = .ok (.if_icmp .ge 100, 3) := dk_162 0 100 (dk_at dksX3_ranked_0 20 rfl rfl)
theorem dX3_ranked_23 : decode cX3_ranked 23 = .ok (.iconst 0, 1) := dk_3 (dk_at dksX3_ranked_0 23 rfl rfl)
theorem dX3_ranked_24 : decode cX3_ranked 24 = .ok (.istore_n 3, 1) := dk_62 (dk_at dksX3_ranked_1 0 rfl rfl)
theorem dX3_ranked_25 : decode cX3_ranked 25 = .ok (.iconst 0, 1) := dk_3 (dk_at dksX3_ranked_1 1 rfl rfl)
theorem dX3_ranked_26 : decode cX3_ranked 26 = .ok (.istore 4, 2) := dk_54 4 (dk_at dksX3_ranked_1 2 rfl rfl)
theorem dX3_ranked_28 : decode cX3_ranked 28 = .ok (.iload 4, 2) := dk_21 4 (dk_at dksX3_ranked_1 4 rfl rfl)
theorem dX3_ranked_30 : decode cX3_ranked 30 = .ok (.aload_n 0, 1) := dk_42 (dk_at dksX3_ranked_1 6 rfl rfl)
theorem dX3_ranked_31 : decode cX3_ranked 31 = .ok (.getfield 9, 3) := dk_180 0 9 (dk_at dksX3_ranked_1 7 rfl rfl)
theorem dX3_ranked_34 : decode cX3_ranked 34 = .ok (.iconst 0, 1) := dk_3 (dk_at dksX3_ranked_1 10 rfl rfl)
theorem dX3_ranked_35 : decode cX3_ranked 35 = .ok (.iaload, 1) := dk_46 (dk_at dksX3_ranked_1 11 rfl rfl)
theorem dX3_ranked_36 : decode cX3_ranked 36 = .ok (.if_icmp .ge 71, 3) := dk_162 0 71 (dk_at dksX3_ranked_1 12 rfl rfl)
theorem dX3_ranked_39 : decode cX3_ranked 39 = .ok (.aload_n 0, 1) := dk_42 (dk_at dksX3_ranked_1 15 rfl rfl)
theorem dX3_ranked_40 : decode cX3_ranked 40 = .ok (.iload 4, 2) := dk_21 4 (dk_at dksX3_ranked_1 16 rfl rfl)
theorem dX3_ranked_42 : decode cX3_ranked 42 = .ok (.invokevirtual 226, 3) := dk_182 0 226 (dk_at dksX3_ranked_1 18 rfl rfl)
theorem dX3_ranked_45 : decode cX3_ranked 45 = .ok (.aload_n 0, 1) := dk_42 (dk_at dksX3_ranked_1 21 rfl rfl)
theorem dX3_ranked_46 : decode cX3_ranked 46 = .ok (.iload_n 2, 1) := dk_28 (dk_at dksX3_ranked_1 22 rfl rfl)
theorem dX3_ranked_47 : decode cX3_ranked 47 = .ok (.invokevirtual 226, 3) := dk_182 0 226 (dk_at dksX3_ranked_2 0 rfl rfl)
theorem dX3_ranked_50 : decode cX3_ranked 50 = .ok (.isub, 1) := dk_100 (dk_at dksX3_ranked_2 3 rfl rfl)
theorem dX3_ranked_51 : decode cX3_ranked 51 = .ok (.istore 5, 2) := dk_54 5 (dk_at dksX3_ranked_2 4 rfl rfl)
theorem dX3_ranked_53 : decode cX3_ranked 53 = .ok (.iload 5, 2) := dk_21 5 (dk_at dksX3_ranked_2 6 rfl rfl)
theorem dX3_ranked_55 : decode cX3_ranked 55 = .ok (.ifCond .ne 18, 3) := dk_154 0 18 (dk_at dksX3_ranked_2 8 rfl rfl)
theorem dX3_ranked_58 : decode cX3_ranked 58 = .ok (.aload_n 0, 1) := dk_42 (dk_at dksX3_ranked_2 11 rfl rfl)
theorem dX3_ranked_59 : decode cX3_ranked 59 = .ok (.iload 4, 2) := dk_21 4 (dk_at dksX3_ranked_2 12 rfl rfl)
theorem dX3_ranked_61 : decode cX3_ranked 61 = .ok (.invokevirtual 223, 3) := dk_182 0 223 (dk_at dksX3_ranked_2 14 rfl rfl)
theorem dX3_ranked_64 : decode cX3_ranked 64 = .ok (.aload_n 0, 1) := dk_42 (dk_at dksX3_ranked_2 17 rfl rfl)
theorem dX3_ranked_65 : decode cX3_ranked 65 = .ok (.iload_n 2, 1) := dk_28 (dk_at dksX3_ranked_2 18 rfl rfl)
theorem dX3_ranked_66 : decode cX3_ranked 66 = .ok (.invokevirtual 223, 3) := dk_182 0 223 (dk_at dksX3_ranked_2 19 rfl rfl)
theorem dX3_ranked_69 : decode cX3_ranked 69 = .ok (.isub, 1) := dk_100 (dk_at dksX3_ranked_2 22 rfl rfl)
theorem dX3_ranked_70 : decode cX3_ranked 70 = .ok (.goto 5, 3) := dk_167 0 5 (dk_at dksX3_ranked_3 0 rfl rfl)
theorem dX3_ranked_73 : decode cX3_ranked 73 = .ok (.iload 5, 2) := dk_21 5 (dk_at dksX3_ranked_3 3 rfl rfl)
theorem dX3_ranked_75 : decode cX3_ranked 75 = .ok (.istore 5, 2) := dk_54 5 (dk_at dksX3_ranked_3 5 rfl rfl)
theorem dX3_ranked_77 : decode cX3_ranked 77 = .ok (.iload_n 3, 1) := dk_29 (dk_at dksX3_ranked_3 7 rfl rfl)
theorem dX3_ranked_78 : decode cX3_ranked 78 = .ok (.iload 5, 2) := dk_21 5 (dk_at dksX3_ranked_3 8 rfl rfl)
theorem dX3_ranked_80 : decode cX3_ranked 80 = .ok (.ifCond .gt 14, 3) := dk_157 0 14 (dk_at dksX3_ranked_3 10 rfl rfl)
theorem dX3_ranked_83 : decode cX3_ranked 83 = .ok (.iload 5, 2) := dk_21 5 (dk_at dksX3_ranked_3 13 rfl rfl)
theorem dX3_ranked_85 : decode cX3_ranked 85 = .ok (.ifCond .ne 13, 3) := dk_154 0 13 (dk_at dksX3_ranked_3 15 rfl rfl)
theorem dX3_ranked_88 : decode cX3_ranked 88 = .ok (.iload 4, 2) := dk_21 4 (dk_at dksX3_ranked_3 18 rfl rfl)
theorem dX3_ranked_90 : decode cX3_ranked 90 = .ok (.iload_n 2, 1) := dk_28 (dk_at dksX3_ranked_3 20 rfl rfl)
theorem dX3_ranked_91 : decode cX3_ranked 91 = .ok (.if_icmp .ge 7, 3) := dk_162 0 7 (dk_at dksX3_ranked_3 21 rfl rfl)
theorem dX3_ranked_94 : decode cX3_ranked 94 = .ok (.iconst 1, 1) := dk_4 (dk_at dksX3_ranked_4 0 rfl rfl)
theorem dX3_ranked_95 : decode cX3_ranked 95 = .ok (.goto 4, 3) := dk_167 0 4 (dk_at dksX3_ranked_4 1 rfl rfl)
theorem dX3_ranked_98 : decode cX3_ranked 98 = .ok (.iconst 0, 1) := dk_3 (dk_at dksX3_ranked_4 4 rfl rfl)
theorem dX3_ranked_99 : decode cX3_ranked 99 = .ok (.iadd, 1) := dk_96 (dk_at dksX3_ranked_4 5 rfl rfl)
theorem dX3_ranked_100 : decode cX3_ranked 100 = .ok (.istore_n 3, 1) := dk_62 (dk_at dksX3_ranked_4 6 rfl rfl)
theorem dX3_ranked_101 : decode cX3_ranked 101 = .ok (.iinc 4 1, 3) := dk_132 4 1 (dk_at dksX3_ranked_4 7 rfl rfl)
theorem dX3_ranked_104 : decode cX3_ranked 104 = .ok (.goto (-76), 3) := dk_167 255 180 (dk_at dksX3_ranked_4 10 rfl rfl)
theorem dX3_ranked_107 : decode cX3_ranked 107 = .ok (.iload_n 3, 1) := dk_29 (dk_at dksX3_ranked_4 13 rfl rfl)
theorem dX3_ranked_108 : decode cX3_ranked 108 = .ok (.iload_n 1, 1) := dk_27 (dk_at dksX3_ranked_4 14 rfl rfl)
theorem dX3_ranked_109 : decode cX3_ranked 109 = .ok (.if_icmp .ne 5, 3) := dk_160 0 5 (dk_at dksX3_ranked_4 15 rfl rfl)
theorem dX3_ranked_112 : decode cX3_ranked 112 = .ok (.iload_n 2, 1) := dk_28 (dk_at dksX3_ranked_4 18 rfl rfl)
theorem dX3_ranked_113 : decode cX3_ranked 113 = .ok (.ireturn, 1) := dk_172 (dk_at dksX3_ranked_4 19 rfl rfl)
theorem dX3_ranked_114 : decode cX3_ranked 114 = .ok (.iinc 2 1, 3) := dk_132 2 1 (dk_at dksX3_ranked_4 20 rfl rfl)
theorem dX3_ranked_117 : decode cX3_ranked 117 = .ok (.goto (-104), 3) := dk_167 255 152 (dk_at dksX3_ranked_5 0 rfl rfl)
theorem dX3_ranked_120 : decode cX3_ranked 120 = .ok (.aload_n 0, 1) := dk_42 (dk_at dksX3_ranked_5 3 rfl rfl)
theorem dX3_ranked_121 : decode cX3_ranked 121 = .ok (.iconst 1, 1) := dk_4 (dk_at dksX3_ranked_5 4 rfl rfl)
theorem dX3_ranked_122 : decode cX3_ranked 122 = .ok (.invokevirtual 81, 3) := dk_182 0 81 (dk_at dksX3_ranked_5 5 rfl rfl)
theorem dX3_ranked_125 : decode cX3_ranked 125 = .ok (.ireturn, 1) := dk_172 (dk_at dksX3_ranked_5 8 rfl rfl)
abbrev cX3_tightest : ByteArray := prog_21_method_72_code
def yX3_tightest : MethodName := ⟨RX3, "tightest", "(I)I"⟩
def dkwX3_tightest_5 : List UInt8 := [160, 0, 5, 28, 172, 132, 2, 1, 167, 255, 140, 42, 4, 182, 0, 81, 172]
abbrev dktX3_tightest_5 : List UInt8 := dkwX3_tightest_5 ++ []
def dkwX3_tightest_4 : List UInt8 := [154, 0, 13, 21, 4, 28, 162, 0, 7, 4, 167, 0, 4, 3, 96, 62, 132, 4, 1, 167, 255, 168, 29, 27]
abbrev dktX3_tightest_4 : List UInt8 := dkwX3_tightest_4 ++ dktX3_tightest_5
def dkwX3_tightest_3 : List UInt8 := [184, 0, 141, 8, 96, 46, 100, 167, 0, 5, 21, 5, 54, 5, 29, 21, 5, 157, 0, 14, 21, 5]
abbrev dktX3_tightest_3 : List UInt8 := dkwX3_tightest_3 ++ dktX3_tightest_4
def dkwX3_tightest_2 : List UInt8 := [21, 5, 154, 0, 30, 42, 180, 0, 9, 28, 184, 0, 141, 8, 96, 46, 42, 180, 0, 9, 21, 4]
abbrev dktX3_tightest_2 : List UInt8 := dkwX3_tightest_2 ++ dktX3_tightest_3
def dkwX3_tightest_1 : List UInt8 := [42, 180, 0, 9, 4, 46, 162, 0, 83, 42, 28, 182, 0, 250, 42, 21, 4, 182, 0, 250, 100, 54, 5]
abbrev dktX3_tightest_1 : List UInt8 := dkwX3_tightest_1 ++ dktX3_tightest_2
def dkwX3_tightest_0 : List UInt8 := [42, 3, 181, 0, 69, 3, 61, 28, 42, 180, 0, 9, 4, 46, 162, 0, 112, 3, 62, 3, 54, 4, 21, 4]
abbrev dktX3_tightest_0 : List UInt8 := dkwX3_tightest_0 ++ dktX3_tightest_1
theorem dksX3_tightest_0 : cX3_tightest.data.toList.drop 0 = dktX3_tightest_0 := by decide +kernel
theorem dksX3_tightest_1 : cX3_tightest.data.toList.drop 24 = dktX3_tightest_1 := dk_seg dksX3_tightest_0 24 rfl rfl
theorem dksX3_tightest_2 : cX3_tightest.data.toList.drop 47 = dktX3_tightest_2 := dk_seg dksX3_tightest_1 23 rfl rfl
theorem dksX3_tightest_3 : cX3_tightest.data.toList.drop 69 = dktX3_tightest_3 := dk_seg dksX3_tightest_2 22 rfl rfl
theorem dksX3_tightest_4 : cX3_tightest.data.toList.drop 91 = dktX3_tightest_4 := dk_seg dksX3_tightest_3 22 rfl rfl
theorem dksX3_tightest_5 : cX3_tightest.data.toList.drop 115 = dktX3_tightest_5 := dk_seg dksX3_tightest_4 24 rfl rfl
theorem dX3_tightest_0 : decode cX3_tightest 0 = .ok (.aload_n 0, 1) := dk_42 (dk_at dksX3_tightest_0 0 rfl rfl)
theorem dX3_tightest_1 : decode cX3_tightest 1 = .ok (.iconst 0, 1) := dk_3 (dk_at dksX3_tightest_0 1 rfl rfl)
theorem dX3_tightest_2 : decode cX3_tightest 2 = .ok (.putfield 69, 3) := dk_181 0 69 (dk_at dksX3_tightest_0 2 rfl rfl)
theorem dX3_tightest_5 : decode cX3_tightest 5 = .ok (.iconst 0, 1) := dk_3 (dk_at dksX3_tightest_0 5 rfl rfl)
theorem dX3_tightest_6 : decode cX3_tightest 6 = .ok (.istore_n 2, 1) := dk_61 (dk_at dksX3_tightest_0 6 rfl rfl)
theorem dX3_tightest_7 : decode cX3_tightest 7 = .ok (.iload_n 2, 1) := dk_28 (dk_at dksX3_tightest_0 7 rfl rfl)
theorem dX3_tightest_8 : decode cX3_tightest 8 = .ok (.aload_n 0, 1) := dk_42 (dk_at dksX3_tightest_0 8 rfl rfl)
theorem dX3_tightest_9 : decode cX3_tightest 9 = .ok (.getfield 9, 3) := dk_180 0 9 (dk_at dksX3_tightest_0 9 rfl rfl)
theorem dX3_tightest_12 : decode cX3_tightest 12 = .ok (.iconst 1, 1) := dk_4 (dk_at dksX3_tightest_0 12 rfl rfl)
theorem dX3_tightest_13 : decode cX3_tightest 13 = .ok (.iaload, 1) := dk_46 (dk_at dksX3_tightest_0 13 rfl rfl)
theorem dX3_tightest_14 : decode cX3_tightest 14 = .ok (.if_icmp .ge 112, 3) := dk_162 0 112 (dk_at dksX3_tightest_0 14 rfl rfl)
theorem dX3_tightest_17 : decode cX3_tightest 17 = .ok (.iconst 0, 1) := dk_3 (dk_at dksX3_tightest_0 17 rfl rfl)
theorem dX3_tightest_18 : decode cX3_tightest 18 = .ok (.istore_n 3, 1) := dk_62 (dk_at dksX3_tightest_0 18 rfl rfl)
theorem dX3_tightest_19 : decode cX3_tightest 19 = .ok (.iconst 0, 1) := dk_3 (dk_at dksX3_tightest_0 19 rfl rfl)
theorem dX3_tightest_20 : decode cX3_tightest 20 = .ok (.istore 4, 2) := dk_54 4 (dk_at dksX3_tightest_0 20 rfl rfl)
theorem dX3_tightest_22 : decode cX3_tightest 22 = .ok (.iload 4, 2) := dk_21 4 (dk_at dksX3_tightest_0 22 rfl rfl)
theorem dX3_tightest_24 : decode cX3_tightest 24 = .ok (.aload_n 0, 1) := dk_42 (dk_at dksX3_tightest_1 0 rfl rfl)
theorem dX3_tightest_25 : decode cX3_tightest 25 = .ok (.getfield 9, 3) := dk_180 0 9 (dk_at dksX3_tightest_1 1 rfl rfl)
theorem dX3_tightest_28 : decode cX3_tightest 28 = .ok (.iconst 1, 1) := dk_4 (dk_at dksX3_tightest_1 4 rfl rfl)
theorem dX3_tightest_29 : decode cX3_tightest 29 = .ok (.iaload, 1) := dk_46 (dk_at dksX3_tightest_1 5 rfl rfl)
theorem dX3_tightest_30 : decode cX3_tightest 30 = .ok (.if_icmp .ge 83, 3) := dk_162 0 83 (dk_at dksX3_tightest_1 6 rfl rfl)
theorem dX3_tightest_33 : decode cX3_tightest 33 = .ok (.aload_n 0, 1) := dk_42 (dk_at dksX3_tightest_1 9 rfl rfl)
theorem dX3_tightest_34 : decode cX3_tightest 34 = .ok (.iload_n 2, 1) := dk_28 (dk_at dksX3_tightest_1 10 rfl rfl)
theorem dX3_tightest_35 : decode cX3_tightest 35 = .ok (.invokevirtual 250, 3) := dk_182 0 250 (dk_at dksX3_tightest_1 11 rfl rfl)
theorem dX3_tightest_38 : decode cX3_tightest 38 = .ok (.aload_n 0, 1) := dk_42 (dk_at dksX3_tightest_1 14 rfl rfl)
theorem dX3_tightest_39 : decode cX3_tightest 39 = .ok (.iload 4, 2) := dk_21 4 (dk_at dksX3_tightest_1 15 rfl rfl)
theorem dX3_tightest_41 : decode cX3_tightest 41 = .ok (.invokevirtual 250, 3) := dk_182 0 250 (dk_at dksX3_tightest_1 17 rfl rfl)
theorem dX3_tightest_44 : decode cX3_tightest 44 = .ok (.isub, 1) := dk_100 (dk_at dksX3_tightest_1 20 rfl rfl)
theorem dX3_tightest_45 : decode cX3_tightest 45 = .ok (.istore 5, 2) := dk_54 5 (dk_at dksX3_tightest_1 21 rfl rfl)
theorem dX3_tightest_47 : decode cX3_tightest 47 = .ok (.iload 5, 2) := dk_21 5 (dk_at dksX3_tightest_2 0 rfl rfl)
theorem dX3_tightest_49 : decode cX3_tightest 49 = .ok (.ifCond .ne 30, 3) := dk_154 0 30 (dk_at dksX3_tightest_2 2 rfl rfl)
theorem dX3_tightest_52 : decode cX3_tightest 52 = .ok (.aload_n 0, 1) := dk_42 (dk_at dksX3_tightest_2 5 rfl rfl)
theorem dX3_tightest_53 : decode cX3_tightest 53 = .ok (.getfield 9, 3) := dk_180 0 9 (dk_at dksX3_tightest_2 6 rfl rfl)
theorem dX3_tightest_56 : decode cX3_tightest 56 = .ok (.iload_n 2, 1) := dk_28 (dk_at dksX3_tightest_2 9 rfl rfl)
theorem dX3_tightest_57 : decode cX3_tightest 57 = .ok (.invokestatic 141, 3) := dk_184 0 141 (dk_at dksX3_tightest_2 10 rfl rfl)
theorem dX3_tightest_60 : decode cX3_tightest 60 = .ok (.iconst 5, 1) := dk_8 (dk_at dksX3_tightest_2 13 rfl rfl)
theorem dX3_tightest_61 : decode cX3_tightest 61 = .ok (.iadd, 1) := dk_96 (dk_at dksX3_tightest_2 14 rfl rfl)
theorem dX3_tightest_62 : decode cX3_tightest 62 = .ok (.iaload, 1) := dk_46 (dk_at dksX3_tightest_2 15 rfl rfl)
theorem dX3_tightest_63 : decode cX3_tightest 63 = .ok (.aload_n 0, 1) := dk_42 (dk_at dksX3_tightest_2 16 rfl rfl)
theorem dX3_tightest_64 : decode cX3_tightest 64 = .ok (.getfield 9, 3) := dk_180 0 9 (dk_at dksX3_tightest_2 17 rfl rfl)
theorem dX3_tightest_67 : decode cX3_tightest 67 = .ok (.iload 4, 2) := dk_21 4 (dk_at dksX3_tightest_2 20 rfl rfl)
theorem dX3_tightest_69 : decode cX3_tightest 69 = .ok (.invokestatic 141, 3) := dk_184 0 141 (dk_at dksX3_tightest_3 0 rfl rfl)
theorem dX3_tightest_72 : decode cX3_tightest 72 = .ok (.iconst 5, 1) := dk_8 (dk_at dksX3_tightest_3 3 rfl rfl)
theorem dX3_tightest_73 : decode cX3_tightest 73 = .ok (.iadd, 1) := dk_96 (dk_at dksX3_tightest_3 4 rfl rfl)
theorem dX3_tightest_74 : decode cX3_tightest 74 = .ok (.iaload, 1) := dk_46 (dk_at dksX3_tightest_3 5 rfl rfl)
theorem dX3_tightest_75 : decode cX3_tightest 75 = .ok (.isub, 1) := dk_100 (dk_at dksX3_tightest_3 6 rfl rfl)
theorem dX3_tightest_76 : decode cX3_tightest 76 = .ok (.goto 5, 3) := dk_167 0 5 (dk_at dksX3_tightest_3 7 rfl rfl)
theorem dX3_tightest_79 : decode cX3_tightest 79 = .ok (.iload 5, 2) := dk_21 5 (dk_at dksX3_tightest_3 10 rfl rfl)
theorem dX3_tightest_81 : decode cX3_tightest 81 = .ok (.istore 5, 2) := dk_54 5 (dk_at dksX3_tightest_3 12 rfl rfl)
theorem dX3_tightest_83 : decode cX3_tightest 83 = .ok (.iload_n 3, 1) := dk_29 (dk_at dksX3_tightest_3 14 rfl rfl)
theorem dX3_tightest_84 : decode cX3_tightest 84 = .ok (.iload 5, 2) := dk_21 5 (dk_at dksX3_tightest_3 15 rfl rfl)
theorem dX3_tightest_86 : decode cX3_tightest 86 = .ok (.ifCond .gt 14, 3) := dk_157 0 14 (dk_at dksX3_tightest_3 17 rfl rfl)
theorem dX3_tightest_89 : decode cX3_tightest 89 = .ok (.iload 5, 2) := dk_21 5 (dk_at dksX3_tightest_3 20 rfl rfl)
theorem dX3_tightest_91 : decode cX3_tightest 91 = .ok (.ifCond .ne 13, 3) := dk_154 0 13 (dk_at dksX3_tightest_4 0 rfl rfl)
theorem dX3_tightest_94 : decode cX3_tightest 94 = .ok (.iload 4, 2) := dk_21 4 (dk_at dksX3_tightest_4 3 rfl rfl)
theorem dX3_tightest_96 : decode cX3_tightest 96 = .ok (.iload_n 2, 1) := dk_28 (dk_at dksX3_tightest_4 5 rfl rfl)
theorem dX3_tightest_97 : decode cX3_tightest 97 = .ok (.if_icmp .ge 7, 3) := dk_162 0 7 (dk_at dksX3_tightest_4 6 rfl rfl)
theorem dX3_tightest_100 : decode cX3_tightest 100 = .ok (.iconst 1, 1) := dk_4 (dk_at dksX3_tightest_4 9 rfl rfl)
theorem dX3_tightest_101 : decode cX3_tightest 101 = .ok (.goto 4, 3) := dk_167 0 4 (dk_at dksX3_tightest_4 10 rfl rfl)
theorem dX3_tightest_104 : decode cX3_tightest 104 = .ok (.iconst 0, 1) := dk_3 (dk_at dksX3_tightest_4 13 rfl rfl)
theorem dX3_tightest_105 : decode cX3_tightest 105 = .ok (.iadd, 1) := dk_96 (dk_at dksX3_tightest_4 14 rfl rfl)
theorem dX3_tightest_106 : decode cX3_tightest 106 = .ok (.istore_n 3, 1) := dk_62 (dk_at dksX3_tightest_4 15 rfl rfl)
theorem dX3_tightest_107 : decode cX3_tightest 107 = .ok (.iinc 4 1, 3) := dk_132 4 1 (dk_at dksX3_tightest_4 16 rfl rfl)
theorem dX3_tightest_110 : decode cX3_tightest 110 = .ok (.goto (-88), 3) := dk_167 255 168 (dk_at dksX3_tightest_4 19 rfl rfl)
theorem dX3_tightest_113 : decode cX3_tightest 113 = .ok (.iload_n 3, 1) := dk_29 (dk_at dksX3_tightest_4 22 rfl rfl)
theorem dX3_tightest_114 : decode cX3_tightest 114 = .ok (.iload_n 1, 1) := dk_27 (dk_at dksX3_tightest_4 23 rfl rfl)
theorem dX3_tightest_115 : decode cX3_tightest 115 = .ok (.if_icmp .ne 5, 3) := dk_160 0 5 (dk_at dksX3_tightest_5 0 rfl rfl)
theorem dX3_tightest_118 : decode cX3_tightest 118 = .ok (.iload_n 2, 1) := dk_28 (dk_at dksX3_tightest_5 3 rfl rfl)
theorem dX3_tightest_119 : decode cX3_tightest 119 = .ok (.ireturn, 1) := dk_172 (dk_at dksX3_tightest_5 4 rfl rfl)
theorem dX3_tightest_120 : decode cX3_tightest 120 = .ok (.iinc 2 1, 3) := dk_132 2 1 (dk_at dksX3_tightest_5 5 rfl rfl)
theorem dX3_tightest_123 : decode cX3_tightest 123 = .ok (.goto (-116), 3) := dk_167 255 140 (dk_at dksX3_tightest_5 8 rfl rfl)
theorem dX3_tightest_126 : decode cX3_tightest 126 = .ok (.aload_n 0, 1) := dk_42 (dk_at dksX3_tightest_5 11 rfl rfl)
theorem dX3_tightest_127 : decode cX3_tightest 127 = .ok (.iconst 1, 1) := dk_4 (dk_at dksX3_tightest_5 12 rfl rfl)
theorem dX3_tightest_128 : decode cX3_tightest 128 = .ok (.invokevirtual 81, 3) := dk_182 0 81 (dk_at dksX3_tightest_5 13 rfl rfl)
theorem dX3_tightest_131 : decode cX3_tightest 131 = .ok (.ireturn, 1) := dk_172 (dk_at dksX3_tightest_5 16 rfl rfl)
abbrev cX3_event : ByteArray := prog_21_method_74_code
def yX3_event : MethodName := ⟨RX3, "event", "(I)I"⟩
def dkwX3_event_6 : List UInt8 := [28, 5, 112, 96, 172, 132, 2, 1, 167, 255, 120, 42, 4, 182, 0, 81, 172]
abbrev dktX3_event_6 : List UInt8 := dkwX3_event_6 ++ []
def dkwX3_event_5 : List UInt8 := [153, 0, 29, 29, 27, 160, 0, 24, 16, 20, 28, 16, 12, 108, 104, 5, 28, 5, 108, 16, 6, 112, 104, 96]
abbrev dktX3_event_5 : List UInt8 := dkwX3_event_5 ++ dktX3_event_6
def dkwX3_event_4 : List UInt8 := [21, 4, 28, 162, 0, 7, 4, 167, 0, 4, 3, 96, 62, 132, 4, 1, 167, 255, 174, 42, 28, 182, 1, 5]
abbrev dktX3_event_4 : List UInt8 := dkwX3_event_4 ++ dktX3_event_5
def dkwX3_event_3 : List UInt8 := [21, 4, 5, 112, 100, 167, 0, 5, 21, 5, 54, 5, 29, 21, 5, 157, 0, 14, 21, 5, 154, 0, 13]
abbrev dktX3_event_3 : List UInt8 := dkwX3_event_3 ++ dktX3_event_4
def dkwX3_event_2 : List UInt8 := [180, 0, 41, 28, 46, 42, 180, 0, 41, 21, 4, 46, 100, 54, 5, 21, 5, 154, 0, 14, 28, 5, 112]
abbrev dktX3_event_2 : List UInt8 := dkwX3_event_2 ++ dktX3_event_3
def dkwX3_event_1 : List UInt8 := [3, 54, 4, 21, 4, 42, 180, 0, 47, 190, 162, 0, 78, 42, 21, 4, 182, 1, 5, 153, 0, 63, 42]
abbrev dktX3_event_1 : List UInt8 := dkwX3_event_1 ++ dktX3_event_2
def dkwX3_event_0 : List UInt8 := [42, 3, 181, 0, 69, 42, 2, 2, 182, 0, 159, 3, 61, 28, 42, 180, 0, 47, 190, 162, 0, 133, 3, 62]
abbrev dktX3_event_0 : List UInt8 := dkwX3_event_0 ++ dktX3_event_1
theorem dksX3_event_0 : cX3_event.data.toList.drop 0 = dktX3_event_0 := by decide +kernel
theorem dksX3_event_1 : cX3_event.data.toList.drop 24 = dktX3_event_1 := dk_seg dksX3_event_0 24 rfl rfl
theorem dksX3_event_2 : cX3_event.data.toList.drop 47 = dktX3_event_2 := dk_seg dksX3_event_1 23 rfl rfl
theorem dksX3_event_3 : cX3_event.data.toList.drop 70 = dktX3_event_3 := dk_seg dksX3_event_2 23 rfl rfl
theorem dksX3_event_4 : cX3_event.data.toList.drop 93 = dktX3_event_4 := dk_seg dksX3_event_3 23 rfl rfl
theorem dksX3_event_5 : cX3_event.data.toList.drop 117 = dktX3_event_5 := dk_seg dksX3_event_4 24 rfl rfl
theorem dksX3_event_6 : cX3_event.data.toList.drop 141 = dktX3_event_6 := dk_seg dksX3_event_5 24 rfl rfl
theorem dX3_event_0 : decode cX3_event 0 = .ok (.aload_n 0, 1) := dk_42 (dk_at dksX3_event_0 0 rfl rfl)
theorem dX3_event_1 : decode cX3_event 1 = .ok (.iconst 0, 1) := dk_3 (dk_at dksX3_event_0 1 rfl rfl)
theorem dX3_event_2 : decode cX3_event 2 = .ok (.putfield 69, 3) := dk_181 0 69 (dk_at dksX3_event_0 2 rfl rfl)
theorem dX3_event_5 : decode cX3_event 5 = .ok (.aload_n 0, 1) := dk_42 (dk_at dksX3_event_0 5 rfl rfl)
theorem dX3_event_6 : decode cX3_event 6 = .ok (.iconst (-1), 1) := dk_2 (dk_at dksX3_event_0 6 rfl rfl)
theorem dX3_event_7 : decode cX3_event 7 = .ok (.iconst (-1), 1) := dk_2 (dk_at dksX3_event_0 7 rfl rfl)
theorem dX3_event_8 : decode cX3_event 8 = .ok (.invokevirtual 159, 3) := dk_182 0 159 (dk_at dksX3_event_0 8 rfl rfl)
theorem dX3_event_11 : decode cX3_event 11 = .ok (.iconst 0, 1) := dk_3 (dk_at dksX3_event_0 11 rfl rfl)
theorem dX3_event_12 : decode cX3_event 12 = .ok (.istore_n 2, 1) := dk_61 (dk_at dksX3_event_0 12 rfl rfl)
theorem dX3_event_13 : decode cX3_event 13 = .ok (.iload_n 2, 1) := dk_28 (dk_at dksX3_event_0 13 rfl rfl)
theorem dX3_event_14 : decode cX3_event 14 = .ok (.aload_n 0, 1) := dk_42 (dk_at dksX3_event_0 14 rfl rfl)
theorem dX3_event_15 : decode cX3_event 15 = .ok (.getfield 47, 3) := dk_180 0 47 (dk_at dksX3_event_0 15 rfl rfl)
theorem dX3_event_18 : decode cX3_event 18 = .ok (.arraylength, 1) := dk_190 (dk_at dksX3_event_0 18 rfl rfl)
theorem dX3_event_19 : decode cX3_event 19 = .ok (.if_icmp .ge 133, 3) := dk_162 0 133 (dk_at dksX3_event_0 19 rfl rfl)
theorem dX3_event_22 : decode cX3_event 22 = .ok (.iconst 0, 1) := dk_3 (dk_at dksX3_event_0 22 rfl rfl)
theorem dX3_event_23 : decode cX3_event 23 = .ok (.istore_n 3, 1) := dk_62 (dk_at dksX3_event_0 23 rfl rfl)
theorem dX3_event_24 : decode cX3_event 24 = .ok (.iconst 0, 1) := dk_3 (dk_at dksX3_event_1 0 rfl rfl)
theorem dX3_event_25 : decode cX3_event 25 = .ok (.istore 4, 2) := dk_54 4 (dk_at dksX3_event_1 1 rfl rfl)
theorem dX3_event_27 : decode cX3_event 27 = .ok (.iload 4, 2) := dk_21 4 (dk_at dksX3_event_1 3 rfl rfl)
theorem dX3_event_29 : decode cX3_event 29 = .ok (.aload_n 0, 1) := dk_42 (dk_at dksX3_event_1 5 rfl rfl)
theorem dX3_event_30 : decode cX3_event 30 = .ok (.getfield 47, 3) := dk_180 0 47 (dk_at dksX3_event_1 6 rfl rfl)
theorem dX3_event_33 : decode cX3_event 33 = .ok (.arraylength, 1) := dk_190 (dk_at dksX3_event_1 9 rfl rfl)
theorem dX3_event_34 : decode cX3_event 34 = .ok (.if_icmp .ge 78, 3) := dk_162 0 78 (dk_at dksX3_event_1 10 rfl rfl)
theorem dX3_event_37 : decode cX3_event 37 = .ok (.aload_n 0, 1) := dk_42 (dk_at dksX3_event_1 13 rfl rfl)
theorem dX3_event_38 : decode cX3_event 38 = .ok (.iload 4, 2) := dk_21 4 (dk_at dksX3_event_1 14 rfl rfl)
theorem dX3_event_40 : decode cX3_event 40 = .ok (.invokevirtual 261, 3) := dk_182 1 5 (dk_at dksX3_event_1 16 rfl rfl)
theorem dX3_event_43 : decode cX3_event 43 = .ok (.ifCond .eq 63, 3) := dk_153 0 63 (dk_at dksX3_event_1 19 rfl rfl)
theorem dX3_event_46 : decode cX3_event 46 = .ok (.aload_n 0, 1) := dk_42 (dk_at dksX3_event_1 22 rfl rfl)
theorem dX3_event_47 : decode cX3_event 47 = .ok (.getfield 41, 3) := dk_180 0 41 (dk_at dksX3_event_2 0 rfl rfl)
theorem dX3_event_50 : decode cX3_event 50 = .ok (.iload_n 2, 1) := dk_28 (dk_at dksX3_event_2 3 rfl rfl)
theorem dX3_event_51 : decode cX3_event 51 = .ok (.iaload, 1) := dk_46 (dk_at dksX3_event_2 4 rfl rfl)
theorem dX3_event_52 : decode cX3_event 52 = .ok (.aload_n 0, 1) := dk_42 (dk_at dksX3_event_2 5 rfl rfl)
theorem dX3_event_53 : decode cX3_event 53 = .ok (.getfield 41, 3) := dk_180 0 41 (dk_at dksX3_event_2 6 rfl rfl)
theorem dX3_event_56 : decode cX3_event 56 = .ok (.iload 4, 2) := dk_21 4 (dk_at dksX3_event_2 9 rfl rfl)
theorem dX3_event_58 : decode cX3_event 58 = .ok (.iaload, 1) := dk_46 (dk_at dksX3_event_2 11 rfl rfl)
theorem dX3_event_59 : decode cX3_event 59 = .ok (.isub, 1) := dk_100 (dk_at dksX3_event_2 12 rfl rfl)
theorem dX3_event_60 : decode cX3_event 60 = .ok (.istore 5, 2) := dk_54 5 (dk_at dksX3_event_2 13 rfl rfl)
theorem dX3_event_62 : decode cX3_event 62 = .ok (.iload 5, 2) := dk_21 5 (dk_at dksX3_event_2 15 rfl rfl)
theorem dX3_event_64 : decode cX3_event 64 = .ok (.ifCond .ne 14, 3) := dk_154 0 14 (dk_at dksX3_event_2 17 rfl rfl)
theorem dX3_event_67 : decode cX3_event 67 = .ok (.iload_n 2, 1) := dk_28 (dk_at dksX3_event_2 20 rfl rfl)
theorem dX3_event_68 : decode cX3_event 68 = .ok (.iconst 2, 1) := dk_5 (dk_at dksX3_event_2 21 rfl rfl)
theorem dX3_event_69 : decode cX3_event 69 = .ok (.irem, 1) := dk_112 (dk_at dksX3_event_2 22 rfl rfl)
theorem dX3_event_70 : decode cX3_event 70 = .ok (.iload 4, 2) := dk_21 4 (dk_at dksX3_event_3 0 rfl rfl)
theorem dX3_event_72 : decode cX3_event 72 = .ok (.iconst 2, 1) := dk_5 (dk_at dksX3_event_3 2 rfl rfl)
theorem dX3_event_73 : decode cX3_event 73 = .ok (.irem, 1) := dk_112 (dk_at dksX3_event_3 3 rfl rfl)
theorem dX3_event_74 : decode cX3_event 74 = .ok (.isub, 1) := dk_100 (dk_at dksX3_event_3 4 rfl rfl)
theorem dX3_event_75 : decode cX3_event 75 = .ok (.goto 5, 3) := dk_167 0 5 (dk_at dksX3_event_3 5 rfl rfl)
theorem dX3_event_78 : decode cX3_event 78 = .ok (.iload 5, 2) := dk_21 5 (dk_at dksX3_event_3 8 rfl rfl)
theorem dX3_event_80 : decode cX3_event 80 = .ok (.istore 5, 2) := dk_54 5 (dk_at dksX3_event_3 10 rfl rfl)
theorem dX3_event_82 : decode cX3_event 82 = .ok (.iload_n 3, 1) := dk_29 (dk_at dksX3_event_3 12 rfl rfl)
theorem dX3_event_83 : decode cX3_event 83 = .ok (.iload 5, 2) := dk_21 5 (dk_at dksX3_event_3 13 rfl rfl)
theorem dX3_event_85 : decode cX3_event 85 = .ok (.ifCond .gt 14, 3) := dk_157 0 14 (dk_at dksX3_event_3 15 rfl rfl)
theorem dX3_event_88 : decode cX3_event 88 = .ok (.iload 5, 2) := dk_21 5 (dk_at dksX3_event_3 18 rfl rfl)
theorem dX3_event_90 : decode cX3_event 90 = .ok (.ifCond .ne 13, 3) := dk_154 0 13 (dk_at dksX3_event_3 20 rfl rfl)
theorem dX3_event_93 : decode cX3_event 93 = .ok (.iload 4, 2) := dk_21 4 (dk_at dksX3_event_4 0 rfl rfl)
theorem dX3_event_95 : decode cX3_event 95 = .ok (.iload_n 2, 1) := dk_28 (dk_at dksX3_event_4 2 rfl rfl)
theorem dX3_event_96 : decode cX3_event 96 = .ok (.if_icmp .ge 7, 3) := dk_162 0 7 (dk_at dksX3_event_4 3 rfl rfl)
theorem dX3_event_99 : decode cX3_event 99 = .ok (.iconst 1, 1) := dk_4 (dk_at dksX3_event_4 6 rfl rfl)
theorem dX3_event_100 : decode cX3_event 100 = .ok (.goto 4, 3) := dk_167 0 4 (dk_at dksX3_event_4 7 rfl rfl)
theorem dX3_event_103 : decode cX3_event 103 = .ok (.iconst 0, 1) := dk_3 (dk_at dksX3_event_4 10 rfl rfl)
theorem dX3_event_104 : decode cX3_event 104 = .ok (.iadd, 1) := dk_96 (dk_at dksX3_event_4 11 rfl rfl)
theorem dX3_event_105 : decode cX3_event 105 = .ok (.istore_n 3, 1) := dk_62 (dk_at dksX3_event_4 12 rfl rfl)
theorem dX3_event_106 : decode cX3_event 106 = .ok (.iinc 4 1, 3) := dk_132 4 1 (dk_at dksX3_event_4 13 rfl rfl)
theorem dX3_event_109 : decode cX3_event 109 = .ok (.goto (-82), 3) := dk_167 255 174 (dk_at dksX3_event_4 16 rfl rfl)
theorem dX3_event_112 : decode cX3_event 112 = .ok (.aload_n 0, 1) := dk_42 (dk_at dksX3_event_4 19 rfl rfl)
theorem dX3_event_113 : decode cX3_event 113 = .ok (.iload_n 2, 1) := dk_28 (dk_at dksX3_event_4 20 rfl rfl)
theorem dX3_event_114 : decode cX3_event 114 = .ok (.invokevirtual 261, 3) := dk_182 1 5 (dk_at dksX3_event_4 21 rfl rfl)
theorem dX3_event_117 : decode cX3_event 117 = .ok (.ifCond .eq 29, 3) := dk_153 0 29 (dk_at dksX3_event_5 0 rfl rfl)
theorem dX3_event_120 : decode cX3_event 120 = .ok (.iload_n 3, 1) := dk_29 (dk_at dksX3_event_5 3 rfl rfl)
theorem dX3_event_121 : decode cX3_event 121 = .ok (.iload_n 1, 1) := dk_27 (dk_at dksX3_event_5 4 rfl rfl)
theorem dX3_event_122 : decode cX3_event 122 = .ok (.if_icmp .ne 24, 3) := dk_160 0 24 (dk_at dksX3_event_5 5 rfl rfl)
theorem dX3_event_125 : decode cX3_event 125 = .ok (.bipush 20, 2) := dk_16 20 (dk_at dksX3_event_5 8 rfl rfl)
theorem dX3_event_127 : decode cX3_event 127 = .ok (.iload_n 2, 1) := dk_28 (dk_at dksX3_event_5 10 rfl rfl)
theorem dX3_event_128 : decode cX3_event 128 = .ok (.bipush 12, 2) := dk_16 12 (dk_at dksX3_event_5 11 rfl rfl)
theorem dX3_event_130 : decode cX3_event 130 = .ok (.idiv, 1) := dk_108 (dk_at dksX3_event_5 13 rfl rfl)
theorem dX3_event_131 : decode cX3_event 131 = .ok (.imul, 1) := dk_104 (dk_at dksX3_event_5 14 rfl rfl)
theorem dX3_event_132 : decode cX3_event 132 = .ok (.iconst 2, 1) := dk_5 (dk_at dksX3_event_5 15 rfl rfl)
theorem dX3_event_133 : decode cX3_event 133 = .ok (.iload_n 2, 1) := dk_28 (dk_at dksX3_event_5 16 rfl rfl)
theorem dX3_event_134 : decode cX3_event 134 = .ok (.iconst 2, 1) := dk_5 (dk_at dksX3_event_5 17 rfl rfl)
theorem dX3_event_135 : decode cX3_event 135 = .ok (.idiv, 1) := dk_108 (dk_at dksX3_event_5 18 rfl rfl)
theorem dX3_event_136 : decode cX3_event 136 = .ok (.bipush 6, 2) := dk_16 6 (dk_at dksX3_event_5 19 rfl rfl)
theorem dX3_event_138 : decode cX3_event 138 = .ok (.irem, 1) := dk_112 (dk_at dksX3_event_5 21 rfl rfl)
theorem dX3_event_139 : decode cX3_event 139 = .ok (.imul, 1) := dk_104 (dk_at dksX3_event_5 22 rfl rfl)
theorem dX3_event_140 : decode cX3_event 140 = .ok (.iadd, 1) := dk_96 (dk_at dksX3_event_5 23 rfl rfl)
theorem dX3_event_141 : decode cX3_event 141 = .ok (.iload_n 2, 1) := dk_28 (dk_at dksX3_event_6 0 rfl rfl)
theorem dX3_event_142 : decode cX3_event 142 = .ok (.iconst 2, 1) := dk_5 (dk_at dksX3_event_6 1 rfl rfl)
theorem dX3_event_143 : decode cX3_event 143 = .ok (.irem, 1) := dk_112 (dk_at dksX3_event_6 2 rfl rfl)
theorem dX3_event_144 : decode cX3_event 144 = .ok (.iadd, 1) := dk_96 (dk_at dksX3_event_6 3 rfl rfl)
theorem dX3_event_145 : decode cX3_event 145 = .ok (.ireturn, 1) := dk_172 (dk_at dksX3_event_6 4 rfl rfl)
theorem dX3_event_146 : decode cX3_event 146 = .ok (.iinc 2 1, 3) := dk_132 2 1 (dk_at dksX3_event_6 5 rfl rfl)
theorem dX3_event_149 : decode cX3_event 149 = .ok (.goto (-136), 3) := dk_167 255 120 (dk_at dksX3_event_6 8 rfl rfl)
theorem dX3_event_152 : decode cX3_event 152 = .ok (.aload_n 0, 1) := dk_42 (dk_at dksX3_event_6 11 rfl rfl)
theorem dX3_event_153 : decode cX3_event 153 = .ok (.iconst 1, 1) := dk_4 (dk_at dksX3_event_6 12 rfl rfl)
theorem dX3_event_154 : decode cX3_event 154 = .ok (.invokevirtual 81, 3) := dk_182 0 81 (dk_at dksX3_event_6 13 rfl rfl)
theorem dX3_event_157 : decode cX3_event 157 = .ok (.ireturn, 1) := dk_172 (dk_at dksX3_event_6 16 rfl rfl)
abbrev cX3_hasEvent : ByteArray := prog_21_method_73_code
def yX3_hasEvent : MethodName := ⟨RX3, "hasEvent", "(I)Z"⟩
def dkwX3_hasEvent_1 : List UInt8 := [27, 5, 112, 182, 0, 135, 153, 0, 7, 4, 167, 0, 4, 3, 172]
abbrev dktX3_hasEvent_1 : List UInt8 := dkwX3_hasEvent_1 ++ []
def dkwX3_hasEvent_0 : List UInt8 := [27, 16, 12, 108, 42, 180, 0, 9, 3, 46, 162, 0, 27, 42, 27, 16, 12, 108, 27, 5, 108, 16, 6, 112]
abbrev dktX3_hasEvent_0 : List UInt8 := dkwX3_hasEvent_0 ++ dktX3_hasEvent_1
theorem dksX3_hasEvent_0 : cX3_hasEvent.data.toList.drop 0 = dktX3_hasEvent_0 := by decide +kernel
theorem dksX3_hasEvent_1 : cX3_hasEvent.data.toList.drop 24 = dktX3_hasEvent_1 := dk_seg dksX3_hasEvent_0 24 rfl rfl
theorem dX3_hasEvent_0 : decode cX3_hasEvent 0 = .ok (.iload_n 1, 1) := dk_27 (dk_at dksX3_hasEvent_0 0 rfl rfl)
theorem dX3_hasEvent_1 : decode cX3_hasEvent 1 = .ok (.bipush 12, 2) := dk_16 12 (dk_at dksX3_hasEvent_0 1 rfl rfl)
theorem dX3_hasEvent_3 : decode cX3_hasEvent 3 = .ok (.idiv, 1) := dk_108 (dk_at dksX3_hasEvent_0 3 rfl rfl)
theorem dX3_hasEvent_4 : decode cX3_hasEvent 4 = .ok (.aload_n 0, 1) := dk_42 (dk_at dksX3_hasEvent_0 4 rfl rfl)
theorem dX3_hasEvent_5 : decode cX3_hasEvent 5 = .ok (.getfield 9, 3) := dk_180 0 9 (dk_at dksX3_hasEvent_0 5 rfl rfl)
theorem dX3_hasEvent_8 : decode cX3_hasEvent 8 = .ok (.iconst 0, 1) := dk_3 (dk_at dksX3_hasEvent_0 8 rfl rfl)
theorem dX3_hasEvent_9 : decode cX3_hasEvent 9 = .ok (.iaload, 1) := dk_46 (dk_at dksX3_hasEvent_0 9 rfl rfl)
theorem dX3_hasEvent_10 : decode cX3_hasEvent 10 = .ok (.if_icmp .ge 27, 3) := dk_162 0 27 (dk_at dksX3_hasEvent_0 10 rfl rfl)
theorem dX3_hasEvent_13 : decode cX3_hasEvent 13 = .ok (.aload_n 0, 1) := dk_42 (dk_at dksX3_hasEvent_0 13 rfl rfl)
theorem dX3_hasEvent_14 : decode cX3_hasEvent 14 = .ok (.iload_n 1, 1) := dk_27 (dk_at dksX3_hasEvent_0 14 rfl rfl)
theorem dX3_hasEvent_15 : decode cX3_hasEvent 15 = .ok (.bipush 12, 2) := dk_16 12 (dk_at dksX3_hasEvent_0 15 rfl rfl)
theorem dX3_hasEvent_17 : decode cX3_hasEvent 17 = .ok (.idiv, 1) := dk_108 (dk_at dksX3_hasEvent_0 17 rfl rfl)
theorem dX3_hasEvent_18 : decode cX3_hasEvent 18 = .ok (.iload_n 1, 1) := dk_27 (dk_at dksX3_hasEvent_0 18 rfl rfl)
theorem dX3_hasEvent_19 : decode cX3_hasEvent 19 = .ok (.iconst 2, 1) := dk_5 (dk_at dksX3_hasEvent_0 19 rfl rfl)
theorem dX3_hasEvent_20 : decode cX3_hasEvent 20 = .ok (.idiv, 1) := dk_108 (dk_at dksX3_hasEvent_0 20 rfl rfl)
theorem dX3_hasEvent_21 : decode cX3_hasEvent 21 = .ok (.bipush 6, 2) := dk_16 6 (dk_at dksX3_hasEvent_0 21 rfl rfl)
theorem dX3_hasEvent_23 : decode cX3_hasEvent 23 = .ok (.irem, 1) := dk_112 (dk_at dksX3_hasEvent_0 23 rfl rfl)
theorem dX3_hasEvent_24 : decode cX3_hasEvent 24 = .ok (.iload_n 1, 1) := dk_27 (dk_at dksX3_hasEvent_1 0 rfl rfl)
theorem dX3_hasEvent_25 : decode cX3_hasEvent 25 = .ok (.iconst 2, 1) := dk_5 (dk_at dksX3_hasEvent_1 1 rfl rfl)
theorem dX3_hasEvent_26 : decode cX3_hasEvent 26 = .ok (.irem, 1) := dk_112 (dk_at dksX3_hasEvent_1 2 rfl rfl)
theorem dX3_hasEvent_27 : decode cX3_hasEvent 27 = .ok (.invokevirtual 135, 3) := dk_182 0 135 (dk_at dksX3_hasEvent_1 3 rfl rfl)
theorem dX3_hasEvent_30 : decode cX3_hasEvent 30 = .ok (.ifCond .eq 7, 3) := dk_153 0 7 (dk_at dksX3_hasEvent_1 6 rfl rfl)
theorem dX3_hasEvent_33 : decode cX3_hasEvent 33 = .ok (.iconst 1, 1) := dk_4 (dk_at dksX3_hasEvent_1 9 rfl rfl)
theorem dX3_hasEvent_34 : decode cX3_hasEvent 34 = .ok (.goto 4, 3) := dk_167 0 4 (dk_at dksX3_hasEvent_1 10 rfl rfl)
theorem dX3_hasEvent_37 : decode cX3_hasEvent 37 = .ok (.iconst 0, 1) := dk_3 (dk_at dksX3_hasEvent_1 13 rfl rfl)
theorem dX3_hasEvent_38 : decode cX3_hasEvent 38 = .ok (.ireturn, 1) := dk_172 (dk_at dksX3_hasEvent_1 14 rfl rfl)
abbrev cX3_isTold : ByteArray := prog_21_method_75_code
def yX3_isTold : MethodName := ⟨RX3, "isTold", "()Z"⟩
def dkwX3_isTold_2 : List UInt8 := [5, 112, 182, 0, 163, 155, 0, 7, 4, 167, 0, 4, 3, 60, 132, 2, 1, 167, 255, 206, 27, 172]
abbrev dktX3_isTold_2 : List UInt8 := dkwX3_isTold_2 ++ []
def dkwX3_isTold_1 : List UInt8 := [27, 153, 0, 35, 42, 28, 182, 1, 5, 153, 0, 23, 42, 28, 16, 12, 108, 28, 5, 108, 16, 6, 112, 28]
abbrev dktX3_isTold_1 : List UInt8 := dkwX3_isTold_1 ++ dktX3_isTold_2
def dkwX3_isTold_0 : List UInt8 := [42, 3, 181, 0, 69, 42, 2, 2, 182, 0, 159, 4, 60, 3, 61, 28, 42, 180, 0, 47, 190, 162, 0, 47]
abbrev dktX3_isTold_0 : List UInt8 := dkwX3_isTold_0 ++ dktX3_isTold_1
theorem dksX3_isTold_0 : cX3_isTold.data.toList.drop 0 = dktX3_isTold_0 := by decide +kernel
theorem dksX3_isTold_1 : cX3_isTold.data.toList.drop 24 = dktX3_isTold_1 := dk_seg dksX3_isTold_0 24 rfl rfl
theorem dksX3_isTold_2 : cX3_isTold.data.toList.drop 48 = dktX3_isTold_2 := dk_seg dksX3_isTold_1 24 rfl rfl
theorem dX3_isTold_0 : decode cX3_isTold 0 = .ok (.aload_n 0, 1) := dk_42 (dk_at dksX3_isTold_0 0 rfl rfl)
theorem dX3_isTold_1 : decode cX3_isTold 1 = .ok (.iconst 0, 1) := dk_3 (dk_at dksX3_isTold_0 1 rfl rfl)
theorem dX3_isTold_2 : decode cX3_isTold 2 = .ok (.putfield 69, 3) := dk_181 0 69 (dk_at dksX3_isTold_0 2 rfl rfl)
theorem dX3_isTold_5 : decode cX3_isTold 5 = .ok (.aload_n 0, 1) := dk_42 (dk_at dksX3_isTold_0 5 rfl rfl)
theorem dX3_isTold_6 : decode cX3_isTold 6 = .ok (.iconst (-1), 1) := dk_2 (dk_at dksX3_isTold_0 6 rfl rfl)
theorem dX3_isTold_7 : decode cX3_isTold 7 = .ok (.iconst (-1), 1) := dk_2 (dk_at dksX3_isTold_0 7 rfl rfl)
theorem dX3_isTold_8 : decode cX3_isTold 8 = .ok (.invokevirtual 159, 3) := dk_182 0 159 (dk_at dksX3_isTold_0 8 rfl rfl)
theorem dX3_isTold_11 : decode cX3_isTold 11 = .ok (.iconst 1, 1) := dk_4 (dk_at dksX3_isTold_0 11 rfl rfl)
theorem dX3_isTold_12 : decode cX3_isTold 12 = .ok (.istore_n 1, 1) := dk_60 (dk_at dksX3_isTold_0 12 rfl rfl)
theorem dX3_isTold_13 : decode cX3_isTold 13 = .ok (.iconst 0, 1) := dk_3 (dk_at dksX3_isTold_0 13 rfl rfl)
theorem dX3_isTold_14 : decode cX3_isTold 14 = .ok (.istore_n 2, 1) := dk_61 (dk_at dksX3_isTold_0 14 rfl rfl)
theorem dX3_isTold_15 : decode cX3_isTold 15 = .ok (.iload_n 2, 1) := dk_28 (dk_at dksX3_isTold_0 15 rfl rfl)
theorem dX3_isTold_16 : decode cX3_isTold 16 = .ok (.aload_n 0, 1) := dk_42 (dk_at dksX3_isTold_0 16 rfl rfl)
theorem dX3_isTold_17 : decode cX3_isTold 17 = .ok (.getfield 47, 3) := dk_180 0 47 (dk_at dksX3_isTold_0 17 rfl rfl)
theorem dX3_isTold_20 : decode cX3_isTold 20 = .ok (.arraylength, 1) := dk_190 (dk_at dksX3_isTold_0 20 rfl rfl)
theorem dX3_isTold_21 : decode cX3_isTold 21 = .ok (.if_icmp .ge 47, 3) := dk_162 0 47 (dk_at dksX3_isTold_0 21 rfl rfl)
theorem dX3_isTold_24 : decode cX3_isTold 24 = .ok (.iload_n 1, 1) := dk_27 (dk_at dksX3_isTold_1 0 rfl rfl)
theorem dX3_isTold_25 : decode cX3_isTold 25 = .ok (.ifCond .eq 35, 3) := dk_153 0 35 (dk_at dksX3_isTold_1 1 rfl rfl)
theorem dX3_isTold_28 : decode cX3_isTold 28 = .ok (.aload_n 0, 1) := dk_42 (dk_at dksX3_isTold_1 4 rfl rfl)
theorem dX3_isTold_29 : decode cX3_isTold 29 = .ok (.iload_n 2, 1) := dk_28 (dk_at dksX3_isTold_1 5 rfl rfl)
theorem dX3_isTold_30 : decode cX3_isTold 30 = .ok (.invokevirtual 261, 3) := dk_182 1 5 (dk_at dksX3_isTold_1 6 rfl rfl)
theorem dX3_isTold_33 : decode cX3_isTold 33 = .ok (.ifCond .eq 23, 3) := dk_153 0 23 (dk_at dksX3_isTold_1 9 rfl rfl)
theorem dX3_isTold_36 : decode cX3_isTold 36 = .ok (.aload_n 0, 1) := dk_42 (dk_at dksX3_isTold_1 12 rfl rfl)
theorem dX3_isTold_37 : decode cX3_isTold 37 = .ok (.iload_n 2, 1) := dk_28 (dk_at dksX3_isTold_1 13 rfl rfl)
theorem dX3_isTold_38 : decode cX3_isTold 38 = .ok (.bipush 12, 2) := dk_16 12 (dk_at dksX3_isTold_1 14 rfl rfl)
theorem dX3_isTold_40 : decode cX3_isTold 40 = .ok (.idiv, 1) := dk_108 (dk_at dksX3_isTold_1 16 rfl rfl)
theorem dX3_isTold_41 : decode cX3_isTold 41 = .ok (.iload_n 2, 1) := dk_28 (dk_at dksX3_isTold_1 17 rfl rfl)
theorem dX3_isTold_42 : decode cX3_isTold 42 = .ok (.iconst 2, 1) := dk_5 (dk_at dksX3_isTold_1 18 rfl rfl)
theorem dX3_isTold_43 : decode cX3_isTold 43 = .ok (.idiv, 1) := dk_108 (dk_at dksX3_isTold_1 19 rfl rfl)
theorem dX3_isTold_44 : decode cX3_isTold 44 = .ok (.bipush 6, 2) := dk_16 6 (dk_at dksX3_isTold_1 20 rfl rfl)
theorem dX3_isTold_46 : decode cX3_isTold 46 = .ok (.irem, 1) := dk_112 (dk_at dksX3_isTold_1 22 rfl rfl)
theorem dX3_isTold_47 : decode cX3_isTold 47 = .ok (.iload_n 2, 1) := dk_28 (dk_at dksX3_isTold_1 23 rfl rfl)
theorem dX3_isTold_48 : decode cX3_isTold 48 = .ok (.iconst 2, 1) := dk_5 (dk_at dksX3_isTold_2 0 rfl rfl)
theorem dX3_isTold_49 : decode cX3_isTold 49 = .ok (.irem, 1) := dk_112 (dk_at dksX3_isTold_2 1 rfl rfl)
theorem dX3_isTold_50 : decode cX3_isTold 50 = .ok (.invokevirtual 163, 3) := dk_182 0 163 (dk_at dksX3_isTold_2 2 rfl rfl)
theorem dX3_isTold_53 : decode cX3_isTold 53 = .ok (.ifCond .lt 7, 3) := dk_155 0 7 (dk_at dksX3_isTold_2 5 rfl rfl)
theorem dX3_isTold_56 : decode cX3_isTold 56 = .ok (.iconst 1, 1) := dk_4 (dk_at dksX3_isTold_2 8 rfl rfl)
theorem dX3_isTold_57 : decode cX3_isTold 57 = .ok (.goto 4, 3) := dk_167 0 4 (dk_at dksX3_isTold_2 9 rfl rfl)
theorem dX3_isTold_60 : decode cX3_isTold 60 = .ok (.iconst 0, 1) := dk_3 (dk_at dksX3_isTold_2 12 rfl rfl)
theorem dX3_isTold_61 : decode cX3_isTold 61 = .ok (.istore_n 1, 1) := dk_60 (dk_at dksX3_isTold_2 13 rfl rfl)
theorem dX3_isTold_62 : decode cX3_isTold 62 = .ok (.iinc 2 1, 3) := dk_132 2 1 (dk_at dksX3_isTold_2 14 rfl rfl)
theorem dX3_isTold_65 : decode cX3_isTold 65 = .ok (.goto (-50), 3) := dk_167 255 206 (dk_at dksX3_isTold_2 17 rfl rfl)
theorem dX3_isTold_68 : decode cX3_isTold 68 = .ok (.iload_n 1, 1) := dk_27 (dk_at dksX3_isTold_2 20 rfl rfl)
theorem dX3_isTold_69 : decode cX3_isTold 69 = .ok (.ireturn, 1) := dk_172 (dk_at dksX3_isTold_2 21 rfl rfl)
abbrev cX3_append : ByteArray := prog_21_method_76_code
def yX3_append : MethodName := ⟨RX3, "append", "(C)I"⟩
def dkwX3_append_2 : List UInt8 := [27, 79, 42, 89, 180, 1, 12, 4, 96, 181, 1, 12, 42, 180, 1, 12, 172]
abbrev dktX3_append_2 : List UInt8 := dkwX3_append_2 ++ []
def dkwX3_append_1 : List UInt8 := [172, 42, 180, 1, 12, 16, 60, 160, 0, 9, 42, 5, 182, 0, 81, 172, 42, 180, 0, 26, 42, 180, 1, 12]
abbrev dktX3_append_1 : List UInt8 := dkwX3_append_1 ++ dktX3_append_2
def dkwX3_append_0 : List UInt8 := [42, 3, 181, 0, 69, 27, 133, 20, 1, 8, 20, 1, 10, 184, 0, 88, 154, 0, 9, 42, 4, 182, 0, 81]
abbrev dktX3_append_0 : List UInt8 := dkwX3_append_0 ++ dktX3_append_1
theorem dksX3_append_0 : cX3_append.data.toList.drop 0 = dktX3_append_0 := by decide +kernel
theorem dksX3_append_1 : cX3_append.data.toList.drop 24 = dktX3_append_1 := dk_seg dksX3_append_0 24 rfl rfl
theorem dksX3_append_2 : cX3_append.data.toList.drop 48 = dktX3_append_2 := dk_seg dksX3_append_1 24 rfl rfl
theorem dX3_append_0 : decode cX3_append 0 = .ok (.aload_n 0, 1) := dk_42 (dk_at dksX3_append_0 0 rfl rfl)
theorem dX3_append_1 : decode cX3_append 1 = .ok (.iconst 0, 1) := dk_3 (dk_at dksX3_append_0 1 rfl rfl)
theorem dX3_append_2 : decode cX3_append 2 = .ok (.putfield 69, 3) := dk_181 0 69 (dk_at dksX3_append_0 2 rfl rfl)
theorem dX3_append_5 : decode cX3_append 5 = .ok (.iload_n 1, 1) := dk_27 (dk_at dksX3_append_0 5 rfl rfl)
theorem dX3_append_6 : decode cX3_append 6 = .ok (.i2l, 1) := dk_133 (dk_at dksX3_append_0 6 rfl rfl)
theorem dX3_append_7 : decode cX3_append 7 = .ok (.ldc2_w 264, 3) := dk_20 1 8 (dk_at dksX3_append_0 7 rfl rfl)
theorem dX3_append_10 : decode cX3_append 10 = .ok (.ldc2_w 266, 3) := dk_20 1 10 (dk_at dksX3_append_0 10 rfl rfl)
theorem dX3_append_13 : decode cX3_append 13 = .ok (.invokestatic 88, 3) := dk_184 0 88 (dk_at dksX3_append_0 13 rfl rfl)
theorem dX3_append_16 : decode cX3_append 16 = .ok (.ifCond .ne 9, 3) := dk_154 0 9 (dk_at dksX3_append_0 16 rfl rfl)
theorem dX3_append_19 : decode cX3_append 19 = .ok (.aload_n 0, 1) := dk_42 (dk_at dksX3_append_0 19 rfl rfl)
theorem dX3_append_20 : decode cX3_append 20 = .ok (.iconst 1, 1) := dk_4 (dk_at dksX3_append_0 20 rfl rfl)
theorem dX3_append_21 : decode cX3_append 21 = .ok (.invokevirtual 81, 3) := dk_182 0 81 (dk_at dksX3_append_0 21 rfl rfl)
theorem dX3_append_24 : decode cX3_append 24 = .ok (.ireturn, 1) := dk_172 (dk_at dksX3_append_1 0 rfl rfl)
theorem dX3_append_25 : decode cX3_append 25 = .ok (.aload_n 0, 1) := dk_42 (dk_at dksX3_append_1 1 rfl rfl)
theorem dX3_append_26 : decode cX3_append 26 = .ok (.getfield 268, 3) := dk_180 1 12 (dk_at dksX3_append_1 2 rfl rfl)
theorem dX3_append_29 : decode cX3_append 29 = .ok (.bipush 60, 2) := dk_16 60 (dk_at dksX3_append_1 5 rfl rfl)
theorem dX3_append_31 : decode cX3_append 31 = .ok (.if_icmp .ne 9, 3) := dk_160 0 9 (dk_at dksX3_append_1 7 rfl rfl)
theorem dX3_append_34 : decode cX3_append 34 = .ok (.aload_n 0, 1) := dk_42 (dk_at dksX3_append_1 10 rfl rfl)
theorem dX3_append_35 : decode cX3_append 35 = .ok (.iconst 2, 1) := dk_5 (dk_at dksX3_append_1 11 rfl rfl)
theorem dX3_append_36 : decode cX3_append 36 = .ok (.invokevirtual 81, 3) := dk_182 0 81 (dk_at dksX3_append_1 12 rfl rfl)
theorem dX3_append_39 : decode cX3_append 39 = .ok (.ireturn, 1) := dk_172 (dk_at dksX3_append_1 15 rfl rfl)
theorem dX3_append_40 : decode cX3_append 40 = .ok (.aload_n 0, 1) := dk_42 (dk_at dksX3_append_1 16 rfl rfl)
theorem dX3_append_41 : decode cX3_append 41 = .ok (.getfield 26, 3) := dk_180 0 26 (dk_at dksX3_append_1 17 rfl rfl)
theorem dX3_append_44 : decode cX3_append 44 = .ok (.aload_n 0, 1) := dk_42 (dk_at dksX3_append_1 20 rfl rfl)
theorem dX3_append_45 : decode cX3_append 45 = .ok (.getfield 268, 3) := dk_180 1 12 (dk_at dksX3_append_1 21 rfl rfl)
theorem dX3_append_48 : decode cX3_append 48 = .ok (.iload_n 1, 1) := dk_27 (dk_at dksX3_append_2 0 rfl rfl)
theorem dX3_append_49 : decode cX3_append 49 = .ok (.iastore, 1) := dk_79 (dk_at dksX3_append_2 1 rfl rfl)
theorem dX3_append_50 : decode cX3_append 50 = .ok (.aload_n 0, 1) := dk_42 (dk_at dksX3_append_2 2 rfl rfl)
theorem dX3_append_51 : decode cX3_append 51 = .ok (.dup, 1) := dk_89 (dk_at dksX3_append_2 3 rfl rfl)
theorem dX3_append_52 : decode cX3_append 52 = .ok (.getfield 268, 3) := dk_180 1 12 (dk_at dksX3_append_2 4 rfl rfl)
theorem dX3_append_55 : decode cX3_append 55 = .ok (.iconst 1, 1) := dk_4 (dk_at dksX3_append_2 7 rfl rfl)
theorem dX3_append_56 : decode cX3_append 56 = .ok (.iadd, 1) := dk_96 (dk_at dksX3_append_2 8 rfl rfl)
theorem dX3_append_57 : decode cX3_append 57 = .ok (.putfield 268, 3) := dk_181 1 12 (dk_at dksX3_append_2 9 rfl rfl)
theorem dX3_append_60 : decode cX3_append 60 = .ok (.aload_n 0, 1) := dk_42 (dk_at dksX3_append_2 12 rfl rfl)
theorem dX3_append_61 : decode cX3_append 61 = .ok (.getfield 268, 3) := dk_180 1 12 (dk_at dksX3_append_2 13 rfl rfl)
theorem dX3_append_64 : decode cX3_append 64 = .ok (.ireturn, 1) := dk_172 (dk_at dksX3_append_2 16 rfl rfl)
abbrev cX3_run : ByteArray := prog_21_method_86_code
def yX3_run : MethodName := ⟨RX3, "run", "()I"⟩
def dkwX3_run_8 : List UInt8 := [42, 42, 180, 1, 42, 182, 0, 115, 172]
abbrev dktX3_run_8 : List UInt8 := dkwX3_run_8 ++ []
def dkwX3_run_7 : List UInt8 := [180, 0, 13, 29, 46, 79, 132, 3, 1, 167, 255, 234, 42, 28, 182, 1, 60, 172, 132, 2, 1, 167, 255, 197]
abbrev dktX3_run_7 : List UInt8 := dkwX3_run_7 ++ dktX3_run_8
def dkwX3_run_6 : List UInt8 := [42, 180, 0, 69, 158, 0, 36, 3, 62, 29, 17, 1, 156, 162, 0, 21, 42, 180, 0, 9, 29, 42]
abbrev dktX3_run_6 : List UInt8 := dkwX3_run_6 ++ dktX3_run_7
def dkwX3_run_5 : List UInt8 := [42, 4, 182, 0, 81, 172, 3, 61, 28, 42, 180, 1, 42, 162, 0, 57, 42, 16, 8, 28, 104, 182, 1, 57]
abbrev dktX3_run_5 : List UInt8 := dkwX3_run_5 ++ dktX3_run_6
def dkwX3_run_4 : List UInt8 := [180, 1, 21, 153, 0, 10, 42, 180, 1, 15, 167, 0, 4, 2, 181, 0, 22, 42, 180, 1, 21, 153, 0, 9]
abbrev dktX3_run_4 : List UInt8 := dkwX3_run_4 ++ dktX3_run_5
def dkwX3_run_3 : List UInt8 := [42, 16, 59, 182, 1, 32, 42, 180, 1, 21, 154, 0, 7, 4, 167, 0, 4, 3, 60, 167, 255, 201, 42, 42]
abbrev dktX3_run_3 : List UInt8 := dkwX3_run_3 ++ dktX3_run_4
def dkwX3_run_2 : List UInt8 := [154, 0, 18, 42, 180, 1, 15, 42, 180, 1, 18, 162, 0, 7, 4, 167, 0, 4, 3, 60, 27, 153, 255, 223]
abbrev dktX3_run_2 : List UInt8 := dkwX3_run_2 ++ dktX3_run_3
def dkwX3_run_1 : List UInt8 := [181, 1, 42, 42, 3, 181, 1, 21, 4, 60, 27, 153, 0, 57, 42, 182, 1, 54, 42, 180, 1, 21]
abbrev dktX3_run_1 : List UInt8 := dkwX3_run_1 ++ dktX3_run_2
def dkwX3_run_0 : List UInt8 := [42, 182, 0, 109, 42, 42, 180, 1, 12, 181, 1, 18, 42, 3, 181, 1, 12, 42, 3, 181, 1, 15, 42, 3]
abbrev dktX3_run_0 : List UInt8 := dkwX3_run_0 ++ dktX3_run_1
theorem dksX3_run_0 : cX3_run.data.toList.drop 0 = dktX3_run_0 := by decide +kernel
theorem dksX3_run_1 : cX3_run.data.toList.drop 24 = dktX3_run_1 := dk_seg dksX3_run_0 24 rfl rfl
theorem dksX3_run_2 : cX3_run.data.toList.drop 46 = dktX3_run_2 := dk_seg dksX3_run_1 22 rfl rfl
theorem dksX3_run_3 : cX3_run.data.toList.drop 70 = dktX3_run_3 := dk_seg dksX3_run_2 24 rfl rfl
theorem dksX3_run_4 : cX3_run.data.toList.drop 94 = dktX3_run_4 := dk_seg dksX3_run_3 24 rfl rfl
theorem dksX3_run_5 : cX3_run.data.toList.drop 118 = dktX3_run_5 := dk_seg dksX3_run_4 24 rfl rfl
theorem dksX3_run_6 : cX3_run.data.toList.drop 142 = dktX3_run_6 := dk_seg dksX3_run_5 24 rfl rfl
theorem dksX3_run_7 : cX3_run.data.toList.drop 164 = dktX3_run_7 := dk_seg dksX3_run_6 22 rfl rfl
theorem dksX3_run_8 : cX3_run.data.toList.drop 188 = dktX3_run_8 := dk_seg dksX3_run_7 24 rfl rfl
theorem dX3_run_0 : decode cX3_run 0 = .ok (.aload_n 0, 1) := dk_42 (dk_at dksX3_run_0 0 rfl rfl)
theorem dX3_run_1 : decode cX3_run 1 = .ok (.invokevirtual 109, 3) := dk_182 0 109 (dk_at dksX3_run_0 1 rfl rfl)
theorem dX3_run_4 : decode cX3_run 4 = .ok (.aload_n 0, 1) := dk_42 (dk_at dksX3_run_0 4 rfl rfl)
theorem dX3_run_5 : decode cX3_run 5 = .ok (.aload_n 0, 1) := dk_42 (dk_at dksX3_run_0 5 rfl rfl)
theorem dX3_run_6 : decode cX3_run 6 = .ok (.getfield 268, 3) := dk_180 1 12 (dk_at dksX3_run_0 6 rfl rfl)
theorem dX3_run_9 : decode cX3_run 9 = .ok (.putfield 274, 3) := dk_181 1 18 (dk_at dksX3_run_0 9 rfl rfl)
theorem dX3_run_12 : decode cX3_run 12 = .ok (.aload_n 0, 1) := dk_42 (dk_at dksX3_run_0 12 rfl rfl)
theorem dX3_run_13 : decode cX3_run 13 = .ok (.iconst 0, 1) := dk_3 (dk_at dksX3_run_0 13 rfl rfl)
theorem dX3_run_14 : decode cX3_run 14 = .ok (.putfield 268, 3) := dk_181 1 12 (dk_at dksX3_run_0 14 rfl rfl)
theorem dX3_run_17 : decode cX3_run 17 = .ok (.aload_n 0, 1) := dk_42 (dk_at dksX3_run_0 17 rfl rfl)
theorem dX3_run_18 : decode cX3_run 18 = .ok (.iconst 0, 1) := dk_3 (dk_at dksX3_run_0 18 rfl rfl)
theorem dX3_run_19 : decode cX3_run 19 = .ok (.putfield 271, 3) := dk_181 1 15 (dk_at dksX3_run_0 19 rfl rfl)
theorem dX3_run_22 : decode cX3_run 22 = .ok (.aload_n 0, 1) := dk_42 (dk_at dksX3_run_0 22 rfl rfl)
theorem dX3_run_23 : decode cX3_run 23 = .ok (.iconst 0, 1) := dk_3 (dk_at dksX3_run_0 23 rfl rfl)
theorem dX3_run_24 : decode cX3_run 24 = .ok (.putfield 298, 3) := dk_181 1 42 (dk_at dksX3_run_1 0 rfl rfl)
theorem dX3_run_27 : decode cX3_run 27 = .ok (.aload_n 0, 1) := dk_42 (dk_at dksX3_run_1 3 rfl rfl)
theorem dX3_run_28 : decode cX3_run 28 = .ok (.iconst 0, 1) := dk_3 (dk_at dksX3_run_1 4 rfl rfl)
theorem dX3_run_29 : decode cX3_run 29 = .ok (.putfield 277, 3) := dk_181 1 21 (dk_at dksX3_run_1 5 rfl rfl)
theorem dX3_run_32 : decode cX3_run 32 = .ok (.iconst 1, 1) := dk_4 (dk_at dksX3_run_1 8 rfl rfl)
theorem dX3_run_33 : decode cX3_run 33 = .ok (.istore_n 1, 1) := dk_60 (dk_at dksX3_run_1 9 rfl rfl)
theorem dX3_run_34 : decode cX3_run 34 = .ok (.iload_n 1, 1) := dk_27 (dk_at dksX3_run_1 10 rfl rfl)
theorem dX3_run_35 : decode cX3_run 35 = .ok (.ifCond .eq 57, 3) := dk_153 0 57 (dk_at dksX3_run_1 11 rfl rfl)
theorem dX3_run_38 : decode cX3_run 38 = .ok (.aload_n 0, 1) := dk_42 (dk_at dksX3_run_1 14 rfl rfl)
theorem dX3_run_39 : decode cX3_run 39 = .ok (.invokevirtual 310, 3) := dk_182 1 54 (dk_at dksX3_run_1 15 rfl rfl)
theorem dX3_run_42 : decode cX3_run 42 = .ok (.aload_n 0, 1) := dk_42 (dk_at dksX3_run_1 18 rfl rfl)
theorem dX3_run_43 : decode cX3_run 43 = .ok (.getfield 277, 3) := dk_180 1 21 (dk_at dksX3_run_1 19 rfl rfl)
theorem dX3_run_46 : decode cX3_run 46 = .ok (.ifCond .ne 18, 3) := dk_154 0 18 (dk_at dksX3_run_2 0 rfl rfl)
theorem dX3_run_49 : decode cX3_run 49 = .ok (.aload_n 0, 1) := dk_42 (dk_at dksX3_run_2 3 rfl rfl)
theorem dX3_run_50 : decode cX3_run 50 = .ok (.getfield 271, 3) := dk_180 1 15 (dk_at dksX3_run_2 4 rfl rfl)
theorem dX3_run_53 : decode cX3_run 53 = .ok (.aload_n 0, 1) := dk_42 (dk_at dksX3_run_2 7 rfl rfl)
theorem dX3_run_54 : decode cX3_run 54 = .ok (.getfield 274, 3) := dk_180 1 18 (dk_at dksX3_run_2 8 rfl rfl)
theorem dX3_run_57 : decode cX3_run 57 = .ok (.if_icmp .ge 7, 3) := dk_162 0 7 (dk_at dksX3_run_2 11 rfl rfl)
theorem dX3_run_60 : decode cX3_run 60 = .ok (.iconst 1, 1) := dk_4 (dk_at dksX3_run_2 14 rfl rfl)
theorem dX3_run_61 : decode cX3_run 61 = .ok (.goto 4, 3) := dk_167 0 4 (dk_at dksX3_run_2 15 rfl rfl)
theorem dX3_run_64 : decode cX3_run 64 = .ok (.iconst 0, 1) := dk_3 (dk_at dksX3_run_2 18 rfl rfl)
theorem dX3_run_65 : decode cX3_run 65 = .ok (.istore_n 1, 1) := dk_60 (dk_at dksX3_run_2 19 rfl rfl)
theorem dX3_run_66 : decode cX3_run 66 = .ok (.iload_n 1, 1) := dk_27 (dk_at dksX3_run_2 20 rfl rfl)
theorem dX3_run_67 : decode cX3_run 67 = .ok (.ifCond .eq (-33), 3) := dk_153 255 223 (dk_at dksX3_run_2 21 rfl rfl)
theorem dX3_run_70 : decode cX3_run 70 = .ok (.aload_n 0, 1) := dk_42 (dk_at dksX3_run_3 0 rfl rfl)
theorem dX3_run_71 : decode cX3_run 71 = .ok (.bipush 59, 2) := dk_16 59 (dk_at dksX3_run_3 1 rfl rfl)
theorem dX3_run_73 : decode cX3_run 73 = .ok (.invokevirtual 288, 3) := dk_182 1 32 (dk_at dksX3_run_3 3 rfl rfl)
theorem dX3_run_76 : decode cX3_run 76 = .ok (.aload_n 0, 1) := dk_42 (dk_at dksX3_run_3 6 rfl rfl)
theorem dX3_run_77 : decode cX3_run 77 = .ok (.getfield 277, 3) := dk_180 1 21 (dk_at dksX3_run_3 7 rfl rfl)
theorem dX3_run_80 : decode cX3_run 80 = .ok (.ifCond .ne 7, 3) := dk_154 0 7 (dk_at dksX3_run_3 10 rfl rfl)
theorem dX3_run_83 : decode cX3_run 83 = .ok (.iconst 1, 1) := dk_4 (dk_at dksX3_run_3 13 rfl rfl)
theorem dX3_run_84 : decode cX3_run 84 = .ok (.goto 4, 3) := dk_167 0 4 (dk_at dksX3_run_3 14 rfl rfl)
theorem dX3_run_87 : decode cX3_run 87 = .ok (.iconst 0, 1) := dk_3 (dk_at dksX3_run_3 17 rfl rfl)
theorem dX3_run_88 : decode cX3_run 88 = .ok (.istore_n 1, 1) := dk_60 (dk_at dksX3_run_3 18 rfl rfl)
theorem dX3_run_89 : decode cX3_run 89 = .ok (.goto (-55), 3) := dk_167 255 201 (dk_at dksX3_run_3 19 rfl rfl)
theorem dX3_run_92 : decode cX3_run 92 = .ok (.aload_n 0, 1) := dk_42 (dk_at dksX3_run_3 22 rfl rfl)
theorem dX3_run_93 : decode cX3_run 93 = .ok (.aload_n 0, 1) := dk_42 (dk_at dksX3_run_3 23 rfl rfl)
theorem dX3_run_94 : decode cX3_run 94 = .ok (.getfield 277, 3) := dk_180 1 21 (dk_at dksX3_run_4 0 rfl rfl)
theorem dX3_run_97 : decode cX3_run 97 = .ok (.ifCond .eq 10, 3) := dk_153 0 10 (dk_at dksX3_run_4 3 rfl rfl)
theorem dX3_run_100 : decode cX3_run 100 = .ok (.aload_n 0, 1) := dk_42 (dk_at dksX3_run_4 6 rfl rfl)
theorem dX3_run_101 : decode cX3_run 101 = .ok (.getfield 271, 3) := dk_180 1 15 (dk_at dksX3_run_4 7 rfl rfl)
theorem dX3_run_104 : decode cX3_run 104 = .ok (.goto 4, 3) := dk_167 0 4 (dk_at dksX3_run_4 10 rfl rfl)
theorem dX3_run_107 : decode cX3_run 107 = .ok (.iconst (-1), 1) := dk_2 (dk_at dksX3_run_4 13 rfl rfl)
theorem dX3_run_108 : decode cX3_run 108 = .ok (.putfield 22, 3) := dk_181 0 22 (dk_at dksX3_run_4 14 rfl rfl)
theorem dX3_run_111 : decode cX3_run 111 = .ok (.aload_n 0, 1) := dk_42 (dk_at dksX3_run_4 17 rfl rfl)
theorem dX3_run_112 : decode cX3_run 112 = .ok (.getfield 277, 3) := dk_180 1 21 (dk_at dksX3_run_4 18 rfl rfl)
theorem dX3_run_115 : decode cX3_run 115 = .ok (.ifCond .eq 9, 3) := dk_153 0 9 (dk_at dksX3_run_4 21 rfl rfl)
theorem dX3_run_118 : decode cX3_run 118 = .ok (.aload_n 0, 1) := dk_42 (dk_at dksX3_run_5 0 rfl rfl)
theorem dX3_run_119 : decode cX3_run 119 = .ok (.iconst 1, 1) := dk_4 (dk_at dksX3_run_5 1 rfl rfl)
theorem dX3_run_120 : decode cX3_run 120 = .ok (.invokevirtual 81, 3) := dk_182 0 81 (dk_at dksX3_run_5 2 rfl rfl)
theorem dX3_run_123 : decode cX3_run 123 = .ok (.ireturn, 1) := dk_172 (dk_at dksX3_run_5 5 rfl rfl)
theorem dX3_run_124 : decode cX3_run 124 = .ok (.iconst 0, 1) := dk_3 (dk_at dksX3_run_5 6 rfl rfl)
theorem dX3_run_125 : decode cX3_run 125 = .ok (.istore_n 2, 1) := dk_61 (dk_at dksX3_run_5 7 rfl rfl)
theorem dX3_run_126 : decode cX3_run 126 = .ok (.iload_n 2, 1) := dk_28 (dk_at dksX3_run_5 8 rfl rfl)
theorem dX3_run_127 : decode cX3_run 127 = .ok (.aload_n 0, 1) := dk_42 (dk_at dksX3_run_5 9 rfl rfl)
theorem dX3_run_128 : decode cX3_run 128 = .ok (.getfield 298, 3) := dk_180 1 42 (dk_at dksX3_run_5 10 rfl rfl)
theorem dX3_run_131 : decode cX3_run 131 = .ok (.if_icmp .ge 57, 3) := dk_162 0 57 (dk_at dksX3_run_5 13 rfl rfl)
theorem dX3_run_134 : decode cX3_run 134 = .ok (.aload_n 0, 1) := dk_42 (dk_at dksX3_run_5 16 rfl rfl)
theorem dX3_run_135 : decode cX3_run 135 = .ok (.bipush 8, 2) := dk_16 8 (dk_at dksX3_run_5 17 rfl rfl)
theorem dX3_run_137 : decode cX3_run 137 = .ok (.iload_n 2, 1) := dk_28 (dk_at dksX3_run_5 19 rfl rfl)
theorem dX3_run_138 : decode cX3_run 138 = .ok (.imul, 1) := dk_104 (dk_at dksX3_run_5 20 rfl rfl)
theorem dX3_run_139 : decode cX3_run 139 = .ok (.invokevirtual 313, 3) := dk_182 1 57 (dk_at dksX3_run_5 21 rfl rfl)
theorem dX3_run_142 : decode cX3_run 142 = .ok (.aload_n 0, 1) := dk_42 (dk_at dksX3_run_6 0 rfl rfl)
theorem dX3_run_143 : decode cX3_run 143 = .ok (.getfield 69, 3) := dk_180 0 69 (dk_at dksX3_run_6 1 rfl rfl)
theorem dX3_run_146 : decode cX3_run 146 = .ok (.ifCond .le 36, 3) := dk_158 0 36 (dk_at dksX3_run_6 4 rfl rfl)
theorem dX3_run_149 : decode cX3_run 149 = .ok (.iconst 0, 1) := dk_3 (dk_at dksX3_run_6 7 rfl rfl)
theorem dX3_run_150 : decode cX3_run 150 = .ok (.istore_n 3, 1) := dk_62 (dk_at dksX3_run_6 8 rfl rfl)
theorem dX3_run_151 : decode cX3_run 151 = .ok (.iload_n 3, 1) := dk_29 (dk_at dksX3_run_6 9 rfl rfl)
theorem dX3_run_152 : decode cX3_run 152 = .ok (.sipush 412, 3) := dk_17 1 156 (dk_at dksX3_run_6 10 rfl rfl)
theorem dX3_run_155 : decode cX3_run 155 = .ok (.if_icmp .ge 21, 3) := dk_162 0 21 (dk_at dksX3_run_6 13 rfl rfl)
theorem dX3_run_158 : decode cX3_run 158 = .ok (.aload_n 0, 1) := dk_42 (dk_at dksX3_run_6 16 rfl rfl)
theorem dX3_run_159 : decode cX3_run 159 = .ok (.getfield 9, 3) := dk_180 0 9 (dk_at dksX3_run_6 17 rfl rfl)
theorem dX3_run_162 : decode cX3_run 162 = .ok (.iload_n 3, 1) := dk_29 (dk_at dksX3_run_6 20 rfl rfl)
theorem dX3_run_163 : decode cX3_run 163 = .ok (.aload_n 0, 1) := dk_42 (dk_at dksX3_run_6 21 rfl rfl)
theorem dX3_run_164 : decode cX3_run 164 = .ok (.getfield 13, 3) := dk_180 0 13 (dk_at dksX3_run_7 0 rfl rfl)
theorem dX3_run_167 : decode cX3_run 167 = .ok (.iload_n 3, 1) := dk_29 (dk_at dksX3_run_7 3 rfl rfl)
theorem dX3_run_168 : decode cX3_run 168 = .ok (.iaload, 1) := dk_46 (dk_at dksX3_run_7 4 rfl rfl)
theorem dX3_run_169 : decode cX3_run 169 = .ok (.iastore, 1) := dk_79 (dk_at dksX3_run_7 5 rfl rfl)
theorem dX3_run_170 : decode cX3_run 170 = .ok (.iinc 3 1, 3) := dk_132 3 1 (dk_at dksX3_run_7 6 rfl rfl)
theorem dX3_run_173 : decode cX3_run 173 = .ok (.goto (-22), 3) := dk_167 255 234 (dk_at dksX3_run_7 9 rfl rfl)
theorem dX3_run_176 : decode cX3_run 176 = .ok (.aload_n 0, 1) := dk_42 (dk_at dksX3_run_7 12 rfl rfl)
theorem dX3_run_177 : decode cX3_run 177 = .ok (.iload_n 2, 1) := dk_28 (dk_at dksX3_run_7 13 rfl rfl)
theorem dX3_run_178 : decode cX3_run 178 = .ok (.invokevirtual 316, 3) := dk_182 1 60 (dk_at dksX3_run_7 14 rfl rfl)
theorem dX3_run_181 : decode cX3_run 181 = .ok (.ireturn, 1) := dk_172 (dk_at dksX3_run_7 17 rfl rfl)
theorem dX3_run_182 : decode cX3_run 182 = .ok (.iinc 2 1, 3) := dk_132 2 1 (dk_at dksX3_run_7 18 rfl rfl)
theorem dX3_run_185 : decode cX3_run 185 = .ok (.goto (-59), 3) := dk_167 255 197 (dk_at dksX3_run_7 21 rfl rfl)
theorem dX3_run_188 : decode cX3_run 188 = .ok (.aload_n 0, 1) := dk_42 (dk_at dksX3_run_8 0 rfl rfl)
theorem dX3_run_189 : decode cX3_run 189 = .ok (.aload_n 0, 1) := dk_42 (dk_at dksX3_run_8 1 rfl rfl)
theorem dX3_run_190 : decode cX3_run 190 = .ok (.getfield 298, 3) := dk_180 1 42 (dk_at dksX3_run_8 2 rfl rfl)
theorem dX3_run_193 : decode cX3_run 193 = .ok (.invokevirtual 115, 3) := dk_182 0 115 (dk_at dksX3_run_8 5 rfl rfl)
theorem dX3_run_196 : decode cX3_run 196 = .ok (.ireturn, 1) := dk_172 (dk_at dksX3_run_8 8 rfl rfl)
abbrev cX3_readOrder : ByteArray := prog_21_method_84_code
def yX3_readOrder : MethodName := ⟨RX3, "readOrder", "()V"⟩
def dkwX3_readOrder_8 : List UInt8 := [4, 96, 42, 180, 0, 57, 28, 46, 96, 21, 4, 96, 42, 182, 1, 51, 79, 132, 4, 1, 167, 255, 220, 177]
abbrev dktX3_readOrder_8 : List UInt8 := dkwX3_readOrder_8 ++ []
def dkwX3_readOrder_7 : List UInt8 := [167, 0, 4, 3, 79, 3, 54, 4, 21, 4, 42, 180, 0, 60, 28, 46, 162, 0, 31, 42, 180, 0, 63, 27]
abbrev dktX3_readOrder_7 : List UInt8 := dkwX3_readOrder_7 ++ dktX3_readOrder_8
def dkwX3_readOrder_6 : List UInt8 := [132, 4, 1, 167, 255, 227, 42, 180, 0, 63, 27, 16, 7, 96, 28, 154, 0, 10, 42, 182, 1, 48]
abbrev dktX3_readOrder_6 : List UInt8 := dkwX3_readOrder_6 ++ dktX3_readOrder_7
def dkwX3_readOrder_5 : List UInt8 := [180, 0, 57, 28, 46, 162, 0, 24, 42, 180, 0, 63, 27, 4, 96, 21, 4, 96, 42, 182, 1, 39, 79]
abbrev dktX3_readOrder_5 : List UInt8 := dkwX3_readOrder_5 ++ dktX3_readOrder_6
def dkwX3_readOrder_4 : List UInt8 := [177, 42, 180, 0, 63, 27, 28, 79, 42, 89, 180, 1, 42, 4, 96, 181, 1, 42, 3, 54, 4, 21, 4, 42]
abbrev dktX3_readOrder_4 : List UInt8 := dkwX3_readOrder_4 ++ dktX3_readOrder_5
def dkwX3_readOrder_3 : List UInt8 := [180, 0, 54, 28, 46, 100, 162, 0, 7, 4, 167, 0, 4, 3, 181, 1, 21, 42, 180, 1, 21, 153, 0, 4]
abbrev dktX3_readOrder_3 : List UInt8 := dkwX3_readOrder_3 ++ dktX3_readOrder_4
def dkwX3_readOrder_2 : List UInt8 := [62, 42, 89, 180, 1, 15, 29, 96, 181, 1, 15, 42, 29, 42, 180, 0, 54, 28, 4, 96, 46, 42]
abbrev dktX3_readOrder_2 : List UInt8 := dkwX3_readOrder_2 ++ dktX3_readOrder_3
def dkwX3_readOrder_1 : List UInt8 := [28, 182, 1, 45, 164, 0, 7, 29, 167, 0, 4, 28, 61, 132, 3, 1, 167, 255, 228, 42, 28, 182, 1, 45]
abbrev dktX3_readOrder_1 : List UInt8 := dkwX3_readOrder_1 ++ dktX3_readOrder_2
def dkwX3_readOrder_0 : List UInt8 := [16, 8, 42, 180, 1, 42, 104, 60, 3, 61, 4, 62, 29, 16, 7, 162, 0, 28, 42, 29, 182, 1, 45, 42]
abbrev dktX3_readOrder_0 : List UInt8 := dkwX3_readOrder_0 ++ dktX3_readOrder_1
theorem dksX3_readOrder_0 : cX3_readOrder.data.toList.drop 0 = dktX3_readOrder_0 := by decide +kernel
theorem dksX3_readOrder_1 : cX3_readOrder.data.toList.drop 24 = dktX3_readOrder_1 := dk_seg dksX3_readOrder_0 24 rfl rfl
theorem dksX3_readOrder_2 : cX3_readOrder.data.toList.drop 48 = dktX3_readOrder_2 := dk_seg dksX3_readOrder_1 24 rfl rfl
theorem dksX3_readOrder_3 : cX3_readOrder.data.toList.drop 70 = dktX3_readOrder_3 := dk_seg dksX3_readOrder_2 22 rfl rfl
theorem dksX3_readOrder_4 : cX3_readOrder.data.toList.drop 94 = dktX3_readOrder_4 := dk_seg dksX3_readOrder_3 24 rfl rfl
theorem dksX3_readOrder_5 : cX3_readOrder.data.toList.drop 118 = dktX3_readOrder_5 := dk_seg dksX3_readOrder_4 24 rfl rfl
theorem dksX3_readOrder_6 : cX3_readOrder.data.toList.drop 141 = dktX3_readOrder_6 := dk_seg dksX3_readOrder_5 23 rfl rfl
theorem dksX3_readOrder_7 : cX3_readOrder.data.toList.drop 163 = dktX3_readOrder_7 := dk_seg dksX3_readOrder_6 22 rfl rfl
theorem dksX3_readOrder_8 : cX3_readOrder.data.toList.drop 187 = dktX3_readOrder_8 := dk_seg dksX3_readOrder_7 24 rfl rfl
theorem dX3_readOrder_0 : decode cX3_readOrder 0 = .ok (.bipush 8, 2) := dk_16 8 (dk_at dksX3_readOrder_0 0 rfl rfl)
theorem dX3_readOrder_2 : decode cX3_readOrder 2 = .ok (.aload_n 0, 1) := dk_42 (dk_at dksX3_readOrder_0 2 rfl rfl)
theorem dX3_readOrder_3 : decode cX3_readOrder 3 = .ok (.getfield 298, 3) := dk_180 1 42 (dk_at dksX3_readOrder_0 3 rfl rfl)
theorem dX3_readOrder_6 : decode cX3_readOrder 6 = .ok (.imul, 1) := dk_104 (dk_at dksX3_readOrder_0 6 rfl rfl)
theorem dX3_readOrder_7 : decode cX3_readOrder 7 = .ok (.istore_n 1, 1) := dk_60 (dk_at dksX3_readOrder_0 7 rfl rfl)
theorem dX3_readOrder_8 : decode cX3_readOrder 8 = .ok (.iconst 0, 1) := dk_3 (dk_at dksX3_readOrder_0 8 rfl rfl)
theorem dX3_readOrder_9 : decode cX3_readOrder 9 = .ok (.istore_n 2, 1) := dk_61 (dk_at dksX3_readOrder_0 9 rfl rfl)
theorem dX3_readOrder_10 : decode cX3_readOrder 10 = .ok (.iconst 1, 1) := dk_4 (dk_at dksX3_readOrder_0 10 rfl rfl)
theorem dX3_readOrder_11 : decode cX3_readOrder 11 = .ok (.istore_n 3, 1) := dk_62 (dk_at dksX3_readOrder_0 11 rfl rfl)
theorem dX3_readOrder_12 : decode cX3_readOrder 12 = .ok (.iload_n 3, 1) := dk_29 (dk_at dksX3_readOrder_0 12 rfl rfl)
theorem dX3_readOrder_13 : decode cX3_readOrder 13 = .ok (.bipush 7, 2) := dk_16 7 (dk_at dksX3_readOrder_0 13 rfl rfl)
theorem dX3_readOrder_15 : decode cX3_readOrder 15 = .ok (.if_icmp .ge 28, 3) := dk_162 0 28 (dk_at dksX3_readOrder_0 15 rfl rfl)
theorem dX3_readOrder_18 : decode cX3_readOrder 18 = .ok (.aload_n 0, 1) := dk_42 (dk_at dksX3_readOrder_0 18 rfl rfl)
theorem dX3_readOrder_19 : decode cX3_readOrder 19 = .ok (.iload_n 3, 1) := dk_29 (dk_at dksX3_readOrder_0 19 rfl rfl)
theorem dX3_readOrder_20 : decode cX3_readOrder 20 = .ok (.invokevirtual 301, 3) := dk_182 1 45 (dk_at dksX3_readOrder_0 20 rfl rfl)
theorem dX3_readOrder_23 : decode cX3_readOrder 23 = .ok (.aload_n 0, 1) := dk_42 (dk_at dksX3_readOrder_0 23 rfl rfl)
theorem dX3_readOrder_24 : decode cX3_readOrder 24 = .ok (.iload_n 2, 1) := dk_28 (dk_at dksX3_readOrder_1 0 rfl rfl)
theorem dX3_readOrder_25 : decode cX3_readOrder 25 = .ok (.invokevirtual 301, 3) := dk_182 1 45 (dk_at dksX3_readOrder_1 1 rfl rfl)
theorem dX3_readOrder_28 : decode cX3_readOrder 28 = .ok (.if_icmp .le 7, 3) := dk_164 0 7 (dk_at dksX3_readOrder_1 4 rfl rfl)
theorem dX3_readOrder_31 : decode cX3_readOrder 31 = .ok (.iload_n 3, 1) := dk_29 (dk_at dksX3_readOrder_1 7 rfl rfl)
theorem dX3_readOrder_32 : decode cX3_readOrder 32 = .ok (.goto 4, 3) := dk_167 0 4 (dk_at dksX3_readOrder_1 8 rfl rfl)
theorem dX3_readOrder_35 : decode cX3_readOrder 35 = .ok (.iload_n 2, 1) := dk_28 (dk_at dksX3_readOrder_1 11 rfl rfl)
theorem dX3_readOrder_36 : decode cX3_readOrder 36 = .ok (.istore_n 2, 1) := dk_61 (dk_at dksX3_readOrder_1 12 rfl rfl)
theorem dX3_readOrder_37 : decode cX3_readOrder 37 = .ok (.iinc 3 1, 3) := dk_132 3 1 (dk_at dksX3_readOrder_1 13 rfl rfl)
theorem dX3_readOrder_40 : decode cX3_readOrder 40 = .ok (.goto (-28), 3) := dk_167 255 228 (dk_at dksX3_readOrder_1 16 rfl rfl)
theorem dX3_readOrder_43 : decode cX3_readOrder 43 = .ok (.aload_n 0, 1) := dk_42 (dk_at dksX3_readOrder_1 19 rfl rfl)
theorem dX3_readOrder_44 : decode cX3_readOrder 44 = .ok (.iload_n 2, 1) := dk_28 (dk_at dksX3_readOrder_1 20 rfl rfl)
theorem dX3_readOrder_45 : decode cX3_readOrder 45 = .ok (.invokevirtual 301, 3) := dk_182 1 45 (dk_at dksX3_readOrder_1 21 rfl rfl)
theorem dX3_readOrder_48 : decode cX3_readOrder 48 = .ok (.istore_n 3, 1) := dk_62 (dk_at dksX3_readOrder_2 0 rfl rfl)
theorem dX3_readOrder_49 : decode cX3_readOrder 49 = .ok (.aload_n 0, 1) := dk_42 (dk_at dksX3_readOrder_2 1 rfl rfl)
theorem dX3_readOrder_50 : decode cX3_readOrder 50 = .ok (.dup, 1) := dk_89 (dk_at dksX3_readOrder_2 2 rfl rfl)
theorem dX3_readOrder_51 : decode cX3_readOrder 51 = .ok (.getfield 271, 3) := dk_180 1 15 (dk_at dksX3_readOrder_2 3 rfl rfl)
theorem dX3_readOrder_54 : decode cX3_readOrder 54 = .ok (.iload_n 3, 1) := dk_29 (dk_at dksX3_readOrder_2 6 rfl rfl)
theorem dX3_readOrder_55 : decode cX3_readOrder 55 = .ok (.iadd, 1) := dk_96 (dk_at dksX3_readOrder_2 7 rfl rfl)
theorem dX3_readOrder_56 : decode cX3_readOrder 56 = .ok (.putfield 271, 3) := dk_181 1 15 (dk_at dksX3_readOrder_2 8 rfl rfl)
theorem dX3_readOrder_59 : decode cX3_readOrder 59 = .ok (.aload_n 0, 1) := dk_42 (dk_at dksX3_readOrder_2 11 rfl rfl)
theorem dX3_readOrder_60 : decode cX3_readOrder 60 = .ok (.iload_n 3, 1) := dk_29 (dk_at dksX3_readOrder_2 12 rfl rfl)
theorem dX3_readOrder_61 : decode cX3_readOrder 61 = .ok (.aload_n 0, 1) := dk_42 (dk_at dksX3_readOrder_2 13 rfl rfl)
theorem dX3_readOrder_62 : decode cX3_readOrder 62 = .ok (.getfield 54, 3) := dk_180 0 54 (dk_at dksX3_readOrder_2 14 rfl rfl)
theorem dX3_readOrder_65 : decode cX3_readOrder 65 = .ok (.iload_n 2, 1) := dk_28 (dk_at dksX3_readOrder_2 17 rfl rfl)
theorem dX3_readOrder_66 : decode cX3_readOrder 66 = .ok (.iconst 1, 1) := dk_4 (dk_at dksX3_readOrder_2 18 rfl rfl)
theorem dX3_readOrder_67 : decode cX3_readOrder 67 = .ok (.iadd, 1) := dk_96 (dk_at dksX3_readOrder_2 19 rfl rfl)
theorem dX3_readOrder_68 : decode cX3_readOrder 68 = .ok (.iaload, 1) := dk_46 (dk_at dksX3_readOrder_2 20 rfl rfl)
theorem dX3_readOrder_69 : decode cX3_readOrder 69 = .ok (.aload_n 0, 1) := dk_42 (dk_at dksX3_readOrder_2 21 rfl rfl)
theorem dX3_readOrder_70 : decode cX3_readOrder 70 = .ok (.getfield 54, 3) := dk_180 0 54 (dk_at dksX3_readOrder_3 0 rfl rfl)
theorem dX3_readOrder_73 : decode cX3_readOrder 73 = .ok (.iload_n 2, 1) := dk_28 (dk_at dksX3_readOrder_3 3 rfl rfl)
theorem dX3_readOrder_74 : decode cX3_readOrder 74 = .ok (.iaload, 1) := dk_46 (dk_at dksX3_readOrder_3 4 rfl rfl)
theorem dX3_readOrder_75 : decode cX3_readOrder 75 = .ok (.isub, 1) := dk_100 (dk_at dksX3_readOrder_3 5 rfl rfl)
theorem dX3_readOrder_76 : decode cX3_readOrder 76 = .ok (.if_icmp .ge 7, 3) := dk_162 0 7 (dk_at dksX3_readOrder_3 6 rfl rfl)
theorem dX3_readOrder_79 : decode cX3_readOrder 79 = .ok (.iconst 1, 1) := dk_4 (dk_at dksX3_readOrder_3 9 rfl rfl)
theorem dX3_readOrder_80 : decode cX3_readOrder 80 = .ok (.goto 4, 3) := dk_167 0 4 (dk_at dksX3_readOrder_3 10 rfl rfl)
theorem dX3_readOrder_83 : decode cX3_readOrder 83 = .ok (.iconst 0, 1) := dk_3 (dk_at dksX3_readOrder_3 13 rfl rfl)
theorem dX3_readOrder_84 : decode cX3_readOrder 84 = .ok (.putfield 277, 3) := dk_181 1 21 (dk_at dksX3_readOrder_3 14 rfl rfl)
theorem dX3_readOrder_87 : decode cX3_readOrder 87 = .ok (.aload_n 0, 1) := dk_42 (dk_at dksX3_readOrder_3 17 rfl rfl)
theorem dX3_readOrder_88 : decode cX3_readOrder 88 = .ok (.getfield 277, 3) := dk_180 1 21 (dk_at dksX3_readOrder_3 18 rfl rfl)
theorem dX3_readOrder_91 : decode cX3_readOrder 91 = .ok (.ifCond .eq 4, 3) := dk_153 0 4 (dk_at dksX3_readOrder_3 21 rfl rfl)
theorem dX3_readOrder_94 : decode cX3_readOrder 94 = .ok (.return_, 1) := dk_177 (dk_at dksX3_readOrder_4 0 rfl rfl)
theorem dX3_readOrder_95 : decode cX3_readOrder 95 = .ok (.aload_n 0, 1) := dk_42 (dk_at dksX3_readOrder_4 1 rfl rfl)
theorem dX3_readOrder_96 : decode cX3_readOrder 96 = .ok (.getfield 63, 3) := dk_180 0 63 (dk_at dksX3_readOrder_4 2 rfl rfl)
theorem dX3_readOrder_99 : decode cX3_readOrder 99 = .ok (.iload_n 1, 1) := dk_27 (dk_at dksX3_readOrder_4 5 rfl rfl)
theorem dX3_readOrder_100 : decode cX3_readOrder 100 = .ok (.iload_n 2, 1) := dk_28 (dk_at dksX3_readOrder_4 6 rfl rfl)
theorem dX3_readOrder_101 : decode cX3_readOrder 101 = .ok (.iastore, 1) := dk_79 (dk_at dksX3_readOrder_4 7 rfl rfl)
theorem dX3_readOrder_102 : decode cX3_readOrder 102 = .ok (.aload_n 0, 1) := dk_42 (dk_at dksX3_readOrder_4 8 rfl rfl)
theorem dX3_readOrder_103 : decode cX3_readOrder 103 = .ok (.dup, 1) := dk_89 (dk_at dksX3_readOrder_4 9 rfl rfl)
theorem dX3_readOrder_104 : decode cX3_readOrder 104 = .ok (.getfield 298, 3) := dk_180 1 42 (dk_at dksX3_readOrder_4 10 rfl rfl)
theorem dX3_readOrder_107 : decode cX3_readOrder 107 = .ok (.iconst 1, 1) := dk_4 (dk_at dksX3_readOrder_4 13 rfl rfl)
theorem dX3_readOrder_108 : decode cX3_readOrder 108 = .ok (.iadd, 1) := dk_96 (dk_at dksX3_readOrder_4 14 rfl rfl)
theorem dX3_readOrder_109 : decode cX3_readOrder 109 = .ok (.putfield 298, 3) := dk_181 1 42 (dk_at dksX3_readOrder_4 15 rfl rfl)
theorem dX3_readOrder_112 : decode cX3_readOrder 112 = .ok (.iconst 0, 1) := dk_3 (dk_at dksX3_readOrder_4 18 rfl rfl)
theorem dX3_readOrder_113 : decode cX3_readOrder 113 = .ok (.istore 4, 2) := dk_54 4 (dk_at dksX3_readOrder_4 19 rfl rfl)
theorem dX3_readOrder_115 : decode cX3_readOrder 115 = .ok (.iload 4, 2) := dk_21 4 (dk_at dksX3_readOrder_4 21 rfl rfl)
theorem dX3_readOrder_117 : decode cX3_readOrder 117 = .ok (.aload_n 0, 1) := dk_42 (dk_at dksX3_readOrder_4 23 rfl rfl)
theorem dX3_readOrder_118 : decode cX3_readOrder 118 = .ok (.getfield 57, 3) := dk_180 0 57 (dk_at dksX3_readOrder_5 0 rfl rfl)
theorem dX3_readOrder_121 : decode cX3_readOrder 121 = .ok (.iload_n 2, 1) := dk_28 (dk_at dksX3_readOrder_5 3 rfl rfl)
theorem dX3_readOrder_122 : decode cX3_readOrder 122 = .ok (.iaload, 1) := dk_46 (dk_at dksX3_readOrder_5 4 rfl rfl)
theorem dX3_readOrder_123 : decode cX3_readOrder 123 = .ok (.if_icmp .ge 24, 3) := dk_162 0 24 (dk_at dksX3_readOrder_5 5 rfl rfl)
theorem dX3_readOrder_126 : decode cX3_readOrder 126 = .ok (.aload_n 0, 1) := dk_42 (dk_at dksX3_readOrder_5 8 rfl rfl)
theorem dX3_readOrder_127 : decode cX3_readOrder 127 = .ok (.getfield 63, 3) := dk_180 0 63 (dk_at dksX3_readOrder_5 9 rfl rfl)
theorem dX3_readOrder_130 : decode cX3_readOrder 130 = .ok (.iload_n 1, 1) := dk_27 (dk_at dksX3_readOrder_5 12 rfl rfl)
theorem dX3_readOrder_131 : decode cX3_readOrder 131 = .ok (.iconst 1, 1) := dk_4 (dk_at dksX3_readOrder_5 13 rfl rfl)
theorem dX3_readOrder_132 : decode cX3_readOrder 132 = .ok (.iadd, 1) := dk_96 (dk_at dksX3_readOrder_5 14 rfl rfl)
theorem dX3_readOrder_133 : decode cX3_readOrder 133 = .ok (.iload 4, 2) := dk_21 4 (dk_at dksX3_readOrder_5 15 rfl rfl)
theorem dX3_readOrder_135 : decode cX3_readOrder 135 = .ok (.iadd, 1) := dk_96 (dk_at dksX3_readOrder_5 17 rfl rfl)
theorem dX3_readOrder_136 : decode cX3_readOrder 136 = .ok (.aload_n 0, 1) := dk_42 (dk_at dksX3_readOrder_5 18 rfl rfl)
theorem dX3_readOrder_137 : decode cX3_readOrder 137 = .ok (.invokevirtual 295, 3) := dk_182 1 39 (dk_at dksX3_readOrder_5 19 rfl rfl)
theorem dX3_readOrder_140 : decode cX3_readOrder 140 = .ok (.iastore, 1) := dk_79 (dk_at dksX3_readOrder_5 22 rfl rfl)
theorem dX3_readOrder_141 : decode cX3_readOrder 141 = .ok (.iinc 4 1, 3) := dk_132 4 1 (dk_at dksX3_readOrder_6 0 rfl rfl)
theorem dX3_readOrder_144 : decode cX3_readOrder 144 = .ok (.goto (-29), 3) := dk_167 255 227 (dk_at dksX3_readOrder_6 3 rfl rfl)
theorem dX3_readOrder_147 : decode cX3_readOrder 147 = .ok (.aload_n 0, 1) := dk_42 (dk_at dksX3_readOrder_6 6 rfl rfl)
theorem dX3_readOrder_148 : decode cX3_readOrder 148 = .ok (.getfield 63, 3) := dk_180 0 63 (dk_at dksX3_readOrder_6 7 rfl rfl)
theorem dX3_readOrder_151 : decode cX3_readOrder 151 = .ok (.iload_n 1, 1) := dk_27 (dk_at dksX3_readOrder_6 10 rfl rfl)
theorem dX3_readOrder_152 : decode cX3_readOrder 152 = .ok (.bipush 7, 2) := dk_16 7 (dk_at dksX3_readOrder_6 11 rfl rfl)
theorem dX3_readOrder_154 : decode cX3_readOrder 154 = .ok (.iadd, 1) := dk_96 (dk_at dksX3_readOrder_6 13 rfl rfl)
theorem dX3_readOrder_155 : decode cX3_readOrder 155 = .ok (.iload_n 2, 1) := dk_28 (dk_at dksX3_readOrder_6 14 rfl rfl)
theorem dX3_readOrder_156 : decode cX3_readOrder 156 = .ok (.ifCond .ne 10, 3) := dk_154 0 10 (dk_at dksX3_readOrder_6 15 rfl rfl)
theorem dX3_readOrder_159 : decode cX3_readOrder 159 = .ok (.aload_n 0, 1) := dk_42 (dk_at dksX3_readOrder_6 18 rfl rfl)
theorem dX3_readOrder_160 : decode cX3_readOrder 160 = .ok (.invokevirtual 304, 3) := dk_182 1 48 (dk_at dksX3_readOrder_6 19 rfl rfl)
theorem dX3_readOrder_163 : decode cX3_readOrder 163 = .ok (.goto 4, 3) := dk_167 0 4 (dk_at dksX3_readOrder_7 0 rfl rfl)
theorem dX3_readOrder_166 : decode cX3_readOrder 166 = .ok (.iconst 0, 1) := dk_3 (dk_at dksX3_readOrder_7 3 rfl rfl)
theorem dX3_readOrder_167 : decode cX3_readOrder 167 = .ok (.iastore, 1) := dk_79 (dk_at dksX3_readOrder_7 4 rfl rfl)
theorem dX3_readOrder_168 : decode cX3_readOrder 168 = .ok (.iconst 0, 1) := dk_3 (dk_at dksX3_readOrder_7 5 rfl rfl)
theorem dX3_readOrder_169 : decode cX3_readOrder 169 = .ok (.istore 4, 2) := dk_54 4 (dk_at dksX3_readOrder_7 6 rfl rfl)
theorem dX3_readOrder_171 : decode cX3_readOrder 171 = .ok (.iload 4, 2) := dk_21 4 (dk_at dksX3_readOrder_7 8 rfl rfl)
theorem dX3_readOrder_173 : decode cX3_readOrder 173 = .ok (.aload_n 0, 1) := dk_42 (dk_at dksX3_readOrder_7 10 rfl rfl)
theorem dX3_readOrder_174 : decode cX3_readOrder 174 = .ok (.getfield 60, 3) := dk_180 0 60 (dk_at dksX3_readOrder_7 11 rfl rfl)
theorem dX3_readOrder_177 : decode cX3_readOrder 177 = .ok (.iload_n 2, 1) := dk_28 (dk_at dksX3_readOrder_7 14 rfl rfl)
theorem dX3_readOrder_178 : decode cX3_readOrder 178 = .ok (.iaload, 1) := dk_46 (dk_at dksX3_readOrder_7 15 rfl rfl)
theorem dX3_readOrder_179 : decode cX3_readOrder 179 = .ok (.if_icmp .ge 31, 3) := dk_162 0 31 (dk_at dksX3_readOrder_7 16 rfl rfl)
theorem dX3_readOrder_182 : decode cX3_readOrder 182 = .ok (.aload_n 0, 1) := dk_42 (dk_at dksX3_readOrder_7 19 rfl rfl)
theorem dX3_readOrder_183 : decode cX3_readOrder 183 = .ok (.getfield 63, 3) := dk_180 0 63 (dk_at dksX3_readOrder_7 20 rfl rfl)
theorem dX3_readOrder_186 : decode cX3_readOrder 186 = .ok (.iload_n 1, 1) := dk_27 (dk_at dksX3_readOrder_7 23 rfl rfl)
theorem dX3_readOrder_187 : decode cX3_readOrder 187 = .ok (.iconst 1, 1) := dk_4 (dk_at dksX3_readOrder_8 0 rfl rfl)
theorem dX3_readOrder_188 : decode cX3_readOrder 188 = .ok (.iadd, 1) := dk_96 (dk_at dksX3_readOrder_8 1 rfl rfl)
theorem dX3_readOrder_189 : decode cX3_readOrder 189 = .ok (.aload_n 0, 1) := dk_42 (dk_at dksX3_readOrder_8 2 rfl rfl)
theorem dX3_readOrder_190 : decode cX3_readOrder 190 = .ok (.getfield 57, 3) := dk_180 0 57 (dk_at dksX3_readOrder_8 3 rfl rfl)
theorem dX3_readOrder_193 : decode cX3_readOrder 193 = .ok (.iload_n 2, 1) := dk_28 (dk_at dksX3_readOrder_8 6 rfl rfl)
theorem dX3_readOrder_194 : decode cX3_readOrder 194 = .ok (.iaload, 1) := dk_46 (dk_at dksX3_readOrder_8 7 rfl rfl)
theorem dX3_readOrder_195 : decode cX3_readOrder 195 = .ok (.iadd, 1) := dk_96 (dk_at dksX3_readOrder_8 8 rfl rfl)
theorem dX3_readOrder_196 : decode cX3_readOrder 196 = .ok (.iload 4, 2) := dk_21 4 (dk_at dksX3_readOrder_8 9 rfl rfl)
theorem dX3_readOrder_198 : decode cX3_readOrder 198 = .ok (.iadd, 1) := dk_96 (dk_at dksX3_readOrder_8 11 rfl rfl)
theorem dX3_readOrder_199 : decode cX3_readOrder 199 = .ok (.aload_n 0, 1) := dk_42 (dk_at dksX3_readOrder_8 12 rfl rfl)
theorem dX3_readOrder_200 : decode cX3_readOrder 200 = .ok (.invokevirtual 307, 3) := dk_182 1 51 (dk_at dksX3_readOrder_8 13 rfl rfl)
theorem dX3_readOrder_203 : decode cX3_readOrder 203 = .ok (.iastore, 1) := dk_79 (dk_at dksX3_readOrder_8 16 rfl rfl)
theorem dX3_readOrder_204 : decode cX3_readOrder 204 = .ok (.iinc 4 1, 3) := dk_132 4 1 (dk_at dksX3_readOrder_8 17 rfl rfl)
theorem dX3_readOrder_207 : decode cX3_readOrder 207 = .ok (.goto (-36), 3) := dk_167 255 220 (dk_at dksX3_readOrder_8 20 rfl rfl)
theorem dX3_readOrder_210 : decode cX3_readOrder 210 = .ok (.return_, 1) := dk_177 (dk_at dksX3_readOrder_8 23 rfl rfl)
abbrev cX3_likeness : ByteArray := prog_21_method_83_code
def yX3_likeness : MethodName := ⟨RX3, "likeness", "(I)I"⟩
def dkwX3_likeness_2 : List UInt8 := [180, 0, 50, 42, 180, 0, 54, 27, 46, 28, 96, 52, 160, 0, 9, 132, 2, 1, 167, 255, 208, 28, 172]
abbrev dktX3_likeness_2 : List UInt8 := dkwX3_likeness_2 ++ []
def dkwX3_likeness_1 : List UInt8 := [180, 1, 15, 28, 96, 42, 180, 1, 18, 162, 0, 36, 42, 180, 0, 26, 42, 180, 1, 15, 28, 96, 46, 42]
abbrev dktX3_likeness_1 : List UInt8 := dkwX3_likeness_1 ++ dktX3_likeness_2
def dkwX3_likeness_0 : List UInt8 := [3, 61, 42, 180, 0, 54, 27, 4, 96, 46, 42, 180, 0, 54, 27, 46, 100, 62, 28, 29, 162, 0, 49, 42]
abbrev dktX3_likeness_0 : List UInt8 := dkwX3_likeness_0 ++ dktX3_likeness_1
theorem dksX3_likeness_0 : cX3_likeness.data.toList.drop 0 = dktX3_likeness_0 := by decide +kernel
theorem dksX3_likeness_1 : cX3_likeness.data.toList.drop 24 = dktX3_likeness_1 := dk_seg dksX3_likeness_0 24 rfl rfl
theorem dksX3_likeness_2 : cX3_likeness.data.toList.drop 48 = dktX3_likeness_2 := dk_seg dksX3_likeness_1 24 rfl rfl
theorem dX3_likeness_0 : decode cX3_likeness 0 = .ok (.iconst 0, 1) := dk_3 (dk_at dksX3_likeness_0 0 rfl rfl)
theorem dX3_likeness_1 : decode cX3_likeness 1 = .ok (.istore_n 2, 1) := dk_61 (dk_at dksX3_likeness_0 1 rfl rfl)
theorem dX3_likeness_2 : decode cX3_likeness 2 = .ok (.aload_n 0, 1) := dk_42 (dk_at dksX3_likeness_0 2 rfl rfl)
theorem dX3_likeness_3 : decode cX3_likeness 3 = .ok (.getfield 54, 3) := dk_180 0 54 (dk_at dksX3_likeness_0 3 rfl rfl)
theorem dX3_likeness_6 : decode cX3_likeness 6 = .ok (.iload_n 1, 1) := dk_27 (dk_at dksX3_likeness_0 6 rfl rfl)
theorem dX3_likeness_7 : decode cX3_likeness 7 = .ok (.iconst 1, 1) := dk_4 (dk_at dksX3_likeness_0 7 rfl rfl)
theorem dX3_likeness_8 : decode cX3_likeness 8 = .ok (.iadd, 1) := dk_96 (dk_at dksX3_likeness_0 8 rfl rfl)
theorem dX3_likeness_9 : decode cX3_likeness 9 = .ok (.iaload, 1) := dk_46 (dk_at dksX3_likeness_0 9 rfl rfl)
theorem dX3_likeness_10 : decode cX3_likeness 10 = .ok (.aload_n 0, 1) := dk_42 (dk_at dksX3_likeness_0 10 rfl rfl)
theorem dX3_likeness_11 : decode cX3_likeness 11 = .ok (.getfield 54, 3) := dk_180 0 54 (dk_at dksX3_likeness_0 11 rfl rfl)
theorem dX3_likeness_14 : decode cX3_likeness 14 = .ok (.iload_n 1, 1) := dk_27 (dk_at dksX3_likeness_0 14 rfl rfl)
theorem dX3_likeness_15 : decode cX3_likeness 15 = .ok (.iaload, 1) := dk_46 (dk_at dksX3_likeness_0 15 rfl rfl)
theorem dX3_likeness_16 : decode cX3_likeness 16 = .ok (.isub, 1) := dk_100 (dk_at dksX3_likeness_0 16 rfl rfl)
theorem dX3_likeness_17 : decode cX3_likeness 17 = .ok (.istore_n 3, 1) := dk_62 (dk_at dksX3_likeness_0 17 rfl rfl)
theorem dX3_likeness_18 : decode cX3_likeness 18 = .ok (.iload_n 2, 1) := dk_28 (dk_at dksX3_likeness_0 18 rfl rfl)
theorem dX3_likeness_19 : decode cX3_likeness 19 = .ok (.iload_n 3, 1) := dk_29 (dk_at dksX3_likeness_0 19 rfl rfl)
theorem dX3_likeness_20 : decode cX3_likeness 20 = .ok (.if_icmp .ge 49, 3) := dk_162 0 49 (dk_at dksX3_likeness_0 20 rfl rfl)
theorem dX3_likeness_23 : decode cX3_likeness 23 = .ok (.aload_n 0, 1) := dk_42 (dk_at dksX3_likeness_0 23 rfl rfl)
theorem dX3_likeness_24 : decode cX3_likeness 24 = .ok (.getfield 271, 3) := dk_180 1 15 (dk_at dksX3_likeness_1 0 rfl rfl)
theorem dX3_likeness_27 : decode cX3_likeness 27 = .ok (.iload_n 2, 1) := dk_28 (dk_at dksX3_likeness_1 3 rfl rfl)
theorem dX3_likeness_28 : decode cX3_likeness 28 = .ok (.iadd, 1) := dk_96 (dk_at dksX3_likeness_1 4 rfl rfl)
theorem dX3_likeness_29 : decode cX3_likeness 29 = .ok (.aload_n 0, 1) := dk_42 (dk_at dksX3_likeness_1 5 rfl rfl)
theorem dX3_likeness_30 : decode cX3_likeness 30 = .ok (.getfield 274, 3) := dk_180 1 18 (dk_at dksX3_likeness_1 6 rfl rfl)
theorem dX3_likeness_33 : decode cX3_likeness 33 = .ok (.if_icmp .ge 36, 3) := dk_162 0 36 (dk_at dksX3_likeness_1 9 rfl rfl)
theorem dX3_likeness_36 : decode cX3_likeness 36 = .ok (.aload_n 0, 1) := dk_42 (dk_at dksX3_likeness_1 12 rfl rfl)
theorem dX3_likeness_37 : decode cX3_likeness 37 = .ok (.getfield 26, 3) := dk_180 0 26 (dk_at dksX3_likeness_1 13 rfl rfl)
theorem dX3_likeness_40 : decode cX3_likeness 40 = .ok (.aload_n 0, 1) := dk_42 (dk_at dksX3_likeness_1 16 rfl rfl)
theorem dX3_likeness_41 : decode cX3_likeness 41 = .ok (.getfield 271, 3) := dk_180 1 15 (dk_at dksX3_likeness_1 17 rfl rfl)
theorem dX3_likeness_44 : decode cX3_likeness 44 = .ok (.iload_n 2, 1) := dk_28 (dk_at dksX3_likeness_1 20 rfl rfl)
theorem dX3_likeness_45 : decode cX3_likeness 45 = .ok (.iadd, 1) := dk_96 (dk_at dksX3_likeness_1 21 rfl rfl)
theorem dX3_likeness_46 : decode cX3_likeness 46 = .ok (.iaload, 1) := dk_46 (dk_at dksX3_likeness_1 22 rfl rfl)
theorem dX3_likeness_47 : decode cX3_likeness 47 = .ok (.aload_n 0, 1) := dk_42 (dk_at dksX3_likeness_1 23 rfl rfl)
theorem dX3_likeness_48 : decode cX3_likeness 48 = .ok (.getfield 50, 3) := dk_180 0 50 (dk_at dksX3_likeness_2 0 rfl rfl)
theorem dX3_likeness_51 : decode cX3_likeness 51 = .ok (.aload_n 0, 1) := dk_42 (dk_at dksX3_likeness_2 3 rfl rfl)
theorem dX3_likeness_52 : decode cX3_likeness 52 = .ok (.getfield 54, 3) := dk_180 0 54 (dk_at dksX3_likeness_2 4 rfl rfl)
theorem dX3_likeness_55 : decode cX3_likeness 55 = .ok (.iload_n 1, 1) := dk_27 (dk_at dksX3_likeness_2 7 rfl rfl)
theorem dX3_likeness_56 : decode cX3_likeness 56 = .ok (.iaload, 1) := dk_46 (dk_at dksX3_likeness_2 8 rfl rfl)
theorem dX3_likeness_57 : decode cX3_likeness 57 = .ok (.iload_n 2, 1) := dk_28 (dk_at dksX3_likeness_2 9 rfl rfl)
theorem dX3_likeness_58 : decode cX3_likeness 58 = .ok (.iadd, 1) := dk_96 (dk_at dksX3_likeness_2 10 rfl rfl)
theorem dX3_likeness_59 : decode cX3_likeness 59 = .ok (.caload, 1) := dk_52 (dk_at dksX3_likeness_2 11 rfl rfl)
theorem dX3_likeness_60 : decode cX3_likeness 60 = .ok (.if_icmp .ne 9, 3) := dk_160 0 9 (dk_at dksX3_likeness_2 12 rfl rfl)
theorem dX3_likeness_63 : decode cX3_likeness 63 = .ok (.iinc 2 1, 3) := dk_132 2 1 (dk_at dksX3_likeness_2 15 rfl rfl)
theorem dX3_likeness_66 : decode cX3_likeness 66 = .ok (.goto (-48), 3) := dk_167 255 208 (dk_at dksX3_likeness_2 18 rfl rfl)
theorem dX3_likeness_69 : decode cX3_likeness 69 = .ok (.iload_n 2, 1) := dk_28 (dk_at dksX3_likeness_2 21 rfl rfl)
theorem dX3_likeness_70 : decode cX3_likeness 70 = .ok (.ireturn, 1) := dk_172 (dk_at dksX3_likeness_2 22 rfl rfl)
abbrev cX3_digitBehind : ByteArray := prog_21_method_80_code
def yX3_digitBehind : MethodName := ⟨RX3, "digitBehind", "()I"⟩
def dkwX3_digitBehind_0 : List UInt8 := [42, 16, 32, 182, 1, 32, 42, 182, 1, 36, 172]
abbrev dktX3_digitBehind_0 : List UInt8 := dkwX3_digitBehind_0 ++ []
theorem dksX3_digitBehind_0 : cX3_digitBehind.data.toList.drop 0 = dktX3_digitBehind_0 := by decide +kernel
theorem dX3_digitBehind_0 : decode cX3_digitBehind 0 = .ok (.aload_n 0, 1) := dk_42 (dk_at dksX3_digitBehind_0 0 rfl rfl)
theorem dX3_digitBehind_1 : decode cX3_digitBehind 1 = .ok (.bipush 32, 2) := dk_16 32 (dk_at dksX3_digitBehind_0 1 rfl rfl)
theorem dX3_digitBehind_3 : decode cX3_digitBehind 3 = .ok (.invokevirtual 288, 3) := dk_182 1 32 (dk_at dksX3_digitBehind_0 3 rfl rfl)
theorem dX3_digitBehind_6 : decode cX3_digitBehind 6 = .ok (.aload_n 0, 1) := dk_42 (dk_at dksX3_digitBehind_0 6 rfl rfl)
theorem dX3_digitBehind_7 : decode cX3_digitBehind 7 = .ok (.invokevirtual 292, 3) := dk_182 1 36 (dk_at dksX3_digitBehind_0 7 rfl rfl)
theorem dX3_digitBehind_10 : decode cX3_digitBehind 10 = .ok (.ireturn, 1) := dk_172 (dk_at dksX3_digitBehind_0 10 rfl rfl)
abbrev cX3_expects : ByteArray := prog_21_method_78_code
def yX3_expects : MethodName := ⟨RX3, "expects", "(I)V"⟩
def dkwX3_expects_1 : List UInt8 := [42, 89, 180, 1, 15, 42, 180, 1, 21, 153, 0, 7, 3, 167, 0, 4, 4, 96, 181, 1, 15, 177]
abbrev dktX3_expects_1 : List UInt8 := dkwX3_expects_1 ++ []
def dkwX3_expects_0 : List UInt8 := [42, 42, 180, 1, 21, 154, 0, 11, 42, 182, 1, 25, 27, 159, 0, 7, 4, 167, 0, 4, 3, 181, 1, 21]
abbrev dktX3_expects_0 : List UInt8 := dkwX3_expects_0 ++ dktX3_expects_1
theorem dksX3_expects_0 : cX3_expects.data.toList.drop 0 = dktX3_expects_0 := by decide +kernel
theorem dksX3_expects_1 : cX3_expects.data.toList.drop 24 = dktX3_expects_1 := dk_seg dksX3_expects_0 24 rfl rfl
theorem dX3_expects_0 : decode cX3_expects 0 = .ok (.aload_n 0, 1) := dk_42 (dk_at dksX3_expects_0 0 rfl rfl)
theorem dX3_expects_1 : decode cX3_expects 1 = .ok (.aload_n 0, 1) := dk_42 (dk_at dksX3_expects_0 1 rfl rfl)
theorem dX3_expects_2 : decode cX3_expects 2 = .ok (.getfield 277, 3) := dk_180 1 21 (dk_at dksX3_expects_0 2 rfl rfl)
theorem dX3_expects_5 : decode cX3_expects 5 = .ok (.ifCond .ne 11, 3) := dk_154 0 11 (dk_at dksX3_expects_0 5 rfl rfl)
theorem dX3_expects_8 : decode cX3_expects 8 = .ok (.aload_n 0, 1) := dk_42 (dk_at dksX3_expects_0 8 rfl rfl)
theorem dX3_expects_9 : decode cX3_expects 9 = .ok (.invokevirtual 281, 3) := dk_182 1 25 (dk_at dksX3_expects_0 9 rfl rfl)
theorem dX3_expects_12 : decode cX3_expects 12 = .ok (.iload_n 1, 1) := dk_27 (dk_at dksX3_expects_0 12 rfl rfl)
theorem dX3_expects_13 : decode cX3_expects 13 = .ok (.if_icmp .eq 7, 3) := dk_159 0 7 (dk_at dksX3_expects_0 13 rfl rfl)
theorem dX3_expects_16 : decode cX3_expects 16 = .ok (.iconst 1, 1) := dk_4 (dk_at dksX3_expects_0 16 rfl rfl)
theorem dX3_expects_17 : decode cX3_expects 17 = .ok (.goto 4, 3) := dk_167 0 4 (dk_at dksX3_expects_0 17 rfl rfl)
theorem dX3_expects_20 : decode cX3_expects 20 = .ok (.iconst 0, 1) := dk_3 (dk_at dksX3_expects_0 20 rfl rfl)
theorem dX3_expects_21 : decode cX3_expects 21 = .ok (.putfield 277, 3) := dk_181 1 21 (dk_at dksX3_expects_0 21 rfl rfl)
theorem dX3_expects_24 : decode cX3_expects 24 = .ok (.aload_n 0, 1) := dk_42 (dk_at dksX3_expects_1 0 rfl rfl)
theorem dX3_expects_25 : decode cX3_expects 25 = .ok (.dup, 1) := dk_89 (dk_at dksX3_expects_1 1 rfl rfl)
theorem dX3_expects_26 : decode cX3_expects 26 = .ok (.getfield 271, 3) := dk_180 1 15 (dk_at dksX3_expects_1 2 rfl rfl)
theorem dX3_expects_29 : decode cX3_expects 29 = .ok (.aload_n 0, 1) := dk_42 (dk_at dksX3_expects_1 5 rfl rfl)
theorem dX3_expects_30 : decode cX3_expects 30 = .ok (.getfield 277, 3) := dk_180 1 21 (dk_at dksX3_expects_1 6 rfl rfl)
theorem dX3_expects_33 : decode cX3_expects 33 = .ok (.ifCond .eq 7, 3) := dk_153 0 7 (dk_at dksX3_expects_1 9 rfl rfl)
theorem dX3_expects_36 : decode cX3_expects 36 = .ok (.iconst 0, 1) := dk_3 (dk_at dksX3_expects_1 12 rfl rfl)
theorem dX3_expects_37 : decode cX3_expects 37 = .ok (.goto 4, 3) := dk_167 0 4 (dk_at dksX3_expects_1 13 rfl rfl)
theorem dX3_expects_40 : decode cX3_expects 40 = .ok (.iconst 1, 1) := dk_4 (dk_at dksX3_expects_1 16 rfl rfl)
theorem dX3_expects_41 : decode cX3_expects 41 = .ok (.iadd, 1) := dk_96 (dk_at dksX3_expects_1 17 rfl rfl)
theorem dX3_expects_42 : decode cX3_expects 42 = .ok (.putfield 271, 3) := dk_181 1 15 (dk_at dksX3_expects_1 18 rfl rfl)
theorem dX3_expects_45 : decode cX3_expects 45 = .ok (.return_, 1) := dk_177 (dk_at dksX3_expects_1 21 rfl rfl)
abbrev cX3_here : ByteArray := prog_21_method_77_code
def yX3_here : MethodName := ⟨RX3, "here", "()I"⟩
def dkwX3_here_1 : List UInt8 := [172]
abbrev dktX3_here_1 : List UInt8 := dkwX3_here_1 ++ []
def dkwX3_here_0 : List UInt8 := [42, 180, 1, 15, 42, 180, 1, 18, 162, 0, 15, 42, 180, 0, 26, 42, 180, 1, 15, 46, 167, 0, 4, 2]
abbrev dktX3_here_0 : List UInt8 := dkwX3_here_0 ++ dktX3_here_1
theorem dksX3_here_0 : cX3_here.data.toList.drop 0 = dktX3_here_0 := by decide +kernel
theorem dksX3_here_1 : cX3_here.data.toList.drop 24 = dktX3_here_1 := dk_seg dksX3_here_0 24 rfl rfl
theorem dX3_here_0 : decode cX3_here 0 = .ok (.aload_n 0, 1) := dk_42 (dk_at dksX3_here_0 0 rfl rfl)
theorem dX3_here_1 : decode cX3_here 1 = .ok (.getfield 271, 3) := dk_180 1 15 (dk_at dksX3_here_0 1 rfl rfl)
theorem dX3_here_4 : decode cX3_here 4 = .ok (.aload_n 0, 1) := dk_42 (dk_at dksX3_here_0 4 rfl rfl)
theorem dX3_here_5 : decode cX3_here 5 = .ok (.getfield 274, 3) := dk_180 1 18 (dk_at dksX3_here_0 5 rfl rfl)
theorem dX3_here_8 : decode cX3_here 8 = .ok (.if_icmp .ge 15, 3) := dk_162 0 15 (dk_at dksX3_here_0 8 rfl rfl)
theorem dX3_here_11 : decode cX3_here 11 = .ok (.aload_n 0, 1) := dk_42 (dk_at dksX3_here_0 11 rfl rfl)
theorem dX3_here_12 : decode cX3_here 12 = .ok (.getfield 26, 3) := dk_180 0 26 (dk_at dksX3_here_0 12 rfl rfl)
theorem dX3_here_15 : decode cX3_here 15 = .ok (.aload_n 0, 1) := dk_42 (dk_at dksX3_here_0 15 rfl rfl)
theorem dX3_here_16 : decode cX3_here 16 = .ok (.getfield 271, 3) := dk_180 1 15 (dk_at dksX3_here_0 16 rfl rfl)
theorem dX3_here_19 : decode cX3_here 19 = .ok (.iaload, 1) := dk_46 (dk_at dksX3_here_0 19 rfl rfl)
theorem dX3_here_20 : decode cX3_here 20 = .ok (.goto 4, 3) := dk_167 0 4 (dk_at dksX3_here_0 20 rfl rfl)
theorem dX3_here_23 : decode cX3_here 23 = .ok (.iconst (-1), 1) := dk_2 (dk_at dksX3_here_0 23 rfl rfl)
theorem dX3_here_24 : decode cX3_here 24 = .ok (.ireturn, 1) := dk_172 (dk_at dksX3_here_1 0 rfl rfl)
abbrev cX3_digit : ByteArray := prog_21_method_79_code
def yX3_digit : MethodName := ⟨RX3, "digit", "()I"⟩
def dkwX3_digit_3 : List UInt8 := [96, 181, 1, 15, 27, 172]
abbrev dktX3_digit_3 : List UInt8 := dkwX3_digit_3 ++ []
def dkwX3_digit_2 : List UInt8 := [182, 1, 25, 16, 48, 100, 60, 42, 89, 180, 1, 15, 42, 180, 1, 21, 153, 0, 7, 3, 167, 0, 4, 4]
abbrev dktX3_digit_2 : List UInt8 := dkwX3_digit_2 ++ dktX3_digit_3
def dkwX3_digit_1 : List UInt8 := [154, 0, 7, 4, 167, 0, 4, 3, 181, 1, 21, 42, 180, 1, 21, 153, 0, 7, 3, 167, 0, 10, 42]
abbrev dktX3_digit_1 : List UInt8 := dkwX3_digit_1 ++ dktX3_digit_2
def dkwX3_digit_0 : List UInt8 := [42, 42, 180, 1, 21, 154, 0, 20, 42, 182, 1, 25, 133, 20, 1, 28, 20, 1, 30, 184, 0, 88]
abbrev dktX3_digit_0 : List UInt8 := dkwX3_digit_0 ++ dktX3_digit_1
theorem dksX3_digit_0 : cX3_digit.data.toList.drop 0 = dktX3_digit_0 := by decide +kernel
theorem dksX3_digit_1 : cX3_digit.data.toList.drop 22 = dktX3_digit_1 := dk_seg dksX3_digit_0 22 rfl rfl
theorem dksX3_digit_2 : cX3_digit.data.toList.drop 45 = dktX3_digit_2 := dk_seg dksX3_digit_1 23 rfl rfl
theorem dksX3_digit_3 : cX3_digit.data.toList.drop 69 = dktX3_digit_3 := dk_seg dksX3_digit_2 24 rfl rfl
theorem dX3_digit_0 : decode cX3_digit 0 = .ok (.aload_n 0, 1) := dk_42 (dk_at dksX3_digit_0 0 rfl rfl)
theorem dX3_digit_1 : decode cX3_digit 1 = .ok (.aload_n 0, 1) := dk_42 (dk_at dksX3_digit_0 1 rfl rfl)
theorem dX3_digit_2 : decode cX3_digit 2 = .ok (.getfield 277, 3) := dk_180 1 21 (dk_at dksX3_digit_0 2 rfl rfl)
theorem dX3_digit_5 : decode cX3_digit 5 = .ok (.ifCond .ne 20, 3) := dk_154 0 20 (dk_at dksX3_digit_0 5 rfl rfl)
theorem dX3_digit_8 : decode cX3_digit 8 = .ok (.aload_n 0, 1) := dk_42 (dk_at dksX3_digit_0 8 rfl rfl)
theorem dX3_digit_9 : decode cX3_digit 9 = .ok (.invokevirtual 281, 3) := dk_182 1 25 (dk_at dksX3_digit_0 9 rfl rfl)
theorem dX3_digit_12 : decode cX3_digit 12 = .ok (.i2l, 1) := dk_133 (dk_at dksX3_digit_0 12 rfl rfl)
theorem dX3_digit_13 : decode cX3_digit 13 = .ok (.ldc2_w 284, 3) := dk_20 1 28 (dk_at dksX3_digit_0 13 rfl rfl)
theorem dX3_digit_16 : decode cX3_digit 16 = .ok (.ldc2_w 286, 3) := dk_20 1 30 (dk_at dksX3_digit_0 16 rfl rfl)
theorem dX3_digit_19 : decode cX3_digit 19 = .ok (.invokestatic 88, 3) := dk_184 0 88 (dk_at dksX3_digit_0 19 rfl rfl)
theorem dX3_digit_22 : decode cX3_digit 22 = .ok (.ifCond .ne 7, 3) := dk_154 0 7 (dk_at dksX3_digit_1 0 rfl rfl)
theorem dX3_digit_25 : decode cX3_digit 25 = .ok (.iconst 1, 1) := dk_4 (dk_at dksX3_digit_1 3 rfl rfl)
theorem dX3_digit_26 : decode cX3_digit 26 = .ok (.goto 4, 3) := dk_167 0 4 (dk_at dksX3_digit_1 4 rfl rfl)
theorem dX3_digit_29 : decode cX3_digit 29 = .ok (.iconst 0, 1) := dk_3 (dk_at dksX3_digit_1 7 rfl rfl)
theorem dX3_digit_30 : decode cX3_digit 30 = .ok (.putfield 277, 3) := dk_181 1 21 (dk_at dksX3_digit_1 8 rfl rfl)
theorem dX3_digit_33 : decode cX3_digit 33 = .ok (.aload_n 0, 1) := dk_42 (dk_at dksX3_digit_1 11 rfl rfl)
theorem dX3_digit_34 : decode cX3_digit 34 = .ok (.getfield 277, 3) := dk_180 1 21 (dk_at dksX3_digit_1 12 rfl rfl)
theorem dX3_digit_37 : decode cX3_digit 37 = .ok (.ifCond .eq 7, 3) := dk_153 0 7 (dk_at dksX3_digit_1 15 rfl rfl)
theorem dX3_digit_40 : decode cX3_digit 40 = .ok (.iconst 0, 1) := dk_3 (dk_at dksX3_digit_1 18 rfl rfl)
theorem dX3_digit_41 : decode cX3_digit 41 = .ok (.goto 10, 3) := dk_167 0 10 (dk_at dksX3_digit_1 19 rfl rfl)
theorem dX3_digit_44 : decode cX3_digit 44 = .ok (.aload_n 0, 1) := dk_42 (dk_at dksX3_digit_1 22 rfl rfl)
theorem dX3_digit_45 : decode cX3_digit 45 = .ok (.invokevirtual 281, 3) := dk_182 1 25 (dk_at dksX3_digit_2 0 rfl rfl)
theorem dX3_digit_48 : decode cX3_digit 48 = .ok (.bipush 48, 2) := dk_16 48 (dk_at dksX3_digit_2 3 rfl rfl)
theorem dX3_digit_50 : decode cX3_digit 50 = .ok (.isub, 1) := dk_100 (dk_at dksX3_digit_2 5 rfl rfl)
theorem dX3_digit_51 : decode cX3_digit 51 = .ok (.istore_n 1, 1) := dk_60 (dk_at dksX3_digit_2 6 rfl rfl)
theorem dX3_digit_52 : decode cX3_digit 52 = .ok (.aload_n 0, 1) := dk_42 (dk_at dksX3_digit_2 7 rfl rfl)
theorem dX3_digit_53 : decode cX3_digit 53 = .ok (.dup, 1) := dk_89 (dk_at dksX3_digit_2 8 rfl rfl)
theorem dX3_digit_54 : decode cX3_digit 54 = .ok (.getfield 271, 3) := dk_180 1 15 (dk_at dksX3_digit_2 9 rfl rfl)
theorem dX3_digit_57 : decode cX3_digit 57 = .ok (.aload_n 0, 1) := dk_42 (dk_at dksX3_digit_2 12 rfl rfl)
theorem dX3_digit_58 : decode cX3_digit 58 = .ok (.getfield 277, 3) := dk_180 1 21 (dk_at dksX3_digit_2 13 rfl rfl)
theorem dX3_digit_61 : decode cX3_digit 61 = .ok (.ifCond .eq 7, 3) := dk_153 0 7 (dk_at dksX3_digit_2 16 rfl rfl)
theorem dX3_digit_64 : decode cX3_digit 64 = .ok (.iconst 0, 1) := dk_3 (dk_at dksX3_digit_2 19 rfl rfl)
theorem dX3_digit_65 : decode cX3_digit 65 = .ok (.goto 4, 3) := dk_167 0 4 (dk_at dksX3_digit_2 20 rfl rfl)
theorem dX3_digit_68 : decode cX3_digit 68 = .ok (.iconst 1, 1) := dk_4 (dk_at dksX3_digit_2 23 rfl rfl)
theorem dX3_digit_69 : decode cX3_digit 69 = .ok (.iadd, 1) := dk_96 (dk_at dksX3_digit_3 0 rfl rfl)
theorem dX3_digit_70 : decode cX3_digit 70 = .ok (.putfield 271, 3) := dk_181 1 15 (dk_at dksX3_digit_3 1 rfl rfl)
theorem dX3_digit_73 : decode cX3_digit 73 = .ok (.iload_n 1, 1) := dk_27 (dk_at dksX3_digit_3 4 rfl rfl)
theorem dX3_digit_74 : decode cX3_digit 74 = .ok (.ireturn, 1) := dk_172 (dk_at dksX3_digit_3 5 rfl rfl)
abbrev cX3_sortHere : ByteArray := prog_21_method_82_code
def yX3_sortHere : MethodName := ⟨RX3, "sortHere", "()I"⟩
def dkwX3_sortHere_3 : List UInt8 := [167, 0, 4, 4, 96, 181, 1, 15, 27, 172]
abbrev dktX3_sortHere_3 : List UInt8 := dkwX3_sortHere_3 ++ []
def dkwX3_sortHere_2 : List UInt8 := [160, 0, 7, 4, 167, 0, 4, 3, 60, 42, 89, 180, 1, 15, 42, 180, 1, 21, 153, 0, 7, 3]
abbrev dktX3_sortHere_2 : List UInt8 := dkwX3_sortHere_2 ++ dktX3_sortHere_3
def dkwX3_sortHere_1 : List UInt8 := [159, 0, 7, 4, 167, 0, 4, 3, 181, 1, 21, 42, 180, 1, 21, 154, 0, 16, 42, 182, 1, 25, 16, 100]
abbrev dktX3_sortHere_1 : List UInt8 := dkwX3_sortHere_1 ++ dktX3_sortHere_2
def dkwX3_sortHere_0 : List UInt8 := [42, 42, 180, 1, 21, 154, 0, 21, 42, 182, 1, 25, 16, 97, 159, 0, 16, 42, 182, 1, 25, 16, 100]
abbrev dktX3_sortHere_0 : List UInt8 := dkwX3_sortHere_0 ++ dktX3_sortHere_1
theorem dksX3_sortHere_0 : cX3_sortHere.data.toList.drop 0 = dktX3_sortHere_0 := by decide +kernel
theorem dksX3_sortHere_1 : cX3_sortHere.data.toList.drop 23 = dktX3_sortHere_1 := dk_seg dksX3_sortHere_0 23 rfl rfl
theorem dksX3_sortHere_2 : cX3_sortHere.data.toList.drop 47 = dktX3_sortHere_2 := dk_seg dksX3_sortHere_1 24 rfl rfl
theorem dksX3_sortHere_3 : cX3_sortHere.data.toList.drop 69 = dktX3_sortHere_3 := dk_seg dksX3_sortHere_2 22 rfl rfl
theorem dX3_sortHere_0 : decode cX3_sortHere 0 = .ok (.aload_n 0, 1) := dk_42 (dk_at dksX3_sortHere_0 0 rfl rfl)
theorem dX3_sortHere_1 : decode cX3_sortHere 1 = .ok (.aload_n 0, 1) := dk_42 (dk_at dksX3_sortHere_0 1 rfl rfl)
theorem dX3_sortHere_2 : decode cX3_sortHere 2 = .ok (.getfield 277, 3) := dk_180 1 21 (dk_at dksX3_sortHere_0 2 rfl rfl)
theorem dX3_sortHere_5 : decode cX3_sortHere 5 = .ok (.ifCond .ne 21, 3) := dk_154 0 21 (dk_at dksX3_sortHere_0 5 rfl rfl)
theorem dX3_sortHere_8 : decode cX3_sortHere 8 = .ok (.aload_n 0, 1) := dk_42 (dk_at dksX3_sortHere_0 8 rfl rfl)
theorem dX3_sortHere_9 : decode cX3_sortHere 9 = .ok (.invokevirtual 281, 3) := dk_182 1 25 (dk_at dksX3_sortHere_0 9 rfl rfl)
theorem dX3_sortHere_12 : decode cX3_sortHere 12 = .ok (.bipush 97, 2) := dk_16 97 (dk_at dksX3_sortHere_0 12 rfl rfl)
theorem dX3_sortHere_14 : decode cX3_sortHere 14 = .ok (.if_icmp .eq 16, 3) := dk_159 0 16 (dk_at dksX3_sortHere_0 14 rfl rfl)
theorem dX3_sortHere_17 : decode cX3_sortHere 17 = .ok (.aload_n 0, 1) := dk_42 (dk_at dksX3_sortHere_0 17 rfl rfl)
theorem dX3_sortHere_18 : decode cX3_sortHere 18 = .ok (.invokevirtual 281, 3) := dk_182 1 25 (dk_at dksX3_sortHere_0 18 rfl rfl)
theorem dX3_sortHere_21 : decode cX3_sortHere 21 = .ok (.bipush 100, 2) := dk_16 100 (dk_at dksX3_sortHere_0 21 rfl rfl)
theorem dX3_sortHere_23 : decode cX3_sortHere 23 = .ok (.if_icmp .eq 7, 3) := dk_159 0 7 (dk_at dksX3_sortHere_1 0 rfl rfl)
theorem dX3_sortHere_26 : decode cX3_sortHere 26 = .ok (.iconst 1, 1) := dk_4 (dk_at dksX3_sortHere_1 3 rfl rfl)
theorem dX3_sortHere_27 : decode cX3_sortHere 27 = .ok (.goto 4, 3) := dk_167 0 4 (dk_at dksX3_sortHere_1 4 rfl rfl)
theorem dX3_sortHere_30 : decode cX3_sortHere 30 = .ok (.iconst 0, 1) := dk_3 (dk_at dksX3_sortHere_1 7 rfl rfl)
theorem dX3_sortHere_31 : decode cX3_sortHere 31 = .ok (.putfield 277, 3) := dk_181 1 21 (dk_at dksX3_sortHere_1 8 rfl rfl)
theorem dX3_sortHere_34 : decode cX3_sortHere 34 = .ok (.aload_n 0, 1) := dk_42 (dk_at dksX3_sortHere_1 11 rfl rfl)
theorem dX3_sortHere_35 : decode cX3_sortHere 35 = .ok (.getfield 277, 3) := dk_180 1 21 (dk_at dksX3_sortHere_1 12 rfl rfl)
theorem dX3_sortHere_38 : decode cX3_sortHere 38 = .ok (.ifCond .ne 16, 3) := dk_154 0 16 (dk_at dksX3_sortHere_1 15 rfl rfl)
theorem dX3_sortHere_41 : decode cX3_sortHere 41 = .ok (.aload_n 0, 1) := dk_42 (dk_at dksX3_sortHere_1 18 rfl rfl)
theorem dX3_sortHere_42 : decode cX3_sortHere 42 = .ok (.invokevirtual 281, 3) := dk_182 1 25 (dk_at dksX3_sortHere_1 19 rfl rfl)
theorem dX3_sortHere_45 : decode cX3_sortHere 45 = .ok (.bipush 100, 2) := dk_16 100 (dk_at dksX3_sortHere_1 22 rfl rfl)
theorem dX3_sortHere_47 : decode cX3_sortHere 47 = .ok (.if_icmp .ne 7, 3) := dk_160 0 7 (dk_at dksX3_sortHere_2 0 rfl rfl)
theorem dX3_sortHere_50 : decode cX3_sortHere 50 = .ok (.iconst 1, 1) := dk_4 (dk_at dksX3_sortHere_2 3 rfl rfl)
theorem dX3_sortHere_51 : decode cX3_sortHere 51 = .ok (.goto 4, 3) := dk_167 0 4 (dk_at dksX3_sortHere_2 4 rfl rfl)
theorem dX3_sortHere_54 : decode cX3_sortHere 54 = .ok (.iconst 0, 1) := dk_3 (dk_at dksX3_sortHere_2 7 rfl rfl)
theorem dX3_sortHere_55 : decode cX3_sortHere 55 = .ok (.istore_n 1, 1) := dk_60 (dk_at dksX3_sortHere_2 8 rfl rfl)
theorem dX3_sortHere_56 : decode cX3_sortHere 56 = .ok (.aload_n 0, 1) := dk_42 (dk_at dksX3_sortHere_2 9 rfl rfl)
theorem dX3_sortHere_57 : decode cX3_sortHere 57 = .ok (.dup, 1) := dk_89 (dk_at dksX3_sortHere_2 10 rfl rfl)
theorem dX3_sortHere_58 : decode cX3_sortHere 58 = .ok (.getfield 271, 3) := dk_180 1 15 (dk_at dksX3_sortHere_2 11 rfl rfl)
theorem dX3_sortHere_61 : decode cX3_sortHere 61 = .ok (.aload_n 0, 1) := dk_42 (dk_at dksX3_sortHere_2 14 rfl rfl)
theorem dX3_sortHere_62 : decode cX3_sortHere 62 = .ok (.getfield 277, 3) := dk_180 1 21 (dk_at dksX3_sortHere_2 15 rfl rfl)
theorem dX3_sortHere_65 : decode cX3_sortHere 65 = .ok (.ifCond .eq 7, 3) := dk_153 0 7 (dk_at dksX3_sortHere_2 18 rfl rfl)
theorem dX3_sortHere_68 : decode cX3_sortHere 68 = .ok (.iconst 0, 1) := dk_3 (dk_at dksX3_sortHere_2 21 rfl rfl)
theorem dX3_sortHere_69 : decode cX3_sortHere 69 = .ok (.goto 4, 3) := dk_167 0 4 (dk_at dksX3_sortHere_3 0 rfl rfl)
theorem dX3_sortHere_72 : decode cX3_sortHere 72 = .ok (.iconst 1, 1) := dk_4 (dk_at dksX3_sortHere_3 3 rfl rfl)
theorem dX3_sortHere_73 : decode cX3_sortHere 73 = .ok (.iadd, 1) := dk_96 (dk_at dksX3_sortHere_3 4 rfl rfl)
theorem dX3_sortHere_74 : decode cX3_sortHere 74 = .ok (.putfield 271, 3) := dk_181 1 15 (dk_at dksX3_sortHere_3 5 rfl rfl)
theorem dX3_sortHere_77 : decode cX3_sortHere 77 = .ok (.iload_n 1, 1) := dk_27 (dk_at dksX3_sortHere_3 8 rfl rfl)
theorem dX3_sortHere_78 : decode cX3_sortHere 78 = .ok (.ireturn, 1) := dk_172 (dk_at dksX3_sortHere_3 9 rfl rfl)
abbrev cX3_numberBehind : ByteArray := prog_21_method_81_code
def yX3_numberBehind : MethodName := ⟨RX3, "numberBehind", "()I"⟩
def dkwX3_numberBehind_2 : List UInt8 := [132, 2, 1, 167, 255, 214, 27, 172]
abbrev dktX3_numberBehind_2 : List UInt8 := dkwX3_numberBehind_2 ++ []
def dkwX3_numberBehind_1 : List UInt8 := [20, 1, 28, 20, 1, 30, 184, 0, 88, 153, 0, 19, 16, 10, 27, 104, 42, 182, 1, 36, 96, 60]
abbrev dktX3_numberBehind_1 : List UInt8 := dkwX3_numberBehind_1 ++ dktX3_numberBehind_2
def dkwX3_numberBehind_0 : List UInt8 := [42, 182, 1, 39, 60, 4, 61, 28, 6, 162, 0, 43, 42, 180, 1, 21, 154, 0, 36, 42, 182, 1, 25, 133]
abbrev dktX3_numberBehind_0 : List UInt8 := dkwX3_numberBehind_0 ++ dktX3_numberBehind_1
theorem dksX3_numberBehind_0 : cX3_numberBehind.data.toList.drop 0 = dktX3_numberBehind_0 := by decide +kernel
theorem dksX3_numberBehind_1 : cX3_numberBehind.data.toList.drop 24 = dktX3_numberBehind_1 := dk_seg dksX3_numberBehind_0 24 rfl rfl
theorem dksX3_numberBehind_2 : cX3_numberBehind.data.toList.drop 46 = dktX3_numberBehind_2 := dk_seg dksX3_numberBehind_1 22 rfl rfl
theorem dX3_numberBehind_0 : decode cX3_numberBehind 0 = .ok (.aload_n 0, 1) := dk_42 (dk_at dksX3_numberBehind_0 0 rfl rfl)
theorem dX3_numberBehind_1 : decode cX3_numberBehind 1 = .ok (.invokevirtual 295, 3) := dk_182 1 39 (dk_at dksX3_numberBehind_0 1 rfl rfl)
theorem dX3_numberBehind_4 : decode cX3_numberBehind 4 = .ok (.istore_n 1, 1) := dk_60 (dk_at dksX3_numberBehind_0 4 rfl rfl)
theorem dX3_numberBehind_5 : decode cX3_numberBehind 5 = .ok (.iconst 1, 1) := dk_4 (dk_at dksX3_numberBehind_0 5 rfl rfl)
theorem dX3_numberBehind_6 : decode cX3_numberBehind 6 = .ok (.istore_n 2, 1) := dk_61 (dk_at dksX3_numberBehind_0 6 rfl rfl)
theorem dX3_numberBehind_7 : decode cX3_numberBehind 7 = .ok (.iload_n 2, 1) := dk_28 (dk_at dksX3_numberBehind_0 7 rfl rfl)
theorem dX3_numberBehind_8 : decode cX3_numberBehind 8 = .ok (.iconst 3, 1) := dk_6 (dk_at dksX3_numberBehind_0 8 rfl rfl)
theorem dX3_numberBehind_9 : decode cX3_numberBehind 9 = .ok (.if_icmp .ge 43, 3) := dk_162 0 43 (dk_at dksX3_numberBehind_0 9 rfl rfl)
theorem dX3_numberBehind_12 : decode cX3_numberBehind 12 = .ok (.aload_n 0, 1) := dk_42 (dk_at dksX3_numberBehind_0 12 rfl rfl)
theorem dX3_numberBehind_13 : decode cX3_numberBehind 13 = .ok (.getfield 277, 3) := dk_180 1 21 (dk_at dksX3_numberBehind_0 13 rfl rfl)
theorem dX3_numberBehind_16 : decode cX3_numberBehind 16 = .ok (.ifCond .ne 36, 3) := dk_154 0 36 (dk_at dksX3_numberBehind_0 16 rfl rfl)
theorem dX3_numberBehind_19 : decode cX3_numberBehind 19 = .ok (.aload_n 0, 1) := dk_42 (dk_at dksX3_numberBehind_0 19 rfl rfl)
theorem dX3_numberBehind_20 : decode cX3_numberBehind 20 = .ok (.invokevirtual 281, 3) := dk_182 1 25 (dk_at dksX3_numberBehind_0 20 rfl rfl)
theorem dX3_numberBehind_23 : decode cX3_numberBehind 23 = .ok (.i2l, 1) := dk_133 (dk_at dksX3_numberBehind_0 23 rfl rfl)
theorem dX3_numberBehind_24 : decode cX3_numberBehind 24 = .ok (.ldc2_w 284, 3) := dk_20 1 28 (dk_at dksX3_numberBehind_1 0 rfl rfl)
theorem dX3_numberBehind_27 : decode cX3_numberBehind 27 = .ok (.ldc2_w 286, 3) := dk_20 1 30 (dk_at dksX3_numberBehind_1 3 rfl rfl)
theorem dX3_numberBehind_30 : decode cX3_numberBehind 30 = .ok (.invokestatic 88, 3) := dk_184 0 88 (dk_at dksX3_numberBehind_1 6 rfl rfl)
theorem dX3_numberBehind_33 : decode cX3_numberBehind 33 = .ok (.ifCond .eq 19, 3) := dk_153 0 19 (dk_at dksX3_numberBehind_1 9 rfl rfl)
theorem dX3_numberBehind_36 : decode cX3_numberBehind 36 = .ok (.bipush 10, 2) := dk_16 10 (dk_at dksX3_numberBehind_1 12 rfl rfl)
theorem dX3_numberBehind_38 : decode cX3_numberBehind 38 = .ok (.iload_n 1, 1) := dk_27 (dk_at dksX3_numberBehind_1 14 rfl rfl)
theorem dX3_numberBehind_39 : decode cX3_numberBehind 39 = .ok (.imul, 1) := dk_104 (dk_at dksX3_numberBehind_1 15 rfl rfl)
theorem dX3_numberBehind_40 : decode cX3_numberBehind 40 = .ok (.aload_n 0, 1) := dk_42 (dk_at dksX3_numberBehind_1 16 rfl rfl)
theorem dX3_numberBehind_41 : decode cX3_numberBehind 41 = .ok (.invokevirtual 292, 3) := dk_182 1 36 (dk_at dksX3_numberBehind_1 17 rfl rfl)
theorem dX3_numberBehind_44 : decode cX3_numberBehind 44 = .ok (.iadd, 1) := dk_96 (dk_at dksX3_numberBehind_1 20 rfl rfl)
theorem dX3_numberBehind_45 : decode cX3_numberBehind 45 = .ok (.istore_n 1, 1) := dk_60 (dk_at dksX3_numberBehind_1 21 rfl rfl)
theorem dX3_numberBehind_46 : decode cX3_numberBehind 46 = .ok (.iinc 2 1, 3) := dk_132 2 1 (dk_at dksX3_numberBehind_2 0 rfl rfl)
theorem dX3_numberBehind_49 : decode cX3_numberBehind 49 = .ok (.goto (-42), 3) := dk_167 255 214 (dk_at dksX3_numberBehind_2 3 rfl rfl)
theorem dX3_numberBehind_52 : decode cX3_numberBehind 52 = .ok (.iload_n 1, 1) := dk_27 (dk_at dksX3_numberBehind_2 6 rfl rfl)
theorem dX3_numberBehind_53 : decode cX3_numberBehind 53 = .ok (.ireturn, 1) := dk_172 (dk_at dksX3_numberBehind_2 7 rfl rfl)
abbrev cX3_does : ByteArray := prog_21_method_85_code
def yX3_does : MethodName := ⟨RX3, "does", "(I)V"⟩
def dkwX3_does_8 : List UInt8 := [182, 0, 112, 87, 177]
abbrev dktX3_does_8 : List UInt8 := dkwX3_does_8 ++ []
def dkwX3_does_7 : List UInt8 := [96, 21, 4, 96, 46, 79, 132, 4, 1, 167, 255, 229, 42, 28, 182, 0, 126, 87, 167, 0, 10, 42, 28, 29]
abbrev dktX3_does_7 : List UInt8 := dkwX3_does_7 ++ dktX3_does_8
def dkwX3_does_6 : List UInt8 := [167, 0, 52, 3, 54, 4, 21, 4, 8, 162, 0, 27, 42, 180, 0, 29, 21, 4, 42, 180, 0, 63, 27, 5]
abbrev dktX3_does_6 : List UInt8 := dkwX3_does_6 ++ dktX3_does_7
def dkwX3_does_5 : List UInt8 := [182, 0, 154, 87, 167, 0, 71, 42, 28, 182, 0, 151, 87, 167, 0, 62, 42, 28, 29, 182, 0, 132, 87]
abbrev dktX3_does_5 : List UInt8 := dkwX3_does_5 ++ dktX3_does_6
def dkwX3_does_4 : List UInt8 := [4, 96, 21, 4, 96, 46, 79, 132, 4, 1, 167, 255, 228, 42, 182, 0, 144, 87, 167, 0, 81, 42, 28, 29]
abbrev dktX3_does_4 : List UInt8 := dkwX3_does_4 ++ dktX3_does_5
def dkwX3_does_3 : List UInt8 := [167, 0, 123, 3, 54, 4, 21, 4, 16, 6, 162, 0, 27, 42, 180, 0, 38, 21, 4, 42, 180, 0, 63, 27]
abbrev dktX3_does_3 : List UInt8 := dkwX3_does_3 ++ dktX3_does_4
def dkwX3_does_2 : List UInt8 := [42, 28, 29, 42, 180, 0, 63, 27, 16, 7, 96, 46, 42, 180, 0, 63, 27, 6, 96, 46, 182, 0, 166, 87]
abbrev dktX3_does_2 : List UInt8 := dkwX3_does_2 ++ dktX3_does_3
def dkwX3_does_1 : List UInt8 := [170, 0, 0, 0, 0, 0, 0, 180, 0, 0, 0, 0, 0, 0, 0, 5, 0, 0, 0, 40, 0, 0, 0, 67, 0, 0, 0, 109, 0, 0, 0, 119, 0, 0, 0, 128, 0, 0, 0, 138]
abbrev dktX3_does_1 : List UInt8 := dkwX3_does_1 ++ dktX3_does_2
def dkwX3_does_0 : List UInt8 := [42, 180, 0, 63, 27, 4, 96, 46, 61, 42, 180, 0, 63, 27, 5, 96, 46, 62, 42, 180, 0, 63, 27, 46]
abbrev dktX3_does_0 : List UInt8 := dkwX3_does_0 ++ dktX3_does_1
theorem dksX3_does_0 : cX3_does.data.toList.drop 0 = dktX3_does_0 := by decide +kernel
theorem dksX3_does_1 : cX3_does.data.toList.drop 24 = dktX3_does_1 := dk_seg dksX3_does_0 24 rfl rfl
theorem dksX3_does_2 : cX3_does.data.toList.drop 64 = dktX3_does_2 := dk_seg dksX3_does_1 40 rfl rfl
theorem dksX3_does_3 : cX3_does.data.toList.drop 88 = dktX3_does_3 := dk_seg dksX3_does_2 24 rfl rfl
theorem dksX3_does_4 : cX3_does.data.toList.drop 112 = dktX3_does_4 := dk_seg dksX3_does_3 24 rfl rfl
theorem dksX3_does_5 : cX3_does.data.toList.drop 136 = dktX3_does_5 := dk_seg dksX3_does_4 24 rfl rfl
theorem dksX3_does_6 : cX3_does.data.toList.drop 159 = dktX3_does_6 := dk_seg dksX3_does_5 23 rfl rfl
theorem dksX3_does_7 : cX3_does.data.toList.drop 183 = dktX3_does_7 := dk_seg dksX3_does_6 24 rfl rfl
theorem dksX3_does_8 : cX3_does.data.toList.drop 207 = dktX3_does_8 := dk_seg dksX3_does_7 24 rfl rfl
theorem dX3_does_0 : decode cX3_does 0 = .ok (.aload_n 0, 1) := dk_42 (dk_at dksX3_does_0 0 rfl rfl)
theorem dX3_does_1 : decode cX3_does 1 = .ok (.getfield 63, 3) := dk_180 0 63 (dk_at dksX3_does_0 1 rfl rfl)
theorem dX3_does_4 : decode cX3_does 4 = .ok (.iload_n 1, 1) := dk_27 (dk_at dksX3_does_0 4 rfl rfl)
theorem dX3_does_5 : decode cX3_does 5 = .ok (.iconst 1, 1) := dk_4 (dk_at dksX3_does_0 5 rfl rfl)
theorem dX3_does_6 : decode cX3_does 6 = .ok (.iadd, 1) := dk_96 (dk_at dksX3_does_0 6 rfl rfl)
theorem dX3_does_7 : decode cX3_does 7 = .ok (.iaload, 1) := dk_46 (dk_at dksX3_does_0 7 rfl rfl)
theorem dX3_does_8 : decode cX3_does 8 = .ok (.istore_n 2, 1) := dk_61 (dk_at dksX3_does_0 8 rfl rfl)
theorem dX3_does_9 : decode cX3_does 9 = .ok (.aload_n 0, 1) := dk_42 (dk_at dksX3_does_0 9 rfl rfl)
theorem dX3_does_10 : decode cX3_does 10 = .ok (.getfield 63, 3) := dk_180 0 63 (dk_at dksX3_does_0 10 rfl rfl)
theorem dX3_does_13 : decode cX3_does 13 = .ok (.iload_n 1, 1) := dk_27 (dk_at dksX3_does_0 13 rfl rfl)
theorem dX3_does_14 : decode cX3_does 14 = .ok (.iconst 2, 1) := dk_5 (dk_at dksX3_does_0 14 rfl rfl)
theorem dX3_does_15 : decode cX3_does 15 = .ok (.iadd, 1) := dk_96 (dk_at dksX3_does_0 15 rfl rfl)
theorem dX3_does_16 : decode cX3_does 16 = .ok (.iaload, 1) := dk_46 (dk_at dksX3_does_0 16 rfl rfl)
theorem dX3_does_17 : decode cX3_does 17 = .ok (.istore_n 3, 1) := dk_62 (dk_at dksX3_does_0 17 rfl rfl)
theorem dX3_does_18 : decode cX3_does 18 = .ok (.aload_n 0, 1) := dk_42 (dk_at dksX3_does_0 18 rfl rfl)
theorem dX3_does_19 : decode cX3_does 19 = .ok (.getfield 63, 3) := dk_180 0 63 (dk_at dksX3_does_0 19 rfl rfl)
theorem dX3_does_22 : decode cX3_does 22 = .ok (.iload_n 1, 1) := dk_27 (dk_at dksX3_does_0 22 rfl rfl)
theorem dX3_does_23 : decode cX3_does 23 = .ok (.iaload, 1) := dk_46 (dk_at dksX3_does_0 23 rfl rfl)
theorem dX3_does_24 : decode cX3_does 24 = .ok (.tableswitch 180 0 5 #[40, 67, 109, 119, 128, 138], 40) := by decide +kernel
theorem dX3_does_64 : decode cX3_does 64 = .ok (.aload_n 0, 1) := dk_42 (dk_at dksX3_does_2 0 rfl rfl)
theorem dX3_does_65 : decode cX3_does 65 = .ok (.iload_n 2, 1) := dk_28 (dk_at dksX3_does_2 1 rfl rfl)
theorem dX3_does_66 : decode cX3_does 66 = .ok (.iload_n 3, 1) := dk_29 (dk_at dksX3_does_2 2 rfl rfl)
theorem dX3_does_67 : decode cX3_does 67 = .ok (.aload_n 0, 1) := dk_42 (dk_at dksX3_does_2 3 rfl rfl)
theorem dX3_does_68 : decode cX3_does 68 = .ok (.getfield 63, 3) := dk_180 0 63 (dk_at dksX3_does_2 4 rfl rfl)
theorem dX3_does_71 : decode cX3_does 71 = .ok (.iload_n 1, 1) := dk_27 (dk_at dksX3_does_2 7 rfl rfl)
theorem dX3_does_72 : decode cX3_does 72 = .ok (.bipush 7, 2) := dk_16 7 (dk_at dksX3_does_2 8 rfl rfl)
theorem dX3_does_74 : decode cX3_does 74 = .ok (.iadd, 1) := dk_96 (dk_at dksX3_does_2 10 rfl rfl)
theorem dX3_does_75 : decode cX3_does 75 = .ok (.iaload, 1) := dk_46 (dk_at dksX3_does_2 11 rfl rfl)
theorem dX3_does_76 : decode cX3_does 76 = .ok (.aload_n 0, 1) := dk_42 (dk_at dksX3_does_2 12 rfl rfl)
theorem dX3_does_77 : decode cX3_does 77 = .ok (.getfield 63, 3) := dk_180 0 63 (dk_at dksX3_does_2 13 rfl rfl)
theorem dX3_does_80 : decode cX3_does 80 = .ok (.iload_n 1, 1) := dk_27 (dk_at dksX3_does_2 16 rfl rfl)
theorem dX3_does_81 : decode cX3_does 81 = .ok (.iconst 3, 1) := dk_6 (dk_at dksX3_does_2 17 rfl rfl)
theorem dX3_does_82 : decode cX3_does 82 = .ok (.iadd, 1) := dk_96 (dk_at dksX3_does_2 18 rfl rfl)
theorem dX3_does_83 : decode cX3_does 83 = .ok (.iaload, 1) := dk_46 (dk_at dksX3_does_2 19 rfl rfl)
theorem dX3_does_84 : decode cX3_does 84 = .ok (.invokevirtual 166, 3) := dk_182 0 166 (dk_at dksX3_does_2 20 rfl rfl)
theorem dX3_does_87 : decode cX3_does 87 = .ok (.pop, 1) := dk_87 (dk_at dksX3_does_2 23 rfl rfl)
theorem dX3_does_88 : decode cX3_does 88 = .ok (.goto 123, 3) := dk_167 0 123 (dk_at dksX3_does_3 0 rfl rfl)
theorem dX3_does_91 : decode cX3_does 91 = .ok (.iconst 0, 1) := dk_3 (dk_at dksX3_does_3 3 rfl rfl)
theorem dX3_does_92 : decode cX3_does 92 = .ok (.istore 4, 2) := dk_54 4 (dk_at dksX3_does_3 4 rfl rfl)
theorem dX3_does_94 : decode cX3_does 94 = .ok (.iload 4, 2) := dk_21 4 (dk_at dksX3_does_3 6 rfl rfl)
theorem dX3_does_96 : decode cX3_does 96 = .ok (.bipush 6, 2) := dk_16 6 (dk_at dksX3_does_3 8 rfl rfl)
theorem dX3_does_98 : decode cX3_does 98 = .ok (.if_icmp .ge 27, 3) := dk_162 0 27 (dk_at dksX3_does_3 10 rfl rfl)
theorem dX3_does_101 : decode cX3_does 101 = .ok (.aload_n 0, 1) := dk_42 (dk_at dksX3_does_3 13 rfl rfl)
theorem dX3_does_102 : decode cX3_does 102 = .ok (.getfield 38, 3) := dk_180 0 38 (dk_at dksX3_does_3 14 rfl rfl)
theorem dX3_does_105 : decode cX3_does 105 = .ok (.iload 4, 2) := dk_21 4 (dk_at dksX3_does_3 17 rfl rfl)
theorem dX3_does_107 : decode cX3_does 107 = .ok (.aload_n 0, 1) := dk_42 (dk_at dksX3_does_3 19 rfl rfl)
theorem dX3_does_108 : decode cX3_does 108 = .ok (.getfield 63, 3) := dk_180 0 63 (dk_at dksX3_does_3 20 rfl rfl)
theorem dX3_does_111 : decode cX3_does 111 = .ok (.iload_n 1, 1) := dk_27 (dk_at dksX3_does_3 23 rfl rfl)
theorem dX3_does_112 : decode cX3_does 112 = .ok (.iconst 1, 1) := dk_4 (dk_at dksX3_does_4 0 rfl rfl)
theorem dX3_does_113 : decode cX3_does 113 = .ok (.iadd, 1) := dk_96 (dk_at dksX3_does_4 1 rfl rfl)
theorem dX3_does_114 : decode cX3_does 114 = .ok (.iload 4, 2) := dk_21 4 (dk_at dksX3_does_4 2 rfl rfl)
theorem dX3_does_116 : decode cX3_does 116 = .ok (.iadd, 1) := dk_96 (dk_at dksX3_does_4 4 rfl rfl)
theorem dX3_does_117 : decode cX3_does 117 = .ok (.iaload, 1) := dk_46 (dk_at dksX3_does_4 5 rfl rfl)
theorem dX3_does_118 : decode cX3_does 118 = .ok (.iastore, 1) := dk_79 (dk_at dksX3_does_4 6 rfl rfl)
theorem dX3_does_119 : decode cX3_does 119 = .ok (.iinc 4 1, 3) := dk_132 4 1 (dk_at dksX3_does_4 7 rfl rfl)
theorem dX3_does_122 : decode cX3_does 122 = .ok (.goto (-28), 3) := dk_167 255 228 (dk_at dksX3_does_4 10 rfl rfl)
theorem dX3_does_125 : decode cX3_does 125 = .ok (.aload_n 0, 1) := dk_42 (dk_at dksX3_does_4 13 rfl rfl)
theorem dX3_does_126 : decode cX3_does 126 = .ok (.invokevirtual 144, 3) := dk_182 0 144 (dk_at dksX3_does_4 14 rfl rfl)
theorem dX3_does_129 : decode cX3_does 129 = .ok (.pop, 1) := dk_87 (dk_at dksX3_does_4 17 rfl rfl)
theorem dX3_does_130 : decode cX3_does 130 = .ok (.goto 81, 3) := dk_167 0 81 (dk_at dksX3_does_4 18 rfl rfl)
theorem dX3_does_133 : decode cX3_does 133 = .ok (.aload_n 0, 1) := dk_42 (dk_at dksX3_does_4 21 rfl rfl)
theorem dX3_does_134 : decode cX3_does 134 = .ok (.iload_n 2, 1) := dk_28 (dk_at dksX3_does_4 22 rfl rfl)
theorem dX3_does_135 : decode cX3_does 135 = .ok (.iload_n 3, 1) := dk_29 (dk_at dksX3_does_4 23 rfl rfl)
theorem dX3_does_136 : decode cX3_does 136 = .ok (.invokevirtual 154, 3) := dk_182 0 154 (dk_at dksX3_does_5 0 rfl rfl)
theorem dX3_does_139 : decode cX3_does 139 = .ok (.pop, 1) := dk_87 (dk_at dksX3_does_5 3 rfl rfl)
theorem dX3_does_140 : decode cX3_does 140 = .ok (.goto 71, 3) := dk_167 0 71 (dk_at dksX3_does_5 4 rfl rfl)
theorem dX3_does_143 : decode cX3_does 143 = .ok (.aload_n 0, 1) := dk_42 (dk_at dksX3_does_5 7 rfl rfl)
theorem dX3_does_144 : decode cX3_does 144 = .ok (.iload_n 2, 1) := dk_28 (dk_at dksX3_does_5 8 rfl rfl)
theorem dX3_does_145 : decode cX3_does 145 = .ok (.invokevirtual 151, 3) := dk_182 0 151 (dk_at dksX3_does_5 9 rfl rfl)
theorem dX3_does_148 : decode cX3_does 148 = .ok (.pop, 1) := dk_87 (dk_at dksX3_does_5 12 rfl rfl)
theorem dX3_does_149 : decode cX3_does 149 = .ok (.goto 62, 3) := dk_167 0 62 (dk_at dksX3_does_5 13 rfl rfl)
theorem dX3_does_152 : decode cX3_does 152 = .ok (.aload_n 0, 1) := dk_42 (dk_at dksX3_does_5 16 rfl rfl)
theorem dX3_does_153 : decode cX3_does 153 = .ok (.iload_n 2, 1) := dk_28 (dk_at dksX3_does_5 17 rfl rfl)
theorem dX3_does_154 : decode cX3_does 154 = .ok (.iload_n 3, 1) := dk_29 (dk_at dksX3_does_5 18 rfl rfl)
theorem dX3_does_155 : decode cX3_does 155 = .ok (.invokevirtual 132, 3) := dk_182 0 132 (dk_at dksX3_does_5 19 rfl rfl)
theorem dX3_does_158 : decode cX3_does 158 = .ok (.pop, 1) := dk_87 (dk_at dksX3_does_5 22 rfl rfl)
theorem dX3_does_159 : decode cX3_does 159 = .ok (.goto 52, 3) := dk_167 0 52 (dk_at dksX3_does_6 0 rfl rfl)
theorem dX3_does_162 : decode cX3_does 162 = .ok (.iconst 0, 1) := dk_3 (dk_at dksX3_does_6 3 rfl rfl)
theorem dX3_does_163 : decode cX3_does 163 = .ok (.istore 4, 2) := dk_54 4 (dk_at dksX3_does_6 4 rfl rfl)
theorem dX3_does_165 : decode cX3_does 165 = .ok (.iload 4, 2) := dk_21 4 (dk_at dksX3_does_6 6 rfl rfl)
theorem dX3_does_167 : decode cX3_does 167 = .ok (.iconst 5, 1) := dk_8 (dk_at dksX3_does_6 8 rfl rfl)
theorem dX3_does_168 : decode cX3_does 168 = .ok (.if_icmp .ge 27, 3) := dk_162 0 27 (dk_at dksX3_does_6 9 rfl rfl)
theorem dX3_does_171 : decode cX3_does 171 = .ok (.aload_n 0, 1) := dk_42 (dk_at dksX3_does_6 12 rfl rfl)
theorem dX3_does_172 : decode cX3_does 172 = .ok (.getfield 29, 3) := dk_180 0 29 (dk_at dksX3_does_6 13 rfl rfl)
theorem dX3_does_175 : decode cX3_does 175 = .ok (.iload 4, 2) := dk_21 4 (dk_at dksX3_does_6 16 rfl rfl)
theorem dX3_does_177 : decode cX3_does 177 = .ok (.aload_n 0, 1) := dk_42 (dk_at dksX3_does_6 18 rfl rfl)
theorem dX3_does_178 : decode cX3_does 178 = .ok (.getfield 63, 3) := dk_180 0 63 (dk_at dksX3_does_6 19 rfl rfl)
theorem dX3_does_181 : decode cX3_does 181 = .ok (.iload_n 1, 1) := dk_27 (dk_at dksX3_does_6 22 rfl rfl)
theorem dX3_does_182 : decode cX3_does 182 = .ok (.iconst 2, 1) := dk_5 (dk_at dksX3_does_6 23 rfl rfl)
theorem dX3_does_183 : decode cX3_does 183 = .ok (.iadd, 1) := dk_96 (dk_at dksX3_does_7 0 rfl rfl)
theorem dX3_does_184 : decode cX3_does 184 = .ok (.iload 4, 2) := dk_21 4 (dk_at dksX3_does_7 1 rfl rfl)
theorem dX3_does_186 : decode cX3_does 186 = .ok (.iadd, 1) := dk_96 (dk_at dksX3_does_7 3 rfl rfl)
theorem dX3_does_187 : decode cX3_does 187 = .ok (.iaload, 1) := dk_46 (dk_at dksX3_does_7 4 rfl rfl)
theorem dX3_does_188 : decode cX3_does 188 = .ok (.iastore, 1) := dk_79 (dk_at dksX3_does_7 5 rfl rfl)
theorem dX3_does_189 : decode cX3_does 189 = .ok (.iinc 4 1, 3) := dk_132 4 1 (dk_at dksX3_does_7 6 rfl rfl)
theorem dX3_does_192 : decode cX3_does 192 = .ok (.goto (-27), 3) := dk_167 255 229 (dk_at dksX3_does_7 9 rfl rfl)
theorem dX3_does_195 : decode cX3_does 195 = .ok (.aload_n 0, 1) := dk_42 (dk_at dksX3_does_7 12 rfl rfl)
theorem dX3_does_196 : decode cX3_does 196 = .ok (.iload_n 2, 1) := dk_28 (dk_at dksX3_does_7 13 rfl rfl)
theorem dX3_does_197 : decode cX3_does 197 = .ok (.invokevirtual 126, 3) := dk_182 0 126 (dk_at dksX3_does_7 14 rfl rfl)
theorem dX3_does_200 : decode cX3_does 200 = .ok (.pop, 1) := dk_87 (dk_at dksX3_does_7 17 rfl rfl)
theorem dX3_does_201 : decode cX3_does 201 = .ok (.goto 10, 3) := dk_167 0 10 (dk_at dksX3_does_7 18 rfl rfl)
theorem dX3_does_204 : decode cX3_does 204 = .ok (.aload_n 0, 1) := dk_42 (dk_at dksX3_does_7 21 rfl rfl)
theorem dX3_does_205 : decode cX3_does 205 = .ok (.iload_n 2, 1) := dk_28 (dk_at dksX3_does_7 22 rfl rfl)
theorem dX3_does_206 : decode cX3_does 206 = .ok (.iload_n 3, 1) := dk_29 (dk_at dksX3_does_7 23 rfl rfl)
theorem dX3_does_207 : decode cX3_does 207 = .ok (.invokevirtual 112, 3) := dk_182 0 112 (dk_at dksX3_does_8 0 rfl rfl)
theorem dX3_does_210 : decode cX3_does 210 = .ok (.pop, 1) := dk_87 (dk_at dksX3_does_8 3 rfl rfl)
theorem dX3_does_211 : decode cX3_does 211 = .ok (.return_, 1) := dk_177 (dk_at dksX3_does_8 4 rfl rfl)
abbrev cX3_refusedBy : ByteArray := prog_21_method_87_code
def yX3_refusedBy : MethodName := ⟨RX3, "refusedBy", "(I)I"⟩
def dkwX3_refusedBy_1 : List UInt8 := [29, 181, 1, 63, 42, 5, 182, 0, 81, 172]
abbrev dktX3_refusedBy_1 : List UInt8 := dkwX3_refusedBy_1 ++ []
def dkwX3_refusedBy_0 : List UInt8 := [42, 180, 0, 72, 61, 42, 180, 0, 75, 62, 42, 16, 11, 27, 182, 0, 106, 87, 42, 28, 181, 0, 78, 42]
abbrev dktX3_refusedBy_0 : List UInt8 := dkwX3_refusedBy_0 ++ dktX3_refusedBy_1
theorem dksX3_refusedBy_0 : cX3_refusedBy.data.toList.drop 0 = dktX3_refusedBy_0 := by decide +kernel
theorem dksX3_refusedBy_1 : cX3_refusedBy.data.toList.drop 24 = dktX3_refusedBy_1 := dk_seg dksX3_refusedBy_0 24 rfl rfl
theorem dX3_refusedBy_0 : decode cX3_refusedBy 0 = .ok (.aload_n 0, 1) := dk_42 (dk_at dksX3_refusedBy_0 0 rfl rfl)
theorem dX3_refusedBy_1 : decode cX3_refusedBy 1 = .ok (.getfield 72, 3) := dk_180 0 72 (dk_at dksX3_refusedBy_0 1 rfl rfl)
theorem dX3_refusedBy_4 : decode cX3_refusedBy 4 = .ok (.istore_n 2, 1) := dk_61 (dk_at dksX3_refusedBy_0 4 rfl rfl)
theorem dX3_refusedBy_5 : decode cX3_refusedBy 5 = .ok (.aload_n 0, 1) := dk_42 (dk_at dksX3_refusedBy_0 5 rfl rfl)
theorem dX3_refusedBy_6 : decode cX3_refusedBy 6 = .ok (.getfield 75, 3) := dk_180 0 75 (dk_at dksX3_refusedBy_0 6 rfl rfl)
theorem dX3_refusedBy_9 : decode cX3_refusedBy 9 = .ok (.istore_n 3, 1) := dk_62 (dk_at dksX3_refusedBy_0 9 rfl rfl)
theorem dX3_refusedBy_10 : decode cX3_refusedBy 10 = .ok (.aload_n 0, 1) := dk_42 (dk_at dksX3_refusedBy_0 10 rfl rfl)
theorem dX3_refusedBy_11 : decode cX3_refusedBy 11 = .ok (.bipush 11, 2) := dk_16 11 (dk_at dksX3_refusedBy_0 11 rfl rfl)
theorem dX3_refusedBy_13 : decode cX3_refusedBy 13 = .ok (.iload_n 1, 1) := dk_27 (dk_at dksX3_refusedBy_0 13 rfl rfl)
theorem dX3_refusedBy_14 : decode cX3_refusedBy 14 = .ok (.invokevirtual 106, 3) := dk_182 0 106 (dk_at dksX3_refusedBy_0 14 rfl rfl)
theorem dX3_refusedBy_17 : decode cX3_refusedBy 17 = .ok (.pop, 1) := dk_87 (dk_at dksX3_refusedBy_0 17 rfl rfl)
theorem dX3_refusedBy_18 : decode cX3_refusedBy 18 = .ok (.aload_n 0, 1) := dk_42 (dk_at dksX3_refusedBy_0 18 rfl rfl)
theorem dX3_refusedBy_19 : decode cX3_refusedBy 19 = .ok (.iload_n 2, 1) := dk_28 (dk_at dksX3_refusedBy_0 19 rfl rfl)
theorem dX3_refusedBy_20 : decode cX3_refusedBy 20 = .ok (.putfield 78, 3) := dk_181 0 78 (dk_at dksX3_refusedBy_0 20 rfl rfl)
theorem dX3_refusedBy_23 : decode cX3_refusedBy 23 = .ok (.aload_n 0, 1) := dk_42 (dk_at dksX3_refusedBy_0 23 rfl rfl)
theorem dX3_refusedBy_24 : decode cX3_refusedBy 24 = .ok (.iload_n 3, 1) := dk_29 (dk_at dksX3_refusedBy_1 0 rfl rfl)
theorem dX3_refusedBy_25 : decode cX3_refusedBy 25 = .ok (.putfield 319, 3) := dk_181 1 63 (dk_at dksX3_refusedBy_1 1 rfl rfl)
theorem dX3_refusedBy_28 : decode cX3_refusedBy 28 = .ok (.aload_n 0, 1) := dk_42 (dk_at dksX3_refusedBy_1 4 rfl rfl)
theorem dX3_refusedBy_29 : decode cX3_refusedBy 29 = .ok (.iconst 2, 1) := dk_5 (dk_at dksX3_refusedBy_1 5 rfl rfl)
theorem dX3_refusedBy_30 : decode cX3_refusedBy 30 = .ok (.invokevirtual 81, 3) := dk_182 0 81 (dk_at dksX3_refusedBy_1 6 rfl rfl)
theorem dX3_refusedBy_33 : decode cX3_refusedBy 33 = .ok (.ireturn, 1) := dk_172 (dk_at dksX3_refusedBy_1 9 rfl rfl)
abbrev cX3_faultPosition : ByteArray := prog_21_method_88_code
def yX3_faultPosition : MethodName := ⟨RX3, "faultPosition", "()I"⟩
def dkwX3_faultPosition_0 : List UInt8 := [42, 3, 181, 0, 69, 42, 180, 0, 22, 172]
abbrev dktX3_faultPosition_0 : List UInt8 := dkwX3_faultPosition_0 ++ []
theorem dksX3_faultPosition_0 : cX3_faultPosition.data.toList.drop 0 = dktX3_faultPosition_0 := by decide +kernel
theorem dX3_faultPosition_0 : decode cX3_faultPosition 0 = .ok (.aload_n 0, 1) := dk_42 (dk_at dksX3_faultPosition_0 0 rfl rfl)
theorem dX3_faultPosition_1 : decode cX3_faultPosition 1 = .ok (.iconst 0, 1) := dk_3 (dk_at dksX3_faultPosition_0 1 rfl rfl)
theorem dX3_faultPosition_2 : decode cX3_faultPosition 2 = .ok (.putfield 69, 3) := dk_181 0 69 (dk_at dksX3_faultPosition_0 2 rfl rfl)
theorem dX3_faultPosition_5 : decode cX3_faultPosition 5 = .ok (.aload_n 0, 1) := dk_42 (dk_at dksX3_faultPosition_0 5 rfl rfl)
theorem dX3_faultPosition_6 : decode cX3_faultPosition 6 = .ok (.getfield 22, 3) := dk_180 0 22 (dk_at dksX3_faultPosition_0 6 rfl rfl)
theorem dX3_faultPosition_9 : decode cX3_faultPosition 9 = .ok (.ireturn, 1) := dk_172 (dk_at dksX3_faultPosition_0 9 rfl rfl)
abbrev cX3_reason : ByteArray := prog_21_method_89_code
def yX3_reason : MethodName := ⟨RX3, "reason", "(IZ)I"⟩
def dkwX3_reason_3 : List UInt8 := [153, 0, 10, 42, 180, 0, 75, 167, 0, 7, 42, 180, 0, 72, 172]
abbrev dktX3_reason_3 : List UInt8 := dkwX3_reason_3 ++ []
def dkwX3_reason_2 : List UInt8 := [27, 4, 160, 0, 19, 28, 153, 0, 10, 42, 180, 1, 63, 167, 0, 7, 42, 180, 0, 78, 172, 28]
abbrev dktX3_reason_2 : List UInt8 := dkwX3_reason_2 ++ dktX3_reason_3
def dkwX3_reason_1 : List UInt8 := [180, 0, 72, 153, 0, 15, 27, 4, 160, 0, 16, 42, 180, 0, 78, 154, 0, 9, 42, 5, 182, 0, 81, 172]
abbrev dktX3_reason_1 : List UInt8 := dkwX3_reason_1 ++ dktX3_reason_2
def dkwX3_reason_0 : List UInt8 := [42, 3, 181, 0, 69, 27, 133, 9, 10, 184, 0, 88, 154, 0, 9, 42, 4, 182, 0, 81, 172, 42]
abbrev dktX3_reason_0 : List UInt8 := dkwX3_reason_0 ++ dktX3_reason_1
theorem dksX3_reason_0 : cX3_reason.data.toList.drop 0 = dktX3_reason_0 := by decide +kernel
theorem dksX3_reason_1 : cX3_reason.data.toList.drop 22 = dktX3_reason_1 := dk_seg dksX3_reason_0 22 rfl rfl
theorem dksX3_reason_2 : cX3_reason.data.toList.drop 46 = dktX3_reason_2 := dk_seg dksX3_reason_1 24 rfl rfl
theorem dksX3_reason_3 : cX3_reason.data.toList.drop 68 = dktX3_reason_3 := dk_seg dksX3_reason_2 22 rfl rfl
theorem dX3_reason_0 : decode cX3_reason 0 = .ok (.aload_n 0, 1) := dk_42 (dk_at dksX3_reason_0 0 rfl rfl)
theorem dX3_reason_1 : decode cX3_reason 1 = .ok (.iconst 0, 1) := dk_3 (dk_at dksX3_reason_0 1 rfl rfl)
theorem dX3_reason_2 : decode cX3_reason 2 = .ok (.putfield 69, 3) := dk_181 0 69 (dk_at dksX3_reason_0 2 rfl rfl)
theorem dX3_reason_5 : decode cX3_reason 5 = .ok (.iload_n 1, 1) := dk_27 (dk_at dksX3_reason_0 5 rfl rfl)
theorem dX3_reason_6 : decode cX3_reason 6 = .ok (.i2l, 1) := dk_133 (dk_at dksX3_reason_0 6 rfl rfl)
theorem dX3_reason_7 : decode cX3_reason 7 = .ok (.lconst 0, 1) := dk_9 (dk_at dksX3_reason_0 7 rfl rfl)
theorem dX3_reason_8 : decode cX3_reason 8 = .ok (.lconst 1, 1) := dk_10 (dk_at dksX3_reason_0 8 rfl rfl)
theorem dX3_reason_9 : decode cX3_reason 9 = .ok (.invokestatic 88, 3) := dk_184 0 88 (dk_at dksX3_reason_0 9 rfl rfl)
theorem dX3_reason_12 : decode cX3_reason 12 = .ok (.ifCond .ne 9, 3) := dk_154 0 9 (dk_at dksX3_reason_0 12 rfl rfl)
theorem dX3_reason_15 : decode cX3_reason 15 = .ok (.aload_n 0, 1) := dk_42 (dk_at dksX3_reason_0 15 rfl rfl)
theorem dX3_reason_16 : decode cX3_reason 16 = .ok (.iconst 1, 1) := dk_4 (dk_at dksX3_reason_0 16 rfl rfl)
theorem dX3_reason_17 : decode cX3_reason 17 = .ok (.invokevirtual 81, 3) := dk_182 0 81 (dk_at dksX3_reason_0 17 rfl rfl)
theorem dX3_reason_20 : decode cX3_reason 20 = .ok (.ireturn, 1) := dk_172 (dk_at dksX3_reason_0 20 rfl rfl)
theorem dX3_reason_21 : decode cX3_reason 21 = .ok (.aload_n 0, 1) := dk_42 (dk_at dksX3_reason_0 21 rfl rfl)
theorem dX3_reason_22 : decode cX3_reason 22 = .ok (.getfield 72, 3) := dk_180 0 72 (dk_at dksX3_reason_1 0 rfl rfl)
theorem dX3_reason_25 : decode cX3_reason 25 = .ok (.ifCond .eq 15, 3) := dk_153 0 15 (dk_at dksX3_reason_1 3 rfl rfl)
theorem dX3_reason_28 : decode cX3_reason 28 = .ok (.iload_n 1, 1) := dk_27 (dk_at dksX3_reason_1 6 rfl rfl)
theorem dX3_reason_29 : decode cX3_reason 29 = .ok (.iconst 1, 1) := dk_4 (dk_at dksX3_reason_1 7 rfl rfl)
theorem dX3_reason_30 : decode cX3_reason 30 = .ok (.if_icmp .ne 16, 3) := dk_160 0 16 (dk_at dksX3_reason_1 8 rfl rfl)
theorem dX3_reason_33 : decode cX3_reason 33 = .ok (.aload_n 0, 1) := dk_42 (dk_at dksX3_reason_1 11 rfl rfl)
theorem dX3_reason_34 : decode cX3_reason 34 = .ok (.getfield 78, 3) := dk_180 0 78 (dk_at dksX3_reason_1 12 rfl rfl)
theorem dX3_reason_37 : decode cX3_reason 37 = .ok (.ifCond .ne 9, 3) := dk_154 0 9 (dk_at dksX3_reason_1 15 rfl rfl)
theorem dX3_reason_40 : decode cX3_reason 40 = .ok (.aload_n 0, 1) := dk_42 (dk_at dksX3_reason_1 18 rfl rfl)
theorem dX3_reason_41 : decode cX3_reason 41 = .ok (.iconst 2, 1) := dk_5 (dk_at dksX3_reason_1 19 rfl rfl)
theorem dX3_reason_42 : decode cX3_reason 42 = .ok (.invokevirtual 81, 3) := dk_182 0 81 (dk_at dksX3_reason_1 20 rfl rfl)
theorem dX3_reason_45 : decode cX3_reason 45 = .ok (.ireturn, 1) := dk_172 (dk_at dksX3_reason_1 23 rfl rfl)
theorem dX3_reason_46 : decode cX3_reason 46 = .ok (.iload_n 1, 1) := dk_27 (dk_at dksX3_reason_2 0 rfl rfl)
theorem dX3_reason_47 : decode cX3_reason 47 = .ok (.iconst 1, 1) := dk_4 (dk_at dksX3_reason_2 1 rfl rfl)
theorem dX3_reason_48 : decode cX3_reason 48 = .ok (.if_icmp .ne 19, 3) := dk_160 0 19 (dk_at dksX3_reason_2 2 rfl rfl)
theorem dX3_reason_51 : decode cX3_reason 51 = .ok (.iload_n 2, 1) := dk_28 (dk_at dksX3_reason_2 5 rfl rfl)
theorem dX3_reason_52 : decode cX3_reason 52 = .ok (.ifCond .eq 10, 3) := dk_153 0 10 (dk_at dksX3_reason_2 6 rfl rfl)
theorem dX3_reason_55 : decode cX3_reason 55 = .ok (.aload_n 0, 1) := dk_42 (dk_at dksX3_reason_2 9 rfl rfl)
theorem dX3_reason_56 : decode cX3_reason 56 = .ok (.getfield 319, 3) := dk_180 1 63 (dk_at dksX3_reason_2 10 rfl rfl)
theorem dX3_reason_59 : decode cX3_reason 59 = .ok (.goto 7, 3) := dk_167 0 7 (dk_at dksX3_reason_2 13 rfl rfl)
theorem dX3_reason_62 : decode cX3_reason 62 = .ok (.aload_n 0, 1) := dk_42 (dk_at dksX3_reason_2 16 rfl rfl)
theorem dX3_reason_63 : decode cX3_reason 63 = .ok (.getfield 78, 3) := dk_180 0 78 (dk_at dksX3_reason_2 17 rfl rfl)
theorem dX3_reason_66 : decode cX3_reason 66 = .ok (.ireturn, 1) := dk_172 (dk_at dksX3_reason_2 20 rfl rfl)
theorem dX3_reason_67 : decode cX3_reason 67 = .ok (.iload_n 2, 1) := dk_28 (dk_at dksX3_reason_2 21 rfl rfl)
theorem dX3_reason_68 : decode cX3_reason 68 = .ok (.ifCond .eq 10, 3) := dk_153 0 10 (dk_at dksX3_reason_3 0 rfl rfl)
theorem dX3_reason_71 : decode cX3_reason 71 = .ok (.aload_n 0, 1) := dk_42 (dk_at dksX3_reason_3 3 rfl rfl)
theorem dX3_reason_72 : decode cX3_reason 72 = .ok (.getfield 75, 3) := dk_180 0 75 (dk_at dksX3_reason_3 4 rfl rfl)
theorem dX3_reason_75 : decode cX3_reason 75 = .ok (.goto 7, 3) := dk_167 0 7 (dk_at dksX3_reason_3 7 rfl rfl)
theorem dX3_reason_78 : decode cX3_reason 78 = .ok (.aload_n 0, 1) := dk_42 (dk_at dksX3_reason_3 10 rfl rfl)
theorem dX3_reason_79 : decode cX3_reason 79 = .ok (.getfield 72, 3) := dk_180 0 72 (dk_at dksX3_reason_3 11 rfl rfl)
theorem dX3_reason_82 : decode cX3_reason 82 = .ok (.ireturn, 1) := dk_172 (dk_at dksX3_reason_3 14 rfl rfl)
abbrev cX3_tell : ByteArray := prog_21_method_93_code
def yX3_tell : MethodName := ⟨RX3, "tell", "(I)I"⟩
def dkwX3_tell_5 : List UInt8 := [167, 255, 172, 42, 180, 1, 66, 172]
abbrev dktX3_tell_5 : List UInt8 := dkwX3_tell_5 ++ []
def dkwX3_tell_4 : List UInt8 := [182, 0, 135, 153, 0, 16, 42, 16, 45, 182, 1, 69, 42, 27, 28, 4, 182, 1, 75, 132, 2, 1]
abbrev dktX3_tell_4 : List UInt8 := dkwX3_tell_4 ++ dktX3_tell_5
def dkwX3_tell_3 : List UInt8 := [182, 1, 69, 42, 27, 28, 3, 182, 0, 135, 153, 0, 10, 42, 27, 28, 3, 182, 1, 75, 42, 27, 28, 4]
abbrev dktX3_tell_3 : List UInt8 := dkwX3_tell_3 ++ dktX3_tell_4
def dkwX3_tell_2 : List UInt8 := [16, 32, 182, 1, 69, 42, 42, 180, 0, 9, 27, 28, 184, 0, 98, 3, 96, 46, 182, 1, 72, 42, 16, 64]
abbrev dktX3_tell_2 : List UInt8 := dkwX3_tell_2 ++ dktX3_tell_3
def dkwX3_tell_1 : List UInt8 := [182, 0, 159, 42, 3, 181, 1, 66, 3, 61, 28, 42, 27, 182, 0, 95, 162, 0, 81, 28, 158, 0, 9, 42]
abbrev dktX3_tell_1 : List UInt8 := dkwX3_tell_1 ++ dktX3_tell_2
def dkwX3_tell_0 : List UInt8 := [42, 3, 181, 0, 69, 42, 27, 182, 0, 118, 154, 0, 9, 42, 4, 182, 0, 81, 172, 42, 2, 2]
abbrev dktX3_tell_0 : List UInt8 := dkwX3_tell_0 ++ dktX3_tell_1
theorem dksX3_tell_0 : cX3_tell.data.toList.drop 0 = dktX3_tell_0 := by decide +kernel
theorem dksX3_tell_1 : cX3_tell.data.toList.drop 22 = dktX3_tell_1 := dk_seg dksX3_tell_0 22 rfl rfl
theorem dksX3_tell_2 : cX3_tell.data.toList.drop 46 = dktX3_tell_2 := dk_seg dksX3_tell_1 24 rfl rfl
theorem dksX3_tell_3 : cX3_tell.data.toList.drop 70 = dktX3_tell_3 := dk_seg dksX3_tell_2 24 rfl rfl
theorem dksX3_tell_4 : cX3_tell.data.toList.drop 94 = dktX3_tell_4 := dk_seg dksX3_tell_3 24 rfl rfl
theorem dksX3_tell_5 : cX3_tell.data.toList.drop 116 = dktX3_tell_5 := dk_seg dksX3_tell_4 22 rfl rfl
theorem dX3_tell_0 : decode cX3_tell 0 = .ok (.aload_n 0, 1) := dk_42 (dk_at dksX3_tell_0 0 rfl rfl)
theorem dX3_tell_1 : decode cX3_tell 1 = .ok (.iconst 0, 1) := dk_3 (dk_at dksX3_tell_0 1 rfl rfl)
theorem dX3_tell_2 : decode cX3_tell 2 = .ok (.putfield 69, 3) := dk_181 0 69 (dk_at dksX3_tell_0 2 rfl rfl)
theorem dX3_tell_5 : decode cX3_tell 5 = .ok (.aload_n 0, 1) := dk_42 (dk_at dksX3_tell_0 5 rfl rfl)
theorem dX3_tell_6 : decode cX3_tell 6 = .ok (.iload_n 1, 1) := dk_27 (dk_at dksX3_tell_0 6 rfl rfl)
theorem dX3_tell_7 : decode cX3_tell 7 = .ok (.invokevirtual 118, 3) := dk_182 0 118 (dk_at dksX3_tell_0 7 rfl rfl)
theorem dX3_tell_10 : decode cX3_tell 10 = .ok (.ifCond .ne 9, 3) := dk_154 0 9 (dk_at dksX3_tell_0 10 rfl rfl)
theorem dX3_tell_13 : decode cX3_tell 13 = .ok (.aload_n 0, 1) := dk_42 (dk_at dksX3_tell_0 13 rfl rfl)
theorem dX3_tell_14 : decode cX3_tell 14 = .ok (.iconst 1, 1) := dk_4 (dk_at dksX3_tell_0 14 rfl rfl)
theorem dX3_tell_15 : decode cX3_tell 15 = .ok (.invokevirtual 81, 3) := dk_182 0 81 (dk_at dksX3_tell_0 15 rfl rfl)
theorem dX3_tell_18 : decode cX3_tell 18 = .ok (.ireturn, 1) := dk_172 (dk_at dksX3_tell_0 18 rfl rfl)
theorem dX3_tell_19 : decode cX3_tell 19 = .ok (.aload_n 0, 1) := dk_42 (dk_at dksX3_tell_0 19 rfl rfl)
theorem dX3_tell_20 : decode cX3_tell 20 = .ok (.iconst (-1), 1) := dk_2 (dk_at dksX3_tell_0 20 rfl rfl)
theorem dX3_tell_21 : decode cX3_tell 21 = .ok (.iconst (-1), 1) := dk_2 (dk_at dksX3_tell_0 21 rfl rfl)
theorem dX3_tell_22 : decode cX3_tell 22 = .ok (.invokevirtual 159, 3) := dk_182 0 159 (dk_at dksX3_tell_1 0 rfl rfl)
theorem dX3_tell_25 : decode cX3_tell 25 = .ok (.aload_n 0, 1) := dk_42 (dk_at dksX3_tell_1 3 rfl rfl)
theorem dX3_tell_26 : decode cX3_tell 26 = .ok (.iconst 0, 1) := dk_3 (dk_at dksX3_tell_1 4 rfl rfl)
theorem dX3_tell_27 : decode cX3_tell 27 = .ok (.putfield 322, 3) := dk_181 1 66 (dk_at dksX3_tell_1 5 rfl rfl)
theorem dX3_tell_30 : decode cX3_tell 30 = .ok (.iconst 0, 1) := dk_3 (dk_at dksX3_tell_1 8 rfl rfl)
theorem dX3_tell_31 : decode cX3_tell 31 = .ok (.istore_n 2, 1) := dk_61 (dk_at dksX3_tell_1 9 rfl rfl)
theorem dX3_tell_32 : decode cX3_tell 32 = .ok (.iload_n 2, 1) := dk_28 (dk_at dksX3_tell_1 10 rfl rfl)
theorem dX3_tell_33 : decode cX3_tell 33 = .ok (.aload_n 0, 1) := dk_42 (dk_at dksX3_tell_1 11 rfl rfl)
theorem dX3_tell_34 : decode cX3_tell 34 = .ok (.iload_n 1, 1) := dk_27 (dk_at dksX3_tell_1 12 rfl rfl)
theorem dX3_tell_35 : decode cX3_tell 35 = .ok (.invokevirtual 95, 3) := dk_182 0 95 (dk_at dksX3_tell_1 13 rfl rfl)
theorem dX3_tell_38 : decode cX3_tell 38 = .ok (.if_icmp .ge 81, 3) := dk_162 0 81 (dk_at dksX3_tell_1 16 rfl rfl)
theorem dX3_tell_41 : decode cX3_tell 41 = .ok (.iload_n 2, 1) := dk_28 (dk_at dksX3_tell_1 19 rfl rfl)
theorem dX3_tell_42 : decode cX3_tell 42 = .ok (.ifCond .le 9, 3) := dk_158 0 9 (dk_at dksX3_tell_1 20 rfl rfl)
theorem dX3_tell_45 : decode cX3_tell 45 = .ok (.aload_n 0, 1) := dk_42 (dk_at dksX3_tell_1 23 rfl rfl)
theorem dX3_tell_46 : decode cX3_tell 46 = .ok (.bipush 32, 2) := dk_16 32 (dk_at dksX3_tell_2 0 rfl rfl)
theorem dX3_tell_48 : decode cX3_tell 48 = .ok (.invokevirtual 325, 3) := dk_182 1 69 (dk_at dksX3_tell_2 2 rfl rfl)
theorem dX3_tell_51 : decode cX3_tell 51 = .ok (.aload_n 0, 1) := dk_42 (dk_at dksX3_tell_2 5 rfl rfl)
theorem dX3_tell_52 : decode cX3_tell 52 = .ok (.aload_n 0, 1) := dk_42 (dk_at dksX3_tell_2 6 rfl rfl)
theorem dX3_tell_53 : decode cX3_tell 53 = .ok (.getfield 9, 3) := dk_180 0 9 (dk_at dksX3_tell_2 7 rfl rfl)
theorem dX3_tell_56 : decode cX3_tell 56 = .ok (.iload_n 1, 1) := dk_27 (dk_at dksX3_tell_2 10 rfl rfl)
theorem dX3_tell_57 : decode cX3_tell 57 = .ok (.iload_n 2, 1) := dk_28 (dk_at dksX3_tell_2 11 rfl rfl)
theorem dX3_tell_58 : decode cX3_tell 58 = .ok (.invokestatic 98, 3) := dk_184 0 98 (dk_at dksX3_tell_2 12 rfl rfl)
theorem dX3_tell_61 : decode cX3_tell 61 = .ok (.iconst 0, 1) := dk_3 (dk_at dksX3_tell_2 15 rfl rfl)
theorem dX3_tell_62 : decode cX3_tell 62 = .ok (.iadd, 1) := dk_96 (dk_at dksX3_tell_2 16 rfl rfl)
theorem dX3_tell_63 : decode cX3_tell 63 = .ok (.iaload, 1) := dk_46 (dk_at dksX3_tell_2 17 rfl rfl)
theorem dX3_tell_64 : decode cX3_tell 64 = .ok (.invokevirtual 328, 3) := dk_182 1 72 (dk_at dksX3_tell_2 18 rfl rfl)
theorem dX3_tell_67 : decode cX3_tell 67 = .ok (.aload_n 0, 1) := dk_42 (dk_at dksX3_tell_2 21 rfl rfl)
theorem dX3_tell_68 : decode cX3_tell 68 = .ok (.bipush 64, 2) := dk_16 64 (dk_at dksX3_tell_2 22 rfl rfl)
theorem dX3_tell_70 : decode cX3_tell 70 = .ok (.invokevirtual 325, 3) := dk_182 1 69 (dk_at dksX3_tell_3 0 rfl rfl)
theorem dX3_tell_73 : decode cX3_tell 73 = .ok (.aload_n 0, 1) := dk_42 (dk_at dksX3_tell_3 3 rfl rfl)
theorem dX3_tell_74 : decode cX3_tell 74 = .ok (.iload_n 1, 1) := dk_27 (dk_at dksX3_tell_3 4 rfl rfl)
theorem dX3_tell_75 : decode cX3_tell 75 = .ok (.iload_n 2, 1) := dk_28 (dk_at dksX3_tell_3 5 rfl rfl)
theorem dX3_tell_76 : decode cX3_tell 76 = .ok (.iconst 0, 1) := dk_3 (dk_at dksX3_tell_3 6 rfl rfl)
theorem dX3_tell_77 : decode cX3_tell 77 = .ok (.invokevirtual 135, 3) := dk_182 0 135 (dk_at dksX3_tell_3 7 rfl rfl)
theorem dX3_tell_80 : decode cX3_tell 80 = .ok (.ifCond .eq 10, 3) := dk_153 0 10 (dk_at dksX3_tell_3 10 rfl rfl)
theorem dX3_tell_83 : decode cX3_tell 83 = .ok (.aload_n 0, 1) := dk_42 (dk_at dksX3_tell_3 13 rfl rfl)
theorem dX3_tell_84 : decode cX3_tell 84 = .ok (.iload_n 1, 1) := dk_27 (dk_at dksX3_tell_3 14 rfl rfl)
theorem dX3_tell_85 : decode cX3_tell 85 = .ok (.iload_n 2, 1) := dk_28 (dk_at dksX3_tell_3 15 rfl rfl)
theorem dX3_tell_86 : decode cX3_tell 86 = .ok (.iconst 0, 1) := dk_3 (dk_at dksX3_tell_3 16 rfl rfl)
theorem dX3_tell_87 : decode cX3_tell 87 = .ok (.invokevirtual 331, 3) := dk_182 1 75 (dk_at dksX3_tell_3 17 rfl rfl)
theorem dX3_tell_90 : decode cX3_tell 90 = .ok (.aload_n 0, 1) := dk_42 (dk_at dksX3_tell_3 20 rfl rfl)
theorem dX3_tell_91 : decode cX3_tell 91 = .ok (.iload_n 1, 1) := dk_27 (dk_at dksX3_tell_3 21 rfl rfl)
theorem dX3_tell_92 : decode cX3_tell 92 = .ok (.iload_n 2, 1) := dk_28 (dk_at dksX3_tell_3 22 rfl rfl)
theorem dX3_tell_93 : decode cX3_tell 93 = .ok (.iconst 1, 1) := dk_4 (dk_at dksX3_tell_3 23 rfl rfl)
theorem dX3_tell_94 : decode cX3_tell 94 = .ok (.invokevirtual 135, 3) := dk_182 0 135 (dk_at dksX3_tell_4 0 rfl rfl)
theorem dX3_tell_97 : decode cX3_tell 97 = .ok (.ifCond .eq 16, 3) := dk_153 0 16 (dk_at dksX3_tell_4 3 rfl rfl)
theorem dX3_tell_100 : decode cX3_tell 100 = .ok (.aload_n 0, 1) := dk_42 (dk_at dksX3_tell_4 6 rfl rfl)
theorem dX3_tell_101 : decode cX3_tell 101 = .ok (.bipush 45, 2) := dk_16 45 (dk_at dksX3_tell_4 7 rfl rfl)
theorem dX3_tell_103 : decode cX3_tell 103 = .ok (.invokevirtual 325, 3) := dk_182 1 69 (dk_at dksX3_tell_4 9 rfl rfl)
theorem dX3_tell_106 : decode cX3_tell 106 = .ok (.aload_n 0, 1) := dk_42 (dk_at dksX3_tell_4 12 rfl rfl)
theorem dX3_tell_107 : decode cX3_tell 107 = .ok (.iload_n 1, 1) := dk_27 (dk_at dksX3_tell_4 13 rfl rfl)
theorem dX3_tell_108 : decode cX3_tell 108 = .ok (.iload_n 2, 1) := dk_28 (dk_at dksX3_tell_4 14 rfl rfl)
theorem dX3_tell_109 : decode cX3_tell 109 = .ok (.iconst 1, 1) := dk_4 (dk_at dksX3_tell_4 15 rfl rfl)
theorem dX3_tell_110 : decode cX3_tell 110 = .ok (.invokevirtual 331, 3) := dk_182 1 75 (dk_at dksX3_tell_4 16 rfl rfl)
theorem dX3_tell_113 : decode cX3_tell 113 = .ok (.iinc 2 1, 3) := dk_132 2 1 (dk_at dksX3_tell_4 19 rfl rfl)
theorem dX3_tell_116 : decode cX3_tell 116 = .ok (.goto (-84), 3) := dk_167 255 172 (dk_at dksX3_tell_5 0 rfl rfl)
theorem dX3_tell_119 : decode cX3_tell 119 = .ok (.aload_n 0, 1) := dk_42 (dk_at dksX3_tell_5 3 rfl rfl)
theorem dX3_tell_120 : decode cX3_tell 120 = .ok (.getfield 322, 3) := dk_180 1 66 (dk_at dksX3_tell_5 4 rfl rfl)
theorem dX3_tell_123 : decode cX3_tell 123 = .ok (.ireturn, 1) := dk_172 (dk_at dksX3_tell_5 7 rfl rfl)
abbrev cX3_sign : ByteArray := prog_21_method_90_code
def yX3_sign : MethodName := ⟨RX3, "sign", "(I)V"⟩
def dkwX3_sign_0 : List UInt8 := [42, 180, 0, 66, 42, 180, 1, 66, 27, 79, 42, 89, 180, 1, 66, 4, 96, 181, 1, 66, 177]
abbrev dktX3_sign_0 : List UInt8 := dkwX3_sign_0 ++ []
theorem dksX3_sign_0 : cX3_sign.data.toList.drop 0 = dktX3_sign_0 := by decide +kernel
theorem dX3_sign_0 : decode cX3_sign 0 = .ok (.aload_n 0, 1) := dk_42 (dk_at dksX3_sign_0 0 rfl rfl)
theorem dX3_sign_1 : decode cX3_sign 1 = .ok (.getfield 66, 3) := dk_180 0 66 (dk_at dksX3_sign_0 1 rfl rfl)
theorem dX3_sign_4 : decode cX3_sign 4 = .ok (.aload_n 0, 1) := dk_42 (dk_at dksX3_sign_0 4 rfl rfl)
theorem dX3_sign_5 : decode cX3_sign 5 = .ok (.getfield 322, 3) := dk_180 1 66 (dk_at dksX3_sign_0 5 rfl rfl)
theorem dX3_sign_8 : decode cX3_sign 8 = .ok (.iload_n 1, 1) := dk_27 (dk_at dksX3_sign_0 8 rfl rfl)
theorem dX3_sign_9 : decode cX3_sign 9 = .ok (.iastore, 1) := dk_79 (dk_at dksX3_sign_0 9 rfl rfl)
theorem dX3_sign_10 : decode cX3_sign 10 = .ok (.aload_n 0, 1) := dk_42 (dk_at dksX3_sign_0 10 rfl rfl)
theorem dX3_sign_11 : decode cX3_sign 11 = .ok (.dup, 1) := dk_89 (dk_at dksX3_sign_0 11 rfl rfl)
theorem dX3_sign_12 : decode cX3_sign 12 = .ok (.getfield 322, 3) := dk_180 1 66 (dk_at dksX3_sign_0 12 rfl rfl)
theorem dX3_sign_15 : decode cX3_sign 15 = .ok (.iconst 1, 1) := dk_4 (dk_at dksX3_sign_0 15 rfl rfl)
theorem dX3_sign_16 : decode cX3_sign 16 = .ok (.iadd, 1) := dk_96 (dk_at dksX3_sign_0 16 rfl rfl)
theorem dX3_sign_17 : decode cX3_sign 17 = .ok (.putfield 322, 3) := dk_181 1 66 (dk_at dksX3_sign_0 17 rfl rfl)
theorem dX3_sign_20 : decode cX3_sign 20 = .ok (.return_, 1) := dk_177 (dk_at dksX3_sign_0 20 rfl rfl)
abbrev cX3_writesNumber : ByteArray := prog_21_method_91_code
def yX3_writesNumber : MethodName := ⟨RX3, "writesNumber", "(I)V"⟩
def dkwX3_writesNumber_1 : List UInt8 := [42, 16, 48, 27, 29, 108, 16, 10, 112, 96, 182, 1, 69, 29, 16, 10, 108, 62, 167, 255, 234, 177]
abbrev dktX3_writesNumber_1 : List UInt8 := dkwX3_writesNumber_1 ++ []
def dkwX3_writesNumber_0 : List UInt8 := [4, 61, 27, 28, 108, 16, 9, 164, 0, 11, 28, 16, 10, 104, 61, 167, 255, 243, 28, 62, 29, 158, 0, 24]
abbrev dktX3_writesNumber_0 : List UInt8 := dkwX3_writesNumber_0 ++ dktX3_writesNumber_1
theorem dksX3_writesNumber_0 : cX3_writesNumber.data.toList.drop 0 = dktX3_writesNumber_0 := by decide +kernel
theorem dksX3_writesNumber_1 : cX3_writesNumber.data.toList.drop 24 = dktX3_writesNumber_1 := dk_seg dksX3_writesNumber_0 24 rfl rfl
theorem dX3_writesNumber_0 : decode cX3_writesNumber 0 = .ok (.iconst 1, 1) := dk_4 (dk_at dksX3_writesNumber_0 0 rfl rfl)
theorem dX3_writesNumber_1 : decode cX3_writesNumber 1 = .ok (.istore_n 2, 1) := dk_61 (dk_at dksX3_writesNumber_0 1 rfl rfl)
theorem dX3_writesNumber_2 : decode cX3_writesNumber 2 = .ok (.iload_n 1, 1) := dk_27 (dk_at dksX3_writesNumber_0 2 rfl rfl)
theorem dX3_writesNumber_3 : decode cX3_writesNumber 3 = .ok (.iload_n 2, 1) := dk_28 (dk_at dksX3_writesNumber_0 3 rfl rfl)
theorem dX3_writesNumber_4 : decode cX3_writesNumber 4 = .ok (.idiv, 1) := dk_108 (dk_at dksX3_writesNumber_0 4 rfl rfl)
theorem dX3_writesNumber_5 : decode cX3_writesNumber 5 = .ok (.bipush 9, 2) := dk_16 9 (dk_at dksX3_writesNumber_0 5 rfl rfl)
theorem dX3_writesNumber_7 : decode cX3_writesNumber 7 = .ok (.if_icmp .le 11, 3) := dk_164 0 11 (dk_at dksX3_writesNumber_0 7 rfl rfl)
theorem dX3_writesNumber_10 : decode cX3_writesNumber 10 = .ok (.iload_n 2, 1) := dk_28 (dk_at dksX3_writesNumber_0 10 rfl rfl)
theorem dX3_writesNumber_11 : decode cX3_writesNumber 11 = .ok (.bipush 10, 2) := dk_16 10 (dk_at dksX3_writesNumber_0 11 rfl rfl)
theorem dX3_writesNumber_13 : decode cX3_writesNumber 13 = .ok (.imul, 1) := dk_104 (dk_at dksX3_writesNumber_0 13 rfl rfl)
theorem dX3_writesNumber_14 : decode cX3_writesNumber 14 = .ok (.istore_n 2, 1) := dk_61 (dk_at dksX3_writesNumber_0 14 rfl rfl)
theorem dX3_writesNumber_15 : decode cX3_writesNumber 15 = .ok (.goto (-13), 3) := dk_167 255 243 (dk_at dksX3_writesNumber_0 15 rfl rfl)
theorem dX3_writesNumber_18 : decode cX3_writesNumber 18 = .ok (.iload_n 2, 1) := dk_28 (dk_at dksX3_writesNumber_0 18 rfl rfl)
theorem dX3_writesNumber_19 : decode cX3_writesNumber 19 = .ok (.istore_n 3, 1) := dk_62 (dk_at dksX3_writesNumber_0 19 rfl rfl)
theorem dX3_writesNumber_20 : decode cX3_writesNumber 20 = .ok (.iload_n 3, 1) := dk_29 (dk_at dksX3_writesNumber_0 20 rfl rfl)
theorem dX3_writesNumber_21 : decode cX3_writesNumber 21 = .ok (.ifCond .le 24, 3) := dk_158 0 24 (dk_at dksX3_writesNumber_0 21 rfl rfl)
theorem dX3_writesNumber_24 : decode cX3_writesNumber 24 = .ok (.aload_n 0, 1) := dk_42 (dk_at dksX3_writesNumber_1 0 rfl rfl)
theorem dX3_writesNumber_25 : decode cX3_writesNumber 25 = .ok (.bipush 48, 2) := dk_16 48 (dk_at dksX3_writesNumber_1 1 rfl rfl)
theorem dX3_writesNumber_27 : decode cX3_writesNumber 27 = .ok (.iload_n 1, 1) := dk_27 (dk_at dksX3_writesNumber_1 3 rfl rfl)
theorem dX3_writesNumber_28 : decode cX3_writesNumber 28 = .ok (.iload_n 3, 1) := dk_29 (dk_at dksX3_writesNumber_1 4 rfl rfl)
theorem dX3_writesNumber_29 : decode cX3_writesNumber 29 = .ok (.idiv, 1) := dk_108 (dk_at dksX3_writesNumber_1 5 rfl rfl)
theorem dX3_writesNumber_30 : decode cX3_writesNumber 30 = .ok (.bipush 10, 2) := dk_16 10 (dk_at dksX3_writesNumber_1 6 rfl rfl)
theorem dX3_writesNumber_32 : decode cX3_writesNumber 32 = .ok (.irem, 1) := dk_112 (dk_at dksX3_writesNumber_1 8 rfl rfl)
theorem dX3_writesNumber_33 : decode cX3_writesNumber 33 = .ok (.iadd, 1) := dk_96 (dk_at dksX3_writesNumber_1 9 rfl rfl)
theorem dX3_writesNumber_34 : decode cX3_writesNumber 34 = .ok (.invokevirtual 325, 3) := dk_182 1 69 (dk_at dksX3_writesNumber_1 10 rfl rfl)
theorem dX3_writesNumber_37 : decode cX3_writesNumber 37 = .ok (.iload_n 3, 1) := dk_29 (dk_at dksX3_writesNumber_1 13 rfl rfl)
theorem dX3_writesNumber_38 : decode cX3_writesNumber 38 = .ok (.bipush 10, 2) := dk_16 10 (dk_at dksX3_writesNumber_1 14 rfl rfl)
theorem dX3_writesNumber_40 : decode cX3_writesNumber 40 = .ok (.idiv, 1) := dk_108 (dk_at dksX3_writesNumber_1 16 rfl rfl)
theorem dX3_writesNumber_41 : decode cX3_writesNumber 41 = .ok (.istore_n 3, 1) := dk_62 (dk_at dksX3_writesNumber_1 17 rfl rfl)
theorem dX3_writesNumber_42 : decode cX3_writesNumber 42 = .ok (.goto (-22), 3) := dk_167 255 234 (dk_at dksX3_writesNumber_1 18 rfl rfl)
theorem dX3_writesNumber_45 : decode cX3_writesNumber 45 = .ok (.return_, 1) := dk_177 (dk_at dksX3_writesNumber_1 21 rfl rfl)
abbrev cX3_writesEvent : ByteArray := prog_21_method_92_code
def yX3_writesEvent : MethodName := ⟨RX3, "writesEvent", "(III)V"⟩
def dkwX3_writesEvent_1 : List UInt8 := [182, 1, 69, 42, 42, 27, 28, 29, 182, 0, 163, 182, 1, 72, 177]
abbrev dktX3_writesEvent_1 : List UInt8 := dkwX3_writesEvent_1 ++ []
def dkwX3_writesEvent_0 : List UInt8 := [42, 42, 27, 28, 29, 182, 0, 173, 182, 1, 72, 42, 27, 28, 29, 182, 0, 163, 158, 0, 20, 42, 16, 43]
abbrev dktX3_writesEvent_0 : List UInt8 := dkwX3_writesEvent_0 ++ dktX3_writesEvent_1
theorem dksX3_writesEvent_0 : cX3_writesEvent.data.toList.drop 0 = dktX3_writesEvent_0 := by decide +kernel
theorem dksX3_writesEvent_1 : cX3_writesEvent.data.toList.drop 24 = dktX3_writesEvent_1 := dk_seg dksX3_writesEvent_0 24 rfl rfl
theorem dX3_writesEvent_0 : decode cX3_writesEvent 0 = .ok (.aload_n 0, 1) := dk_42 (dk_at dksX3_writesEvent_0 0 rfl rfl)
theorem dX3_writesEvent_1 : decode cX3_writesEvent 1 = .ok (.aload_n 0, 1) := dk_42 (dk_at dksX3_writesEvent_0 1 rfl rfl)
theorem dX3_writesEvent_2 : decode cX3_writesEvent 2 = .ok (.iload_n 1, 1) := dk_27 (dk_at dksX3_writesEvent_0 2 rfl rfl)
theorem dX3_writesEvent_3 : decode cX3_writesEvent 3 = .ok (.iload_n 2, 1) := dk_28 (dk_at dksX3_writesEvent_0 3 rfl rfl)
theorem dX3_writesEvent_4 : decode cX3_writesEvent 4 = .ok (.iload_n 3, 1) := dk_29 (dk_at dksX3_writesEvent_0 4 rfl rfl)
theorem dX3_writesEvent_5 : decode cX3_writesEvent 5 = .ok (.invokevirtual 173, 3) := dk_182 0 173 (dk_at dksX3_writesEvent_0 5 rfl rfl)
theorem dX3_writesEvent_8 : decode cX3_writesEvent 8 = .ok (.invokevirtual 328, 3) := dk_182 1 72 (dk_at dksX3_writesEvent_0 8 rfl rfl)
theorem dX3_writesEvent_11 : decode cX3_writesEvent 11 = .ok (.aload_n 0, 1) := dk_42 (dk_at dksX3_writesEvent_0 11 rfl rfl)
theorem dX3_writesEvent_12 : decode cX3_writesEvent 12 = .ok (.iload_n 1, 1) := dk_27 (dk_at dksX3_writesEvent_0 12 rfl rfl)
theorem dX3_writesEvent_13 : decode cX3_writesEvent 13 = .ok (.iload_n 2, 1) := dk_28 (dk_at dksX3_writesEvent_0 13 rfl rfl)
theorem dX3_writesEvent_14 : decode cX3_writesEvent 14 = .ok (.iload_n 3, 1) := dk_29 (dk_at dksX3_writesEvent_0 14 rfl rfl)
theorem dX3_writesEvent_15 : decode cX3_writesEvent 15 = .ok (.invokevirtual 163, 3) := dk_182 0 163 (dk_at dksX3_writesEvent_0 15 rfl rfl)
theorem dX3_writesEvent_18 : decode cX3_writesEvent 18 = .ok (.ifCond .le 20, 3) := dk_158 0 20 (dk_at dksX3_writesEvent_0 18 rfl rfl)
theorem dX3_writesEvent_21 : decode cX3_writesEvent 21 = .ok (.aload_n 0, 1) := dk_42 (dk_at dksX3_writesEvent_0 21 rfl rfl)
theorem dX3_writesEvent_22 : decode cX3_writesEvent 22 = .ok (.bipush 43, 2) := dk_16 43 (dk_at dksX3_writesEvent_0 22 rfl rfl)
theorem dX3_writesEvent_24 : decode cX3_writesEvent 24 = .ok (.invokevirtual 325, 3) := dk_182 1 69 (dk_at dksX3_writesEvent_1 0 rfl rfl)
theorem dX3_writesEvent_27 : decode cX3_writesEvent 27 = .ok (.aload_n 0, 1) := dk_42 (dk_at dksX3_writesEvent_1 3 rfl rfl)
theorem dX3_writesEvent_28 : decode cX3_writesEvent 28 = .ok (.aload_n 0, 1) := dk_42 (dk_at dksX3_writesEvent_1 4 rfl rfl)
theorem dX3_writesEvent_29 : decode cX3_writesEvent 29 = .ok (.iload_n 1, 1) := dk_27 (dk_at dksX3_writesEvent_1 5 rfl rfl)
theorem dX3_writesEvent_30 : decode cX3_writesEvent 30 = .ok (.iload_n 2, 1) := dk_28 (dk_at dksX3_writesEvent_1 6 rfl rfl)
theorem dX3_writesEvent_31 : decode cX3_writesEvent 31 = .ok (.iload_n 3, 1) := dk_29 (dk_at dksX3_writesEvent_1 7 rfl rfl)
theorem dX3_writesEvent_32 : decode cX3_writesEvent 32 = .ok (.invokevirtual 163, 3) := dk_182 0 163 (dk_at dksX3_writesEvent_1 8 rfl rfl)
theorem dX3_writesEvent_35 : decode cX3_writesEvent 35 = .ok (.invokevirtual 328, 3) := dk_182 1 72 (dk_at dksX3_writesEvent_1 11 rfl rfl)
theorem dX3_writesEvent_38 : decode cX3_writesEvent 38 = .ok (.return_, 1) := dk_177 (dk_at dksX3_writesEvent_1 14 rfl rfl)
abbrev cX3_tellLinks : ByteArray := prog_21_method_94_code
def yX3_tellLinks : MethodName := ⟨RX3, "tellLinks", "()I"⟩
def dkwX3_tellLinks_6 : List UInt8 := [182, 0, 247, 182, 1, 72, 132, 1, 1, 167, 255, 124, 42, 180, 1, 66, 172]
abbrev dktX3_tellLinks_6 : List UInt8 := dkwX3_tellLinks_6 ++ []
def dkwX3_tellLinks_5 : List UInt8 := [182, 1, 69, 167, 0, 26, 42, 27, 182, 0, 247, 158, 0, 18, 42, 16, 119, 182, 1, 69, 42, 42, 27]
abbrev dktX3_tellLinks_5 : List UInt8 := dkwX3_tellLinks_5 ++ dktX3_tellLinks_6
def dkwX3_tellLinks_4 : List UInt8 := [42, 180, 0, 9, 28, 6, 96, 46, 182, 1, 72, 42, 27, 182, 0, 220, 154, 0, 12, 42, 16, 33]
abbrev dktX3_tellLinks_4 : List UInt8 := dkwX3_tellLinks_4 ++ dktX3_tellLinks_5
def dkwX3_tellLinks_3 : List UInt8 := [16, 62, 182, 1, 69, 42, 42, 180, 0, 9, 28, 5, 96, 46, 182, 1, 72, 42, 16, 46, 182, 1, 69, 42]
abbrev dktX3_tellLinks_3 : List UInt8 := dkwX3_tellLinks_3 ++ dktX3_tellLinks_4
def dkwX3_tellLinks_2 : List UInt8 := [28, 46, 182, 1, 72, 42, 16, 46, 182, 1, 69, 42, 42, 180, 0, 9, 28, 4, 96, 46, 182, 1, 72, 42]
abbrev dktX3_tellLinks_2 : List UInt8 := dkwX3_tellLinks_2 ++ dktX3_tellLinks_3
def dkwX3_tellLinks_1 : List UInt8 := [46, 162, 0, 128, 27, 184, 0, 141, 61, 27, 158, 0, 9, 42, 16, 32, 182, 1, 69, 42, 42, 180, 0, 9]
abbrev dktX3_tellLinks_1 : List UInt8 := dkwX3_tellLinks_1 ++ dktX3_tellLinks_2
def dkwX3_tellLinks_0 : List UInt8 := [42, 3, 181, 0, 69, 42, 2, 2, 182, 0, 159, 42, 3, 181, 1, 66, 3, 60, 27, 42, 180, 0, 9, 4]
abbrev dktX3_tellLinks_0 : List UInt8 := dkwX3_tellLinks_0 ++ dktX3_tellLinks_1
theorem dksX3_tellLinks_0 : cX3_tellLinks.data.toList.drop 0 = dktX3_tellLinks_0 := by decide +kernel
theorem dksX3_tellLinks_1 : cX3_tellLinks.data.toList.drop 24 = dktX3_tellLinks_1 := dk_seg dksX3_tellLinks_0 24 rfl rfl
theorem dksX3_tellLinks_2 : cX3_tellLinks.data.toList.drop 48 = dktX3_tellLinks_2 := dk_seg dksX3_tellLinks_1 24 rfl rfl
theorem dksX3_tellLinks_3 : cX3_tellLinks.data.toList.drop 72 = dktX3_tellLinks_3 := dk_seg dksX3_tellLinks_2 24 rfl rfl
theorem dksX3_tellLinks_4 : cX3_tellLinks.data.toList.drop 96 = dktX3_tellLinks_4 := dk_seg dksX3_tellLinks_3 24 rfl rfl
theorem dksX3_tellLinks_5 : cX3_tellLinks.data.toList.drop 118 = dktX3_tellLinks_5 := dk_seg dksX3_tellLinks_4 22 rfl rfl
theorem dksX3_tellLinks_6 : cX3_tellLinks.data.toList.drop 141 = dktX3_tellLinks_6 := dk_seg dksX3_tellLinks_5 23 rfl rfl
theorem dX3_tellLinks_0 : decode cX3_tellLinks 0 = .ok (.aload_n 0, 1) := dk_42 (dk_at dksX3_tellLinks_0 0 rfl rfl)
theorem dX3_tellLinks_1 : decode cX3_tellLinks 1 = .ok (.iconst 0, 1) := dk_3 (dk_at dksX3_tellLinks_0 1 rfl rfl)
theorem dX3_tellLinks_2 : decode cX3_tellLinks 2 = .ok (.putfield 69, 3) := dk_181 0 69 (dk_at dksX3_tellLinks_0 2 rfl rfl)
theorem dX3_tellLinks_5 : decode cX3_tellLinks 5 = .ok (.aload_n 0, 1) := dk_42 (dk_at dksX3_tellLinks_0 5 rfl rfl)
theorem dX3_tellLinks_6 : decode cX3_tellLinks 6 = .ok (.iconst (-1), 1) := dk_2 (dk_at dksX3_tellLinks_0 6 rfl rfl)
theorem dX3_tellLinks_7 : decode cX3_tellLinks 7 = .ok (.iconst (-1), 1) := dk_2 (dk_at dksX3_tellLinks_0 7 rfl rfl)
theorem dX3_tellLinks_8 : decode cX3_tellLinks 8 = .ok (.invokevirtual 159, 3) := dk_182 0 159 (dk_at dksX3_tellLinks_0 8 rfl rfl)
theorem dX3_tellLinks_11 : decode cX3_tellLinks 11 = .ok (.aload_n 0, 1) := dk_42 (dk_at dksX3_tellLinks_0 11 rfl rfl)
theorem dX3_tellLinks_12 : decode cX3_tellLinks 12 = .ok (.iconst 0, 1) := dk_3 (dk_at dksX3_tellLinks_0 12 rfl rfl)
theorem dX3_tellLinks_13 : decode cX3_tellLinks 13 = .ok (.putfield 322, 3) := dk_181 1 66 (dk_at dksX3_tellLinks_0 13 rfl rfl)
theorem dX3_tellLinks_16 : decode cX3_tellLinks 16 = .ok (.iconst 0, 1) := dk_3 (dk_at dksX3_tellLinks_0 16 rfl rfl)
theorem dX3_tellLinks_17 : decode cX3_tellLinks 17 = .ok (.istore_n 1, 1) := dk_60 (dk_at dksX3_tellLinks_0 17 rfl rfl)
theorem dX3_tellLinks_18 : decode cX3_tellLinks 18 = .ok (.iload_n 1, 1) := dk_27 (dk_at dksX3_tellLinks_0 18 rfl rfl)
theorem dX3_tellLinks_19 : decode cX3_tellLinks 19 = .ok (.aload_n 0, 1) := dk_42 (dk_at dksX3_tellLinks_0 19 rfl rfl)
theorem dX3_tellLinks_20 : decode cX3_tellLinks 20 = .ok (.getfield 9, 3) := dk_180 0 9 (dk_at dksX3_tellLinks_0 20 rfl rfl)
theorem dX3_tellLinks_23 : decode cX3_tellLinks 23 = .ok (.iconst 1, 1) := dk_4 (dk_at dksX3_tellLinks_0 23 rfl rfl)
theorem dX3_tellLinks_24 : decode cX3_tellLinks 24 = .ok (.iaload, 1) := dk_46 (dk_at dksX3_tellLinks_1 0 rfl rfl)
theorem dX3_tellLinks_25 : decode cX3_tellLinks 25 = .ok (.if_icmp .ge 128, 3) := dk_162 0 128 (dk_at dksX3_tellLinks_1 1 rfl rfl)
theorem dX3_tellLinks_28 : decode cX3_tellLinks 28 = .ok (.iload_n 1, 1) := dk_27 (dk_at dksX3_tellLinks_1 4 rfl rfl)
theorem dX3_tellLinks_29 : decode cX3_tellLinks 29 = .ok (.invokestatic 141, 3) := dk_184 0 141 (dk_at dksX3_tellLinks_1 5 rfl rfl)
theorem dX3_tellLinks_32 : decode cX3_tellLinks 32 = .ok (.istore_n 2, 1) := dk_61 (dk_at dksX3_tellLinks_1 8 rfl rfl)
theorem dX3_tellLinks_33 : decode cX3_tellLinks 33 = .ok (.iload_n 1, 1) := dk_27 (dk_at dksX3_tellLinks_1 9 rfl rfl)
theorem dX3_tellLinks_34 : decode cX3_tellLinks 34 = .ok (.ifCond .le 9, 3) := dk_158 0 9 (dk_at dksX3_tellLinks_1 10 rfl rfl)
theorem dX3_tellLinks_37 : decode cX3_tellLinks 37 = .ok (.aload_n 0, 1) := dk_42 (dk_at dksX3_tellLinks_1 13 rfl rfl)
theorem dX3_tellLinks_38 : decode cX3_tellLinks 38 = .ok (.bipush 32, 2) := dk_16 32 (dk_at dksX3_tellLinks_1 14 rfl rfl)
theorem dX3_tellLinks_40 : decode cX3_tellLinks 40 = .ok (.invokevirtual 325, 3) := dk_182 1 69 (dk_at dksX3_tellLinks_1 16 rfl rfl)
theorem dX3_tellLinks_43 : decode cX3_tellLinks 43 = .ok (.aload_n 0, 1) := dk_42 (dk_at dksX3_tellLinks_1 19 rfl rfl)
theorem dX3_tellLinks_44 : decode cX3_tellLinks 44 = .ok (.aload_n 0, 1) := dk_42 (dk_at dksX3_tellLinks_1 20 rfl rfl)
theorem dX3_tellLinks_45 : decode cX3_tellLinks 45 = .ok (.getfield 9, 3) := dk_180 0 9 (dk_at dksX3_tellLinks_1 21 rfl rfl)
theorem dX3_tellLinks_48 : decode cX3_tellLinks 48 = .ok (.iload_n 2, 1) := dk_28 (dk_at dksX3_tellLinks_2 0 rfl rfl)
theorem dX3_tellLinks_49 : decode cX3_tellLinks 49 = .ok (.iaload, 1) := dk_46 (dk_at dksX3_tellLinks_2 1 rfl rfl)
theorem dX3_tellLinks_50 : decode cX3_tellLinks 50 = .ok (.invokevirtual 328, 3) := dk_182 1 72 (dk_at dksX3_tellLinks_2 2 rfl rfl)
theorem dX3_tellLinks_53 : decode cX3_tellLinks 53 = .ok (.aload_n 0, 1) := dk_42 (dk_at dksX3_tellLinks_2 5 rfl rfl)
theorem dX3_tellLinks_54 : decode cX3_tellLinks 54 = .ok (.bipush 46, 2) := dk_16 46 (dk_at dksX3_tellLinks_2 6 rfl rfl)
theorem dX3_tellLinks_56 : decode cX3_tellLinks 56 = .ok (.invokevirtual 325, 3) := dk_182 1 69 (dk_at dksX3_tellLinks_2 8 rfl rfl)
theorem dX3_tellLinks_59 : decode cX3_tellLinks 59 = .ok (.aload_n 0, 1) := dk_42 (dk_at dksX3_tellLinks_2 11 rfl rfl)
theorem dX3_tellLinks_60 : decode cX3_tellLinks 60 = .ok (.aload_n 0, 1) := dk_42 (dk_at dksX3_tellLinks_2 12 rfl rfl)
theorem dX3_tellLinks_61 : decode cX3_tellLinks 61 = .ok (.getfield 9, 3) := dk_180 0 9 (dk_at dksX3_tellLinks_2 13 rfl rfl)
theorem dX3_tellLinks_64 : decode cX3_tellLinks 64 = .ok (.iload_n 2, 1) := dk_28 (dk_at dksX3_tellLinks_2 16 rfl rfl)
theorem dX3_tellLinks_65 : decode cX3_tellLinks 65 = .ok (.iconst 1, 1) := dk_4 (dk_at dksX3_tellLinks_2 17 rfl rfl)
theorem dX3_tellLinks_66 : decode cX3_tellLinks 66 = .ok (.iadd, 1) := dk_96 (dk_at dksX3_tellLinks_2 18 rfl rfl)
theorem dX3_tellLinks_67 : decode cX3_tellLinks 67 = .ok (.iaload, 1) := dk_46 (dk_at dksX3_tellLinks_2 19 rfl rfl)
theorem dX3_tellLinks_68 : decode cX3_tellLinks 68 = .ok (.invokevirtual 328, 3) := dk_182 1 72 (dk_at dksX3_tellLinks_2 20 rfl rfl)
theorem dX3_tellLinks_71 : decode cX3_tellLinks 71 = .ok (.aload_n 0, 1) := dk_42 (dk_at dksX3_tellLinks_2 23 rfl rfl)
theorem dX3_tellLinks_72 : decode cX3_tellLinks 72 = .ok (.bipush 62, 2) := dk_16 62 (dk_at dksX3_tellLinks_3 0 rfl rfl)
theorem dX3_tellLinks_74 : decode cX3_tellLinks 74 = .ok (.invokevirtual 325, 3) := dk_182 1 69 (dk_at dksX3_tellLinks_3 2 rfl rfl)
theorem dX3_tellLinks_77 : decode cX3_tellLinks 77 = .ok (.aload_n 0, 1) := dk_42 (dk_at dksX3_tellLinks_3 5 rfl rfl)
theorem dX3_tellLinks_78 : decode cX3_tellLinks 78 = .ok (.aload_n 0, 1) := dk_42 (dk_at dksX3_tellLinks_3 6 rfl rfl)
theorem dX3_tellLinks_79 : decode cX3_tellLinks 79 = .ok (.getfield 9, 3) := dk_180 0 9 (dk_at dksX3_tellLinks_3 7 rfl rfl)
theorem dX3_tellLinks_82 : decode cX3_tellLinks 82 = .ok (.iload_n 2, 1) := dk_28 (dk_at dksX3_tellLinks_3 10 rfl rfl)
theorem dX3_tellLinks_83 : decode cX3_tellLinks 83 = .ok (.iconst 2, 1) := dk_5 (dk_at dksX3_tellLinks_3 11 rfl rfl)
theorem dX3_tellLinks_84 : decode cX3_tellLinks 84 = .ok (.iadd, 1) := dk_96 (dk_at dksX3_tellLinks_3 12 rfl rfl)
theorem dX3_tellLinks_85 : decode cX3_tellLinks 85 = .ok (.iaload, 1) := dk_46 (dk_at dksX3_tellLinks_3 13 rfl rfl)
theorem dX3_tellLinks_86 : decode cX3_tellLinks 86 = .ok (.invokevirtual 328, 3) := dk_182 1 72 (dk_at dksX3_tellLinks_3 14 rfl rfl)
theorem dX3_tellLinks_89 : decode cX3_tellLinks 89 = .ok (.aload_n 0, 1) := dk_42 (dk_at dksX3_tellLinks_3 17 rfl rfl)
theorem dX3_tellLinks_90 : decode cX3_tellLinks 90 = .ok (.bipush 46, 2) := dk_16 46 (dk_at dksX3_tellLinks_3 18 rfl rfl)
theorem dX3_tellLinks_92 : decode cX3_tellLinks 92 = .ok (.invokevirtual 325, 3) := dk_182 1 69 (dk_at dksX3_tellLinks_3 20 rfl rfl)
theorem dX3_tellLinks_95 : decode cX3_tellLinks 95 = .ok (.aload_n 0, 1) := dk_42 (dk_at dksX3_tellLinks_3 23 rfl rfl)
theorem dX3_tellLinks_96 : decode cX3_tellLinks 96 = .ok (.aload_n 0, 1) := dk_42 (dk_at dksX3_tellLinks_4 0 rfl rfl)
theorem dX3_tellLinks_97 : decode cX3_tellLinks 97 = .ok (.getfield 9, 3) := dk_180 0 9 (dk_at dksX3_tellLinks_4 1 rfl rfl)
theorem dX3_tellLinks_100 : decode cX3_tellLinks 100 = .ok (.iload_n 2, 1) := dk_28 (dk_at dksX3_tellLinks_4 4 rfl rfl)
theorem dX3_tellLinks_101 : decode cX3_tellLinks 101 = .ok (.iconst 3, 1) := dk_6 (dk_at dksX3_tellLinks_4 5 rfl rfl)
theorem dX3_tellLinks_102 : decode cX3_tellLinks 102 = .ok (.iadd, 1) := dk_96 (dk_at dksX3_tellLinks_4 6 rfl rfl)
theorem dX3_tellLinks_103 : decode cX3_tellLinks 103 = .ok (.iaload, 1) := dk_46 (dk_at dksX3_tellLinks_4 7 rfl rfl)
theorem dX3_tellLinks_104 : decode cX3_tellLinks 104 = .ok (.invokevirtual 328, 3) := dk_182 1 72 (dk_at dksX3_tellLinks_4 8 rfl rfl)
theorem dX3_tellLinks_107 : decode cX3_tellLinks 107 = .ok (.aload_n 0, 1) := dk_42 (dk_at dksX3_tellLinks_4 11 rfl rfl)
theorem dX3_tellLinks_108 : decode cX3_tellLinks 108 = .ok (.iload_n 1, 1) := dk_27 (dk_at dksX3_tellLinks_4 12 rfl rfl)
theorem dX3_tellLinks_109 : decode cX3_tellLinks 109 = .ok (.invokevirtual 220, 3) := dk_182 0 220 (dk_at dksX3_tellLinks_4 13 rfl rfl)
theorem dX3_tellLinks_112 : decode cX3_tellLinks 112 = .ok (.ifCond .ne 12, 3) := dk_154 0 12 (dk_at dksX3_tellLinks_4 16 rfl rfl)
theorem dX3_tellLinks_115 : decode cX3_tellLinks 115 = .ok (.aload_n 0, 1) := dk_42 (dk_at dksX3_tellLinks_4 19 rfl rfl)
theorem dX3_tellLinks_116 : decode cX3_tellLinks 116 = .ok (.bipush 33, 2) := dk_16 33 (dk_at dksX3_tellLinks_4 20 rfl rfl)
theorem dX3_tellLinks_118 : decode cX3_tellLinks 118 = .ok (.invokevirtual 325, 3) := dk_182 1 69 (dk_at dksX3_tellLinks_5 0 rfl rfl)
theorem dX3_tellLinks_121 : decode cX3_tellLinks 121 = .ok (.goto 26, 3) := dk_167 0 26 (dk_at dksX3_tellLinks_5 3 rfl rfl)
theorem dX3_tellLinks_124 : decode cX3_tellLinks 124 = .ok (.aload_n 0, 1) := dk_42 (dk_at dksX3_tellLinks_5 6 rfl rfl)
theorem dX3_tellLinks_125 : decode cX3_tellLinks 125 = .ok (.iload_n 1, 1) := dk_27 (dk_at dksX3_tellLinks_5 7 rfl rfl)
theorem dX3_tellLinks_126 : decode cX3_tellLinks 126 = .ok (.invokevirtual 247, 3) := dk_182 0 247 (dk_at dksX3_tellLinks_5 8 rfl rfl)
theorem dX3_tellLinks_129 : decode cX3_tellLinks 129 = .ok (.ifCond .le 18, 3) := dk_158 0 18 (dk_at dksX3_tellLinks_5 11 rfl rfl)
theorem dX3_tellLinks_132 : decode cX3_tellLinks 132 = .ok (.aload_n 0, 1) := dk_42 (dk_at dksX3_tellLinks_5 14 rfl rfl)
theorem dX3_tellLinks_133 : decode cX3_tellLinks 133 = .ok (.bipush 119, 2) := dk_16 119 (dk_at dksX3_tellLinks_5 15 rfl rfl)
theorem dX3_tellLinks_135 : decode cX3_tellLinks 135 = .ok (.invokevirtual 325, 3) := dk_182 1 69 (dk_at dksX3_tellLinks_5 17 rfl rfl)
theorem dX3_tellLinks_138 : decode cX3_tellLinks 138 = .ok (.aload_n 0, 1) := dk_42 (dk_at dksX3_tellLinks_5 20 rfl rfl)
theorem dX3_tellLinks_139 : decode cX3_tellLinks 139 = .ok (.aload_n 0, 1) := dk_42 (dk_at dksX3_tellLinks_5 21 rfl rfl)
theorem dX3_tellLinks_140 : decode cX3_tellLinks 140 = .ok (.iload_n 1, 1) := dk_27 (dk_at dksX3_tellLinks_5 22 rfl rfl)
theorem dX3_tellLinks_141 : decode cX3_tellLinks 141 = .ok (.invokevirtual 247, 3) := dk_182 0 247 (dk_at dksX3_tellLinks_6 0 rfl rfl)
theorem dX3_tellLinks_144 : decode cX3_tellLinks 144 = .ok (.invokevirtual 328, 3) := dk_182 1 72 (dk_at dksX3_tellLinks_6 3 rfl rfl)
theorem dX3_tellLinks_147 : decode cX3_tellLinks 147 = .ok (.iinc 1 1, 3) := dk_132 1 1 (dk_at dksX3_tellLinks_6 6 rfl rfl)
theorem dX3_tellLinks_150 : decode cX3_tellLinks 150 = .ok (.goto (-132), 3) := dk_167 255 124 (dk_at dksX3_tellLinks_6 9 rfl rfl)
theorem dX3_tellLinks_153 : decode cX3_tellLinks 153 = .ok (.aload_n 0, 1) := dk_42 (dk_at dksX3_tellLinks_6 12 rfl rfl)
theorem dX3_tellLinks_154 : decode cX3_tellLinks 154 = .ok (.getfield 322, 3) := dk_180 1 66 (dk_at dksX3_tellLinks_6 13 rfl rfl)
theorem dX3_tellLinks_157 : decode cX3_tellLinks 157 = .ok (.ireturn, 1) := dk_172 (dk_at dksX3_tellLinks_6 16 rfl rfl)
abbrev cX3_character : ByteArray := prog_21_method_95_code
def yX3_character : MethodName := ⟨RX3, "character", "(I)C"⟩
def dkwX3_character_1 : List UInt8 := [180, 0, 66, 27, 46, 146, 167, 0, 9, 42, 4, 182, 0, 81, 146, 172]
abbrev dktX3_character_1 : List UInt8 := dkwX3_character_1 ++ []
def dkwX3_character_0 : List UInt8 := [42, 3, 181, 0, 69, 27, 133, 9, 42, 180, 1, 66, 4, 100, 133, 184, 0, 88, 153, 0, 13, 42]
abbrev dktX3_character_0 : List UInt8 := dkwX3_character_0 ++ dktX3_character_1
theorem dksX3_character_0 : cX3_character.data.toList.drop 0 = dktX3_character_0 := by decide +kernel
theorem dksX3_character_1 : cX3_character.data.toList.drop 22 = dktX3_character_1 := dk_seg dksX3_character_0 22 rfl rfl
theorem dX3_character_0 : decode cX3_character 0 = .ok (.aload_n 0, 1) := dk_42 (dk_at dksX3_character_0 0 rfl rfl)
theorem dX3_character_1 : decode cX3_character 1 = .ok (.iconst 0, 1) := dk_3 (dk_at dksX3_character_0 1 rfl rfl)
theorem dX3_character_2 : decode cX3_character 2 = .ok (.putfield 69, 3) := dk_181 0 69 (dk_at dksX3_character_0 2 rfl rfl)
theorem dX3_character_5 : decode cX3_character 5 = .ok (.iload_n 1, 1) := dk_27 (dk_at dksX3_character_0 5 rfl rfl)
theorem dX3_character_6 : decode cX3_character 6 = .ok (.i2l, 1) := dk_133 (dk_at dksX3_character_0 6 rfl rfl)
theorem dX3_character_7 : decode cX3_character 7 = .ok (.lconst 0, 1) := dk_9 (dk_at dksX3_character_0 7 rfl rfl)
theorem dX3_character_8 : decode cX3_character 8 = .ok (.aload_n 0, 1) := dk_42 (dk_at dksX3_character_0 8 rfl rfl)
theorem dX3_character_9 : decode cX3_character 9 = .ok (.getfield 322, 3) := dk_180 1 66 (dk_at dksX3_character_0 9 rfl rfl)
theorem dX3_character_12 : decode cX3_character 12 = .ok (.iconst 1, 1) := dk_4 (dk_at dksX3_character_0 12 rfl rfl)
theorem dX3_character_13 : decode cX3_character 13 = .ok (.isub, 1) := dk_100 (dk_at dksX3_character_0 13 rfl rfl)
theorem dX3_character_14 : decode cX3_character 14 = .ok (.i2l, 1) := dk_133 (dk_at dksX3_character_0 14 rfl rfl)
theorem dX3_character_15 : decode cX3_character 15 = .ok (.invokestatic 88, 3) := dk_184 0 88 (dk_at dksX3_character_0 15 rfl rfl)
theorem dX3_character_18 : decode cX3_character 18 = .ok (.ifCond .eq 13, 3) := dk_153 0 13 (dk_at dksX3_character_0 18 rfl rfl)
theorem dX3_character_21 : decode cX3_character 21 = .ok (.aload_n 0, 1) := dk_42 (dk_at dksX3_character_0 21 rfl rfl)
theorem dX3_character_22 : decode cX3_character 22 = .ok (.getfield 66, 3) := dk_180 0 66 (dk_at dksX3_character_1 0 rfl rfl)
theorem dX3_character_25 : decode cX3_character 25 = .ok (.iload_n 1, 1) := dk_27 (dk_at dksX3_character_1 3 rfl rfl)
theorem dX3_character_26 : decode cX3_character 26 = .ok (.iaload, 1) := dk_46 (dk_at dksX3_character_1 4 rfl rfl)
theorem dX3_character_27 : decode cX3_character 27 = .ok (.i2c, 1) := dk_146 (dk_at dksX3_character_1 5 rfl rfl)
theorem dX3_character_28 : decode cX3_character 28 = .ok (.goto 9, 3) := dk_167 0 9 (dk_at dksX3_character_1 6 rfl rfl)
theorem dX3_character_31 : decode cX3_character 31 = .ok (.aload_n 0, 1) := dk_42 (dk_at dksX3_character_1 9 rfl rfl)
theorem dX3_character_32 : decode cX3_character 32 = .ok (.iconst 1, 1) := dk_4 (dk_at dksX3_character_1 10 rfl rfl)
theorem dX3_character_33 : decode cX3_character 33 = .ok (.invokevirtual 81, 3) := dk_182 0 81 (dk_at dksX3_character_1 11 rfl rfl)
theorem dX3_character_36 : decode cX3_character 36 = .ok (.i2c, 1) := dk_146 (dk_at dksX3_character_1 14 rfl rfl)
theorem dX3_character_37 : decode cX3_character 37 = .ok (.ireturn, 1) := dk_172 (dk_at dksX3_character_1 15 rfl rfl)
abbrev cX3_account : ByteArray := prog_21_method_99_code
def yX3_account : MethodName := ⟨RX3, "account", "(I)I"⟩
def dkwX3_account_5 : List UInt8 := [172, 42, 180, 0, 85, 172, 42, 4, 182, 0, 81, 172]
abbrev dktX3_account_5 : List UInt8 := dkwX3_account_5 ++ []
def dkwX3_account_4 : List UInt8 := [42, 5, 182, 1, 79, 172, 42, 180, 0, 9, 5, 46, 172, 42, 180, 0, 9, 6, 46, 172, 42, 180, 1, 12]
abbrev dktX3_account_4 : List UInt8 := dkwX3_account_4 ++ dktX3_account_5
def dkwX3_account_3 : List UInt8 := [4, 46, 42, 182, 1, 0, 100, 172, 42, 182, 1, 82, 172, 42, 4, 182, 1, 79, 172, 42, 182, 1, 85, 172]
abbrev dktX3_account_3 : List UInt8 := dkwX3_account_3 ++ dktX3_account_4
def dkwX3_account_2 : List UInt8 := [42, 180, 0, 9, 3, 46, 172, 42, 3, 182, 1, 79, 172, 42, 180, 0, 9, 4, 46, 172, 42, 180, 0, 9]
abbrev dktX3_account_2 : List UInt8 := dkwX3_account_2 ++ dktX3_account_3
def dkwX3_account_1 : List UInt8 := [170, 0, 0, 0, 0, 0, 0, 142, 0, 0, 0, 0, 0, 0, 0, 11, 0, 0, 0, 64, 0, 0, 0, 71, 0, 0, 0, 77, 0, 0, 0, 84, 0, 0, 0, 96, 0, 0, 0, 101, 0, 0, 0, 107, 0, 0, 0, 112, 0, 0, 0, 118, 0, 0, 0, 125, 0, 0, 0, 132, 0, 0, 0, 137]
abbrev dktX3_account_1 : List UInt8 := dkwX3_account_1 ++ dktX3_account_2
def dkwX3_account_0 : List UInt8 := [42, 3, 181, 0, 69, 42, 2, 2, 182, 0, 159, 27]
abbrev dktX3_account_0 : List UInt8 := dkwX3_account_0 ++ dktX3_account_1
theorem dksX3_account_0 : cX3_account.data.toList.drop 0 = dktX3_account_0 := by decide +kernel
theorem dksX3_account_1 : cX3_account.data.toList.drop 12 = dktX3_account_1 := dk_seg dksX3_account_0 12 rfl rfl
theorem dksX3_account_2 : cX3_account.data.toList.drop 76 = dktX3_account_2 := dk_seg dksX3_account_1 64 rfl rfl
theorem dksX3_account_3 : cX3_account.data.toList.drop 100 = dktX3_account_3 := dk_seg dksX3_account_2 24 rfl rfl
theorem dksX3_account_4 : cX3_account.data.toList.drop 124 = dktX3_account_4 := dk_seg dksX3_account_3 24 rfl rfl
theorem dksX3_account_5 : cX3_account.data.toList.drop 148 = dktX3_account_5 := dk_seg dksX3_account_4 24 rfl rfl
theorem dX3_account_0 : decode cX3_account 0 = .ok (.aload_n 0, 1) := dk_42 (dk_at dksX3_account_0 0 rfl rfl)
theorem dX3_account_1 : decode cX3_account 1 = .ok (.iconst 0, 1) := dk_3 (dk_at dksX3_account_0 1 rfl rfl)
theorem dX3_account_2 : decode cX3_account 2 = .ok (.putfield 69, 3) := dk_181 0 69 (dk_at dksX3_account_0 2 rfl rfl)
theorem dX3_account_5 : decode cX3_account 5 = .ok (.aload_n 0, 1) := dk_42 (dk_at dksX3_account_0 5 rfl rfl)
theorem dX3_account_6 : decode cX3_account 6 = .ok (.iconst (-1), 1) := dk_2 (dk_at dksX3_account_0 6 rfl rfl)
theorem dX3_account_7 : decode cX3_account 7 = .ok (.iconst (-1), 1) := dk_2 (dk_at dksX3_account_0 7 rfl rfl)
theorem dX3_account_8 : decode cX3_account 8 = .ok (.invokevirtual 159, 3) := dk_182 0 159 (dk_at dksX3_account_0 8 rfl rfl)
theorem dX3_account_11 : decode cX3_account 11 = .ok (.iload_n 1, 1) := dk_27 (dk_at dksX3_account_0 11 rfl rfl)
theorem dX3_account_12 : decode cX3_account 12 = .ok (.tableswitch 142 0 11 #[64, 71, 77, 84, 96, 101, 107, 112, 118, 125, 132, 137], 64) := by decide +kernel
theorem dX3_account_76 : decode cX3_account 76 = .ok (.aload_n 0, 1) := dk_42 (dk_at dksX3_account_2 0 rfl rfl)
theorem dX3_account_77 : decode cX3_account 77 = .ok (.getfield 9, 3) := dk_180 0 9 (dk_at dksX3_account_2 1 rfl rfl)
theorem dX3_account_80 : decode cX3_account 80 = .ok (.iconst 0, 1) := dk_3 (dk_at dksX3_account_2 4 rfl rfl)
theorem dX3_account_81 : decode cX3_account 81 = .ok (.iaload, 1) := dk_46 (dk_at dksX3_account_2 5 rfl rfl)
theorem dX3_account_82 : decode cX3_account 82 = .ok (.ireturn, 1) := dk_172 (dk_at dksX3_account_2 6 rfl rfl)
theorem dX3_account_83 : decode cX3_account 83 = .ok (.aload_n 0, 1) := dk_42 (dk_at dksX3_account_2 7 rfl rfl)
theorem dX3_account_84 : decode cX3_account 84 = .ok (.iconst 0, 1) := dk_3 (dk_at dksX3_account_2 8 rfl rfl)
theorem dX3_account_85 : decode cX3_account 85 = .ok (.invokevirtual 335, 3) := dk_182 1 79 (dk_at dksX3_account_2 9 rfl rfl)
theorem dX3_account_88 : decode cX3_account 88 = .ok (.ireturn, 1) := dk_172 (dk_at dksX3_account_2 12 rfl rfl)
theorem dX3_account_89 : decode cX3_account 89 = .ok (.aload_n 0, 1) := dk_42 (dk_at dksX3_account_2 13 rfl rfl)
theorem dX3_account_90 : decode cX3_account 90 = .ok (.getfield 9, 3) := dk_180 0 9 (dk_at dksX3_account_2 14 rfl rfl)
theorem dX3_account_93 : decode cX3_account 93 = .ok (.iconst 1, 1) := dk_4 (dk_at dksX3_account_2 17 rfl rfl)
theorem dX3_account_94 : decode cX3_account 94 = .ok (.iaload, 1) := dk_46 (dk_at dksX3_account_2 18 rfl rfl)
theorem dX3_account_95 : decode cX3_account 95 = .ok (.ireturn, 1) := dk_172 (dk_at dksX3_account_2 19 rfl rfl)
theorem dX3_account_96 : decode cX3_account 96 = .ok (.aload_n 0, 1) := dk_42 (dk_at dksX3_account_2 20 rfl rfl)
theorem dX3_account_97 : decode cX3_account 97 = .ok (.getfield 9, 3) := dk_180 0 9 (dk_at dksX3_account_2 21 rfl rfl)
theorem dX3_account_100 : decode cX3_account 100 = .ok (.iconst 1, 1) := dk_4 (dk_at dksX3_account_3 0 rfl rfl)
theorem dX3_account_101 : decode cX3_account 101 = .ok (.iaload, 1) := dk_46 (dk_at dksX3_account_3 1 rfl rfl)
theorem dX3_account_102 : decode cX3_account 102 = .ok (.aload_n 0, 1) := dk_42 (dk_at dksX3_account_3 2 rfl rfl)
theorem dX3_account_103 : decode cX3_account 103 = .ok (.invokevirtual 256, 3) := dk_182 1 0 (dk_at dksX3_account_3 3 rfl rfl)
theorem dX3_account_106 : decode cX3_account 106 = .ok (.isub, 1) := dk_100 (dk_at dksX3_account_3 6 rfl rfl)
theorem dX3_account_107 : decode cX3_account 107 = .ok (.ireturn, 1) := dk_172 (dk_at dksX3_account_3 7 rfl rfl)
theorem dX3_account_108 : decode cX3_account 108 = .ok (.aload_n 0, 1) := dk_42 (dk_at dksX3_account_3 8 rfl rfl)
theorem dX3_account_109 : decode cX3_account 109 = .ok (.invokevirtual 338, 3) := dk_182 1 82 (dk_at dksX3_account_3 9 rfl rfl)
theorem dX3_account_112 : decode cX3_account 112 = .ok (.ireturn, 1) := dk_172 (dk_at dksX3_account_3 12 rfl rfl)
theorem dX3_account_113 : decode cX3_account 113 = .ok (.aload_n 0, 1) := dk_42 (dk_at dksX3_account_3 13 rfl rfl)
theorem dX3_account_114 : decode cX3_account 114 = .ok (.iconst 1, 1) := dk_4 (dk_at dksX3_account_3 14 rfl rfl)
theorem dX3_account_115 : decode cX3_account 115 = .ok (.invokevirtual 335, 3) := dk_182 1 79 (dk_at dksX3_account_3 15 rfl rfl)
theorem dX3_account_118 : decode cX3_account 118 = .ok (.ireturn, 1) := dk_172 (dk_at dksX3_account_3 18 rfl rfl)
theorem dX3_account_119 : decode cX3_account 119 = .ok (.aload_n 0, 1) := dk_42 (dk_at dksX3_account_3 19 rfl rfl)
theorem dX3_account_120 : decode cX3_account 120 = .ok (.invokevirtual 341, 3) := dk_182 1 85 (dk_at dksX3_account_3 20 rfl rfl)
theorem dX3_account_123 : decode cX3_account 123 = .ok (.ireturn, 1) := dk_172 (dk_at dksX3_account_3 23 rfl rfl)
theorem dX3_account_124 : decode cX3_account 124 = .ok (.aload_n 0, 1) := dk_42 (dk_at dksX3_account_4 0 rfl rfl)
theorem dX3_account_125 : decode cX3_account 125 = .ok (.iconst 2, 1) := dk_5 (dk_at dksX3_account_4 1 rfl rfl)
theorem dX3_account_126 : decode cX3_account 126 = .ok (.invokevirtual 335, 3) := dk_182 1 79 (dk_at dksX3_account_4 2 rfl rfl)
theorem dX3_account_129 : decode cX3_account 129 = .ok (.ireturn, 1) := dk_172 (dk_at dksX3_account_4 5 rfl rfl)
theorem dX3_account_130 : decode cX3_account 130 = .ok (.aload_n 0, 1) := dk_42 (dk_at dksX3_account_4 6 rfl rfl)
theorem dX3_account_131 : decode cX3_account 131 = .ok (.getfield 9, 3) := dk_180 0 9 (dk_at dksX3_account_4 7 rfl rfl)
theorem dX3_account_134 : decode cX3_account 134 = .ok (.iconst 2, 1) := dk_5 (dk_at dksX3_account_4 10 rfl rfl)
theorem dX3_account_135 : decode cX3_account 135 = .ok (.iaload, 1) := dk_46 (dk_at dksX3_account_4 11 rfl rfl)
theorem dX3_account_136 : decode cX3_account 136 = .ok (.ireturn, 1) := dk_172 (dk_at dksX3_account_4 12 rfl rfl)
theorem dX3_account_137 : decode cX3_account 137 = .ok (.aload_n 0, 1) := dk_42 (dk_at dksX3_account_4 13 rfl rfl)
theorem dX3_account_138 : decode cX3_account 138 = .ok (.getfield 9, 3) := dk_180 0 9 (dk_at dksX3_account_4 14 rfl rfl)
theorem dX3_account_141 : decode cX3_account 141 = .ok (.iconst 3, 1) := dk_6 (dk_at dksX3_account_4 17 rfl rfl)
theorem dX3_account_142 : decode cX3_account 142 = .ok (.iaload, 1) := dk_46 (dk_at dksX3_account_4 18 rfl rfl)
theorem dX3_account_143 : decode cX3_account 143 = .ok (.ireturn, 1) := dk_172 (dk_at dksX3_account_4 19 rfl rfl)
theorem dX3_account_144 : decode cX3_account 144 = .ok (.aload_n 0, 1) := dk_42 (dk_at dksX3_account_4 20 rfl rfl)
theorem dX3_account_145 : decode cX3_account 145 = .ok (.getfield 268, 3) := dk_180 1 12 (dk_at dksX3_account_4 21 rfl rfl)
theorem dX3_account_148 : decode cX3_account 148 = .ok (.ireturn, 1) := dk_172 (dk_at dksX3_account_5 0 rfl rfl)
theorem dX3_account_149 : decode cX3_account 149 = .ok (.aload_n 0, 1) := dk_42 (dk_at dksX3_account_5 1 rfl rfl)
theorem dX3_account_150 : decode cX3_account 150 = .ok (.getfield 85, 3) := dk_180 0 85 (dk_at dksX3_account_5 2 rfl rfl)
theorem dX3_account_153 : decode cX3_account 153 = .ok (.ireturn, 1) := dk_172 (dk_at dksX3_account_5 5 rfl rfl)
theorem dX3_account_154 : decode cX3_account 154 = .ok (.aload_n 0, 1) := dk_42 (dk_at dksX3_account_5 6 rfl rfl)
theorem dX3_account_155 : decode cX3_account 155 = .ok (.iconst 1, 1) := dk_4 (dk_at dksX3_account_5 7 rfl rfl)
theorem dX3_account_156 : decode cX3_account 156 = .ok (.invokevirtual 81, 3) := dk_182 0 81 (dk_at dksX3_account_5 8 rfl rfl)
theorem dX3_account_159 : decode cX3_account 159 = .ok (.ireturn, 1) := dk_172 (dk_at dksX3_account_5 11 rfl rfl)
abbrev cX3_ofEvents : ByteArray := prog_21_method_96_code
def yX3_ofEvents : MethodName := ⟨RX3, "ofEvents", "(I)I"⟩
def dkwX3_ofEvents_4 : List UInt8 := [160, 0, 7, 29, 167, 0, 5, 21, 4, 172]
abbrev dktX3_ofEvents_4 : List UInt8 := dkwX3_ofEvents_4 ++ []
def dkwX3_ofEvents_3 : List UInt8 := [21, 6, 184, 0, 197, 54, 4, 132, 5, 1, 167, 255, 187, 27, 154, 0, 7, 28, 167, 0, 14, 27, 4]
abbrev dktX3_ofEvents_3 : List UInt8 := dkwX3_ofEvents_3 ++ dktX3_ofEvents_4
def dkwX3_ofEvents_2 : List UInt8 := [182, 0, 163, 54, 6, 132, 2, 1, 29, 21, 6, 158, 0, 7, 4, 167, 0, 4, 3, 96, 62, 21, 4]
abbrev dktX3_ofEvents_2 : List UInt8 := dkwX3_ofEvents_2 ++ dktX3_ofEvents_3
def dkwX3_ofEvents_1 : List UInt8 := [182, 1, 5, 153, 0, 50, 42, 21, 5, 16, 12, 108, 21, 5, 5, 108, 16, 6, 112, 21, 5, 5, 112]
abbrev dktX3_ofEvents_1 : List UInt8 := dkwX3_ofEvents_1 ++ dktX3_ofEvents_2
def dkwX3_ofEvents_0 : List UInt8 := [3, 61, 3, 62, 3, 54, 4, 3, 54, 5, 21, 5, 42, 180, 0, 47, 190, 162, 0, 65, 42, 21, 5]
abbrev dktX3_ofEvents_0 : List UInt8 := dkwX3_ofEvents_0 ++ dktX3_ofEvents_1
theorem dksX3_ofEvents_0 : cX3_ofEvents.data.toList.drop 0 = dktX3_ofEvents_0 := by decide +kernel
theorem dksX3_ofEvents_1 : cX3_ofEvents.data.toList.drop 23 = dktX3_ofEvents_1 := dk_seg dksX3_ofEvents_0 23 rfl rfl
theorem dksX3_ofEvents_2 : cX3_ofEvents.data.toList.drop 46 = dktX3_ofEvents_2 := dk_seg dksX3_ofEvents_1 23 rfl rfl
theorem dksX3_ofEvents_3 : cX3_ofEvents.data.toList.drop 69 = dktX3_ofEvents_3 := dk_seg dksX3_ofEvents_2 23 rfl rfl
theorem dksX3_ofEvents_4 : cX3_ofEvents.data.toList.drop 92 = dktX3_ofEvents_4 := dk_seg dksX3_ofEvents_3 23 rfl rfl
theorem dX3_ofEvents_0 : decode cX3_ofEvents 0 = .ok (.iconst 0, 1) := dk_3 (dk_at dksX3_ofEvents_0 0 rfl rfl)
theorem dX3_ofEvents_1 : decode cX3_ofEvents 1 = .ok (.istore_n 2, 1) := dk_61 (dk_at dksX3_ofEvents_0 1 rfl rfl)
theorem dX3_ofEvents_2 : decode cX3_ofEvents 2 = .ok (.iconst 0, 1) := dk_3 (dk_at dksX3_ofEvents_0 2 rfl rfl)
theorem dX3_ofEvents_3 : decode cX3_ofEvents 3 = .ok (.istore_n 3, 1) := dk_62 (dk_at dksX3_ofEvents_0 3 rfl rfl)
theorem dX3_ofEvents_4 : decode cX3_ofEvents 4 = .ok (.iconst 0, 1) := dk_3 (dk_at dksX3_ofEvents_0 4 rfl rfl)
theorem dX3_ofEvents_5 : decode cX3_ofEvents 5 = .ok (.istore 4, 2) := dk_54 4 (dk_at dksX3_ofEvents_0 5 rfl rfl)
theorem dX3_ofEvents_7 : decode cX3_ofEvents 7 = .ok (.iconst 0, 1) := dk_3 (dk_at dksX3_ofEvents_0 7 rfl rfl)
theorem dX3_ofEvents_8 : decode cX3_ofEvents 8 = .ok (.istore 5, 2) := dk_54 5 (dk_at dksX3_ofEvents_0 8 rfl rfl)
theorem dX3_ofEvents_10 : decode cX3_ofEvents 10 = .ok (.iload 5, 2) := dk_21 5 (dk_at dksX3_ofEvents_0 10 rfl rfl)
theorem dX3_ofEvents_12 : decode cX3_ofEvents 12 = .ok (.aload_n 0, 1) := dk_42 (dk_at dksX3_ofEvents_0 12 rfl rfl)
theorem dX3_ofEvents_13 : decode cX3_ofEvents 13 = .ok (.getfield 47, 3) := dk_180 0 47 (dk_at dksX3_ofEvents_0 13 rfl rfl)
theorem dX3_ofEvents_16 : decode cX3_ofEvents 16 = .ok (.arraylength, 1) := dk_190 (dk_at dksX3_ofEvents_0 16 rfl rfl)
theorem dX3_ofEvents_17 : decode cX3_ofEvents 17 = .ok (.if_icmp .ge 65, 3) := dk_162 0 65 (dk_at dksX3_ofEvents_0 17 rfl rfl)
theorem dX3_ofEvents_20 : decode cX3_ofEvents 20 = .ok (.aload_n 0, 1) := dk_42 (dk_at dksX3_ofEvents_0 20 rfl rfl)
theorem dX3_ofEvents_21 : decode cX3_ofEvents 21 = .ok (.iload 5, 2) := dk_21 5 (dk_at dksX3_ofEvents_0 21 rfl rfl)
theorem dX3_ofEvents_23 : decode cX3_ofEvents 23 = .ok (.invokevirtual 261, 3) := dk_182 1 5 (dk_at dksX3_ofEvents_1 0 rfl rfl)
theorem dX3_ofEvents_26 : decode cX3_ofEvents 26 = .ok (.ifCond .eq 50, 3) := dk_153 0 50 (dk_at dksX3_ofEvents_1 3 rfl rfl)
theorem dX3_ofEvents_29 : decode cX3_ofEvents 29 = .ok (.aload_n 0, 1) := dk_42 (dk_at dksX3_ofEvents_1 6 rfl rfl)
theorem dX3_ofEvents_30 : decode cX3_ofEvents 30 = .ok (.iload 5, 2) := dk_21 5 (dk_at dksX3_ofEvents_1 7 rfl rfl)
theorem dX3_ofEvents_32 : decode cX3_ofEvents 32 = .ok (.bipush 12, 2) := dk_16 12 (dk_at dksX3_ofEvents_1 9 rfl rfl)
theorem dX3_ofEvents_34 : decode cX3_ofEvents 34 = .ok (.idiv, 1) := dk_108 (dk_at dksX3_ofEvents_1 11 rfl rfl)
theorem dX3_ofEvents_35 : decode cX3_ofEvents 35 = .ok (.iload 5, 2) := dk_21 5 (dk_at dksX3_ofEvents_1 12 rfl rfl)
theorem dX3_ofEvents_37 : decode cX3_ofEvents 37 = .ok (.iconst 2, 1) := dk_5 (dk_at dksX3_ofEvents_1 14 rfl rfl)
theorem dX3_ofEvents_38 : decode cX3_ofEvents 38 = .ok (.idiv, 1) := dk_108 (dk_at dksX3_ofEvents_1 15 rfl rfl)
theorem dX3_ofEvents_39 : decode cX3_ofEvents 39 = .ok (.bipush 6, 2) := dk_16 6 (dk_at dksX3_ofEvents_1 16 rfl rfl)
theorem dX3_ofEvents_41 : decode cX3_ofEvents 41 = .ok (.irem, 1) := dk_112 (dk_at dksX3_ofEvents_1 18 rfl rfl)
theorem dX3_ofEvents_42 : decode cX3_ofEvents 42 = .ok (.iload 5, 2) := dk_21 5 (dk_at dksX3_ofEvents_1 19 rfl rfl)
theorem dX3_ofEvents_44 : decode cX3_ofEvents 44 = .ok (.iconst 2, 1) := dk_5 (dk_at dksX3_ofEvents_1 21 rfl rfl)
theorem dX3_ofEvents_45 : decode cX3_ofEvents 45 = .ok (.irem, 1) := dk_112 (dk_at dksX3_ofEvents_1 22 rfl rfl)
theorem dX3_ofEvents_46 : decode cX3_ofEvents 46 = .ok (.invokevirtual 163, 3) := dk_182 0 163 (dk_at dksX3_ofEvents_2 0 rfl rfl)
theorem dX3_ofEvents_49 : decode cX3_ofEvents 49 = .ok (.istore 6, 2) := dk_54 6 (dk_at dksX3_ofEvents_2 3 rfl rfl)
theorem dX3_ofEvents_51 : decode cX3_ofEvents 51 = .ok (.iinc 2 1, 3) := dk_132 2 1 (dk_at dksX3_ofEvents_2 5 rfl rfl)
theorem dX3_ofEvents_54 : decode cX3_ofEvents 54 = .ok (.iload_n 3, 1) := dk_29 (dk_at dksX3_ofEvents_2 8 rfl rfl)
theorem dX3_ofEvents_55 : decode cX3_ofEvents 55 = .ok (.iload 6, 2) := dk_21 6 (dk_at dksX3_ofEvents_2 9 rfl rfl)
theorem dX3_ofEvents_57 : decode cX3_ofEvents 57 = .ok (.ifCond .le 7, 3) := dk_158 0 7 (dk_at dksX3_ofEvents_2 11 rfl rfl)
theorem dX3_ofEvents_60 : decode cX3_ofEvents 60 = .ok (.iconst 1, 1) := dk_4 (dk_at dksX3_ofEvents_2 14 rfl rfl)
theorem dX3_ofEvents_61 : decode cX3_ofEvents 61 = .ok (.goto 4, 3) := dk_167 0 4 (dk_at dksX3_ofEvents_2 15 rfl rfl)
theorem dX3_ofEvents_64 : decode cX3_ofEvents 64 = .ok (.iconst 0, 1) := dk_3 (dk_at dksX3_ofEvents_2 18 rfl rfl)
theorem dX3_ofEvents_65 : decode cX3_ofEvents 65 = .ok (.iadd, 1) := dk_96 (dk_at dksX3_ofEvents_2 19 rfl rfl)
theorem dX3_ofEvents_66 : decode cX3_ofEvents 66 = .ok (.istore_n 3, 1) := dk_62 (dk_at dksX3_ofEvents_2 20 rfl rfl)
theorem dX3_ofEvents_67 : decode cX3_ofEvents 67 = .ok (.iload 4, 2) := dk_21 4 (dk_at dksX3_ofEvents_2 21 rfl rfl)
theorem dX3_ofEvents_69 : decode cX3_ofEvents 69 = .ok (.iload 6, 2) := dk_21 6 (dk_at dksX3_ofEvents_3 0 rfl rfl)
theorem dX3_ofEvents_71 : decode cX3_ofEvents 71 = .ok (.invokestatic 197, 3) := dk_184 0 197 (dk_at dksX3_ofEvents_3 2 rfl rfl)
theorem dX3_ofEvents_74 : decode cX3_ofEvents 74 = .ok (.istore 4, 2) := dk_54 4 (dk_at dksX3_ofEvents_3 5 rfl rfl)
theorem dX3_ofEvents_76 : decode cX3_ofEvents 76 = .ok (.iinc 5 1, 3) := dk_132 5 1 (dk_at dksX3_ofEvents_3 7 rfl rfl)
theorem dX3_ofEvents_79 : decode cX3_ofEvents 79 = .ok (.goto (-69), 3) := dk_167 255 187 (dk_at dksX3_ofEvents_3 10 rfl rfl)
theorem dX3_ofEvents_82 : decode cX3_ofEvents 82 = .ok (.iload_n 1, 1) := dk_27 (dk_at dksX3_ofEvents_3 13 rfl rfl)
theorem dX3_ofEvents_83 : decode cX3_ofEvents 83 = .ok (.ifCond .ne 7, 3) := dk_154 0 7 (dk_at dksX3_ofEvents_3 14 rfl rfl)
theorem dX3_ofEvents_86 : decode cX3_ofEvents 86 = .ok (.iload_n 2, 1) := dk_28 (dk_at dksX3_ofEvents_3 17 rfl rfl)
theorem dX3_ofEvents_87 : decode cX3_ofEvents 87 = .ok (.goto 14, 3) := dk_167 0 14 (dk_at dksX3_ofEvents_3 18 rfl rfl)
theorem dX3_ofEvents_90 : decode cX3_ofEvents 90 = .ok (.iload_n 1, 1) := dk_27 (dk_at dksX3_ofEvents_3 21 rfl rfl)
theorem dX3_ofEvents_91 : decode cX3_ofEvents 91 = .ok (.iconst 1, 1) := dk_4 (dk_at dksX3_ofEvents_3 22 rfl rfl)
theorem dX3_ofEvents_92 : decode cX3_ofEvents 92 = .ok (.if_icmp .ne 7, 3) := dk_160 0 7 (dk_at dksX3_ofEvents_4 0 rfl rfl)
theorem dX3_ofEvents_95 : decode cX3_ofEvents 95 = .ok (.iload_n 3, 1) := dk_29 (dk_at dksX3_ofEvents_4 3 rfl rfl)
theorem dX3_ofEvents_96 : decode cX3_ofEvents 96 = .ok (.goto 5, 3) := dk_167 0 5 (dk_at dksX3_ofEvents_4 4 rfl rfl)
theorem dX3_ofEvents_99 : decode cX3_ofEvents 99 = .ok (.iload 4, 2) := dk_21 4 (dk_at dksX3_ofEvents_4 7 rfl rfl)
theorem dX3_ofEvents_101 : decode cX3_ofEvents 101 = .ok (.ireturn, 1) := dk_172 (dk_at dksX3_ofEvents_4 9 rfl rfl)
abbrev cX3_turns : ByteArray := prog_21_method_97_code
def yX3_turns : MethodName := ⟨RX3, "turns", "()I"⟩
def dkwX3_turns_1 : List UInt8 := [3, 167, 0, 4, 4, 96, 60, 132, 2, 1, 167, 255, 226, 27, 172]
abbrev dktX3_turns_1 : List UInt8 := dkwX3_turns_1 ++ []
def dkwX3_turns_0 : List UInt8 := [3, 60, 3, 61, 28, 42, 180, 0, 9, 3, 46, 162, 0, 26, 27, 42, 28, 182, 0, 92, 2, 160, 0, 7]
abbrev dktX3_turns_0 : List UInt8 := dkwX3_turns_0 ++ dktX3_turns_1
theorem dksX3_turns_0 : cX3_turns.data.toList.drop 0 = dktX3_turns_0 := by decide +kernel
theorem dksX3_turns_1 : cX3_turns.data.toList.drop 24 = dktX3_turns_1 := dk_seg dksX3_turns_0 24 rfl rfl
theorem dX3_turns_0 : decode cX3_turns 0 = .ok (.iconst 0, 1) := dk_3 (dk_at dksX3_turns_0 0 rfl rfl)
theorem dX3_turns_1 : decode cX3_turns 1 = .ok (.istore_n 1, 1) := dk_60 (dk_at dksX3_turns_0 1 rfl rfl)
theorem dX3_turns_2 : decode cX3_turns 2 = .ok (.iconst 0, 1) := dk_3 (dk_at dksX3_turns_0 2 rfl rfl)
theorem dX3_turns_3 : decode cX3_turns 3 = .ok (.istore_n 2, 1) := dk_61 (dk_at dksX3_turns_0 3 rfl rfl)
theorem dX3_turns_4 : decode cX3_turns 4 = .ok (.iload_n 2, 1) := dk_28 (dk_at dksX3_turns_0 4 rfl rfl)
theorem dX3_turns_5 : decode cX3_turns 5 = .ok (.aload_n 0, 1) := dk_42 (dk_at dksX3_turns_0 5 rfl rfl)
theorem dX3_turns_6 : decode cX3_turns 6 = .ok (.getfield 9, 3) := dk_180 0 9 (dk_at dksX3_turns_0 6 rfl rfl)
theorem dX3_turns_9 : decode cX3_turns 9 = .ok (.iconst 0, 1) := dk_3 (dk_at dksX3_turns_0 9 rfl rfl)
theorem dX3_turns_10 : decode cX3_turns 10 = .ok (.iaload, 1) := dk_46 (dk_at dksX3_turns_0 10 rfl rfl)
theorem dX3_turns_11 : decode cX3_turns 11 = .ok (.if_icmp .ge 26, 3) := dk_162 0 26 (dk_at dksX3_turns_0 11 rfl rfl)
theorem dX3_turns_14 : decode cX3_turns 14 = .ok (.iload_n 1, 1) := dk_27 (dk_at dksX3_turns_0 14 rfl rfl)
theorem dX3_turns_15 : decode cX3_turns 15 = .ok (.aload_n 0, 1) := dk_42 (dk_at dksX3_turns_0 15 rfl rfl)
theorem dX3_turns_16 : decode cX3_turns 16 = .ok (.iload_n 2, 1) := dk_28 (dk_at dksX3_turns_0 16 rfl rfl)
theorem dX3_turns_17 : decode cX3_turns 17 = .ok (.invokevirtual 92, 3) := dk_182 0 92 (dk_at dksX3_turns_0 17 rfl rfl)
theorem dX3_turns_20 : decode cX3_turns 20 = .ok (.iconst (-1), 1) := dk_2 (dk_at dksX3_turns_0 20 rfl rfl)
theorem dX3_turns_21 : decode cX3_turns 21 = .ok (.if_icmp .ne 7, 3) := dk_160 0 7 (dk_at dksX3_turns_0 21 rfl rfl)
theorem dX3_turns_24 : decode cX3_turns 24 = .ok (.iconst 0, 1) := dk_3 (dk_at dksX3_turns_1 0 rfl rfl)
theorem dX3_turns_25 : decode cX3_turns 25 = .ok (.goto 4, 3) := dk_167 0 4 (dk_at dksX3_turns_1 1 rfl rfl)
theorem dX3_turns_28 : decode cX3_turns 28 = .ok (.iconst 1, 1) := dk_4 (dk_at dksX3_turns_1 4 rfl rfl)
theorem dX3_turns_29 : decode cX3_turns 29 = .ok (.iadd, 1) := dk_96 (dk_at dksX3_turns_1 5 rfl rfl)
theorem dX3_turns_30 : decode cX3_turns 30 = .ok (.istore_n 1, 1) := dk_60 (dk_at dksX3_turns_1 6 rfl rfl)
theorem dX3_turns_31 : decode cX3_turns 31 = .ok (.iinc 2 1, 3) := dk_132 2 1 (dk_at dksX3_turns_1 7 rfl rfl)
theorem dX3_turns_34 : decode cX3_turns 34 = .ok (.goto (-30), 3) := dk_167 255 226 (dk_at dksX3_turns_1 10 rfl rfl)
theorem dX3_turns_37 : decode cX3_turns 37 = .ok (.iload_n 1, 1) := dk_27 (dk_at dksX3_turns_1 13 rfl rfl)
theorem dX3_turns_38 : decode cX3_turns 38 = .ok (.ireturn, 1) := dk_172 (dk_at dksX3_turns_1 14 rfl rfl)
abbrev cX3_ownOfAll : ByteArray := prog_21_method_98_code
def yX3_ownOfAll : MethodName := ⟨RX3, "ownOfAll", "()I"⟩
def dkwX3_ownOfAll_1 : List UInt8 := [132, 2, 1, 167, 255, 235, 27, 172]
abbrev dktX3_ownOfAll_1 : List UInt8 := dkwX3_ownOfAll_1 ++ []
def dkwX3_ownOfAll_0 : List UInt8 := [3, 60, 3, 61, 28, 42, 180, 0, 9, 3, 46, 162, 0, 17, 27, 42, 28, 182, 0, 223, 96, 60]
abbrev dktX3_ownOfAll_0 : List UInt8 := dkwX3_ownOfAll_0 ++ dktX3_ownOfAll_1
theorem dksX3_ownOfAll_0 : cX3_ownOfAll.data.toList.drop 0 = dktX3_ownOfAll_0 := by decide +kernel
theorem dksX3_ownOfAll_1 : cX3_ownOfAll.data.toList.drop 22 = dktX3_ownOfAll_1 := dk_seg dksX3_ownOfAll_0 22 rfl rfl
theorem dX3_ownOfAll_0 : decode cX3_ownOfAll 0 = .ok (.iconst 0, 1) := dk_3 (dk_at dksX3_ownOfAll_0 0 rfl rfl)
theorem dX3_ownOfAll_1 : decode cX3_ownOfAll 1 = .ok (.istore_n 1, 1) := dk_60 (dk_at dksX3_ownOfAll_0 1 rfl rfl)
theorem dX3_ownOfAll_2 : decode cX3_ownOfAll 2 = .ok (.iconst 0, 1) := dk_3 (dk_at dksX3_ownOfAll_0 2 rfl rfl)
theorem dX3_ownOfAll_3 : decode cX3_ownOfAll 3 = .ok (.istore_n 2, 1) := dk_61 (dk_at dksX3_ownOfAll_0 3 rfl rfl)
theorem dX3_ownOfAll_4 : decode cX3_ownOfAll 4 = .ok (.iload_n 2, 1) := dk_28 (dk_at dksX3_ownOfAll_0 4 rfl rfl)
theorem dX3_ownOfAll_5 : decode cX3_ownOfAll 5 = .ok (.aload_n 0, 1) := dk_42 (dk_at dksX3_ownOfAll_0 5 rfl rfl)
theorem dX3_ownOfAll_6 : decode cX3_ownOfAll 6 = .ok (.getfield 9, 3) := dk_180 0 9 (dk_at dksX3_ownOfAll_0 6 rfl rfl)
theorem dX3_ownOfAll_9 : decode cX3_ownOfAll 9 = .ok (.iconst 0, 1) := dk_3 (dk_at dksX3_ownOfAll_0 9 rfl rfl)
theorem dX3_ownOfAll_10 : decode cX3_ownOfAll 10 = .ok (.iaload, 1) := dk_46 (dk_at dksX3_ownOfAll_0 10 rfl rfl)
theorem dX3_ownOfAll_11 : decode cX3_ownOfAll 11 = .ok (.if_icmp .ge 17, 3) := dk_162 0 17 (dk_at dksX3_ownOfAll_0 11 rfl rfl)
theorem dX3_ownOfAll_14 : decode cX3_ownOfAll 14 = .ok (.iload_n 1, 1) := dk_27 (dk_at dksX3_ownOfAll_0 14 rfl rfl)
theorem dX3_ownOfAll_15 : decode cX3_ownOfAll 15 = .ok (.aload_n 0, 1) := dk_42 (dk_at dksX3_ownOfAll_0 15 rfl rfl)
theorem dX3_ownOfAll_16 : decode cX3_ownOfAll 16 = .ok (.iload_n 2, 1) := dk_28 (dk_at dksX3_ownOfAll_0 16 rfl rfl)
theorem dX3_ownOfAll_17 : decode cX3_ownOfAll 17 = .ok (.invokevirtual 223, 3) := dk_182 0 223 (dk_at dksX3_ownOfAll_0 17 rfl rfl)
theorem dX3_ownOfAll_20 : decode cX3_ownOfAll 20 = .ok (.iadd, 1) := dk_96 (dk_at dksX3_ownOfAll_0 20 rfl rfl)
theorem dX3_ownOfAll_21 : decode cX3_ownOfAll 21 = .ok (.istore_n 1, 1) := dk_60 (dk_at dksX3_ownOfAll_0 21 rfl rfl)
theorem dX3_ownOfAll_22 : decode cX3_ownOfAll 22 = .ok (.iinc 2 1, 3) := dk_132 2 1 (dk_at dksX3_ownOfAll_1 0 rfl rfl)
theorem dX3_ownOfAll_25 : decode cX3_ownOfAll 25 = .ok (.goto (-21), 3) := dk_167 255 235 (dk_at dksX3_ownOfAll_1 3 rfl rfl)
theorem dX3_ownOfAll_28 : decode cX3_ownOfAll 28 = .ok (.iload_n 1, 1) := dk_27 (dk_at dksX3_ownOfAll_1 6 rfl rfl)
theorem dX3_ownOfAll_29 : decode cX3_ownOfAll 29 = .ok (.ireturn, 1) := dk_172 (dk_at dksX3_ownOfAll_1 7 rfl rfl)
abbrev cX3_meanLate : ByteArray := prog_21_method_100_code
def yX3_meanLate : MethodName := ⟨RX3, "meanLate", "()D"⟩
def dkwX3_meanLate_1 : List UInt8 := [182, 0, 81, 87, 14, 175, 42, 2, 182, 0, 253, 135, 27, 135, 111, 175]
abbrev dktX3_meanLate_1 : List UInt8 := dkwX3_meanLate_1 ++ []
def dkwX3_meanLate_0 : List UInt8 := [42, 3, 181, 0, 69, 42, 2, 2, 182, 0, 159, 42, 3, 182, 1, 79, 60, 27, 154, 0, 11, 42, 4]
abbrev dktX3_meanLate_0 : List UInt8 := dkwX3_meanLate_0 ++ dktX3_meanLate_1
theorem dksX3_meanLate_0 : cX3_meanLate.data.toList.drop 0 = dktX3_meanLate_0 := by decide +kernel
theorem dksX3_meanLate_1 : cX3_meanLate.data.toList.drop 23 = dktX3_meanLate_1 := dk_seg dksX3_meanLate_0 23 rfl rfl
theorem dX3_meanLate_0 : decode cX3_meanLate 0 = .ok (.aload_n 0, 1) := dk_42 (dk_at dksX3_meanLate_0 0 rfl rfl)
theorem dX3_meanLate_1 : decode cX3_meanLate 1 = .ok (.iconst 0, 1) := dk_3 (dk_at dksX3_meanLate_0 1 rfl rfl)
theorem dX3_meanLate_2 : decode cX3_meanLate 2 = .ok (.putfield 69, 3) := dk_181 0 69 (dk_at dksX3_meanLate_0 2 rfl rfl)
theorem dX3_meanLate_5 : decode cX3_meanLate 5 = .ok (.aload_n 0, 1) := dk_42 (dk_at dksX3_meanLate_0 5 rfl rfl)
theorem dX3_meanLate_6 : decode cX3_meanLate 6 = .ok (.iconst (-1), 1) := dk_2 (dk_at dksX3_meanLate_0 6 rfl rfl)
theorem dX3_meanLate_7 : decode cX3_meanLate 7 = .ok (.iconst (-1), 1) := dk_2 (dk_at dksX3_meanLate_0 7 rfl rfl)
theorem dX3_meanLate_8 : decode cX3_meanLate 8 = .ok (.invokevirtual 159, 3) := dk_182 0 159 (dk_at dksX3_meanLate_0 8 rfl rfl)
theorem dX3_meanLate_11 : decode cX3_meanLate 11 = .ok (.aload_n 0, 1) := dk_42 (dk_at dksX3_meanLate_0 11 rfl rfl)
theorem dX3_meanLate_12 : decode cX3_meanLate 12 = .ok (.iconst 0, 1) := dk_3 (dk_at dksX3_meanLate_0 12 rfl rfl)
theorem dX3_meanLate_13 : decode cX3_meanLate 13 = .ok (.invokevirtual 335, 3) := dk_182 1 79 (dk_at dksX3_meanLate_0 13 rfl rfl)
theorem dX3_meanLate_16 : decode cX3_meanLate 16 = .ok (.istore_n 1, 1) := dk_60 (dk_at dksX3_meanLate_0 16 rfl rfl)
theorem dX3_meanLate_17 : decode cX3_meanLate 17 = .ok (.iload_n 1, 1) := dk_27 (dk_at dksX3_meanLate_0 17 rfl rfl)
theorem dX3_meanLate_18 : decode cX3_meanLate 18 = .ok (.ifCond .ne 11, 3) := dk_154 0 11 (dk_at dksX3_meanLate_0 18 rfl rfl)
theorem dX3_meanLate_21 : decode cX3_meanLate 21 = .ok (.aload_n 0, 1) := dk_42 (dk_at dksX3_meanLate_0 21 rfl rfl)
theorem dX3_meanLate_22 : decode cX3_meanLate 22 = .ok (.iconst 1, 1) := dk_4 (dk_at dksX3_meanLate_0 22 rfl rfl)
theorem dX3_meanLate_23 : decode cX3_meanLate 23 = .ok (.invokevirtual 81, 3) := dk_182 0 81 (dk_at dksX3_meanLate_1 0 rfl rfl)
theorem dX3_meanLate_26 : decode cX3_meanLate 26 = .ok (.pop, 1) := dk_87 (dk_at dksX3_meanLate_1 3 rfl rfl)
theorem dX3_meanLate_27 : decode cX3_meanLate 27 = .ok (.dconst 0, 1) := dk_14 (dk_at dksX3_meanLate_1 4 rfl rfl)
theorem dX3_meanLate_28 : decode cX3_meanLate 28 = .ok (.dreturn, 1) := dk_175 (dk_at dksX3_meanLate_1 5 rfl rfl)
theorem dX3_meanLate_29 : decode cX3_meanLate 29 = .ok (.aload_n 0, 1) := dk_42 (dk_at dksX3_meanLate_1 6 rfl rfl)
theorem dX3_meanLate_30 : decode cX3_meanLate 30 = .ok (.iconst (-1), 1) := dk_2 (dk_at dksX3_meanLate_1 7 rfl rfl)
theorem dX3_meanLate_31 : decode cX3_meanLate 31 = .ok (.invokevirtual 253, 3) := dk_182 0 253 (dk_at dksX3_meanLate_1 8 rfl rfl)
theorem dX3_meanLate_34 : decode cX3_meanLate 34 = .ok (.i2d, 1) := dk_135 (dk_at dksX3_meanLate_1 11 rfl rfl)
theorem dX3_meanLate_35 : decode cX3_meanLate 35 = .ok (.iload_n 1, 1) := dk_27 (dk_at dksX3_meanLate_1 12 rfl rfl)
theorem dX3_meanLate_36 : decode cX3_meanLate 36 = .ok (.i2d, 1) := dk_135 (dk_at dksX3_meanLate_1 13 rfl rfl)
theorem dX3_meanLate_37 : decode cX3_meanLate 37 = .ok (.ddiv, 1) := dk_111 (dk_at dksX3_meanLate_1 14 rfl rfl)
theorem dX3_meanLate_38 : decode cX3_meanLate 38 = .ok (.dreturn, 1) := dk_175 (dk_at dksX3_meanLate_1 15 rfl rfl)
abbrev cX3_keptShare : ByteArray := prog_21_method_101_code
def yX3_keptShare : MethodName := ⟨RX3, "keptShare", "()F"⟩
def dkwX3_keptShare_2 : List UInt8 := [134, 110, 174]
abbrev dktX3_keptShare_2 : List UInt8 := dkwX3_keptShare_2 ++ []
def dkwX3_keptShare_1 : List UInt8 := [182, 0, 81, 87, 11, 174, 42, 180, 0, 9, 4, 46, 42, 182, 1, 0, 100, 134, 42, 180, 0, 9, 4, 46]
abbrev dktX3_keptShare_1 : List UInt8 := dkwX3_keptShare_1 ++ dktX3_keptShare_2
def dkwX3_keptShare_0 : List UInt8 := [42, 3, 181, 0, 69, 42, 2, 2, 182, 0, 159, 42, 180, 0, 9, 4, 46, 154, 0, 11, 42, 4]
abbrev dktX3_keptShare_0 : List UInt8 := dkwX3_keptShare_0 ++ dktX3_keptShare_1
theorem dksX3_keptShare_0 : cX3_keptShare.data.toList.drop 0 = dktX3_keptShare_0 := by decide +kernel
theorem dksX3_keptShare_1 : cX3_keptShare.data.toList.drop 22 = dktX3_keptShare_1 := dk_seg dksX3_keptShare_0 22 rfl rfl
theorem dksX3_keptShare_2 : cX3_keptShare.data.toList.drop 46 = dktX3_keptShare_2 := dk_seg dksX3_keptShare_1 24 rfl rfl
theorem dX3_keptShare_0 : decode cX3_keptShare 0 = .ok (.aload_n 0, 1) := dk_42 (dk_at dksX3_keptShare_0 0 rfl rfl)
theorem dX3_keptShare_1 : decode cX3_keptShare 1 = .ok (.iconst 0, 1) := dk_3 (dk_at dksX3_keptShare_0 1 rfl rfl)
theorem dX3_keptShare_2 : decode cX3_keptShare 2 = .ok (.putfield 69, 3) := dk_181 0 69 (dk_at dksX3_keptShare_0 2 rfl rfl)
theorem dX3_keptShare_5 : decode cX3_keptShare 5 = .ok (.aload_n 0, 1) := dk_42 (dk_at dksX3_keptShare_0 5 rfl rfl)
theorem dX3_keptShare_6 : decode cX3_keptShare 6 = .ok (.iconst (-1), 1) := dk_2 (dk_at dksX3_keptShare_0 6 rfl rfl)
theorem dX3_keptShare_7 : decode cX3_keptShare 7 = .ok (.iconst (-1), 1) := dk_2 (dk_at dksX3_keptShare_0 7 rfl rfl)
theorem dX3_keptShare_8 : decode cX3_keptShare 8 = .ok (.invokevirtual 159, 3) := dk_182 0 159 (dk_at dksX3_keptShare_0 8 rfl rfl)
theorem dX3_keptShare_11 : decode cX3_keptShare 11 = .ok (.aload_n 0, 1) := dk_42 (dk_at dksX3_keptShare_0 11 rfl rfl)
theorem dX3_keptShare_12 : decode cX3_keptShare 12 = .ok (.getfield 9, 3) := dk_180 0 9 (dk_at dksX3_keptShare_0 12 rfl rfl)
theorem dX3_keptShare_15 : decode cX3_keptShare 15 = .ok (.iconst 1, 1) := dk_4 (dk_at dksX3_keptShare_0 15 rfl rfl)
theorem dX3_keptShare_16 : decode cX3_keptShare 16 = .ok (.iaload, 1) := dk_46 (dk_at dksX3_keptShare_0 16 rfl rfl)
theorem dX3_keptShare_17 : decode cX3_keptShare 17 = .ok (.ifCond .ne 11, 3) := dk_154 0 11 (dk_at dksX3_keptShare_0 17 rfl rfl)
theorem dX3_keptShare_20 : decode cX3_keptShare 20 = .ok (.aload_n 0, 1) := dk_42 (dk_at dksX3_keptShare_0 20 rfl rfl)
theorem dX3_keptShare_21 : decode cX3_keptShare 21 = .ok (.iconst 1, 1) := dk_4 (dk_at dksX3_keptShare_0 21 rfl rfl)
theorem dX3_keptShare_22 : decode cX3_keptShare 22 = .ok (.invokevirtual 81, 3) := dk_182 0 81 (dk_at dksX3_keptShare_1 0 rfl rfl)
theorem dX3_keptShare_25 : decode cX3_keptShare 25 = .ok (.pop, 1) := dk_87 (dk_at dksX3_keptShare_1 3 rfl rfl)
theorem dX3_keptShare_26 : decode cX3_keptShare 26 = .ok (.fconst 0, 1) := dk_11 (dk_at dksX3_keptShare_1 4 rfl rfl)
theorem dX3_keptShare_27 : decode cX3_keptShare 27 = .ok (.freturn, 1) := dk_174 (dk_at dksX3_keptShare_1 5 rfl rfl)
theorem dX3_keptShare_28 : decode cX3_keptShare 28 = .ok (.aload_n 0, 1) := dk_42 (dk_at dksX3_keptShare_1 6 rfl rfl)
theorem dX3_keptShare_29 : decode cX3_keptShare 29 = .ok (.getfield 9, 3) := dk_180 0 9 (dk_at dksX3_keptShare_1 7 rfl rfl)
theorem dX3_keptShare_32 : decode cX3_keptShare 32 = .ok (.iconst 1, 1) := dk_4 (dk_at dksX3_keptShare_1 10 rfl rfl)
theorem dX3_keptShare_33 : decode cX3_keptShare 33 = .ok (.iaload, 1) := dk_46 (dk_at dksX3_keptShare_1 11 rfl rfl)
theorem dX3_keptShare_34 : decode cX3_keptShare 34 = .ok (.aload_n 0, 1) := dk_42 (dk_at dksX3_keptShare_1 12 rfl rfl)
theorem dX3_keptShare_35 : decode cX3_keptShare 35 = .ok (.invokevirtual 256, 3) := dk_182 1 0 (dk_at dksX3_keptShare_1 13 rfl rfl)
theorem dX3_keptShare_38 : decode cX3_keptShare 38 = .ok (.isub, 1) := dk_100 (dk_at dksX3_keptShare_1 16 rfl rfl)
theorem dX3_keptShare_39 : decode cX3_keptShare 39 = .ok (.i2f, 1) := dk_134 (dk_at dksX3_keptShare_1 17 rfl rfl)
theorem dX3_keptShare_40 : decode cX3_keptShare 40 = .ok (.aload_n 0, 1) := dk_42 (dk_at dksX3_keptShare_1 18 rfl rfl)
theorem dX3_keptShare_41 : decode cX3_keptShare 41 = .ok (.getfield 9, 3) := dk_180 0 9 (dk_at dksX3_keptShare_1 19 rfl rfl)
theorem dX3_keptShare_44 : decode cX3_keptShare 44 = .ok (.iconst 1, 1) := dk_4 (dk_at dksX3_keptShare_1 22 rfl rfl)
theorem dX3_keptShare_45 : decode cX3_keptShare 45 = .ok (.iaload, 1) := dk_46 (dk_at dksX3_keptShare_1 23 rfl rfl)
theorem dX3_keptShare_46 : decode cX3_keptShare 46 = .ok (.i2f, 1) := dk_134 (dk_at dksX3_keptShare_2 0 rfl rfl)
theorem dX3_keptShare_47 : decode cX3_keptShare 47 = .ok (.fdiv, 1) := dk_110 (dk_at dksX3_keptShare_2 1 rfl rfl)
theorem dX3_keptShare_48 : decode cX3_keptShare 48 = .ok (.freturn, 1) := dk_174 (dk_at dksX3_keptShare_2 2 rfl rfl)
abbrev cX3_undo : ByteArray := prog_21_method_102_code
def yX3_undo : MethodName := ⟨RX3, "undo", "()I"⟩
def dkwX3_undo_2 : List UInt8 := [17, 1, 156, 42, 180, 0, 85, 104, 27, 96, 46, 79, 132, 1, 1, 167, 255, 225, 42, 180, 0, 85, 172]
abbrev dktX3_undo_2 : List UInt8 := dkwX3_undo_2 ++ []
def dkwX3_undo_1 : List UInt8 := [100, 181, 0, 85, 3, 60, 27, 17, 1, 156, 162, 0, 30, 42, 180, 0, 9, 27, 42, 180, 0, 19]
abbrev dktX3_undo_1 : List UInt8 := dkwX3_undo_1 ++ dktX3_undo_2
def dkwX3_undo_0 : List UInt8 := [42, 3, 181, 0, 69, 42, 180, 0, 85, 154, 0, 9, 42, 4, 182, 0, 81, 172, 42, 89, 180, 0, 85, 4]
abbrev dktX3_undo_0 : List UInt8 := dkwX3_undo_0 ++ dktX3_undo_1
theorem dksX3_undo_0 : cX3_undo.data.toList.drop 0 = dktX3_undo_0 := by decide +kernel
theorem dksX3_undo_1 : cX3_undo.data.toList.drop 24 = dktX3_undo_1 := dk_seg dksX3_undo_0 24 rfl rfl
theorem dksX3_undo_2 : cX3_undo.data.toList.drop 46 = dktX3_undo_2 := dk_seg dksX3_undo_1 22 rfl rfl
theorem dX3_undo_0 : decode cX3_undo 0 = .ok (.aload_n 0, 1) := dk_42 (dk_at dksX3_undo_0 0 rfl rfl)
theorem dX3_undo_1 : decode cX3_undo 1 = .ok (.iconst 0, 1) := dk_3 (dk_at dksX3_undo_0 1 rfl rfl)
theorem dX3_undo_2 : decode cX3_undo 2 = .ok (.putfield 69, 3) := dk_181 0 69 (dk_at dksX3_undo_0 2 rfl rfl)
theorem dX3_undo_5 : decode cX3_undo 5 = .ok (.aload_n 0, 1) := dk_42 (dk_at dksX3_undo_0 5 rfl rfl)
theorem dX3_undo_6 : decode cX3_undo 6 = .ok (.getfield 85, 3) := dk_180 0 85 (dk_at dksX3_undo_0 6 rfl rfl)
theorem dX3_undo_9 : decode cX3_undo 9 = .ok (.ifCond .ne 9, 3) := dk_154 0 9 (dk_at dksX3_undo_0 9 rfl rfl)
theorem dX3_undo_12 : decode cX3_undo 12 = .ok (.aload_n 0, 1) := dk_42 (dk_at dksX3_undo_0 12 rfl rfl)
theorem dX3_undo_13 : decode cX3_undo 13 = .ok (.iconst 1, 1) := dk_4 (dk_at dksX3_undo_0 13 rfl rfl)
theorem dX3_undo_14 : decode cX3_undo 14 = .ok (.invokevirtual 81, 3) := dk_182 0 81 (dk_at dksX3_undo_0 14 rfl rfl)
theorem dX3_undo_17 : decode cX3_undo 17 = .ok (.ireturn, 1) := dk_172 (dk_at dksX3_undo_0 17 rfl rfl)
theorem dX3_undo_18 : decode cX3_undo 18 = .ok (.aload_n 0, 1) := dk_42 (dk_at dksX3_undo_0 18 rfl rfl)
theorem dX3_undo_19 : decode cX3_undo 19 = .ok (.dup, 1) := dk_89 (dk_at dksX3_undo_0 19 rfl rfl)
theorem dX3_undo_20 : decode cX3_undo 20 = .ok (.getfield 85, 3) := dk_180 0 85 (dk_at dksX3_undo_0 20 rfl rfl)
theorem dX3_undo_23 : decode cX3_undo 23 = .ok (.iconst 1, 1) := dk_4 (dk_at dksX3_undo_0 23 rfl rfl)
theorem dX3_undo_24 : decode cX3_undo 24 = .ok (.isub, 1) := dk_100 (dk_at dksX3_undo_1 0 rfl rfl)
theorem dX3_undo_25 : decode cX3_undo 25 = .ok (.putfield 85, 3) := dk_181 0 85 (dk_at dksX3_undo_1 1 rfl rfl)
theorem dX3_undo_28 : decode cX3_undo 28 = .ok (.iconst 0, 1) := dk_3 (dk_at dksX3_undo_1 4 rfl rfl)
theorem dX3_undo_29 : decode cX3_undo 29 = .ok (.istore_n 1, 1) := dk_60 (dk_at dksX3_undo_1 5 rfl rfl)
theorem dX3_undo_30 : decode cX3_undo 30 = .ok (.iload_n 1, 1) := dk_27 (dk_at dksX3_undo_1 6 rfl rfl)
theorem dX3_undo_31 : decode cX3_undo 31 = .ok (.sipush 412, 3) := dk_17 1 156 (dk_at dksX3_undo_1 7 rfl rfl)
theorem dX3_undo_34 : decode cX3_undo 34 = .ok (.if_icmp .ge 30, 3) := dk_162 0 30 (dk_at dksX3_undo_1 10 rfl rfl)
theorem dX3_undo_37 : decode cX3_undo 37 = .ok (.aload_n 0, 1) := dk_42 (dk_at dksX3_undo_1 13 rfl rfl)
theorem dX3_undo_38 : decode cX3_undo 38 = .ok (.getfield 9, 3) := dk_180 0 9 (dk_at dksX3_undo_1 14 rfl rfl)
theorem dX3_undo_41 : decode cX3_undo 41 = .ok (.iload_n 1, 1) := dk_27 (dk_at dksX3_undo_1 17 rfl rfl)
theorem dX3_undo_42 : decode cX3_undo 42 = .ok (.aload_n 0, 1) := dk_42 (dk_at dksX3_undo_1 18 rfl rfl)
theorem dX3_undo_43 : decode cX3_undo 43 = .ok (.getfield 19, 3) := dk_180 0 19 (dk_at dksX3_undo_1 19 rfl rfl)
theorem dX3_undo_46 : decode cX3_undo 46 = .ok (.sipush 412, 3) := dk_17 1 156 (dk_at dksX3_undo_2 0 rfl rfl)
theorem dX3_undo_49 : decode cX3_undo 49 = .ok (.aload_n 0, 1) := dk_42 (dk_at dksX3_undo_2 3 rfl rfl)
theorem dX3_undo_50 : decode cX3_undo 50 = .ok (.getfield 85, 3) := dk_180 0 85 (dk_at dksX3_undo_2 4 rfl rfl)
theorem dX3_undo_53 : decode cX3_undo 53 = .ok (.imul, 1) := dk_104 (dk_at dksX3_undo_2 7 rfl rfl)
theorem dX3_undo_54 : decode cX3_undo 54 = .ok (.iload_n 1, 1) := dk_27 (dk_at dksX3_undo_2 8 rfl rfl)
theorem dX3_undo_55 : decode cX3_undo 55 = .ok (.iadd, 1) := dk_96 (dk_at dksX3_undo_2 9 rfl rfl)
theorem dX3_undo_56 : decode cX3_undo 56 = .ok (.iaload, 1) := dk_46 (dk_at dksX3_undo_2 10 rfl rfl)
theorem dX3_undo_57 : decode cX3_undo 57 = .ok (.iastore, 1) := dk_79 (dk_at dksX3_undo_2 11 rfl rfl)
theorem dX3_undo_58 : decode cX3_undo 58 = .ok (.iinc 1 1, 3) := dk_132 1 1 (dk_at dksX3_undo_2 12 rfl rfl)
theorem dX3_undo_61 : decode cX3_undo 61 = .ok (.goto (-31), 3) := dk_167 255 225 (dk_at dksX3_undo_2 15 rfl rfl)
theorem dX3_undo_64 : decode cX3_undo 64 = .ok (.aload_n 0, 1) := dk_42 (dk_at dksX3_undo_2 18 rfl rfl)
theorem dX3_undo_65 : decode cX3_undo 65 = .ok (.getfield 85, 3) := dk_180 0 85 (dk_at dksX3_undo_2 19 rfl rfl)
theorem dX3_undo_68 : decode cX3_undo 68 = .ok (.ireturn, 1) := dk_172 (dk_at dksX3_undo_2 22 rfl rfl)
abbrev cX3_save : ByteArray := prog_21_method_103_code
def yX3_save : MethodName := ⟨RX3, "save", "()I"⟩
def dkwX3_save_1 : List UInt8 := [46, 79, 132, 1, 1, 167, 255, 234, 42, 4, 181, 1, 88, 42, 180, 0, 9, 3, 46, 172]
abbrev dktX3_save_1 : List UInt8 := dkwX3_save_1 ++ []
def dkwX3_save_0 : List UInt8 := [42, 3, 181, 0, 69, 3, 60, 27, 17, 1, 156, 162, 0, 21, 42, 180, 0, 16, 27, 42, 180, 0, 9, 27]
abbrev dktX3_save_0 : List UInt8 := dkwX3_save_0 ++ dktX3_save_1
theorem dksX3_save_0 : cX3_save.data.toList.drop 0 = dktX3_save_0 := by decide +kernel
theorem dksX3_save_1 : cX3_save.data.toList.drop 24 = dktX3_save_1 := dk_seg dksX3_save_0 24 rfl rfl
theorem dX3_save_0 : decode cX3_save 0 = .ok (.aload_n 0, 1) := dk_42 (dk_at dksX3_save_0 0 rfl rfl)
theorem dX3_save_1 : decode cX3_save 1 = .ok (.iconst 0, 1) := dk_3 (dk_at dksX3_save_0 1 rfl rfl)
theorem dX3_save_2 : decode cX3_save 2 = .ok (.putfield 69, 3) := dk_181 0 69 (dk_at dksX3_save_0 2 rfl rfl)
theorem dX3_save_5 : decode cX3_save 5 = .ok (.iconst 0, 1) := dk_3 (dk_at dksX3_save_0 5 rfl rfl)
theorem dX3_save_6 : decode cX3_save 6 = .ok (.istore_n 1, 1) := dk_60 (dk_at dksX3_save_0 6 rfl rfl)
theorem dX3_save_7 : decode cX3_save 7 = .ok (.iload_n 1, 1) := dk_27 (dk_at dksX3_save_0 7 rfl rfl)
theorem dX3_save_8 : decode cX3_save 8 = .ok (.sipush 412, 3) := dk_17 1 156 (dk_at dksX3_save_0 8 rfl rfl)
theorem dX3_save_11 : decode cX3_save 11 = .ok (.if_icmp .ge 21, 3) := dk_162 0 21 (dk_at dksX3_save_0 11 rfl rfl)
theorem dX3_save_14 : decode cX3_save 14 = .ok (.aload_n 0, 1) := dk_42 (dk_at dksX3_save_0 14 rfl rfl)
theorem dX3_save_15 : decode cX3_save 15 = .ok (.getfield 16, 3) := dk_180 0 16 (dk_at dksX3_save_0 15 rfl rfl)
theorem dX3_save_18 : decode cX3_save 18 = .ok (.iload_n 1, 1) := dk_27 (dk_at dksX3_save_0 18 rfl rfl)
theorem dX3_save_19 : decode cX3_save 19 = .ok (.aload_n 0, 1) := dk_42 (dk_at dksX3_save_0 19 rfl rfl)
theorem dX3_save_20 : decode cX3_save 20 = .ok (.getfield 9, 3) := dk_180 0 9 (dk_at dksX3_save_0 20 rfl rfl)
theorem dX3_save_23 : decode cX3_save 23 = .ok (.iload_n 1, 1) := dk_27 (dk_at dksX3_save_0 23 rfl rfl)
theorem dX3_save_24 : decode cX3_save 24 = .ok (.iaload, 1) := dk_46 (dk_at dksX3_save_1 0 rfl rfl)
theorem dX3_save_25 : decode cX3_save 25 = .ok (.iastore, 1) := dk_79 (dk_at dksX3_save_1 1 rfl rfl)
theorem dX3_save_26 : decode cX3_save 26 = .ok (.iinc 1 1, 3) := dk_132 1 1 (dk_at dksX3_save_1 2 rfl rfl)
theorem dX3_save_29 : decode cX3_save 29 = .ok (.goto (-22), 3) := dk_167 255 234 (dk_at dksX3_save_1 5 rfl rfl)
theorem dX3_save_32 : decode cX3_save 32 = .ok (.aload_n 0, 1) := dk_42 (dk_at dksX3_save_1 8 rfl rfl)
theorem dX3_save_33 : decode cX3_save 33 = .ok (.iconst 1, 1) := dk_4 (dk_at dksX3_save_1 9 rfl rfl)
theorem dX3_save_34 : decode cX3_save 34 = .ok (.putfield 344, 3) := dk_181 1 88 (dk_at dksX3_save_1 10 rfl rfl)
theorem dX3_save_37 : decode cX3_save 37 = .ok (.aload_n 0, 1) := dk_42 (dk_at dksX3_save_1 13 rfl rfl)
theorem dX3_save_38 : decode cX3_save 38 = .ok (.getfield 9, 3) := dk_180 0 9 (dk_at dksX3_save_1 14 rfl rfl)
theorem dX3_save_41 : decode cX3_save 41 = .ok (.iconst 0, 1) := dk_3 (dk_at dksX3_save_1 17 rfl rfl)
theorem dX3_save_42 : decode cX3_save 42 = .ok (.iaload, 1) := dk_46 (dk_at dksX3_save_1 18 rfl rfl)
theorem dX3_save_43 : decode cX3_save 43 = .ok (.ireturn, 1) := dk_172 (dk_at dksX3_save_1 19 rfl rfl)
abbrev cX3_restore : ByteArray := prog_21_method_104_code
def yX3_restore : MethodName := ⟨RX3, "restore", "()I"⟩
def dkwX3_restore_2 : List UInt8 := [181, 0, 85, 42, 180, 0, 9, 3, 46, 172]
abbrev dktX3_restore_2 : List UInt8 := dkwX3_restore_2 ++ []
def dkwX3_restore_1 : List UInt8 := [162, 0, 21, 42, 180, 0, 9, 27, 42, 180, 0, 16, 27, 46, 79, 132, 1, 1, 167, 255, 234, 42, 3]
abbrev dktX3_restore_1 : List UInt8 := dkwX3_restore_1 ++ dktX3_restore_2
def dkwX3_restore_0 : List UInt8 := [42, 3, 181, 0, 69, 42, 180, 1, 88, 154, 0, 9, 42, 4, 182, 0, 81, 172, 3, 60, 27, 17, 1, 156]
abbrev dktX3_restore_0 : List UInt8 := dkwX3_restore_0 ++ dktX3_restore_1
theorem dksX3_restore_0 : cX3_restore.data.toList.drop 0 = dktX3_restore_0 := by decide +kernel
theorem dksX3_restore_1 : cX3_restore.data.toList.drop 24 = dktX3_restore_1 := dk_seg dksX3_restore_0 24 rfl rfl
theorem dksX3_restore_2 : cX3_restore.data.toList.drop 47 = dktX3_restore_2 := dk_seg dksX3_restore_1 23 rfl rfl
theorem dX3_restore_0 : decode cX3_restore 0 = .ok (.aload_n 0, 1) := dk_42 (dk_at dksX3_restore_0 0 rfl rfl)
theorem dX3_restore_1 : decode cX3_restore 1 = .ok (.iconst 0, 1) := dk_3 (dk_at dksX3_restore_0 1 rfl rfl)
theorem dX3_restore_2 : decode cX3_restore 2 = .ok (.putfield 69, 3) := dk_181 0 69 (dk_at dksX3_restore_0 2 rfl rfl)
theorem dX3_restore_5 : decode cX3_restore 5 = .ok (.aload_n 0, 1) := dk_42 (dk_at dksX3_restore_0 5 rfl rfl)
theorem dX3_restore_6 : decode cX3_restore 6 = .ok (.getfield 344, 3) := dk_180 1 88 (dk_at dksX3_restore_0 6 rfl rfl)
theorem dX3_restore_9 : decode cX3_restore 9 = .ok (.ifCond .ne 9, 3) := dk_154 0 9 (dk_at dksX3_restore_0 9 rfl rfl)
theorem dX3_restore_12 : decode cX3_restore 12 = .ok (.aload_n 0, 1) := dk_42 (dk_at dksX3_restore_0 12 rfl rfl)
theorem dX3_restore_13 : decode cX3_restore 13 = .ok (.iconst 1, 1) := dk_4 (dk_at dksX3_restore_0 13 rfl rfl)
theorem dX3_restore_14 : decode cX3_restore 14 = .ok (.invokevirtual 81, 3) := dk_182 0 81 (dk_at dksX3_restore_0 14 rfl rfl)
theorem dX3_restore_17 : decode cX3_restore 17 = .ok (.ireturn, 1) := dk_172 (dk_at dksX3_restore_0 17 rfl rfl)
theorem dX3_restore_18 : decode cX3_restore 18 = .ok (.iconst 0, 1) := dk_3 (dk_at dksX3_restore_0 18 rfl rfl)
theorem dX3_restore_19 : decode cX3_restore 19 = .ok (.istore_n 1, 1) := dk_60 (dk_at dksX3_restore_0 19 rfl rfl)
theorem dX3_restore_20 : decode cX3_restore 20 = .ok (.iload_n 1, 1) := dk_27 (dk_at dksX3_restore_0 20 rfl rfl)
theorem dX3_restore_21 : decode cX3_restore 21 = .ok (.sipush 412, 3) := dk_17 1 156 (dk_at dksX3_restore_0 21 rfl rfl)
theorem dX3_restore_24 : decode cX3_restore 24 = .ok (.if_icmp .ge 21, 3) := dk_162 0 21 (dk_at dksX3_restore_1 0 rfl rfl)
theorem dX3_restore_27 : decode cX3_restore 27 = .ok (.aload_n 0, 1) := dk_42 (dk_at dksX3_restore_1 3 rfl rfl)
theorem dX3_restore_28 : decode cX3_restore 28 = .ok (.getfield 9, 3) := dk_180 0 9 (dk_at dksX3_restore_1 4 rfl rfl)
theorem dX3_restore_31 : decode cX3_restore 31 = .ok (.iload_n 1, 1) := dk_27 (dk_at dksX3_restore_1 7 rfl rfl)
theorem dX3_restore_32 : decode cX3_restore 32 = .ok (.aload_n 0, 1) := dk_42 (dk_at dksX3_restore_1 8 rfl rfl)
theorem dX3_restore_33 : decode cX3_restore 33 = .ok (.getfield 16, 3) := dk_180 0 16 (dk_at dksX3_restore_1 9 rfl rfl)
theorem dX3_restore_36 : decode cX3_restore 36 = .ok (.iload_n 1, 1) := dk_27 (dk_at dksX3_restore_1 12 rfl rfl)
theorem dX3_restore_37 : decode cX3_restore 37 = .ok (.iaload, 1) := dk_46 (dk_at dksX3_restore_1 13 rfl rfl)
theorem dX3_restore_38 : decode cX3_restore 38 = .ok (.iastore, 1) := dk_79 (dk_at dksX3_restore_1 14 rfl rfl)
theorem dX3_restore_39 : decode cX3_restore 39 = .ok (.iinc 1 1, 3) := dk_132 1 1 (dk_at dksX3_restore_1 15 rfl rfl)
theorem dX3_restore_42 : decode cX3_restore 42 = .ok (.goto (-22), 3) := dk_167 255 234 (dk_at dksX3_restore_1 18 rfl rfl)
theorem dX3_restore_45 : decode cX3_restore 45 = .ok (.aload_n 0, 1) := dk_42 (dk_at dksX3_restore_1 21 rfl rfl)
theorem dX3_restore_46 : decode cX3_restore 46 = .ok (.iconst 0, 1) := dk_3 (dk_at dksX3_restore_1 22 rfl rfl)
theorem dX3_restore_47 : decode cX3_restore 47 = .ok (.putfield 85, 3) := dk_181 0 85 (dk_at dksX3_restore_2 0 rfl rfl)
theorem dX3_restore_50 : decode cX3_restore 50 = .ok (.aload_n 0, 1) := dk_42 (dk_at dksX3_restore_2 3 rfl rfl)
theorem dX3_restore_51 : decode cX3_restore 51 = .ok (.getfield 9, 3) := dk_180 0 9 (dk_at dksX3_restore_2 4 rfl rfl)
theorem dX3_restore_54 : decode cX3_restore 54 = .ok (.iconst 0, 1) := dk_3 (dk_at dksX3_restore_2 7 rfl rfl)
theorem dX3_restore_55 : decode cX3_restore 55 = .ok (.iaload, 1) := dk_46 (dk_at dksX3_restore_2 8 rfl rfl)
theorem dX3_restore_56 : decode cX3_restore 56 = .ok (.ireturn, 1) := dk_172 (dk_at dksX3_restore_2 9 rfl rfl)
