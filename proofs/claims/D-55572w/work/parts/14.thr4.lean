set_option maxRecDepth 100000
theorem at_20 : ∀ v ∈ vx_at0 "CoachTimetable" 48 "java/lang/UnsupportedOperationException" exNm, v ∈ lw_all ∨ (v ∈ lw_tbl ∧ isNw v = true) := by decide +kernel
theorem at_21 : ∀ v ∈ vx_at0 "CoachTimetable" 65 "java/util/NoSuchElementException" exNm, v ∈ lw_all ∨ (v ∈ lw_tbl ∧ isNw v = true) := by decide +kernel
theorem at_22 : ∀ v ∈ vx_at0 "CoachTimetable" 68 "java/lang/IllegalStateException" exNm, v ∈ lw_all ∨ (v ∈ lw_tbl ∧ isNw v = true) := by decide +kernel
theorem at_23 : ∀ v ∈ vx_at0 "CoachTimetable" 62 "java/lang/IndexOutOfBoundsException" exNm, v ∈ lw_all ∨ (v ∈ lw_tbl ∧ isNw v = true) := by decide +kernel
theorem at_24 : ∀ v ∈ vx_at0 "CoachTimetable" 59 "java/lang/IllegalArgumentException" exNm, v ∈ lw_all ∨ (v ∈ lw_tbl ∧ isNw v = true) := by decide +kernel
theorem at_25 : ∀ v ∈ vx_at0 "CoachTimetable" 497 "java/lang/ArithmeticException" exNm, v ∈ lw_all ∨ (v ∈ lw_tbl ∧ isNw v = true) := by decide +kernel
