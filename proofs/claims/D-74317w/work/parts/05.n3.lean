/-! RepeatFreeLaw -/
set_option maxRecDepth 100000
def RX0 : String := "RepeatFreeLaw"
abbrev cX0_read : ByteArray := method_3_code
def yX0_read : MethodName := ⟨RX0, "read", "(LRepeatFree;[J)I"⟩
def dkwX0_read_0 : List UInt8 := [43, 3, 42, 182, 0, 7, 133, 80, 167, 0, 6, 77, 4, 172, 3, 172]
abbrev dktX0_read_0 : List UInt8 := dkwX0_read_0 ++ []
theorem dksX0_read_0 : cX0_read.data.toList.drop 0 = dktX0_read_0 := by decide +kernel
theorem dX0_read_0 : decode cX0_read 0 = .ok (.aload_n 1, 1) := dk_43 (dk_at dksX0_read_0 0 rfl rfl)
theorem dX0_read_1 : decode cX0_read 1 = .ok (.iconst 0, 1) := dk_3 (dk_at dksX0_read_0 1 rfl rfl)
theorem dX0_read_2 : decode cX0_read 2 = .ok (.aload_n 0, 1) := dk_42 (dk_at dksX0_read_0 2 rfl rfl)
theorem dX0_read_3 : decode cX0_read 3 = .ok (.invokevirtual 7, 3) := dk_182 0 7 (dk_at dksX0_read_0 3 rfl rfl)
theorem dX0_read_6 : decode cX0_read 6 = .ok (.i2l, 1) := dk_133 (dk_at dksX0_read_0 6 rfl rfl)
theorem dX0_read_7 : decode cX0_read 7 = .ok (.lastore, 1) := dk_80 (dk_at dksX0_read_0 7 rfl rfl)
theorem dX0_read_8 : decode cX0_read 8 = .ok (.goto 6, 3) := dk_167 0 6 (dk_at dksX0_read_0 8 rfl rfl)
theorem dX0_read_11 : decode cX0_read 11 = .ok (.astore_n 2, 1) := dk_77 (dk_at dksX0_read_0 11 rfl rfl)
theorem dX0_read_12 : decode cX0_read 12 = .ok (.iconst 1, 1) := dk_4 (dk_at dksX0_read_0 12 rfl rfl)
theorem dX0_read_13 : decode cX0_read 13 = .ok (.ireturn, 1) := dk_172 (dk_at dksX0_read_0 13 rfl rfl)
theorem dX0_read_14 : decode cX0_read 14 = .ok (.iconst 0, 1) := dk_3 (dk_at dksX0_read_0 14 rfl rfl)
theorem dX0_read_15 : decode cX0_read 15 = .ok (.ireturn, 1) := dk_172 (dk_at dksX0_read_0 15 rfl rfl)
abbrev cX0_word : ByteArray := method_4_code
def yX0_word : MethodName := ⟨RX0, "word", "(LRepeatFree;[J)I"⟩
def dkwX0_word_0 : List UInt8 := [43, 3, 42, 182, 0, 15, 133, 80, 167, 0, 6, 77, 4, 172, 3, 172]
abbrev dktX0_word_0 : List UInt8 := dkwX0_word_0 ++ []
theorem dksX0_word_0 : cX0_word.data.toList.drop 0 = dktX0_word_0 := by decide +kernel
theorem dX0_word_0 : decode cX0_word 0 = .ok (.aload_n 1, 1) := dk_43 (dk_at dksX0_word_0 0 rfl rfl)
theorem dX0_word_1 : decode cX0_word 1 = .ok (.iconst 0, 1) := dk_3 (dk_at dksX0_word_0 1 rfl rfl)
theorem dX0_word_2 : decode cX0_word 2 = .ok (.aload_n 0, 1) := dk_42 (dk_at dksX0_word_0 2 rfl rfl)
theorem dX0_word_3 : decode cX0_word 3 = .ok (.invokevirtual 15, 3) := dk_182 0 15 (dk_at dksX0_word_0 3 rfl rfl)
theorem dX0_word_6 : decode cX0_word 6 = .ok (.i2l, 1) := dk_133 (dk_at dksX0_word_0 6 rfl rfl)
theorem dX0_word_7 : decode cX0_word 7 = .ok (.lastore, 1) := dk_80 (dk_at dksX0_word_0 7 rfl rfl)
theorem dX0_word_8 : decode cX0_word 8 = .ok (.goto 6, 3) := dk_167 0 6 (dk_at dksX0_word_0 8 rfl rfl)
theorem dX0_word_11 : decode cX0_word 11 = .ok (.astore_n 2, 1) := dk_77 (dk_at dksX0_word_0 11 rfl rfl)
theorem dX0_word_12 : decode cX0_word 12 = .ok (.iconst 1, 1) := dk_4 (dk_at dksX0_word_0 12 rfl rfl)
theorem dX0_word_13 : decode cX0_word 13 = .ok (.ireturn, 1) := dk_172 (dk_at dksX0_word_0 13 rfl rfl)
theorem dX0_word_14 : decode cX0_word 14 = .ok (.iconst 0, 1) := dk_3 (dk_at dksX0_word_0 14 rfl rfl)
theorem dX0_word_15 : decode cX0_word 15 = .ok (.ireturn, 1) := dk_172 (dk_at dksX0_word_0 15 rfl rfl)
abbrev cX0_push : ByteArray := method_5_code
def yX0_push : MethodName := ⟨RX0, "push", "(LRepeatFree;I[J)I"⟩
def dkwX0_push_0 : List UInt8 := [44, 3, 42, 27, 182, 0, 18, 133, 80, 167, 0, 9, 78, 4, 172, 78, 5, 172, 3, 172]
abbrev dktX0_push_0 : List UInt8 := dkwX0_push_0 ++ []
theorem dksX0_push_0 : cX0_push.data.toList.drop 0 = dktX0_push_0 := by decide +kernel
theorem dX0_push_0 : decode cX0_push 0 = .ok (.aload_n 2, 1) := dk_44 (dk_at dksX0_push_0 0 rfl rfl)
theorem dX0_push_1 : decode cX0_push 1 = .ok (.iconst 0, 1) := dk_3 (dk_at dksX0_push_0 1 rfl rfl)
theorem dX0_push_2 : decode cX0_push 2 = .ok (.aload_n 0, 1) := dk_42 (dk_at dksX0_push_0 2 rfl rfl)
theorem dX0_push_3 : decode cX0_push 3 = .ok (.iload_n 1, 1) := dk_27 (dk_at dksX0_push_0 3 rfl rfl)
theorem dX0_push_4 : decode cX0_push 4 = .ok (.invokevirtual 18, 3) := dk_182 0 18 (dk_at dksX0_push_0 4 rfl rfl)
theorem dX0_push_7 : decode cX0_push 7 = .ok (.i2l, 1) := dk_133 (dk_at dksX0_push_0 7 rfl rfl)
theorem dX0_push_8 : decode cX0_push 8 = .ok (.lastore, 1) := dk_80 (dk_at dksX0_push_0 8 rfl rfl)
theorem dX0_push_9 : decode cX0_push 9 = .ok (.goto 9, 3) := dk_167 0 9 (dk_at dksX0_push_0 9 rfl rfl)
theorem dX0_push_12 : decode cX0_push 12 = .ok (.astore_n 3, 1) := dk_78 (dk_at dksX0_push_0 12 rfl rfl)
theorem dX0_push_13 : decode cX0_push 13 = .ok (.iconst 1, 1) := dk_4 (dk_at dksX0_push_0 13 rfl rfl)
theorem dX0_push_14 : decode cX0_push 14 = .ok (.ireturn, 1) := dk_172 (dk_at dksX0_push_0 14 rfl rfl)
theorem dX0_push_15 : decode cX0_push 15 = .ok (.astore_n 3, 1) := dk_78 (dk_at dksX0_push_0 15 rfl rfl)
theorem dX0_push_16 : decode cX0_push 16 = .ok (.iconst 2, 1) := dk_5 (dk_at dksX0_push_0 16 rfl rfl)
theorem dX0_push_17 : decode cX0_push 17 = .ok (.ireturn, 1) := dk_172 (dk_at dksX0_push_0 17 rfl rfl)
theorem dX0_push_18 : decode cX0_push 18 = .ok (.iconst 0, 1) := dk_3 (dk_at dksX0_push_0 18 rfl rfl)
theorem dX0_push_19 : decode cX0_push 19 = .ok (.ireturn, 1) := dk_172 (dk_at dksX0_push_0 19 rfl rfl)
abbrev cX0_pop : ByteArray := method_6_code
def yX0_pop : MethodName := ⟨RX0, "pop", "(LRepeatFree;[J)I"⟩
def dkwX0_pop_0 : List UInt8 := [43, 3, 42, 182, 0, 24, 133, 80, 167, 0, 6, 77, 4, 172, 3, 172]
abbrev dktX0_pop_0 : List UInt8 := dkwX0_pop_0 ++ []
theorem dksX0_pop_0 : cX0_pop.data.toList.drop 0 = dktX0_pop_0 := by decide +kernel
theorem dX0_pop_0 : decode cX0_pop 0 = .ok (.aload_n 1, 1) := dk_43 (dk_at dksX0_pop_0 0 rfl rfl)
theorem dX0_pop_1 : decode cX0_pop 1 = .ok (.iconst 0, 1) := dk_3 (dk_at dksX0_pop_0 1 rfl rfl)
theorem dX0_pop_2 : decode cX0_pop 2 = .ok (.aload_n 0, 1) := dk_42 (dk_at dksX0_pop_0 2 rfl rfl)
theorem dX0_pop_3 : decode cX0_pop 3 = .ok (.invokevirtual 24, 3) := dk_182 0 24 (dk_at dksX0_pop_0 3 rfl rfl)
theorem dX0_pop_6 : decode cX0_pop 6 = .ok (.i2l, 1) := dk_133 (dk_at dksX0_pop_0 6 rfl rfl)
theorem dX0_pop_7 : decode cX0_pop 7 = .ok (.lastore, 1) := dk_80 (dk_at dksX0_pop_0 7 rfl rfl)
theorem dX0_pop_8 : decode cX0_pop 8 = .ok (.goto 6, 3) := dk_167 0 6 (dk_at dksX0_pop_0 8 rfl rfl)
theorem dX0_pop_11 : decode cX0_pop 11 = .ok (.astore_n 2, 1) := dk_77 (dk_at dksX0_pop_0 11 rfl rfl)
theorem dX0_pop_12 : decode cX0_pop 12 = .ok (.iconst 1, 1) := dk_4 (dk_at dksX0_pop_0 12 rfl rfl)
theorem dX0_pop_13 : decode cX0_pop 13 = .ok (.ireturn, 1) := dk_172 (dk_at dksX0_pop_0 13 rfl rfl)
theorem dX0_pop_14 : decode cX0_pop 14 = .ok (.iconst 0, 1) := dk_3 (dk_at dksX0_pop_0 14 rfl rfl)
theorem dX0_pop_15 : decode cX0_pop 15 = .ok (.ireturn, 1) := dk_172 (dk_at dksX0_pop_0 15 rfl rfl)
abbrev cX0_greatest : ByteArray := method_7_code
def yX0_greatest : MethodName := ⟨RX0, "greatest", "(LRepeatFree;I[J)I"⟩
def dkwX0_greatest_0 : List UInt8 := [44, 3, 42, 27, 182, 0, 27, 133, 80, 167, 0, 6, 78, 4, 172, 3, 172]
abbrev dktX0_greatest_0 : List UInt8 := dkwX0_greatest_0 ++ []
theorem dksX0_greatest_0 : cX0_greatest.data.toList.drop 0 = dktX0_greatest_0 := by decide +kernel
theorem dX0_greatest_0 : decode cX0_greatest 0 = .ok (.aload_n 2, 1) := dk_44 (dk_at dksX0_greatest_0 0 rfl rfl)
theorem dX0_greatest_1 : decode cX0_greatest 1 = .ok (.iconst 0, 1) := dk_3 (dk_at dksX0_greatest_0 1 rfl rfl)
theorem dX0_greatest_2 : decode cX0_greatest 2 = .ok (.aload_n 0, 1) := dk_42 (dk_at dksX0_greatest_0 2 rfl rfl)
theorem dX0_greatest_3 : decode cX0_greatest 3 = .ok (.iload_n 1, 1) := dk_27 (dk_at dksX0_greatest_0 3 rfl rfl)
theorem dX0_greatest_4 : decode cX0_greatest 4 = .ok (.invokevirtual 27, 3) := dk_182 0 27 (dk_at dksX0_greatest_0 4 rfl rfl)
theorem dX0_greatest_7 : decode cX0_greatest 7 = .ok (.i2l, 1) := dk_133 (dk_at dksX0_greatest_0 7 rfl rfl)
theorem dX0_greatest_8 : decode cX0_greatest 8 = .ok (.lastore, 1) := dk_80 (dk_at dksX0_greatest_0 8 rfl rfl)
theorem dX0_greatest_9 : decode cX0_greatest 9 = .ok (.goto 6, 3) := dk_167 0 6 (dk_at dksX0_greatest_0 9 rfl rfl)
theorem dX0_greatest_12 : decode cX0_greatest 12 = .ok (.astore_n 3, 1) := dk_78 (dk_at dksX0_greatest_0 12 rfl rfl)
theorem dX0_greatest_13 : decode cX0_greatest 13 = .ok (.iconst 1, 1) := dk_4 (dk_at dksX0_greatest_0 13 rfl rfl)
theorem dX0_greatest_14 : decode cX0_greatest 14 = .ok (.ireturn, 1) := dk_172 (dk_at dksX0_greatest_0 14 rfl rfl)
theorem dX0_greatest_15 : decode cX0_greatest 15 = .ok (.iconst 0, 1) := dk_3 (dk_at dksX0_greatest_0 15 rfl rfl)
theorem dX0_greatest_16 : decode cX0_greatest 16 = .ok (.ireturn, 1) := dk_172 (dk_at dksX0_greatest_0 16 rfl rfl)
abbrev cX0_run : ByteArray := method_8_code
def yX0_run : MethodName := ⟨RX0, "run", "(LRepeatFree;II[J)I"⟩
def dkwX0_run_0 : List UInt8 := [45, 3, 42, 27, 28, 182, 0, 32, 133, 80, 167, 0, 7, 58, 4, 4, 172, 3, 172]
abbrev dktX0_run_0 : List UInt8 := dkwX0_run_0 ++ []
theorem dksX0_run_0 : cX0_run.data.toList.drop 0 = dktX0_run_0 := by decide +kernel
theorem dX0_run_0 : decode cX0_run 0 = .ok (.aload_n 3, 1) := dk_45 (dk_at dksX0_run_0 0 rfl rfl)
theorem dX0_run_1 : decode cX0_run 1 = .ok (.iconst 0, 1) := dk_3 (dk_at dksX0_run_0 1 rfl rfl)
theorem dX0_run_2 : decode cX0_run 2 = .ok (.aload_n 0, 1) := dk_42 (dk_at dksX0_run_0 2 rfl rfl)
theorem dX0_run_3 : decode cX0_run 3 = .ok (.iload_n 1, 1) := dk_27 (dk_at dksX0_run_0 3 rfl rfl)
theorem dX0_run_4 : decode cX0_run 4 = .ok (.iload_n 2, 1) := dk_28 (dk_at dksX0_run_0 4 rfl rfl)
theorem dX0_run_5 : decode cX0_run 5 = .ok (.invokevirtual 32, 3) := dk_182 0 32 (dk_at dksX0_run_0 5 rfl rfl)
theorem dX0_run_8 : decode cX0_run 8 = .ok (.i2l, 1) := dk_133 (dk_at dksX0_run_0 8 rfl rfl)
theorem dX0_run_9 : decode cX0_run 9 = .ok (.lastore, 1) := dk_80 (dk_at dksX0_run_0 9 rfl rfl)
theorem dX0_run_10 : decode cX0_run 10 = .ok (.goto 7, 3) := dk_167 0 7 (dk_at dksX0_run_0 10 rfl rfl)
theorem dX0_run_13 : decode cX0_run 13 = .ok (.astore 4, 2) := dk_58 4 (dk_at dksX0_run_0 13 rfl rfl)
theorem dX0_run_15 : decode cX0_run 15 = .ok (.iconst 1, 1) := dk_4 (dk_at dksX0_run_0 15 rfl rfl)
theorem dX0_run_16 : decode cX0_run 16 = .ok (.ireturn, 1) := dk_172 (dk_at dksX0_run_0 16 rfl rfl)
theorem dX0_run_17 : decode cX0_run 17 = .ok (.iconst 0, 1) := dk_3 (dk_at dksX0_run_0 17 rfl rfl)
theorem dX0_run_18 : decode cX0_run 18 = .ok (.ireturn, 1) := dk_172 (dk_at dksX0_run_0 18 rfl rfl)
abbrev cX0_factors : ByteArray := method_9_code
def yX0_factors : MethodName := ⟨RX0, "factors", "(LRepeatFree;I[J)I"⟩
def dkwX0_factors_0 : List UInt8 := [44, 3, 42, 27, 182, 0, 36, 133, 80, 167, 0, 6, 78, 4, 172, 3, 172]
abbrev dktX0_factors_0 : List UInt8 := dkwX0_factors_0 ++ []
theorem dksX0_factors_0 : cX0_factors.data.toList.drop 0 = dktX0_factors_0 := by decide +kernel
theorem dX0_factors_0 : decode cX0_factors 0 = .ok (.aload_n 2, 1) := dk_44 (dk_at dksX0_factors_0 0 rfl rfl)
theorem dX0_factors_1 : decode cX0_factors 1 = .ok (.iconst 0, 1) := dk_3 (dk_at dksX0_factors_0 1 rfl rfl)
theorem dX0_factors_2 : decode cX0_factors 2 = .ok (.aload_n 0, 1) := dk_42 (dk_at dksX0_factors_0 2 rfl rfl)
theorem dX0_factors_3 : decode cX0_factors 3 = .ok (.iload_n 1, 1) := dk_27 (dk_at dksX0_factors_0 3 rfl rfl)
theorem dX0_factors_4 : decode cX0_factors 4 = .ok (.invokevirtual 36, 3) := dk_182 0 36 (dk_at dksX0_factors_0 4 rfl rfl)
theorem dX0_factors_7 : decode cX0_factors 7 = .ok (.i2l, 1) := dk_133 (dk_at dksX0_factors_0 7 rfl rfl)
theorem dX0_factors_8 : decode cX0_factors 8 = .ok (.lastore, 1) := dk_80 (dk_at dksX0_factors_0 8 rfl rfl)
theorem dX0_factors_9 : decode cX0_factors 9 = .ok (.goto 6, 3) := dk_167 0 6 (dk_at dksX0_factors_0 9 rfl rfl)
theorem dX0_factors_12 : decode cX0_factors 12 = .ok (.astore_n 3, 1) := dk_78 (dk_at dksX0_factors_0 12 rfl rfl)
theorem dX0_factors_13 : decode cX0_factors 13 = .ok (.iconst 1, 1) := dk_4 (dk_at dksX0_factors_0 13 rfl rfl)
theorem dX0_factors_14 : decode cX0_factors 14 = .ok (.ireturn, 1) := dk_172 (dk_at dksX0_factors_0 14 rfl rfl)
theorem dX0_factors_15 : decode cX0_factors 15 = .ok (.iconst 0, 1) := dk_3 (dk_at dksX0_factors_0 15 rfl rfl)
theorem dX0_factors_16 : decode cX0_factors 16 = .ok (.ireturn, 1) := dk_172 (dk_at dksX0_factors_0 16 rfl rfl)
abbrev cX0_met : ByteArray := method_10_code
def yX0_met : MethodName := ⟨RX0, "met", "(LRepeatFree;II[J)I"⟩
def dkwX0_met_0 : List UInt8 := [45, 3, 42, 27, 28, 182, 0, 39, 133, 80, 167, 0, 11, 58, 4, 4, 172, 58, 4, 5, 172, 3, 172]
abbrev dktX0_met_0 : List UInt8 := dkwX0_met_0 ++ []
theorem dksX0_met_0 : cX0_met.data.toList.drop 0 = dktX0_met_0 := by decide +kernel
theorem dX0_met_0 : decode cX0_met 0 = .ok (.aload_n 3, 1) := dk_45 (dk_at dksX0_met_0 0 rfl rfl)
theorem dX0_met_1 : decode cX0_met 1 = .ok (.iconst 0, 1) := dk_3 (dk_at dksX0_met_0 1 rfl rfl)
theorem dX0_met_2 : decode cX0_met 2 = .ok (.aload_n 0, 1) := dk_42 (dk_at dksX0_met_0 2 rfl rfl)
theorem dX0_met_3 : decode cX0_met 3 = .ok (.iload_n 1, 1) := dk_27 (dk_at dksX0_met_0 3 rfl rfl)
theorem dX0_met_4 : decode cX0_met 4 = .ok (.iload_n 2, 1) := dk_28 (dk_at dksX0_met_0 4 rfl rfl)
theorem dX0_met_5 : decode cX0_met 5 = .ok (.invokevirtual 39, 3) := dk_182 0 39 (dk_at dksX0_met_0 5 rfl rfl)
theorem dX0_met_8 : decode cX0_met 8 = .ok (.i2l, 1) := dk_133 (dk_at dksX0_met_0 8 rfl rfl)
theorem dX0_met_9 : decode cX0_met 9 = .ok (.lastore, 1) := dk_80 (dk_at dksX0_met_0 9 rfl rfl)
theorem dX0_met_10 : decode cX0_met 10 = .ok (.goto 11, 3) := dk_167 0 11 (dk_at dksX0_met_0 10 rfl rfl)
theorem dX0_met_13 : decode cX0_met 13 = .ok (.astore 4, 2) := dk_58 4 (dk_at dksX0_met_0 13 rfl rfl)
theorem dX0_met_15 : decode cX0_met 15 = .ok (.iconst 1, 1) := dk_4 (dk_at dksX0_met_0 15 rfl rfl)
theorem dX0_met_16 : decode cX0_met 16 = .ok (.ireturn, 1) := dk_172 (dk_at dksX0_met_0 16 rfl rfl)
theorem dX0_met_17 : decode cX0_met 17 = .ok (.astore 4, 2) := dk_58 4 (dk_at dksX0_met_0 17 rfl rfl)
theorem dX0_met_19 : decode cX0_met 19 = .ok (.iconst 2, 1) := dk_5 (dk_at dksX0_met_0 19 rfl rfl)
theorem dX0_met_20 : decode cX0_met 20 = .ok (.ireturn, 1) := dk_172 (dk_at dksX0_met_0 20 rfl rfl)
theorem dX0_met_21 : decode cX0_met 21 = .ok (.iconst 0, 1) := dk_3 (dk_at dksX0_met_0 21 rfl rfl)
theorem dX0_met_22 : decode cX0_met 22 = .ok (.ireturn, 1) := dk_172 (dk_at dksX0_met_0 22 rfl rfl)
abbrev cX0_first : ByteArray := method_11_code
def yX0_first : MethodName := ⟨RX0, "first", "(LRepeatFree;I[J)I"⟩
def dkwX0_first_0 : List UInt8 := [44, 3, 42, 27, 182, 0, 44, 133, 80, 167, 0, 6, 78, 4, 172, 3, 172]
abbrev dktX0_first_0 : List UInt8 := dkwX0_first_0 ++ []
theorem dksX0_first_0 : cX0_first.data.toList.drop 0 = dktX0_first_0 := by decide +kernel
theorem dX0_first_0 : decode cX0_first 0 = .ok (.aload_n 2, 1) := dk_44 (dk_at dksX0_first_0 0 rfl rfl)
theorem dX0_first_1 : decode cX0_first 1 = .ok (.iconst 0, 1) := dk_3 (dk_at dksX0_first_0 1 rfl rfl)
theorem dX0_first_2 : decode cX0_first 2 = .ok (.aload_n 0, 1) := dk_42 (dk_at dksX0_first_0 2 rfl rfl)
theorem dX0_first_3 : decode cX0_first 3 = .ok (.iload_n 1, 1) := dk_27 (dk_at dksX0_first_0 3 rfl rfl)
theorem dX0_first_4 : decode cX0_first 4 = .ok (.invokevirtual 44, 3) := dk_182 0 44 (dk_at dksX0_first_0 4 rfl rfl)
theorem dX0_first_7 : decode cX0_first 7 = .ok (.i2l, 1) := dk_133 (dk_at dksX0_first_0 7 rfl rfl)
theorem dX0_first_8 : decode cX0_first 8 = .ok (.lastore, 1) := dk_80 (dk_at dksX0_first_0 8 rfl rfl)
theorem dX0_first_9 : decode cX0_first 9 = .ok (.goto 6, 3) := dk_167 0 6 (dk_at dksX0_first_0 9 rfl rfl)
theorem dX0_first_12 : decode cX0_first 12 = .ok (.astore_n 3, 1) := dk_78 (dk_at dksX0_first_0 12 rfl rfl)
theorem dX0_first_13 : decode cX0_first 13 = .ok (.iconst 1, 1) := dk_4 (dk_at dksX0_first_0 13 rfl rfl)
theorem dX0_first_14 : decode cX0_first 14 = .ok (.ireturn, 1) := dk_172 (dk_at dksX0_first_0 14 rfl rfl)
theorem dX0_first_15 : decode cX0_first 15 = .ok (.iconst 0, 1) := dk_3 (dk_at dksX0_first_0 15 rfl rfl)
theorem dX0_first_16 : decode cX0_first 16 = .ok (.ireturn, 1) := dk_172 (dk_at dksX0_first_0 16 rfl rfl)
abbrev cX0_next : ByteArray := method_12_code
def yX0_next : MethodName := ⟨RX0, "next", "(LRepeatFree;[J)I"⟩
def dkwX0_next_0 : List UInt8 := [43, 3, 42, 182, 0, 47, 133, 80, 167, 0, 6, 77, 4, 172, 3, 172]
abbrev dktX0_next_0 : List UInt8 := dkwX0_next_0 ++ []
theorem dksX0_next_0 : cX0_next.data.toList.drop 0 = dktX0_next_0 := by decide +kernel
theorem dX0_next_0 : decode cX0_next 0 = .ok (.aload_n 1, 1) := dk_43 (dk_at dksX0_next_0 0 rfl rfl)
theorem dX0_next_1 : decode cX0_next 1 = .ok (.iconst 0, 1) := dk_3 (dk_at dksX0_next_0 1 rfl rfl)
theorem dX0_next_2 : decode cX0_next 2 = .ok (.aload_n 0, 1) := dk_42 (dk_at dksX0_next_0 2 rfl rfl)
theorem dX0_next_3 : decode cX0_next 3 = .ok (.invokevirtual 47, 3) := dk_182 0 47 (dk_at dksX0_next_0 3 rfl rfl)
theorem dX0_next_6 : decode cX0_next 6 = .ok (.i2l, 1) := dk_133 (dk_at dksX0_next_0 6 rfl rfl)
theorem dX0_next_7 : decode cX0_next 7 = .ok (.lastore, 1) := dk_80 (dk_at dksX0_next_0 7 rfl rfl)
theorem dX0_next_8 : decode cX0_next 8 = .ok (.goto 6, 3) := dk_167 0 6 (dk_at dksX0_next_0 8 rfl rfl)
theorem dX0_next_11 : decode cX0_next 11 = .ok (.astore_n 2, 1) := dk_77 (dk_at dksX0_next_0 11 rfl rfl)
theorem dX0_next_12 : decode cX0_next 12 = .ok (.iconst 1, 1) := dk_4 (dk_at dksX0_next_0 12 rfl rfl)
theorem dX0_next_13 : decode cX0_next 13 = .ok (.ireturn, 1) := dk_172 (dk_at dksX0_next_0 13 rfl rfl)
theorem dX0_next_14 : decode cX0_next 14 = .ok (.iconst 0, 1) := dk_3 (dk_at dksX0_next_0 14 rfl rfl)
theorem dX0_next_15 : decode cX0_next 15 = .ok (.ireturn, 1) := dk_172 (dk_at dksX0_next_0 15 rfl rfl)
abbrev cX0_many : ByteArray := method_13_code
def yX0_many : MethodName := ⟨RX0, "many", "(LRepeatFree;I[J)I"⟩
def dkwX0_many_0 : List UInt8 := [44, 3, 42, 27, 182, 0, 50, 133, 80, 167, 0, 6, 78, 4, 172, 3, 172]
abbrev dktX0_many_0 : List UInt8 := dkwX0_many_0 ++ []
theorem dksX0_many_0 : cX0_many.data.toList.drop 0 = dktX0_many_0 := by decide +kernel
theorem dX0_many_0 : decode cX0_many 0 = .ok (.aload_n 2, 1) := dk_44 (dk_at dksX0_many_0 0 rfl rfl)
theorem dX0_many_1 : decode cX0_many 1 = .ok (.iconst 0, 1) := dk_3 (dk_at dksX0_many_0 1 rfl rfl)
theorem dX0_many_2 : decode cX0_many 2 = .ok (.aload_n 0, 1) := dk_42 (dk_at dksX0_many_0 2 rfl rfl)
theorem dX0_many_3 : decode cX0_many 3 = .ok (.iload_n 1, 1) := dk_27 (dk_at dksX0_many_0 3 rfl rfl)
theorem dX0_many_4 : decode cX0_many 4 = .ok (.invokevirtual 50, 3) := dk_182 0 50 (dk_at dksX0_many_0 4 rfl rfl)
theorem dX0_many_7 : decode cX0_many 7 = .ok (.i2l, 1) := dk_133 (dk_at dksX0_many_0 7 rfl rfl)
theorem dX0_many_8 : decode cX0_many 8 = .ok (.lastore, 1) := dk_80 (dk_at dksX0_many_0 8 rfl rfl)
theorem dX0_many_9 : decode cX0_many 9 = .ok (.goto 6, 3) := dk_167 0 6 (dk_at dksX0_many_0 9 rfl rfl)
theorem dX0_many_12 : decode cX0_many 12 = .ok (.astore_n 3, 1) := dk_78 (dk_at dksX0_many_0 12 rfl rfl)
theorem dX0_many_13 : decode cX0_many 13 = .ok (.iconst 1, 1) := dk_4 (dk_at dksX0_many_0 13 rfl rfl)
theorem dX0_many_14 : decode cX0_many 14 = .ok (.ireturn, 1) := dk_172 (dk_at dksX0_many_0 14 rfl rfl)
theorem dX0_many_15 : decode cX0_many 15 = .ok (.iconst 0, 1) := dk_3 (dk_at dksX0_many_0 15 rfl rfl)
theorem dX0_many_16 : decode cX0_many 16 = .ok (.ireturn, 1) := dk_172 (dk_at dksX0_many_0 16 rfl rfl)
abbrev cX0_growth : ByteArray := method_14_code
def yX0_growth : MethodName := ⟨RX0, "growth", "(LRepeatFree;I[J)I"⟩
def dkwX0_growth_0 : List UInt8 := [44, 3, 42, 27, 182, 0, 53, 133, 80, 167, 0, 6, 78, 4, 172, 3, 172]
abbrev dktX0_growth_0 : List UInt8 := dkwX0_growth_0 ++ []
theorem dksX0_growth_0 : cX0_growth.data.toList.drop 0 = dktX0_growth_0 := by decide +kernel
theorem dX0_growth_0 : decode cX0_growth 0 = .ok (.aload_n 2, 1) := dk_44 (dk_at dksX0_growth_0 0 rfl rfl)
theorem dX0_growth_1 : decode cX0_growth 1 = .ok (.iconst 0, 1) := dk_3 (dk_at dksX0_growth_0 1 rfl rfl)
theorem dX0_growth_2 : decode cX0_growth 2 = .ok (.aload_n 0, 1) := dk_42 (dk_at dksX0_growth_0 2 rfl rfl)
theorem dX0_growth_3 : decode cX0_growth 3 = .ok (.iload_n 1, 1) := dk_27 (dk_at dksX0_growth_0 3 rfl rfl)
theorem dX0_growth_4 : decode cX0_growth 4 = .ok (.invokevirtual 53, 3) := dk_182 0 53 (dk_at dksX0_growth_0 4 rfl rfl)
theorem dX0_growth_7 : decode cX0_growth 7 = .ok (.i2l, 1) := dk_133 (dk_at dksX0_growth_0 7 rfl rfl)
theorem dX0_growth_8 : decode cX0_growth 8 = .ok (.lastore, 1) := dk_80 (dk_at dksX0_growth_0 8 rfl rfl)
theorem dX0_growth_9 : decode cX0_growth 9 = .ok (.goto 6, 3) := dk_167 0 6 (dk_at dksX0_growth_0 9 rfl rfl)
theorem dX0_growth_12 : decode cX0_growth 12 = .ok (.astore_n 3, 1) := dk_78 (dk_at dksX0_growth_0 12 rfl rfl)
theorem dX0_growth_13 : decode cX0_growth 13 = .ok (.iconst 1, 1) := dk_4 (dk_at dksX0_growth_0 13 rfl rfl)
theorem dX0_growth_14 : decode cX0_growth 14 = .ok (.ireturn, 1) := dk_172 (dk_at dksX0_growth_0 14 rfl rfl)
theorem dX0_growth_15 : decode cX0_growth 15 = .ok (.iconst 0, 1) := dk_3 (dk_at dksX0_growth_0 15 rfl rfl)
theorem dX0_growth_16 : decode cX0_growth 16 = .ok (.ireturn, 1) := dk_172 (dk_at dksX0_growth_0 16 rfl rfl)
abbrev cX0_image : ByteArray := method_15_code
def yX0_image : MethodName := ⟨RX0, "image", "(LRepeatFree;I[J)I"⟩
def dkwX0_image_0 : List UInt8 := [44, 3, 42, 27, 182, 0, 56, 133, 80, 167, 0, 9, 78, 4, 172, 78, 5, 172, 3, 172]
abbrev dktX0_image_0 : List UInt8 := dkwX0_image_0 ++ []
theorem dksX0_image_0 : cX0_image.data.toList.drop 0 = dktX0_image_0 := by decide +kernel
theorem dX0_image_0 : decode cX0_image 0 = .ok (.aload_n 2, 1) := dk_44 (dk_at dksX0_image_0 0 rfl rfl)
theorem dX0_image_1 : decode cX0_image 1 = .ok (.iconst 0, 1) := dk_3 (dk_at dksX0_image_0 1 rfl rfl)
theorem dX0_image_2 : decode cX0_image 2 = .ok (.aload_n 0, 1) := dk_42 (dk_at dksX0_image_0 2 rfl rfl)
theorem dX0_image_3 : decode cX0_image 3 = .ok (.iload_n 1, 1) := dk_27 (dk_at dksX0_image_0 3 rfl rfl)
theorem dX0_image_4 : decode cX0_image 4 = .ok (.invokevirtual 56, 3) := dk_182 0 56 (dk_at dksX0_image_0 4 rfl rfl)
theorem dX0_image_7 : decode cX0_image 7 = .ok (.i2l, 1) := dk_133 (dk_at dksX0_image_0 7 rfl rfl)
theorem dX0_image_8 : decode cX0_image 8 = .ok (.lastore, 1) := dk_80 (dk_at dksX0_image_0 8 rfl rfl)
theorem dX0_image_9 : decode cX0_image 9 = .ok (.goto 9, 3) := dk_167 0 9 (dk_at dksX0_image_0 9 rfl rfl)
theorem dX0_image_12 : decode cX0_image 12 = .ok (.astore_n 3, 1) := dk_78 (dk_at dksX0_image_0 12 rfl rfl)
theorem dX0_image_13 : decode cX0_image 13 = .ok (.iconst 1, 1) := dk_4 (dk_at dksX0_image_0 13 rfl rfl)
theorem dX0_image_14 : decode cX0_image 14 = .ok (.ireturn, 1) := dk_172 (dk_at dksX0_image_0 14 rfl rfl)
theorem dX0_image_15 : decode cX0_image 15 = .ok (.astore_n 3, 1) := dk_78 (dk_at dksX0_image_0 15 rfl rfl)
theorem dX0_image_16 : decode cX0_image 16 = .ok (.iconst 2, 1) := dk_5 (dk_at dksX0_image_0 16 rfl rfl)
theorem dX0_image_17 : decode cX0_image 17 = .ok (.ireturn, 1) := dk_172 (dk_at dksX0_image_0 17 rfl rfl)
theorem dX0_image_18 : decode cX0_image 18 = .ok (.iconst 0, 1) := dk_3 (dk_at dksX0_image_0 18 rfl rfl)
theorem dX0_image_19 : decode cX0_image 19 = .ok (.ireturn, 1) := dk_172 (dk_at dksX0_image_0 19 rfl rfl)
abbrev cX0_imaged : ByteArray := method_16_code
def yX0_imaged : MethodName := ⟨RX0, "imaged", "(LRepeatFree;III[J)I"⟩
def dkwX0_imaged_1 : List UInt8 := [172]
abbrev dktX0_imaged_1 : List UInt8 := dkwX0_imaged_1 ++ []
def dkwX0_imaged_0 : List UInt8 := [25, 4, 3, 42, 27, 28, 29, 182, 0, 59, 133, 80, 167, 0, 11, 58, 5, 4, 172, 58, 5, 5, 172, 3]
abbrev dktX0_imaged_0 : List UInt8 := dkwX0_imaged_0 ++ dktX0_imaged_1
theorem dksX0_imaged_0 : cX0_imaged.data.toList.drop 0 = dktX0_imaged_0 := by decide +kernel
theorem dksX0_imaged_1 : cX0_imaged.data.toList.drop 24 = dktX0_imaged_1 := dk_seg dksX0_imaged_0 24 rfl rfl
theorem dX0_imaged_0 : decode cX0_imaged 0 = .ok (.aload 4, 2) := dk_25 4 (dk_at dksX0_imaged_0 0 rfl rfl)
theorem dX0_imaged_2 : decode cX0_imaged 2 = .ok (.iconst 0, 1) := dk_3 (dk_at dksX0_imaged_0 2 rfl rfl)
theorem dX0_imaged_3 : decode cX0_imaged 3 = .ok (.aload_n 0, 1) := dk_42 (dk_at dksX0_imaged_0 3 rfl rfl)
theorem dX0_imaged_4 : decode cX0_imaged 4 = .ok (.iload_n 1, 1) := dk_27 (dk_at dksX0_imaged_0 4 rfl rfl)
theorem dX0_imaged_5 : decode cX0_imaged 5 = .ok (.iload_n 2, 1) := dk_28 (dk_at dksX0_imaged_0 5 rfl rfl)
theorem dX0_imaged_6 : decode cX0_imaged 6 = .ok (.iload_n 3, 1) := dk_29 (dk_at dksX0_imaged_0 6 rfl rfl)
theorem dX0_imaged_7 : decode cX0_imaged 7 = .ok (.invokevirtual 59, 3) := dk_182 0 59 (dk_at dksX0_imaged_0 7 rfl rfl)
theorem dX0_imaged_10 : decode cX0_imaged 10 = .ok (.i2l, 1) := dk_133 (dk_at dksX0_imaged_0 10 rfl rfl)
theorem dX0_imaged_11 : decode cX0_imaged 11 = .ok (.lastore, 1) := dk_80 (dk_at dksX0_imaged_0 11 rfl rfl)
theorem dX0_imaged_12 : decode cX0_imaged 12 = .ok (.goto 11, 3) := dk_167 0 11 (dk_at dksX0_imaged_0 12 rfl rfl)
theorem dX0_imaged_15 : decode cX0_imaged 15 = .ok (.astore 5, 2) := dk_58 5 (dk_at dksX0_imaged_0 15 rfl rfl)
theorem dX0_imaged_17 : decode cX0_imaged 17 = .ok (.iconst 1, 1) := dk_4 (dk_at dksX0_imaged_0 17 rfl rfl)
theorem dX0_imaged_18 : decode cX0_imaged 18 = .ok (.ireturn, 1) := dk_172 (dk_at dksX0_imaged_0 18 rfl rfl)
theorem dX0_imaged_19 : decode cX0_imaged 19 = .ok (.astore 5, 2) := dk_58 5 (dk_at dksX0_imaged_0 19 rfl rfl)
theorem dX0_imaged_21 : decode cX0_imaged 21 = .ok (.iconst 2, 1) := dk_5 (dk_at dksX0_imaged_0 21 rfl rfl)
theorem dX0_imaged_22 : decode cX0_imaged 22 = .ok (.ireturn, 1) := dk_172 (dk_at dksX0_imaged_0 22 rfl rfl)
theorem dX0_imaged_23 : decode cX0_imaged 23 = .ok (.iconst 0, 1) := dk_3 (dk_at dksX0_imaged_0 23 rfl rfl)
theorem dX0_imaged_24 : decode cX0_imaged 24 = .ok (.ireturn, 1) := dk_172 (dk_at dksX0_imaged_1 0 rfl rfl)
abbrev cX0_length : ByteArray := method_17_code
def yX0_length : MethodName := ⟨RX0, "length", "(LRepeatFree;III[J)I"⟩
def dkwX0_length_0 : List UInt8 := [25, 4, 3, 42, 27, 28, 29, 182, 0, 63, 80, 167, 0, 11, 58, 5, 4, 172, 58, 5, 5, 172, 3, 172]
abbrev dktX0_length_0 : List UInt8 := dkwX0_length_0 ++ []
theorem dksX0_length_0 : cX0_length.data.toList.drop 0 = dktX0_length_0 := by decide +kernel
theorem dX0_length_0 : decode cX0_length 0 = .ok (.aload 4, 2) := dk_25 4 (dk_at dksX0_length_0 0 rfl rfl)
theorem dX0_length_2 : decode cX0_length 2 = .ok (.iconst 0, 1) := dk_3 (dk_at dksX0_length_0 2 rfl rfl)
theorem dX0_length_3 : decode cX0_length 3 = .ok (.aload_n 0, 1) := dk_42 (dk_at dksX0_length_0 3 rfl rfl)
theorem dX0_length_4 : decode cX0_length 4 = .ok (.iload_n 1, 1) := dk_27 (dk_at dksX0_length_0 4 rfl rfl)
theorem dX0_length_5 : decode cX0_length 5 = .ok (.iload_n 2, 1) := dk_28 (dk_at dksX0_length_0 5 rfl rfl)
theorem dX0_length_6 : decode cX0_length 6 = .ok (.iload_n 3, 1) := dk_29 (dk_at dksX0_length_0 6 rfl rfl)
theorem dX0_length_7 : decode cX0_length 7 = .ok (.invokevirtual 63, 3) := dk_182 0 63 (dk_at dksX0_length_0 7 rfl rfl)
theorem dX0_length_10 : decode cX0_length 10 = .ok (.lastore, 1) := dk_80 (dk_at dksX0_length_0 10 rfl rfl)
theorem dX0_length_11 : decode cX0_length 11 = .ok (.goto 11, 3) := dk_167 0 11 (dk_at dksX0_length_0 11 rfl rfl)
theorem dX0_length_14 : decode cX0_length 14 = .ok (.astore 5, 2) := dk_58 5 (dk_at dksX0_length_0 14 rfl rfl)
theorem dX0_length_16 : decode cX0_length 16 = .ok (.iconst 1, 1) := dk_4 (dk_at dksX0_length_0 16 rfl rfl)
theorem dX0_length_17 : decode cX0_length 17 = .ok (.ireturn, 1) := dk_172 (dk_at dksX0_length_0 17 rfl rfl)
theorem dX0_length_18 : decode cX0_length 18 = .ok (.astore 5, 2) := dk_58 5 (dk_at dksX0_length_0 18 rfl rfl)
theorem dX0_length_20 : decode cX0_length 20 = .ok (.iconst 2, 1) := dk_5 (dk_at dksX0_length_0 20 rfl rfl)
theorem dX0_length_21 : decode cX0_length 21 = .ok (.ireturn, 1) := dk_172 (dk_at dksX0_length_0 21 rfl rfl)
theorem dX0_length_22 : decode cX0_length 22 = .ok (.iconst 0, 1) := dk_3 (dk_at dksX0_length_0 22 rfl rfl)
theorem dX0_length_23 : decode cX0_length 23 = .ok (.ireturn, 1) := dk_172 (dk_at dksX0_length_0 23 rfl rfl)
abbrev cX0_power : ByteArray := method_18_code
def yX0_power : MethodName := ⟨RX0, "power", "(LRepeatFree;IIIJ[J)I"⟩
def dkwX0_power_1 : List UInt8 := [172, 3, 172]
abbrev dktX0_power_1 : List UInt8 := dkwX0_power_1 ++ []
def dkwX0_power_0 : List UInt8 := [25, 6, 3, 42, 27, 28, 29, 22, 4, 182, 0, 67, 133, 80, 167, 0, 11, 58, 7, 4, 172, 58, 7, 5]
abbrev dktX0_power_0 : List UInt8 := dkwX0_power_0 ++ dktX0_power_1
theorem dksX0_power_0 : cX0_power.data.toList.drop 0 = dktX0_power_0 := by decide +kernel
theorem dksX0_power_1 : cX0_power.data.toList.drop 24 = dktX0_power_1 := dk_seg dksX0_power_0 24 rfl rfl
theorem dX0_power_0 : decode cX0_power 0 = .ok (.aload 6, 2) := dk_25 6 (dk_at dksX0_power_0 0 rfl rfl)
theorem dX0_power_2 : decode cX0_power 2 = .ok (.iconst 0, 1) := dk_3 (dk_at dksX0_power_0 2 rfl rfl)
theorem dX0_power_3 : decode cX0_power 3 = .ok (.aload_n 0, 1) := dk_42 (dk_at dksX0_power_0 3 rfl rfl)
theorem dX0_power_4 : decode cX0_power 4 = .ok (.iload_n 1, 1) := dk_27 (dk_at dksX0_power_0 4 rfl rfl)
theorem dX0_power_5 : decode cX0_power 5 = .ok (.iload_n 2, 1) := dk_28 (dk_at dksX0_power_0 5 rfl rfl)
theorem dX0_power_6 : decode cX0_power 6 = .ok (.iload_n 3, 1) := dk_29 (dk_at dksX0_power_0 6 rfl rfl)
theorem dX0_power_7 : decode cX0_power 7 = .ok (.lload 4, 2) := dk_22 4 (dk_at dksX0_power_0 7 rfl rfl)
theorem dX0_power_9 : decode cX0_power 9 = .ok (.invokevirtual 67, 3) := dk_182 0 67 (dk_at dksX0_power_0 9 rfl rfl)
theorem dX0_power_12 : decode cX0_power 12 = .ok (.i2l, 1) := dk_133 (dk_at dksX0_power_0 12 rfl rfl)
theorem dX0_power_13 : decode cX0_power 13 = .ok (.lastore, 1) := dk_80 (dk_at dksX0_power_0 13 rfl rfl)
theorem dX0_power_14 : decode cX0_power 14 = .ok (.goto 11, 3) := dk_167 0 11 (dk_at dksX0_power_0 14 rfl rfl)
theorem dX0_power_17 : decode cX0_power 17 = .ok (.astore 7, 2) := dk_58 7 (dk_at dksX0_power_0 17 rfl rfl)
theorem dX0_power_19 : decode cX0_power 19 = .ok (.iconst 1, 1) := dk_4 (dk_at dksX0_power_0 19 rfl rfl)
theorem dX0_power_20 : decode cX0_power 20 = .ok (.ireturn, 1) := dk_172 (dk_at dksX0_power_0 20 rfl rfl)
theorem dX0_power_21 : decode cX0_power 21 = .ok (.astore 7, 2) := dk_58 7 (dk_at dksX0_power_0 21 rfl rfl)
theorem dX0_power_23 : decode cX0_power 23 = .ok (.iconst 2, 1) := dk_5 (dk_at dksX0_power_0 23 rfl rfl)
theorem dX0_power_24 : decode cX0_power 24 = .ok (.ireturn, 1) := dk_172 (dk_at dksX0_power_1 0 rfl rfl)
theorem dX0_power_25 : decode cX0_power 25 = .ok (.iconst 0, 1) := dk_3 (dk_at dksX0_power_1 1 rfl rfl)
theorem dX0_power_26 : decode cX0_power 26 = .ok (.ireturn, 1) := dk_172 (dk_at dksX0_power_1 2 rfl rfl)
abbrev cX0_often : ByteArray := method_19_code
def yX0_often : MethodName := ⟨RX0, "often", "(LRepeatFree;IIII[J)I"⟩
def dkwX0_often_1 : List UInt8 := [3, 172]
abbrev dktX0_often_1 : List UInt8 := dkwX0_often_1 ++ []
def dkwX0_often_0 : List UInt8 := [25, 5, 3, 42, 27, 28, 29, 21, 4, 182, 0, 71, 80, 167, 0, 11, 58, 6, 4, 172, 58, 6, 5, 172]
abbrev dktX0_often_0 : List UInt8 := dkwX0_often_0 ++ dktX0_often_1
theorem dksX0_often_0 : cX0_often.data.toList.drop 0 = dktX0_often_0 := by decide +kernel
theorem dksX0_often_1 : cX0_often.data.toList.drop 24 = dktX0_often_1 := dk_seg dksX0_often_0 24 rfl rfl
theorem dX0_often_0 : decode cX0_often 0 = .ok (.aload 5, 2) := dk_25 5 (dk_at dksX0_often_0 0 rfl rfl)
theorem dX0_often_2 : decode cX0_often 2 = .ok (.iconst 0, 1) := dk_3 (dk_at dksX0_often_0 2 rfl rfl)
theorem dX0_often_3 : decode cX0_often 3 = .ok (.aload_n 0, 1) := dk_42 (dk_at dksX0_often_0 3 rfl rfl)
theorem dX0_often_4 : decode cX0_often 4 = .ok (.iload_n 1, 1) := dk_27 (dk_at dksX0_often_0 4 rfl rfl)
theorem dX0_often_5 : decode cX0_often 5 = .ok (.iload_n 2, 1) := dk_28 (dk_at dksX0_often_0 5 rfl rfl)
theorem dX0_often_6 : decode cX0_often 6 = .ok (.iload_n 3, 1) := dk_29 (dk_at dksX0_often_0 6 rfl rfl)
theorem dX0_often_7 : decode cX0_often 7 = .ok (.iload 4, 2) := dk_21 4 (dk_at dksX0_often_0 7 rfl rfl)
theorem dX0_often_9 : decode cX0_often 9 = .ok (.invokevirtual 71, 3) := dk_182 0 71 (dk_at dksX0_often_0 9 rfl rfl)
theorem dX0_often_12 : decode cX0_often 12 = .ok (.lastore, 1) := dk_80 (dk_at dksX0_often_0 12 rfl rfl)
theorem dX0_often_13 : decode cX0_often 13 = .ok (.goto 11, 3) := dk_167 0 11 (dk_at dksX0_often_0 13 rfl rfl)
theorem dX0_often_16 : decode cX0_often 16 = .ok (.astore 6, 2) := dk_58 6 (dk_at dksX0_often_0 16 rfl rfl)
theorem dX0_often_18 : decode cX0_often 18 = .ok (.iconst 1, 1) := dk_4 (dk_at dksX0_often_0 18 rfl rfl)
theorem dX0_often_19 : decode cX0_often 19 = .ok (.ireturn, 1) := dk_172 (dk_at dksX0_often_0 19 rfl rfl)
theorem dX0_often_20 : decode cX0_often 20 = .ok (.astore 6, 2) := dk_58 6 (dk_at dksX0_often_0 20 rfl rfl)
theorem dX0_often_22 : decode cX0_often 22 = .ok (.iconst 2, 1) := dk_5 (dk_at dksX0_often_0 22 rfl rfl)
theorem dX0_often_23 : decode cX0_often 23 = .ok (.ireturn, 1) := dk_172 (dk_at dksX0_often_0 23 rfl rfl)
theorem dX0_often_24 : decode cX0_often 24 = .ok (.iconst 0, 1) := dk_3 (dk_at dksX0_often_1 0 rfl rfl)
theorem dX0_often_25 : decode cX0_often 25 = .ok (.ireturn, 1) := dk_172 (dk_at dksX0_often_1 1 rfl rfl)
abbrev cX0_keeps : ByteArray := method_20_code
def yX0_keeps : MethodName := ⟨RX0, "keeps", "(LRepeatFree;II[J)I"⟩
def dkwX0_keeps_0 : List UInt8 := [45, 3, 42, 27, 28, 182, 0, 75, 133, 80, 167, 0, 11, 58, 4, 4, 172, 58, 4, 5, 172, 3, 172]
abbrev dktX0_keeps_0 : List UInt8 := dkwX0_keeps_0 ++ []
theorem dksX0_keeps_0 : cX0_keeps.data.toList.drop 0 = dktX0_keeps_0 := by decide +kernel
theorem dX0_keeps_0 : decode cX0_keeps 0 = .ok (.aload_n 3, 1) := dk_45 (dk_at dksX0_keeps_0 0 rfl rfl)
theorem dX0_keeps_1 : decode cX0_keeps 1 = .ok (.iconst 0, 1) := dk_3 (dk_at dksX0_keeps_0 1 rfl rfl)
theorem dX0_keeps_2 : decode cX0_keeps 2 = .ok (.aload_n 0, 1) := dk_42 (dk_at dksX0_keeps_0 2 rfl rfl)
theorem dX0_keeps_3 : decode cX0_keeps 3 = .ok (.iload_n 1, 1) := dk_27 (dk_at dksX0_keeps_0 3 rfl rfl)
theorem dX0_keeps_4 : decode cX0_keeps 4 = .ok (.iload_n 2, 1) := dk_28 (dk_at dksX0_keeps_0 4 rfl rfl)
theorem dX0_keeps_5 : decode cX0_keeps 5 = .ok (.invokevirtual 75, 3) := dk_182 0 75 (dk_at dksX0_keeps_0 5 rfl rfl)
theorem dX0_keeps_8 : decode cX0_keeps 8 = .ok (.i2l, 1) := dk_133 (dk_at dksX0_keeps_0 8 rfl rfl)
theorem dX0_keeps_9 : decode cX0_keeps 9 = .ok (.lastore, 1) := dk_80 (dk_at dksX0_keeps_0 9 rfl rfl)
theorem dX0_keeps_10 : decode cX0_keeps 10 = .ok (.goto 11, 3) := dk_167 0 11 (dk_at dksX0_keeps_0 10 rfl rfl)
theorem dX0_keeps_13 : decode cX0_keeps 13 = .ok (.astore 4, 2) := dk_58 4 (dk_at dksX0_keeps_0 13 rfl rfl)
theorem dX0_keeps_15 : decode cX0_keeps 15 = .ok (.iconst 1, 1) := dk_4 (dk_at dksX0_keeps_0 15 rfl rfl)
theorem dX0_keeps_16 : decode cX0_keeps 16 = .ok (.ireturn, 1) := dk_172 (dk_at dksX0_keeps_0 16 rfl rfl)
theorem dX0_keeps_17 : decode cX0_keeps 17 = .ok (.astore 4, 2) := dk_58 4 (dk_at dksX0_keeps_0 17 rfl rfl)
theorem dX0_keeps_19 : decode cX0_keeps 19 = .ok (.iconst 2, 1) := dk_5 (dk_at dksX0_keeps_0 19 rfl rfl)
theorem dX0_keeps_20 : decode cX0_keeps 20 = .ok (.ireturn, 1) := dk_172 (dk_at dksX0_keeps_0 20 rfl rfl)
theorem dX0_keeps_21 : decode cX0_keeps 21 = .ok (.iconst 0, 1) := dk_3 (dk_at dksX0_keeps_0 21 rfl rfl)
theorem dX0_keeps_22 : decode cX0_keeps 22 = .ok (.ireturn, 1) := dk_172 (dk_at dksX0_keeps_0 22 rfl rfl)
abbrev cX0_breaks : ByteArray := method_21_code
def yX0_breaks : MethodName := ⟨RX0, "breaks", "(LRepeatFree;II[J)I"⟩
def dkwX0_breaks_0 : List UInt8 := [45, 3, 42, 27, 28, 182, 0, 78, 133, 80, 167, 0, 11, 58, 4, 4, 172, 58, 4, 5, 172, 3, 172]
abbrev dktX0_breaks_0 : List UInt8 := dkwX0_breaks_0 ++ []
theorem dksX0_breaks_0 : cX0_breaks.data.toList.drop 0 = dktX0_breaks_0 := by decide +kernel
theorem dX0_breaks_0 : decode cX0_breaks 0 = .ok (.aload_n 3, 1) := dk_45 (dk_at dksX0_breaks_0 0 rfl rfl)
theorem dX0_breaks_1 : decode cX0_breaks 1 = .ok (.iconst 0, 1) := dk_3 (dk_at dksX0_breaks_0 1 rfl rfl)
theorem dX0_breaks_2 : decode cX0_breaks 2 = .ok (.aload_n 0, 1) := dk_42 (dk_at dksX0_breaks_0 2 rfl rfl)
theorem dX0_breaks_3 : decode cX0_breaks 3 = .ok (.iload_n 1, 1) := dk_27 (dk_at dksX0_breaks_0 3 rfl rfl)
theorem dX0_breaks_4 : decode cX0_breaks 4 = .ok (.iload_n 2, 1) := dk_28 (dk_at dksX0_breaks_0 4 rfl rfl)
theorem dX0_breaks_5 : decode cX0_breaks 5 = .ok (.invokevirtual 78, 3) := dk_182 0 78 (dk_at dksX0_breaks_0 5 rfl rfl)
theorem dX0_breaks_8 : decode cX0_breaks 8 = .ok (.i2l, 1) := dk_133 (dk_at dksX0_breaks_0 8 rfl rfl)
theorem dX0_breaks_9 : decode cX0_breaks 9 = .ok (.lastore, 1) := dk_80 (dk_at dksX0_breaks_0 9 rfl rfl)
theorem dX0_breaks_10 : decode cX0_breaks 10 = .ok (.goto 11, 3) := dk_167 0 11 (dk_at dksX0_breaks_0 10 rfl rfl)
theorem dX0_breaks_13 : decode cX0_breaks 13 = .ok (.astore 4, 2) := dk_58 4 (dk_at dksX0_breaks_0 13 rfl rfl)
theorem dX0_breaks_15 : decode cX0_breaks 15 = .ok (.iconst 1, 1) := dk_4 (dk_at dksX0_breaks_0 15 rfl rfl)
theorem dX0_breaks_16 : decode cX0_breaks 16 = .ok (.ireturn, 1) := dk_172 (dk_at dksX0_breaks_0 16 rfl rfl)
theorem dX0_breaks_17 : decode cX0_breaks 17 = .ok (.astore 4, 2) := dk_58 4 (dk_at dksX0_breaks_0 17 rfl rfl)
theorem dX0_breaks_19 : decode cX0_breaks 19 = .ok (.iconst 2, 1) := dk_5 (dk_at dksX0_breaks_0 19 rfl rfl)
theorem dX0_breaks_20 : decode cX0_breaks 20 = .ok (.ireturn, 1) := dk_172 (dk_at dksX0_breaks_0 20 rfl rfl)
theorem dX0_breaks_21 : decode cX0_breaks 21 = .ok (.iconst 0, 1) := dk_3 (dk_at dksX0_breaks_0 21 rfl rfl)
theorem dX0_breaks_22 : decode cX0_breaks 22 = .ok (.ireturn, 1) := dk_172 (dk_at dksX0_breaks_0 22 rfl rfl)
abbrev cX0_grows : ByteArray := method_22_code
def yX0_grows : MethodName := ⟨RX0, "grows", "(LRepeatFree;I[J)I"⟩
def dkwX0_grows_0 : List UInt8 := [44, 3, 42, 27, 182, 0, 81, 133, 80, 167, 0, 6, 78, 4, 172, 3, 172]
abbrev dktX0_grows_0 : List UInt8 := dkwX0_grows_0 ++ []
theorem dksX0_grows_0 : cX0_grows.data.toList.drop 0 = dktX0_grows_0 := by decide +kernel
theorem dX0_grows_0 : decode cX0_grows 0 = .ok (.aload_n 2, 1) := dk_44 (dk_at dksX0_grows_0 0 rfl rfl)
theorem dX0_grows_1 : decode cX0_grows 1 = .ok (.iconst 0, 1) := dk_3 (dk_at dksX0_grows_0 1 rfl rfl)
theorem dX0_grows_2 : decode cX0_grows 2 = .ok (.aload_n 0, 1) := dk_42 (dk_at dksX0_grows_0 2 rfl rfl)
theorem dX0_grows_3 : decode cX0_grows 3 = .ok (.iload_n 1, 1) := dk_27 (dk_at dksX0_grows_0 3 rfl rfl)
theorem dX0_grows_4 : decode cX0_grows 4 = .ok (.invokevirtual 81, 3) := dk_182 0 81 (dk_at dksX0_grows_0 4 rfl rfl)
theorem dX0_grows_7 : decode cX0_grows 7 = .ok (.i2l, 1) := dk_133 (dk_at dksX0_grows_0 7 rfl rfl)
theorem dX0_grows_8 : decode cX0_grows 8 = .ok (.lastore, 1) := dk_80 (dk_at dksX0_grows_0 8 rfl rfl)
theorem dX0_grows_9 : decode cX0_grows 9 = .ok (.goto 6, 3) := dk_167 0 6 (dk_at dksX0_grows_0 9 rfl rfl)
theorem dX0_grows_12 : decode cX0_grows 12 = .ok (.astore_n 3, 1) := dk_78 (dk_at dksX0_grows_0 12 rfl rfl)
theorem dX0_grows_13 : decode cX0_grows 13 = .ok (.iconst 1, 1) := dk_4 (dk_at dksX0_grows_0 13 rfl rfl)
theorem dX0_grows_14 : decode cX0_grows 14 = .ok (.ireturn, 1) := dk_172 (dk_at dksX0_grows_0 14 rfl rfl)
theorem dX0_grows_15 : decode cX0_grows 15 = .ok (.iconst 0, 1) := dk_3 (dk_at dksX0_grows_0 15 rfl rfl)
theorem dX0_grows_16 : decode cX0_grows 16 = .ok (.ireturn, 1) := dk_172 (dk_at dksX0_grows_0 16 rfl rfl)
abbrev cX0_uniform : ByteArray := method_23_code
def yX0_uniform : MethodName := ⟨RX0, "uniform", "(LRepeatFree;I[J)I"⟩
def dkwX0_uniform_0 : List UInt8 := [44, 3, 42, 27, 182, 0, 84, 133, 80, 167, 0, 6, 78, 4, 172, 3, 172]
abbrev dktX0_uniform_0 : List UInt8 := dkwX0_uniform_0 ++ []
theorem dksX0_uniform_0 : cX0_uniform.data.toList.drop 0 = dktX0_uniform_0 := by decide +kernel
theorem dX0_uniform_0 : decode cX0_uniform 0 = .ok (.aload_n 2, 1) := dk_44 (dk_at dksX0_uniform_0 0 rfl rfl)
theorem dX0_uniform_1 : decode cX0_uniform 1 = .ok (.iconst 0, 1) := dk_3 (dk_at dksX0_uniform_0 1 rfl rfl)
theorem dX0_uniform_2 : decode cX0_uniform 2 = .ok (.aload_n 0, 1) := dk_42 (dk_at dksX0_uniform_0 2 rfl rfl)
theorem dX0_uniform_3 : decode cX0_uniform 3 = .ok (.iload_n 1, 1) := dk_27 (dk_at dksX0_uniform_0 3 rfl rfl)
theorem dX0_uniform_4 : decode cX0_uniform 4 = .ok (.invokevirtual 84, 3) := dk_182 0 84 (dk_at dksX0_uniform_0 4 rfl rfl)
theorem dX0_uniform_7 : decode cX0_uniform 7 = .ok (.i2l, 1) := dk_133 (dk_at dksX0_uniform_0 7 rfl rfl)
theorem dX0_uniform_8 : decode cX0_uniform 8 = .ok (.lastore, 1) := dk_80 (dk_at dksX0_uniform_0 8 rfl rfl)
theorem dX0_uniform_9 : decode cX0_uniform 9 = .ok (.goto 6, 3) := dk_167 0 6 (dk_at dksX0_uniform_0 9 rfl rfl)
theorem dX0_uniform_12 : decode cX0_uniform 12 = .ok (.astore_n 3, 1) := dk_78 (dk_at dksX0_uniform_0 12 rfl rfl)
theorem dX0_uniform_13 : decode cX0_uniform 13 = .ok (.iconst 1, 1) := dk_4 (dk_at dksX0_uniform_0 13 rfl rfl)
theorem dX0_uniform_14 : decode cX0_uniform 14 = .ok (.ireturn, 1) := dk_172 (dk_at dksX0_uniform_0 14 rfl rfl)
theorem dX0_uniform_15 : decode cX0_uniform 15 = .ok (.iconst 0, 1) := dk_3 (dk_at dksX0_uniform_0 15 rfl rfl)
theorem dX0_uniform_16 : decode cX0_uniform 16 = .ok (.ireturn, 1) := dk_172 (dk_at dksX0_uniform_0 16 rfl rfl)
abbrev cX0_cannot : ByteArray := method_24_code
def yX0_cannot : MethodName := ⟨RX0, "cannot", "(LRepeatFree;I[J)I"⟩
def dkwX0_cannot_0 : List UInt8 := [44, 3, 42, 27, 182, 0, 87, 153, 0, 7, 10, 167, 0, 4, 9, 80, 167, 0, 6, 78, 4, 172, 3, 172]
abbrev dktX0_cannot_0 : List UInt8 := dkwX0_cannot_0 ++ []
theorem dksX0_cannot_0 : cX0_cannot.data.toList.drop 0 = dktX0_cannot_0 := by decide +kernel
theorem dX0_cannot_0 : decode cX0_cannot 0 = .ok (.aload_n 2, 1) := dk_44 (dk_at dksX0_cannot_0 0 rfl rfl)
theorem dX0_cannot_1 : decode cX0_cannot 1 = .ok (.iconst 0, 1) := dk_3 (dk_at dksX0_cannot_0 1 rfl rfl)
theorem dX0_cannot_2 : decode cX0_cannot 2 = .ok (.aload_n 0, 1) := dk_42 (dk_at dksX0_cannot_0 2 rfl rfl)
theorem dX0_cannot_3 : decode cX0_cannot 3 = .ok (.iload_n 1, 1) := dk_27 (dk_at dksX0_cannot_0 3 rfl rfl)
theorem dX0_cannot_4 : decode cX0_cannot 4 = .ok (.invokevirtual 87, 3) := dk_182 0 87 (dk_at dksX0_cannot_0 4 rfl rfl)
theorem dX0_cannot_7 : decode cX0_cannot 7 = .ok (.ifCond .eq 7, 3) := dk_153 0 7 (dk_at dksX0_cannot_0 7 rfl rfl)
theorem dX0_cannot_10 : decode cX0_cannot 10 = .ok (.lconst 1, 1) := dk_10 (dk_at dksX0_cannot_0 10 rfl rfl)
theorem dX0_cannot_11 : decode cX0_cannot 11 = .ok (.goto 4, 3) := dk_167 0 4 (dk_at dksX0_cannot_0 11 rfl rfl)
theorem dX0_cannot_14 : decode cX0_cannot 14 = .ok (.lconst 0, 1) := dk_9 (dk_at dksX0_cannot_0 14 rfl rfl)
theorem dX0_cannot_15 : decode cX0_cannot 15 = .ok (.lastore, 1) := dk_80 (dk_at dksX0_cannot_0 15 rfl rfl)
theorem dX0_cannot_16 : decode cX0_cannot 16 = .ok (.goto 6, 3) := dk_167 0 6 (dk_at dksX0_cannot_0 16 rfl rfl)
theorem dX0_cannot_19 : decode cX0_cannot 19 = .ok (.astore_n 3, 1) := dk_78 (dk_at dksX0_cannot_0 19 rfl rfl)
theorem dX0_cannot_20 : decode cX0_cannot 20 = .ok (.iconst 1, 1) := dk_4 (dk_at dksX0_cannot_0 20 rfl rfl)
theorem dX0_cannot_21 : decode cX0_cannot 21 = .ok (.ireturn, 1) := dk_172 (dk_at dksX0_cannot_0 21 rfl rfl)
theorem dX0_cannot_22 : decode cX0_cannot 22 = .ok (.iconst 0, 1) := dk_3 (dk_at dksX0_cannot_0 22 rfl rfl)
theorem dX0_cannot_23 : decode cX0_cannot 23 = .ok (.ireturn, 1) := dk_172 (dk_at dksX0_cannot_0 23 rfl rfl)
abbrev cX0_loose : ByteArray := method_25_code
def yX0_loose : MethodName := ⟨RX0, "loose", "(LRepeatFree;II[J)I"⟩
def dkwX0_loose_0 : List UInt8 := [45, 3, 42, 27, 28, 182, 0, 91, 133, 80, 167, 0, 7, 58, 4, 4, 172, 3, 172]
abbrev dktX0_loose_0 : List UInt8 := dkwX0_loose_0 ++ []
theorem dksX0_loose_0 : cX0_loose.data.toList.drop 0 = dktX0_loose_0 := by decide +kernel
theorem dX0_loose_0 : decode cX0_loose 0 = .ok (.aload_n 3, 1) := dk_45 (dk_at dksX0_loose_0 0 rfl rfl)
theorem dX0_loose_1 : decode cX0_loose 1 = .ok (.iconst 0, 1) := dk_3 (dk_at dksX0_loose_0 1 rfl rfl)
theorem dX0_loose_2 : decode cX0_loose 2 = .ok (.aload_n 0, 1) := dk_42 (dk_at dksX0_loose_0 2 rfl rfl)
theorem dX0_loose_3 : decode cX0_loose 3 = .ok (.iload_n 1, 1) := dk_27 (dk_at dksX0_loose_0 3 rfl rfl)
theorem dX0_loose_4 : decode cX0_loose 4 = .ok (.iload_n 2, 1) := dk_28 (dk_at dksX0_loose_0 4 rfl rfl)
theorem dX0_loose_5 : decode cX0_loose 5 = .ok (.invokevirtual 91, 3) := dk_182 0 91 (dk_at dksX0_loose_0 5 rfl rfl)
theorem dX0_loose_8 : decode cX0_loose 8 = .ok (.i2l, 1) := dk_133 (dk_at dksX0_loose_0 8 rfl rfl)
theorem dX0_loose_9 : decode cX0_loose 9 = .ok (.lastore, 1) := dk_80 (dk_at dksX0_loose_0 9 rfl rfl)
theorem dX0_loose_10 : decode cX0_loose 10 = .ok (.goto 7, 3) := dk_167 0 7 (dk_at dksX0_loose_0 10 rfl rfl)
theorem dX0_loose_13 : decode cX0_loose 13 = .ok (.astore 4, 2) := dk_58 4 (dk_at dksX0_loose_0 13 rfl rfl)
theorem dX0_loose_15 : decode cX0_loose 15 = .ok (.iconst 1, 1) := dk_4 (dk_at dksX0_loose_0 15 rfl rfl)
theorem dX0_loose_16 : decode cX0_loose 16 = .ok (.ireturn, 1) := dk_172 (dk_at dksX0_loose_0 16 rfl rfl)
theorem dX0_loose_17 : decode cX0_loose 17 = .ok (.iconst 0, 1) := dk_3 (dk_at dksX0_loose_0 17 rfl rfl)
theorem dX0_loose_18 : decode cX0_loose 18 = .ok (.ireturn, 1) := dk_172 (dk_at dksX0_loose_0 18 rfl rfl)
abbrev cX0_pattern : ByteArray := method_26_code
def yX0_pattern : MethodName := ⟨RX0, "pattern", "(LRepeatFree;II[J)I"⟩
def dkwX0_pattern_0 : List UInt8 := [45, 3, 42, 27, 28, 182, 0, 94, 133, 80, 167, 0, 11, 58, 4, 4, 172, 58, 4, 5, 172, 3, 172]
abbrev dktX0_pattern_0 : List UInt8 := dkwX0_pattern_0 ++ []
theorem dksX0_pattern_0 : cX0_pattern.data.toList.drop 0 = dktX0_pattern_0 := by decide +kernel
theorem dX0_pattern_0 : decode cX0_pattern 0 = .ok (.aload_n 3, 1) := dk_45 (dk_at dksX0_pattern_0 0 rfl rfl)
theorem dX0_pattern_1 : decode cX0_pattern 1 = .ok (.iconst 0, 1) := dk_3 (dk_at dksX0_pattern_0 1 rfl rfl)
theorem dX0_pattern_2 : decode cX0_pattern 2 = .ok (.aload_n 0, 1) := dk_42 (dk_at dksX0_pattern_0 2 rfl rfl)
theorem dX0_pattern_3 : decode cX0_pattern 3 = .ok (.iload_n 1, 1) := dk_27 (dk_at dksX0_pattern_0 3 rfl rfl)
theorem dX0_pattern_4 : decode cX0_pattern 4 = .ok (.iload_n 2, 1) := dk_28 (dk_at dksX0_pattern_0 4 rfl rfl)
theorem dX0_pattern_5 : decode cX0_pattern 5 = .ok (.invokevirtual 94, 3) := dk_182 0 94 (dk_at dksX0_pattern_0 5 rfl rfl)
theorem dX0_pattern_8 : decode cX0_pattern 8 = .ok (.i2l, 1) := dk_133 (dk_at dksX0_pattern_0 8 rfl rfl)
theorem dX0_pattern_9 : decode cX0_pattern 9 = .ok (.lastore, 1) := dk_80 (dk_at dksX0_pattern_0 9 rfl rfl)
theorem dX0_pattern_10 : decode cX0_pattern 10 = .ok (.goto 11, 3) := dk_167 0 11 (dk_at dksX0_pattern_0 10 rfl rfl)
theorem dX0_pattern_13 : decode cX0_pattern 13 = .ok (.astore 4, 2) := dk_58 4 (dk_at dksX0_pattern_0 13 rfl rfl)
theorem dX0_pattern_15 : decode cX0_pattern 15 = .ok (.iconst 1, 1) := dk_4 (dk_at dksX0_pattern_0 15 rfl rfl)
theorem dX0_pattern_16 : decode cX0_pattern 16 = .ok (.ireturn, 1) := dk_172 (dk_at dksX0_pattern_0 16 rfl rfl)
theorem dX0_pattern_17 : decode cX0_pattern 17 = .ok (.astore 4, 2) := dk_58 4 (dk_at dksX0_pattern_0 17 rfl rfl)
theorem dX0_pattern_19 : decode cX0_pattern 19 = .ok (.iconst 2, 1) := dk_5 (dk_at dksX0_pattern_0 19 rfl rfl)
theorem dX0_pattern_20 : decode cX0_pattern 20 = .ok (.ireturn, 1) := dk_172 (dk_at dksX0_pattern_0 20 rfl rfl)
theorem dX0_pattern_21 : decode cX0_pattern 21 = .ok (.iconst 0, 1) := dk_3 (dk_at dksX0_pattern_0 21 rfl rfl)
theorem dX0_pattern_22 : decode cX0_pattern 22 = .ok (.ireturn, 1) := dk_172 (dk_at dksX0_pattern_0 22 rfl rfl)
abbrev cX0_stuck : ByteArray := method_27_code
def yX0_stuck : MethodName := ⟨RX0, "stuck", "(LRepeatFree;I[J)I"⟩
def dkwX0_stuck_0 : List UInt8 := [44, 3, 42, 27, 182, 0, 97, 133, 80, 167, 0, 6, 78, 4, 172, 3, 172]
abbrev dktX0_stuck_0 : List UInt8 := dkwX0_stuck_0 ++ []
theorem dksX0_stuck_0 : cX0_stuck.data.toList.drop 0 = dktX0_stuck_0 := by decide +kernel
theorem dX0_stuck_0 : decode cX0_stuck 0 = .ok (.aload_n 2, 1) := dk_44 (dk_at dksX0_stuck_0 0 rfl rfl)
theorem dX0_stuck_1 : decode cX0_stuck 1 = .ok (.iconst 0, 1) := dk_3 (dk_at dksX0_stuck_0 1 rfl rfl)
theorem dX0_stuck_2 : decode cX0_stuck 2 = .ok (.aload_n 0, 1) := dk_42 (dk_at dksX0_stuck_0 2 rfl rfl)
theorem dX0_stuck_3 : decode cX0_stuck 3 = .ok (.iload_n 1, 1) := dk_27 (dk_at dksX0_stuck_0 3 rfl rfl)
theorem dX0_stuck_4 : decode cX0_stuck 4 = .ok (.invokevirtual 97, 3) := dk_182 0 97 (dk_at dksX0_stuck_0 4 rfl rfl)
theorem dX0_stuck_7 : decode cX0_stuck 7 = .ok (.i2l, 1) := dk_133 (dk_at dksX0_stuck_0 7 rfl rfl)
theorem dX0_stuck_8 : decode cX0_stuck 8 = .ok (.lastore, 1) := dk_80 (dk_at dksX0_stuck_0 8 rfl rfl)
theorem dX0_stuck_9 : decode cX0_stuck 9 = .ok (.goto 6, 3) := dk_167 0 6 (dk_at dksX0_stuck_0 9 rfl rfl)
theorem dX0_stuck_12 : decode cX0_stuck 12 = .ok (.astore_n 3, 1) := dk_78 (dk_at dksX0_stuck_0 12 rfl rfl)
theorem dX0_stuck_13 : decode cX0_stuck 13 = .ok (.iconst 1, 1) := dk_4 (dk_at dksX0_stuck_0 13 rfl rfl)
theorem dX0_stuck_14 : decode cX0_stuck 14 = .ok (.ireturn, 1) := dk_172 (dk_at dksX0_stuck_0 14 rfl rfl)
theorem dX0_stuck_15 : decode cX0_stuck 15 = .ok (.iconst 0, 1) := dk_3 (dk_at dksX0_stuck_0 15 rfl rfl)
theorem dX0_stuck_16 : decode cX0_stuck 16 = .ok (.ireturn, 1) := dk_172 (dk_at dksX0_stuck_0 16 rfl rfl)
abbrev cX0_rank : ByteArray := method_28_code
def yX0_rank : MethodName := ⟨RX0, "rank", "(LRepeatFree;[J)I"⟩
def dkwX0_rank_0 : List UInt8 := [43, 3, 42, 182, 0, 100, 133, 80, 167, 0, 6, 77, 4, 172, 3, 172]
abbrev dktX0_rank_0 : List UInt8 := dkwX0_rank_0 ++ []
theorem dksX0_rank_0 : cX0_rank.data.toList.drop 0 = dktX0_rank_0 := by decide +kernel
theorem dX0_rank_0 : decode cX0_rank 0 = .ok (.aload_n 1, 1) := dk_43 (dk_at dksX0_rank_0 0 rfl rfl)
theorem dX0_rank_1 : decode cX0_rank 1 = .ok (.iconst 0, 1) := dk_3 (dk_at dksX0_rank_0 1 rfl rfl)
theorem dX0_rank_2 : decode cX0_rank 2 = .ok (.aload_n 0, 1) := dk_42 (dk_at dksX0_rank_0 2 rfl rfl)
theorem dX0_rank_3 : decode cX0_rank 3 = .ok (.invokevirtual 100, 3) := dk_182 0 100 (dk_at dksX0_rank_0 3 rfl rfl)
theorem dX0_rank_6 : decode cX0_rank 6 = .ok (.i2l, 1) := dk_133 (dk_at dksX0_rank_0 6 rfl rfl)
theorem dX0_rank_7 : decode cX0_rank 7 = .ok (.lastore, 1) := dk_80 (dk_at dksX0_rank_0 7 rfl rfl)
theorem dX0_rank_8 : decode cX0_rank 8 = .ok (.goto 6, 3) := dk_167 0 6 (dk_at dksX0_rank_0 8 rfl rfl)
theorem dX0_rank_11 : decode cX0_rank 11 = .ok (.astore_n 2, 1) := dk_77 (dk_at dksX0_rank_0 11 rfl rfl)
theorem dX0_rank_12 : decode cX0_rank 12 = .ok (.iconst 1, 1) := dk_4 (dk_at dksX0_rank_0 12 rfl rfl)
theorem dX0_rank_13 : decode cX0_rank 13 = .ok (.ireturn, 1) := dk_172 (dk_at dksX0_rank_0 13 rfl rfl)
theorem dX0_rank_14 : decode cX0_rank 14 = .ok (.iconst 0, 1) := dk_3 (dk_at dksX0_rank_0 14 rfl rfl)
theorem dX0_rank_15 : decode cX0_rank 15 = .ok (.ireturn, 1) := dk_172 (dk_at dksX0_rank_0 15 rfl rfl)
abbrev cX0_nth : ByteArray := method_29_code
def yX0_nth : MethodName := ⟨RX0, "nth", "(LRepeatFree;II[J)I"⟩
def dkwX0_nth_0 : List UInt8 := [45, 3, 42, 27, 28, 182, 0, 103, 133, 80, 167, 0, 7, 58, 4, 4, 172, 3, 172]
abbrev dktX0_nth_0 : List UInt8 := dkwX0_nth_0 ++ []
theorem dksX0_nth_0 : cX0_nth.data.toList.drop 0 = dktX0_nth_0 := by decide +kernel
theorem dX0_nth_0 : decode cX0_nth 0 = .ok (.aload_n 3, 1) := dk_45 (dk_at dksX0_nth_0 0 rfl rfl)
theorem dX0_nth_1 : decode cX0_nth 1 = .ok (.iconst 0, 1) := dk_3 (dk_at dksX0_nth_0 1 rfl rfl)
theorem dX0_nth_2 : decode cX0_nth 2 = .ok (.aload_n 0, 1) := dk_42 (dk_at dksX0_nth_0 2 rfl rfl)
theorem dX0_nth_3 : decode cX0_nth 3 = .ok (.iload_n 1, 1) := dk_27 (dk_at dksX0_nth_0 3 rfl rfl)
theorem dX0_nth_4 : decode cX0_nth 4 = .ok (.iload_n 2, 1) := dk_28 (dk_at dksX0_nth_0 4 rfl rfl)
theorem dX0_nth_5 : decode cX0_nth 5 = .ok (.invokevirtual 103, 3) := dk_182 0 103 (dk_at dksX0_nth_0 5 rfl rfl)
theorem dX0_nth_8 : decode cX0_nth 8 = .ok (.i2l, 1) := dk_133 (dk_at dksX0_nth_0 8 rfl rfl)
theorem dX0_nth_9 : decode cX0_nth 9 = .ok (.lastore, 1) := dk_80 (dk_at dksX0_nth_0 9 rfl rfl)
theorem dX0_nth_10 : decode cX0_nth 10 = .ok (.goto 7, 3) := dk_167 0 7 (dk_at dksX0_nth_0 10 rfl rfl)
theorem dX0_nth_13 : decode cX0_nth 13 = .ok (.astore 4, 2) := dk_58 4 (dk_at dksX0_nth_0 13 rfl rfl)
theorem dX0_nth_15 : decode cX0_nth 15 = .ok (.iconst 1, 1) := dk_4 (dk_at dksX0_nth_0 15 rfl rfl)
theorem dX0_nth_16 : decode cX0_nth 16 = .ok (.ireturn, 1) := dk_172 (dk_at dksX0_nth_0 16 rfl rfl)
theorem dX0_nth_17 : decode cX0_nth 17 = .ok (.iconst 0, 1) := dk_3 (dk_at dksX0_nth_0 17 rfl rfl)
theorem dX0_nth_18 : decode cX0_nth 18 = .ok (.ireturn, 1) := dk_172 (dk_at dksX0_nth_0 18 rfl rfl)
abbrev cX0_limit : ByteArray := method_30_code
def yX0_limit : MethodName := ⟨RX0, "limit", "(LRepeatFree;III[J)I"⟩
def dkwX0_limit_0 : List UInt8 := [25, 4, 3, 42, 27, 28, 29, 182, 0, 106, 133, 80, 167, 0, 7, 58, 5, 4, 172, 3, 172]
abbrev dktX0_limit_0 : List UInt8 := dkwX0_limit_0 ++ []
theorem dksX0_limit_0 : cX0_limit.data.toList.drop 0 = dktX0_limit_0 := by decide +kernel
theorem dX0_limit_0 : decode cX0_limit 0 = .ok (.aload 4, 2) := dk_25 4 (dk_at dksX0_limit_0 0 rfl rfl)
theorem dX0_limit_2 : decode cX0_limit 2 = .ok (.iconst 0, 1) := dk_3 (dk_at dksX0_limit_0 2 rfl rfl)
theorem dX0_limit_3 : decode cX0_limit 3 = .ok (.aload_n 0, 1) := dk_42 (dk_at dksX0_limit_0 3 rfl rfl)
theorem dX0_limit_4 : decode cX0_limit 4 = .ok (.iload_n 1, 1) := dk_27 (dk_at dksX0_limit_0 4 rfl rfl)
theorem dX0_limit_5 : decode cX0_limit 5 = .ok (.iload_n 2, 1) := dk_28 (dk_at dksX0_limit_0 5 rfl rfl)
theorem dX0_limit_6 : decode cX0_limit 6 = .ok (.iload_n 3, 1) := dk_29 (dk_at dksX0_limit_0 6 rfl rfl)
theorem dX0_limit_7 : decode cX0_limit 7 = .ok (.invokevirtual 106, 3) := dk_182 0 106 (dk_at dksX0_limit_0 7 rfl rfl)
theorem dX0_limit_10 : decode cX0_limit 10 = .ok (.i2l, 1) := dk_133 (dk_at dksX0_limit_0 10 rfl rfl)
theorem dX0_limit_11 : decode cX0_limit 11 = .ok (.lastore, 1) := dk_80 (dk_at dksX0_limit_0 11 rfl rfl)
theorem dX0_limit_12 : decode cX0_limit 12 = .ok (.goto 7, 3) := dk_167 0 7 (dk_at dksX0_limit_0 12 rfl rfl)
theorem dX0_limit_15 : decode cX0_limit 15 = .ok (.astore 5, 2) := dk_58 5 (dk_at dksX0_limit_0 15 rfl rfl)
theorem dX0_limit_17 : decode cX0_limit 17 = .ok (.iconst 1, 1) := dk_4 (dk_at dksX0_limit_0 17 rfl rfl)
theorem dX0_limit_18 : decode cX0_limit 18 = .ok (.ireturn, 1) := dk_172 (dk_at dksX0_limit_0 18 rfl rfl)
theorem dX0_limit_19 : decode cX0_limit 19 = .ok (.iconst 0, 1) := dk_3 (dk_at dksX0_limit_0 19 rfl rfl)
theorem dX0_limit_20 : decode cX0_limit 20 = .ok (.ireturn, 1) := dk_172 (dk_at dksX0_limit_0 20 rfl rfl)
abbrev cX0_avoid : ByteArray := method_31_code
def yX0_avoid : MethodName := ⟨RX0, "avoid", "(LRepeatFree;IZ[J)I"⟩
def dkwX0_avoid_1 : List UInt8 := [3, 172]
abbrev dktX0_avoid_1 : List UInt8 := dkwX0_avoid_1 ++ []
def dkwX0_avoid_0 : List UInt8 := [45, 3, 42, 27, 28, 182, 0, 109, 153, 0, 7, 10, 167, 0, 4, 9, 80, 167, 0, 7, 58, 4, 4, 172]
abbrev dktX0_avoid_0 : List UInt8 := dkwX0_avoid_0 ++ dktX0_avoid_1
theorem dksX0_avoid_0 : cX0_avoid.data.toList.drop 0 = dktX0_avoid_0 := by decide +kernel
theorem dksX0_avoid_1 : cX0_avoid.data.toList.drop 24 = dktX0_avoid_1 := dk_seg dksX0_avoid_0 24 rfl rfl
theorem dX0_avoid_0 : decode cX0_avoid 0 = .ok (.aload_n 3, 1) := dk_45 (dk_at dksX0_avoid_0 0 rfl rfl)
theorem dX0_avoid_1 : decode cX0_avoid 1 = .ok (.iconst 0, 1) := dk_3 (dk_at dksX0_avoid_0 1 rfl rfl)
theorem dX0_avoid_2 : decode cX0_avoid 2 = .ok (.aload_n 0, 1) := dk_42 (dk_at dksX0_avoid_0 2 rfl rfl)
theorem dX0_avoid_3 : decode cX0_avoid 3 = .ok (.iload_n 1, 1) := dk_27 (dk_at dksX0_avoid_0 3 rfl rfl)
theorem dX0_avoid_4 : decode cX0_avoid 4 = .ok (.iload_n 2, 1) := dk_28 (dk_at dksX0_avoid_0 4 rfl rfl)
theorem dX0_avoid_5 : decode cX0_avoid 5 = .ok (.invokevirtual 109, 3) := dk_182 0 109 (dk_at dksX0_avoid_0 5 rfl rfl)
theorem dX0_avoid_8 : decode cX0_avoid 8 = .ok (.ifCond .eq 7, 3) := dk_153 0 7 (dk_at dksX0_avoid_0 8 rfl rfl)
theorem dX0_avoid_11 : decode cX0_avoid 11 = .ok (.lconst 1, 1) := dk_10 (dk_at dksX0_avoid_0 11 rfl rfl)
theorem dX0_avoid_12 : decode cX0_avoid 12 = .ok (.goto 4, 3) := dk_167 0 4 (dk_at dksX0_avoid_0 12 rfl rfl)
theorem dX0_avoid_15 : decode cX0_avoid 15 = .ok (.lconst 0, 1) := dk_9 (dk_at dksX0_avoid_0 15 rfl rfl)
theorem dX0_avoid_16 : decode cX0_avoid 16 = .ok (.lastore, 1) := dk_80 (dk_at dksX0_avoid_0 16 rfl rfl)
theorem dX0_avoid_17 : decode cX0_avoid 17 = .ok (.goto 7, 3) := dk_167 0 7 (dk_at dksX0_avoid_0 17 rfl rfl)
theorem dX0_avoid_20 : decode cX0_avoid 20 = .ok (.astore 4, 2) := dk_58 4 (dk_at dksX0_avoid_0 20 rfl rfl)
theorem dX0_avoid_22 : decode cX0_avoid 22 = .ok (.iconst 1, 1) := dk_4 (dk_at dksX0_avoid_0 22 rfl rfl)
theorem dX0_avoid_23 : decode cX0_avoid 23 = .ok (.ireturn, 1) := dk_172 (dk_at dksX0_avoid_0 23 rfl rfl)
theorem dX0_avoid_24 : decode cX0_avoid 24 = .ok (.iconst 0, 1) := dk_3 (dk_at dksX0_avoid_1 0 rfl rfl)
theorem dX0_avoid_25 : decode cX0_avoid 25 = .ok (.ireturn, 1) := dk_172 (dk_at dksX0_avoid_1 1 rfl rfl)
abbrev cX0_local : ByteArray := method_32_code
def yX0_local : MethodName := ⟨RX0, "local", "(LRepeatFree;I[J)I"⟩
def dkwX0_local_0 : List UInt8 := [44, 3, 42, 27, 182, 0, 113, 133, 80, 167, 0, 6, 78, 4, 172, 3, 172]
abbrev dktX0_local_0 : List UInt8 := dkwX0_local_0 ++ []
theorem dksX0_local_0 : cX0_local.data.toList.drop 0 = dktX0_local_0 := by decide +kernel
theorem dX0_local_0 : decode cX0_local 0 = .ok (.aload_n 2, 1) := dk_44 (dk_at dksX0_local_0 0 rfl rfl)
theorem dX0_local_1 : decode cX0_local 1 = .ok (.iconst 0, 1) := dk_3 (dk_at dksX0_local_0 1 rfl rfl)
theorem dX0_local_2 : decode cX0_local 2 = .ok (.aload_n 0, 1) := dk_42 (dk_at dksX0_local_0 2 rfl rfl)
theorem dX0_local_3 : decode cX0_local 3 = .ok (.iload_n 1, 1) := dk_27 (dk_at dksX0_local_0 3 rfl rfl)
theorem dX0_local_4 : decode cX0_local 4 = .ok (.invokevirtual 113, 3) := dk_182 0 113 (dk_at dksX0_local_0 4 rfl rfl)
theorem dX0_local_7 : decode cX0_local 7 = .ok (.i2l, 1) := dk_133 (dk_at dksX0_local_0 7 rfl rfl)
theorem dX0_local_8 : decode cX0_local 8 = .ok (.lastore, 1) := dk_80 (dk_at dksX0_local_0 8 rfl rfl)
theorem dX0_local_9 : decode cX0_local 9 = .ok (.goto 6, 3) := dk_167 0 6 (dk_at dksX0_local_0 9 rfl rfl)
theorem dX0_local_12 : decode cX0_local 12 = .ok (.astore_n 3, 1) := dk_78 (dk_at dksX0_local_0 12 rfl rfl)
theorem dX0_local_13 : decode cX0_local 13 = .ok (.iconst 1, 1) := dk_4 (dk_at dksX0_local_0 13 rfl rfl)
theorem dX0_local_14 : decode cX0_local 14 = .ok (.ireturn, 1) := dk_172 (dk_at dksX0_local_0 14 rfl rfl)
theorem dX0_local_15 : decode cX0_local 15 = .ok (.iconst 0, 1) := dk_3 (dk_at dksX0_local_0 15 rfl rfl)
theorem dX0_local_16 : decode cX0_local 16 = .ok (.ireturn, 1) := dk_172 (dk_at dksX0_local_0 16 rfl rfl)
abbrev cX0_fill : ByteArray := method_33_code
def yX0_fill : MethodName := ⟨RX0, "fill", "(LRepeatFree;III[J)I"⟩
def dkwX0_fill_1 : List UInt8 := [58, 5, 6, 172, 3, 172]
abbrev dktX0_fill_1 : List UInt8 := dkwX0_fill_1 ++ []
def dkwX0_fill_0 : List UInt8 := [25, 4, 3, 42, 27, 28, 29, 182, 0, 116, 133, 80, 167, 0, 15, 58, 5, 4, 172, 58, 5, 5, 172]
abbrev dktX0_fill_0 : List UInt8 := dkwX0_fill_0 ++ dktX0_fill_1
theorem dksX0_fill_0 : cX0_fill.data.toList.drop 0 = dktX0_fill_0 := by decide +kernel
theorem dksX0_fill_1 : cX0_fill.data.toList.drop 23 = dktX0_fill_1 := dk_seg dksX0_fill_0 23 rfl rfl
theorem dX0_fill_0 : decode cX0_fill 0 = .ok (.aload 4, 2) := dk_25 4 (dk_at dksX0_fill_0 0 rfl rfl)
theorem dX0_fill_2 : decode cX0_fill 2 = .ok (.iconst 0, 1) := dk_3 (dk_at dksX0_fill_0 2 rfl rfl)
theorem dX0_fill_3 : decode cX0_fill 3 = .ok (.aload_n 0, 1) := dk_42 (dk_at dksX0_fill_0 3 rfl rfl)
theorem dX0_fill_4 : decode cX0_fill 4 = .ok (.iload_n 1, 1) := dk_27 (dk_at dksX0_fill_0 4 rfl rfl)
theorem dX0_fill_5 : decode cX0_fill 5 = .ok (.iload_n 2, 1) := dk_28 (dk_at dksX0_fill_0 5 rfl rfl)
theorem dX0_fill_6 : decode cX0_fill 6 = .ok (.iload_n 3, 1) := dk_29 (dk_at dksX0_fill_0 6 rfl rfl)
theorem dX0_fill_7 : decode cX0_fill 7 = .ok (.invokevirtual 116, 3) := dk_182 0 116 (dk_at dksX0_fill_0 7 rfl rfl)
theorem dX0_fill_10 : decode cX0_fill 10 = .ok (.i2l, 1) := dk_133 (dk_at dksX0_fill_0 10 rfl rfl)
theorem dX0_fill_11 : decode cX0_fill 11 = .ok (.lastore, 1) := dk_80 (dk_at dksX0_fill_0 11 rfl rfl)
theorem dX0_fill_12 : decode cX0_fill 12 = .ok (.goto 15, 3) := dk_167 0 15 (dk_at dksX0_fill_0 12 rfl rfl)
theorem dX0_fill_15 : decode cX0_fill 15 = .ok (.astore 5, 2) := dk_58 5 (dk_at dksX0_fill_0 15 rfl rfl)
theorem dX0_fill_17 : decode cX0_fill 17 = .ok (.iconst 1, 1) := dk_4 (dk_at dksX0_fill_0 17 rfl rfl)
theorem dX0_fill_18 : decode cX0_fill 18 = .ok (.ireturn, 1) := dk_172 (dk_at dksX0_fill_0 18 rfl rfl)
theorem dX0_fill_19 : decode cX0_fill 19 = .ok (.astore 5, 2) := dk_58 5 (dk_at dksX0_fill_0 19 rfl rfl)
theorem dX0_fill_21 : decode cX0_fill 21 = .ok (.iconst 2, 1) := dk_5 (dk_at dksX0_fill_0 21 rfl rfl)
theorem dX0_fill_22 : decode cX0_fill 22 = .ok (.ireturn, 1) := dk_172 (dk_at dksX0_fill_0 22 rfl rfl)
theorem dX0_fill_23 : decode cX0_fill 23 = .ok (.astore 5, 2) := dk_58 5 (dk_at dksX0_fill_1 0 rfl rfl)
theorem dX0_fill_25 : decode cX0_fill 25 = .ok (.iconst 3, 1) := dk_6 (dk_at dksX0_fill_1 2 rfl rfl)
theorem dX0_fill_26 : decode cX0_fill 26 = .ok (.ireturn, 1) := dk_172 (dk_at dksX0_fill_1 3 rfl rfl)
theorem dX0_fill_27 : decode cX0_fill 27 = .ok (.iconst 0, 1) := dk_3 (dk_at dksX0_fill_1 4 rfl rfl)
theorem dX0_fill_28 : decode cX0_fill 28 = .ok (.ireturn, 1) := dk_172 (dk_at dksX0_fill_1 5 rfl rfl)
abbrev cX0_sources : ByteArray := method_34_code
def yX0_sources : MethodName := ⟨RX0, "sources", "(LRepeatFree;I[J)I"⟩
def dkwX0_sources_0 : List UInt8 := [44, 3, 42, 27, 182, 0, 119, 80, 167, 0, 6, 78, 4, 172, 3, 172]
abbrev dktX0_sources_0 : List UInt8 := dkwX0_sources_0 ++ []
theorem dksX0_sources_0 : cX0_sources.data.toList.drop 0 = dktX0_sources_0 := by decide +kernel
theorem dX0_sources_0 : decode cX0_sources 0 = .ok (.aload_n 2, 1) := dk_44 (dk_at dksX0_sources_0 0 rfl rfl)
theorem dX0_sources_1 : decode cX0_sources 1 = .ok (.iconst 0, 1) := dk_3 (dk_at dksX0_sources_0 1 rfl rfl)
theorem dX0_sources_2 : decode cX0_sources 2 = .ok (.aload_n 0, 1) := dk_42 (dk_at dksX0_sources_0 2 rfl rfl)
theorem dX0_sources_3 : decode cX0_sources 3 = .ok (.iload_n 1, 1) := dk_27 (dk_at dksX0_sources_0 3 rfl rfl)
theorem dX0_sources_4 : decode cX0_sources 4 = .ok (.invokevirtual 119, 3) := dk_182 0 119 (dk_at dksX0_sources_0 4 rfl rfl)
theorem dX0_sources_7 : decode cX0_sources 7 = .ok (.lastore, 1) := dk_80 (dk_at dksX0_sources_0 7 rfl rfl)
theorem dX0_sources_8 : decode cX0_sources 8 = .ok (.goto 6, 3) := dk_167 0 6 (dk_at dksX0_sources_0 8 rfl rfl)
theorem dX0_sources_11 : decode cX0_sources 11 = .ok (.astore_n 3, 1) := dk_78 (dk_at dksX0_sources_0 11 rfl rfl)
theorem dX0_sources_12 : decode cX0_sources 12 = .ok (.iconst 1, 1) := dk_4 (dk_at dksX0_sources_0 12 rfl rfl)
theorem dX0_sources_13 : decode cX0_sources 13 = .ok (.ireturn, 1) := dk_172 (dk_at dksX0_sources_0 13 rfl rfl)
theorem dX0_sources_14 : decode cX0_sources 14 = .ok (.iconst 0, 1) := dk_3 (dk_at dksX0_sources_0 14 rfl rfl)
theorem dX0_sources_15 : decode cX0_sources 15 = .ok (.ireturn, 1) := dk_172 (dk_at dksX0_sources_0 15 rfl rfl)
abbrev cX0_code : ByteArray := method_35_code
def yX0_code : MethodName := ⟨RX0, "code", "(LRepeatFree;I[J)I"⟩
def dkwX0_code_0 : List UInt8 := [44, 3, 42, 27, 182, 0, 123, 153, 0, 7, 10, 167, 0, 4, 9, 80, 167, 0, 6, 78, 4, 172, 3, 172]
abbrev dktX0_code_0 : List UInt8 := dkwX0_code_0 ++ []
theorem dksX0_code_0 : cX0_code.data.toList.drop 0 = dktX0_code_0 := by decide +kernel
theorem dX0_code_0 : decode cX0_code 0 = .ok (.aload_n 2, 1) := dk_44 (dk_at dksX0_code_0 0 rfl rfl)
theorem dX0_code_1 : decode cX0_code 1 = .ok (.iconst 0, 1) := dk_3 (dk_at dksX0_code_0 1 rfl rfl)
theorem dX0_code_2 : decode cX0_code 2 = .ok (.aload_n 0, 1) := dk_42 (dk_at dksX0_code_0 2 rfl rfl)
theorem dX0_code_3 : decode cX0_code 3 = .ok (.iload_n 1, 1) := dk_27 (dk_at dksX0_code_0 3 rfl rfl)
theorem dX0_code_4 : decode cX0_code 4 = .ok (.invokevirtual 123, 3) := dk_182 0 123 (dk_at dksX0_code_0 4 rfl rfl)
theorem dX0_code_7 : decode cX0_code 7 = .ok (.ifCond .eq 7, 3) := dk_153 0 7 (dk_at dksX0_code_0 7 rfl rfl)
theorem dX0_code_10 : decode cX0_code 10 = .ok (.lconst 1, 1) := dk_10 (dk_at dksX0_code_0 10 rfl rfl)
theorem dX0_code_11 : decode cX0_code 11 = .ok (.goto 4, 3) := dk_167 0 4 (dk_at dksX0_code_0 11 rfl rfl)
theorem dX0_code_14 : decode cX0_code 14 = .ok (.lconst 0, 1) := dk_9 (dk_at dksX0_code_0 14 rfl rfl)
theorem dX0_code_15 : decode cX0_code 15 = .ok (.lastore, 1) := dk_80 (dk_at dksX0_code_0 15 rfl rfl)
theorem dX0_code_16 : decode cX0_code 16 = .ok (.goto 6, 3) := dk_167 0 6 (dk_at dksX0_code_0 16 rfl rfl)
theorem dX0_code_19 : decode cX0_code 19 = .ok (.astore_n 3, 1) := dk_78 (dk_at dksX0_code_0 19 rfl rfl)
theorem dX0_code_20 : decode cX0_code 20 = .ok (.iconst 1, 1) := dk_4 (dk_at dksX0_code_0 20 rfl rfl)
theorem dX0_code_21 : decode cX0_code 21 = .ok (.ireturn, 1) := dk_172 (dk_at dksX0_code_0 21 rfl rfl)
theorem dX0_code_22 : decode cX0_code 22 = .ok (.iconst 0, 1) := dk_3 (dk_at dksX0_code_0 22 rfl rfl)
theorem dX0_code_23 : decode cX0_code 23 = .ok (.ireturn, 1) := dk_172 (dk_at dksX0_code_0 23 rfl rfl)
abbrev cX0_whole : ByteArray := method_36_code
def yX0_whole : MethodName := ⟨RX0, "whole", "(LRepeatFree;III[J)I"⟩
def dkwX0_whole_1 : List UInt8 := [172]
abbrev dktX0_whole_1 : List UInt8 := dkwX0_whole_1 ++ []
def dkwX0_whole_0 : List UInt8 := [25, 4, 3, 42, 27, 28, 29, 182, 0, 126, 133, 80, 167, 0, 11, 58, 5, 4, 172, 58, 5, 5, 172, 3]
abbrev dktX0_whole_0 : List UInt8 := dkwX0_whole_0 ++ dktX0_whole_1
theorem dksX0_whole_0 : cX0_whole.data.toList.drop 0 = dktX0_whole_0 := by decide +kernel
theorem dksX0_whole_1 : cX0_whole.data.toList.drop 24 = dktX0_whole_1 := dk_seg dksX0_whole_0 24 rfl rfl
theorem dX0_whole_0 : decode cX0_whole 0 = .ok (.aload 4, 2) := dk_25 4 (dk_at dksX0_whole_0 0 rfl rfl)
theorem dX0_whole_2 : decode cX0_whole 2 = .ok (.iconst 0, 1) := dk_3 (dk_at dksX0_whole_0 2 rfl rfl)
theorem dX0_whole_3 : decode cX0_whole 3 = .ok (.aload_n 0, 1) := dk_42 (dk_at dksX0_whole_0 3 rfl rfl)
theorem dX0_whole_4 : decode cX0_whole 4 = .ok (.iload_n 1, 1) := dk_27 (dk_at dksX0_whole_0 4 rfl rfl)
theorem dX0_whole_5 : decode cX0_whole 5 = .ok (.iload_n 2, 1) := dk_28 (dk_at dksX0_whole_0 5 rfl rfl)
theorem dX0_whole_6 : decode cX0_whole 6 = .ok (.iload_n 3, 1) := dk_29 (dk_at dksX0_whole_0 6 rfl rfl)
theorem dX0_whole_7 : decode cX0_whole 7 = .ok (.invokevirtual 126, 3) := dk_182 0 126 (dk_at dksX0_whole_0 7 rfl rfl)
theorem dX0_whole_10 : decode cX0_whole 10 = .ok (.i2l, 1) := dk_133 (dk_at dksX0_whole_0 10 rfl rfl)
theorem dX0_whole_11 : decode cX0_whole 11 = .ok (.lastore, 1) := dk_80 (dk_at dksX0_whole_0 11 rfl rfl)
theorem dX0_whole_12 : decode cX0_whole 12 = .ok (.goto 11, 3) := dk_167 0 11 (dk_at dksX0_whole_0 12 rfl rfl)
theorem dX0_whole_15 : decode cX0_whole 15 = .ok (.astore 5, 2) := dk_58 5 (dk_at dksX0_whole_0 15 rfl rfl)
theorem dX0_whole_17 : decode cX0_whole 17 = .ok (.iconst 1, 1) := dk_4 (dk_at dksX0_whole_0 17 rfl rfl)
theorem dX0_whole_18 : decode cX0_whole 18 = .ok (.ireturn, 1) := dk_172 (dk_at dksX0_whole_0 18 rfl rfl)
theorem dX0_whole_19 : decode cX0_whole 19 = .ok (.astore 5, 2) := dk_58 5 (dk_at dksX0_whole_0 19 rfl rfl)
theorem dX0_whole_21 : decode cX0_whole 21 = .ok (.iconst 2, 1) := dk_5 (dk_at dksX0_whole_0 21 rfl rfl)
theorem dX0_whole_22 : decode cX0_whole 22 = .ok (.ireturn, 1) := dk_172 (dk_at dksX0_whole_0 22 rfl rfl)
theorem dX0_whole_23 : decode cX0_whole 23 = .ok (.iconst 0, 1) := dk_3 (dk_at dksX0_whole_0 23 rfl rfl)
theorem dX0_whole_24 : decode cX0_whole 24 = .ok (.ireturn, 1) := dk_172 (dk_at dksX0_whole_1 0 rfl rfl)
theorem q115 : (Jvm.Cond.initialized "RepeatFreeLaw") ∈ lw_all := lw_g (lw_at lw_m1 0 rfl) rfl
theorem q168 : (Jvm.Cond.classLink "RepeatFreeLaw" (8 : Nat) "RepeatFree") ∈ lw_all := lw_g (lw_at lw_m1 53 rfl) rfl
theorem q170 : (Jvm.Cond.methodLink "RepeatFreeLaw" (129 : Nat) ({ cls := "RepeatFree", name := "<init>", desc := "()V" } : Jvm.MethodName)) ∈ lw_all := lw_g (lw_at lw_m1 55 rfl) rfl
theorem q303 : (Jvm.Cond.methodLink "RepeatFreeLaw" (133 : Nat) ({ cls := "RepeatFree", name := "feed", desc := "(IIIII)I" } : Jvm.MethodName)) ∈ lw_all := lw_g (lw_at lw_m1 188 rfl) rfl
theorem q311 : (Jvm.Cond.methodLink "RepeatFreeLaw" (138 : Nat) ({ cls := "RepeatFree", name := "end", desc := "(I)Z" } : Jvm.MethodName)) ∈ lw_all := lw_g (lw_at lw_m1 196 rfl) rfl
theorem q315 : (Jvm.Cond.methodLink "RepeatFreeLaw" (154 : Nat) ({ cls := "RepeatFree", name := "fault", desc := "()I" } : Jvm.MethodName)) ∈ lw_all := lw_g (lw_at lw_m1 200 rfl) rfl
theorem q319 : (Jvm.Cond.methodLink "RepeatFreeLaw" (158 : Nat) ({ cls := "RepeatFree", name := "letter", desc := "(I)I" } : Jvm.MethodName)) ∈ lw_all := lw_g (lw_at lw_m1 204 rfl) rfl
theorem q326 : (Jvm.Cond.methodLink "RepeatFreeLaw" (169 : Nat) ({ cls := "RepeatFree", name := "undo", desc := "()I" } : Jvm.MethodName)) ∈ lw_all := lw_g (lw_at lw_m1 211 rfl) rfl
theorem q423 : (Jvm.Cond.methodLink "RepeatFreeLaw" (173 : Nat) ({ cls := "RepeatFree", name := "free", desc := "()Z" } : Jvm.MethodName)) ∈ lw_all := lw_g (lw_at lw_m2 68 rfl) rfl
theorem q512 : (Jvm.Cond.methodLink "RepeatFreeLaw" (178 : Nat) ({ cls := "RepeatFree", name := "ends", desc := "()I" } : Jvm.MethodName)) ∈ lw_all := lw_g (lw_at lw_m2 157 rfl) rfl
theorem q516 : (Jvm.Cond.methodLink "RepeatFreeLaw" (185 : Nat) ({ cls := "RepeatFree", name := "period", desc := "()I" } : Jvm.MethodName)) ∈ lw_all := lw_g (lw_at lw_m2 161 rfl) rfl
theorem q531 : (Jvm.Cond.methodLink "RepeatFreeLaw" (189 : Nat) ({ cls := "RepeatFree", name := "border", desc := "(I)I" } : Jvm.MethodName)) ∈ lw_all := lw_g (lw_at lw_m2 176 rfl) rfl
theorem q535 : (Jvm.Cond.methodLink "RepeatFreeLaw" (200 : Nat) ({ cls := "RepeatFree", name := "mirror", desc := "()I" } : Jvm.MethodName)) ∈ lw_all := lw_g (lw_at lw_m2 180 rfl) rfl
theorem q546 : (Jvm.Cond.methodLink "RepeatFreeLaw" (207 : Nat) ({ cls := "RepeatFree", name := "goes", desc := "()I" } : Jvm.MethodName)) ∈ lw_all := lw_g (lw_at lw_m2 191 rfl) rfl
theorem q564 : (Jvm.Cond.methodLink "RepeatFreeLaw" (211 : Nat) ({ cls := "RepeatFree", name := "further", desc := "()I" } : Jvm.MethodName)) ∈ lw_all := lw_g (lw_at lw_m2 209 rfl) rfl
theorem q597 : (Jvm.Cond.methodLink "RepeatFreeLaw" (224 : Nat) ({ cls := "RepeatFree", name := "longest", desc := "()I" } : Jvm.MethodName)) ∈ lw_all := lw_g (lw_at lw_m3 2 rfl) rfl
theorem q601 : (Jvm.Cond.methodLink "RepeatFreeLaw" (281 : Nat) ({ cls := "RepeatFree", name := "ahead", desc := "()I" } : Jvm.MethodName)) ∈ lw_all := lw_g (lw_at lw_m3 6 rfl) rfl
theorem q605 : (Jvm.Cond.methodLink "RepeatFreeLaw" (292 : Nat) ({ cls := "RepeatFree", name := "lyndon", desc := "(I)I" } : Jvm.MethodName)) ∈ lw_all := lw_g (lw_at lw_m3 10 rfl) rfl
theorem q609 : (Jvm.Cond.methodLink "RepeatFreeLaw" (296 : Nat) ({ cls := "RepeatFree", name := "turned", desc := "()I" } : Jvm.MethodName)) ∈ lw_all := lw_g (lw_at lw_m3 14 rfl) rfl
theorem q617 : (Jvm.Cond.methodLink "RepeatFreeLaw" (315 : Nat) ({ cls := "RepeatFree", name := "count", desc := "(I)I" } : Jvm.MethodName)) ∈ lw_all := lw_g (lw_at lw_m3 22 rfl) rfl
theorem q625 : (Jvm.Cond.methodLink "RepeatFreeLaw" (142 : Nat) ({ cls := "RepeatFreeLaw", name := "read", desc := "(LRepeatFree;[J)I" } : Jvm.MethodName)) ∈ lw_all := lw_g (lw_at lw_m3 30 rfl) rfl
theorem q626 : (Jvm.Cond.static ({ cls := "RepeatFreeLaw", name := "read", desc := "(LRepeatFree;[J)I" } : Jvm.MethodName)) ∈ lw_all := lw_g (lw_at lw_m3 31 rfl) rfl
theorem q627 : (Jvm.Cond.codeWith ({ cls := "RepeatFreeLaw", name := "read", desc := "(LRepeatFree;[J)I" } : Jvm.MethodName) method_3_code (3 : Nat) (Option.some Jvm.ClassFile.FieldType.int) [((0 : Nat), (8 : Nat), (11 : Nat), (13 : Nat))]) ∈ lw_all := lw_g (lw_at lw_m3 32 rfl) rfl
theorem q628 : (Jvm.Cond.classLink "RepeatFreeLaw" (13 : Nat) "java/lang/IllegalArgumentException") ∈ lw_all := lw_g (lw_at lw_m3 33 rfl) rfl
theorem q629 : (Jvm.Cond.methodLink "RepeatFreeLaw" (7 : Nat) ({ cls := "RepeatFree", name := "read", desc := "()I" } : Jvm.MethodName)) ∈ lw_all := lw_g (lw_at lw_m3 34 rfl) rfl
theorem q1540 : (Jvm.Cond.methodLink "RepeatFreeLaw" (151 : Nat) ({ cls := "RepeatFreeLaw", name := "word", desc := "(LRepeatFree;[J)I" } : Jvm.MethodName)) ∈ lw_all := lw_g (lw_at lw_m6 225 rfl) rfl
theorem q1541 : (Jvm.Cond.static ({ cls := "RepeatFreeLaw", name := "word", desc := "(LRepeatFree;[J)I" } : Jvm.MethodName)) ∈ lw_all := lw_g (lw_at lw_m6 226 rfl) rfl
theorem q1542 : (Jvm.Cond.codeWith ({ cls := "RepeatFreeLaw", name := "word", desc := "(LRepeatFree;[J)I" } : Jvm.MethodName) method_4_code (3 : Nat) (Option.some Jvm.ClassFile.FieldType.int) [((0 : Nat), (8 : Nat), (11 : Nat), (13 : Nat))]) ∈ lw_all := lw_g (lw_at lw_m6 227 rfl) rfl
theorem q1543 : (Jvm.Cond.methodLink "RepeatFreeLaw" (15 : Nat) ({ cls := "RepeatFree", name := "word", desc := "()I" } : Jvm.MethodName)) ∈ lw_all := lw_g (lw_at lw_m6 228 rfl) rfl
theorem q1605 : (Jvm.Cond.methodLink "RepeatFreeLaw" (162 : Nat) ({ cls := "RepeatFreeLaw", name := "push", desc := "(LRepeatFree;I[J)I" } : Jvm.MethodName)) ∈ lw_all := lw_g (lw_at lw_m7 50 rfl) rfl
theorem q1606 : (Jvm.Cond.static ({ cls := "RepeatFreeLaw", name := "push", desc := "(LRepeatFree;I[J)I" } : Jvm.MethodName)) ∈ lw_all := lw_g (lw_at lw_m7 51 rfl) rfl
theorem q1607 : (Jvm.Cond.codeWith ({ cls := "RepeatFreeLaw", name := "push", desc := "(LRepeatFree;I[J)I" } : Jvm.MethodName) method_5_code (4 : Nat) (Option.some Jvm.ClassFile.FieldType.int) [((0 : Nat), (9 : Nat), (12 : Nat), (13 : Nat)), ((0 : Nat), (9 : Nat), (15 : Nat), (22 : Nat))]) ∈ lw_all := lw_g (lw_at lw_m7 52 rfl) rfl
theorem q1608 : (Jvm.Cond.classLink "RepeatFreeLaw" (22 : Nat) "java/lang/IllegalStateException") ∈ lw_all := lw_g (lw_at lw_m7 53 rfl) rfl
theorem q1609 : (Jvm.Cond.methodLink "RepeatFreeLaw" (18 : Nat) ({ cls := "RepeatFree", name := "push", desc := "(I)I" } : Jvm.MethodName)) ∈ lw_all := lw_g (lw_at lw_m7 54 rfl) rfl
theorem q1628 : (Jvm.Cond.methodLink "RepeatFreeLaw" (166 : Nat) ({ cls := "RepeatFreeLaw", name := "pop", desc := "(LRepeatFree;[J)I" } : Jvm.MethodName)) ∈ lw_all := lw_g (lw_at lw_m7 73 rfl) rfl
theorem q1629 : (Jvm.Cond.static ({ cls := "RepeatFreeLaw", name := "pop", desc := "(LRepeatFree;[J)I" } : Jvm.MethodName)) ∈ lw_all := lw_g (lw_at lw_m7 74 rfl) rfl
theorem q1630 : (Jvm.Cond.codeWith ({ cls := "RepeatFreeLaw", name := "pop", desc := "(LRepeatFree;[J)I" } : Jvm.MethodName) method_6_code (3 : Nat) (Option.some Jvm.ClassFile.FieldType.int) [((0 : Nat), (8 : Nat), (11 : Nat), (22 : Nat))]) ∈ lw_all := lw_g (lw_at lw_m7 75 rfl) rfl
theorem q1631 : (Jvm.Cond.methodLink "RepeatFreeLaw" (24 : Nat) ({ cls := "RepeatFree", name := "pop", desc := "()I" } : Jvm.MethodName)) ∈ lw_all := lw_g (lw_at lw_m7 76 rfl) rfl
theorem q1635 : (Jvm.Cond.methodLink "RepeatFreeLaw" (182 : Nat) ({ cls := "RepeatFreeLaw", name := "greatest", desc := "(LRepeatFree;I[J)I" } : Jvm.MethodName)) ∈ lw_all := lw_g (lw_at lw_m7 80 rfl) rfl
theorem q1636 : (Jvm.Cond.static ({ cls := "RepeatFreeLaw", name := "greatest", desc := "(LRepeatFree;I[J)I" } : Jvm.MethodName)) ∈ lw_all := lw_g (lw_at lw_m7 81 rfl) rfl
theorem q1637 : (Jvm.Cond.codeWith ({ cls := "RepeatFreeLaw", name := "greatest", desc := "(LRepeatFree;I[J)I" } : Jvm.MethodName) method_7_code (4 : Nat) (Option.some Jvm.ClassFile.FieldType.int) [((0 : Nat), (9 : Nat), (12 : Nat), (30 : Nat))]) ∈ lw_all := lw_g (lw_at lw_m7 82 rfl) rfl
theorem q1638 : (Jvm.Cond.classLink "RepeatFreeLaw" (30 : Nat) "java/util/NoSuchElementException") ∈ lw_all := lw_g (lw_at lw_m7 83 rfl) rfl
theorem q1639 : (Jvm.Cond.methodLink "RepeatFreeLaw" (27 : Nat) ({ cls := "RepeatFree", name := "greatest", desc := "(I)I" } : Jvm.MethodName)) ∈ lw_all := lw_g (lw_at lw_m7 84 rfl) rfl
theorem q1649 : (Jvm.Cond.methodLink "RepeatFreeLaw" (193 : Nat) ({ cls := "RepeatFreeLaw", name := "run", desc := "(LRepeatFree;II[J)I" } : Jvm.MethodName)) ∈ lw_all := lw_g (lw_at lw_m7 94 rfl) rfl
theorem q1650 : (Jvm.Cond.static ({ cls := "RepeatFreeLaw", name := "run", desc := "(LRepeatFree;II[J)I" } : Jvm.MethodName)) ∈ lw_all := lw_g (lw_at lw_m7 95 rfl) rfl
theorem q1651 : (Jvm.Cond.codeWith ({ cls := "RepeatFreeLaw", name := "run", desc := "(LRepeatFree;II[J)I" } : Jvm.MethodName) method_8_code (5 : Nat) (Option.some Jvm.ClassFile.FieldType.int) [((0 : Nat), (10 : Nat), (13 : Nat), (30 : Nat))]) ∈ lw_all := lw_g (lw_at lw_m7 96 rfl) rfl
theorem q1652 : (Jvm.Cond.methodLink "RepeatFreeLaw" (32 : Nat) ({ cls := "RepeatFree", name := "run", desc := "(II)I" } : Jvm.MethodName)) ∈ lw_all := lw_g (lw_at lw_m7 97 rfl) rfl
theorem q1819 : (Jvm.Cond.methodLink "RepeatFreeLaw" (197 : Nat) ({ cls := "RepeatFreeLaw", name := "factors", desc := "(LRepeatFree;I[J)I" } : Jvm.MethodName)) ∈ lw_all := lw_g (lw_at lw_m8 24 rfl) rfl
theorem q1820 : (Jvm.Cond.static ({ cls := "RepeatFreeLaw", name := "factors", desc := "(LRepeatFree;I[J)I" } : Jvm.MethodName)) ∈ lw_all := lw_g (lw_at lw_m8 25 rfl) rfl
theorem q1821 : (Jvm.Cond.codeWith ({ cls := "RepeatFreeLaw", name := "factors", desc := "(LRepeatFree;I[J)I" } : Jvm.MethodName) method_9_code (4 : Nat) (Option.some Jvm.ClassFile.FieldType.int) [((0 : Nat), (9 : Nat), (12 : Nat), (13 : Nat))]) ∈ lw_all := lw_g (lw_at lw_m8 26 rfl) rfl
theorem q1822 : (Jvm.Cond.methodLink "RepeatFreeLaw" (36 : Nat) ({ cls := "RepeatFree", name := "factors", desc := "(I)I" } : Jvm.MethodName)) ∈ lw_all := lw_g (lw_at lw_m8 27 rfl) rfl
theorem q1828 : (Jvm.Cond.methodLink "RepeatFreeLaw" (204 : Nat) ({ cls := "RepeatFreeLaw", name := "met", desc := "(LRepeatFree;II[J)I" } : Jvm.MethodName)) ∈ lw_all := lw_g (lw_at lw_m8 33 rfl) rfl
theorem q1829 : (Jvm.Cond.static ({ cls := "RepeatFreeLaw", name := "met", desc := "(LRepeatFree;II[J)I" } : Jvm.MethodName)) ∈ lw_all := lw_g (lw_at lw_m8 34 rfl) rfl
theorem q1830 : (Jvm.Cond.codeWith ({ cls := "RepeatFreeLaw", name := "met", desc := "(LRepeatFree;II[J)I" } : Jvm.MethodName) method_10_code (5 : Nat) (Option.some Jvm.ClassFile.FieldType.int) [((0 : Nat), (10 : Nat), (13 : Nat), (42 : Nat)), ((0 : Nat), (10 : Nat), (17 : Nat), (30 : Nat))]) ∈ lw_all := lw_g (lw_at lw_m8 35 rfl) rfl
theorem q1831 : (Jvm.Cond.classLink "RepeatFreeLaw" (42 : Nat) "java/lang/IndexOutOfBoundsException") ∈ lw_all := lw_g (lw_at lw_m8 36 rfl) rfl
theorem q1847 : (Jvm.Cond.methodLink "RepeatFreeLaw" (39 : Nat) ({ cls := "RepeatFree", name := "met", desc := "(II)I" } : Jvm.MethodName)) ∈ lw_all := lw_g (lw_at lw_m8 52 rfl) rfl
theorem q1883 : (Jvm.Cond.methodLink "RepeatFreeLaw" (215 : Nat) ({ cls := "RepeatFreeLaw", name := "first", desc := "(LRepeatFree;I[J)I" } : Jvm.MethodName)) ∈ lw_all := lw_g (lw_at lw_m8 88 rfl) rfl
theorem q1884 : (Jvm.Cond.static ({ cls := "RepeatFreeLaw", name := "first", desc := "(LRepeatFree;I[J)I" } : Jvm.MethodName)) ∈ lw_all := lw_g (lw_at lw_m8 89 rfl) rfl
theorem q1885 : (Jvm.Cond.codeWith ({ cls := "RepeatFreeLaw", name := "first", desc := "(LRepeatFree;I[J)I" } : Jvm.MethodName) method_11_code (4 : Nat) (Option.some Jvm.ClassFile.FieldType.int) [((0 : Nat), (9 : Nat), (12 : Nat), (13 : Nat))]) ∈ lw_all := lw_g (lw_at lw_m8 90 rfl) rfl
theorem q1886 : (Jvm.Cond.methodLink "RepeatFreeLaw" (44 : Nat) ({ cls := "RepeatFree", name := "first", desc := "(I)I" } : Jvm.MethodName)) ∈ lw_all := lw_g (lw_at lw_m8 91 rfl) rfl
theorem q1891 : (Jvm.Cond.methodLink "RepeatFreeLaw" (218 : Nat) ({ cls := "RepeatFreeLaw", name := "next", desc := "(LRepeatFree;[J)I" } : Jvm.MethodName)) ∈ lw_all := lw_g (lw_at lw_m8 96 rfl) rfl
theorem q1892 : (Jvm.Cond.static ({ cls := "RepeatFreeLaw", name := "next", desc := "(LRepeatFree;[J)I" } : Jvm.MethodName)) ∈ lw_all := lw_g (lw_at lw_m8 97 rfl) rfl
theorem q1893 : (Jvm.Cond.codeWith ({ cls := "RepeatFreeLaw", name := "next", desc := "(LRepeatFree;[J)I" } : Jvm.MethodName) method_12_code (3 : Nat) (Option.some Jvm.ClassFile.FieldType.int) [((0 : Nat), (8 : Nat), (11 : Nat), (22 : Nat))]) ∈ lw_all := lw_g (lw_at lw_m8 98 rfl) rfl
theorem q1894 : (Jvm.Cond.methodLink "RepeatFreeLaw" (47 : Nat) ({ cls := "RepeatFree", name := "next", desc := "()I" } : Jvm.MethodName)) ∈ lw_all := lw_g (lw_at lw_m8 99 rfl) rfl
theorem q1898 : (Jvm.Cond.methodLink "RepeatFreeLaw" (221 : Nat) ({ cls := "RepeatFreeLaw", name := "many", desc := "(LRepeatFree;I[J)I" } : Jvm.MethodName)) ∈ lw_all := lw_g (lw_at lw_m8 103 rfl) rfl
theorem q1899 : (Jvm.Cond.static ({ cls := "RepeatFreeLaw", name := "many", desc := "(LRepeatFree;I[J)I" } : Jvm.MethodName)) ∈ lw_all := lw_g (lw_at lw_m8 104 rfl) rfl
theorem q1900 : (Jvm.Cond.codeWith ({ cls := "RepeatFreeLaw", name := "many", desc := "(LRepeatFree;I[J)I" } : Jvm.MethodName) method_13_code (4 : Nat) (Option.some Jvm.ClassFile.FieldType.int) [((0 : Nat), (9 : Nat), (12 : Nat), (13 : Nat))]) ∈ lw_all := lw_g (lw_at lw_m8 105 rfl) rfl
theorem q1901 : (Jvm.Cond.methodLink "RepeatFreeLaw" (50 : Nat) ({ cls := "RepeatFree", name := "many", desc := "(I)I" } : Jvm.MethodName)) ∈ lw_all := lw_g (lw_at lw_m8 106 rfl) rfl
theorem q1914 : (Jvm.Cond.methodLink "RepeatFreeLaw" (228 : Nat) ({ cls := "RepeatFreeLaw", name := "growth", desc := "(LRepeatFree;I[J)I" } : Jvm.MethodName)) ∈ lw_all := lw_g (lw_at lw_m8 119 rfl) rfl
theorem q1915 : (Jvm.Cond.static ({ cls := "RepeatFreeLaw", name := "growth", desc := "(LRepeatFree;I[J)I" } : Jvm.MethodName)) ∈ lw_all := lw_g (lw_at lw_m8 120 rfl) rfl
theorem q1916 : (Jvm.Cond.codeWith ({ cls := "RepeatFreeLaw", name := "growth", desc := "(LRepeatFree;I[J)I" } : Jvm.MethodName) method_14_code (4 : Nat) (Option.some Jvm.ClassFile.FieldType.int) [((0 : Nat), (9 : Nat), (12 : Nat), (13 : Nat))]) ∈ lw_all := lw_g (lw_at lw_m8 121 rfl) rfl
theorem q1917 : (Jvm.Cond.methodLink "RepeatFreeLaw" (53 : Nat) ({ cls := "RepeatFree", name := "growth", desc := "(I)I" } : Jvm.MethodName)) ∈ lw_all := lw_g (lw_at lw_m8 122 rfl) rfl
theorem q1922 : (Jvm.Cond.methodLink "RepeatFreeLaw" (231 : Nat) ({ cls := "RepeatFreeLaw", name := "image", desc := "(LRepeatFree;I[J)I" } : Jvm.MethodName)) ∈ lw_all := lw_g (lw_at lw_m8 127 rfl) rfl
theorem q1923 : (Jvm.Cond.static ({ cls := "RepeatFreeLaw", name := "image", desc := "(LRepeatFree;I[J)I" } : Jvm.MethodName)) ∈ lw_all := lw_g (lw_at lw_m8 128 rfl) rfl
theorem q1924 : (Jvm.Cond.codeWith ({ cls := "RepeatFreeLaw", name := "image", desc := "(LRepeatFree;I[J)I" } : Jvm.MethodName) method_15_code (4 : Nat) (Option.some Jvm.ClassFile.FieldType.int) [((0 : Nat), (9 : Nat), (12 : Nat), (42 : Nat)), ((0 : Nat), (9 : Nat), (15 : Nat), (22 : Nat))]) ∈ lw_all := lw_g (lw_at lw_m8 129 rfl) rfl
theorem q1925 : (Jvm.Cond.methodLink "RepeatFreeLaw" (56 : Nat) ({ cls := "RepeatFree", name := "image", desc := "(I)I" } : Jvm.MethodName)) ∈ lw_all := lw_g (lw_at lw_m8 130 rfl) rfl
theorem q1938 : (Jvm.Cond.methodLink "RepeatFreeLaw" (234 : Nat) ({ cls := "RepeatFreeLaw", name := "imaged", desc := "(LRepeatFree;III[J)I" } : Jvm.MethodName)) ∈ lw_all := lw_g (lw_at lw_m8 143 rfl) rfl
theorem q1939 : (Jvm.Cond.static ({ cls := "RepeatFreeLaw", name := "imaged", desc := "(LRepeatFree;III[J)I" } : Jvm.MethodName)) ∈ lw_all := lw_g (lw_at lw_m8 144 rfl) rfl
theorem q1940 : (Jvm.Cond.codeWith ({ cls := "RepeatFreeLaw", name := "imaged", desc := "(LRepeatFree;III[J)I" } : Jvm.MethodName) method_16_code (6 : Nat) (Option.some Jvm.ClassFile.FieldType.int) [((0 : Nat), (12 : Nat), (15 : Nat), (42 : Nat)), ((0 : Nat), (12 : Nat), (19 : Nat), (13 : Nat))]) ∈ lw_all := lw_g (lw_at lw_m8 145 rfl) rfl
theorem q1941 : (Jvm.Cond.methodLink "RepeatFreeLaw" (59 : Nat) ({ cls := "RepeatFree", name := "imaged", desc := "(III)I" } : Jvm.MethodName)) ∈ lw_all := lw_g (lw_at lw_m8 146 rfl) rfl
theorem q1945 : (Jvm.Cond.methodLink "RepeatFreeLaw" (238 : Nat) ({ cls := "RepeatFreeLaw", name := "length", desc := "(LRepeatFree;III[J)I" } : Jvm.MethodName)) ∈ lw_all := lw_g (lw_at lw_m8 150 rfl) rfl
theorem q1946 : (Jvm.Cond.static ({ cls := "RepeatFreeLaw", name := "length", desc := "(LRepeatFree;III[J)I" } : Jvm.MethodName)) ∈ lw_all := lw_g (lw_at lw_m8 151 rfl) rfl
theorem q1947 : (Jvm.Cond.codeWith ({ cls := "RepeatFreeLaw", name := "length", desc := "(LRepeatFree;III[J)I" } : Jvm.MethodName) method_17_code (6 : Nat) (Option.some Jvm.ClassFile.FieldType.int) [((0 : Nat), (11 : Nat), (14 : Nat), (42 : Nat)), ((0 : Nat), (11 : Nat), (18 : Nat), (13 : Nat))]) ∈ lw_all := lw_g (lw_at lw_m8 152 rfl) rfl
theorem q1948 : (Jvm.Cond.methodLink "RepeatFreeLaw" (63 : Nat) ({ cls := "RepeatFree", name := "length", desc := "(III)J" } : Jvm.MethodName)) ∈ lw_all := lw_g (lw_at lw_m8 153 rfl) rfl
theorem q1968 : (Jvm.Cond.methodLink "RepeatFreeLaw" (243 : Nat) ({ cls := "RepeatFreeLaw", name := "power", desc := "(LRepeatFree;IIIJ[J)I" } : Jvm.MethodName)) ∈ lw_all := lw_g (lw_at lw_m8 173 rfl) rfl
theorem q1969 : (Jvm.Cond.static ({ cls := "RepeatFreeLaw", name := "power", desc := "(LRepeatFree;IIIJ[J)I" } : Jvm.MethodName)) ∈ lw_all := lw_g (lw_at lw_m8 174 rfl) rfl
theorem q1970 : (Jvm.Cond.codeWith ({ cls := "RepeatFreeLaw", name := "power", desc := "(LRepeatFree;IIIJ[J)I" } : Jvm.MethodName) method_18_code (8 : Nat) (Option.some Jvm.ClassFile.FieldType.int) [((0 : Nat), (14 : Nat), (17 : Nat), (42 : Nat)), ((0 : Nat), (14 : Nat), (21 : Nat), (13 : Nat))]) ∈ lw_all := lw_g (lw_at lw_m8 175 rfl) rfl
theorem q1971 : (Jvm.Cond.methodLink "RepeatFreeLaw" (67 : Nat) ({ cls := "RepeatFree", name := "power", desc := "(IIIJ)I" } : Jvm.MethodName)) ∈ lw_all := lw_g (lw_at lw_m8 176 rfl) rfl
theorem q1975 : (Jvm.Cond.methodLink "RepeatFreeLaw" (247 : Nat) ({ cls := "RepeatFreeLaw", name := "often", desc := "(LRepeatFree;IIII[J)I" } : Jvm.MethodName)) ∈ lw_all := lw_g (lw_at lw_m8 180 rfl) rfl
theorem q1976 : (Jvm.Cond.static ({ cls := "RepeatFreeLaw", name := "often", desc := "(LRepeatFree;IIII[J)I" } : Jvm.MethodName)) ∈ lw_all := lw_g (lw_at lw_m8 181 rfl) rfl
theorem q1977 : (Jvm.Cond.codeWith ({ cls := "RepeatFreeLaw", name := "often", desc := "(LRepeatFree;IIII[J)I" } : Jvm.MethodName) method_19_code (7 : Nat) (Option.some Jvm.ClassFile.FieldType.int) [((0 : Nat), (13 : Nat), (16 : Nat), (42 : Nat)), ((0 : Nat), (13 : Nat), (20 : Nat), (13 : Nat))]) ∈ lw_all := lw_g (lw_at lw_m8 182 rfl) rfl
theorem q1978 : (Jvm.Cond.methodLink "RepeatFreeLaw" (71 : Nat) ({ cls := "RepeatFree", name := "often", desc := "(IIII)J" } : Jvm.MethodName)) ∈ lw_all := lw_g (lw_at lw_m8 183 rfl) rfl
theorem q1982 : (Jvm.Cond.methodLink "RepeatFreeLaw" (251 : Nat) ({ cls := "RepeatFreeLaw", name := "keeps", desc := "(LRepeatFree;II[J)I" } : Jvm.MethodName)) ∈ lw_all := lw_g (lw_at lw_m8 187 rfl) rfl
theorem q1983 : (Jvm.Cond.static ({ cls := "RepeatFreeLaw", name := "keeps", desc := "(LRepeatFree;II[J)I" } : Jvm.MethodName)) ∈ lw_all := lw_g (lw_at lw_m8 188 rfl) rfl
theorem q1984 : (Jvm.Cond.codeWith ({ cls := "RepeatFreeLaw", name := "keeps", desc := "(LRepeatFree;II[J)I" } : Jvm.MethodName) method_20_code (5 : Nat) (Option.some Jvm.ClassFile.FieldType.int) [((0 : Nat), (10 : Nat), (13 : Nat), (42 : Nat)), ((0 : Nat), (10 : Nat), (17 : Nat), (13 : Nat))]) ∈ lw_all := lw_g (lw_at lw_m8 189 rfl) rfl
theorem q1985 : (Jvm.Cond.methodLink "RepeatFreeLaw" (75 : Nat) ({ cls := "RepeatFree", name := "keeps", desc := "(II)I" } : Jvm.MethodName)) ∈ lw_all := lw_g (lw_at lw_m8 190 rfl) rfl
theorem q2001 : (Jvm.Cond.methodLink "RepeatFreeLaw" (254 : Nat) ({ cls := "RepeatFreeLaw", name := "breaks", desc := "(LRepeatFree;II[J)I" } : Jvm.MethodName)) ∈ lw_all := lw_g (lw_at lw_m8 206 rfl) rfl
theorem q2002 : (Jvm.Cond.static ({ cls := "RepeatFreeLaw", name := "breaks", desc := "(LRepeatFree;II[J)I" } : Jvm.MethodName)) ∈ lw_all := lw_g (lw_at lw_m8 207 rfl) rfl
theorem q2003 : (Jvm.Cond.codeWith ({ cls := "RepeatFreeLaw", name := "breaks", desc := "(LRepeatFree;II[J)I" } : Jvm.MethodName) method_21_code (5 : Nat) (Option.some Jvm.ClassFile.FieldType.int) [((0 : Nat), (10 : Nat), (13 : Nat), (42 : Nat)), ((0 : Nat), (10 : Nat), (17 : Nat), (13 : Nat))]) ∈ lw_all := lw_g (lw_at lw_m8 208 rfl) rfl
theorem q2004 : (Jvm.Cond.methodLink "RepeatFreeLaw" (78 : Nat) ({ cls := "RepeatFree", name := "breaks", desc := "(II)I" } : Jvm.MethodName)) ∈ lw_all := lw_g (lw_at lw_m8 209 rfl) rfl
theorem q2005 : (Jvm.Cond.methodLink "RepeatFreeLaw" (257 : Nat) ({ cls := "RepeatFreeLaw", name := "grows", desc := "(LRepeatFree;I[J)I" } : Jvm.MethodName)) ∈ lw_all := lw_g (lw_at lw_m8 210 rfl) rfl
theorem q2006 : (Jvm.Cond.static ({ cls := "RepeatFreeLaw", name := "grows", desc := "(LRepeatFree;I[J)I" } : Jvm.MethodName)) ∈ lw_all := lw_g (lw_at lw_m8 211 rfl) rfl
theorem q2007 : (Jvm.Cond.codeWith ({ cls := "RepeatFreeLaw", name := "grows", desc := "(LRepeatFree;I[J)I" } : Jvm.MethodName) method_22_code (4 : Nat) (Option.some Jvm.ClassFile.FieldType.int) [((0 : Nat), (9 : Nat), (12 : Nat), (42 : Nat))]) ∈ lw_all := lw_g (lw_at lw_m8 212 rfl) rfl
theorem q2008 : (Jvm.Cond.methodLink "RepeatFreeLaw" (81 : Nat) ({ cls := "RepeatFree", name := "grows", desc := "(I)I" } : Jvm.MethodName)) ∈ lw_all := lw_g (lw_at lw_m8 213 rfl) rfl
theorem q2012 : (Jvm.Cond.methodLink "RepeatFreeLaw" (260 : Nat) ({ cls := "RepeatFreeLaw", name := "uniform", desc := "(LRepeatFree;I[J)I" } : Jvm.MethodName)) ∈ lw_all := lw_g (lw_at lw_m8 217 rfl) rfl
theorem q2013 : (Jvm.Cond.static ({ cls := "RepeatFreeLaw", name := "uniform", desc := "(LRepeatFree;I[J)I" } : Jvm.MethodName)) ∈ lw_all := lw_g (lw_at lw_m8 218 rfl) rfl
theorem q2014 : (Jvm.Cond.codeWith ({ cls := "RepeatFreeLaw", name := "uniform", desc := "(LRepeatFree;I[J)I" } : Jvm.MethodName) method_23_code (4 : Nat) (Option.some Jvm.ClassFile.FieldType.int) [((0 : Nat), (9 : Nat), (12 : Nat), (42 : Nat))]) ∈ lw_all := lw_g (lw_at lw_m8 219 rfl) rfl
theorem q2015 : (Jvm.Cond.methodLink "RepeatFreeLaw" (84 : Nat) ({ cls := "RepeatFree", name := "uniform", desc := "(I)I" } : Jvm.MethodName)) ∈ lw_all := lw_g (lw_at lw_m8 220 rfl) rfl
theorem q2019 : (Jvm.Cond.methodLink "RepeatFreeLaw" (263 : Nat) ({ cls := "RepeatFreeLaw", name := "cannot", desc := "(LRepeatFree;I[J)I" } : Jvm.MethodName)) ∈ lw_all := lw_g (lw_at lw_m8 224 rfl) rfl
theorem q2020 : (Jvm.Cond.static ({ cls := "RepeatFreeLaw", name := "cannot", desc := "(LRepeatFree;I[J)I" } : Jvm.MethodName)) ∈ lw_all := lw_g (lw_at lw_m8 225 rfl) rfl
theorem q2021 : (Jvm.Cond.codeWith ({ cls := "RepeatFreeLaw", name := "cannot", desc := "(LRepeatFree;I[J)I" } : Jvm.MethodName) method_24_code (4 : Nat) (Option.some Jvm.ClassFile.FieldType.int) [((0 : Nat), (16 : Nat), (19 : Nat), (42 : Nat))]) ∈ lw_all := lw_g (lw_at lw_m8 226 rfl) rfl
theorem q2022 : (Jvm.Cond.methodLink "RepeatFreeLaw" (87 : Nat) ({ cls := "RepeatFree", name := "cannot", desc := "(I)Z" } : Jvm.MethodName)) ∈ lw_all := lw_g (lw_at lw_m8 227 rfl) rfl
theorem q2083 : (Jvm.Cond.methodLink "RepeatFreeLaw" (266 : Nat) ({ cls := "RepeatFreeLaw", name := "loose", desc := "(LRepeatFree;II[J)I" } : Jvm.MethodName)) ∈ lw_all := lw_g (lw_at lw_m9 48 rfl) rfl
theorem q2084 : (Jvm.Cond.static ({ cls := "RepeatFreeLaw", name := "loose", desc := "(LRepeatFree;II[J)I" } : Jvm.MethodName)) ∈ lw_all := lw_g (lw_at lw_m9 49 rfl) rfl
theorem q2085 : (Jvm.Cond.codeWith ({ cls := "RepeatFreeLaw", name := "loose", desc := "(LRepeatFree;II[J)I" } : Jvm.MethodName) method_25_code (5 : Nat) (Option.some Jvm.ClassFile.FieldType.int) [((0 : Nat), (10 : Nat), (13 : Nat), (42 : Nat))]) ∈ lw_all := lw_g (lw_at lw_m9 50 rfl) rfl
theorem q2086 : (Jvm.Cond.methodLink "RepeatFreeLaw" (91 : Nat) ({ cls := "RepeatFree", name := "loose", desc := "(II)I" } : Jvm.MethodName)) ∈ lw_all := lw_g (lw_at lw_m9 51 rfl) rfl
theorem q2090 : (Jvm.Cond.methodLink "RepeatFreeLaw" (269 : Nat) ({ cls := "RepeatFreeLaw", name := "pattern", desc := "(LRepeatFree;II[J)I" } : Jvm.MethodName)) ∈ lw_all := lw_g (lw_at lw_m9 55 rfl) rfl
theorem q2091 : (Jvm.Cond.static ({ cls := "RepeatFreeLaw", name := "pattern", desc := "(LRepeatFree;II[J)I" } : Jvm.MethodName)) ∈ lw_all := lw_g (lw_at lw_m9 56 rfl) rfl
theorem q2092 : (Jvm.Cond.codeWith ({ cls := "RepeatFreeLaw", name := "pattern", desc := "(LRepeatFree;II[J)I" } : Jvm.MethodName) method_26_code (5 : Nat) (Option.some Jvm.ClassFile.FieldType.int) [((0 : Nat), (10 : Nat), (13 : Nat), (42 : Nat)), ((0 : Nat), (10 : Nat), (17 : Nat), (30 : Nat))]) ∈ lw_all := lw_g (lw_at lw_m9 57 rfl) rfl
theorem q2093 : (Jvm.Cond.methodLink "RepeatFreeLaw" (94 : Nat) ({ cls := "RepeatFree", name := "pattern", desc := "(II)I" } : Jvm.MethodName)) ∈ lw_all := lw_g (lw_at lw_m9 58 rfl) rfl
theorem q2097 : (Jvm.Cond.methodLink "RepeatFreeLaw" (272 : Nat) ({ cls := "RepeatFreeLaw", name := "stuck", desc := "(LRepeatFree;I[J)I" } : Jvm.MethodName)) ∈ lw_all := lw_g (lw_at lw_m9 62 rfl) rfl
theorem q2098 : (Jvm.Cond.static ({ cls := "RepeatFreeLaw", name := "stuck", desc := "(LRepeatFree;I[J)I" } : Jvm.MethodName)) ∈ lw_all := lw_g (lw_at lw_m9 63 rfl) rfl
theorem q2099 : (Jvm.Cond.codeWith ({ cls := "RepeatFreeLaw", name := "stuck", desc := "(LRepeatFree;I[J)I" } : Jvm.MethodName) method_27_code (4 : Nat) (Option.some Jvm.ClassFile.FieldType.int) [((0 : Nat), (9 : Nat), (12 : Nat), (13 : Nat))]) ∈ lw_all := lw_g (lw_at lw_m9 64 rfl) rfl
theorem q2100 : (Jvm.Cond.methodLink "RepeatFreeLaw" (97 : Nat) ({ cls := "RepeatFree", name := "stuck", desc := "(I)I" } : Jvm.MethodName)) ∈ lw_all := lw_g (lw_at lw_m9 65 rfl) rfl
theorem q2108 : (Jvm.Cond.methodLink "RepeatFreeLaw" (275 : Nat) ({ cls := "RepeatFreeLaw", name := "rank", desc := "(LRepeatFree;[J)I" } : Jvm.MethodName)) ∈ lw_all := lw_g (lw_at lw_m9 73 rfl) rfl
theorem q2109 : (Jvm.Cond.static ({ cls := "RepeatFreeLaw", name := "rank", desc := "(LRepeatFree;[J)I" } : Jvm.MethodName)) ∈ lw_all := lw_g (lw_at lw_m9 74 rfl) rfl
theorem q2110 : (Jvm.Cond.codeWith ({ cls := "RepeatFreeLaw", name := "rank", desc := "(LRepeatFree;[J)I" } : Jvm.MethodName) method_28_code (3 : Nat) (Option.some Jvm.ClassFile.FieldType.int) [((0 : Nat), (8 : Nat), (11 : Nat), (22 : Nat))]) ∈ lw_all := lw_g (lw_at lw_m9 75 rfl) rfl
theorem q2111 : (Jvm.Cond.methodLink "RepeatFreeLaw" (100 : Nat) ({ cls := "RepeatFree", name := "rank", desc := "()I" } : Jvm.MethodName)) ∈ lw_all := lw_g (lw_at lw_m9 76 rfl) rfl
theorem q2119 : (Jvm.Cond.methodLink "RepeatFreeLaw" (278 : Nat) ({ cls := "RepeatFreeLaw", name := "nth", desc := "(LRepeatFree;II[J)I" } : Jvm.MethodName)) ∈ lw_all := lw_g (lw_at lw_m9 84 rfl) rfl
theorem q2120 : (Jvm.Cond.static ({ cls := "RepeatFreeLaw", name := "nth", desc := "(LRepeatFree;II[J)I" } : Jvm.MethodName)) ∈ lw_all := lw_g (lw_at lw_m9 85 rfl) rfl
theorem q2121 : (Jvm.Cond.codeWith ({ cls := "RepeatFreeLaw", name := "nth", desc := "(LRepeatFree;II[J)I" } : Jvm.MethodName) method_29_code (5 : Nat) (Option.some Jvm.ClassFile.FieldType.int) [((0 : Nat), (10 : Nat), (13 : Nat), (13 : Nat))]) ∈ lw_all := lw_g (lw_at lw_m9 86 rfl) rfl
theorem q2122 : (Jvm.Cond.methodLink "RepeatFreeLaw" (103 : Nat) ({ cls := "RepeatFree", name := "nth", desc := "(II)I" } : Jvm.MethodName)) ∈ lw_all := lw_g (lw_at lw_m9 87 rfl) rfl
theorem q2126 : (Jvm.Cond.methodLink "RepeatFreeLaw" (285 : Nat) ({ cls := "RepeatFreeLaw", name := "limit", desc := "(LRepeatFree;III[J)I" } : Jvm.MethodName)) ∈ lw_all := lw_g (lw_at lw_m9 91 rfl) rfl
theorem q2127 : (Jvm.Cond.static ({ cls := "RepeatFreeLaw", name := "limit", desc := "(LRepeatFree;III[J)I" } : Jvm.MethodName)) ∈ lw_all := lw_g (lw_at lw_m9 92 rfl) rfl
theorem q2128 : (Jvm.Cond.codeWith ({ cls := "RepeatFreeLaw", name := "limit", desc := "(LRepeatFree;III[J)I" } : Jvm.MethodName) method_30_code (6 : Nat) (Option.some Jvm.ClassFile.FieldType.int) [((0 : Nat), (12 : Nat), (15 : Nat), (13 : Nat))]) ∈ lw_all := lw_g (lw_at lw_m9 93 rfl) rfl
theorem q2129 : (Jvm.Cond.methodLink "RepeatFreeLaw" (106 : Nat) ({ cls := "RepeatFree", name := "limit", desc := "(III)I" } : Jvm.MethodName)) ∈ lw_all := lw_g (lw_at lw_m9 94 rfl) rfl
theorem q2137 : (Jvm.Cond.methodLink "RepeatFreeLaw" (288 : Nat) ({ cls := "RepeatFreeLaw", name := "avoid", desc := "(LRepeatFree;IZ[J)I" } : Jvm.MethodName)) ∈ lw_all := lw_g (lw_at lw_m9 102 rfl) rfl
theorem q2138 : (Jvm.Cond.static ({ cls := "RepeatFreeLaw", name := "avoid", desc := "(LRepeatFree;IZ[J)I" } : Jvm.MethodName)) ∈ lw_all := lw_g (lw_at lw_m9 103 rfl) rfl
theorem q2139 : (Jvm.Cond.codeWith ({ cls := "RepeatFreeLaw", name := "avoid", desc := "(LRepeatFree;IZ[J)I" } : Jvm.MethodName) method_31_code (5 : Nat) (Option.some Jvm.ClassFile.FieldType.int) [((0 : Nat), (17 : Nat), (20 : Nat), (42 : Nat))]) ∈ lw_all := lw_g (lw_at lw_m9 104 rfl) rfl
theorem q2140 : (Jvm.Cond.methodLink "RepeatFreeLaw" (109 : Nat) ({ cls := "RepeatFree", name := "avoid", desc := "(IZ)Z" } : Jvm.MethodName)) ∈ lw_all := lw_g (lw_at lw_m9 105 rfl) rfl
theorem q2144 : (Jvm.Cond.methodLink "RepeatFreeLaw" (300 : Nat) ({ cls := "RepeatFreeLaw", name := "local", desc := "(LRepeatFree;I[J)I" } : Jvm.MethodName)) ∈ lw_all := lw_g (lw_at lw_m9 109 rfl) rfl
theorem q2145 : (Jvm.Cond.static ({ cls := "RepeatFreeLaw", name := "local", desc := "(LRepeatFree;I[J)I" } : Jvm.MethodName)) ∈ lw_all := lw_g (lw_at lw_m9 110 rfl) rfl
theorem q2146 : (Jvm.Cond.codeWith ({ cls := "RepeatFreeLaw", name := "local", desc := "(LRepeatFree;I[J)I" } : Jvm.MethodName) method_32_code (4 : Nat) (Option.some Jvm.ClassFile.FieldType.int) [((0 : Nat), (9 : Nat), (12 : Nat), (13 : Nat))]) ∈ lw_all := lw_g (lw_at lw_m9 111 rfl) rfl
theorem q2147 : (Jvm.Cond.methodLink "RepeatFreeLaw" (113 : Nat) ({ cls := "RepeatFree", name := "local", desc := "(I)I" } : Jvm.MethodName)) ∈ lw_all := lw_g (lw_at lw_m9 112 rfl) rfl
theorem q2155 : (Jvm.Cond.methodLink "RepeatFreeLaw" (303 : Nat) ({ cls := "RepeatFreeLaw", name := "fill", desc := "(LRepeatFree;III[J)I" } : Jvm.MethodName)) ∈ lw_all := lw_g (lw_at lw_m9 120 rfl) rfl
theorem q2156 : (Jvm.Cond.static ({ cls := "RepeatFreeLaw", name := "fill", desc := "(LRepeatFree;III[J)I" } : Jvm.MethodName)) ∈ lw_all := lw_g (lw_at lw_m9 121 rfl) rfl
theorem q2157 : (Jvm.Cond.codeWith ({ cls := "RepeatFreeLaw", name := "fill", desc := "(LRepeatFree;III[J)I" } : Jvm.MethodName) method_33_code (6 : Nat) (Option.some Jvm.ClassFile.FieldType.int) [((0 : Nat), (12 : Nat), (15 : Nat), (42 : Nat)), ((0 : Nat), (12 : Nat), (19 : Nat), (13 : Nat)), ((0 : Nat), (12 : Nat), (23 : Nat), (22 : Nat))]) ∈ lw_all := lw_g (lw_at lw_m9 122 rfl) rfl
theorem q2158 : (Jvm.Cond.methodLink "RepeatFreeLaw" (116 : Nat) ({ cls := "RepeatFree", name := "fill", desc := "(III)I" } : Jvm.MethodName)) ∈ lw_all := lw_g (lw_at lw_m9 123 rfl) rfl
theorem q2163 : (Jvm.Cond.methodLink "RepeatFreeLaw" (306 : Nat) ({ cls := "RepeatFreeLaw", name := "sources", desc := "(LRepeatFree;I[J)I" } : Jvm.MethodName)) ∈ lw_all := lw_g (lw_at lw_m9 128 rfl) rfl
theorem q2164 : (Jvm.Cond.static ({ cls := "RepeatFreeLaw", name := "sources", desc := "(LRepeatFree;I[J)I" } : Jvm.MethodName)) ∈ lw_all := lw_g (lw_at lw_m9 129 rfl) rfl
theorem q2165 : (Jvm.Cond.codeWith ({ cls := "RepeatFreeLaw", name := "sources", desc := "(LRepeatFree;I[J)I" } : Jvm.MethodName) method_34_code (4 : Nat) (Option.some Jvm.ClassFile.FieldType.int) [((0 : Nat), (8 : Nat), (11 : Nat), (42 : Nat))]) ∈ lw_all := lw_g (lw_at lw_m9 130 rfl) rfl
theorem q2166 : (Jvm.Cond.methodLink "RepeatFreeLaw" (119 : Nat) ({ cls := "RepeatFree", name := "sources", desc := "(I)J" } : Jvm.MethodName)) ∈ lw_all := lw_g (lw_at lw_m9 131 rfl) rfl
theorem q2174 : (Jvm.Cond.methodLink "RepeatFreeLaw" (309 : Nat) ({ cls := "RepeatFreeLaw", name := "code", desc := "(LRepeatFree;I[J)I" } : Jvm.MethodName)) ∈ lw_all := lw_g (lw_at lw_m9 139 rfl) rfl
theorem q2175 : (Jvm.Cond.static ({ cls := "RepeatFreeLaw", name := "code", desc := "(LRepeatFree;I[J)I" } : Jvm.MethodName)) ∈ lw_all := lw_g (lw_at lw_m9 140 rfl) rfl
theorem q2176 : (Jvm.Cond.codeWith ({ cls := "RepeatFreeLaw", name := "code", desc := "(LRepeatFree;I[J)I" } : Jvm.MethodName) method_35_code (4 : Nat) (Option.some Jvm.ClassFile.FieldType.int) [((0 : Nat), (16 : Nat), (19 : Nat), (42 : Nat))]) ∈ lw_all := lw_g (lw_at lw_m9 141 rfl) rfl
theorem q2177 : (Jvm.Cond.methodLink "RepeatFreeLaw" (123 : Nat) ({ cls := "RepeatFree", name := "code", desc := "(I)Z" } : Jvm.MethodName)) ∈ lw_all := lw_g (lw_at lw_m9 142 rfl) rfl
theorem q2227 : (Jvm.Cond.methodLink "RepeatFreeLaw" (312 : Nat) ({ cls := "RepeatFreeLaw", name := "whole", desc := "(LRepeatFree;III[J)I" } : Jvm.MethodName)) ∈ lw_all := lw_g (lw_at lw_m9 192 rfl) rfl
theorem q2228 : (Jvm.Cond.static ({ cls := "RepeatFreeLaw", name := "whole", desc := "(LRepeatFree;III[J)I" } : Jvm.MethodName)) ∈ lw_all := lw_g (lw_at lw_m9 193 rfl) rfl
theorem q2229 : (Jvm.Cond.codeWith ({ cls := "RepeatFreeLaw", name := "whole", desc := "(LRepeatFree;III[J)I" } : Jvm.MethodName) method_36_code (6 : Nat) (Option.some Jvm.ClassFile.FieldType.int) [((0 : Nat), (12 : Nat), (15 : Nat), (42 : Nat)), ((0 : Nat), (12 : Nat), (19 : Nat), (30 : Nat))]) ∈ lw_all := lw_g (lw_at lw_m9 194 rfl) rfl
theorem q2230 : (Jvm.Cond.methodLink "RepeatFreeLaw" (126 : Nat) ({ cls := "RepeatFree", name := "whole", desc := "(III)I" } : Jvm.MethodName)) ∈ lw_all := lw_g (lw_at lw_m9 195 rfl) rfl
theorem q2240 : (Jvm.Cond.methodLink "RepeatFreeLaw" (148 : Nat) ({ cls := "RepeatFreeModel", name := "thrown", desc := "()I" } : Jvm.MethodName)) ∈ lw_all := lw_g (lw_at lw_m9 205 rfl) rfl
theorem q2244 : (Jvm.Cond.methodLink "RepeatFreeLaw" (137 : Nat) ({ cls := "RepeatFreeModel", name := "feed", desc := "(IIIII)I" } : Jvm.MethodName)) ∈ lw_all := lw_g (lw_at lw_m9 209 rfl) rfl
theorem q2248 : (Jvm.Cond.methodLink "RepeatFreeLaw" (141 : Nat) ({ cls := "RepeatFreeModel", name := "end", desc := "(I)Z" } : Jvm.MethodName)) ∈ lw_all := lw_g (lw_at lw_m9 213 rfl) rfl
theorem q2252 : (Jvm.Cond.methodLink "RepeatFreeLaw" (157 : Nat) ({ cls := "RepeatFreeModel", name := "fault", desc := "()I" } : Jvm.MethodName)) ∈ lw_all := lw_g (lw_at lw_m9 217 rfl) rfl
theorem q2256 : (Jvm.Cond.classLink "RepeatFreeLaw" (130 : Nat) "RepeatFreeModel") ∈ lw_all := lw_g (lw_at lw_m9 221 rfl) rfl
theorem q2258 : (Jvm.Cond.methodLink "RepeatFreeLaw" (132 : Nat) ({ cls := "RepeatFreeModel", name := "<init>", desc := "()V" } : Jvm.MethodName)) ∈ lw_all := lw_g (lw_at lw_m9 223 rfl) rfl
theorem q2360 : (Jvm.Cond.methodLink "RepeatFreeLaw" (147 : Nat) ({ cls := "RepeatFreeModel", name := "read", desc := "()I" } : Jvm.MethodName)) ∈ lw_all := lw_g (lw_at lw_m10 85 rfl) rfl
theorem q2461 : (Jvm.Cond.methodLink "RepeatFreeLaw" (172 : Nat) ({ cls := "RepeatFreeModel", name := "undo", desc := "()I" } : Jvm.MethodName)) ∈ lw_all := lw_g (lw_at lw_m10 186 rfl) rfl
theorem q2465 : (Jvm.Cond.methodLink "RepeatFreeLaw" (153 : Nat) ({ cls := "RepeatFreeModel", name := "word", desc := "()I" } : Jvm.MethodName)) ∈ lw_all := lw_g (lw_at lw_m10 190 rfl) rfl
theorem q2477 : (Jvm.Cond.methodLink "RepeatFreeLaw" (161 : Nat) ({ cls := "RepeatFreeModel", name := "letter", desc := "(I)I" } : Jvm.MethodName)) ∈ lw_all := lw_g (lw_at lw_m10 202 rfl) rfl
theorem q2481 : (Jvm.Cond.methodLink "RepeatFreeLaw" (165 : Nat) ({ cls := "RepeatFreeModel", name := "push", desc := "(I)I" } : Jvm.MethodName)) ∈ lw_all := lw_g (lw_at lw_m10 206 rfl) rfl
theorem q2489 : (Jvm.Cond.methodLink "RepeatFreeLaw" (168 : Nat) ({ cls := "RepeatFreeModel", name := "pop", desc := "()I" } : Jvm.MethodName)) ∈ lw_all := lw_g (lw_at lw_m10 214 rfl) rfl
theorem q2493 : (Jvm.Cond.methodLink "RepeatFreeLaw" (177 : Nat) ({ cls := "RepeatFreeModel", name := "free", desc := "()Z" } : Jvm.MethodName)) ∈ lw_all := lw_g (lw_at lw_m10 218 rfl) rfl
theorem q2545 : (Jvm.Cond.methodLink "RepeatFreeLaw" (181 : Nat) ({ cls := "RepeatFreeModel", name := "ends", desc := "()I" } : Jvm.MethodName)) ∈ lw_all := lw_g (lw_at lw_m11 30 rfl) rfl
theorem q2553 : (Jvm.Cond.methodLink "RepeatFreeLaw" (210 : Nat) ({ cls := "RepeatFreeModel", name := "goes", desc := "()I" } : Jvm.MethodName)) ∈ lw_all := lw_g (lw_at lw_m11 38 rfl) rfl
theorem q2561 : (Jvm.Cond.methodLink "RepeatFreeLaw" (284 : Nat) ({ cls := "RepeatFreeModel", name := "ahead", desc := "()I" } : Jvm.MethodName)) ∈ lw_all := lw_g (lw_at lw_m11 46 rfl) rfl
theorem q2565 : (Jvm.Cond.methodLink "RepeatFreeLaw" (184 : Nat) ({ cls := "RepeatFreeModel", name := "greatest", desc := "(I)I" } : Jvm.MethodName)) ∈ lw_all := lw_g (lw_at lw_m11 50 rfl) rfl
theorem q2573 : (Jvm.Cond.methodLink "RepeatFreeLaw" (188 : Nat) ({ cls := "RepeatFreeModel", name := "period", desc := "()I" } : Jvm.MethodName)) ∈ lw_all := lw_g (lw_at lw_m11 58 rfl) rfl
theorem q2577 : (Jvm.Cond.methodLink "RepeatFreeLaw" (192 : Nat) ({ cls := "RepeatFreeModel", name := "border", desc := "(I)I" } : Jvm.MethodName)) ∈ lw_all := lw_g (lw_at lw_m11 62 rfl) rfl
theorem q2581 : (Jvm.Cond.methodLink "RepeatFreeLaw" (196 : Nat) ({ cls := "RepeatFreeModel", name := "run", desc := "(II)I" } : Jvm.MethodName)) ∈ lw_all := lw_g (lw_at lw_m11 66 rfl) rfl
theorem q2589 : (Jvm.Cond.methodLink "RepeatFreeLaw" (199 : Nat) ({ cls := "RepeatFreeModel", name := "factors", desc := "(I)I" } : Jvm.MethodName)) ∈ lw_all := lw_g (lw_at lw_m11 74 rfl) rfl
theorem q2597 : (Jvm.Cond.methodLink "RepeatFreeLaw" (203 : Nat) ({ cls := "RepeatFreeModel", name := "mirror", desc := "()I" } : Jvm.MethodName)) ∈ lw_all := lw_g (lw_at lw_m11 82 rfl) rfl
theorem q2602 : (Jvm.Cond.methodLink "RepeatFreeLaw" (295 : Nat) ({ cls := "RepeatFreeModel", name := "lyndon", desc := "(I)I" } : Jvm.MethodName)) ∈ lw_all := lw_g (lw_at lw_m11 87 rfl) rfl
theorem q2606 : (Jvm.Cond.methodLink "RepeatFreeLaw" (299 : Nat) ({ cls := "RepeatFreeModel", name := "turned", desc := "()I" } : Jvm.MethodName)) ∈ lw_all := lw_g (lw_at lw_m11 91 rfl) rfl
theorem q2610 : (Jvm.Cond.methodLink "RepeatFreeLaw" (302 : Nat) ({ cls := "RepeatFreeModel", name := "local", desc := "(I)I" } : Jvm.MethodName)) ∈ lw_all := lw_g (lw_at lw_m11 95 rfl) rfl
theorem q2614 : (Jvm.Cond.methodLink "RepeatFreeLaw" (217 : Nat) ({ cls := "RepeatFreeModel", name := "first", desc := "(I)I" } : Jvm.MethodName)) ∈ lw_all := lw_g (lw_at lw_m11 99 rfl) rfl
theorem q2658 : (Jvm.Cond.methodLink "RepeatFreeLaw" (220 : Nat) ({ cls := "RepeatFreeModel", name := "next", desc := "()I" } : Jvm.MethodName)) ∈ lw_all := lw_g (lw_at lw_m11 143 rfl) rfl
theorem q2666 : (Jvm.Cond.methodLink "RepeatFreeLaw" (223 : Nat) ({ cls := "RepeatFreeModel", name := "many", desc := "(I)I" } : Jvm.MethodName)) ∈ lw_all := lw_g (lw_at lw_m11 151 rfl) rfl
theorem q2674 : (Jvm.Cond.methodLink "RepeatFreeLaw" (230 : Nat) ({ cls := "RepeatFreeModel", name := "growth", desc := "(I)I" } : Jvm.MethodName)) ∈ lw_all := lw_g (lw_at lw_m11 159 rfl) rfl
theorem q2678 : (Jvm.Cond.methodLink "RepeatFreeLaw" (227 : Nat) ({ cls := "RepeatFreeModel", name := "longest", desc := "()I" } : Jvm.MethodName)) ∈ lw_all := lw_g (lw_at lw_m11 163 rfl) rfl
theorem q2682 : (Jvm.Cond.methodLink "RepeatFreeLaw" (214 : Nat) ({ cls := "RepeatFreeModel", name := "further", desc := "()I" } : Jvm.MethodName)) ∈ lw_all := lw_g (lw_at lw_m11 167 rfl) rfl
theorem q2687 : (Jvm.Cond.methodLink "RepeatFreeLaw" (274 : Nat) ({ cls := "RepeatFreeModel", name := "stuck", desc := "(I)I" } : Jvm.MethodName)) ∈ lw_all := lw_g (lw_at lw_m11 172 rfl) rfl
theorem q2691 : (Jvm.Cond.methodLink "RepeatFreeLaw" (277 : Nat) ({ cls := "RepeatFreeModel", name := "rank", desc := "()I" } : Jvm.MethodName)) ∈ lw_all := lw_g (lw_at lw_m11 176 rfl) rfl
theorem q2695 : (Jvm.Cond.methodLink "RepeatFreeLaw" (280 : Nat) ({ cls := "RepeatFreeModel", name := "nth", desc := "(II)I" } : Jvm.MethodName)) ∈ lw_all := lw_g (lw_at lw_m11 180 rfl) rfl
theorem q2699 : (Jvm.Cond.methodLink "RepeatFreeLaw" (233 : Nat) ({ cls := "RepeatFreeModel", name := "image", desc := "(I)I" } : Jvm.MethodName)) ∈ lw_all := lw_g (lw_at lw_m11 184 rfl) rfl
theorem q2707 : (Jvm.Cond.methodLink "RepeatFreeLaw" (237 : Nat) ({ cls := "RepeatFreeModel", name := "imaged", desc := "(III)I" } : Jvm.MethodName)) ∈ lw_all := lw_g (lw_at lw_m11 192 rfl) rfl
theorem q2711 : (Jvm.Cond.methodLink "RepeatFreeLaw" (240 : Nat) ({ cls := "RepeatFreeModel", name := "length", desc := "(III)J" } : Jvm.MethodName)) ∈ lw_all := lw_g (lw_at lw_m11 196 rfl) rfl
theorem q2730 : (Jvm.Cond.methodLink "RepeatFreeLaw" (246 : Nat) ({ cls := "RepeatFreeModel", name := "power", desc := "(IIIJ)I" } : Jvm.MethodName)) ∈ lw_all := lw_g (lw_at lw_m11 215 rfl) rfl
theorem q2738 : (Jvm.Cond.methodLink "RepeatFreeLaw" (250 : Nat) ({ cls := "RepeatFreeModel", name := "often", desc := "(IIII)J" } : Jvm.MethodName)) ∈ lw_all := lw_g (lw_at lw_m11 223 rfl) rfl
theorem q2742 : (Jvm.Cond.methodLink "RepeatFreeLaw" (253 : Nat) ({ cls := "RepeatFreeModel", name := "keeps", desc := "(II)I" } : Jvm.MethodName)) ∈ lw_all := lw_g (lw_at lw_m11 227 rfl) rfl
theorem q2750 : (Jvm.Cond.methodLink "RepeatFreeLaw" (256 : Nat) ({ cls := "RepeatFreeModel", name := "breaks", desc := "(II)I" } : Jvm.MethodName)) ∈ lw_all := lw_g (lw_at lw_m11 235 rfl) rfl
theorem q2754 : (Jvm.Cond.methodLink "RepeatFreeLaw" (259 : Nat) ({ cls := "RepeatFreeModel", name := "grows", desc := "(I)I" } : Jvm.MethodName)) ∈ lw_all := lw_g (lw_at lw_m11 239 rfl) rfl
theorem q2762 : (Jvm.Cond.methodLink "RepeatFreeLaw" (262 : Nat) ({ cls := "RepeatFreeModel", name := "uniform", desc := "(I)I" } : Jvm.MethodName)) ∈ lw_all := lw_g (lw_at lw_m12 7 rfl) rfl
theorem q2766 : (Jvm.Cond.methodLink "RepeatFreeLaw" (305 : Nat) ({ cls := "RepeatFreeModel", name := "fill", desc := "(III)I" } : Jvm.MethodName)) ∈ lw_all := lw_g (lw_at lw_m12 11 rfl) rfl
theorem q2770 : (Jvm.Cond.methodLink "RepeatFreeLaw" (308 : Nat) ({ cls := "RepeatFreeModel", name := "sources", desc := "(I)J" } : Jvm.MethodName)) ∈ lw_all := lw_g (lw_at lw_m12 15 rfl) rfl
theorem q2774 : (Jvm.Cond.methodLink "RepeatFreeLaw" (311 : Nat) ({ cls := "RepeatFreeModel", name := "code", desc := "(I)Z" } : Jvm.MethodName)) ∈ lw_all := lw_g (lw_at lw_m12 19 rfl) rfl
theorem q2782 : (Jvm.Cond.methodLink "RepeatFreeLaw" (206 : Nat) ({ cls := "RepeatFreeModel", name := "met", desc := "(II)I" } : Jvm.MethodName)) ∈ lw_all := lw_g (lw_at lw_m12 27 rfl) rfl
theorem q2790 : (Jvm.Cond.methodLink "RepeatFreeLaw" (314 : Nat) ({ cls := "RepeatFreeModel", name := "whole", desc := "(III)I" } : Jvm.MethodName)) ∈ lw_all := lw_g (lw_at lw_m12 35 rfl) rfl
theorem q2794 : (Jvm.Cond.methodLink "RepeatFreeLaw" (265 : Nat) ({ cls := "RepeatFreeModel", name := "cannot", desc := "(I)Z" } : Jvm.MethodName)) ∈ lw_all := lw_g (lw_at lw_m12 39 rfl) rfl
theorem q2814 : (Jvm.Cond.methodLink "RepeatFreeLaw" (268 : Nat) ({ cls := "RepeatFreeModel", name := "loose", desc := "(II)I" } : Jvm.MethodName)) ∈ lw_all := lw_g (lw_at lw_m12 59 rfl) rfl
theorem q2818 : (Jvm.Cond.methodLink "RepeatFreeLaw" (271 : Nat) ({ cls := "RepeatFreeModel", name := "pattern", desc := "(II)I" } : Jvm.MethodName)) ∈ lw_all := lw_g (lw_at lw_m12 63 rfl) rfl
theorem q2822 : (Jvm.Cond.methodLink "RepeatFreeLaw" (287 : Nat) ({ cls := "RepeatFreeModel", name := "limit", desc := "(III)I" } : Jvm.MethodName)) ∈ lw_all := lw_g (lw_at lw_m12 67 rfl) rfl
theorem q2826 : (Jvm.Cond.methodLink "RepeatFreeLaw" (291 : Nat) ({ cls := "RepeatFreeModel", name := "avoid", desc := "(IZ)Z" } : Jvm.MethodName)) ∈ lw_all := lw_g (lw_at lw_m12 71 rfl) rfl
theorem q2830 : (Jvm.Cond.methodLink "RepeatFreeLaw" (318 : Nat) ({ cls := "RepeatFreeModel", name := "count", desc := "(I)I" } : Jvm.MethodName)) ∈ lw_all := lw_g (lw_at lw_m12 75 rfl) rfl
theorem q2834 : (Jvm.Cond.constantLong "RepeatFreeLaw" (241 : Nat) (4294967295 : Int64)) ∈ lw_all := lw_g (lw_at lw_m12 79 rfl) rfl
/-! RepeatFree$Told -/
set_option maxRecDepth 100000
def RX2 : String := "RepeatFree$Told"
def TX2 : u_T := fun k => match k with
  | 0 => ("RepeatFree$Told", "maps", "Ljava/util/LinkedList;", true)
  | 1 => ("RepeatFree$Told", "patterns", "Ljava/util/LinkedList;", true)
  | 2 => ("RepeatFree$Told", "letters", "I", false)
  | _ => ("RepeatFree$Told", "limit", "LRepeatFree$Limit;", false)
def tyX2 : Nat → FieldType := fun k => match k with
  | 0 => .object "java/util/LinkedList"
  | 1 => .object "java/util/LinkedList"
  | 2 => .int
  | _ => .object "RepeatFree$Limit"
abbrev wsX20 : List Cond := u_ws RX2 TX2 4
theorem nmX2 : ∀ a, a < 4 → ∀ b, b < 4 → a ≠ b → (TX2 a).2.1 ≠ (TX2 b).2.1 := by decide +kernel
theorem tyX2_ok : ∀ k, k < 4 → parseFieldDescriptor (TX2 k).2.2.1 = some (tyX2 k) := by decide +kernel
abbrev cX2_init : ByteArray := prog_9_method_1_code
def yX2_init : MethodName := ⟨RX2, "<init>", "()V"⟩
def dkwX2_init_1 : List UInt8 := [181, 0, 18, 42, 5, 181, 0, 21, 177]
abbrev dktX2_init_1 : List UInt8 := dkwX2_init_1 ++ []
def dkwX2_init_0 : List UInt8 := [42, 183, 0, 3, 42, 187, 0, 9, 89, 183, 0, 11, 181, 0, 12, 42, 187, 0, 9, 89, 183, 0, 11]
abbrev dktX2_init_0 : List UInt8 := dkwX2_init_0 ++ dktX2_init_1
theorem dksX2_init_0 : cX2_init.data.toList.drop 0 = dktX2_init_0 := by decide +kernel
theorem dksX2_init_1 : cX2_init.data.toList.drop 23 = dktX2_init_1 := dk_seg dksX2_init_0 23 rfl rfl
theorem dX2_init_0 : decode cX2_init 0 = .ok (.aload_n 0, 1) := dk_42 (dk_at dksX2_init_0 0 rfl rfl)
theorem dX2_init_1 : decode cX2_init 1 = .ok (.invokespecial 3, 3) := dk_183 0 3 (dk_at dksX2_init_0 1 rfl rfl)
theorem dX2_init_4 : decode cX2_init 4 = .ok (.aload_n 0, 1) := dk_42 (dk_at dksX2_init_0 4 rfl rfl)
theorem dX2_init_5 : decode cX2_init 5 = .ok (.new 9, 3) := dk_187 0 9 (dk_at dksX2_init_0 5 rfl rfl)
theorem dX2_init_8 : decode cX2_init 8 = .ok (.dup, 1) := dk_89 (dk_at dksX2_init_0 8 rfl rfl)
theorem dX2_init_9 : decode cX2_init 9 = .ok (.invokespecial 11, 3) := dk_183 0 11 (dk_at dksX2_init_0 9 rfl rfl)
theorem dX2_init_12 : decode cX2_init 12 = .ok (.putfield 12, 3) := dk_181 0 12 (dk_at dksX2_init_0 12 rfl rfl)
theorem dX2_init_15 : decode cX2_init 15 = .ok (.aload_n 0, 1) := dk_42 (dk_at dksX2_init_0 15 rfl rfl)
theorem dX2_init_16 : decode cX2_init 16 = .ok (.new 9, 3) := dk_187 0 9 (dk_at dksX2_init_0 16 rfl rfl)
theorem dX2_init_19 : decode cX2_init 19 = .ok (.dup, 1) := dk_89 (dk_at dksX2_init_0 19 rfl rfl)
theorem dX2_init_20 : decode cX2_init 20 = .ok (.invokespecial 11, 3) := dk_183 0 11 (dk_at dksX2_init_0 20 rfl rfl)
theorem dX2_init_23 : decode cX2_init 23 = .ok (.putfield 18, 3) := dk_181 0 18 (dk_at dksX2_init_1 0 rfl rfl)
theorem dX2_init_26 : decode cX2_init 26 = .ok (.aload_n 0, 1) := dk_42 (dk_at dksX2_init_1 3 rfl rfl)
theorem dX2_init_27 : decode cX2_init 27 = .ok (.iconst 2, 1) := dk_5 (dk_at dksX2_init_1 4 rfl rfl)
theorem dX2_init_28 : decode cX2_init 28 = .ok (.putfield 21, 3) := dk_181 0 21 (dk_at dksX2_init_1 5 rfl rfl)
theorem dX2_init_31 : decode cX2_init 31 = .ok (.return_, 1) := dk_177 (dk_at dksX2_init_1 8 rfl rfl)
abbrev cX2_isNamed : ByteArray := prog_9_method_2_code
def yX2_isNamed : MethodName := ⟨RX2, "isNamed", "(Ljava/lang/String;)Z"⟩
def dkwX2_isNamed_2 : List UInt8 := [182, 0, 51, 198, 0, 7, 4, 167, 0, 4, 3, 172]
abbrev dktX2_isNamed_2 : List UInt8 := dkwX2_isNamed_2 ++ []
def dkwX2_isNamed_1 : List UInt8 := [192, 0, 39, 78, 45, 180, 0, 41, 43, 182, 0, 45, 153, 0, 5, 4, 172, 167, 255, 224, 42, 43]
abbrev dktX2_isNamed_1 : List UInt8 := dkwX2_isNamed_1 ++ dktX2_isNamed_2
def dkwX2_isNamed_0 : List UInt8 := [42, 180, 0, 12, 182, 0, 25, 77, 44, 185, 0, 29, 1, 0, 153, 0, 29, 44, 185, 0, 35, 1, 0]
abbrev dktX2_isNamed_0 : List UInt8 := dkwX2_isNamed_0 ++ dktX2_isNamed_1
theorem dksX2_isNamed_0 : cX2_isNamed.data.toList.drop 0 = dktX2_isNamed_0 := by decide +kernel
theorem dksX2_isNamed_1 : cX2_isNamed.data.toList.drop 23 = dktX2_isNamed_1 := dk_seg dksX2_isNamed_0 23 rfl rfl
theorem dksX2_isNamed_2 : cX2_isNamed.data.toList.drop 45 = dktX2_isNamed_2 := dk_seg dksX2_isNamed_1 22 rfl rfl
theorem dX2_isNamed_0 : decode cX2_isNamed 0 = .ok (.aload_n 0, 1) := dk_42 (dk_at dksX2_isNamed_0 0 rfl rfl)
theorem dX2_isNamed_1 : decode cX2_isNamed 1 = .ok (.getfield 12, 3) := dk_180 0 12 (dk_at dksX2_isNamed_0 1 rfl rfl)
theorem dX2_isNamed_4 : decode cX2_isNamed 4 = .ok (.invokevirtual 25, 3) := dk_182 0 25 (dk_at dksX2_isNamed_0 4 rfl rfl)
theorem dX2_isNamed_7 : decode cX2_isNamed 7 = .ok (.astore_n 2, 1) := dk_77 (dk_at dksX2_isNamed_0 7 rfl rfl)
theorem dX2_isNamed_8 : decode cX2_isNamed 8 = .ok (.aload_n 2, 1) := dk_44 (dk_at dksX2_isNamed_0 8 rfl rfl)
theorem dX2_isNamed_9 : decode cX2_isNamed 9 = .ok (.invokeinterface 29 1, 5) := by decide +kernel
theorem dX2_isNamed_14 : decode cX2_isNamed 14 = .ok (.ifCond .eq 29, 3) := dk_153 0 29 (dk_at dksX2_isNamed_0 14 rfl rfl)
theorem dX2_isNamed_17 : decode cX2_isNamed 17 = .ok (.aload_n 2, 1) := dk_44 (dk_at dksX2_isNamed_0 17 rfl rfl)
theorem dX2_isNamed_18 : decode cX2_isNamed 18 = .ok (.invokeinterface 35 1, 5) := by decide +kernel
theorem dX2_isNamed_23 : decode cX2_isNamed 23 = .ok (.checkcast 39, 3) := dk_192 0 39 (dk_at dksX2_isNamed_1 0 rfl rfl)
theorem dX2_isNamed_26 : decode cX2_isNamed 26 = .ok (.astore_n 3, 1) := dk_78 (dk_at dksX2_isNamed_1 3 rfl rfl)
theorem dX2_isNamed_27 : decode cX2_isNamed 27 = .ok (.aload_n 3, 1) := dk_45 (dk_at dksX2_isNamed_1 4 rfl rfl)
theorem dX2_isNamed_28 : decode cX2_isNamed 28 = .ok (.getfield 41, 3) := dk_180 0 41 (dk_at dksX2_isNamed_1 5 rfl rfl)
theorem dX2_isNamed_31 : decode cX2_isNamed 31 = .ok (.aload_n 1, 1) := dk_43 (dk_at dksX2_isNamed_1 8 rfl rfl)
theorem dX2_isNamed_32 : decode cX2_isNamed 32 = .ok (.invokevirtual 45, 3) := dk_182 0 45 (dk_at dksX2_isNamed_1 9 rfl rfl)
theorem dX2_isNamed_35 : decode cX2_isNamed 35 = .ok (.ifCond .eq 5, 3) := dk_153 0 5 (dk_at dksX2_isNamed_1 12 rfl rfl)
theorem dX2_isNamed_38 : decode cX2_isNamed 38 = .ok (.iconst 1, 1) := dk_4 (dk_at dksX2_isNamed_1 15 rfl rfl)
theorem dX2_isNamed_39 : decode cX2_isNamed 39 = .ok (.ireturn, 1) := dk_172 (dk_at dksX2_isNamed_1 16 rfl rfl)
theorem dX2_isNamed_40 : decode cX2_isNamed 40 = .ok (.goto (-32), 3) := dk_167 255 224 (dk_at dksX2_isNamed_1 17 rfl rfl)
theorem dX2_isNamed_43 : decode cX2_isNamed 43 = .ok (.aload_n 0, 1) := dk_42 (dk_at dksX2_isNamed_1 20 rfl rfl)
theorem dX2_isNamed_44 : decode cX2_isNamed 44 = .ok (.aload_n 1, 1) := dk_43 (dk_at dksX2_isNamed_1 21 rfl rfl)
theorem dX2_isNamed_45 : decode cX2_isNamed 45 = .ok (.invokevirtual 51, 3) := dk_182 0 51 (dk_at dksX2_isNamed_2 0 rfl rfl)
theorem dX2_isNamed_48 : decode cX2_isNamed 48 = .ok (.ifnull 7, 3) := dk_198 0 7 (dk_at dksX2_isNamed_2 3 rfl rfl)
theorem dX2_isNamed_51 : decode cX2_isNamed 51 = .ok (.iconst 1, 1) := dk_4 (dk_at dksX2_isNamed_2 6 rfl rfl)
theorem dX2_isNamed_52 : decode cX2_isNamed 52 = .ok (.goto 4, 3) := dk_167 0 4 (dk_at dksX2_isNamed_2 7 rfl rfl)
theorem dX2_isNamed_55 : decode cX2_isNamed 55 = .ok (.iconst 0, 1) := dk_3 (dk_at dksX2_isNamed_2 10 rfl rfl)
theorem dX2_isNamed_56 : decode cX2_isNamed 56 = .ok (.ireturn, 1) := dk_172 (dk_at dksX2_isNamed_2 11 rfl rfl)
abbrev cX2_patternOf : ByteArray := prog_9_method_3_code
def yX2_patternOf : MethodName := ⟨RX2, "patternOf", "(Ljava/lang/String;)LRepeatFree$Pattern;"⟩
def dkwX2_patternOf_1 : List UInt8 := [192, 0, 55, 78, 45, 180, 0, 57, 43, 182, 0, 45, 153, 0, 5, 45, 176, 167, 255, 224, 1, 176]
abbrev dktX2_patternOf_1 : List UInt8 := dkwX2_patternOf_1 ++ []
def dkwX2_patternOf_0 : List UInt8 := [42, 180, 0, 18, 182, 0, 25, 77, 44, 185, 0, 29, 1, 0, 153, 0, 29, 44, 185, 0, 35, 1, 0]
abbrev dktX2_patternOf_0 : List UInt8 := dkwX2_patternOf_0 ++ dktX2_patternOf_1
theorem dksX2_patternOf_0 : cX2_patternOf.data.toList.drop 0 = dktX2_patternOf_0 := by decide +kernel
theorem dksX2_patternOf_1 : cX2_patternOf.data.toList.drop 23 = dktX2_patternOf_1 := dk_seg dksX2_patternOf_0 23 rfl rfl
theorem dX2_patternOf_0 : decode cX2_patternOf 0 = .ok (.aload_n 0, 1) := dk_42 (dk_at dksX2_patternOf_0 0 rfl rfl)
theorem dX2_patternOf_1 : decode cX2_patternOf 1 = .ok (.getfield 18, 3) := dk_180 0 18 (dk_at dksX2_patternOf_0 1 rfl rfl)
theorem dX2_patternOf_4 : decode cX2_patternOf 4 = .ok (.invokevirtual 25, 3) := dk_182 0 25 (dk_at dksX2_patternOf_0 4 rfl rfl)
theorem dX2_patternOf_7 : decode cX2_patternOf 7 = .ok (.astore_n 2, 1) := dk_77 (dk_at dksX2_patternOf_0 7 rfl rfl)
theorem dX2_patternOf_8 : decode cX2_patternOf 8 = .ok (.aload_n 2, 1) := dk_44 (dk_at dksX2_patternOf_0 8 rfl rfl)
theorem dX2_patternOf_9 : decode cX2_patternOf 9 = .ok (.invokeinterface 29 1, 5) := by decide +kernel
theorem dX2_patternOf_14 : decode cX2_patternOf 14 = .ok (.ifCond .eq 29, 3) := dk_153 0 29 (dk_at dksX2_patternOf_0 14 rfl rfl)
theorem dX2_patternOf_17 : decode cX2_patternOf 17 = .ok (.aload_n 2, 1) := dk_44 (dk_at dksX2_patternOf_0 17 rfl rfl)
theorem dX2_patternOf_18 : decode cX2_patternOf 18 = .ok (.invokeinterface 35 1, 5) := by decide +kernel
theorem dX2_patternOf_23 : decode cX2_patternOf 23 = .ok (.checkcast 55, 3) := dk_192 0 55 (dk_at dksX2_patternOf_1 0 rfl rfl)
theorem dX2_patternOf_26 : decode cX2_patternOf 26 = .ok (.astore_n 3, 1) := dk_78 (dk_at dksX2_patternOf_1 3 rfl rfl)
theorem dX2_patternOf_27 : decode cX2_patternOf 27 = .ok (.aload_n 3, 1) := dk_45 (dk_at dksX2_patternOf_1 4 rfl rfl)
theorem dX2_patternOf_28 : decode cX2_patternOf 28 = .ok (.getfield 57, 3) := dk_180 0 57 (dk_at dksX2_patternOf_1 5 rfl rfl)
theorem dX2_patternOf_31 : decode cX2_patternOf 31 = .ok (.aload_n 1, 1) := dk_43 (dk_at dksX2_patternOf_1 8 rfl rfl)
theorem dX2_patternOf_32 : decode cX2_patternOf 32 = .ok (.invokevirtual 45, 3) := dk_182 0 45 (dk_at dksX2_patternOf_1 9 rfl rfl)
theorem dX2_patternOf_35 : decode cX2_patternOf 35 = .ok (.ifCond .eq 5, 3) := dk_153 0 5 (dk_at dksX2_patternOf_1 12 rfl rfl)
theorem dX2_patternOf_38 : decode cX2_patternOf 38 = .ok (.aload_n 3, 1) := dk_45 (dk_at dksX2_patternOf_1 15 rfl rfl)
theorem dX2_patternOf_39 : decode cX2_patternOf 39 = .ok (.areturn, 1) := dk_176 (dk_at dksX2_patternOf_1 16 rfl rfl)
theorem dX2_patternOf_40 : decode cX2_patternOf 40 = .ok (.goto (-32), 3) := dk_167 255 224 (dk_at dksX2_patternOf_1 17 rfl rfl)
theorem dX2_patternOf_43 : decode cX2_patternOf 43 = .ok (.aconst_null, 1) := dk_1 (dk_at dksX2_patternOf_1 20 rfl rfl)
theorem dX2_patternOf_44 : decode cX2_patternOf 44 = .ok (.areturn, 1) := dk_176 (dk_at dksX2_patternOf_1 21 rfl rfl)
theorem q117 : (Jvm.Cond.initialized "RepeatFree$Told") ∈ lw_all := lw_g (lw_at lw_m1 2 rfl) rfl
theorem q177 : (Jvm.Cond.instantiable "RepeatFree$Told" (4 : Nat)) ∈ lw_all := lw_g (lw_at lw_m1 62 rfl) rfl
theorem q179 : (Jvm.Cond.instanceMethod ({ cls := "RepeatFree$Told", name := "<init>", desc := "()V" } : Jvm.MethodName)) ∈ lw_all := lw_g (lw_at lw_m1 64 rfl) rfl
theorem q180 : (Jvm.Cond.code ({ cls := "RepeatFree$Told", name := "<init>", desc := "()V" } : Jvm.MethodName) prog_9_method_1_code (1 : Nat) (Option.none : Option Jvm.ClassFile.FieldType)) ∈ lw_all := lw_g (lw_at lw_m1 65 rfl) rfl
theorem q181 : (Jvm.Cond.methodLink "RepeatFree$Told" (3 : Nat) ({ cls := "java/lang/Object", name := "<init>", desc := "()V" } : Jvm.MethodName)) ∈ lw_all := lw_g (lw_at lw_m1 66 rfl) rfl
theorem q182 : (Jvm.Cond.classLink "RepeatFree$Told" (9 : Nat) "java/util/LinkedList") ∈ lw_all := lw_g (lw_at lw_m1 67 rfl) rfl
theorem q184 : (Jvm.Cond.methodLink "RepeatFree$Told" (11 : Nat) ({ cls := "java/util/LinkedList", name := "<init>", desc := "()V" } : Jvm.MethodName)) ∈ lw_all := lw_g (lw_at lw_m1 69 rfl) rfl
theorem q216 : (Jvm.Cond.fieldLink "RepeatFree$Told" (12 : Nat) "RepeatFree$Told" "maps" "Ljava/util/LinkedList;") ∈ lw_all := lw_g (lw_at lw_m1 101 rfl) rfl
theorem q219 : (Jvm.Cond.fieldLink "RepeatFree$Told" (18 : Nat) "RepeatFree$Told" "patterns" "Ljava/util/LinkedList;") ∈ lw_all := lw_g (lw_at lw_m1 104 rfl) rfl
theorem q222 : (Jvm.Cond.fieldLink "RepeatFree$Told" (21 : Nat) "RepeatFree$Told" "letters" "I") ∈ lw_all := lw_g (lw_at lw_m1 107 rfl) rfl
theorem q228 : (Jvm.Cond.laysFinal "RepeatFree$Told" "RepeatFree$Told" "maps" "Ljava/util/LinkedList;") ∈ lw_all := lw_g (lw_at lw_m1 113 rfl) rfl
theorem q229 : (Jvm.Cond.soleField "RepeatFree$Told" "maps") ∈ lw_all := lw_g (lw_at lw_m1 114 rfl) rfl
theorem q230 : (Jvm.Cond.laysFinal "RepeatFree$Told" "RepeatFree$Told" "patterns" "Ljava/util/LinkedList;") ∈ lw_all := lw_g (lw_at lw_m1 115 rfl) rfl
theorem q231 : (Jvm.Cond.soleField "RepeatFree$Told" "patterns") ∈ lw_all := lw_g (lw_at lw_m1 116 rfl) rfl
theorem q232 : (Jvm.Cond.lays "RepeatFree$Told" "RepeatFree$Told" "letters" "I") ∈ lw_all := lw_g (lw_at lw_m1 117 rfl) rfl
theorem q233 : (Jvm.Cond.soleField "RepeatFree$Told" "letters") ∈ lw_all := lw_g (lw_at lw_m1 118 rfl) rfl
theorem q234 : (Jvm.Cond.lays "RepeatFree$Told" "RepeatFree$Told" "limit" "LRepeatFree$Limit;") ∈ lw_all := lw_g (lw_at lw_m1 119 rfl) rfl
theorem q235 : (Jvm.Cond.soleField "RepeatFree$Told" "limit") ∈ lw_all := lw_g (lw_at lw_m1 120 rfl) rfl
theorem q236 : (Jvm.Cond.superclass "RepeatFree$Told" "java/lang/Object") ∈ lw_all := lw_g (lw_at lw_m1 121 rfl) rfl
theorem q671 : (Jvm.Cond.selects "RepeatFree$Told" ({ cls := "java/lang/Object", name := "getClass", desc := "()Ljava/lang/Class;" } : Jvm.MethodName) ({ cls := "java/lang/Object", name := "getClass", desc := "()Ljava/lang/Class;" } : Jvm.MethodName)) ∈ lw_all := lw_g (lw_at lw_m3 76 rfl) rfl
theorem q1190 : (Jvm.Cond.selects "RepeatFree$Told" ({ cls := "java/lang/Object", name := "equals", desc := "(Ljava/lang/Object;)Z" } : Jvm.MethodName) ({ cls := "java/lang/Object", name := "equals", desc := "(Ljava/lang/Object;)Z" } : Jvm.MethodName)) ∈ lw_all := lw_g (lw_at lw_m5 115 rfl) rfl
theorem q1232 : (Jvm.Cond.instanceMethod ({ cls := "RepeatFree$Told", name := "isNamed", desc := "(Ljava/lang/String;)Z" } : Jvm.MethodName)) ∈ lw_all := lw_g (lw_at lw_m5 157 rfl) rfl
theorem q1233 : (Jvm.Cond.selects "RepeatFree$Told" ({ cls := "RepeatFree$Told", name := "isNamed", desc := "(Ljava/lang/String;)Z" } : Jvm.MethodName) ({ cls := "RepeatFree$Told", name := "isNamed", desc := "(Ljava/lang/String;)Z" } : Jvm.MethodName)) ∈ lw_all := lw_g (lw_at lw_m5 158 rfl) rfl
theorem q1234 : (Jvm.Cond.code ({ cls := "RepeatFree$Told", name := "isNamed", desc := "(Ljava/lang/String;)Z" } : Jvm.MethodName) prog_9_method_2_code (4 : Nat) (Option.some Jvm.ClassFile.FieldType.boolean)) ∈ lw_all := lw_g (lw_at lw_m5 159 rfl) rfl
theorem q1235 : (Jvm.Cond.methodLink "RepeatFree$Told" (25 : Nat) ({ cls := "java/util/LinkedList", name := "iterator", desc := "()Ljava/util/Iterator;" } : Jvm.MethodName)) ∈ lw_all := lw_g (lw_at lw_m5 160 rfl) rfl
theorem q1314 : (Jvm.Cond.interfaceEntry "RepeatFree$Told" (29 : Nat)) ∈ lw_tbl := lw_at lw_m5 239 rfl
theorem q1315 : (Jvm.Cond.methodLink "RepeatFree$Told" (29 : Nat) ({ cls := "java/util/Iterator", name := "hasNext", desc := "()Z" } : Jvm.MethodName)) ∈ lw_all := lw_g (lw_at lw_m6 0 rfl) rfl
theorem q1334 : (Jvm.Cond.interfaceEntry "RepeatFree$Told" (35 : Nat)) ∈ lw_tbl := lw_at lw_m6 19 rfl
theorem q1335 : (Jvm.Cond.methodLink "RepeatFree$Told" (35 : Nat) ({ cls := "java/util/Iterator", name := "next", desc := "()Ljava/lang/Object;" } : Jvm.MethodName)) ∈ lw_all := lw_g (lw_at lw_m6 20 rfl) rfl
theorem q1427 : (Jvm.Cond.classLink "RepeatFree$Told" (39 : Nat) "RepeatFree$Named") ∈ lw_all := lw_g (lw_at lw_m6 112 rfl) rfl
theorem q1428 : (Jvm.Cond.methodLink "RepeatFree$Told" (45 : Nat) ({ cls := "java/lang/String", name := "equals", desc := "(Ljava/lang/Object;)Z" } : Jvm.MethodName)) ∈ lw_all := lw_g (lw_at lw_m6 113 rfl) rfl
theorem q1429 : (Jvm.Cond.methodLink "RepeatFree$Told" (51 : Nat) ({ cls := "RepeatFree$Told", name := "patternOf", desc := "(Ljava/lang/String;)LRepeatFree$Pattern;" } : Jvm.MethodName)) ∈ lw_all := lw_g (lw_at lw_m6 114 rfl) rfl
theorem q1430 : (Jvm.Cond.instanceMethod ({ cls := "RepeatFree$Told", name := "patternOf", desc := "(Ljava/lang/String;)LRepeatFree$Pattern;" } : Jvm.MethodName)) ∈ lw_all := lw_g (lw_at lw_m6 115 rfl) rfl
theorem q1431 : (Jvm.Cond.selects "RepeatFree$Told" ({ cls := "RepeatFree$Told", name := "patternOf", desc := "(Ljava/lang/String;)LRepeatFree$Pattern;" } : Jvm.MethodName) ({ cls := "RepeatFree$Told", name := "patternOf", desc := "(Ljava/lang/String;)LRepeatFree$Pattern;" } : Jvm.MethodName)) ∈ lw_all := lw_g (lw_at lw_m6 116 rfl) rfl
theorem q1432 : (Jvm.Cond.code ({ cls := "RepeatFree$Told", name := "patternOf", desc := "(Ljava/lang/String;)LRepeatFree$Pattern;" } : Jvm.MethodName) prog_9_method_3_code (4 : Nat) (Option.some (Jvm.ClassFile.FieldType.object "RepeatFree$Pattern"))) ∈ lw_all := lw_g (lw_at lw_m6 117 rfl) rfl
theorem q1433 : (Jvm.Cond.classLink "RepeatFree$Told" (55 : Nat) "RepeatFree$Pattern") ∈ lw_all := lw_g (lw_at lw_m6 118 rfl) rfl
theorem q1447 : (Jvm.Cond.fieldLink "RepeatFree$Told" (41 : Nat) "RepeatFree$Named" "name" "Ljava/lang/String;") ∈ lw_all := lw_g (lw_at lw_m6 132 rfl) rfl
theorem q1448 : (Jvm.Cond.fieldLink "RepeatFree$Told" (57 : Nat) "RepeatFree$Pattern" "name" "Ljava/lang/String;") ∈ lw_all := lw_g (lw_at lw_m6 133 rfl) rfl
theorem q2854 : (Jvm.Cond.castable "RepeatFree$Told" "java/lang/Object") ∈ lw_tbl := lw_at lw_m12 99 rfl
theorem in_X2 : ∀ w ∈ wsX20, w ∈ lw_all := lw_in wsX20 [228, 230, 232, 234] (by decide +kernel) (by decide +kernel)
/-! RepeatFree$Word -/
set_option maxRecDepth 100000
def RX3 : String := "RepeatFree$Word"
def TX3 : u_T := fun k => match k with
  | 0 => ("RepeatFree$Word", "at", "[B", true)
  | _ => ("RepeatFree$Word", "many", "I", false)
def tyX3 : Nat → FieldType := fun k => match k with
  | 0 => .array .byte
  | _ => .int
abbrev wsX30 : List Cond := u_ws RX3 TX3 2
theorem nmX3 : ∀ a, a < 2 → ∀ b, b < 2 → a ≠ b → (TX3 a).2.1 ≠ (TX3 b).2.1 := by decide +kernel
theorem tyX3_ok : ∀ k, k < 2 → parseFieldDescriptor (TX3 k).2.2.1 = some (tyX3 k) := by decide +kernel
abbrev cX3_init : ByteArray := prog_10_method_1_code
def yX3_init : MethodName := ⟨RX3, "<init>", "()V"⟩
def dkwX3_init_0 : List UInt8 := [42, 183, 0, 3, 42, 16, 64, 188, 8, 181, 0, 9, 177]
abbrev dktX3_init_0 : List UInt8 := dkwX3_init_0 ++ []
theorem dksX3_init_0 : cX3_init.data.toList.drop 0 = dktX3_init_0 := by decide +kernel
theorem dX3_init_0 : decode cX3_init 0 = .ok (.aload_n 0, 1) := dk_42 (dk_at dksX3_init_0 0 rfl rfl)
theorem dX3_init_1 : decode cX3_init 1 = .ok (.invokespecial 3, 3) := dk_183 0 3 (dk_at dksX3_init_0 1 rfl rfl)
theorem dX3_init_4 : decode cX3_init 4 = .ok (.aload_n 0, 1) := dk_42 (dk_at dksX3_init_0 4 rfl rfl)
theorem dX3_init_5 : decode cX3_init 5 = .ok (.bipush 64, 2) := dk_16 64 (dk_at dksX3_init_0 5 rfl rfl)
theorem dX3_init_7 : decode cX3_init 7 = .ok (.newarray .byte, 2) := dk_188_8 (dk_at dksX3_init_0 7 rfl rfl)
theorem dX3_init_9 : decode cX3_init 9 = .ok (.putfield 9, 3) := dk_181 0 9 (dk_at dksX3_init_0 9 rfl rfl)
theorem dX3_init_12 : decode cX3_init 12 = .ok (.return_, 1) := dk_177 (dk_at dksX3_init_0 12 rfl rfl)
abbrev cX3_comes : ByteArray := prog_10_method_2_code
def yX3_comes : MethodName := ⟨RX3, "comes", "(I)V"⟩
def dkwX3_comes_0 : List UInt8 := [42, 180, 0, 9, 42, 180, 0, 15, 27, 145, 84, 42, 89, 180, 0, 15, 4, 96, 181, 0, 15, 177]
abbrev dktX3_comes_0 : List UInt8 := dkwX3_comes_0 ++ []
theorem dksX3_comes_0 : cX3_comes.data.toList.drop 0 = dktX3_comes_0 := by decide +kernel
theorem dX3_comes_0 : decode cX3_comes 0 = .ok (.aload_n 0, 1) := dk_42 (dk_at dksX3_comes_0 0 rfl rfl)
theorem dX3_comes_1 : decode cX3_comes 1 = .ok (.getfield 9, 3) := dk_180 0 9 (dk_at dksX3_comes_0 1 rfl rfl)
theorem dX3_comes_4 : decode cX3_comes 4 = .ok (.aload_n 0, 1) := dk_42 (dk_at dksX3_comes_0 4 rfl rfl)
theorem dX3_comes_5 : decode cX3_comes 5 = .ok (.getfield 15, 3) := dk_180 0 15 (dk_at dksX3_comes_0 5 rfl rfl)
theorem dX3_comes_8 : decode cX3_comes 8 = .ok (.iload_n 1, 1) := dk_27 (dk_at dksX3_comes_0 8 rfl rfl)
theorem dX3_comes_9 : decode cX3_comes 9 = .ok (.i2b, 1) := dk_145 (dk_at dksX3_comes_0 9 rfl rfl)
theorem dX3_comes_10 : decode cX3_comes 10 = .ok (.bastore, 1) := dk_84 (dk_at dksX3_comes_0 10 rfl rfl)
theorem dX3_comes_11 : decode cX3_comes 11 = .ok (.aload_n 0, 1) := dk_42 (dk_at dksX3_comes_0 11 rfl rfl)
theorem dX3_comes_12 : decode cX3_comes 12 = .ok (.dup, 1) := dk_89 (dk_at dksX3_comes_0 12 rfl rfl)
theorem dX3_comes_13 : decode cX3_comes 13 = .ok (.getfield 15, 3) := dk_180 0 15 (dk_at dksX3_comes_0 13 rfl rfl)
theorem dX3_comes_16 : decode cX3_comes 16 = .ok (.iconst 1, 1) := dk_4 (dk_at dksX3_comes_0 16 rfl rfl)
theorem dX3_comes_17 : decode cX3_comes 17 = .ok (.iadd, 1) := dk_96 (dk_at dksX3_comes_0 17 rfl rfl)
theorem dX3_comes_18 : decode cX3_comes 18 = .ok (.putfield 15, 3) := dk_181 0 15 (dk_at dksX3_comes_0 18 rfl rfl)
theorem dX3_comes_21 : decode cX3_comes 21 = .ok (.return_, 1) := dk_177 (dk_at dksX3_comes_0 21 rfl rfl)
abbrev cX3_endBy : ByteArray := prog_10_method_6_code
def yX3_endBy : MethodName := ⟨RX3, "endBy", "(I)I"⟩
def dkwX3_endBy_2 : List UInt8 := [172]
abbrev dktX3_endBy_2 : List UInt8 := dkwX3_endBy_2 ++ []
def dkwX3_endBy_1 : List UInt8 := [180, 0, 9, 42, 180, 0, 15, 4, 100, 28, 100, 27, 96, 51, 160, 0, 9, 132, 2, 1, 167, 255, 214, 28]
abbrev dktX3_endBy_1 : List UInt8 := dkwX3_endBy_1 ++ dktX3_endBy_2
def dkwX3_endBy_0 : List UInt8 := [27, 61, 28, 42, 180, 0, 15, 162, 0, 40, 42, 180, 0, 9, 42, 180, 0, 15, 4, 100, 28, 100, 51, 42]
abbrev dktX3_endBy_0 : List UInt8 := dkwX3_endBy_0 ++ dktX3_endBy_1
theorem dksX3_endBy_0 : cX3_endBy.data.toList.drop 0 = dktX3_endBy_0 := by decide +kernel
theorem dksX3_endBy_1 : cX3_endBy.data.toList.drop 24 = dktX3_endBy_1 := dk_seg dksX3_endBy_0 24 rfl rfl
theorem dksX3_endBy_2 : cX3_endBy.data.toList.drop 48 = dktX3_endBy_2 := dk_seg dksX3_endBy_1 24 rfl rfl
theorem dX3_endBy_0 : decode cX3_endBy 0 = .ok (.iload_n 1, 1) := dk_27 (dk_at dksX3_endBy_0 0 rfl rfl)
theorem dX3_endBy_1 : decode cX3_endBy 1 = .ok (.istore_n 2, 1) := dk_61 (dk_at dksX3_endBy_0 1 rfl rfl)
theorem dX3_endBy_2 : decode cX3_endBy 2 = .ok (.iload_n 2, 1) := dk_28 (dk_at dksX3_endBy_0 2 rfl rfl)
theorem dX3_endBy_3 : decode cX3_endBy 3 = .ok (.aload_n 0, 1) := dk_42 (dk_at dksX3_endBy_0 3 rfl rfl)
theorem dX3_endBy_4 : decode cX3_endBy 4 = .ok (.getfield 15, 3) := dk_180 0 15 (dk_at dksX3_endBy_0 4 rfl rfl)
theorem dX3_endBy_7 : decode cX3_endBy 7 = .ok (.if_icmp .ge 40, 3) := dk_162 0 40 (dk_at dksX3_endBy_0 7 rfl rfl)
theorem dX3_endBy_10 : decode cX3_endBy 10 = .ok (.aload_n 0, 1) := dk_42 (dk_at dksX3_endBy_0 10 rfl rfl)
theorem dX3_endBy_11 : decode cX3_endBy 11 = .ok (.getfield 9, 3) := dk_180 0 9 (dk_at dksX3_endBy_0 11 rfl rfl)
theorem dX3_endBy_14 : decode cX3_endBy 14 = .ok (.aload_n 0, 1) := dk_42 (dk_at dksX3_endBy_0 14 rfl rfl)
theorem dX3_endBy_15 : decode cX3_endBy 15 = .ok (.getfield 15, 3) := dk_180 0 15 (dk_at dksX3_endBy_0 15 rfl rfl)
theorem dX3_endBy_18 : decode cX3_endBy 18 = .ok (.iconst 1, 1) := dk_4 (dk_at dksX3_endBy_0 18 rfl rfl)
theorem dX3_endBy_19 : decode cX3_endBy 19 = .ok (.isub, 1) := dk_100 (dk_at dksX3_endBy_0 19 rfl rfl)
theorem dX3_endBy_20 : decode cX3_endBy 20 = .ok (.iload_n 2, 1) := dk_28 (dk_at dksX3_endBy_0 20 rfl rfl)
theorem dX3_endBy_21 : decode cX3_endBy 21 = .ok (.isub, 1) := dk_100 (dk_at dksX3_endBy_0 21 rfl rfl)
theorem dX3_endBy_22 : decode cX3_endBy 22 = .ok (.baload, 1) := dk_51 (dk_at dksX3_endBy_0 22 rfl rfl)
theorem dX3_endBy_23 : decode cX3_endBy 23 = .ok (.aload_n 0, 1) := dk_42 (dk_at dksX3_endBy_0 23 rfl rfl)
theorem dX3_endBy_24 : decode cX3_endBy 24 = .ok (.getfield 9, 3) := dk_180 0 9 (dk_at dksX3_endBy_1 0 rfl rfl)
theorem dX3_endBy_27 : decode cX3_endBy 27 = .ok (.aload_n 0, 1) := dk_42 (dk_at dksX3_endBy_1 3 rfl rfl)
theorem dX3_endBy_28 : decode cX3_endBy 28 = .ok (.getfield 15, 3) := dk_180 0 15 (dk_at dksX3_endBy_1 4 rfl rfl)
theorem dX3_endBy_31 : decode cX3_endBy 31 = .ok (.iconst 1, 1) := dk_4 (dk_at dksX3_endBy_1 7 rfl rfl)
theorem dX3_endBy_32 : decode cX3_endBy 32 = .ok (.isub, 1) := dk_100 (dk_at dksX3_endBy_1 8 rfl rfl)
theorem dX3_endBy_33 : decode cX3_endBy 33 = .ok (.iload_n 2, 1) := dk_28 (dk_at dksX3_endBy_1 9 rfl rfl)
theorem dX3_endBy_34 : decode cX3_endBy 34 = .ok (.isub, 1) := dk_100 (dk_at dksX3_endBy_1 10 rfl rfl)
theorem dX3_endBy_35 : decode cX3_endBy 35 = .ok (.iload_n 1, 1) := dk_27 (dk_at dksX3_endBy_1 11 rfl rfl)
theorem dX3_endBy_36 : decode cX3_endBy 36 = .ok (.iadd, 1) := dk_96 (dk_at dksX3_endBy_1 12 rfl rfl)
theorem dX3_endBy_37 : decode cX3_endBy 37 = .ok (.baload, 1) := dk_51 (dk_at dksX3_endBy_1 13 rfl rfl)
theorem dX3_endBy_38 : decode cX3_endBy 38 = .ok (.if_icmp .ne 9, 3) := dk_160 0 9 (dk_at dksX3_endBy_1 14 rfl rfl)
theorem dX3_endBy_41 : decode cX3_endBy 41 = .ok (.iinc 2 1, 3) := dk_132 2 1 (dk_at dksX3_endBy_1 17 rfl rfl)
theorem dX3_endBy_44 : decode cX3_endBy 44 = .ok (.goto (-42), 3) := dk_167 255 214 (dk_at dksX3_endBy_1 20 rfl rfl)
theorem dX3_endBy_47 : decode cX3_endBy 47 = .ok (.iload_n 2, 1) := dk_28 (dk_at dksX3_endBy_1 23 rfl rfl)
theorem dX3_endBy_48 : decode cX3_endBy 48 = .ok (.ireturn, 1) := dk_172 (dk_at dksX3_endBy_2 0 rfl rfl)
abbrev cX3_isSame : ByteArray := prog_10_method_7_code
def yX3_isSame : MethodName := ⟨RX3, "isSame", "(III)Z"⟩
def dkwX3_isSame_1 : List UInt8 := [21, 4, 96, 51, 159, 0, 5, 3, 172, 132, 4, 1, 167, 255, 224, 4, 172]
abbrev dktX3_isSame_1 : List UInt8 := dkwX3_isSame_1 ++ []
def dkwX3_isSame_0 : List UInt8 := [3, 54, 4, 21, 4, 29, 162, 0, 32, 42, 180, 0, 9, 27, 21, 4, 96, 51, 42, 180, 0, 9, 28]
abbrev dktX3_isSame_0 : List UInt8 := dkwX3_isSame_0 ++ dktX3_isSame_1
theorem dksX3_isSame_0 : cX3_isSame.data.toList.drop 0 = dktX3_isSame_0 := by decide +kernel
theorem dksX3_isSame_1 : cX3_isSame.data.toList.drop 23 = dktX3_isSame_1 := dk_seg dksX3_isSame_0 23 rfl rfl
theorem dX3_isSame_0 : decode cX3_isSame 0 = .ok (.iconst 0, 1) := dk_3 (dk_at dksX3_isSame_0 0 rfl rfl)
theorem dX3_isSame_1 : decode cX3_isSame 1 = .ok (.istore 4, 2) := dk_54 4 (dk_at dksX3_isSame_0 1 rfl rfl)
theorem dX3_isSame_3 : decode cX3_isSame 3 = .ok (.iload 4, 2) := dk_21 4 (dk_at dksX3_isSame_0 3 rfl rfl)
theorem dX3_isSame_5 : decode cX3_isSame 5 = .ok (.iload_n 3, 1) := dk_29 (dk_at dksX3_isSame_0 5 rfl rfl)
theorem dX3_isSame_6 : decode cX3_isSame 6 = .ok (.if_icmp .ge 32, 3) := dk_162 0 32 (dk_at dksX3_isSame_0 6 rfl rfl)
theorem dX3_isSame_9 : decode cX3_isSame 9 = .ok (.aload_n 0, 1) := dk_42 (dk_at dksX3_isSame_0 9 rfl rfl)
theorem dX3_isSame_10 : decode cX3_isSame 10 = .ok (.getfield 9, 3) := dk_180 0 9 (dk_at dksX3_isSame_0 10 rfl rfl)
theorem dX3_isSame_13 : decode cX3_isSame 13 = .ok (.iload_n 1, 1) := dk_27 (dk_at dksX3_isSame_0 13 rfl rfl)
theorem dX3_isSame_14 : decode cX3_isSame 14 = .ok (.iload 4, 2) := dk_21 4 (dk_at dksX3_isSame_0 14 rfl rfl)
theorem dX3_isSame_16 : decode cX3_isSame 16 = .ok (.iadd, 1) := dk_96 (dk_at dksX3_isSame_0 16 rfl rfl)
theorem dX3_isSame_17 : decode cX3_isSame 17 = .ok (.baload, 1) := dk_51 (dk_at dksX3_isSame_0 17 rfl rfl)
theorem dX3_isSame_18 : decode cX3_isSame 18 = .ok (.aload_n 0, 1) := dk_42 (dk_at dksX3_isSame_0 18 rfl rfl)
theorem dX3_isSame_19 : decode cX3_isSame 19 = .ok (.getfield 9, 3) := dk_180 0 9 (dk_at dksX3_isSame_0 19 rfl rfl)
theorem dX3_isSame_22 : decode cX3_isSame 22 = .ok (.iload_n 2, 1) := dk_28 (dk_at dksX3_isSame_0 22 rfl rfl)
theorem dX3_isSame_23 : decode cX3_isSame 23 = .ok (.iload 4, 2) := dk_21 4 (dk_at dksX3_isSame_1 0 rfl rfl)
theorem dX3_isSame_25 : decode cX3_isSame 25 = .ok (.iadd, 1) := dk_96 (dk_at dksX3_isSame_1 2 rfl rfl)
theorem dX3_isSame_26 : decode cX3_isSame 26 = .ok (.baload, 1) := dk_51 (dk_at dksX3_isSame_1 3 rfl rfl)
theorem dX3_isSame_27 : decode cX3_isSame 27 = .ok (.if_icmp .eq 5, 3) := dk_159 0 5 (dk_at dksX3_isSame_1 4 rfl rfl)
theorem dX3_isSame_30 : decode cX3_isSame 30 = .ok (.iconst 0, 1) := dk_3 (dk_at dksX3_isSame_1 7 rfl rfl)
theorem dX3_isSame_31 : decode cX3_isSame 31 = .ok (.ireturn, 1) := dk_172 (dk_at dksX3_isSame_1 8 rfl rfl)
theorem dX3_isSame_32 : decode cX3_isSame 32 = .ok (.iinc 4 1, 3) := dk_132 4 1 (dk_at dksX3_isSame_1 9 rfl rfl)
theorem dX3_isSame_35 : decode cX3_isSame 35 = .ok (.goto (-32), 3) := dk_167 255 224 (dk_at dksX3_isSame_1 12 rfl rfl)
theorem dX3_isSame_38 : decode cX3_isSame 38 = .ok (.iconst 1, 1) := dk_4 (dk_at dksX3_isSame_1 15 rfl rfl)
theorem dX3_isSame_39 : decode cX3_isSame 39 = .ok (.ireturn, 1) := dk_172 (dk_at dksX3_isSame_1 16 rfl rfl)
abbrev cX3_alike : ByteArray := prog_10_method_5_code
def yX3_alike : MethodName := ⟨RX3, "alike", "(II)I"⟩
def dkwX3_alike_1 : List UInt8 := [28, 29, 96, 51, 160, 0, 9, 132, 3, 1, 167, 255, 224, 29, 172]
abbrev dktX3_alike_1 : List UInt8 := dkwX3_alike_1 ++ []
def dkwX3_alike_0 : List UInt8 := [3, 62, 28, 29, 96, 42, 180, 0, 15, 162, 0, 28, 42, 180, 0, 9, 27, 29, 96, 51, 42, 180, 0, 9]
abbrev dktX3_alike_0 : List UInt8 := dkwX3_alike_0 ++ dktX3_alike_1
theorem dksX3_alike_0 : cX3_alike.data.toList.drop 0 = dktX3_alike_0 := by decide +kernel
theorem dksX3_alike_1 : cX3_alike.data.toList.drop 24 = dktX3_alike_1 := dk_seg dksX3_alike_0 24 rfl rfl
theorem dX3_alike_0 : decode cX3_alike 0 = .ok (.iconst 0, 1) := dk_3 (dk_at dksX3_alike_0 0 rfl rfl)
theorem dX3_alike_1 : decode cX3_alike 1 = .ok (.istore_n 3, 1) := dk_62 (dk_at dksX3_alike_0 1 rfl rfl)
theorem dX3_alike_2 : decode cX3_alike 2 = .ok (.iload_n 2, 1) := dk_28 (dk_at dksX3_alike_0 2 rfl rfl)
theorem dX3_alike_3 : decode cX3_alike 3 = .ok (.iload_n 3, 1) := dk_29 (dk_at dksX3_alike_0 3 rfl rfl)
theorem dX3_alike_4 : decode cX3_alike 4 = .ok (.iadd, 1) := dk_96 (dk_at dksX3_alike_0 4 rfl rfl)
theorem dX3_alike_5 : decode cX3_alike 5 = .ok (.aload_n 0, 1) := dk_42 (dk_at dksX3_alike_0 5 rfl rfl)
theorem dX3_alike_6 : decode cX3_alike 6 = .ok (.getfield 15, 3) := dk_180 0 15 (dk_at dksX3_alike_0 6 rfl rfl)
theorem dX3_alike_9 : decode cX3_alike 9 = .ok (.if_icmp .ge 28, 3) := dk_162 0 28 (dk_at dksX3_alike_0 9 rfl rfl)
theorem dX3_alike_12 : decode cX3_alike 12 = .ok (.aload_n 0, 1) := dk_42 (dk_at dksX3_alike_0 12 rfl rfl)
theorem dX3_alike_13 : decode cX3_alike 13 = .ok (.getfield 9, 3) := dk_180 0 9 (dk_at dksX3_alike_0 13 rfl rfl)
theorem dX3_alike_16 : decode cX3_alike 16 = .ok (.iload_n 1, 1) := dk_27 (dk_at dksX3_alike_0 16 rfl rfl)
theorem dX3_alike_17 : decode cX3_alike 17 = .ok (.iload_n 3, 1) := dk_29 (dk_at dksX3_alike_0 17 rfl rfl)
theorem dX3_alike_18 : decode cX3_alike 18 = .ok (.iadd, 1) := dk_96 (dk_at dksX3_alike_0 18 rfl rfl)
theorem dX3_alike_19 : decode cX3_alike 19 = .ok (.baload, 1) := dk_51 (dk_at dksX3_alike_0 19 rfl rfl)
theorem dX3_alike_20 : decode cX3_alike 20 = .ok (.aload_n 0, 1) := dk_42 (dk_at dksX3_alike_0 20 rfl rfl)
theorem dX3_alike_21 : decode cX3_alike 21 = .ok (.getfield 9, 3) := dk_180 0 9 (dk_at dksX3_alike_0 21 rfl rfl)
theorem dX3_alike_24 : decode cX3_alike 24 = .ok (.iload_n 2, 1) := dk_28 (dk_at dksX3_alike_1 0 rfl rfl)
theorem dX3_alike_25 : decode cX3_alike 25 = .ok (.iload_n 3, 1) := dk_29 (dk_at dksX3_alike_1 1 rfl rfl)
theorem dX3_alike_26 : decode cX3_alike 26 = .ok (.iadd, 1) := dk_96 (dk_at dksX3_alike_1 2 rfl rfl)
theorem dX3_alike_27 : decode cX3_alike 27 = .ok (.baload, 1) := dk_51 (dk_at dksX3_alike_1 3 rfl rfl)
theorem dX3_alike_28 : decode cX3_alike 28 = .ok (.if_icmp .ne 9, 3) := dk_160 0 9 (dk_at dksX3_alike_1 4 rfl rfl)
theorem dX3_alike_31 : decode cX3_alike 31 = .ok (.iinc 3 1, 3) := dk_132 3 1 (dk_at dksX3_alike_1 7 rfl rfl)
theorem dX3_alike_34 : decode cX3_alike 34 = .ok (.goto (-32), 3) := dk_167 255 224 (dk_at dksX3_alike_1 10 rfl rfl)
theorem dX3_alike_37 : decode cX3_alike 37 = .ok (.iload_n 3, 1) := dk_29 (dk_at dksX3_alike_1 13 rfl rfl)
theorem dX3_alike_38 : decode cX3_alike 38 = .ok (.ireturn, 1) := dk_172 (dk_at dksX3_alike_1 14 rfl rfl)
abbrev cX3_same : ByteArray := prog_10_method_4_code
def yX3_same : MethodName := ⟨RX3, "same", "()LRepeatFree$Word;"⟩
def dkwX3_same_1 : List UInt8 := [184, 0, 20, 43, 42, 180, 0, 15, 181, 0, 15, 43, 176]
abbrev dktX3_same_1 : List UInt8 := dkwX3_same_1 ++ []
def dkwX3_same_0 : List UInt8 := [187, 0, 10, 89, 183, 0, 19, 76, 42, 180, 0, 9, 3, 43, 180, 0, 9, 3, 42, 180, 0, 15]
abbrev dktX3_same_0 : List UInt8 := dkwX3_same_0 ++ dktX3_same_1
theorem dksX3_same_0 : cX3_same.data.toList.drop 0 = dktX3_same_0 := by decide +kernel
theorem dksX3_same_1 : cX3_same.data.toList.drop 22 = dktX3_same_1 := dk_seg dksX3_same_0 22 rfl rfl
theorem dX3_same_0 : decode cX3_same 0 = .ok (.new 10, 3) := dk_187 0 10 (dk_at dksX3_same_0 0 rfl rfl)
theorem dX3_same_3 : decode cX3_same 3 = .ok (.dup, 1) := dk_89 (dk_at dksX3_same_0 3 rfl rfl)
theorem dX3_same_4 : decode cX3_same 4 = .ok (.invokespecial 19, 3) := dk_183 0 19 (dk_at dksX3_same_0 4 rfl rfl)
theorem dX3_same_7 : decode cX3_same 7 = .ok (.astore_n 1, 1) := dk_76 (dk_at dksX3_same_0 7 rfl rfl)
theorem dX3_same_8 : decode cX3_same 8 = .ok (.aload_n 0, 1) := dk_42 (dk_at dksX3_same_0 8 rfl rfl)
theorem dX3_same_9 : decode cX3_same 9 = .ok (.getfield 9, 3) := dk_180 0 9 (dk_at dksX3_same_0 9 rfl rfl)
theorem dX3_same_12 : decode cX3_same 12 = .ok (.iconst 0, 1) := dk_3 (dk_at dksX3_same_0 12 rfl rfl)
theorem dX3_same_13 : decode cX3_same 13 = .ok (.aload_n 1, 1) := dk_43 (dk_at dksX3_same_0 13 rfl rfl)
theorem dX3_same_14 : decode cX3_same 14 = .ok (.getfield 9, 3) := dk_180 0 9 (dk_at dksX3_same_0 14 rfl rfl)
theorem dX3_same_17 : decode cX3_same 17 = .ok (.iconst 0, 1) := dk_3 (dk_at dksX3_same_0 17 rfl rfl)
theorem dX3_same_18 : decode cX3_same 18 = .ok (.aload_n 0, 1) := dk_42 (dk_at dksX3_same_0 18 rfl rfl)
theorem dX3_same_19 : decode cX3_same 19 = .ok (.getfield 15, 3) := dk_180 0 15 (dk_at dksX3_same_0 19 rfl rfl)
theorem dX3_same_22 : decode cX3_same 22 = .ok (.invokestatic 20, 3) := dk_184 0 20 (dk_at dksX3_same_1 0 rfl rfl)
theorem dX3_same_25 : decode cX3_same 25 = .ok (.aload_n 1, 1) := dk_43 (dk_at dksX3_same_1 3 rfl rfl)
theorem dX3_same_26 : decode cX3_same 26 = .ok (.aload_n 0, 1) := dk_42 (dk_at dksX3_same_1 4 rfl rfl)
theorem dX3_same_27 : decode cX3_same 27 = .ok (.getfield 15, 3) := dk_180 0 15 (dk_at dksX3_same_1 5 rfl rfl)
theorem dX3_same_30 : decode cX3_same 30 = .ok (.putfield 15, 3) := dk_181 0 15 (dk_at dksX3_same_1 8 rfl rfl)
theorem dX3_same_33 : decode cX3_same 33 = .ok (.aload_n 1, 1) := dk_43 (dk_at dksX3_same_1 11 rfl rfl)
theorem dX3_same_34 : decode cX3_same 34 = .ok (.areturn, 1) := dk_176 (dk_at dksX3_same_1 12 rfl rfl)
abbrev cX3_goes : ByteArray := prog_10_method_3_code
def yX3_goes : MethodName := ⟨RX3, "goes", "()I"⟩
def dkwX3_goes_0 : List UInt8 := [42, 89, 180, 0, 15, 4, 100, 181, 0, 15, 42, 180, 0, 9, 42, 180, 0, 15, 51, 172]
abbrev dktX3_goes_0 : List UInt8 := dkwX3_goes_0 ++ []
theorem dksX3_goes_0 : cX3_goes.data.toList.drop 0 = dktX3_goes_0 := by decide +kernel
theorem dX3_goes_0 : decode cX3_goes 0 = .ok (.aload_n 0, 1) := dk_42 (dk_at dksX3_goes_0 0 rfl rfl)
theorem dX3_goes_1 : decode cX3_goes 1 = .ok (.dup, 1) := dk_89 (dk_at dksX3_goes_0 1 rfl rfl)
theorem dX3_goes_2 : decode cX3_goes 2 = .ok (.getfield 15, 3) := dk_180 0 15 (dk_at dksX3_goes_0 2 rfl rfl)
theorem dX3_goes_5 : decode cX3_goes 5 = .ok (.iconst 1, 1) := dk_4 (dk_at dksX3_goes_0 5 rfl rfl)
theorem dX3_goes_6 : decode cX3_goes 6 = .ok (.isub, 1) := dk_100 (dk_at dksX3_goes_0 6 rfl rfl)
theorem dX3_goes_7 : decode cX3_goes 7 = .ok (.putfield 15, 3) := dk_181 0 15 (dk_at dksX3_goes_0 7 rfl rfl)
theorem dX3_goes_10 : decode cX3_goes 10 = .ok (.aload_n 0, 1) := dk_42 (dk_at dksX3_goes_0 10 rfl rfl)
theorem dX3_goes_11 : decode cX3_goes 11 = .ok (.getfield 9, 3) := dk_180 0 9 (dk_at dksX3_goes_0 11 rfl rfl)
theorem dX3_goes_14 : decode cX3_goes 14 = .ok (.aload_n 0, 1) := dk_42 (dk_at dksX3_goes_0 14 rfl rfl)
theorem dX3_goes_15 : decode cX3_goes 15 = .ok (.getfield 15, 3) := dk_180 0 15 (dk_at dksX3_goes_0 15 rfl rfl)
theorem dX3_goes_18 : decode cX3_goes 18 = .ok (.baload, 1) := dk_51 (dk_at dksX3_goes_0 18 rfl rfl)
theorem dX3_goes_19 : decode cX3_goes 19 = .ok (.ireturn, 1) := dk_172 (dk_at dksX3_goes_0 19 rfl rfl)
theorem q122 : (Jvm.Cond.initialized "RepeatFree$Word") ∈ lw_all := lw_g (lw_at lw_m1 7 rfl) rfl
theorem q240 : (Jvm.Cond.instantiable "RepeatFree$Word" (2 : Nat)) ∈ lw_all := lw_g (lw_at lw_m1 125 rfl) rfl
theorem q242 : (Jvm.Cond.instanceMethod ({ cls := "RepeatFree$Word", name := "<init>", desc := "()V" } : Jvm.MethodName)) ∈ lw_all := lw_g (lw_at lw_m1 127 rfl) rfl
theorem q243 : (Jvm.Cond.code ({ cls := "RepeatFree$Word", name := "<init>", desc := "()V" } : Jvm.MethodName) prog_10_method_1_code (1 : Nat) (Option.none : Option Jvm.ClassFile.FieldType)) ∈ lw_all := lw_g (lw_at lw_m1 128 rfl) rfl
theorem q244 : (Jvm.Cond.methodLink "RepeatFree$Word" (3 : Nat) ({ cls := "java/lang/Object", name := "<init>", desc := "()V" } : Jvm.MethodName)) ∈ lw_all := lw_g (lw_at lw_m1 129 rfl) rfl
theorem q245 : (Jvm.Cond.fieldLink "RepeatFree$Word" (9 : Nat) "RepeatFree$Word" "at" "[B") ∈ lw_all := lw_g (lw_at lw_m1 130 rfl) rfl
theorem q247 : (Jvm.Cond.fieldLink "RepeatFree$Word" (15 : Nat) "RepeatFree$Word" "many" "I") ∈ lw_all := lw_g (lw_at lw_m1 132 rfl) rfl
theorem q251 : (Jvm.Cond.laysFinal "RepeatFree$Word" "RepeatFree$Word" "at" "[B") ∈ lw_all := lw_g (lw_at lw_m1 136 rfl) rfl
theorem q252 : (Jvm.Cond.soleField "RepeatFree$Word" "at") ∈ lw_all := lw_g (lw_at lw_m1 137 rfl) rfl
theorem q253 : (Jvm.Cond.lays "RepeatFree$Word" "RepeatFree$Word" "many" "I") ∈ lw_all := lw_g (lw_at lw_m1 138 rfl) rfl
theorem q254 : (Jvm.Cond.soleField "RepeatFree$Word" "many") ∈ lw_all := lw_g (lw_at lw_m1 139 rfl) rfl
theorem q255 : (Jvm.Cond.superclass "RepeatFree$Word" "java/lang/Object") ∈ lw_all := lw_g (lw_at lw_m1 140 rfl) rfl
theorem q432 : (Jvm.Cond.instanceMethod ({ cls := "RepeatFree$Word", name := "comes", desc := "(I)V" } : Jvm.MethodName)) ∈ lw_all := lw_g (lw_at lw_m2 77 rfl) rfl
theorem q433 : (Jvm.Cond.selects "RepeatFree$Word" ({ cls := "RepeatFree$Word", name := "comes", desc := "(I)V" } : Jvm.MethodName) ({ cls := "RepeatFree$Word", name := "comes", desc := "(I)V" } : Jvm.MethodName)) ∈ lw_all := lw_g (lw_at lw_m2 78 rfl) rfl
theorem q434 : (Jvm.Cond.code ({ cls := "RepeatFree$Word", name := "comes", desc := "(I)V" } : Jvm.MethodName) prog_10_method_2_code (2 : Nat) (Option.none : Option Jvm.ClassFile.FieldType)) ∈ lw_all := lw_g (lw_at lw_m2 79 rfl) rfl
theorem q440 : (Jvm.Cond.instanceMethod ({ cls := "RepeatFree$Word", name := "endBy", desc := "(I)I" } : Jvm.MethodName)) ∈ lw_all := lw_g (lw_at lw_m2 85 rfl) rfl
theorem q441 : (Jvm.Cond.selects "RepeatFree$Word" ({ cls := "RepeatFree$Word", name := "endBy", desc := "(I)I" } : Jvm.MethodName) ({ cls := "RepeatFree$Word", name := "endBy", desc := "(I)I" } : Jvm.MethodName)) ∈ lw_all := lw_g (lw_at lw_m2 86 rfl) rfl
theorem q442 : (Jvm.Cond.code ({ cls := "RepeatFree$Word", name := "endBy", desc := "(I)I" } : Jvm.MethodName) prog_10_method_6_code (3 : Nat) (Option.some Jvm.ClassFile.FieldType.int)) ∈ lw_all := lw_g (lw_at lw_m2 87 rfl) rfl
theorem q509 : (Jvm.Cond.instanceMethod ({ cls := "RepeatFree$Word", name := "isSame", desc := "(III)Z" } : Jvm.MethodName)) ∈ lw_all := lw_g (lw_at lw_m2 154 rfl) rfl
theorem q510 : (Jvm.Cond.selects "RepeatFree$Word" ({ cls := "RepeatFree$Word", name := "isSame", desc := "(III)Z" } : Jvm.MethodName) ({ cls := "RepeatFree$Word", name := "isSame", desc := "(III)Z" } : Jvm.MethodName)) ∈ lw_all := lw_g (lw_at lw_m2 155 rfl) rfl
theorem q511 : (Jvm.Cond.code ({ cls := "RepeatFree$Word", name := "isSame", desc := "(III)Z" } : Jvm.MethodName) prog_10_method_7_code (5 : Nat) (Option.some Jvm.ClassFile.FieldType.boolean)) ∈ lw_all := lw_g (lw_at lw_m2 156 rfl) rfl
theorem q525 : (Jvm.Cond.instanceMethod ({ cls := "RepeatFree$Word", name := "alike", desc := "(II)I" } : Jvm.MethodName)) ∈ lw_all := lw_g (lw_at lw_m2 170 rfl) rfl
theorem q526 : (Jvm.Cond.selects "RepeatFree$Word" ({ cls := "RepeatFree$Word", name := "alike", desc := "(II)I" } : Jvm.MethodName) ({ cls := "RepeatFree$Word", name := "alike", desc := "(II)I" } : Jvm.MethodName)) ∈ lw_all := lw_g (lw_at lw_m2 171 rfl) rfl
theorem q527 : (Jvm.Cond.code ({ cls := "RepeatFree$Word", name := "alike", desc := "(II)I" } : Jvm.MethodName) prog_10_method_5_code (4 : Nat) (Option.some Jvm.ClassFile.FieldType.int)) ∈ lw_all := lw_g (lw_at lw_m2 172 rfl) rfl
theorem q552 : (Jvm.Cond.instanceMethod ({ cls := "RepeatFree$Word", name := "same", desc := "()LRepeatFree$Word;" } : Jvm.MethodName)) ∈ lw_all := lw_g (lw_at lw_m2 197 rfl) rfl
theorem q553 : (Jvm.Cond.selects "RepeatFree$Word" ({ cls := "RepeatFree$Word", name := "same", desc := "()LRepeatFree$Word;" } : Jvm.MethodName) ({ cls := "RepeatFree$Word", name := "same", desc := "()LRepeatFree$Word;" } : Jvm.MethodName)) ∈ lw_all := lw_g (lw_at lw_m2 198 rfl) rfl
theorem q554 : (Jvm.Cond.code ({ cls := "RepeatFree$Word", name := "same", desc := "()LRepeatFree$Word;" } : Jvm.MethodName) prog_10_method_4_code (2 : Nat) (Option.some (Jvm.ClassFile.FieldType.object "RepeatFree$Word"))) ∈ lw_all := lw_g (lw_at lw_m2 199 rfl) rfl
theorem q555 : (Jvm.Cond.classLink "RepeatFree$Word" (10 : Nat) "RepeatFree$Word") ∈ lw_all := lw_g (lw_at lw_m2 200 rfl) rfl
theorem q556 : (Jvm.Cond.methodLink "RepeatFree$Word" (19 : Nat) ({ cls := "RepeatFree$Word", name := "<init>", desc := "()V" } : Jvm.MethodName)) ∈ lw_all := lw_g (lw_at lw_m2 201 rfl) rfl
theorem q557 : (Jvm.Cond.methodLink "RepeatFree$Word" (20 : Nat) ({ cls := "java/lang/System", name := "arraycopy", desc := "(Ljava/lang/Object;ILjava/lang/Object;II)V" } : Jvm.MethodName)) ∈ lw_all := lw_g (lw_at lw_m2 202 rfl) rfl
theorem q561 : (Jvm.Cond.instanceMethod ({ cls := "RepeatFree$Word", name := "goes", desc := "()I" } : Jvm.MethodName)) ∈ lw_all := lw_g (lw_at lw_m2 206 rfl) rfl
theorem q562 : (Jvm.Cond.selects "RepeatFree$Word" ({ cls := "RepeatFree$Word", name := "goes", desc := "()I" } : Jvm.MethodName) ({ cls := "RepeatFree$Word", name := "goes", desc := "()I" } : Jvm.MethodName)) ∈ lw_all := lw_g (lw_at lw_m2 207 rfl) rfl
theorem q563 : (Jvm.Cond.code ({ cls := "RepeatFree$Word", name := "goes", desc := "()I" } : Jvm.MethodName) prog_10_method_3_code (1 : Nat) (Option.some Jvm.ClassFile.FieldType.int)) ∈ lw_all := lw_g (lw_at lw_m2 208 rfl) rfl
theorem q672 : (Jvm.Cond.selects "RepeatFree$Word" ({ cls := "java/lang/Object", name := "getClass", desc := "()Ljava/lang/Class;" } : Jvm.MethodName) ({ cls := "java/lang/Object", name := "getClass", desc := "()Ljava/lang/Class;" } : Jvm.MethodName)) ∈ lw_all := lw_g (lw_at lw_m3 77 rfl) rfl
theorem q1191 : (Jvm.Cond.selects "RepeatFree$Word" ({ cls := "java/lang/Object", name := "equals", desc := "(Ljava/lang/Object;)Z" } : Jvm.MethodName) ({ cls := "java/lang/Object", name := "equals", desc := "(Ljava/lang/Object;)Z" } : Jvm.MethodName)) ∈ lw_all := lw_g (lw_at lw_m5 116 rfl) rfl
theorem q2856 : (Jvm.Cond.castable "RepeatFree$Word" "java/lang/Object") ∈ lw_tbl := lw_at lw_m12 101 rfl
theorem in_X3 : ∀ w ∈ wsX30, w ∈ lw_all := lw_in wsX30 [251, 253] (by decide +kernel) (by decide +kernel)
/-! RepeatFree$Reader -/
set_option maxRecDepth 100000
def RX5 : String := "RepeatFree$Reader"
def TX5 : u_T := fun k => match k with
  | 0 => ("RepeatFree$Reader", "own", "Ljava/util/List;", true)
  | 1 => ("RepeatFree$Reader", "text", "[B", true)
  | 2 => ("RepeatFree$Reader", "size", "I", true)
  | 3 => ("RepeatFree$Reader", "told", "LRepeatFree$Told;", true)
  | _ => ("RepeatFree$Reader", "at", "I", false)
def tyX5 : Nat → FieldType := fun k => match k with
  | 0 => .object "java/util/List"
  | 1 => .array .byte
  | 2 => .int
  | 3 => .object "RepeatFree$Told"
  | _ => .int
abbrev wsX50 : List Cond := u_ws RX5 TX5 5
theorem nmX5 : ∀ a, a < 5 → ∀ b, b < 5 → a ≠ b → (TX5 a).2.1 ≠ (TX5 b).2.1 := by decide +kernel
theorem tyX5_ok : ∀ k, k < 5 → parseFieldDescriptor (TX5 k).2.2.1 = some (tyX5 k) := by decide +kernel
abbrev cX5_init : ByteArray := prog_6_method_1_code
def yX5_init : MethodName := ⟨RX5, "<init>", "([BI)V"⟩
def dkwX5_init_2 : List UInt8 := [177]
abbrev dktX5_init_2 : List UInt8 := dkwX5_init_2 ++ []
def dkwX5_init_1 : List UInt8 := [181, 0, 31, 42, 187, 0, 37, 89, 183, 0, 39, 181, 0, 40, 42, 43, 181, 0, 44, 42, 28, 181, 0, 48]
abbrev dktX5_init_1 : List UInt8 := dkwX5_init_1 ++ dktX5_init_2
def dkwX5_init_0 : List UInt8 := [42, 183, 0, 3, 42, 18, 9, 18, 11, 18, 13, 18, 15, 18, 17, 18, 19, 18, 21, 18, 23, 184, 0, 25]
abbrev dktX5_init_0 : List UInt8 := dkwX5_init_0 ++ dktX5_init_1
theorem dksX5_init_0 : cX5_init.data.toList.drop 0 = dktX5_init_0 := by decide +kernel
theorem dksX5_init_1 : cX5_init.data.toList.drop 24 = dktX5_init_1 := dk_seg dksX5_init_0 24 rfl rfl
theorem dksX5_init_2 : cX5_init.data.toList.drop 48 = dktX5_init_2 := dk_seg dksX5_init_1 24 rfl rfl
theorem dX5_init_0 : decode cX5_init 0 = .ok (.aload_n 0, 1) := dk_42 (dk_at dksX5_init_0 0 rfl rfl)
theorem dX5_init_1 : decode cX5_init 1 = .ok (.invokespecial 3, 3) := dk_183 0 3 (dk_at dksX5_init_0 1 rfl rfl)
theorem dX5_init_4 : decode cX5_init 4 = .ok (.aload_n 0, 1) := dk_42 (dk_at dksX5_init_0 4 rfl rfl)
theorem dX5_init_5 : decode cX5_init 5 = .ok (.ldc 9, 2) := dk_18 9 (dk_at dksX5_init_0 5 rfl rfl)
theorem dX5_init_7 : decode cX5_init 7 = .ok (.ldc 11, 2) := dk_18 11 (dk_at dksX5_init_0 7 rfl rfl)
theorem dX5_init_9 : decode cX5_init 9 = .ok (.ldc 13, 2) := dk_18 13 (dk_at dksX5_init_0 9 rfl rfl)
theorem dX5_init_11 : decode cX5_init 11 = .ok (.ldc 15, 2) := dk_18 15 (dk_at dksX5_init_0 11 rfl rfl)
theorem dX5_init_13 : decode cX5_init 13 = .ok (.ldc 17, 2) := dk_18 17 (dk_at dksX5_init_0 13 rfl rfl)
theorem dX5_init_15 : decode cX5_init 15 = .ok (.ldc 19, 2) := dk_18 19 (dk_at dksX5_init_0 15 rfl rfl)
theorem dX5_init_17 : decode cX5_init 17 = .ok (.ldc 21, 2) := dk_18 21 (dk_at dksX5_init_0 17 rfl rfl)
theorem dX5_init_19 : decode cX5_init 19 = .ok (.ldc 23, 2) := dk_18 23 (dk_at dksX5_init_0 19 rfl rfl)
theorem dX5_init_21 : decode cX5_init 21 = .ok (.invokestatic 25, 3) := dk_184 0 25 (dk_at dksX5_init_0 21 rfl rfl)
theorem dX5_init_24 : decode cX5_init 24 = .ok (.putfield 31, 3) := dk_181 0 31 (dk_at dksX5_init_1 0 rfl rfl)
theorem dX5_init_27 : decode cX5_init 27 = .ok (.aload_n 0, 1) := dk_42 (dk_at dksX5_init_1 3 rfl rfl)
theorem dX5_init_28 : decode cX5_init 28 = .ok (.new 37, 3) := dk_187 0 37 (dk_at dksX5_init_1 4 rfl rfl)
theorem dX5_init_31 : decode cX5_init 31 = .ok (.dup, 1) := dk_89 (dk_at dksX5_init_1 7 rfl rfl)
theorem dX5_init_32 : decode cX5_init 32 = .ok (.invokespecial 39, 3) := dk_183 0 39 (dk_at dksX5_init_1 8 rfl rfl)
theorem dX5_init_35 : decode cX5_init 35 = .ok (.putfield 40, 3) := dk_181 0 40 (dk_at dksX5_init_1 11 rfl rfl)
theorem dX5_init_38 : decode cX5_init 38 = .ok (.aload_n 0, 1) := dk_42 (dk_at dksX5_init_1 14 rfl rfl)
theorem dX5_init_39 : decode cX5_init 39 = .ok (.aload_n 1, 1) := dk_43 (dk_at dksX5_init_1 15 rfl rfl)
theorem dX5_init_40 : decode cX5_init 40 = .ok (.putfield 44, 3) := dk_181 0 44 (dk_at dksX5_init_1 16 rfl rfl)
theorem dX5_init_43 : decode cX5_init 43 = .ok (.aload_n 0, 1) := dk_42 (dk_at dksX5_init_1 19 rfl rfl)
theorem dX5_init_44 : decode cX5_init 44 = .ok (.iload_n 2, 1) := dk_28 (dk_at dksX5_init_1 20 rfl rfl)
theorem dX5_init_45 : decode cX5_init 45 = .ok (.putfield 48, 3) := dk_181 0 48 (dk_at dksX5_init_1 21 rfl rfl)
theorem dX5_init_48 : decode cX5_init 48 = .ok (.return_, 1) := dk_177 (dk_at dksX5_init_2 0 rfl rfl)
abbrev cX5_whole : ByteArray := prog_6_method_13_code
def yX5_whole : MethodName := ⟨RX5, "whole", "()LRepeatFree$Told;"⟩
def dkwX5_whole_1 : List UInt8 := [42, 182, 0, 55, 2, 159, 0, 14, 42, 182, 0, 182, 42, 182, 0, 179, 167, 255, 240, 42, 180, 0, 40, 176]
abbrev dktX5_whole_1 : List UInt8 := dkwX5_whole_1 ++ []
def dkwX5_whole_0 : List UInt8 := [42, 18, 9, 182, 0, 113, 42, 180, 0, 40, 42, 5, 5, 7, 182, 0, 117, 181, 0, 136, 42, 182, 0, 179]
abbrev dktX5_whole_0 : List UInt8 := dkwX5_whole_0 ++ dktX5_whole_1
theorem dksX5_whole_0 : cX5_whole.data.toList.drop 0 = dktX5_whole_0 := by decide +kernel
theorem dksX5_whole_1 : cX5_whole.data.toList.drop 24 = dktX5_whole_1 := dk_seg dksX5_whole_0 24 rfl rfl
theorem dX5_whole_0 : decode cX5_whole 0 = .ok (.aload_n 0, 1) := dk_42 (dk_at dksX5_whole_0 0 rfl rfl)
theorem dX5_whole_1 : decode cX5_whole 1 = .ok (.ldc 9, 2) := dk_18 9 (dk_at dksX5_whole_0 1 rfl rfl)
theorem dX5_whole_3 : decode cX5_whole 3 = .ok (.invokevirtual 113, 3) := dk_182 0 113 (dk_at dksX5_whole_0 3 rfl rfl)
theorem dX5_whole_6 : decode cX5_whole 6 = .ok (.aload_n 0, 1) := dk_42 (dk_at dksX5_whole_0 6 rfl rfl)
theorem dX5_whole_7 : decode cX5_whole 7 = .ok (.getfield 40, 3) := dk_180 0 40 (dk_at dksX5_whole_0 7 rfl rfl)
theorem dX5_whole_10 : decode cX5_whole 10 = .ok (.aload_n 0, 1) := dk_42 (dk_at dksX5_whole_0 10 rfl rfl)
theorem dX5_whole_11 : decode cX5_whole 11 = .ok (.iconst 2, 1) := dk_5 (dk_at dksX5_whole_0 11 rfl rfl)
theorem dX5_whole_12 : decode cX5_whole 12 = .ok (.iconst 2, 1) := dk_5 (dk_at dksX5_whole_0 12 rfl rfl)
theorem dX5_whole_13 : decode cX5_whole 13 = .ok (.iconst 4, 1) := dk_7 (dk_at dksX5_whole_0 13 rfl rfl)
theorem dX5_whole_14 : decode cX5_whole 14 = .ok (.invokevirtual 117, 3) := dk_182 0 117 (dk_at dksX5_whole_0 14 rfl rfl)
theorem dX5_whole_17 : decode cX5_whole 17 = .ok (.putfield 136, 3) := dk_181 0 136 (dk_at dksX5_whole_0 17 rfl rfl)
theorem dX5_whole_20 : decode cX5_whole 20 = .ok (.aload_n 0, 1) := dk_42 (dk_at dksX5_whole_0 20 rfl rfl)
theorem dX5_whole_21 : decode cX5_whole 21 = .ok (.invokevirtual 179, 3) := dk_182 0 179 (dk_at dksX5_whole_0 21 rfl rfl)
theorem dX5_whole_24 : decode cX5_whole 24 = .ok (.aload_n 0, 1) := dk_42 (dk_at dksX5_whole_1 0 rfl rfl)
theorem dX5_whole_25 : decode cX5_whole 25 = .ok (.invokevirtual 55, 3) := dk_182 0 55 (dk_at dksX5_whole_1 1 rfl rfl)
theorem dX5_whole_28 : decode cX5_whole 28 = .ok (.iconst (-1), 1) := dk_2 (dk_at dksX5_whole_1 4 rfl rfl)
theorem dX5_whole_29 : decode cX5_whole 29 = .ok (.if_icmp .eq 14, 3) := dk_159 0 14 (dk_at dksX5_whole_1 5 rfl rfl)
theorem dX5_whole_32 : decode cX5_whole 32 = .ok (.aload_n 0, 1) := dk_42 (dk_at dksX5_whole_1 8 rfl rfl)
theorem dX5_whole_33 : decode cX5_whole 33 = .ok (.invokevirtual 182, 3) := dk_182 0 182 (dk_at dksX5_whole_1 9 rfl rfl)
theorem dX5_whole_36 : decode cX5_whole 36 = .ok (.aload_n 0, 1) := dk_42 (dk_at dksX5_whole_1 12 rfl rfl)
theorem dX5_whole_37 : decode cX5_whole 37 = .ok (.invokevirtual 179, 3) := dk_182 0 179 (dk_at dksX5_whole_1 13 rfl rfl)
theorem dX5_whole_40 : decode cX5_whole 40 = .ok (.goto (-16), 3) := dk_167 255 240 (dk_at dksX5_whole_1 16 rfl rfl)
theorem dX5_whole_43 : decode cX5_whole 43 = .ok (.aload_n 0, 1) := dk_42 (dk_at dksX5_whole_1 19 rfl rfl)
theorem dX5_whole_44 : decode cX5_whole 44 = .ok (.getfield 40, 3) := dk_180 0 40 (dk_at dksX5_whole_1 20 rfl rfl)
theorem dX5_whole_47 : decode cX5_whole 47 = .ok (.areturn, 1) := dk_176 (dk_at dksX5_whole_1 23 rfl rfl)
abbrev cX5_needs : ByteArray := prog_6_method_5_code
def yX5_needs : MethodName := ⟨RX5, "needs", "(Ljava/lang/String;)V"⟩
def dkwX5_needs_0 : List UInt8 := [42, 43, 182, 0, 82, 154, 0, 15, 187, 0, 86, 89, 42, 180, 0, 52, 183, 0, 88, 191, 177]
abbrev dktX5_needs_0 : List UInt8 := dkwX5_needs_0 ++ []
theorem dksX5_needs_0 : cX5_needs.data.toList.drop 0 = dktX5_needs_0 := by decide +kernel
theorem dX5_needs_0 : decode cX5_needs 0 = .ok (.aload_n 0, 1) := dk_42 (dk_at dksX5_needs_0 0 rfl rfl)
theorem dX5_needs_1 : decode cX5_needs 1 = .ok (.aload_n 1, 1) := dk_43 (dk_at dksX5_needs_0 1 rfl rfl)
theorem dX5_needs_2 : decode cX5_needs 2 = .ok (.invokevirtual 82, 3) := dk_182 0 82 (dk_at dksX5_needs_0 2 rfl rfl)
theorem dX5_needs_5 : decode cX5_needs 5 = .ok (.ifCond .ne 15, 3) := dk_154 0 15 (dk_at dksX5_needs_0 5 rfl rfl)
theorem dX5_needs_8 : decode cX5_needs 8 = .ok (.new 86, 3) := dk_187 0 86 (dk_at dksX5_needs_0 8 rfl rfl)
theorem dX5_needs_11 : decode cX5_needs 11 = .ok (.dup, 1) := dk_89 (dk_at dksX5_needs_0 11 rfl rfl)
theorem dX5_needs_12 : decode cX5_needs 12 = .ok (.aload_n 0, 1) := dk_42 (dk_at dksX5_needs_0 12 rfl rfl)
theorem dX5_needs_13 : decode cX5_needs 13 = .ok (.getfield 52, 3) := dk_180 0 52 (dk_at dksX5_needs_0 13 rfl rfl)
theorem dX5_needs_16 : decode cX5_needs 16 = .ok (.invokespecial 88, 3) := dk_183 0 88 (dk_at dksX5_needs_0 16 rfl rfl)
theorem dX5_needs_19 : decode cX5_needs 19 = .ok (.athrow, 1) := dk_191 (dk_at dksX5_needs_0 19 rfl rfl)
theorem dX5_needs_20 : decode cX5_needs 20 = .ok (.return_, 1) := dk_177 (dk_at dksX5_needs_0 20 rfl rfl)
abbrev cX5_takes : ByteArray := prog_6_method_4_code
def yX5_takes : MethodName := ⟨RX5, "takes", "(Ljava/lang/String;)Z"⟩
def dkwX5_takes_1 : List UInt8 := [181, 0, 52, 4, 172]
abbrev dktX5_takes_1 : List UInt8 := dkwX5_takes_1 ++ []
def dkwX5_takes_0 : List UInt8 := [42, 182, 0, 70, 43, 182, 0, 73, 154, 0, 5, 3, 172, 42, 89, 180, 0, 52, 43, 182, 0, 79, 96]
abbrev dktX5_takes_0 : List UInt8 := dkwX5_takes_0 ++ dktX5_takes_1
theorem dksX5_takes_0 : cX5_takes.data.toList.drop 0 = dktX5_takes_0 := by decide +kernel
theorem dksX5_takes_1 : cX5_takes.data.toList.drop 23 = dktX5_takes_1 := dk_seg dksX5_takes_0 23 rfl rfl
theorem dX5_takes_0 : decode cX5_takes 0 = .ok (.aload_n 0, 1) := dk_42 (dk_at dksX5_takes_0 0 rfl rfl)
theorem dX5_takes_1 : decode cX5_takes 1 = .ok (.invokevirtual 70, 3) := dk_182 0 70 (dk_at dksX5_takes_0 1 rfl rfl)
theorem dX5_takes_4 : decode cX5_takes 4 = .ok (.aload_n 1, 1) := dk_43 (dk_at dksX5_takes_0 4 rfl rfl)
theorem dX5_takes_5 : decode cX5_takes 5 = .ok (.invokevirtual 73, 3) := dk_182 0 73 (dk_at dksX5_takes_0 5 rfl rfl)
theorem dX5_takes_8 : decode cX5_takes 8 = .ok (.ifCond .ne 5, 3) := dk_154 0 5 (dk_at dksX5_takes_0 8 rfl rfl)
theorem dX5_takes_11 : decode cX5_takes 11 = .ok (.iconst 0, 1) := dk_3 (dk_at dksX5_takes_0 11 rfl rfl)
theorem dX5_takes_12 : decode cX5_takes 12 = .ok (.ireturn, 1) := dk_172 (dk_at dksX5_takes_0 12 rfl rfl)
theorem dX5_takes_13 : decode cX5_takes 13 = .ok (.aload_n 0, 1) := dk_42 (dk_at dksX5_takes_0 13 rfl rfl)
theorem dX5_takes_14 : decode cX5_takes 14 = .ok (.dup, 1) := dk_89 (dk_at dksX5_takes_0 14 rfl rfl)
theorem dX5_takes_15 : decode cX5_takes 15 = .ok (.getfield 52, 3) := dk_180 0 52 (dk_at dksX5_takes_0 15 rfl rfl)
theorem dX5_takes_18 : decode cX5_takes 18 = .ok (.aload_n 1, 1) := dk_43 (dk_at dksX5_takes_0 18 rfl rfl)
theorem dX5_takes_19 : decode cX5_takes 19 = .ok (.invokevirtual 79, 3) := dk_182 0 79 (dk_at dksX5_takes_0 19 rfl rfl)
theorem dX5_takes_22 : decode cX5_takes 22 = .ok (.iadd, 1) := dk_96 (dk_at dksX5_takes_0 22 rfl rfl)
theorem dX5_takes_23 : decode cX5_takes 23 = .ok (.putfield 52, 3) := dk_181 0 52 (dk_at dksX5_takes_1 0 rfl rfl)
theorem dX5_takes_26 : decode cX5_takes 26 = .ok (.iconst 1, 1) := dk_4 (dk_at dksX5_takes_1 3 rfl rfl)
theorem dX5_takes_27 : decode cX5_takes 27 = .ok (.ireturn, 1) := dk_172 (dk_at dksX5_takes_1 4 rfl rfl)
abbrev cX5_word : ByteArray := prog_6_method_3_code
def yX5_word : MethodName := ⟨RX5, "word", "()Ljava/lang/String;"⟩
def dkwX5_word_3 : List UInt8 := [182, 0, 66, 176]
abbrev dktX5_word_3 : List UInt8 := dkwX5_word_3 ++ []
def dkwX5_word_2 : List UInt8 := [163, 0, 21, 44, 42, 180, 0, 44, 29, 51, 146, 182, 0, 62, 87, 132, 3, 1, 167, 255, 211, 44]
abbrev dktX5_word_2 : List UInt8 := dkwX5_word_2 ++ dktX5_word_3
def dkwX5_word_1 : List UInt8 := [162, 0, 43, 42, 180, 0, 44, 29, 51, 16, 97, 161, 0, 32, 42, 180, 0, 44, 29, 51, 16, 122]
abbrev dktX5_word_1 : List UInt8 := dkwX5_word_1 ++ dktX5_word_2
def dkwX5_word_0 : List UInt8 := [42, 182, 0, 55, 60, 187, 0, 59, 89, 183, 0, 61, 77, 42, 180, 0, 52, 62, 29, 42, 180, 0, 48]
abbrev dktX5_word_0 : List UInt8 := dkwX5_word_0 ++ dktX5_word_1
theorem dksX5_word_0 : cX5_word.data.toList.drop 0 = dktX5_word_0 := by decide +kernel
theorem dksX5_word_1 : cX5_word.data.toList.drop 23 = dktX5_word_1 := dk_seg dksX5_word_0 23 rfl rfl
theorem dksX5_word_2 : cX5_word.data.toList.drop 45 = dktX5_word_2 := dk_seg dksX5_word_1 22 rfl rfl
theorem dksX5_word_3 : cX5_word.data.toList.drop 67 = dktX5_word_3 := dk_seg dksX5_word_2 22 rfl rfl
theorem dX5_word_0 : decode cX5_word 0 = .ok (.aload_n 0, 1) := dk_42 (dk_at dksX5_word_0 0 rfl rfl)
theorem dX5_word_1 : decode cX5_word 1 = .ok (.invokevirtual 55, 3) := dk_182 0 55 (dk_at dksX5_word_0 1 rfl rfl)
theorem dX5_word_4 : decode cX5_word 4 = .ok (.istore_n 1, 1) := dk_60 (dk_at dksX5_word_0 4 rfl rfl)
theorem dX5_word_5 : decode cX5_word 5 = .ok (.new 59, 3) := dk_187 0 59 (dk_at dksX5_word_0 5 rfl rfl)
theorem dX5_word_8 : decode cX5_word 8 = .ok (.dup, 1) := dk_89 (dk_at dksX5_word_0 8 rfl rfl)
theorem dX5_word_9 : decode cX5_word 9 = .ok (.invokespecial 61, 3) := dk_183 0 61 (dk_at dksX5_word_0 9 rfl rfl)
theorem dX5_word_12 : decode cX5_word 12 = .ok (.astore_n 2, 1) := dk_77 (dk_at dksX5_word_0 12 rfl rfl)
theorem dX5_word_13 : decode cX5_word 13 = .ok (.aload_n 0, 1) := dk_42 (dk_at dksX5_word_0 13 rfl rfl)
theorem dX5_word_14 : decode cX5_word 14 = .ok (.getfield 52, 3) := dk_180 0 52 (dk_at dksX5_word_0 14 rfl rfl)
theorem dX5_word_17 : decode cX5_word 17 = .ok (.istore_n 3, 1) := dk_62 (dk_at dksX5_word_0 17 rfl rfl)
theorem dX5_word_18 : decode cX5_word 18 = .ok (.iload_n 3, 1) := dk_29 (dk_at dksX5_word_0 18 rfl rfl)
theorem dX5_word_19 : decode cX5_word 19 = .ok (.aload_n 0, 1) := dk_42 (dk_at dksX5_word_0 19 rfl rfl)
theorem dX5_word_20 : decode cX5_word 20 = .ok (.getfield 48, 3) := dk_180 0 48 (dk_at dksX5_word_0 20 rfl rfl)
theorem dX5_word_23 : decode cX5_word 23 = .ok (.if_icmp .ge 43, 3) := dk_162 0 43 (dk_at dksX5_word_1 0 rfl rfl)
theorem dX5_word_26 : decode cX5_word 26 = .ok (.aload_n 0, 1) := dk_42 (dk_at dksX5_word_1 3 rfl rfl)
theorem dX5_word_27 : decode cX5_word 27 = .ok (.getfield 44, 3) := dk_180 0 44 (dk_at dksX5_word_1 4 rfl rfl)
theorem dX5_word_30 : decode cX5_word 30 = .ok (.iload_n 3, 1) := dk_29 (dk_at dksX5_word_1 7 rfl rfl)
theorem dX5_word_31 : decode cX5_word 31 = .ok (.baload, 1) := dk_51 (dk_at dksX5_word_1 8 rfl rfl)
theorem dX5_word_32 : decode cX5_word 32 = .ok (.bipush 97, 2) := dk_16 97 (dk_at dksX5_word_1 9 rfl rfl)
theorem dX5_word_34 : decode cX5_word 34 = .ok (.if_icmp .lt 32, 3) := dk_161 0 32 (dk_at dksX5_word_1 11 rfl rfl)
theorem dX5_word_37 : decode cX5_word 37 = .ok (.aload_n 0, 1) := dk_42 (dk_at dksX5_word_1 14 rfl rfl)
theorem dX5_word_38 : decode cX5_word 38 = .ok (.getfield 44, 3) := dk_180 0 44 (dk_at dksX5_word_1 15 rfl rfl)
theorem dX5_word_41 : decode cX5_word 41 = .ok (.iload_n 3, 1) := dk_29 (dk_at dksX5_word_1 18 rfl rfl)
theorem dX5_word_42 : decode cX5_word 42 = .ok (.baload, 1) := dk_51 (dk_at dksX5_word_1 19 rfl rfl)
theorem dX5_word_43 : decode cX5_word 43 = .ok (.bipush 122, 2) := dk_16 122 (dk_at dksX5_word_1 20 rfl rfl)
theorem dX5_word_45 : decode cX5_word 45 = .ok (.if_icmp .gt 21, 3) := dk_163 0 21 (dk_at dksX5_word_2 0 rfl rfl)
theorem dX5_word_48 : decode cX5_word 48 = .ok (.aload_n 2, 1) := dk_44 (dk_at dksX5_word_2 3 rfl rfl)
theorem dX5_word_49 : decode cX5_word 49 = .ok (.aload_n 0, 1) := dk_42 (dk_at dksX5_word_2 4 rfl rfl)
theorem dX5_word_50 : decode cX5_word 50 = .ok (.getfield 44, 3) := dk_180 0 44 (dk_at dksX5_word_2 5 rfl rfl)
theorem dX5_word_53 : decode cX5_word 53 = .ok (.iload_n 3, 1) := dk_29 (dk_at dksX5_word_2 8 rfl rfl)
theorem dX5_word_54 : decode cX5_word 54 = .ok (.baload, 1) := dk_51 (dk_at dksX5_word_2 9 rfl rfl)
theorem dX5_word_55 : decode cX5_word 55 = .ok (.i2c, 1) := dk_146 (dk_at dksX5_word_2 10 rfl rfl)
theorem dX5_word_56 : decode cX5_word 56 = .ok (.invokevirtual 62, 3) := dk_182 0 62 (dk_at dksX5_word_2 11 rfl rfl)
theorem dX5_word_59 : decode cX5_word 59 = .ok (.pop, 1) := dk_87 (dk_at dksX5_word_2 14 rfl rfl)
theorem dX5_word_60 : decode cX5_word 60 = .ok (.iinc 3 1, 3) := dk_132 3 1 (dk_at dksX5_word_2 15 rfl rfl)
theorem dX5_word_63 : decode cX5_word 63 = .ok (.goto (-45), 3) := dk_167 255 211 (dk_at dksX5_word_2 18 rfl rfl)
theorem dX5_word_66 : decode cX5_word 66 = .ok (.aload_n 2, 1) := dk_44 (dk_at dksX5_word_2 21 rfl rfl)
theorem dX5_word_67 : decode cX5_word 67 = .ok (.invokevirtual 66, 3) := dk_182 0 66 (dk_at dksX5_word_3 0 rfl rfl)
theorem dX5_word_70 : decode cX5_word 70 = .ok (.areturn, 1) := dk_176 (dk_at dksX5_word_3 3 rfl rfl)
abbrev cX5_here : ByteArray := prog_6_method_2_code
def yX5_here : MethodName := ⟨RX5, "here", "()I"⟩
def dkwX5_here_4 : List UInt8 := [167, 0, 4, 2, 172]
abbrev dktX5_here_4 : List UInt8 := dkwX5_here_4 ++ []
def dkwX5_here_3 : List UInt8 := [180, 0, 52, 42, 180, 0, 48, 162, 0, 19, 42, 180, 0, 44, 42, 180, 0, 52, 51, 17, 0, 255, 126]
abbrev dktX5_here_3 : List UInt8 := dkwX5_here_3 ++ dktX5_here_4
def dkwX5_here_2 : List UInt8 := [180, 0, 52, 51, 16, 10, 160, 0, 16, 42, 89, 180, 0, 52, 4, 96, 181, 0, 52, 167, 255, 193, 42]
abbrev dktX5_here_2 : List UInt8 := dkwX5_here_2 ++ dktX5_here_3
def dkwX5_here_1 : List UInt8 := [159, 0, 31, 42, 180, 0, 44, 42, 180, 0, 52, 51, 16, 9, 159, 0, 17, 42, 180, 0, 44, 42]
abbrev dktX5_here_1 : List UInt8 := dkwX5_here_1 ++ dktX5_here_2
def dkwX5_here_0 : List UInt8 := [42, 180, 0, 52, 42, 180, 0, 48, 162, 0, 58, 42, 180, 0, 44, 42, 180, 0, 52, 51, 16, 32]
abbrev dktX5_here_0 : List UInt8 := dkwX5_here_0 ++ dktX5_here_1
theorem dksX5_here_0 : cX5_here.data.toList.drop 0 = dktX5_here_0 := by decide +kernel
theorem dksX5_here_1 : cX5_here.data.toList.drop 22 = dktX5_here_1 := dk_seg dksX5_here_0 22 rfl rfl
theorem dksX5_here_2 : cX5_here.data.toList.drop 44 = dktX5_here_2 := dk_seg dksX5_here_1 22 rfl rfl
theorem dksX5_here_3 : cX5_here.data.toList.drop 67 = dktX5_here_3 := dk_seg dksX5_here_2 23 rfl rfl
theorem dksX5_here_4 : cX5_here.data.toList.drop 90 = dktX5_here_4 := dk_seg dksX5_here_3 23 rfl rfl
theorem dX5_here_0 : decode cX5_here 0 = .ok (.aload_n 0, 1) := dk_42 (dk_at dksX5_here_0 0 rfl rfl)
theorem dX5_here_1 : decode cX5_here 1 = .ok (.getfield 52, 3) := dk_180 0 52 (dk_at dksX5_here_0 1 rfl rfl)
theorem dX5_here_4 : decode cX5_here 4 = .ok (.aload_n 0, 1) := dk_42 (dk_at dksX5_here_0 4 rfl rfl)
theorem dX5_here_5 : decode cX5_here 5 = .ok (.getfield 48, 3) := dk_180 0 48 (dk_at dksX5_here_0 5 rfl rfl)
theorem dX5_here_8 : decode cX5_here 8 = .ok (.if_icmp .ge 58, 3) := dk_162 0 58 (dk_at dksX5_here_0 8 rfl rfl)
theorem dX5_here_11 : decode cX5_here 11 = .ok (.aload_n 0, 1) := dk_42 (dk_at dksX5_here_0 11 rfl rfl)
theorem dX5_here_12 : decode cX5_here 12 = .ok (.getfield 44, 3) := dk_180 0 44 (dk_at dksX5_here_0 12 rfl rfl)
theorem dX5_here_15 : decode cX5_here 15 = .ok (.aload_n 0, 1) := dk_42 (dk_at dksX5_here_0 15 rfl rfl)
theorem dX5_here_16 : decode cX5_here 16 = .ok (.getfield 52, 3) := dk_180 0 52 (dk_at dksX5_here_0 16 rfl rfl)
theorem dX5_here_19 : decode cX5_here 19 = .ok (.baload, 1) := dk_51 (dk_at dksX5_here_0 19 rfl rfl)
theorem dX5_here_20 : decode cX5_here 20 = .ok (.bipush 32, 2) := dk_16 32 (dk_at dksX5_here_0 20 rfl rfl)
theorem dX5_here_22 : decode cX5_here 22 = .ok (.if_icmp .eq 31, 3) := dk_159 0 31 (dk_at dksX5_here_1 0 rfl rfl)
theorem dX5_here_25 : decode cX5_here 25 = .ok (.aload_n 0, 1) := dk_42 (dk_at dksX5_here_1 3 rfl rfl)
theorem dX5_here_26 : decode cX5_here 26 = .ok (.getfield 44, 3) := dk_180 0 44 (dk_at dksX5_here_1 4 rfl rfl)
theorem dX5_here_29 : decode cX5_here 29 = .ok (.aload_n 0, 1) := dk_42 (dk_at dksX5_here_1 7 rfl rfl)
theorem dX5_here_30 : decode cX5_here 30 = .ok (.getfield 52, 3) := dk_180 0 52 (dk_at dksX5_here_1 8 rfl rfl)
theorem dX5_here_33 : decode cX5_here 33 = .ok (.baload, 1) := dk_51 (dk_at dksX5_here_1 11 rfl rfl)
theorem dX5_here_34 : decode cX5_here 34 = .ok (.bipush 9, 2) := dk_16 9 (dk_at dksX5_here_1 12 rfl rfl)
theorem dX5_here_36 : decode cX5_here 36 = .ok (.if_icmp .eq 17, 3) := dk_159 0 17 (dk_at dksX5_here_1 14 rfl rfl)
theorem dX5_here_39 : decode cX5_here 39 = .ok (.aload_n 0, 1) := dk_42 (dk_at dksX5_here_1 17 rfl rfl)
theorem dX5_here_40 : decode cX5_here 40 = .ok (.getfield 44, 3) := dk_180 0 44 (dk_at dksX5_here_1 18 rfl rfl)
theorem dX5_here_43 : decode cX5_here 43 = .ok (.aload_n 0, 1) := dk_42 (dk_at dksX5_here_1 21 rfl rfl)
theorem dX5_here_44 : decode cX5_here 44 = .ok (.getfield 52, 3) := dk_180 0 52 (dk_at dksX5_here_2 0 rfl rfl)
theorem dX5_here_47 : decode cX5_here 47 = .ok (.baload, 1) := dk_51 (dk_at dksX5_here_2 3 rfl rfl)
theorem dX5_here_48 : decode cX5_here 48 = .ok (.bipush 10, 2) := dk_16 10 (dk_at dksX5_here_2 4 rfl rfl)
theorem dX5_here_50 : decode cX5_here 50 = .ok (.if_icmp .ne 16, 3) := dk_160 0 16 (dk_at dksX5_here_2 6 rfl rfl)
theorem dX5_here_53 : decode cX5_here 53 = .ok (.aload_n 0, 1) := dk_42 (dk_at dksX5_here_2 9 rfl rfl)
theorem dX5_here_54 : decode cX5_here 54 = .ok (.dup, 1) := dk_89 (dk_at dksX5_here_2 10 rfl rfl)
theorem dX5_here_55 : decode cX5_here 55 = .ok (.getfield 52, 3) := dk_180 0 52 (dk_at dksX5_here_2 11 rfl rfl)
theorem dX5_here_58 : decode cX5_here 58 = .ok (.iconst 1, 1) := dk_4 (dk_at dksX5_here_2 14 rfl rfl)
theorem dX5_here_59 : decode cX5_here 59 = .ok (.iadd, 1) := dk_96 (dk_at dksX5_here_2 15 rfl rfl)
theorem dX5_here_60 : decode cX5_here 60 = .ok (.putfield 52, 3) := dk_181 0 52 (dk_at dksX5_here_2 16 rfl rfl)
theorem dX5_here_63 : decode cX5_here 63 = .ok (.goto (-63), 3) := dk_167 255 193 (dk_at dksX5_here_2 19 rfl rfl)
theorem dX5_here_66 : decode cX5_here 66 = .ok (.aload_n 0, 1) := dk_42 (dk_at dksX5_here_2 22 rfl rfl)
theorem dX5_here_67 : decode cX5_here 67 = .ok (.getfield 52, 3) := dk_180 0 52 (dk_at dksX5_here_3 0 rfl rfl)
theorem dX5_here_70 : decode cX5_here 70 = .ok (.aload_n 0, 1) := dk_42 (dk_at dksX5_here_3 3 rfl rfl)
theorem dX5_here_71 : decode cX5_here 71 = .ok (.getfield 48, 3) := dk_180 0 48 (dk_at dksX5_here_3 4 rfl rfl)
theorem dX5_here_74 : decode cX5_here 74 = .ok (.if_icmp .ge 19, 3) := dk_162 0 19 (dk_at dksX5_here_3 7 rfl rfl)
theorem dX5_here_77 : decode cX5_here 77 = .ok (.aload_n 0, 1) := dk_42 (dk_at dksX5_here_3 10 rfl rfl)
theorem dX5_here_78 : decode cX5_here 78 = .ok (.getfield 44, 3) := dk_180 0 44 (dk_at dksX5_here_3 11 rfl rfl)
theorem dX5_here_81 : decode cX5_here 81 = .ok (.aload_n 0, 1) := dk_42 (dk_at dksX5_here_3 14 rfl rfl)
theorem dX5_here_82 : decode cX5_here 82 = .ok (.getfield 52, 3) := dk_180 0 52 (dk_at dksX5_here_3 15 rfl rfl)
theorem dX5_here_85 : decode cX5_here 85 = .ok (.baload, 1) := dk_51 (dk_at dksX5_here_3 18 rfl rfl)
theorem dX5_here_86 : decode cX5_here 86 = .ok (.sipush 255, 3) := dk_17 0 255 (dk_at dksX5_here_3 19 rfl rfl)
theorem dX5_here_89 : decode cX5_here 89 = .ok (.iand, 1) := dk_126 (dk_at dksX5_here_3 22 rfl rfl)
theorem dX5_here_90 : decode cX5_here 90 = .ok (.goto 4, 3) := dk_167 0 4 (dk_at dksX5_here_4 0 rfl rfl)
theorem dX5_here_93 : decode cX5_here 93 = .ok (.iconst (-1), 1) := dk_2 (dk_at dksX5_here_4 3 rfl rfl)
theorem dX5_here_94 : decode cX5_here 94 = .ok (.ireturn, 1) := dk_172 (dk_at dksX5_here_4 4 rfl rfl)
abbrev cX5_number : ByteArray := prog_6_method_7_code
def yX5_number : MethodName := ⟨RX5, "number", "(III)I"⟩
def dkwX5_number_6 : List UInt8 := [21, 5, 96, 181, 0, 52, 21, 6, 172]
abbrev dktX5_number_6 : List UInt8 := dkwX5_number_6 ++ []
def dkwX5_number_5 : List UInt8 := [184, 0, 97, 154, 0, 15, 187, 0, 86, 89, 42, 180, 0, 52, 183, 0, 88, 191, 42, 89, 180, 0, 52]
abbrev dktX5_number_5 : List UInt8 := dkwX5_number_5 ++ dktX5_number_6
def dkwX5_number_4 : List UInt8 := [167, 255, 176, 21, 5, 133, 10, 27, 133, 184, 0, 97, 153, 0, 16, 21, 6, 133, 28, 133, 29, 133]
abbrev dktX5_number_4 : List UInt8 := dkwX5_number_4 ++ dktX5_number_5
def dkwX5_number_3 : List UInt8 := [180, 0, 44, 42, 180, 0, 52, 21, 5, 96, 51, 96, 16, 48, 100, 184, 0, 91, 54, 6, 132, 5, 1]
abbrev dktX5_number_3 : List UInt8 := dkwX5_number_3 ++ dktX5_number_4
def dkwX5_number_2 : List UInt8 := [42, 180, 0, 52, 21, 5, 96, 51, 16, 57, 163, 0, 38, 17, 3, 232, 16, 10, 21, 6, 104, 42]
abbrev dktX5_number_2 : List UInt8 := dkwX5_number_2 ++ dktX5_number_3
def dkwX5_number_1 : List UInt8 := [162, 0, 72, 42, 180, 0, 44, 42, 180, 0, 52, 21, 5, 96, 51, 16, 48, 161, 0, 55, 42, 180, 0, 44]
abbrev dktX5_number_1 : List UInt8 := dkwX5_number_1 ++ dktX5_number_2
def dkwX5_number_0 : List UInt8 := [42, 182, 0, 55, 54, 4, 3, 54, 5, 3, 54, 6, 42, 180, 0, 52, 21, 5, 96, 42, 180, 0, 48]
abbrev dktX5_number_0 : List UInt8 := dkwX5_number_0 ++ dktX5_number_1
theorem dksX5_number_0 : cX5_number.data.toList.drop 0 = dktX5_number_0 := by decide +kernel
theorem dksX5_number_1 : cX5_number.data.toList.drop 23 = dktX5_number_1 := dk_seg dksX5_number_0 23 rfl rfl
theorem dksX5_number_2 : cX5_number.data.toList.drop 47 = dktX5_number_2 := dk_seg dksX5_number_1 24 rfl rfl
theorem dksX5_number_3 : cX5_number.data.toList.drop 69 = dktX5_number_3 := dk_seg dksX5_number_2 22 rfl rfl
theorem dksX5_number_4 : cX5_number.data.toList.drop 92 = dktX5_number_4 := dk_seg dksX5_number_3 23 rfl rfl
theorem dksX5_number_5 : cX5_number.data.toList.drop 114 = dktX5_number_5 := dk_seg dksX5_number_4 22 rfl rfl
theorem dksX5_number_6 : cX5_number.data.toList.drop 137 = dktX5_number_6 := dk_seg dksX5_number_5 23 rfl rfl
theorem dX5_number_0 : decode cX5_number 0 = .ok (.aload_n 0, 1) := dk_42 (dk_at dksX5_number_0 0 rfl rfl)
theorem dX5_number_1 : decode cX5_number 1 = .ok (.invokevirtual 55, 3) := dk_182 0 55 (dk_at dksX5_number_0 1 rfl rfl)
theorem dX5_number_4 : decode cX5_number 4 = .ok (.istore 4, 2) := dk_54 4 (dk_at dksX5_number_0 4 rfl rfl)
theorem dX5_number_6 : decode cX5_number 6 = .ok (.iconst 0, 1) := dk_3 (dk_at dksX5_number_0 6 rfl rfl)
theorem dX5_number_7 : decode cX5_number 7 = .ok (.istore 5, 2) := dk_54 5 (dk_at dksX5_number_0 7 rfl rfl)
theorem dX5_number_9 : decode cX5_number 9 = .ok (.iconst 0, 1) := dk_3 (dk_at dksX5_number_0 9 rfl rfl)
theorem dX5_number_10 : decode cX5_number 10 = .ok (.istore 6, 2) := dk_54 6 (dk_at dksX5_number_0 10 rfl rfl)
theorem dX5_number_12 : decode cX5_number 12 = .ok (.aload_n 0, 1) := dk_42 (dk_at dksX5_number_0 12 rfl rfl)
theorem dX5_number_13 : decode cX5_number 13 = .ok (.getfield 52, 3) := dk_180 0 52 (dk_at dksX5_number_0 13 rfl rfl)
theorem dX5_number_16 : decode cX5_number 16 = .ok (.iload 5, 2) := dk_21 5 (dk_at dksX5_number_0 16 rfl rfl)
theorem dX5_number_18 : decode cX5_number 18 = .ok (.iadd, 1) := dk_96 (dk_at dksX5_number_0 18 rfl rfl)
theorem dX5_number_19 : decode cX5_number 19 = .ok (.aload_n 0, 1) := dk_42 (dk_at dksX5_number_0 19 rfl rfl)
theorem dX5_number_20 : decode cX5_number 20 = .ok (.getfield 48, 3) := dk_180 0 48 (dk_at dksX5_number_0 20 rfl rfl)
theorem dX5_number_23 : decode cX5_number 23 = .ok (.if_icmp .ge 72, 3) := dk_162 0 72 (dk_at dksX5_number_1 0 rfl rfl)
theorem dX5_number_26 : decode cX5_number 26 = .ok (.aload_n 0, 1) := dk_42 (dk_at dksX5_number_1 3 rfl rfl)
theorem dX5_number_27 : decode cX5_number 27 = .ok (.getfield 44, 3) := dk_180 0 44 (dk_at dksX5_number_1 4 rfl rfl)
theorem dX5_number_30 : decode cX5_number 30 = .ok (.aload_n 0, 1) := dk_42 (dk_at dksX5_number_1 7 rfl rfl)
theorem dX5_number_31 : decode cX5_number 31 = .ok (.getfield 52, 3) := dk_180 0 52 (dk_at dksX5_number_1 8 rfl rfl)
theorem dX5_number_34 : decode cX5_number 34 = .ok (.iload 5, 2) := dk_21 5 (dk_at dksX5_number_1 11 rfl rfl)
theorem dX5_number_36 : decode cX5_number 36 = .ok (.iadd, 1) := dk_96 (dk_at dksX5_number_1 13 rfl rfl)
theorem dX5_number_37 : decode cX5_number 37 = .ok (.baload, 1) := dk_51 (dk_at dksX5_number_1 14 rfl rfl)
theorem dX5_number_38 : decode cX5_number 38 = .ok (.bipush 48, 2) := dk_16 48 (dk_at dksX5_number_1 15 rfl rfl)
theorem dX5_number_40 : decode cX5_number 40 = .ok (.if_icmp .lt 55, 3) := dk_161 0 55 (dk_at dksX5_number_1 17 rfl rfl)
theorem dX5_number_43 : decode cX5_number 43 = .ok (.aload_n 0, 1) := dk_42 (dk_at dksX5_number_1 20 rfl rfl)
theorem dX5_number_44 : decode cX5_number 44 = .ok (.getfield 44, 3) := dk_180 0 44 (dk_at dksX5_number_1 21 rfl rfl)
theorem dX5_number_47 : decode cX5_number 47 = .ok (.aload_n 0, 1) := dk_42 (dk_at dksX5_number_2 0 rfl rfl)
theorem dX5_number_48 : decode cX5_number 48 = .ok (.getfield 52, 3) := dk_180 0 52 (dk_at dksX5_number_2 1 rfl rfl)
theorem dX5_number_51 : decode cX5_number 51 = .ok (.iload 5, 2) := dk_21 5 (dk_at dksX5_number_2 4 rfl rfl)
theorem dX5_number_53 : decode cX5_number 53 = .ok (.iadd, 1) := dk_96 (dk_at dksX5_number_2 6 rfl rfl)
theorem dX5_number_54 : decode cX5_number 54 = .ok (.baload, 1) := dk_51 (dk_at dksX5_number_2 7 rfl rfl)
theorem dX5_number_55 : decode cX5_number 55 = .ok (.bipush 57, 2) := dk_16 57 (dk_at dksX5_number_2 8 rfl rfl)
theorem dX5_number_57 : decode cX5_number 57 = .ok (.if_icmp .gt 38, 3) := dk_163 0 38 (dk_at dksX5_number_2 10 rfl rfl)
theorem dX5_number_60 : decode cX5_number 60 = .ok (.sipush 1000, 3) := dk_17 3 232 (dk_at dksX5_number_2 13 rfl rfl)
theorem dX5_number_63 : decode cX5_number 63 = .ok (.bipush 10, 2) := dk_16 10 (dk_at dksX5_number_2 16 rfl rfl)
theorem dX5_number_65 : decode cX5_number 65 = .ok (.iload 6, 2) := dk_21 6 (dk_at dksX5_number_2 18 rfl rfl)
theorem dX5_number_67 : decode cX5_number 67 = .ok (.imul, 1) := dk_104 (dk_at dksX5_number_2 20 rfl rfl)
theorem dX5_number_68 : decode cX5_number 68 = .ok (.aload_n 0, 1) := dk_42 (dk_at dksX5_number_2 21 rfl rfl)
theorem dX5_number_69 : decode cX5_number 69 = .ok (.getfield 44, 3) := dk_180 0 44 (dk_at dksX5_number_3 0 rfl rfl)
theorem dX5_number_72 : decode cX5_number 72 = .ok (.aload_n 0, 1) := dk_42 (dk_at dksX5_number_3 3 rfl rfl)
theorem dX5_number_73 : decode cX5_number 73 = .ok (.getfield 52, 3) := dk_180 0 52 (dk_at dksX5_number_3 4 rfl rfl)
theorem dX5_number_76 : decode cX5_number 76 = .ok (.iload 5, 2) := dk_21 5 (dk_at dksX5_number_3 7 rfl rfl)
theorem dX5_number_78 : decode cX5_number 78 = .ok (.iadd, 1) := dk_96 (dk_at dksX5_number_3 9 rfl rfl)
theorem dX5_number_79 : decode cX5_number 79 = .ok (.baload, 1) := dk_51 (dk_at dksX5_number_3 10 rfl rfl)
theorem dX5_number_80 : decode cX5_number 80 = .ok (.iadd, 1) := dk_96 (dk_at dksX5_number_3 11 rfl rfl)
theorem dX5_number_81 : decode cX5_number 81 = .ok (.bipush 48, 2) := dk_16 48 (dk_at dksX5_number_3 12 rfl rfl)
theorem dX5_number_83 : decode cX5_number 83 = .ok (.isub, 1) := dk_100 (dk_at dksX5_number_3 14 rfl rfl)
theorem dX5_number_84 : decode cX5_number 84 = .ok (.invokestatic 91, 3) := dk_184 0 91 (dk_at dksX5_number_3 15 rfl rfl)
theorem dX5_number_87 : decode cX5_number 87 = .ok (.istore 6, 2) := dk_54 6 (dk_at dksX5_number_3 18 rfl rfl)
theorem dX5_number_89 : decode cX5_number 89 = .ok (.iinc 5 1, 3) := dk_132 5 1 (dk_at dksX5_number_3 20 rfl rfl)
theorem dX5_number_92 : decode cX5_number 92 = .ok (.goto (-80), 3) := dk_167 255 176 (dk_at dksX5_number_4 0 rfl rfl)
theorem dX5_number_95 : decode cX5_number 95 = .ok (.iload 5, 2) := dk_21 5 (dk_at dksX5_number_4 3 rfl rfl)
theorem dX5_number_97 : decode cX5_number 97 = .ok (.i2l, 1) := dk_133 (dk_at dksX5_number_4 5 rfl rfl)
theorem dX5_number_98 : decode cX5_number 98 = .ok (.lconst 1, 1) := dk_10 (dk_at dksX5_number_4 6 rfl rfl)
theorem dX5_number_99 : decode cX5_number 99 = .ok (.iload_n 1, 1) := dk_27 (dk_at dksX5_number_4 7 rfl rfl)
theorem dX5_number_100 : decode cX5_number 100 = .ok (.i2l, 1) := dk_133 (dk_at dksX5_number_4 8 rfl rfl)
theorem dX5_number_101 : decode cX5_number 101 = .ok (.invokestatic 97, 3) := dk_184 0 97 (dk_at dksX5_number_4 9 rfl rfl)
theorem dX5_number_104 : decode cX5_number 104 = .ok (.ifCond .eq 16, 3) := dk_153 0 16 (dk_at dksX5_number_4 12 rfl rfl)
theorem dX5_number_107 : decode cX5_number 107 = .ok (.iload 6, 2) := dk_21 6 (dk_at dksX5_number_4 15 rfl rfl)
theorem dX5_number_109 : decode cX5_number 109 = .ok (.i2l, 1) := dk_133 (dk_at dksX5_number_4 17 rfl rfl)
theorem dX5_number_110 : decode cX5_number 110 = .ok (.iload_n 2, 1) := dk_28 (dk_at dksX5_number_4 18 rfl rfl)
theorem dX5_number_111 : decode cX5_number 111 = .ok (.i2l, 1) := dk_133 (dk_at dksX5_number_4 19 rfl rfl)
theorem dX5_number_112 : decode cX5_number 112 = .ok (.iload_n 3, 1) := dk_29 (dk_at dksX5_number_4 20 rfl rfl)
theorem dX5_number_113 : decode cX5_number 113 = .ok (.i2l, 1) := dk_133 (dk_at dksX5_number_4 21 rfl rfl)
theorem dX5_number_114 : decode cX5_number 114 = .ok (.invokestatic 97, 3) := dk_184 0 97 (dk_at dksX5_number_5 0 rfl rfl)
theorem dX5_number_117 : decode cX5_number 117 = .ok (.ifCond .ne 15, 3) := dk_154 0 15 (dk_at dksX5_number_5 3 rfl rfl)
theorem dX5_number_120 : decode cX5_number 120 = .ok (.new 86, 3) := dk_187 0 86 (dk_at dksX5_number_5 6 rfl rfl)
theorem dX5_number_123 : decode cX5_number 123 = .ok (.dup, 1) := dk_89 (dk_at dksX5_number_5 9 rfl rfl)
theorem dX5_number_124 : decode cX5_number 124 = .ok (.aload_n 0, 1) := dk_42 (dk_at dksX5_number_5 10 rfl rfl)
theorem dX5_number_125 : decode cX5_number 125 = .ok (.getfield 52, 3) := dk_180 0 52 (dk_at dksX5_number_5 11 rfl rfl)
theorem dX5_number_128 : decode cX5_number 128 = .ok (.invokespecial 88, 3) := dk_183 0 88 (dk_at dksX5_number_5 14 rfl rfl)
theorem dX5_number_131 : decode cX5_number 131 = .ok (.athrow, 1) := dk_191 (dk_at dksX5_number_5 17 rfl rfl)
theorem dX5_number_132 : decode cX5_number 132 = .ok (.aload_n 0, 1) := dk_42 (dk_at dksX5_number_5 18 rfl rfl)
theorem dX5_number_133 : decode cX5_number 133 = .ok (.dup, 1) := dk_89 (dk_at dksX5_number_5 19 rfl rfl)
theorem dX5_number_134 : decode cX5_number 134 = .ok (.getfield 52, 3) := dk_180 0 52 (dk_at dksX5_number_5 20 rfl rfl)
theorem dX5_number_137 : decode cX5_number 137 = .ok (.iload 5, 2) := dk_21 5 (dk_at dksX5_number_6 0 rfl rfl)
theorem dX5_number_139 : decode cX5_number 139 = .ok (.iadd, 1) := dk_96 (dk_at dksX5_number_6 2 rfl rfl)
theorem dX5_number_140 : decode cX5_number 140 = .ok (.putfield 52, 3) := dk_181 0 52 (dk_at dksX5_number_6 3 rfl rfl)
theorem dX5_number_143 : decode cX5_number 143 = .ok (.iload 6, 2) := dk_21 6 (dk_at dksX5_number_6 6 rfl rfl)
theorem dX5_number_145 : decode cX5_number 145 = .ok (.ireturn, 1) := dk_172 (dk_at dksX5_number_6 8 rfl rfl)
abbrev cX5_ends : ByteArray := prog_6_method_6_code
def yX5_ends : MethodName := ⟨RX5, "ends", "()V"⟩
def dkwX5_ends_1 : List UInt8 := [180, 0, 52, 4, 96, 181, 0, 52, 177]
abbrev dktX5_ends_1 : List UInt8 := dkwX5_ends_1 ++ []
def dkwX5_ends_0 : List UInt8 := [42, 182, 0, 55, 16, 59, 159, 0, 15, 187, 0, 86, 89, 42, 180, 0, 52, 183, 0, 88, 191, 42, 89]
abbrev dktX5_ends_0 : List UInt8 := dkwX5_ends_0 ++ dktX5_ends_1
theorem dksX5_ends_0 : cX5_ends.data.toList.drop 0 = dktX5_ends_0 := by decide +kernel
theorem dksX5_ends_1 : cX5_ends.data.toList.drop 23 = dktX5_ends_1 := dk_seg dksX5_ends_0 23 rfl rfl
theorem dX5_ends_0 : decode cX5_ends 0 = .ok (.aload_n 0, 1) := dk_42 (dk_at dksX5_ends_0 0 rfl rfl)
theorem dX5_ends_1 : decode cX5_ends 1 = .ok (.invokevirtual 55, 3) := dk_182 0 55 (dk_at dksX5_ends_0 1 rfl rfl)
theorem dX5_ends_4 : decode cX5_ends 4 = .ok (.bipush 59, 2) := dk_16 59 (dk_at dksX5_ends_0 4 rfl rfl)
theorem dX5_ends_6 : decode cX5_ends 6 = .ok (.if_icmp .eq 15, 3) := dk_159 0 15 (dk_at dksX5_ends_0 6 rfl rfl)
theorem dX5_ends_9 : decode cX5_ends 9 = .ok (.new 86, 3) := dk_187 0 86 (dk_at dksX5_ends_0 9 rfl rfl)
theorem dX5_ends_12 : decode cX5_ends 12 = .ok (.dup, 1) := dk_89 (dk_at dksX5_ends_0 12 rfl rfl)
theorem dX5_ends_13 : decode cX5_ends 13 = .ok (.aload_n 0, 1) := dk_42 (dk_at dksX5_ends_0 13 rfl rfl)
theorem dX5_ends_14 : decode cX5_ends 14 = .ok (.getfield 52, 3) := dk_180 0 52 (dk_at dksX5_ends_0 14 rfl rfl)
theorem dX5_ends_17 : decode cX5_ends 17 = .ok (.invokespecial 88, 3) := dk_183 0 88 (dk_at dksX5_ends_0 17 rfl rfl)
theorem dX5_ends_20 : decode cX5_ends 20 = .ok (.athrow, 1) := dk_191 (dk_at dksX5_ends_0 20 rfl rfl)
theorem dX5_ends_21 : decode cX5_ends 21 = .ok (.aload_n 0, 1) := dk_42 (dk_at dksX5_ends_0 21 rfl rfl)
theorem dX5_ends_22 : decode cX5_ends 22 = .ok (.dup, 1) := dk_89 (dk_at dksX5_ends_0 22 rfl rfl)
theorem dX5_ends_23 : decode cX5_ends 23 = .ok (.getfield 52, 3) := dk_180 0 52 (dk_at dksX5_ends_1 0 rfl rfl)
theorem dX5_ends_26 : decode cX5_ends 26 = .ok (.iconst 1, 1) := dk_4 (dk_at dksX5_ends_1 3 rfl rfl)
theorem dX5_ends_27 : decode cX5_ends 27 = .ok (.iadd, 1) := dk_96 (dk_at dksX5_ends_1 4 rfl rfl)
theorem dX5_ends_28 : decode cX5_ends 28 = .ok (.putfield 52, 3) := dk_181 0 52 (dk_at dksX5_ends_1 5 rfl rfl)
theorem dX5_ends_31 : decode cX5_ends 31 = .ok (.return_, 1) := dk_177 (dk_at dksX5_ends_1 8 rfl rfl)
abbrev cX5_line : ByteArray := prog_6_method_12_code
def yX5_line : MethodName := ⟨RX5, "line", "()V"⟩
def dkwX5_line_14 : List UInt8 := [89, 180, 0, 52, 25, 5, 182, 0, 79, 96, 181, 0, 52, 25, 6, 4, 181, 0, 175, 177]
abbrev dktX5_line_14 : List UInt8 := dkwX5_line_14 ++ []
def dkwX5_line_13 : List UInt8 := [198, 0, 11, 25, 6, 180, 0, 175, 153, 0, 15, 187, 0, 86, 89, 42, 180, 0, 52, 183, 0, 88, 191, 42]
abbrev dktX5_line_13 : List UInt8 := dkwX5_line_13 ++ dktX5_line_14
def dkwX5_line_12 : List UInt8 := [87, 167, 0, 65, 42, 182, 0, 70, 58, 5, 42, 180, 0, 40, 25, 5, 182, 0, 171, 58, 6, 25, 6]
abbrev dktX5_line_12 : List UInt8 := dkwX5_line_12 ++ dktX5_line_13
def dkwX5_line_11 : List UInt8 := [180, 0, 156, 187, 0, 166, 89, 25, 5, 42, 16, 120, 6, 16, 6, 182, 0, 138, 183, 0, 168, 182, 0, 149]
abbrev dktX5_line_11 : List UInt8 := dkwX5_line_11 ++ dktX5_line_12
def dkwX5_line_10 : List UInt8 := [42, 182, 0, 162, 167, 0, 110, 42, 182, 0, 164, 167, 0, 103, 42, 182, 0, 131, 58, 5, 42, 180, 0, 40]
abbrev dktX5_line_10 : List UInt8 := dkwX5_line_10 ++ dktX5_line_11
def dkwX5_line_9 : List UInt8 := [170, 0, 0, 0, 0, 0, 0, 80, 0, 0, 0, 0, 0, 0, 0, 2, 0, 0, 0, 28, 0, 0, 0, 35, 0, 0, 0, 42]
abbrev dktX5_line_9 : List UInt8 := dkwX5_line_9 ++ dktX5_line_10
def dkwX5_line_8 : List UInt8 := [4, 54, 4, 167, 0, 15, 45, 18, 21, 182, 0, 73, 153, 0, 6, 5, 54, 4, 21, 4]
abbrev dktX5_line_8 : List UInt8 := dkwX5_line_8 ++ dktX5_line_9
def dkwX5_line_7 : List UInt8 := [45, 18, 11, 182, 0, 73, 153, 0, 36, 3, 54, 4, 167, 0, 30, 45, 18, 19, 182, 0, 73, 153, 0, 21]
abbrev dktX5_line_7 : List UInt8 := dkwX5_line_7 ++ dktX5_line_8
def dkwX5_line_6 : List UInt8 := [171, 0, 0, 0, 75, 0, 0, 0, 3, 208, 216, 235, 144, 0, 0, 0, 63, 0, 1, 165, 92, 0, 0, 0, 48, 6, 35, 75, 187, 0, 0, 0, 33]
abbrev dktX5_line_6 : List UInt8 := dkwX5_line_6 ++ dktX5_line_7
def dkwX5_line_5 : List UInt8 := [54, 4, 45, 182, 0, 159]
abbrev dktX5_line_5 : List UInt8 := dkwX5_line_5 ++ dktX5_line_6
def dkwX5_line_4 : List UInt8 := [180, 0, 52, 183, 0, 88, 191, 42, 89, 180, 0, 52, 43, 182, 0, 79, 96, 181, 0, 52, 43, 78, 2]
abbrev dktX5_line_4 : List UInt8 := dkwX5_line_4 ++ dktX5_line_5
def dkwX5_line_3 : List UInt8 := [18, 23, 182, 0, 73, 153, 0, 7, 4, 167, 0, 4, 3, 61, 28, 154, 0, 15, 187, 0, 86, 89, 42]
abbrev dktX5_line_3 : List UInt8 := dkwX5_line_3 ++ dktX5_line_4
def dkwX5_line_2 : List UInt8 := [18, 21, 182, 0, 73, 153, 0, 17, 42, 180, 0, 40, 180, 0, 156, 182, 0, 154, 7, 161, 0, 12, 43]
abbrev dktX5_line_2 : List UInt8 := dkwX5_line_2 ++ dktX5_line_3
def dkwX5_line_1 : List UInt8 := [43, 18, 19, 182, 0, 73, 153, 0, 17, 42, 180, 0, 40, 180, 0, 145, 182, 0, 154, 7, 161, 0, 35, 43]
abbrev dktX5_line_1 : List UInt8 := dkwX5_line_1 ++ dktX5_line_2
def dkwX5_line_0 : List UInt8 := [42, 182, 0, 70, 76, 43, 18, 11, 182, 0, 73, 153, 0, 13, 42, 180, 0, 40, 180, 0, 126, 198, 0, 58]
abbrev dktX5_line_0 : List UInt8 := dkwX5_line_0 ++ dktX5_line_1
theorem dksX5_line_0 : cX5_line.data.toList.drop 0 = dktX5_line_0 := by decide +kernel
theorem dksX5_line_1 : cX5_line.data.toList.drop 24 = dktX5_line_1 := dk_seg dksX5_line_0 24 rfl rfl
theorem dksX5_line_2 : cX5_line.data.toList.drop 48 = dktX5_line_2 := dk_seg dksX5_line_1 24 rfl rfl
theorem dksX5_line_3 : cX5_line.data.toList.drop 71 = dktX5_line_3 := dk_seg dksX5_line_2 23 rfl rfl
theorem dksX5_line_4 : cX5_line.data.toList.drop 94 = dktX5_line_4 := dk_seg dksX5_line_3 23 rfl rfl
theorem dksX5_line_5 : cX5_line.data.toList.drop 117 = dktX5_line_5 := dk_seg dksX5_line_4 23 rfl rfl
theorem dksX5_line_6 : cX5_line.data.toList.drop 123 = dktX5_line_6 := dk_seg dksX5_line_5 6 rfl rfl
theorem dksX5_line_7 : cX5_line.data.toList.drop 156 = dktX5_line_7 := dk_seg dksX5_line_6 33 rfl rfl
theorem dksX5_line_8 : cX5_line.data.toList.drop 180 = dktX5_line_8 := dk_seg dksX5_line_7 24 rfl rfl
theorem dksX5_line_9 : cX5_line.data.toList.drop 200 = dktX5_line_9 := dk_seg dksX5_line_8 20 rfl rfl
theorem dksX5_line_10 : cX5_line.data.toList.drop 228 = dktX5_line_10 := dk_seg dksX5_line_9 28 rfl rfl
theorem dksX5_line_11 : cX5_line.data.toList.drop 252 = dktX5_line_11 := dk_seg dksX5_line_10 24 rfl rfl
theorem dksX5_line_12 : cX5_line.data.toList.drop 276 = dktX5_line_12 := dk_seg dksX5_line_11 24 rfl rfl
theorem dksX5_line_13 : cX5_line.data.toList.drop 299 = dktX5_line_13 := dk_seg dksX5_line_12 23 rfl rfl
theorem dksX5_line_14 : cX5_line.data.toList.drop 323 = dktX5_line_14 := dk_seg dksX5_line_13 24 rfl rfl
theorem dX5_line_0 : decode cX5_line 0 = .ok (.aload_n 0, 1) := dk_42 (dk_at dksX5_line_0 0 rfl rfl)
theorem dX5_line_1 : decode cX5_line 1 = .ok (.invokevirtual 70, 3) := dk_182 0 70 (dk_at dksX5_line_0 1 rfl rfl)
theorem dX5_line_4 : decode cX5_line 4 = .ok (.astore_n 1, 1) := dk_76 (dk_at dksX5_line_0 4 rfl rfl)
theorem dX5_line_5 : decode cX5_line 5 = .ok (.aload_n 1, 1) := dk_43 (dk_at dksX5_line_0 5 rfl rfl)
theorem dX5_line_6 : decode cX5_line 6 = .ok (.ldc 11, 2) := dk_18 11 (dk_at dksX5_line_0 6 rfl rfl)
theorem dX5_line_8 : decode cX5_line 8 = .ok (.invokevirtual 73, 3) := dk_182 0 73 (dk_at dksX5_line_0 8 rfl rfl)
theorem dX5_line_11 : decode cX5_line 11 = .ok (.ifCond .eq 13, 3) := dk_153 0 13 (dk_at dksX5_line_0 11 rfl rfl)
theorem dX5_line_14 : decode cX5_line 14 = .ok (.aload_n 0, 1) := dk_42 (dk_at dksX5_line_0 14 rfl rfl)
theorem dX5_line_15 : decode cX5_line 15 = .ok (.getfield 40, 3) := dk_180 0 40 (dk_at dksX5_line_0 15 rfl rfl)
theorem dX5_line_18 : decode cX5_line 18 = .ok (.getfield 126, 3) := dk_180 0 126 (dk_at dksX5_line_0 18 rfl rfl)
theorem dX5_line_21 : decode cX5_line 21 = .ok (.ifnull 58, 3) := dk_198 0 58 (dk_at dksX5_line_0 21 rfl rfl)
theorem dX5_line_24 : decode cX5_line 24 = .ok (.aload_n 1, 1) := dk_43 (dk_at dksX5_line_1 0 rfl rfl)
theorem dX5_line_25 : decode cX5_line 25 = .ok (.ldc 19, 2) := dk_18 19 (dk_at dksX5_line_1 1 rfl rfl)
theorem dX5_line_27 : decode cX5_line 27 = .ok (.invokevirtual 73, 3) := dk_182 0 73 (dk_at dksX5_line_1 3 rfl rfl)
theorem dX5_line_30 : decode cX5_line 30 = .ok (.ifCond .eq 17, 3) := dk_153 0 17 (dk_at dksX5_line_1 6 rfl rfl)
theorem dX5_line_33 : decode cX5_line 33 = .ok (.aload_n 0, 1) := dk_42 (dk_at dksX5_line_1 9 rfl rfl)
theorem dX5_line_34 : decode cX5_line 34 = .ok (.getfield 40, 3) := dk_180 0 40 (dk_at dksX5_line_1 10 rfl rfl)
theorem dX5_line_37 : decode cX5_line 37 = .ok (.getfield 145, 3) := dk_180 0 145 (dk_at dksX5_line_1 13 rfl rfl)
theorem dX5_line_40 : decode cX5_line 40 = .ok (.invokevirtual 154, 3) := dk_182 0 154 (dk_at dksX5_line_1 16 rfl rfl)
theorem dX5_line_43 : decode cX5_line 43 = .ok (.iconst 4, 1) := dk_7 (dk_at dksX5_line_1 19 rfl rfl)
theorem dX5_line_44 : decode cX5_line 44 = .ok (.if_icmp .lt 35, 3) := dk_161 0 35 (dk_at dksX5_line_1 20 rfl rfl)
theorem dX5_line_47 : decode cX5_line 47 = .ok (.aload_n 1, 1) := dk_43 (dk_at dksX5_line_1 23 rfl rfl)
theorem dX5_line_48 : decode cX5_line 48 = .ok (.ldc 21, 2) := dk_18 21 (dk_at dksX5_line_2 0 rfl rfl)
theorem dX5_line_50 : decode cX5_line 50 = .ok (.invokevirtual 73, 3) := dk_182 0 73 (dk_at dksX5_line_2 2 rfl rfl)
theorem dX5_line_53 : decode cX5_line 53 = .ok (.ifCond .eq 17, 3) := dk_153 0 17 (dk_at dksX5_line_2 5 rfl rfl)
theorem dX5_line_56 : decode cX5_line 56 = .ok (.aload_n 0, 1) := dk_42 (dk_at dksX5_line_2 8 rfl rfl)
theorem dX5_line_57 : decode cX5_line 57 = .ok (.getfield 40, 3) := dk_180 0 40 (dk_at dksX5_line_2 9 rfl rfl)
theorem dX5_line_60 : decode cX5_line 60 = .ok (.getfield 156, 3) := dk_180 0 156 (dk_at dksX5_line_2 12 rfl rfl)
theorem dX5_line_63 : decode cX5_line 63 = .ok (.invokevirtual 154, 3) := dk_182 0 154 (dk_at dksX5_line_2 15 rfl rfl)
theorem dX5_line_66 : decode cX5_line 66 = .ok (.iconst 4, 1) := dk_7 (dk_at dksX5_line_2 18 rfl rfl)
theorem dX5_line_67 : decode cX5_line 67 = .ok (.if_icmp .lt 12, 3) := dk_161 0 12 (dk_at dksX5_line_2 19 rfl rfl)
theorem dX5_line_70 : decode cX5_line 70 = .ok (.aload_n 1, 1) := dk_43 (dk_at dksX5_line_2 22 rfl rfl)
theorem dX5_line_71 : decode cX5_line 71 = .ok (.ldc 23, 2) := dk_18 23 (dk_at dksX5_line_3 0 rfl rfl)
theorem dX5_line_73 : decode cX5_line 73 = .ok (.invokevirtual 73, 3) := dk_182 0 73 (dk_at dksX5_line_3 2 rfl rfl)
theorem dX5_line_76 : decode cX5_line 76 = .ok (.ifCond .eq 7, 3) := dk_153 0 7 (dk_at dksX5_line_3 5 rfl rfl)
theorem dX5_line_79 : decode cX5_line 79 = .ok (.iconst 1, 1) := dk_4 (dk_at dksX5_line_3 8 rfl rfl)
theorem dX5_line_80 : decode cX5_line 80 = .ok (.goto 4, 3) := dk_167 0 4 (dk_at dksX5_line_3 9 rfl rfl)
theorem dX5_line_83 : decode cX5_line 83 = .ok (.iconst 0, 1) := dk_3 (dk_at dksX5_line_3 12 rfl rfl)
theorem dX5_line_84 : decode cX5_line 84 = .ok (.istore_n 2, 1) := dk_61 (dk_at dksX5_line_3 13 rfl rfl)
theorem dX5_line_85 : decode cX5_line 85 = .ok (.iload_n 2, 1) := dk_28 (dk_at dksX5_line_3 14 rfl rfl)
theorem dX5_line_86 : decode cX5_line 86 = .ok (.ifCond .ne 15, 3) := dk_154 0 15 (dk_at dksX5_line_3 15 rfl rfl)
theorem dX5_line_89 : decode cX5_line 89 = .ok (.new 86, 3) := dk_187 0 86 (dk_at dksX5_line_3 18 rfl rfl)
theorem dX5_line_92 : decode cX5_line 92 = .ok (.dup, 1) := dk_89 (dk_at dksX5_line_3 21 rfl rfl)
theorem dX5_line_93 : decode cX5_line 93 = .ok (.aload_n 0, 1) := dk_42 (dk_at dksX5_line_3 22 rfl rfl)
theorem dX5_line_94 : decode cX5_line 94 = .ok (.getfield 52, 3) := dk_180 0 52 (dk_at dksX5_line_4 0 rfl rfl)
theorem dX5_line_97 : decode cX5_line 97 = .ok (.invokespecial 88, 3) := dk_183 0 88 (dk_at dksX5_line_4 3 rfl rfl)
theorem dX5_line_100 : decode cX5_line 100 = .ok (.athrow, 1) := dk_191 (dk_at dksX5_line_4 6 rfl rfl)
theorem dX5_line_101 : decode cX5_line 101 = .ok (.aload_n 0, 1) := dk_42 (dk_at dksX5_line_4 7 rfl rfl)
theorem dX5_line_102 : decode cX5_line 102 = .ok (.dup, 1) := dk_89 (dk_at dksX5_line_4 8 rfl rfl)
theorem dX5_line_103 : decode cX5_line 103 = .ok (.getfield 52, 3) := dk_180 0 52 (dk_at dksX5_line_4 9 rfl rfl)
theorem dX5_line_106 : decode cX5_line 106 = .ok (.aload_n 1, 1) := dk_43 (dk_at dksX5_line_4 12 rfl rfl)
theorem dX5_line_107 : decode cX5_line 107 = .ok (.invokevirtual 79, 3) := dk_182 0 79 (dk_at dksX5_line_4 13 rfl rfl)
theorem dX5_line_110 : decode cX5_line 110 = .ok (.iadd, 1) := dk_96 (dk_at dksX5_line_4 16 rfl rfl)
theorem dX5_line_111 : decode cX5_line 111 = .ok (.putfield 52, 3) := dk_181 0 52 (dk_at dksX5_line_4 17 rfl rfl)
theorem dX5_line_114 : decode cX5_line 114 = .ok (.aload_n 1, 1) := dk_43 (dk_at dksX5_line_4 20 rfl rfl)
theorem dX5_line_115 : decode cX5_line 115 = .ok (.astore_n 3, 1) := dk_78 (dk_at dksX5_line_4 21 rfl rfl)
theorem dX5_line_116 : decode cX5_line 116 = .ok (.iconst (-1), 1) := dk_2 (dk_at dksX5_line_4 22 rfl rfl)
theorem dX5_line_117 : decode cX5_line 117 = .ok (.istore 4, 2) := dk_54 4 (dk_at dksX5_line_5 0 rfl rfl)
theorem dX5_line_119 : decode cX5_line 119 = .ok (.aload_n 3, 1) := dk_45 (dk_at dksX5_line_5 2 rfl rfl)
theorem dX5_line_120 : decode cX5_line 120 = .ok (.invokevirtual 159, 3) := dk_182 0 159 (dk_at dksX5_line_5 3 rfl rfl)
theorem dX5_line_123 : decode cX5_line 123 = .ok (.lookupswitch 75 #[(-791090288, 63), (107868, 48), (102976443, 33)], 33) := by decide +kernel
theorem dX5_line_156 : decode cX5_line 156 = .ok (.aload_n 3, 1) := dk_45 (dk_at dksX5_line_7 0 rfl rfl)
theorem dX5_line_157 : decode cX5_line 157 = .ok (.ldc 11, 2) := dk_18 11 (dk_at dksX5_line_7 1 rfl rfl)
theorem dX5_line_159 : decode cX5_line 159 = .ok (.invokevirtual 73, 3) := dk_182 0 73 (dk_at dksX5_line_7 3 rfl rfl)
theorem dX5_line_162 : decode cX5_line 162 = .ok (.ifCond .eq 36, 3) := dk_153 0 36 (dk_at dksX5_line_7 6 rfl rfl)
theorem dX5_line_165 : decode cX5_line 165 = .ok (.iconst 0, 1) := dk_3 (dk_at dksX5_line_7 9 rfl rfl)
theorem dX5_line_166 : decode cX5_line 166 = .ok (.istore 4, 2) := dk_54 4 (dk_at dksX5_line_7 10 rfl rfl)
theorem dX5_line_168 : decode cX5_line 168 = .ok (.goto 30, 3) := dk_167 0 30 (dk_at dksX5_line_7 12 rfl rfl)
theorem dX5_line_171 : decode cX5_line 171 = .ok (.aload_n 3, 1) := dk_45 (dk_at dksX5_line_7 15 rfl rfl)
theorem dX5_line_172 : decode cX5_line 172 = .ok (.ldc 19, 2) := dk_18 19 (dk_at dksX5_line_7 16 rfl rfl)
theorem dX5_line_174 : decode cX5_line 174 = .ok (.invokevirtual 73, 3) := dk_182 0 73 (dk_at dksX5_line_7 18 rfl rfl)
theorem dX5_line_177 : decode cX5_line 177 = .ok (.ifCond .eq 21, 3) := dk_153 0 21 (dk_at dksX5_line_7 21 rfl rfl)
theorem dX5_line_180 : decode cX5_line 180 = .ok (.iconst 1, 1) := dk_4 (dk_at dksX5_line_8 0 rfl rfl)
theorem dX5_line_181 : decode cX5_line 181 = .ok (.istore 4, 2) := dk_54 4 (dk_at dksX5_line_8 1 rfl rfl)
theorem dX5_line_183 : decode cX5_line 183 = .ok (.goto 15, 3) := dk_167 0 15 (dk_at dksX5_line_8 3 rfl rfl)
theorem dX5_line_186 : decode cX5_line 186 = .ok (.aload_n 3, 1) := dk_45 (dk_at dksX5_line_8 6 rfl rfl)
theorem dX5_line_187 : decode cX5_line 187 = .ok (.ldc 21, 2) := dk_18 21 (dk_at dksX5_line_8 7 rfl rfl)
theorem dX5_line_189 : decode cX5_line 189 = .ok (.invokevirtual 73, 3) := dk_182 0 73 (dk_at dksX5_line_8 9 rfl rfl)
theorem dX5_line_192 : decode cX5_line 192 = .ok (.ifCond .eq 6, 3) := dk_153 0 6 (dk_at dksX5_line_8 12 rfl rfl)
theorem dX5_line_195 : decode cX5_line 195 = .ok (.iconst 2, 1) := dk_5 (dk_at dksX5_line_8 15 rfl rfl)
theorem dX5_line_196 : decode cX5_line 196 = .ok (.istore 4, 2) := dk_54 4 (dk_at dksX5_line_8 16 rfl rfl)
theorem dX5_line_198 : decode cX5_line 198 = .ok (.iload 4, 2) := dk_21 4 (dk_at dksX5_line_8 18 rfl rfl)
theorem dX5_line_200 : decode cX5_line 200 = .ok (.tableswitch 80 0 2 #[28, 35, 42], 28) := by decide +kernel
theorem dX5_line_228 : decode cX5_line 228 = .ok (.aload_n 0, 1) := dk_42 (dk_at dksX5_line_10 0 rfl rfl)
theorem dX5_line_229 : decode cX5_line 229 = .ok (.invokevirtual 162, 3) := dk_182 0 162 (dk_at dksX5_line_10 1 rfl rfl)
theorem dX5_line_232 : decode cX5_line 232 = .ok (.goto 110, 3) := dk_167 0 110 (dk_at dksX5_line_10 4 rfl rfl)
theorem dX5_line_235 : decode cX5_line 235 = .ok (.aload_n 0, 1) := dk_42 (dk_at dksX5_line_10 7 rfl rfl)
theorem dX5_line_236 : decode cX5_line 236 = .ok (.invokevirtual 164, 3) := dk_182 0 164 (dk_at dksX5_line_10 8 rfl rfl)
theorem dX5_line_239 : decode cX5_line 239 = .ok (.goto 103, 3) := dk_167 0 103 (dk_at dksX5_line_10 11 rfl rfl)
theorem dX5_line_242 : decode cX5_line 242 = .ok (.aload_n 0, 1) := dk_42 (dk_at dksX5_line_10 14 rfl rfl)
theorem dX5_line_243 : decode cX5_line 243 = .ok (.invokevirtual 131, 3) := dk_182 0 131 (dk_at dksX5_line_10 15 rfl rfl)
theorem dX5_line_246 : decode cX5_line 246 = .ok (.astore 5, 2) := dk_58 5 (dk_at dksX5_line_10 18 rfl rfl)
theorem dX5_line_248 : decode cX5_line 248 = .ok (.aload_n 0, 1) := dk_42 (dk_at dksX5_line_10 20 rfl rfl)
theorem dX5_line_249 : decode cX5_line 249 = .ok (.getfield 40, 3) := dk_180 0 40 (dk_at dksX5_line_10 21 rfl rfl)
theorem dX5_line_252 : decode cX5_line 252 = .ok (.getfield 156, 3) := dk_180 0 156 (dk_at dksX5_line_11 0 rfl rfl)
theorem dX5_line_255 : decode cX5_line 255 = .ok (.new 166, 3) := dk_187 0 166 (dk_at dksX5_line_11 3 rfl rfl)
theorem dX5_line_258 : decode cX5_line 258 = .ok (.dup, 1) := dk_89 (dk_at dksX5_line_11 6 rfl rfl)
theorem dX5_line_259 : decode cX5_line 259 = .ok (.aload 5, 2) := dk_25 5 (dk_at dksX5_line_11 7 rfl rfl)
theorem dX5_line_261 : decode cX5_line 261 = .ok (.aload_n 0, 1) := dk_42 (dk_at dksX5_line_11 9 rfl rfl)
theorem dX5_line_262 : decode cX5_line 262 = .ok (.bipush 120, 2) := dk_16 120 (dk_at dksX5_line_11 10 rfl rfl)
theorem dX5_line_264 : decode cX5_line 264 = .ok (.iconst 3, 1) := dk_6 (dk_at dksX5_line_11 12 rfl rfl)
theorem dX5_line_265 : decode cX5_line 265 = .ok (.bipush 6, 2) := dk_16 6 (dk_at dksX5_line_11 13 rfl rfl)
theorem dX5_line_267 : decode cX5_line 267 = .ok (.invokevirtual 138, 3) := dk_182 0 138 (dk_at dksX5_line_11 15 rfl rfl)
theorem dX5_line_270 : decode cX5_line 270 = .ok (.invokespecial 168, 3) := dk_183 0 168 (dk_at dksX5_line_11 18 rfl rfl)
theorem dX5_line_273 : decode cX5_line 273 = .ok (.invokevirtual 149, 3) := dk_182 0 149 (dk_at dksX5_line_11 21 rfl rfl)
theorem dX5_line_276 : decode cX5_line 276 = .ok (.pop, 1) := dk_87 (dk_at dksX5_line_12 0 rfl rfl)
theorem dX5_line_277 : decode cX5_line 277 = .ok (.goto 65, 3) := dk_167 0 65 (dk_at dksX5_line_12 1 rfl rfl)
theorem dX5_line_280 : decode cX5_line 280 = .ok (.aload_n 0, 1) := dk_42 (dk_at dksX5_line_12 4 rfl rfl)
theorem dX5_line_281 : decode cX5_line 281 = .ok (.invokevirtual 70, 3) := dk_182 0 70 (dk_at dksX5_line_12 5 rfl rfl)
theorem dX5_line_284 : decode cX5_line 284 = .ok (.astore 5, 2) := dk_58 5 (dk_at dksX5_line_12 8 rfl rfl)
theorem dX5_line_286 : decode cX5_line 286 = .ok (.aload_n 0, 1) := dk_42 (dk_at dksX5_line_12 10 rfl rfl)
theorem dX5_line_287 : decode cX5_line 287 = .ok (.getfield 40, 3) := dk_180 0 40 (dk_at dksX5_line_12 11 rfl rfl)
theorem dX5_line_290 : decode cX5_line 290 = .ok (.aload 5, 2) := dk_25 5 (dk_at dksX5_line_12 14 rfl rfl)
theorem dX5_line_292 : decode cX5_line 292 = .ok (.invokevirtual 171, 3) := dk_182 0 171 (dk_at dksX5_line_12 16 rfl rfl)
theorem dX5_line_295 : decode cX5_line 295 = .ok (.astore 6, 2) := dk_58 6 (dk_at dksX5_line_12 19 rfl rfl)
theorem dX5_line_297 : decode cX5_line 297 = .ok (.aload 6, 2) := dk_25 6 (dk_at dksX5_line_12 21 rfl rfl)
theorem dX5_line_299 : decode cX5_line 299 = .ok (.ifnull 11, 3) := dk_198 0 11 (dk_at dksX5_line_13 0 rfl rfl)
theorem dX5_line_302 : decode cX5_line 302 = .ok (.aload 6, 2) := dk_25 6 (dk_at dksX5_line_13 3 rfl rfl)
theorem dX5_line_304 : decode cX5_line 304 = .ok (.getfield 175, 3) := dk_180 0 175 (dk_at dksX5_line_13 5 rfl rfl)
theorem dX5_line_307 : decode cX5_line 307 = .ok (.ifCond .eq 15, 3) := dk_153 0 15 (dk_at dksX5_line_13 8 rfl rfl)
theorem dX5_line_310 : decode cX5_line 310 = .ok (.new 86, 3) := dk_187 0 86 (dk_at dksX5_line_13 11 rfl rfl)
theorem dX5_line_313 : decode cX5_line 313 = .ok (.dup, 1) := dk_89 (dk_at dksX5_line_13 14 rfl rfl)
theorem dX5_line_314 : decode cX5_line 314 = .ok (.aload_n 0, 1) := dk_42 (dk_at dksX5_line_13 15 rfl rfl)
theorem dX5_line_315 : decode cX5_line 315 = .ok (.getfield 52, 3) := dk_180 0 52 (dk_at dksX5_line_13 16 rfl rfl)
theorem dX5_line_318 : decode cX5_line 318 = .ok (.invokespecial 88, 3) := dk_183 0 88 (dk_at dksX5_line_13 19 rfl rfl)
theorem dX5_line_321 : decode cX5_line 321 = .ok (.athrow, 1) := dk_191 (dk_at dksX5_line_13 22 rfl rfl)
theorem dX5_line_322 : decode cX5_line 322 = .ok (.aload_n 0, 1) := dk_42 (dk_at dksX5_line_13 23 rfl rfl)
theorem dX5_line_323 : decode cX5_line 323 = .ok (.dup, 1) := dk_89 (dk_at dksX5_line_14 0 rfl rfl)
theorem dX5_line_324 : decode cX5_line 324 = .ok (.getfield 52, 3) := dk_180 0 52 (dk_at dksX5_line_14 1 rfl rfl)
theorem dX5_line_327 : decode cX5_line 327 = .ok (.aload 5, 2) := dk_25 5 (dk_at dksX5_line_14 4 rfl rfl)
theorem dX5_line_329 : decode cX5_line 329 = .ok (.invokevirtual 79, 3) := dk_182 0 79 (dk_at dksX5_line_14 6 rfl rfl)
theorem dX5_line_332 : decode cX5_line 332 = .ok (.iadd, 1) := dk_96 (dk_at dksX5_line_14 9 rfl rfl)
theorem dX5_line_333 : decode cX5_line 333 = .ok (.putfield 52, 3) := dk_181 0 52 (dk_at dksX5_line_14 10 rfl rfl)
theorem dX5_line_336 : decode cX5_line 336 = .ok (.aload 6, 2) := dk_25 6 (dk_at dksX5_line_14 13 rfl rfl)
theorem dX5_line_338 : decode cX5_line 338 = .ok (.iconst 1, 1) := dk_4 (dk_at dksX5_line_14 15 rfl rfl)
theorem dX5_line_339 : decode cX5_line 339 = .ok (.putfield 175, 3) := dk_181 0 175 (dk_at dksX5_line_14 16 rfl rfl)
theorem dX5_line_342 : decode cX5_line 342 = .ok (.return_, 1) := dk_177 (dk_at dksX5_line_14 19 rfl rfl)
abbrev cX5_limit : ByteArray := prog_6_method_10_code
def yX5_limit : MethodName := ⟨RX5, "limit", "()V"⟩
def dkwX5_limit_2 : List UInt8 := [187, 0, 121, 89, 27, 28, 42, 5, 4, 16, 9, 182, 0, 117, 183, 0, 123, 181, 0, 126, 177]
abbrev dktX5_limit_2 : List UInt8 := dkwX5_limit_2 ++ []
def dkwX5_limit_1 : List UInt8 := [182, 0, 113, 42, 5, 4, 16, 99, 182, 0, 117, 61, 42, 18, 17, 182, 0, 113, 42, 180, 0, 40]
abbrev dktX5_limit_1 : List UInt8 := dkwX5_limit_1 ++ dktX5_limit_2
def dkwX5_limit_0 : List UInt8 := [42, 18, 13, 182, 0, 82, 153, 0, 7, 4, 167, 0, 4, 5, 60, 27, 5, 160, 0, 9, 42, 18, 15]
abbrev dktX5_limit_0 : List UInt8 := dkwX5_limit_0 ++ dktX5_limit_1
theorem dksX5_limit_0 : cX5_limit.data.toList.drop 0 = dktX5_limit_0 := by decide +kernel
theorem dksX5_limit_1 : cX5_limit.data.toList.drop 23 = dktX5_limit_1 := dk_seg dksX5_limit_0 23 rfl rfl
theorem dksX5_limit_2 : cX5_limit.data.toList.drop 45 = dktX5_limit_2 := dk_seg dksX5_limit_1 22 rfl rfl
theorem dX5_limit_0 : decode cX5_limit 0 = .ok (.aload_n 0, 1) := dk_42 (dk_at dksX5_limit_0 0 rfl rfl)
theorem dX5_limit_1 : decode cX5_limit 1 = .ok (.ldc 13, 2) := dk_18 13 (dk_at dksX5_limit_0 1 rfl rfl)
theorem dX5_limit_3 : decode cX5_limit 3 = .ok (.invokevirtual 82, 3) := dk_182 0 82 (dk_at dksX5_limit_0 3 rfl rfl)
theorem dX5_limit_6 : decode cX5_limit 6 = .ok (.ifCond .eq 7, 3) := dk_153 0 7 (dk_at dksX5_limit_0 6 rfl rfl)
theorem dX5_limit_9 : decode cX5_limit 9 = .ok (.iconst 1, 1) := dk_4 (dk_at dksX5_limit_0 9 rfl rfl)
theorem dX5_limit_10 : decode cX5_limit 10 = .ok (.goto 4, 3) := dk_167 0 4 (dk_at dksX5_limit_0 10 rfl rfl)
theorem dX5_limit_13 : decode cX5_limit 13 = .ok (.iconst 2, 1) := dk_5 (dk_at dksX5_limit_0 13 rfl rfl)
theorem dX5_limit_14 : decode cX5_limit 14 = .ok (.istore_n 1, 1) := dk_60 (dk_at dksX5_limit_0 14 rfl rfl)
theorem dX5_limit_15 : decode cX5_limit 15 = .ok (.iload_n 1, 1) := dk_27 (dk_at dksX5_limit_0 15 rfl rfl)
theorem dX5_limit_16 : decode cX5_limit 16 = .ok (.iconst 2, 1) := dk_5 (dk_at dksX5_limit_0 16 rfl rfl)
theorem dX5_limit_17 : decode cX5_limit 17 = .ok (.if_icmp .ne 9, 3) := dk_160 0 9 (dk_at dksX5_limit_0 17 rfl rfl)
theorem dX5_limit_20 : decode cX5_limit 20 = .ok (.aload_n 0, 1) := dk_42 (dk_at dksX5_limit_0 20 rfl rfl)
theorem dX5_limit_21 : decode cX5_limit 21 = .ok (.ldc 15, 2) := dk_18 15 (dk_at dksX5_limit_0 21 rfl rfl)
theorem dX5_limit_23 : decode cX5_limit 23 = .ok (.invokevirtual 113, 3) := dk_182 0 113 (dk_at dksX5_limit_1 0 rfl rfl)
theorem dX5_limit_26 : decode cX5_limit 26 = .ok (.aload_n 0, 1) := dk_42 (dk_at dksX5_limit_1 3 rfl rfl)
theorem dX5_limit_27 : decode cX5_limit 27 = .ok (.iconst 2, 1) := dk_5 (dk_at dksX5_limit_1 4 rfl rfl)
theorem dX5_limit_28 : decode cX5_limit 28 = .ok (.iconst 1, 1) := dk_4 (dk_at dksX5_limit_1 5 rfl rfl)
theorem dX5_limit_29 : decode cX5_limit 29 = .ok (.bipush 99, 2) := dk_16 99 (dk_at dksX5_limit_1 6 rfl rfl)
theorem dX5_limit_31 : decode cX5_limit 31 = .ok (.invokevirtual 117, 3) := dk_182 0 117 (dk_at dksX5_limit_1 8 rfl rfl)
theorem dX5_limit_34 : decode cX5_limit 34 = .ok (.istore_n 2, 1) := dk_61 (dk_at dksX5_limit_1 11 rfl rfl)
theorem dX5_limit_35 : decode cX5_limit 35 = .ok (.aload_n 0, 1) := dk_42 (dk_at dksX5_limit_1 12 rfl rfl)
theorem dX5_limit_36 : decode cX5_limit 36 = .ok (.ldc 17, 2) := dk_18 17 (dk_at dksX5_limit_1 13 rfl rfl)
theorem dX5_limit_38 : decode cX5_limit 38 = .ok (.invokevirtual 113, 3) := dk_182 0 113 (dk_at dksX5_limit_1 15 rfl rfl)
theorem dX5_limit_41 : decode cX5_limit 41 = .ok (.aload_n 0, 1) := dk_42 (dk_at dksX5_limit_1 18 rfl rfl)
theorem dX5_limit_42 : decode cX5_limit 42 = .ok (.getfield 40, 3) := dk_180 0 40 (dk_at dksX5_limit_1 19 rfl rfl)
theorem dX5_limit_45 : decode cX5_limit 45 = .ok (.new 121, 3) := dk_187 0 121 (dk_at dksX5_limit_2 0 rfl rfl)
theorem dX5_limit_48 : decode cX5_limit 48 = .ok (.dup, 1) := dk_89 (dk_at dksX5_limit_2 3 rfl rfl)
theorem dX5_limit_49 : decode cX5_limit 49 = .ok (.iload_n 1, 1) := dk_27 (dk_at dksX5_limit_2 4 rfl rfl)
theorem dX5_limit_50 : decode cX5_limit 50 = .ok (.iload_n 2, 1) := dk_28 (dk_at dksX5_limit_2 5 rfl rfl)
theorem dX5_limit_51 : decode cX5_limit 51 = .ok (.aload_n 0, 1) := dk_42 (dk_at dksX5_limit_2 6 rfl rfl)
theorem dX5_limit_52 : decode cX5_limit 52 = .ok (.iconst 2, 1) := dk_5 (dk_at dksX5_limit_2 7 rfl rfl)
theorem dX5_limit_53 : decode cX5_limit 53 = .ok (.iconst 1, 1) := dk_4 (dk_at dksX5_limit_2 8 rfl rfl)
theorem dX5_limit_54 : decode cX5_limit 54 = .ok (.bipush 9, 2) := dk_16 9 (dk_at dksX5_limit_2 9 rfl rfl)
theorem dX5_limit_56 : decode cX5_limit 56 = .ok (.invokevirtual 117, 3) := dk_182 0 117 (dk_at dksX5_limit_2 11 rfl rfl)
theorem dX5_limit_59 : decode cX5_limit 59 = .ok (.invokespecial 123, 3) := dk_183 0 123 (dk_at dksX5_limit_2 14 rfl rfl)
theorem dX5_limit_62 : decode cX5_limit 62 = .ok (.putfield 126, 3) := dk_181 0 126 (dk_at dksX5_limit_2 17 rfl rfl)
theorem dX5_limit_65 : decode cX5_limit 65 = .ok (.return_, 1) := dk_177 (dk_at dksX5_limit_2 20 rfl rfl)
abbrev cX5_map : ByteArray := prog_6_method_11_code
def yX5_map : MethodName := ⟨RX5, "map", "()V"⟩
def dkwX5_map_6 : List UInt8 := [167, 255, 223, 132, 2, 1, 167, 255, 126, 42, 180, 0, 40, 180, 0, 145, 43, 182, 0, 149, 87, 177]
abbrev dktX5_map_6 : List UInt8 := dkwX5_map_6 ++ []
def dkwX5_map_5 : List UInt8 := [180, 0, 141, 28, 50, 21, 5, 25, 4, 21, 5, 182, 0, 101, 16, 97, 100, 145, 84, 132, 5, 1]
abbrev dktX5_map_5 : List UInt8 := dkwX5_map_5 ++ dktX5_map_6
def dkwX5_map_4 : List UInt8 := [28, 25, 4, 182, 0, 79, 188, 8, 83, 3, 54, 5, 21, 5, 25, 4, 182, 0, 79, 162, 0, 29, 43]
abbrev dktX5_map_4 : List UInt8 := dkwX5_map_4 ++ dktX5_map_5
def dkwX5_map_3 : List UInt8 := [181, 0, 52, 42, 16, 97, 42, 180, 0, 40, 180, 0, 136, 16, 6, 182, 0, 138, 58, 4, 43, 180, 0, 141]
abbrev dktX5_map_3 : List UInt8 := dkwX5_map_3 ++ dktX5_map_4
def dkwX5_map_2 : List UInt8 := [96, 159, 0, 15, 187, 0, 86, 89, 42, 180, 0, 52, 183, 0, 88, 191, 42, 89, 180, 0, 52, 4, 96]
abbrev dktX5_map_2 : List UInt8 := dkwX5_map_2 ++ dktX5_map_3
def dkwX5_map_1 : List UInt8 := [162, 0, 125, 42, 182, 0, 70, 78, 45, 182, 0, 79, 4, 160, 0, 15, 45, 3, 182, 0, 101, 16, 97, 28]
abbrev dktX5_map_1 : List UInt8 := dkwX5_map_1 ++ dktX5_map_2
def dkwX5_map_0 : List UInt8 := [187, 0, 129, 89, 42, 182, 0, 131, 183, 0, 134, 76, 3, 61, 28, 42, 180, 0, 40, 180, 0, 136]
abbrev dktX5_map_0 : List UInt8 := dkwX5_map_0 ++ dktX5_map_1
theorem dksX5_map_0 : cX5_map.data.toList.drop 0 = dktX5_map_0 := by decide +kernel
theorem dksX5_map_1 : cX5_map.data.toList.drop 22 = dktX5_map_1 := dk_seg dksX5_map_0 22 rfl rfl
theorem dksX5_map_2 : cX5_map.data.toList.drop 46 = dktX5_map_2 := dk_seg dksX5_map_1 24 rfl rfl
theorem dksX5_map_3 : cX5_map.data.toList.drop 69 = dktX5_map_3 := dk_seg dksX5_map_2 23 rfl rfl
theorem dksX5_map_4 : cX5_map.data.toList.drop 93 = dktX5_map_4 := dk_seg dksX5_map_3 24 rfl rfl
theorem dksX5_map_5 : cX5_map.data.toList.drop 116 = dktX5_map_5 := dk_seg dksX5_map_4 23 rfl rfl
theorem dksX5_map_6 : cX5_map.data.toList.drop 138 = dktX5_map_6 := dk_seg dksX5_map_5 22 rfl rfl
theorem dX5_map_0 : decode cX5_map 0 = .ok (.new 129, 3) := dk_187 0 129 (dk_at dksX5_map_0 0 rfl rfl)
theorem dX5_map_3 : decode cX5_map 3 = .ok (.dup, 1) := dk_89 (dk_at dksX5_map_0 3 rfl rfl)
theorem dX5_map_4 : decode cX5_map 4 = .ok (.aload_n 0, 1) := dk_42 (dk_at dksX5_map_0 4 rfl rfl)
theorem dX5_map_5 : decode cX5_map 5 = .ok (.invokevirtual 131, 3) := dk_182 0 131 (dk_at dksX5_map_0 5 rfl rfl)
theorem dX5_map_8 : decode cX5_map 8 = .ok (.invokespecial 134, 3) := dk_183 0 134 (dk_at dksX5_map_0 8 rfl rfl)
theorem dX5_map_11 : decode cX5_map 11 = .ok (.astore_n 1, 1) := dk_76 (dk_at dksX5_map_0 11 rfl rfl)
theorem dX5_map_12 : decode cX5_map 12 = .ok (.iconst 0, 1) := dk_3 (dk_at dksX5_map_0 12 rfl rfl)
theorem dX5_map_13 : decode cX5_map 13 = .ok (.istore_n 2, 1) := dk_61 (dk_at dksX5_map_0 13 rfl rfl)
theorem dX5_map_14 : decode cX5_map 14 = .ok (.iload_n 2, 1) := dk_28 (dk_at dksX5_map_0 14 rfl rfl)
theorem dX5_map_15 : decode cX5_map 15 = .ok (.aload_n 0, 1) := dk_42 (dk_at dksX5_map_0 15 rfl rfl)
theorem dX5_map_16 : decode cX5_map 16 = .ok (.getfield 40, 3) := dk_180 0 40 (dk_at dksX5_map_0 16 rfl rfl)
theorem dX5_map_19 : decode cX5_map 19 = .ok (.getfield 136, 3) := dk_180 0 136 (dk_at dksX5_map_0 19 rfl rfl)
theorem dX5_map_22 : decode cX5_map 22 = .ok (.if_icmp .ge 125, 3) := dk_162 0 125 (dk_at dksX5_map_1 0 rfl rfl)
theorem dX5_map_25 : decode cX5_map 25 = .ok (.aload_n 0, 1) := dk_42 (dk_at dksX5_map_1 3 rfl rfl)
theorem dX5_map_26 : decode cX5_map 26 = .ok (.invokevirtual 70, 3) := dk_182 0 70 (dk_at dksX5_map_1 4 rfl rfl)
theorem dX5_map_29 : decode cX5_map 29 = .ok (.astore_n 3, 1) := dk_78 (dk_at dksX5_map_1 7 rfl rfl)
theorem dX5_map_30 : decode cX5_map 30 = .ok (.aload_n 3, 1) := dk_45 (dk_at dksX5_map_1 8 rfl rfl)
theorem dX5_map_31 : decode cX5_map 31 = .ok (.invokevirtual 79, 3) := dk_182 0 79 (dk_at dksX5_map_1 9 rfl rfl)
theorem dX5_map_34 : decode cX5_map 34 = .ok (.iconst 1, 1) := dk_4 (dk_at dksX5_map_1 12 rfl rfl)
theorem dX5_map_35 : decode cX5_map 35 = .ok (.if_icmp .ne 15, 3) := dk_160 0 15 (dk_at dksX5_map_1 13 rfl rfl)
theorem dX5_map_38 : decode cX5_map 38 = .ok (.aload_n 3, 1) := dk_45 (dk_at dksX5_map_1 16 rfl rfl)
theorem dX5_map_39 : decode cX5_map 39 = .ok (.iconst 0, 1) := dk_3 (dk_at dksX5_map_1 17 rfl rfl)
theorem dX5_map_40 : decode cX5_map 40 = .ok (.invokevirtual 101, 3) := dk_182 0 101 (dk_at dksX5_map_1 18 rfl rfl)
theorem dX5_map_43 : decode cX5_map 43 = .ok (.bipush 97, 2) := dk_16 97 (dk_at dksX5_map_1 21 rfl rfl)
theorem dX5_map_45 : decode cX5_map 45 = .ok (.iload_n 2, 1) := dk_28 (dk_at dksX5_map_1 23 rfl rfl)
theorem dX5_map_46 : decode cX5_map 46 = .ok (.iadd, 1) := dk_96 (dk_at dksX5_map_2 0 rfl rfl)
theorem dX5_map_47 : decode cX5_map 47 = .ok (.if_icmp .eq 15, 3) := dk_159 0 15 (dk_at dksX5_map_2 1 rfl rfl)
theorem dX5_map_50 : decode cX5_map 50 = .ok (.new 86, 3) := dk_187 0 86 (dk_at dksX5_map_2 4 rfl rfl)
theorem dX5_map_53 : decode cX5_map 53 = .ok (.dup, 1) := dk_89 (dk_at dksX5_map_2 7 rfl rfl)
theorem dX5_map_54 : decode cX5_map 54 = .ok (.aload_n 0, 1) := dk_42 (dk_at dksX5_map_2 8 rfl rfl)
theorem dX5_map_55 : decode cX5_map 55 = .ok (.getfield 52, 3) := dk_180 0 52 (dk_at dksX5_map_2 9 rfl rfl)
theorem dX5_map_58 : decode cX5_map 58 = .ok (.invokespecial 88, 3) := dk_183 0 88 (dk_at dksX5_map_2 12 rfl rfl)
theorem dX5_map_61 : decode cX5_map 61 = .ok (.athrow, 1) := dk_191 (dk_at dksX5_map_2 15 rfl rfl)
theorem dX5_map_62 : decode cX5_map 62 = .ok (.aload_n 0, 1) := dk_42 (dk_at dksX5_map_2 16 rfl rfl)
theorem dX5_map_63 : decode cX5_map 63 = .ok (.dup, 1) := dk_89 (dk_at dksX5_map_2 17 rfl rfl)
theorem dX5_map_64 : decode cX5_map 64 = .ok (.getfield 52, 3) := dk_180 0 52 (dk_at dksX5_map_2 18 rfl rfl)
theorem dX5_map_67 : decode cX5_map 67 = .ok (.iconst 1, 1) := dk_4 (dk_at dksX5_map_2 21 rfl rfl)
theorem dX5_map_68 : decode cX5_map 68 = .ok (.iadd, 1) := dk_96 (dk_at dksX5_map_2 22 rfl rfl)
theorem dX5_map_69 : decode cX5_map 69 = .ok (.putfield 52, 3) := dk_181 0 52 (dk_at dksX5_map_3 0 rfl rfl)
theorem dX5_map_72 : decode cX5_map 72 = .ok (.aload_n 0, 1) := dk_42 (dk_at dksX5_map_3 3 rfl rfl)
theorem dX5_map_73 : decode cX5_map 73 = .ok (.bipush 97, 2) := dk_16 97 (dk_at dksX5_map_3 4 rfl rfl)
theorem dX5_map_75 : decode cX5_map 75 = .ok (.aload_n 0, 1) := dk_42 (dk_at dksX5_map_3 6 rfl rfl)
theorem dX5_map_76 : decode cX5_map 76 = .ok (.getfield 40, 3) := dk_180 0 40 (dk_at dksX5_map_3 7 rfl rfl)
theorem dX5_map_79 : decode cX5_map 79 = .ok (.getfield 136, 3) := dk_180 0 136 (dk_at dksX5_map_3 10 rfl rfl)
theorem dX5_map_82 : decode cX5_map 82 = .ok (.bipush 6, 2) := dk_16 6 (dk_at dksX5_map_3 13 rfl rfl)
theorem dX5_map_84 : decode cX5_map 84 = .ok (.invokevirtual 138, 3) := dk_182 0 138 (dk_at dksX5_map_3 15 rfl rfl)
theorem dX5_map_87 : decode cX5_map 87 = .ok (.astore 4, 2) := dk_58 4 (dk_at dksX5_map_3 18 rfl rfl)
theorem dX5_map_89 : decode cX5_map 89 = .ok (.aload_n 1, 1) := dk_43 (dk_at dksX5_map_3 20 rfl rfl)
theorem dX5_map_90 : decode cX5_map 90 = .ok (.getfield 141, 3) := dk_180 0 141 (dk_at dksX5_map_3 21 rfl rfl)
theorem dX5_map_93 : decode cX5_map 93 = .ok (.iload_n 2, 1) := dk_28 (dk_at dksX5_map_4 0 rfl rfl)
theorem dX5_map_94 : decode cX5_map 94 = .ok (.aload 4, 2) := dk_25 4 (dk_at dksX5_map_4 1 rfl rfl)
theorem dX5_map_96 : decode cX5_map 96 = .ok (.invokevirtual 79, 3) := dk_182 0 79 (dk_at dksX5_map_4 3 rfl rfl)
theorem dX5_map_99 : decode cX5_map 99 = .ok (.newarray .byte, 2) := dk_188_8 (dk_at dksX5_map_4 6 rfl rfl)
theorem dX5_map_101 : decode cX5_map 101 = .ok (.aastore, 1) := dk_83 (dk_at dksX5_map_4 8 rfl rfl)
theorem dX5_map_102 : decode cX5_map 102 = .ok (.iconst 0, 1) := dk_3 (dk_at dksX5_map_4 9 rfl rfl)
theorem dX5_map_103 : decode cX5_map 103 = .ok (.istore 5, 2) := dk_54 5 (dk_at dksX5_map_4 10 rfl rfl)
theorem dX5_map_105 : decode cX5_map 105 = .ok (.iload 5, 2) := dk_21 5 (dk_at dksX5_map_4 12 rfl rfl)
theorem dX5_map_107 : decode cX5_map 107 = .ok (.aload 4, 2) := dk_25 4 (dk_at dksX5_map_4 14 rfl rfl)
theorem dX5_map_109 : decode cX5_map 109 = .ok (.invokevirtual 79, 3) := dk_182 0 79 (dk_at dksX5_map_4 16 rfl rfl)
theorem dX5_map_112 : decode cX5_map 112 = .ok (.if_icmp .ge 29, 3) := dk_162 0 29 (dk_at dksX5_map_4 19 rfl rfl)
theorem dX5_map_115 : decode cX5_map 115 = .ok (.aload_n 1, 1) := dk_43 (dk_at dksX5_map_4 22 rfl rfl)
theorem dX5_map_116 : decode cX5_map 116 = .ok (.getfield 141, 3) := dk_180 0 141 (dk_at dksX5_map_5 0 rfl rfl)
theorem dX5_map_119 : decode cX5_map 119 = .ok (.iload_n 2, 1) := dk_28 (dk_at dksX5_map_5 3 rfl rfl)
theorem dX5_map_120 : decode cX5_map 120 = .ok (.aaload, 1) := dk_50 (dk_at dksX5_map_5 4 rfl rfl)
theorem dX5_map_121 : decode cX5_map 121 = .ok (.iload 5, 2) := dk_21 5 (dk_at dksX5_map_5 5 rfl rfl)
theorem dX5_map_123 : decode cX5_map 123 = .ok (.aload 4, 2) := dk_25 4 (dk_at dksX5_map_5 7 rfl rfl)
theorem dX5_map_125 : decode cX5_map 125 = .ok (.iload 5, 2) := dk_21 5 (dk_at dksX5_map_5 9 rfl rfl)
theorem dX5_map_127 : decode cX5_map 127 = .ok (.invokevirtual 101, 3) := dk_182 0 101 (dk_at dksX5_map_5 11 rfl rfl)
theorem dX5_map_130 : decode cX5_map 130 = .ok (.bipush 97, 2) := dk_16 97 (dk_at dksX5_map_5 14 rfl rfl)
theorem dX5_map_132 : decode cX5_map 132 = .ok (.isub, 1) := dk_100 (dk_at dksX5_map_5 16 rfl rfl)
theorem dX5_map_133 : decode cX5_map 133 = .ok (.i2b, 1) := dk_145 (dk_at dksX5_map_5 17 rfl rfl)
theorem dX5_map_134 : decode cX5_map 134 = .ok (.bastore, 1) := dk_84 (dk_at dksX5_map_5 18 rfl rfl)
theorem dX5_map_135 : decode cX5_map 135 = .ok (.iinc 5 1, 3) := dk_132 5 1 (dk_at dksX5_map_5 19 rfl rfl)
theorem dX5_map_138 : decode cX5_map 138 = .ok (.goto (-33), 3) := dk_167 255 223 (dk_at dksX5_map_6 0 rfl rfl)
theorem dX5_map_141 : decode cX5_map 141 = .ok (.iinc 2 1, 3) := dk_132 2 1 (dk_at dksX5_map_6 3 rfl rfl)
theorem dX5_map_144 : decode cX5_map 144 = .ok (.goto (-130), 3) := dk_167 255 126 (dk_at dksX5_map_6 6 rfl rfl)
theorem dX5_map_147 : decode cX5_map 147 = .ok (.aload_n 0, 1) := dk_42 (dk_at dksX5_map_6 9 rfl rfl)
theorem dX5_map_148 : decode cX5_map 148 = .ok (.getfield 40, 3) := dk_180 0 40 (dk_at dksX5_map_6 10 rfl rfl)
theorem dX5_map_151 : decode cX5_map 151 = .ok (.getfield 145, 3) := dk_180 0 145 (dk_at dksX5_map_6 13 rfl rfl)
theorem dX5_map_154 : decode cX5_map 154 = .ok (.aload_n 1, 1) := dk_43 (dk_at dksX5_map_6 16 rfl rfl)
theorem dX5_map_155 : decode cX5_map 155 = .ok (.invokevirtual 149, 3) := dk_182 0 149 (dk_at dksX5_map_6 17 rfl rfl)
theorem dX5_map_158 : decode cX5_map 158 = .ok (.pop, 1) := dk_87 (dk_at dksX5_map_6 20 rfl rfl)
theorem dX5_map_159 : decode cX5_map 159 = .ok (.return_, 1) := dk_177 (dk_at dksX5_map_6 21 rfl rfl)
abbrev cX5_name : ByteArray := prog_6_method_9_code
def yX5_name : MethodName := ⟨RX5, "name", "()Ljava/lang/String;"⟩
def dkwX5_name_2 : List UInt8 := [42, 180, 0, 52, 183, 0, 88, 191, 42, 89, 180, 0, 52, 43, 182, 0, 79, 96, 181, 0, 52, 43, 176]
abbrev dktX5_name_2 : List UInt8 := dkwX5_name_2 ++ []
def dkwX5_name_1 : List UInt8 := [43, 185, 0, 107, 2, 0, 154, 0, 14, 42, 180, 0, 40, 43, 182, 0, 110, 153, 0, 15, 187, 0, 86, 89]
abbrev dktX5_name_1 : List UInt8 := dkwX5_name_1 ++ dktX5_name_2
def dkwX5_name_0 : List UInt8 := [42, 182, 0, 70, 76, 43, 182, 0, 79, 133, 10, 20, 0, 105, 184, 0, 97, 153, 0, 27, 42, 180, 0, 31]
abbrev dktX5_name_0 : List UInt8 := dkwX5_name_0 ++ dktX5_name_1
theorem dksX5_name_0 : cX5_name.data.toList.drop 0 = dktX5_name_0 := by decide +kernel
theorem dksX5_name_1 : cX5_name.data.toList.drop 24 = dktX5_name_1 := dk_seg dksX5_name_0 24 rfl rfl
theorem dksX5_name_2 : cX5_name.data.toList.drop 48 = dktX5_name_2 := dk_seg dksX5_name_1 24 rfl rfl
theorem dX5_name_0 : decode cX5_name 0 = .ok (.aload_n 0, 1) := dk_42 (dk_at dksX5_name_0 0 rfl rfl)
theorem dX5_name_1 : decode cX5_name 1 = .ok (.invokevirtual 70, 3) := dk_182 0 70 (dk_at dksX5_name_0 1 rfl rfl)
theorem dX5_name_4 : decode cX5_name 4 = .ok (.astore_n 1, 1) := dk_76 (dk_at dksX5_name_0 4 rfl rfl)
theorem dX5_name_5 : decode cX5_name 5 = .ok (.aload_n 1, 1) := dk_43 (dk_at dksX5_name_0 5 rfl rfl)
theorem dX5_name_6 : decode cX5_name 6 = .ok (.invokevirtual 79, 3) := dk_182 0 79 (dk_at dksX5_name_0 6 rfl rfl)
theorem dX5_name_9 : decode cX5_name 9 = .ok (.i2l, 1) := dk_133 (dk_at dksX5_name_0 9 rfl rfl)
theorem dX5_name_10 : decode cX5_name 10 = .ok (.lconst 1, 1) := dk_10 (dk_at dksX5_name_0 10 rfl rfl)
theorem dX5_name_11 : decode cX5_name 11 = .ok (.ldc2_w 105, 3) := dk_20 0 105 (dk_at dksX5_name_0 11 rfl rfl)
theorem dX5_name_14 : decode cX5_name 14 = .ok (.invokestatic 97, 3) := dk_184 0 97 (dk_at dksX5_name_0 14 rfl rfl)
theorem dX5_name_17 : decode cX5_name 17 = .ok (.ifCond .eq 27, 3) := dk_153 0 27 (dk_at dksX5_name_0 17 rfl rfl)
theorem dX5_name_20 : decode cX5_name 20 = .ok (.aload_n 0, 1) := dk_42 (dk_at dksX5_name_0 20 rfl rfl)
theorem dX5_name_21 : decode cX5_name 21 = .ok (.getfield 31, 3) := dk_180 0 31 (dk_at dksX5_name_0 21 rfl rfl)
theorem dX5_name_24 : decode cX5_name 24 = .ok (.aload_n 1, 1) := dk_43 (dk_at dksX5_name_1 0 rfl rfl)
theorem dX5_name_25 : decode cX5_name 25 = .ok (.invokeinterface 107 2, 5) := by decide +kernel
theorem dX5_name_30 : decode cX5_name 30 = .ok (.ifCond .ne 14, 3) := dk_154 0 14 (dk_at dksX5_name_1 6 rfl rfl)
theorem dX5_name_33 : decode cX5_name 33 = .ok (.aload_n 0, 1) := dk_42 (dk_at dksX5_name_1 9 rfl rfl)
theorem dX5_name_34 : decode cX5_name 34 = .ok (.getfield 40, 3) := dk_180 0 40 (dk_at dksX5_name_1 10 rfl rfl)
theorem dX5_name_37 : decode cX5_name 37 = .ok (.aload_n 1, 1) := dk_43 (dk_at dksX5_name_1 13 rfl rfl)
theorem dX5_name_38 : decode cX5_name 38 = .ok (.invokevirtual 110, 3) := dk_182 0 110 (dk_at dksX5_name_1 14 rfl rfl)
theorem dX5_name_41 : decode cX5_name 41 = .ok (.ifCond .eq 15, 3) := dk_153 0 15 (dk_at dksX5_name_1 17 rfl rfl)
theorem dX5_name_44 : decode cX5_name 44 = .ok (.new 86, 3) := dk_187 0 86 (dk_at dksX5_name_1 20 rfl rfl)
theorem dX5_name_47 : decode cX5_name 47 = .ok (.dup, 1) := dk_89 (dk_at dksX5_name_1 23 rfl rfl)
theorem dX5_name_48 : decode cX5_name 48 = .ok (.aload_n 0, 1) := dk_42 (dk_at dksX5_name_2 0 rfl rfl)
theorem dX5_name_49 : decode cX5_name 49 = .ok (.getfield 52, 3) := dk_180 0 52 (dk_at dksX5_name_2 1 rfl rfl)
theorem dX5_name_52 : decode cX5_name 52 = .ok (.invokespecial 88, 3) := dk_183 0 88 (dk_at dksX5_name_2 4 rfl rfl)
theorem dX5_name_55 : decode cX5_name 55 = .ok (.athrow, 1) := dk_191 (dk_at dksX5_name_2 7 rfl rfl)
theorem dX5_name_56 : decode cX5_name 56 = .ok (.aload_n 0, 1) := dk_42 (dk_at dksX5_name_2 8 rfl rfl)
theorem dX5_name_57 : decode cX5_name 57 = .ok (.dup, 1) := dk_89 (dk_at dksX5_name_2 9 rfl rfl)
theorem dX5_name_58 : decode cX5_name 58 = .ok (.getfield 52, 3) := dk_180 0 52 (dk_at dksX5_name_2 10 rfl rfl)
theorem dX5_name_61 : decode cX5_name 61 = .ok (.aload_n 1, 1) := dk_43 (dk_at dksX5_name_2 13 rfl rfl)
theorem dX5_name_62 : decode cX5_name 62 = .ok (.invokevirtual 79, 3) := dk_182 0 79 (dk_at dksX5_name_2 14 rfl rfl)
theorem dX5_name_65 : decode cX5_name 65 = .ok (.iadd, 1) := dk_96 (dk_at dksX5_name_2 17 rfl rfl)
theorem dX5_name_66 : decode cX5_name 66 = .ok (.putfield 52, 3) := dk_181 0 52 (dk_at dksX5_name_2 18 rfl rfl)
theorem dX5_name_69 : decode cX5_name 69 = .ok (.aload_n 1, 1) := dk_43 (dk_at dksX5_name_2 21 rfl rfl)
theorem dX5_name_70 : decode cX5_name 70 = .ok (.areturn, 1) := dk_176 (dk_at dksX5_name_2 22 rfl rfl)
abbrev cX5_letters : ByteArray := prog_6_method_8_code
def yX5_letters : MethodName := ⟨RX5, "letters", "(CII)Ljava/lang/String;"⟩
def dkwX5_letters_4 : List UInt8 := [180, 0, 52, 25, 4, 182, 0, 79, 96, 181, 0, 52, 25, 4, 176]
abbrev dktX5_letters_4 : List UInt8 := dkwX5_letters_4 ++ []
def dkwX5_letters_3 : List UInt8 := [167, 255, 210, 21, 5, 154, 0, 15, 187, 0, 86, 89, 42, 180, 0, 52, 183, 0, 88, 191, 42, 89]
abbrev dktX5_letters_3 : List UInt8 := dkwX5_letters_3 ++ dktX5_letters_4
def dkwX5_letters_2 : List UInt8 := [133, 9, 28, 4, 100, 133, 184, 0, 97, 153, 0, 7, 4, 167, 0, 4, 3, 54, 5, 132, 6, 1]
abbrev dktX5_letters_2 : List UInt8 := dkwX5_letters_2 ++ dktX5_letters_3
def dkwX5_letters_1 : List UInt8 := [21, 6, 25, 4, 182, 0, 79, 162, 0, 42, 21, 5, 153, 0, 28, 25, 4, 21, 6, 182, 0, 101, 27, 100]
abbrev dktX5_letters_1 : List UInt8 := dkwX5_letters_1 ++ dktX5_letters_2
def dkwX5_letters_0 : List UInt8 := [42, 182, 0, 70, 58, 4, 25, 4, 182, 0, 79, 133, 10, 29, 133, 184, 0, 97, 54, 5, 3, 54, 6]
abbrev dktX5_letters_0 : List UInt8 := dkwX5_letters_0 ++ dktX5_letters_1
theorem dksX5_letters_0 : cX5_letters.data.toList.drop 0 = dktX5_letters_0 := by decide +kernel
theorem dksX5_letters_1 : cX5_letters.data.toList.drop 23 = dktX5_letters_1 := dk_seg dksX5_letters_0 23 rfl rfl
theorem dksX5_letters_2 : cX5_letters.data.toList.drop 47 = dktX5_letters_2 := dk_seg dksX5_letters_1 24 rfl rfl
theorem dksX5_letters_3 : cX5_letters.data.toList.drop 69 = dktX5_letters_3 := dk_seg dksX5_letters_2 22 rfl rfl
theorem dksX5_letters_4 : cX5_letters.data.toList.drop 91 = dktX5_letters_4 := dk_seg dksX5_letters_3 22 rfl rfl
theorem dX5_letters_0 : decode cX5_letters 0 = .ok (.aload_n 0, 1) := dk_42 (dk_at dksX5_letters_0 0 rfl rfl)
theorem dX5_letters_1 : decode cX5_letters 1 = .ok (.invokevirtual 70, 3) := dk_182 0 70 (dk_at dksX5_letters_0 1 rfl rfl)
theorem dX5_letters_4 : decode cX5_letters 4 = .ok (.astore 4, 2) := dk_58 4 (dk_at dksX5_letters_0 4 rfl rfl)
theorem dX5_letters_6 : decode cX5_letters 6 = .ok (.aload 4, 2) := dk_25 4 (dk_at dksX5_letters_0 6 rfl rfl)
theorem dX5_letters_8 : decode cX5_letters 8 = .ok (.invokevirtual 79, 3) := dk_182 0 79 (dk_at dksX5_letters_0 8 rfl rfl)
theorem dX5_letters_11 : decode cX5_letters 11 = .ok (.i2l, 1) := dk_133 (dk_at dksX5_letters_0 11 rfl rfl)
theorem dX5_letters_12 : decode cX5_letters 12 = .ok (.lconst 1, 1) := dk_10 (dk_at dksX5_letters_0 12 rfl rfl)
theorem dX5_letters_13 : decode cX5_letters 13 = .ok (.iload_n 3, 1) := dk_29 (dk_at dksX5_letters_0 13 rfl rfl)
theorem dX5_letters_14 : decode cX5_letters 14 = .ok (.i2l, 1) := dk_133 (dk_at dksX5_letters_0 14 rfl rfl)
theorem dX5_letters_15 : decode cX5_letters 15 = .ok (.invokestatic 97, 3) := dk_184 0 97 (dk_at dksX5_letters_0 15 rfl rfl)
theorem dX5_letters_18 : decode cX5_letters 18 = .ok (.istore 5, 2) := dk_54 5 (dk_at dksX5_letters_0 18 rfl rfl)
theorem dX5_letters_20 : decode cX5_letters 20 = .ok (.iconst 0, 1) := dk_3 (dk_at dksX5_letters_0 20 rfl rfl)
theorem dX5_letters_21 : decode cX5_letters 21 = .ok (.istore 6, 2) := dk_54 6 (dk_at dksX5_letters_0 21 rfl rfl)
theorem dX5_letters_23 : decode cX5_letters 23 = .ok (.iload 6, 2) := dk_21 6 (dk_at dksX5_letters_1 0 rfl rfl)
theorem dX5_letters_25 : decode cX5_letters 25 = .ok (.aload 4, 2) := dk_25 4 (dk_at dksX5_letters_1 2 rfl rfl)
theorem dX5_letters_27 : decode cX5_letters 27 = .ok (.invokevirtual 79, 3) := dk_182 0 79 (dk_at dksX5_letters_1 4 rfl rfl)
theorem dX5_letters_30 : decode cX5_letters 30 = .ok (.if_icmp .ge 42, 3) := dk_162 0 42 (dk_at dksX5_letters_1 7 rfl rfl)
theorem dX5_letters_33 : decode cX5_letters 33 = .ok (.iload 5, 2) := dk_21 5 (dk_at dksX5_letters_1 10 rfl rfl)
theorem dX5_letters_35 : decode cX5_letters 35 = .ok (.ifCond .eq 28, 3) := dk_153 0 28 (dk_at dksX5_letters_1 12 rfl rfl)
theorem dX5_letters_38 : decode cX5_letters 38 = .ok (.aload 4, 2) := dk_25 4 (dk_at dksX5_letters_1 15 rfl rfl)
theorem dX5_letters_40 : decode cX5_letters 40 = .ok (.iload 6, 2) := dk_21 6 (dk_at dksX5_letters_1 17 rfl rfl)
theorem dX5_letters_42 : decode cX5_letters 42 = .ok (.invokevirtual 101, 3) := dk_182 0 101 (dk_at dksX5_letters_1 19 rfl rfl)
theorem dX5_letters_45 : decode cX5_letters 45 = .ok (.iload_n 1, 1) := dk_27 (dk_at dksX5_letters_1 22 rfl rfl)
theorem dX5_letters_46 : decode cX5_letters 46 = .ok (.isub, 1) := dk_100 (dk_at dksX5_letters_1 23 rfl rfl)
theorem dX5_letters_47 : decode cX5_letters 47 = .ok (.i2l, 1) := dk_133 (dk_at dksX5_letters_2 0 rfl rfl)
theorem dX5_letters_48 : decode cX5_letters 48 = .ok (.lconst 0, 1) := dk_9 (dk_at dksX5_letters_2 1 rfl rfl)
theorem dX5_letters_49 : decode cX5_letters 49 = .ok (.iload_n 2, 1) := dk_28 (dk_at dksX5_letters_2 2 rfl rfl)
theorem dX5_letters_50 : decode cX5_letters 50 = .ok (.iconst 1, 1) := dk_4 (dk_at dksX5_letters_2 3 rfl rfl)
theorem dX5_letters_51 : decode cX5_letters 51 = .ok (.isub, 1) := dk_100 (dk_at dksX5_letters_2 4 rfl rfl)
theorem dX5_letters_52 : decode cX5_letters 52 = .ok (.i2l, 1) := dk_133 (dk_at dksX5_letters_2 5 rfl rfl)
theorem dX5_letters_53 : decode cX5_letters 53 = .ok (.invokestatic 97, 3) := dk_184 0 97 (dk_at dksX5_letters_2 6 rfl rfl)
theorem dX5_letters_56 : decode cX5_letters 56 = .ok (.ifCond .eq 7, 3) := dk_153 0 7 (dk_at dksX5_letters_2 9 rfl rfl)
theorem dX5_letters_59 : decode cX5_letters 59 = .ok (.iconst 1, 1) := dk_4 (dk_at dksX5_letters_2 12 rfl rfl)
theorem dX5_letters_60 : decode cX5_letters 60 = .ok (.goto 4, 3) := dk_167 0 4 (dk_at dksX5_letters_2 13 rfl rfl)
theorem dX5_letters_63 : decode cX5_letters 63 = .ok (.iconst 0, 1) := dk_3 (dk_at dksX5_letters_2 16 rfl rfl)
theorem dX5_letters_64 : decode cX5_letters 64 = .ok (.istore 5, 2) := dk_54 5 (dk_at dksX5_letters_2 17 rfl rfl)
theorem dX5_letters_66 : decode cX5_letters 66 = .ok (.iinc 6 1, 3) := dk_132 6 1 (dk_at dksX5_letters_2 19 rfl rfl)
theorem dX5_letters_69 : decode cX5_letters 69 = .ok (.goto (-46), 3) := dk_167 255 210 (dk_at dksX5_letters_3 0 rfl rfl)
theorem dX5_letters_72 : decode cX5_letters 72 = .ok (.iload 5, 2) := dk_21 5 (dk_at dksX5_letters_3 3 rfl rfl)
theorem dX5_letters_74 : decode cX5_letters 74 = .ok (.ifCond .ne 15, 3) := dk_154 0 15 (dk_at dksX5_letters_3 5 rfl rfl)
theorem dX5_letters_77 : decode cX5_letters 77 = .ok (.new 86, 3) := dk_187 0 86 (dk_at dksX5_letters_3 8 rfl rfl)
theorem dX5_letters_80 : decode cX5_letters 80 = .ok (.dup, 1) := dk_89 (dk_at dksX5_letters_3 11 rfl rfl)
theorem dX5_letters_81 : decode cX5_letters 81 = .ok (.aload_n 0, 1) := dk_42 (dk_at dksX5_letters_3 12 rfl rfl)
theorem dX5_letters_82 : decode cX5_letters 82 = .ok (.getfield 52, 3) := dk_180 0 52 (dk_at dksX5_letters_3 13 rfl rfl)
theorem dX5_letters_85 : decode cX5_letters 85 = .ok (.invokespecial 88, 3) := dk_183 0 88 (dk_at dksX5_letters_3 16 rfl rfl)
theorem dX5_letters_88 : decode cX5_letters 88 = .ok (.athrow, 1) := dk_191 (dk_at dksX5_letters_3 19 rfl rfl)
theorem dX5_letters_89 : decode cX5_letters 89 = .ok (.aload_n 0, 1) := dk_42 (dk_at dksX5_letters_3 20 rfl rfl)
theorem dX5_letters_90 : decode cX5_letters 90 = .ok (.dup, 1) := dk_89 (dk_at dksX5_letters_3 21 rfl rfl)
theorem dX5_letters_91 : decode cX5_letters 91 = .ok (.getfield 52, 3) := dk_180 0 52 (dk_at dksX5_letters_4 0 rfl rfl)
theorem dX5_letters_94 : decode cX5_letters 94 = .ok (.aload 4, 2) := dk_25 4 (dk_at dksX5_letters_4 3 rfl rfl)
theorem dX5_letters_96 : decode cX5_letters 96 = .ok (.invokevirtual 79, 3) := dk_182 0 79 (dk_at dksX5_letters_4 5 rfl rfl)
theorem dX5_letters_99 : decode cX5_letters 99 = .ok (.iadd, 1) := dk_96 (dk_at dksX5_letters_4 8 rfl rfl)
theorem dX5_letters_100 : decode cX5_letters 100 = .ok (.putfield 52, 3) := dk_181 0 52 (dk_at dksX5_letters_4 9 rfl rfl)
theorem dX5_letters_103 : decode cX5_letters 103 = .ok (.aload 4, 2) := dk_25 4 (dk_at dksX5_letters_4 12 rfl rfl)
theorem dX5_letters_105 : decode cX5_letters 105 = .ok (.areturn, 1) := dk_176 (dk_at dksX5_letters_4 14 rfl rfl)
theorem q125 : (Jvm.Cond.initialized "RepeatFree$Reader") ∈ lw_all := lw_g (lw_at lw_m1 10 rfl) rfl
theorem q217 : (Jvm.Cond.fieldLinkNest "RepeatFree$Reader" (145 : Nat) "RepeatFree$Told" "maps" "Ljava/util/LinkedList;" "RepeatFree") ∈ lw_tbl := lw_at lw_m1 102 rfl
theorem q220 : (Jvm.Cond.fieldLinkNest "RepeatFree$Reader" (156 : Nat) "RepeatFree$Told" "patterns" "Ljava/util/LinkedList;" "RepeatFree") ∈ lw_tbl := lw_at lw_m1 105 rfl
theorem q224 : (Jvm.Cond.fieldLinkNest "RepeatFree$Reader" (136 : Nat) "RepeatFree$Told" "letters" "I" "RepeatFree") ∈ lw_tbl := lw_at lw_m1 109 rfl
theorem q226 : (Jvm.Cond.fieldLinkNest "RepeatFree$Reader" (126 : Nat) "RepeatFree$Told" "limit" "LRepeatFree$Limit;" "RepeatFree") ∈ lw_tbl := lw_at lw_m1 111 rfl
theorem q639 : (Jvm.Cond.instantiable "RepeatFree$Reader" (5 : Nat)) ∈ lw_all := lw_g (lw_at lw_m3 44 rfl) rfl
theorem q641 : (Jvm.Cond.instanceMethod ({ cls := "RepeatFree$Reader", name := "<init>", desc := "([BI)V" } : Jvm.MethodName)) ∈ lw_all := lw_g (lw_at lw_m3 46 rfl) rfl
theorem q642 : (Jvm.Cond.code ({ cls := "RepeatFree$Reader", name := "<init>", desc := "([BI)V" } : Jvm.MethodName) prog_6_method_1_code (3 : Nat) (Option.none : Option Jvm.ClassFile.FieldType)) ∈ lw_all := lw_g (lw_at lw_m3 47 rfl) rfl
theorem q643 : (Jvm.Cond.methodLink "RepeatFree$Reader" (3 : Nat) ({ cls := "java/lang/Object", name := "<init>", desc := "()V" } : Jvm.MethodName)) ∈ lw_all := lw_g (lw_at lw_m3 48 rfl) rfl
theorem q644 : (Jvm.Cond.stringRef "RepeatFree$Reader" (9 : Nat) "letters") ∈ lw_tbl := lw_at lw_m3 49 rfl
theorem q645 : (Jvm.Cond.stringRef "RepeatFree$Reader" (11 : Nat) "limit") ∈ lw_tbl := lw_at lw_m3 50 rfl
theorem q646 : (Jvm.Cond.stringRef "RepeatFree$Reader" (13 : Nat) "under") ∈ lw_tbl := lw_at lw_m3 51 rfl
theorem q647 : (Jvm.Cond.stringRef "RepeatFree$Reader" (15 : Nat) "upto") ∈ lw_tbl := lw_at lw_m3 52 rfl
theorem q648 : (Jvm.Cond.stringRef "RepeatFree$Reader" (17 : Nat) "over") ∈ lw_tbl := lw_at lw_m3 53 rfl
theorem q649 : (Jvm.Cond.stringRef "RepeatFree$Reader" (19 : Nat) "map") ∈ lw_tbl := lw_at lw_m3 54 rfl
theorem q650 : (Jvm.Cond.stringRef "RepeatFree$Reader" (21 : Nat) "pattern") ∈ lw_tbl := lw_at lw_m3 55 rfl
theorem q651 : (Jvm.Cond.stringRef "RepeatFree$Reader" (23 : Nat) "avoid") ∈ lw_tbl := lw_at lw_m3 56 rfl
theorem q652 : (Jvm.Cond.methodLink "RepeatFree$Reader" (25 : Nat) ({ cls := "java/util/List", name := "of", desc := "(Ljava/lang/Object;Ljava/lang/Object;Ljava/lang/Object;Ljava/lang/Object;Ljava/lang/Object;Ljava/lang/Object;Ljava/lang/Object;Ljava/lang/Object;)Ljava/util/List;" } : Jvm.MethodName)) ∈ lw_all := lw_g (lw_at lw_m3 57 rfl) rfl
theorem q668 : (Jvm.Cond.selects "RepeatFree$Reader" ({ cls := "java/lang/Object", name := "getClass", desc := "()Ljava/lang/Class;" } : Jvm.MethodName) ({ cls := "java/lang/Object", name := "getClass", desc := "()Ljava/lang/Class;" } : Jvm.MethodName)) ∈ lw_all := lw_g (lw_at lw_m3 73 rfl) rfl
theorem q738 : (Jvm.Cond.classLink "RepeatFree$Reader" (37 : Nat) "RepeatFree$Told") ∈ lw_all := lw_g (lw_at lw_m3 143 rfl) rfl
theorem q739 : (Jvm.Cond.methodLinkNest "RepeatFree$Reader" (39 : Nat) ({ cls := "RepeatFree$Told", name := "<init>", desc := "()V" } : Jvm.MethodName) "RepeatFree") ∈ lw_tbl := lw_at lw_m3 144 rfl
theorem q740 : (Jvm.Cond.fieldLink "RepeatFree$Reader" (31 : Nat) "RepeatFree$Reader" "own" "Ljava/util/List;") ∈ lw_all := lw_g (lw_at lw_m3 145 rfl) rfl
theorem q741 : (Jvm.Cond.fieldLink "RepeatFree$Reader" (44 : Nat) "RepeatFree$Reader" "text" "[B") ∈ lw_all := lw_g (lw_at lw_m3 146 rfl) rfl
theorem q742 : (Jvm.Cond.fieldLink "RepeatFree$Reader" (48 : Nat) "RepeatFree$Reader" "size" "I") ∈ lw_all := lw_g (lw_at lw_m3 147 rfl) rfl
theorem q743 : (Jvm.Cond.fieldLink "RepeatFree$Reader" (40 : Nat) "RepeatFree$Reader" "told" "LRepeatFree$Told;") ∈ lw_all := lw_g (lw_at lw_m3 148 rfl) rfl
theorem q744 : (Jvm.Cond.fieldLink "RepeatFree$Reader" (52 : Nat) "RepeatFree$Reader" "at" "I") ∈ lw_all := lw_g (lw_at lw_m3 149 rfl) rfl
theorem q745 : (Jvm.Cond.laysFinal "RepeatFree$Reader" "RepeatFree$Reader" "own" "Ljava/util/List;") ∈ lw_all := lw_g (lw_at lw_m3 150 rfl) rfl
theorem q746 : (Jvm.Cond.soleField "RepeatFree$Reader" "own") ∈ lw_all := lw_g (lw_at lw_m3 151 rfl) rfl
theorem q747 : (Jvm.Cond.laysFinal "RepeatFree$Reader" "RepeatFree$Reader" "text" "[B") ∈ lw_all := lw_g (lw_at lw_m3 152 rfl) rfl
theorem q748 : (Jvm.Cond.soleField "RepeatFree$Reader" "text") ∈ lw_all := lw_g (lw_at lw_m3 153 rfl) rfl
theorem q749 : (Jvm.Cond.laysFinal "RepeatFree$Reader" "RepeatFree$Reader" "size" "I") ∈ lw_all := lw_g (lw_at lw_m3 154 rfl) rfl
theorem q750 : (Jvm.Cond.soleField "RepeatFree$Reader" "size") ∈ lw_all := lw_g (lw_at lw_m3 155 rfl) rfl
theorem q751 : (Jvm.Cond.laysFinal "RepeatFree$Reader" "RepeatFree$Reader" "told" "LRepeatFree$Told;") ∈ lw_all := lw_g (lw_at lw_m3 156 rfl) rfl
theorem q752 : (Jvm.Cond.soleField "RepeatFree$Reader" "told") ∈ lw_all := lw_g (lw_at lw_m3 157 rfl) rfl
theorem q753 : (Jvm.Cond.lays "RepeatFree$Reader" "RepeatFree$Reader" "at" "I") ∈ lw_all := lw_g (lw_at lw_m3 158 rfl) rfl
theorem q754 : (Jvm.Cond.soleField "RepeatFree$Reader" "at") ∈ lw_all := lw_g (lw_at lw_m3 159 rfl) rfl
theorem q755 : (Jvm.Cond.superclass "RepeatFree$Reader" "java/lang/Object") ∈ lw_all := lw_g (lw_at lw_m3 160 rfl) rfl
theorem q757 : (Jvm.Cond.instanceMethod ({ cls := "RepeatFree$Reader", name := "whole", desc := "()LRepeatFree$Told;" } : Jvm.MethodName)) ∈ lw_all := lw_g (lw_at lw_m3 162 rfl) rfl
theorem q758 : (Jvm.Cond.selects "RepeatFree$Reader" ({ cls := "RepeatFree$Reader", name := "whole", desc := "()LRepeatFree$Told;" } : Jvm.MethodName) ({ cls := "RepeatFree$Reader", name := "whole", desc := "()LRepeatFree$Told;" } : Jvm.MethodName)) ∈ lw_all := lw_g (lw_at lw_m3 163 rfl) rfl
theorem q759 : (Jvm.Cond.code ({ cls := "RepeatFree$Reader", name := "whole", desc := "()LRepeatFree$Told;" } : Jvm.MethodName) prog_6_method_13_code (1 : Nat) (Option.some (Jvm.ClassFile.FieldType.object "RepeatFree$Told"))) ∈ lw_all := lw_g (lw_at lw_m3 164 rfl) rfl
theorem q760 : (Jvm.Cond.methodLink "RepeatFree$Reader" (113 : Nat) ({ cls := "RepeatFree$Reader", name := "needs", desc := "(Ljava/lang/String;)V" } : Jvm.MethodName)) ∈ lw_all := lw_g (lw_at lw_m3 165 rfl) rfl
theorem q761 : (Jvm.Cond.privateMethod ({ cls := "RepeatFree$Reader", name := "needs", desc := "(Ljava/lang/String;)V" } : Jvm.MethodName)) ∈ lw_tbl := lw_at lw_m3 166 rfl
theorem q762 : (Jvm.Cond.instanceMethod ({ cls := "RepeatFree$Reader", name := "needs", desc := "(Ljava/lang/String;)V" } : Jvm.MethodName)) ∈ lw_all := lw_g (lw_at lw_m3 167 rfl) rfl
theorem q763 : (Jvm.Cond.code ({ cls := "RepeatFree$Reader", name := "needs", desc := "(Ljava/lang/String;)V" } : Jvm.MethodName) prog_6_method_5_code (2 : Nat) (Option.none : Option Jvm.ClassFile.FieldType)) ∈ lw_all := lw_g (lw_at lw_m3 168 rfl) rfl
theorem q764 : (Jvm.Cond.methodLink "RepeatFree$Reader" (82 : Nat) ({ cls := "RepeatFree$Reader", name := "takes", desc := "(Ljava/lang/String;)Z" } : Jvm.MethodName)) ∈ lw_all := lw_g (lw_at lw_m3 169 rfl) rfl
theorem q765 : (Jvm.Cond.privateMethod ({ cls := "RepeatFree$Reader", name := "takes", desc := "(Ljava/lang/String;)Z" } : Jvm.MethodName)) ∈ lw_tbl := lw_at lw_m3 170 rfl
theorem q766 : (Jvm.Cond.instanceMethod ({ cls := "RepeatFree$Reader", name := "takes", desc := "(Ljava/lang/String;)Z" } : Jvm.MethodName)) ∈ lw_all := lw_g (lw_at lw_m3 171 rfl) rfl
theorem q767 : (Jvm.Cond.code ({ cls := "RepeatFree$Reader", name := "takes", desc := "(Ljava/lang/String;)Z" } : Jvm.MethodName) prog_6_method_4_code (2 : Nat) (Option.some Jvm.ClassFile.FieldType.boolean)) ∈ lw_all := lw_g (lw_at lw_m3 172 rfl) rfl
theorem q768 : (Jvm.Cond.methodLink "RepeatFree$Reader" (70 : Nat) ({ cls := "RepeatFree$Reader", name := "word", desc := "()Ljava/lang/String;" } : Jvm.MethodName)) ∈ lw_all := lw_g (lw_at lw_m3 173 rfl) rfl
theorem q769 : (Jvm.Cond.privateMethod ({ cls := "RepeatFree$Reader", name := "word", desc := "()Ljava/lang/String;" } : Jvm.MethodName)) ∈ lw_tbl := lw_at lw_m3 174 rfl
theorem q770 : (Jvm.Cond.instanceMethod ({ cls := "RepeatFree$Reader", name := "word", desc := "()Ljava/lang/String;" } : Jvm.MethodName)) ∈ lw_all := lw_g (lw_at lw_m3 175 rfl) rfl
theorem q771 : (Jvm.Cond.code ({ cls := "RepeatFree$Reader", name := "word", desc := "()Ljava/lang/String;" } : Jvm.MethodName) prog_6_method_3_code (4 : Nat) (Option.some (Jvm.ClassFile.FieldType.object "java/lang/String"))) ∈ lw_all := lw_g (lw_at lw_m3 176 rfl) rfl
theorem q772 : (Jvm.Cond.methodLink "RepeatFree$Reader" (55 : Nat) ({ cls := "RepeatFree$Reader", name := "here", desc := "()I" } : Jvm.MethodName)) ∈ lw_all := lw_g (lw_at lw_m3 177 rfl) rfl
theorem q773 : (Jvm.Cond.privateMethod ({ cls := "RepeatFree$Reader", name := "here", desc := "()I" } : Jvm.MethodName)) ∈ lw_tbl := lw_at lw_m3 178 rfl
theorem q774 : (Jvm.Cond.instanceMethod ({ cls := "RepeatFree$Reader", name := "here", desc := "()I" } : Jvm.MethodName)) ∈ lw_all := lw_g (lw_at lw_m3 179 rfl) rfl
theorem q775 : (Jvm.Cond.code ({ cls := "RepeatFree$Reader", name := "here", desc := "()I" } : Jvm.MethodName) prog_6_method_2_code (1 : Nat) (Option.some Jvm.ClassFile.FieldType.int)) ∈ lw_all := lw_g (lw_at lw_m3 180 rfl) rfl
theorem q776 : (Jvm.Cond.classLink "RepeatFree$Reader" (59 : Nat) "java/lang/StringBuilder") ∈ lw_all := lw_g (lw_at lw_m3 181 rfl) rfl
theorem q778 : (Jvm.Cond.methodLink "RepeatFree$Reader" (61 : Nat) ({ cls := "java/lang/StringBuilder", name := "<init>", desc := "()V" } : Jvm.MethodName)) ∈ lw_all := lw_g (lw_at lw_m3 183 rfl) rfl
theorem q806 : (Jvm.Cond.methodLink "RepeatFree$Reader" (62 : Nat) ({ cls := "java/lang/StringBuilder", name := "append", desc := "(C)Ljava/lang/StringBuilder;" } : Jvm.MethodName)) ∈ lw_all := lw_g (lw_at lw_m3 211 rfl) rfl
theorem q875 : (Jvm.Cond.methodLink "RepeatFree$Reader" (66 : Nat) ({ cls := "java/lang/StringBuilder", name := "toString", desc := "()Ljava/lang/String;" } : Jvm.MethodName)) ∈ lw_all := lw_g (lw_at lw_m4 40 rfl) rfl
theorem q1025 : (Jvm.Cond.methodLink "RepeatFree$Reader" (73 : Nat) ({ cls := "java/lang/String", name := "equals", desc := "(Ljava/lang/Object;)Z" } : Jvm.MethodName)) ∈ lw_all := lw_g (lw_at lw_m4 190 rfl) rfl
theorem q1033 : (Jvm.Cond.methodLink "RepeatFree$Reader" (79 : Nat) ({ cls := "java/lang/String", name := "length", desc := "()I" } : Jvm.MethodName)) ∈ lw_all := lw_g (lw_at lw_m4 198 rfl) rfl
theorem q1034 : (Jvm.Cond.classLink "RepeatFree$Reader" (86 : Nat) "RepeatFree$Wrong") ∈ lw_all := lw_g (lw_at lw_m4 199 rfl) rfl
theorem q1043 : (Jvm.Cond.methodLink "RepeatFree$Reader" (88 : Nat) ({ cls := "RepeatFree$Wrong", name := "<init>", desc := "(I)V" } : Jvm.MethodName)) ∈ lw_all := lw_g (lw_at lw_m4 208 rfl) rfl
theorem q1058 : (Jvm.Cond.methodLink "RepeatFree$Reader" (117 : Nat) ({ cls := "RepeatFree$Reader", name := "number", desc := "(III)I" } : Jvm.MethodName)) ∈ lw_all := lw_g (lw_at lw_m4 223 rfl) rfl
theorem q1059 : (Jvm.Cond.privateMethod ({ cls := "RepeatFree$Reader", name := "number", desc := "(III)I" } : Jvm.MethodName)) ∈ lw_tbl := lw_at lw_m4 224 rfl
theorem q1060 : (Jvm.Cond.instanceMethod ({ cls := "RepeatFree$Reader", name := "number", desc := "(III)I" } : Jvm.MethodName)) ∈ lw_all := lw_g (lw_at lw_m4 225 rfl) rfl
theorem q1061 : (Jvm.Cond.code ({ cls := "RepeatFree$Reader", name := "number", desc := "(III)I" } : Jvm.MethodName) prog_6_method_7_code (7 : Nat) (Option.some Jvm.ClassFile.FieldType.int)) ∈ lw_all := lw_g (lw_at lw_m4 226 rfl) rfl
theorem q1062 : (Jvm.Cond.methodLink "RepeatFree$Reader" (91 : Nat) ({ cls := "java/lang/Math", name := "min", desc := "(II)I" } : Jvm.MethodName)) ∈ lw_all := lw_g (lw_at lw_m4 227 rfl) rfl
theorem q1063 : (Jvm.Cond.methodLinkNest "RepeatFree$Reader" (97 : Nat) ({ cls := "RepeatFree", name := "isIn", desc := "(JJJ)Z" } : Jvm.MethodName) "RepeatFree") ∈ lw_tbl := lw_at lw_m4 228 rfl
theorem q1064 : (Jvm.Cond.methodLink "RepeatFree$Reader" (179 : Nat) ({ cls := "RepeatFree$Reader", name := "ends", desc := "()V" } : Jvm.MethodName)) ∈ lw_all := lw_g (lw_at lw_m4 229 rfl) rfl
theorem q1065 : (Jvm.Cond.privateMethod ({ cls := "RepeatFree$Reader", name := "ends", desc := "()V" } : Jvm.MethodName)) ∈ lw_tbl := lw_at lw_m4 230 rfl
theorem q1066 : (Jvm.Cond.instanceMethod ({ cls := "RepeatFree$Reader", name := "ends", desc := "()V" } : Jvm.MethodName)) ∈ lw_all := lw_g (lw_at lw_m4 231 rfl) rfl
theorem q1067 : (Jvm.Cond.code ({ cls := "RepeatFree$Reader", name := "ends", desc := "()V" } : Jvm.MethodName) prog_6_method_6_code (1 : Nat) (Option.none : Option Jvm.ClassFile.FieldType)) ∈ lw_all := lw_g (lw_at lw_m4 232 rfl) rfl
theorem q1068 : (Jvm.Cond.methodLink "RepeatFree$Reader" (182 : Nat) ({ cls := "RepeatFree$Reader", name := "line", desc := "()V" } : Jvm.MethodName)) ∈ lw_all := lw_g (lw_at lw_m4 233 rfl) rfl
theorem q1069 : (Jvm.Cond.privateMethod ({ cls := "RepeatFree$Reader", name := "line", desc := "()V" } : Jvm.MethodName)) ∈ lw_tbl := lw_at lw_m4 234 rfl
theorem q1070 : (Jvm.Cond.instanceMethod ({ cls := "RepeatFree$Reader", name := "line", desc := "()V" } : Jvm.MethodName)) ∈ lw_all := lw_g (lw_at lw_m4 235 rfl) rfl
theorem q1071 : (Jvm.Cond.code ({ cls := "RepeatFree$Reader", name := "line", desc := "()V" } : Jvm.MethodName) prog_6_method_12_code (7 : Nat) (Option.none : Option Jvm.ClassFile.FieldType)) ∈ lw_all := lw_g (lw_at lw_m4 236 rfl) rfl
theorem q1072 : (Jvm.Cond.methodLink "RepeatFree$Reader" (154 : Nat) ({ cls := "java/util/LinkedList", name := "size", desc := "()I" } : Jvm.MethodName)) ∈ lw_all := lw_g (lw_at lw_m4 237 rfl) rfl
theorem q1073 : (Jvm.Cond.methodLink "RepeatFree$Reader" (159 : Nat) ({ cls := "java/lang/String", name := "hashCode", desc := "()I" } : Jvm.MethodName)) ∈ lw_all := lw_g (lw_at lw_m4 238 rfl) rfl
theorem q1130 : (Jvm.Cond.methodLink "RepeatFree$Reader" (162 : Nat) ({ cls := "RepeatFree$Reader", name := "limit", desc := "()V" } : Jvm.MethodName)) ∈ lw_all := lw_g (lw_at lw_m5 55 rfl) rfl
theorem q1131 : (Jvm.Cond.privateMethod ({ cls := "RepeatFree$Reader", name := "limit", desc := "()V" } : Jvm.MethodName)) ∈ lw_tbl := lw_at lw_m5 56 rfl
theorem q1132 : (Jvm.Cond.instanceMethod ({ cls := "RepeatFree$Reader", name := "limit", desc := "()V" } : Jvm.MethodName)) ∈ lw_all := lw_g (lw_at lw_m5 57 rfl) rfl
theorem q1133 : (Jvm.Cond.code ({ cls := "RepeatFree$Reader", name := "limit", desc := "()V" } : Jvm.MethodName) prog_6_method_10_code (3 : Nat) (Option.none : Option Jvm.ClassFile.FieldType)) ∈ lw_all := lw_g (lw_at lw_m5 58 rfl) rfl
theorem q1134 : (Jvm.Cond.classLink "RepeatFree$Reader" (121 : Nat) "RepeatFree$Limit") ∈ lw_all := lw_g (lw_at lw_m5 59 rfl) rfl
theorem q1136 : (Jvm.Cond.methodLink "RepeatFree$Reader" (123 : Nat) ({ cls := "RepeatFree$Limit", name := "<init>", desc := "(III)V" } : Jvm.MethodName)) ∈ lw_all := lw_g (lw_at lw_m5 61 rfl) rfl
theorem q1153 : (Jvm.Cond.methodLink "RepeatFree$Reader" (164 : Nat) ({ cls := "RepeatFree$Reader", name := "map", desc := "()V" } : Jvm.MethodName)) ∈ lw_all := lw_g (lw_at lw_m5 78 rfl) rfl
theorem q1154 : (Jvm.Cond.privateMethod ({ cls := "RepeatFree$Reader", name := "map", desc := "()V" } : Jvm.MethodName)) ∈ lw_tbl := lw_at lw_m5 79 rfl
theorem q1155 : (Jvm.Cond.instanceMethod ({ cls := "RepeatFree$Reader", name := "map", desc := "()V" } : Jvm.MethodName)) ∈ lw_all := lw_g (lw_at lw_m5 80 rfl) rfl
theorem q1156 : (Jvm.Cond.code ({ cls := "RepeatFree$Reader", name := "map", desc := "()V" } : Jvm.MethodName) prog_6_method_11_code (6 : Nat) (Option.none : Option Jvm.ClassFile.FieldType)) ∈ lw_all := lw_g (lw_at lw_m5 81 rfl) rfl
theorem q1157 : (Jvm.Cond.classLink "RepeatFree$Reader" (129 : Nat) "RepeatFree$Mapping") ∈ lw_all := lw_g (lw_at lw_m5 82 rfl) rfl
theorem q1159 : (Jvm.Cond.methodLink "RepeatFree$Reader" (131 : Nat) ({ cls := "RepeatFree$Reader", name := "name", desc := "()Ljava/lang/String;" } : Jvm.MethodName)) ∈ lw_all := lw_g (lw_at lw_m5 84 rfl) rfl
theorem q1160 : (Jvm.Cond.privateMethod ({ cls := "RepeatFree$Reader", name := "name", desc := "()Ljava/lang/String;" } : Jvm.MethodName)) ∈ lw_tbl := lw_at lw_m5 85 rfl
theorem q1161 : (Jvm.Cond.instanceMethod ({ cls := "RepeatFree$Reader", name := "name", desc := "()Ljava/lang/String;" } : Jvm.MethodName)) ∈ lw_all := lw_g (lw_at lw_m5 86 rfl) rfl
theorem q1162 : (Jvm.Cond.code ({ cls := "RepeatFree$Reader", name := "name", desc := "()Ljava/lang/String;" } : Jvm.MethodName) prog_6_method_9_code (2 : Nat) (Option.some (Jvm.ClassFile.FieldType.object "java/lang/String"))) ∈ lw_all := lw_g (lw_at lw_m5 87 rfl) rfl
theorem q1163 : (Jvm.Cond.constantLong "RepeatFree$Reader" (105 : Nat) (6 : Int64)) ∈ lw_all := lw_g (lw_at lw_m5 88 rfl) rfl
theorem q1164 : (Jvm.Cond.interfaceEntry "RepeatFree$Reader" (107 : Nat)) ∈ lw_tbl := lw_at lw_m5 89 rfl
theorem q1165 : (Jvm.Cond.methodLink "RepeatFree$Reader" (107 : Nat) ({ cls := "java/util/List", name := "contains", desc := "(Ljava/lang/Object;)Z" } : Jvm.MethodName)) ∈ lw_all := lw_g (lw_at lw_m5 90 rfl) rfl
theorem q1187 : (Jvm.Cond.selects "RepeatFree$Reader" ({ cls := "java/lang/Object", name := "equals", desc := "(Ljava/lang/Object;)Z" } : Jvm.MethodName) ({ cls := "java/lang/Object", name := "equals", desc := "(Ljava/lang/Object;)Z" } : Jvm.MethodName)) ∈ lw_all := lw_g (lw_at lw_m5 112 rfl) rfl
theorem q1231 : (Jvm.Cond.methodLink "RepeatFree$Reader" (110 : Nat) ({ cls := "RepeatFree$Told", name := "isNamed", desc := "(Ljava/lang/String;)Z" } : Jvm.MethodName)) ∈ lw_all := lw_g (lw_at lw_m5 156 rfl) rfl
theorem q1434 : (Jvm.Cond.methodLink "RepeatFree$Reader" (134 : Nat) ({ cls := "RepeatFree$Mapping", name := "<init>", desc := "(Ljava/lang/String;)V" } : Jvm.MethodName)) ∈ lw_all := lw_g (lw_at lw_m6 119 rfl) rfl
theorem q1444 : (Jvm.Cond.fieldLinkNest "RepeatFree$Reader" (141 : Nat) "RepeatFree$Mapping" "images" "[[B" "RepeatFree") ∈ lw_tbl := lw_at lw_m6 129 rfl
theorem q1455 : (Jvm.Cond.methodLink "RepeatFree$Reader" (101 : Nat) ({ cls := "java/lang/String", name := "charAt", desc := "(I)C" } : Jvm.MethodName)) ∈ lw_all := lw_g (lw_at lw_m6 140 rfl) rfl
theorem q1456 : (Jvm.Cond.methodLink "RepeatFree$Reader" (138 : Nat) ({ cls := "RepeatFree$Reader", name := "letters", desc := "(CII)Ljava/lang/String;" } : Jvm.MethodName)) ∈ lw_all := lw_g (lw_at lw_m6 141 rfl) rfl
theorem q1457 : (Jvm.Cond.privateMethod ({ cls := "RepeatFree$Reader", name := "letters", desc := "(CII)Ljava/lang/String;" } : Jvm.MethodName)) ∈ lw_tbl := lw_at lw_m6 142 rfl
theorem q1458 : (Jvm.Cond.instanceMethod ({ cls := "RepeatFree$Reader", name := "letters", desc := "(CII)Ljava/lang/String;" } : Jvm.MethodName)) ∈ lw_all := lw_g (lw_at lw_m6 143 rfl) rfl
theorem q1459 : (Jvm.Cond.code ({ cls := "RepeatFree$Reader", name := "letters", desc := "(CII)Ljava/lang/String;" } : Jvm.MethodName) prog_6_method_8_code (7 : Nat) (Option.some (Jvm.ClassFile.FieldType.object "java/lang/String"))) ∈ lw_all := lw_g (lw_at lw_m6 144 rfl) rfl
theorem q1460 : (Jvm.Cond.methodLink "RepeatFree$Reader" (149 : Nat) ({ cls := "java/util/LinkedList", name := "add", desc := "(Ljava/lang/Object;)Z" } : Jvm.MethodName)) ∈ lw_all := lw_g (lw_at lw_m6 145 rfl) rfl
theorem q1489 : (Jvm.Cond.classLink "RepeatFree$Reader" (166 : Nat) "RepeatFree$Pattern") ∈ lw_all := lw_g (lw_at lw_m6 174 rfl) rfl
theorem q1490 : (Jvm.Cond.methodLink "RepeatFree$Reader" (168 : Nat) ({ cls := "RepeatFree$Pattern", name := "<init>", desc := "(Ljava/lang/String;Ljava/lang/String;)V" } : Jvm.MethodName)) ∈ lw_all := lw_g (lw_at lw_m6 175 rfl) rfl
theorem q1496 : (Jvm.Cond.fieldLinkNest "RepeatFree$Reader" (175 : Nat) "RepeatFree$Pattern" "isAvoided" "Z" "RepeatFree") ∈ lw_tbl := lw_at lw_m6 181 rfl
theorem q1514 : (Jvm.Cond.methodLink "RepeatFree$Reader" (171 : Nat) ({ cls := "RepeatFree$Told", name := "patternOf", desc := "(Ljava/lang/String;)LRepeatFree$Pattern;" } : Jvm.MethodName)) ∈ lw_all := lw_g (lw_at lw_m6 199 rfl) rfl
theorem q2859 : (Jvm.Cond.castable "RepeatFree$Reader" "java/lang/Object") ∈ lw_tbl := lw_at lw_m12 104 rfl
theorem in_X5 : ∀ w ∈ wsX50, w ∈ lw_all := lw_in wsX50 [745, 747, 749, 751, 753] (by decide +kernel) (by decide +kernel)
/-! RepeatFree$Wrong -/
set_option maxRecDepth 100000
def RX6 : String := "RepeatFree$Wrong"
def TX6 : u_T := fun k => match k with
  | 0 => ("java/lang/Throwable", "cause", "Ljava/lang/Throwable;", false)
  | 1 => ("java/lang/Throwable", "stackTrace", "[Ljava/lang/StackTraceElement;", false)
  | 2 => ("java/lang/Throwable", "suppressedExceptions", "Ljava/util/List;", false)
  | 3 => ("java/lang/Throwable", "detailMessage", "Ljava/lang/String;", false)
  | 4 => ("java/lang/Throwable", "backtrace", "Ljava/lang/Object;", false)
  | 5 => ("java/lang/Throwable", "depth", "I", false)
  | _ => ("RepeatFree$Wrong", "place", "I", true)
def tyX6 : Nat → FieldType := fun k => match k with
  | 0 => .object "java/lang/Throwable"
  | 1 => .array (.object "java/lang/StackTraceElement")
  | 2 => .object "java/util/List"
  | 3 => .object "java/lang/String"
  | 4 => .object "java/lang/Object"
  | 5 => .int
  | _ => .int
abbrev wsX60 : List Cond := u_ws RX6 TX6 7
theorem nmX6 : ∀ a, a < 7 → ∀ b, b < 7 → a ≠ b → (TX6 a).2.1 ≠ (TX6 b).2.1 := by decide +kernel
theorem tyX6_ok : ∀ k, k < 7 → parseFieldDescriptor (TX6 k).2.2.1 = some (tyX6 k) := by decide +kernel
abbrev cX6_init : ByteArray := prog_11_method_1_code
def yX6_init : MethodName := ⟨RX6, "<init>", "(I)V"⟩
def dkwX6_init_0 : List UInt8 := [42, 1, 1, 3, 3, 183, 0, 1, 42, 27, 181, 0, 7, 177]
abbrev dktX6_init_0 : List UInt8 := dkwX6_init_0 ++ []
theorem dksX6_init_0 : cX6_init.data.toList.drop 0 = dktX6_init_0 := by decide +kernel
theorem dX6_init_0 : decode cX6_init 0 = .ok (.aload_n 0, 1) := dk_42 (dk_at dksX6_init_0 0 rfl rfl)
theorem dX6_init_1 : decode cX6_init 1 = .ok (.aconst_null, 1) := dk_1 (dk_at dksX6_init_0 1 rfl rfl)
theorem dX6_init_2 : decode cX6_init 2 = .ok (.aconst_null, 1) := dk_1 (dk_at dksX6_init_0 2 rfl rfl)
theorem dX6_init_3 : decode cX6_init 3 = .ok (.iconst 0, 1) := dk_3 (dk_at dksX6_init_0 3 rfl rfl)
theorem dX6_init_4 : decode cX6_init 4 = .ok (.iconst 0, 1) := dk_3 (dk_at dksX6_init_0 4 rfl rfl)
theorem dX6_init_5 : decode cX6_init 5 = .ok (.invokespecial 1, 3) := dk_183 0 1 (dk_at dksX6_init_0 5 rfl rfl)
theorem dX6_init_8 : decode cX6_init 8 = .ok (.aload_n 0, 1) := dk_42 (dk_at dksX6_init_0 8 rfl rfl)
theorem dX6_init_9 : decode cX6_init 9 = .ok (.iload_n 1, 1) := dk_27 (dk_at dksX6_init_0 9 rfl rfl)
theorem dX6_init_10 : decode cX6_init 10 = .ok (.putfield 7, 3) := dk_181 0 7 (dk_at dksX6_init_0 10 rfl rfl)
theorem dX6_init_13 : decode cX6_init 13 = .ok (.return_, 1) := dk_177 (dk_at dksX6_init_0 13 rfl rfl)
theorem q149 : (Jvm.Cond.initialized "RepeatFree$Wrong") ∈ lw_all := lw_g (lw_at lw_m1 34 rfl) rfl
theorem q381 : (Jvm.Cond.selects "RepeatFree$Wrong" ({ cls := "java/lang/Throwable", name := "fillInStackTrace", desc := "()Ljava/lang/Throwable;" } : Jvm.MethodName) ({ cls := "java/lang/Throwable", name := "fillInStackTrace", desc := "()Ljava/lang/Throwable;" } : Jvm.MethodName)) ∈ lw_all := lw_g (lw_at lw_m2 26 rfl) rfl
theorem q673 : (Jvm.Cond.selects "RepeatFree$Wrong" ({ cls := "java/lang/Object", name := "getClass", desc := "()Ljava/lang/Class;" } : Jvm.MethodName) ({ cls := "java/lang/Object", name := "getClass", desc := "()Ljava/lang/Class;" } : Jvm.MethodName)) ∈ lw_all := lw_g (lw_at lw_m3 78 rfl) rfl
theorem q1035 : (Jvm.Cond.instantiable "RepeatFree$Wrong" (7 : Nat)) ∈ lw_all := lw_g (lw_at lw_m4 200 rfl) rfl
theorem q1036 : (Jvm.Cond.castable "RepeatFree$Wrong" "RepeatFree$Wrong") ∈ lw_tbl := lw_at lw_m4 201 rfl
theorem q1037 : (Jvm.Cond.selects "RepeatFree$Wrong" ({ cls := "java/lang/Throwable", name := "fillInStackTrace", desc := "(I)Ljava/lang/Throwable;" } : Jvm.MethodName) ({ cls := "java/lang/Throwable", name := "fillInStackTrace", desc := "(I)Ljava/lang/Throwable;" } : Jvm.MethodName)) ∈ lw_all := lw_g (lw_at lw_m4 202 rfl) rfl
theorem q1038 : (Jvm.Cond.lays "RepeatFree$Wrong" "java/lang/Throwable" "cause" "Ljava/lang/Throwable;") ∈ lw_all := lw_g (lw_at lw_m4 203 rfl) rfl
theorem q1039 : (Jvm.Cond.lays "RepeatFree$Wrong" "java/lang/Throwable" "stackTrace" "[Ljava/lang/StackTraceElement;") ∈ lw_all := lw_g (lw_at lw_m4 204 rfl) rfl
theorem q1040 : (Jvm.Cond.lays "RepeatFree$Wrong" "java/lang/Throwable" "suppressedExceptions" "Ljava/util/List;") ∈ lw_all := lw_g (lw_at lw_m4 205 rfl) rfl
theorem q1041 : (Jvm.Cond.lays "RepeatFree$Wrong" "java/lang/Throwable" "detailMessage" "Ljava/lang/String;") ∈ lw_all := lw_g (lw_at lw_m4 206 rfl) rfl
theorem q1042 : (Jvm.Cond.lays "RepeatFree$Wrong" "java/lang/Throwable" "backtrace" "Ljava/lang/Object;") ∈ lw_all := lw_g (lw_at lw_m4 207 rfl) rfl
theorem q1044 : (Jvm.Cond.instanceMethod ({ cls := "RepeatFree$Wrong", name := "<init>", desc := "(I)V" } : Jvm.MethodName)) ∈ lw_all := lw_g (lw_at lw_m4 209 rfl) rfl
theorem q1045 : (Jvm.Cond.code ({ cls := "RepeatFree$Wrong", name := "<init>", desc := "(I)V" } : Jvm.MethodName) prog_11_method_1_code (2 : Nat) (Option.none : Option Jvm.ClassFile.FieldType)) ∈ lw_all := lw_g (lw_at lw_m4 210 rfl) rfl
theorem q1046 : (Jvm.Cond.methodLink "RepeatFree$Wrong" (1 : Nat) ({ cls := "java/lang/Exception", name := "<init>", desc := "(Ljava/lang/String;Ljava/lang/Throwable;ZZ)V" } : Jvm.MethodName)) ∈ lw_all := lw_g (lw_at lw_m4 211 rfl) rfl
theorem q1052 : (Jvm.Cond.fieldLink "RepeatFree$Wrong" (7 : Nat) "RepeatFree$Wrong" "place" "I") ∈ lw_all := lw_g (lw_at lw_m4 217 rfl) rfl
theorem q1054 : (Jvm.Cond.laysFinal "RepeatFree$Wrong" "RepeatFree$Wrong" "place" "I") ∈ lw_all := lw_g (lw_at lw_m4 219 rfl) rfl
theorem q1055 : (Jvm.Cond.soleField "RepeatFree$Wrong" "place") ∈ lw_all := lw_g (lw_at lw_m4 220 rfl) rfl
theorem q1056 : (Jvm.Cond.lays "RepeatFree$Wrong" "java/lang/Throwable" "depth" "I") ∈ lw_all := lw_g (lw_at lw_m4 221 rfl) rfl
theorem q1057 : (Jvm.Cond.superclass "RepeatFree$Wrong" "java/lang/Exception") ∈ lw_all := lw_g (lw_at lw_m4 222 rfl) rfl
theorem q1192 : (Jvm.Cond.selects "RepeatFree$Wrong" ({ cls := "java/lang/Object", name := "equals", desc := "(Ljava/lang/Object;)Z" } : Jvm.MethodName) ({ cls := "java/lang/Object", name := "equals", desc := "(Ljava/lang/Object;)Z" } : Jvm.MethodName)) ∈ lw_all := lw_g (lw_at lw_m5 117 rfl) rfl
theorem q1379 : (Jvm.Cond.selects "RepeatFree$Wrong" ({ cls := "java/lang/Throwable", name := "toString", desc := "()Ljava/lang/String;" } : Jvm.MethodName) ({ cls := "java/lang/Throwable", name := "toString", desc := "()Ljava/lang/String;" } : Jvm.MethodName)) ∈ lw_all := lw_g (lw_at lw_m6 64 rfl) rfl
theorem q1391 : (Jvm.Cond.selects "RepeatFree$Wrong" ({ cls := "java/lang/Throwable", name := "getLocalizedMessage", desc := "()Ljava/lang/String;" } : Jvm.MethodName) ({ cls := "java/lang/Throwable", name := "getLocalizedMessage", desc := "()Ljava/lang/String;" } : Jvm.MethodName)) ∈ lw_all := lw_g (lw_at lw_m6 76 rfl) rfl
theorem q1402 : (Jvm.Cond.selects "RepeatFree$Wrong" ({ cls := "java/lang/Throwable", name := "getMessage", desc := "()Ljava/lang/String;" } : Jvm.MethodName) ({ cls := "java/lang/Throwable", name := "getMessage", desc := "()Ljava/lang/String;" } : Jvm.MethodName)) ∈ lw_all := lw_g (lw_at lw_m6 87 rfl) rfl
theorem q2865 : (Jvm.Cond.castable "RepeatFree$Wrong" "java/lang/Object") ∈ lw_tbl := lw_at lw_m12 110 rfl
theorem in_X6 : ∀ w ∈ wsX60, w ∈ lw_all := lw_in wsX60 [1038, 1039, 1040, 1041, 1042, 1056, 1054] (by decide +kernel) (by decide +kernel)
/-! RepeatFree$Limit -/
set_option maxRecDepth 100000
def RX7 : String := "RepeatFree$Limit"
def TX7 : u_T := fun k => match k with
  | 0 => ("RepeatFree$Limit", "kind", "I", true)
  | 1 => ("RepeatFree$Limit", "above", "I", true)
  | _ => ("RepeatFree$Limit", "below", "I", true)
def tyX7 : Nat → FieldType := fun k => match k with
  | 0 => .int
  | 1 => .int
  | _ => .int
abbrev wsX70 : List Cond := u_ws RX7 TX7 3
theorem nmX7 : ∀ a, a < 3 → ∀ b, b < 3 → a ≠ b → (TX7 a).2.1 ≠ (TX7 b).2.1 := by decide +kernel
theorem tyX7_ok : ∀ k, k < 3 → parseFieldDescriptor (TX7 k).2.2.1 = some (tyX7 k) := by decide +kernel
abbrev cX7_isBeyond : ByteArray := prog_2_method_2_code
def yX7_isBeyond : MethodName := ⟨RX7, "isBeyond", "(II)Z"⟩
def dkwX7_isBeyond_2 : List UInt8 := [167, 0, 4, 3, 172]
abbrev dktX7_isBeyond_2 : List UInt8 := dkwX7_isBeyond_2 ++ []
def dkwX7_isBeyond_1 : List UInt8 := [167, 0, 27, 3, 167, 0, 23, 27, 42, 180, 0, 18, 104, 42, 180, 0, 15, 28, 104, 164, 0, 7, 4]
abbrev dktX7_isBeyond_1 : List UInt8 := dkwX7_isBeyond_1 ++ dktX7_isBeyond_2
def dkwX7_isBeyond_0 : List UInt8 := [42, 180, 0, 9, 4, 160, 0, 26, 27, 42, 180, 0, 18, 104, 42, 180, 0, 15, 28, 104, 161, 0, 7, 4]
abbrev dktX7_isBeyond_0 : List UInt8 := dkwX7_isBeyond_0 ++ dktX7_isBeyond_1
theorem dksX7_isBeyond_0 : cX7_isBeyond.data.toList.drop 0 = dktX7_isBeyond_0 := by decide +kernel
theorem dksX7_isBeyond_1 : cX7_isBeyond.data.toList.drop 24 = dktX7_isBeyond_1 := dk_seg dksX7_isBeyond_0 24 rfl rfl
theorem dksX7_isBeyond_2 : cX7_isBeyond.data.toList.drop 47 = dktX7_isBeyond_2 := dk_seg dksX7_isBeyond_1 23 rfl rfl
theorem dX7_isBeyond_0 : decode cX7_isBeyond 0 = .ok (.aload_n 0, 1) := dk_42 (dk_at dksX7_isBeyond_0 0 rfl rfl)
theorem dX7_isBeyond_1 : decode cX7_isBeyond 1 = .ok (.getfield 9, 3) := dk_180 0 9 (dk_at dksX7_isBeyond_0 1 rfl rfl)
theorem dX7_isBeyond_4 : decode cX7_isBeyond 4 = .ok (.iconst 1, 1) := dk_4 (dk_at dksX7_isBeyond_0 4 rfl rfl)
theorem dX7_isBeyond_5 : decode cX7_isBeyond 5 = .ok (.if_icmp .ne 26, 3) := dk_160 0 26 (dk_at dksX7_isBeyond_0 5 rfl rfl)
theorem dX7_isBeyond_8 : decode cX7_isBeyond 8 = .ok (.iload_n 1, 1) := dk_27 (dk_at dksX7_isBeyond_0 8 rfl rfl)
theorem dX7_isBeyond_9 : decode cX7_isBeyond 9 = .ok (.aload_n 0, 1) := dk_42 (dk_at dksX7_isBeyond_0 9 rfl rfl)
theorem dX7_isBeyond_10 : decode cX7_isBeyond 10 = .ok (.getfield 18, 3) := dk_180 0 18 (dk_at dksX7_isBeyond_0 10 rfl rfl)
theorem dX7_isBeyond_13 : decode cX7_isBeyond 13 = .ok (.imul, 1) := dk_104 (dk_at dksX7_isBeyond_0 13 rfl rfl)
theorem dX7_isBeyond_14 : decode cX7_isBeyond 14 = .ok (.aload_n 0, 1) := dk_42 (dk_at dksX7_isBeyond_0 14 rfl rfl)
theorem dX7_isBeyond_15 : decode cX7_isBeyond 15 = .ok (.getfield 15, 3) := dk_180 0 15 (dk_at dksX7_isBeyond_0 15 rfl rfl)
theorem dX7_isBeyond_18 : decode cX7_isBeyond 18 = .ok (.iload_n 2, 1) := dk_28 (dk_at dksX7_isBeyond_0 18 rfl rfl)
theorem dX7_isBeyond_19 : decode cX7_isBeyond 19 = .ok (.imul, 1) := dk_104 (dk_at dksX7_isBeyond_0 19 rfl rfl)
theorem dX7_isBeyond_20 : decode cX7_isBeyond 20 = .ok (.if_icmp .lt 7, 3) := dk_161 0 7 (dk_at dksX7_isBeyond_0 20 rfl rfl)
theorem dX7_isBeyond_23 : decode cX7_isBeyond 23 = .ok (.iconst 1, 1) := dk_4 (dk_at dksX7_isBeyond_0 23 rfl rfl)
theorem dX7_isBeyond_24 : decode cX7_isBeyond 24 = .ok (.goto 27, 3) := dk_167 0 27 (dk_at dksX7_isBeyond_1 0 rfl rfl)
theorem dX7_isBeyond_27 : decode cX7_isBeyond 27 = .ok (.iconst 0, 1) := dk_3 (dk_at dksX7_isBeyond_1 3 rfl rfl)
theorem dX7_isBeyond_28 : decode cX7_isBeyond 28 = .ok (.goto 23, 3) := dk_167 0 23 (dk_at dksX7_isBeyond_1 4 rfl rfl)
theorem dX7_isBeyond_31 : decode cX7_isBeyond 31 = .ok (.iload_n 1, 1) := dk_27 (dk_at dksX7_isBeyond_1 7 rfl rfl)
theorem dX7_isBeyond_32 : decode cX7_isBeyond 32 = .ok (.aload_n 0, 1) := dk_42 (dk_at dksX7_isBeyond_1 8 rfl rfl)
theorem dX7_isBeyond_33 : decode cX7_isBeyond 33 = .ok (.getfield 18, 3) := dk_180 0 18 (dk_at dksX7_isBeyond_1 9 rfl rfl)
theorem dX7_isBeyond_36 : decode cX7_isBeyond 36 = .ok (.imul, 1) := dk_104 (dk_at dksX7_isBeyond_1 12 rfl rfl)
theorem dX7_isBeyond_37 : decode cX7_isBeyond 37 = .ok (.aload_n 0, 1) := dk_42 (dk_at dksX7_isBeyond_1 13 rfl rfl)
theorem dX7_isBeyond_38 : decode cX7_isBeyond 38 = .ok (.getfield 15, 3) := dk_180 0 15 (dk_at dksX7_isBeyond_1 14 rfl rfl)
theorem dX7_isBeyond_41 : decode cX7_isBeyond 41 = .ok (.iload_n 2, 1) := dk_28 (dk_at dksX7_isBeyond_1 17 rfl rfl)
theorem dX7_isBeyond_42 : decode cX7_isBeyond 42 = .ok (.imul, 1) := dk_104 (dk_at dksX7_isBeyond_1 18 rfl rfl)
theorem dX7_isBeyond_43 : decode cX7_isBeyond 43 = .ok (.if_icmp .le 7, 3) := dk_164 0 7 (dk_at dksX7_isBeyond_1 19 rfl rfl)
theorem dX7_isBeyond_46 : decode cX7_isBeyond 46 = .ok (.iconst 1, 1) := dk_4 (dk_at dksX7_isBeyond_1 22 rfl rfl)
theorem dX7_isBeyond_47 : decode cX7_isBeyond 47 = .ok (.goto 4, 3) := dk_167 0 4 (dk_at dksX7_isBeyond_2 0 rfl rfl)
theorem dX7_isBeyond_50 : decode cX7_isBeyond 50 = .ok (.iconst 0, 1) := dk_3 (dk_at dksX7_isBeyond_2 3 rfl rfl)
theorem dX7_isBeyond_51 : decode cX7_isBeyond 51 = .ok (.ireturn, 1) := dk_172 (dk_at dksX7_isBeyond_2 4 rfl rfl)
abbrev cX7_init : ByteArray := prog_2_method_1_code
def yX7_init : MethodName := ⟨RX7, "<init>", "(III)V"⟩
def dkwX7_init_0 : List UInt8 := [42, 183, 0, 3, 42, 27, 181, 0, 9, 42, 28, 181, 0, 15, 42, 29, 181, 0, 18, 177]
abbrev dktX7_init_0 : List UInt8 := dkwX7_init_0 ++ []
theorem dksX7_init_0 : cX7_init.data.toList.drop 0 = dktX7_init_0 := by decide +kernel
theorem dX7_init_0 : decode cX7_init 0 = .ok (.aload_n 0, 1) := dk_42 (dk_at dksX7_init_0 0 rfl rfl)
theorem dX7_init_1 : decode cX7_init 1 = .ok (.invokespecial 3, 3) := dk_183 0 3 (dk_at dksX7_init_0 1 rfl rfl)
theorem dX7_init_4 : decode cX7_init 4 = .ok (.aload_n 0, 1) := dk_42 (dk_at dksX7_init_0 4 rfl rfl)
theorem dX7_init_5 : decode cX7_init 5 = .ok (.iload_n 1, 1) := dk_27 (dk_at dksX7_init_0 5 rfl rfl)
theorem dX7_init_6 : decode cX7_init 6 = .ok (.putfield 9, 3) := dk_181 0 9 (dk_at dksX7_init_0 6 rfl rfl)
theorem dX7_init_9 : decode cX7_init 9 = .ok (.aload_n 0, 1) := dk_42 (dk_at dksX7_init_0 9 rfl rfl)
theorem dX7_init_10 : decode cX7_init 10 = .ok (.iload_n 2, 1) := dk_28 (dk_at dksX7_init_0 10 rfl rfl)
theorem dX7_init_11 : decode cX7_init 11 = .ok (.putfield 15, 3) := dk_181 0 15 (dk_at dksX7_init_0 11 rfl rfl)
theorem dX7_init_14 : decode cX7_init 14 = .ok (.aload_n 0, 1) := dk_42 (dk_at dksX7_init_0 14 rfl rfl)
theorem dX7_init_15 : decode cX7_init 15 = .ok (.iload_n 3, 1) := dk_29 (dk_at dksX7_init_0 15 rfl rfl)
theorem dX7_init_16 : decode cX7_init 16 = .ok (.putfield 18, 3) := dk_181 0 18 (dk_at dksX7_init_0 16 rfl rfl)
theorem dX7_init_19 : decode cX7_init 19 = .ok (.return_, 1) := dk_177 (dk_at dksX7_init_0 19 rfl rfl)
theorem q150 : (Jvm.Cond.initialized "RepeatFree$Limit") ∈ lw_all := lw_g (lw_at lw_m1 35 rfl) rfl
theorem q444 : (Jvm.Cond.instanceMethod ({ cls := "RepeatFree$Limit", name := "isBeyond", desc := "(II)Z" } : Jvm.MethodName)) ∈ lw_all := lw_g (lw_at lw_m2 89 rfl) rfl
theorem q445 : (Jvm.Cond.selects "RepeatFree$Limit" ({ cls := "RepeatFree$Limit", name := "isBeyond", desc := "(II)Z" } : Jvm.MethodName) ({ cls := "RepeatFree$Limit", name := "isBeyond", desc := "(II)Z" } : Jvm.MethodName)) ∈ lw_all := lw_g (lw_at lw_m2 90 rfl) rfl
theorem q446 : (Jvm.Cond.code ({ cls := "RepeatFree$Limit", name := "isBeyond", desc := "(II)Z" } : Jvm.MethodName) prog_2_method_2_code (3 : Nat) (Option.some Jvm.ClassFile.FieldType.boolean)) ∈ lw_all := lw_g (lw_at lw_m2 91 rfl) rfl
theorem q665 : (Jvm.Cond.selects "RepeatFree$Limit" ({ cls := "java/lang/Object", name := "getClass", desc := "()Ljava/lang/Class;" } : Jvm.MethodName) ({ cls := "java/lang/Object", name := "getClass", desc := "()Ljava/lang/Class;" } : Jvm.MethodName)) ∈ lw_all := lw_g (lw_at lw_m3 70 rfl) rfl
theorem q1135 : (Jvm.Cond.instantiable "RepeatFree$Limit" (3 : Nat)) ∈ lw_all := lw_g (lw_at lw_m5 60 rfl) rfl
theorem q1137 : (Jvm.Cond.instanceMethod ({ cls := "RepeatFree$Limit", name := "<init>", desc := "(III)V" } : Jvm.MethodName)) ∈ lw_all := lw_g (lw_at lw_m5 62 rfl) rfl
theorem q1138 : (Jvm.Cond.code ({ cls := "RepeatFree$Limit", name := "<init>", desc := "(III)V" } : Jvm.MethodName) prog_2_method_1_code (4 : Nat) (Option.none : Option Jvm.ClassFile.FieldType)) ∈ lw_all := lw_g (lw_at lw_m5 63 rfl) rfl
theorem q1139 : (Jvm.Cond.methodLink "RepeatFree$Limit" (3 : Nat) ({ cls := "java/lang/Object", name := "<init>", desc := "()V" } : Jvm.MethodName)) ∈ lw_all := lw_g (lw_at lw_m5 64 rfl) rfl
theorem q1140 : (Jvm.Cond.fieldLink "RepeatFree$Limit" (9 : Nat) "RepeatFree$Limit" "kind" "I") ∈ lw_all := lw_g (lw_at lw_m5 65 rfl) rfl
theorem q1142 : (Jvm.Cond.fieldLink "RepeatFree$Limit" (15 : Nat) "RepeatFree$Limit" "above" "I") ∈ lw_all := lw_g (lw_at lw_m5 67 rfl) rfl
theorem q1144 : (Jvm.Cond.fieldLink "RepeatFree$Limit" (18 : Nat) "RepeatFree$Limit" "below" "I") ∈ lw_all := lw_g (lw_at lw_m5 69 rfl) rfl
theorem q1146 : (Jvm.Cond.laysFinal "RepeatFree$Limit" "RepeatFree$Limit" "kind" "I") ∈ lw_all := lw_g (lw_at lw_m5 71 rfl) rfl
theorem q1147 : (Jvm.Cond.soleField "RepeatFree$Limit" "kind") ∈ lw_all := lw_g (lw_at lw_m5 72 rfl) rfl
theorem q1148 : (Jvm.Cond.laysFinal "RepeatFree$Limit" "RepeatFree$Limit" "above" "I") ∈ lw_all := lw_g (lw_at lw_m5 73 rfl) rfl
theorem q1149 : (Jvm.Cond.soleField "RepeatFree$Limit" "above") ∈ lw_all := lw_g (lw_at lw_m5 74 rfl) rfl
theorem q1150 : (Jvm.Cond.laysFinal "RepeatFree$Limit" "RepeatFree$Limit" "below" "I") ∈ lw_all := lw_g (lw_at lw_m5 75 rfl) rfl
theorem q1151 : (Jvm.Cond.soleField "RepeatFree$Limit" "below") ∈ lw_all := lw_g (lw_at lw_m5 76 rfl) rfl
theorem q1152 : (Jvm.Cond.superclass "RepeatFree$Limit" "java/lang/Object") ∈ lw_all := lw_g (lw_at lw_m5 77 rfl) rfl
theorem q1184 : (Jvm.Cond.selects "RepeatFree$Limit" ({ cls := "java/lang/Object", name := "equals", desc := "(Ljava/lang/Object;)Z" } : Jvm.MethodName) ({ cls := "java/lang/Object", name := "equals", desc := "(Ljava/lang/Object;)Z" } : Jvm.MethodName)) ∈ lw_all := lw_g (lw_at lw_m5 109 rfl) rfl
theorem q2867 : (Jvm.Cond.castable "RepeatFree$Limit" "java/lang/Object") ∈ lw_tbl := lw_at lw_m12 112 rfl
theorem in_X7 : ∀ w ∈ wsX70, w ∈ lw_all := lw_in wsX70 [1146, 1148, 1150] (by decide +kernel) (by decide +kernel)
/-! RepeatFree$Named -/
set_option maxRecDepth 100000
def RX8 : String := "RepeatFree$Named"
abbrev cX8_init : ByteArray := prog_4_method_1_code
def yX8_init : MethodName := ⟨RX8, "<init>", "(Ljava/lang/String;)V"⟩
def dkwX8_init_0 : List UInt8 := [42, 183, 0, 1, 42, 43, 181, 0, 7, 177]
abbrev dktX8_init_0 : List UInt8 := dkwX8_init_0 ++ []
theorem dksX8_init_0 : cX8_init.data.toList.drop 0 = dktX8_init_0 := by decide +kernel
theorem dX8_init_0 : decode cX8_init 0 = .ok (.aload_n 0, 1) := dk_42 (dk_at dksX8_init_0 0 rfl rfl)
theorem dX8_init_1 : decode cX8_init 1 = .ok (.invokespecial 1, 3) := dk_183 0 1 (dk_at dksX8_init_0 1 rfl rfl)
theorem dX8_init_4 : decode cX8_init 4 = .ok (.aload_n 0, 1) := dk_42 (dk_at dksX8_init_0 4 rfl rfl)
theorem dX8_init_5 : decode cX8_init 5 = .ok (.aload_n 1, 1) := dk_43 (dk_at dksX8_init_0 5 rfl rfl)
theorem dX8_init_6 : decode cX8_init 6 = .ok (.putfield 7, 3) := dk_181 0 7 (dk_at dksX8_init_0 6 rfl rfl)
theorem dX8_init_9 : decode cX8_init 9 = .ok (.return_, 1) := dk_177 (dk_at dksX8_init_0 9 rfl rfl)
theorem q151 : (Jvm.Cond.initialized "RepeatFree$Named") ∈ lw_all := lw_g (lw_at lw_m1 36 rfl) rfl
theorem q1438 : (Jvm.Cond.instanceMethod ({ cls := "RepeatFree$Named", name := "<init>", desc := "(Ljava/lang/String;)V" } : Jvm.MethodName)) ∈ lw_all := lw_g (lw_at lw_m6 123 rfl) rfl
theorem q1439 : (Jvm.Cond.code ({ cls := "RepeatFree$Named", name := "<init>", desc := "(Ljava/lang/String;)V" } : Jvm.MethodName) prog_4_method_1_code (2 : Nat) (Option.none : Option Jvm.ClassFile.FieldType)) ∈ lw_all := lw_g (lw_at lw_m6 124 rfl) rfl
theorem q1440 : (Jvm.Cond.methodLink "RepeatFree$Named" (1 : Nat) ({ cls := "java/lang/Object", name := "<init>", desc := "()V" } : Jvm.MethodName)) ∈ lw_all := lw_g (lw_at lw_m6 125 rfl) rfl
theorem q1446 : (Jvm.Cond.fieldLink "RepeatFree$Named" (7 : Nat) "RepeatFree$Named" "name" "Ljava/lang/String;") ∈ lw_all := lw_g (lw_at lw_m6 131 rfl) rfl
theorem q1453 : (Jvm.Cond.soleField "RepeatFree$Named" "name") ∈ lw_all := lw_g (lw_at lw_m6 138 rfl) rfl
/-! RepeatFree$Mapping -/
set_option maxRecDepth 100000
def RX9 : String := "RepeatFree$Mapping"
def TX9 : u_T := fun k => match k with
  | 0 => ("RepeatFree$Named", "name", "Ljava/lang/String;", true)
  | _ => ("RepeatFree$Mapping", "images", "[[B", true)
def tyX9 : Nat → FieldType := fun k => match k with
  | 0 => .object "java/lang/String"
  | _ => .array (.array .byte)
abbrev wsX90 : List Cond := u_ws RX9 TX9 2
theorem nmX9 : ∀ a, a < 2 → ∀ b, b < 2 → a ≠ b → (TX9 a).2.1 ≠ (TX9 b).2.1 := by decide +kernel
theorem tyX9_ok : ∀ k, k < 2 → parseFieldDescriptor (TX9 k).2.2.1 = some (tyX9 k) := by decide +kernel
abbrev cX9_init : ByteArray := prog_3_method_1_code
def yX9_init : MethodName := ⟨RX9, "<init>", "(Ljava/lang/String;)V"⟩
def dkwX9_init_0 : List UInt8 := [42, 43, 183, 0, 3, 42, 7, 189, 0, 9, 181, 0, 11, 177]
abbrev dktX9_init_0 : List UInt8 := dkwX9_init_0 ++ []
theorem dksX9_init_0 : cX9_init.data.toList.drop 0 = dktX9_init_0 := by decide +kernel
theorem dX9_init_0 : decode cX9_init 0 = .ok (.aload_n 0, 1) := dk_42 (dk_at dksX9_init_0 0 rfl rfl)
theorem dX9_init_1 : decode cX9_init 1 = .ok (.aload_n 1, 1) := dk_43 (dk_at dksX9_init_0 1 rfl rfl)
theorem dX9_init_2 : decode cX9_init 2 = .ok (.invokespecial 3, 3) := dk_183 0 3 (dk_at dksX9_init_0 2 rfl rfl)
theorem dX9_init_5 : decode cX9_init 5 = .ok (.aload_n 0, 1) := dk_42 (dk_at dksX9_init_0 5 rfl rfl)
theorem dX9_init_6 : decode cX9_init 6 = .ok (.iconst 4, 1) := dk_7 (dk_at dksX9_init_0 6 rfl rfl)
theorem dX9_init_7 : decode cX9_init 7 = .ok (.anewarray 9, 3) := dk_189 0 9 (dk_at dksX9_init_0 7 rfl rfl)
theorem dX9_init_10 : decode cX9_init 10 = .ok (.putfield 11, 3) := dk_181 0 11 (dk_at dksX9_init_0 10 rfl rfl)
theorem dX9_init_13 : decode cX9_init 13 = .ok (.return_, 1) := dk_177 (dk_at dksX9_init_0 13 rfl rfl)
abbrev cX9_counts : ByteArray := prog_3_method_2_code
def yX9_counts : MethodName := ⟨RX9, "counts", "(I)[J"⟩
def dkwX9_counts_2 : List UInt8 := [176]
abbrev dktX9_counts_2 : List UInt8 := dkwX9_counts_2 ++ []
def dkwX9_counts_1 : List UInt8 := [162, 0, 23, 45, 21, 5, 51, 54, 6, 44, 21, 6, 92, 47, 10, 97, 80, 132, 5, 1, 167, 255, 232, 44]
abbrev dktX9_counts_1 : List UInt8 := dkwX9_counts_1 ++ dktX9_counts_2
def dkwX9_counts_0 : List UInt8 := [7, 188, 11, 77, 42, 180, 0, 11, 27, 50, 78, 45, 190, 54, 4, 3, 54, 5, 21, 5, 21, 4]
abbrev dktX9_counts_0 : List UInt8 := dkwX9_counts_0 ++ dktX9_counts_1
theorem dksX9_counts_0 : cX9_counts.data.toList.drop 0 = dktX9_counts_0 := by decide +kernel
theorem dksX9_counts_1 : cX9_counts.data.toList.drop 22 = dktX9_counts_1 := dk_seg dksX9_counts_0 22 rfl rfl
theorem dksX9_counts_2 : cX9_counts.data.toList.drop 46 = dktX9_counts_2 := dk_seg dksX9_counts_1 24 rfl rfl
theorem dX9_counts_0 : decode cX9_counts 0 = .ok (.iconst 4, 1) := dk_7 (dk_at dksX9_counts_0 0 rfl rfl)
theorem dX9_counts_1 : decode cX9_counts 1 = .ok (.newarray .long, 2) := dk_188_11 (dk_at dksX9_counts_0 1 rfl rfl)
theorem dX9_counts_3 : decode cX9_counts 3 = .ok (.astore_n 2, 1) := dk_77 (dk_at dksX9_counts_0 3 rfl rfl)
theorem dX9_counts_4 : decode cX9_counts 4 = .ok (.aload_n 0, 1) := dk_42 (dk_at dksX9_counts_0 4 rfl rfl)
theorem dX9_counts_5 : decode cX9_counts 5 = .ok (.getfield 11, 3) := dk_180 0 11 (dk_at dksX9_counts_0 5 rfl rfl)
theorem dX9_counts_8 : decode cX9_counts 8 = .ok (.iload_n 1, 1) := dk_27 (dk_at dksX9_counts_0 8 rfl rfl)
theorem dX9_counts_9 : decode cX9_counts 9 = .ok (.aaload, 1) := dk_50 (dk_at dksX9_counts_0 9 rfl rfl)
theorem dX9_counts_10 : decode cX9_counts 10 = .ok (.astore_n 3, 1) := dk_78 (dk_at dksX9_counts_0 10 rfl rfl)
theorem dX9_counts_11 : decode cX9_counts 11 = .ok (.aload_n 3, 1) := dk_45 (dk_at dksX9_counts_0 11 rfl rfl)
theorem dX9_counts_12 : decode cX9_counts 12 = .ok (.arraylength, 1) := dk_190 (dk_at dksX9_counts_0 12 rfl rfl)
theorem dX9_counts_13 : decode cX9_counts 13 = .ok (.istore 4, 2) := dk_54 4 (dk_at dksX9_counts_0 13 rfl rfl)
theorem dX9_counts_15 : decode cX9_counts 15 = .ok (.iconst 0, 1) := dk_3 (dk_at dksX9_counts_0 15 rfl rfl)
theorem dX9_counts_16 : decode cX9_counts 16 = .ok (.istore 5, 2) := dk_54 5 (dk_at dksX9_counts_0 16 rfl rfl)
theorem dX9_counts_18 : decode cX9_counts 18 = .ok (.iload 5, 2) := dk_21 5 (dk_at dksX9_counts_0 18 rfl rfl)
theorem dX9_counts_20 : decode cX9_counts 20 = .ok (.iload 4, 2) := dk_21 4 (dk_at dksX9_counts_0 20 rfl rfl)
theorem dX9_counts_22 : decode cX9_counts 22 = .ok (.if_icmp .ge 23, 3) := dk_162 0 23 (dk_at dksX9_counts_1 0 rfl rfl)
theorem dX9_counts_25 : decode cX9_counts 25 = .ok (.aload_n 3, 1) := dk_45 (dk_at dksX9_counts_1 3 rfl rfl)
theorem dX9_counts_26 : decode cX9_counts 26 = .ok (.iload 5, 2) := dk_21 5 (dk_at dksX9_counts_1 4 rfl rfl)
theorem dX9_counts_28 : decode cX9_counts 28 = .ok (.baload, 1) := dk_51 (dk_at dksX9_counts_1 6 rfl rfl)
theorem dX9_counts_29 : decode cX9_counts 29 = .ok (.istore 6, 2) := dk_54 6 (dk_at dksX9_counts_1 7 rfl rfl)
theorem dX9_counts_31 : decode cX9_counts 31 = .ok (.aload_n 2, 1) := dk_44 (dk_at dksX9_counts_1 9 rfl rfl)
theorem dX9_counts_32 : decode cX9_counts 32 = .ok (.iload 6, 2) := dk_21 6 (dk_at dksX9_counts_1 10 rfl rfl)
theorem dX9_counts_34 : decode cX9_counts 34 = .ok (.dup2, 1) := dk_92 (dk_at dksX9_counts_1 12 rfl rfl)
theorem dX9_counts_35 : decode cX9_counts 35 = .ok (.laload, 1) := dk_47 (dk_at dksX9_counts_1 13 rfl rfl)
theorem dX9_counts_36 : decode cX9_counts 36 = .ok (.lconst 1, 1) := dk_10 (dk_at dksX9_counts_1 14 rfl rfl)
theorem dX9_counts_37 : decode cX9_counts 37 = .ok (.ladd, 1) := dk_97 (dk_at dksX9_counts_1 15 rfl rfl)
theorem dX9_counts_38 : decode cX9_counts 38 = .ok (.lastore, 1) := dk_80 (dk_at dksX9_counts_1 16 rfl rfl)
theorem dX9_counts_39 : decode cX9_counts 39 = .ok (.iinc 5 1, 3) := dk_132 5 1 (dk_at dksX9_counts_1 17 rfl rfl)
theorem dX9_counts_42 : decode cX9_counts 42 = .ok (.goto (-24), 3) := dk_167 255 232 (dk_at dksX9_counts_1 20 rfl rfl)
theorem dX9_counts_45 : decode cX9_counts 45 = .ok (.aload_n 2, 1) := dk_44 (dk_at dksX9_counts_1 23 rfl rfl)
theorem dX9_counts_46 : decode cX9_counts 46 = .ok (.areturn, 1) := dk_176 (dk_at dksX9_counts_2 0 rfl rfl)
theorem q152 : (Jvm.Cond.initialized "RepeatFree$Mapping") ∈ lw_all := lw_g (lw_at lw_m1 37 rfl) rfl
theorem q666 : (Jvm.Cond.selects "RepeatFree$Mapping" ({ cls := "java/lang/Object", name := "getClass", desc := "()Ljava/lang/Class;" } : Jvm.MethodName) ({ cls := "java/lang/Object", name := "getClass", desc := "()Ljava/lang/Class;" } : Jvm.MethodName)) ∈ lw_all := lw_g (lw_at lw_m3 71 rfl) rfl
theorem q1158 : (Jvm.Cond.instantiable "RepeatFree$Mapping" (2 : Nat)) ∈ lw_all := lw_g (lw_at lw_m5 83 rfl) rfl
theorem q1185 : (Jvm.Cond.selects "RepeatFree$Mapping" ({ cls := "java/lang/Object", name := "equals", desc := "(Ljava/lang/Object;)Z" } : Jvm.MethodName) ({ cls := "java/lang/Object", name := "equals", desc := "(Ljava/lang/Object;)Z" } : Jvm.MethodName)) ∈ lw_all := lw_g (lw_at lw_m5 110 rfl) rfl
theorem q1435 : (Jvm.Cond.instanceMethod ({ cls := "RepeatFree$Mapping", name := "<init>", desc := "(Ljava/lang/String;)V" } : Jvm.MethodName)) ∈ lw_all := lw_g (lw_at lw_m6 120 rfl) rfl
theorem q1436 : (Jvm.Cond.code ({ cls := "RepeatFree$Mapping", name := "<init>", desc := "(Ljava/lang/String;)V" } : Jvm.MethodName) prog_3_method_1_code (2 : Nat) (Option.none : Option Jvm.ClassFile.FieldType)) ∈ lw_all := lw_g (lw_at lw_m6 121 rfl) rfl
theorem q1437 : (Jvm.Cond.methodLink "RepeatFree$Mapping" (3 : Nat) ({ cls := "RepeatFree$Named", name := "<init>", desc := "(Ljava/lang/String;)V" } : Jvm.MethodName)) ∈ lw_all := lw_g (lw_at lw_m6 122 rfl) rfl
theorem q1441 : (Jvm.Cond.classLink "RepeatFree$Mapping" (9 : Nat) "[B") ∈ lw_all := lw_g (lw_at lw_m6 126 rfl) rfl
theorem q1443 : (Jvm.Cond.fieldLink "RepeatFree$Mapping" (11 : Nat) "RepeatFree$Mapping" "images" "[[B") ∈ lw_all := lw_g (lw_at lw_m6 128 rfl) rfl
theorem q1450 : (Jvm.Cond.laysFinal "RepeatFree$Mapping" "RepeatFree$Mapping" "images" "[[B") ∈ lw_all := lw_g (lw_at lw_m6 135 rfl) rfl
theorem q1451 : (Jvm.Cond.soleField "RepeatFree$Mapping" "images") ∈ lw_all := lw_g (lw_at lw_m6 136 rfl) rfl
theorem q1452 : (Jvm.Cond.laysFinal "RepeatFree$Mapping" "RepeatFree$Named" "name" "Ljava/lang/String;") ∈ lw_all := lw_g (lw_at lw_m6 137 rfl) rfl
theorem q1454 : (Jvm.Cond.superclass "RepeatFree$Mapping" "RepeatFree$Named") ∈ lw_all := lw_g (lw_at lw_m6 139 rfl) rfl
theorem q1962 : (Jvm.Cond.instanceMethod ({ cls := "RepeatFree$Mapping", name := "counts", desc := "(I)[J" } : Jvm.MethodName)) ∈ lw_all := lw_g (lw_at lw_m8 167 rfl) rfl
theorem q1963 : (Jvm.Cond.selects "RepeatFree$Mapping" ({ cls := "RepeatFree$Mapping", name := "counts", desc := "(I)[J" } : Jvm.MethodName) ({ cls := "RepeatFree$Mapping", name := "counts", desc := "(I)[J" } : Jvm.MethodName)) ∈ lw_all := lw_g (lw_at lw_m8 168 rfl) rfl
theorem q1964 : (Jvm.Cond.code ({ cls := "RepeatFree$Mapping", name := "counts", desc := "(I)[J" } : Jvm.MethodName) prog_3_method_2_code (7 : Nat) (Option.some (Jvm.ClassFile.FieldType.array Jvm.ClassFile.FieldType.long))) ∈ lw_all := lw_g (lw_at lw_m8 169 rfl) rfl
theorem q2850 : (Jvm.Cond.castable "RepeatFree$Mapping" "RepeatFree$Named") ∈ lw_tbl := lw_at lw_m12 95 rfl
theorem q2868 : (Jvm.Cond.castable "RepeatFree$Mapping" "java/lang/Object") ∈ lw_tbl := lw_at lw_m12 113 rfl
theorem in_X9 : ∀ w ∈ wsX90, w ∈ lw_all := lw_in wsX90 [1452, 1450] (by decide +kernel) (by decide +kernel)
/-! RepeatFree$Pattern -/
set_option maxRecDepth 100000
def RX10 : String := "RepeatFree$Pattern"
def TX10 : u_T := fun k => match k with
  | 0 => ("RepeatFree$Named", "name", "Ljava/lang/String;", true)
  | 1 => ("RepeatFree$Pattern", "shape", "Ljava/lang/String;", true)
  | 2 => ("RepeatFree$Pattern", "isAvoided", "Z", false)
  | 3 => ("RepeatFree$Pattern", "size", "[I", true)
  | 4 => ("RepeatFree$Pattern", "from", "[I", true)
  | _ => ("RepeatFree$Pattern", "word", "LRepeatFree$Word;", false)
def tyX10 : Nat → FieldType := fun k => match k with
  | 0 => .object "java/lang/String"
  | 1 => .object "java/lang/String"
  | 2 => .boolean
  | 3 => .array .int
  | 4 => .array .int
  | _ => .object "RepeatFree$Word"
abbrev wsX100 : List Cond := u_ws RX10 TX10 6
theorem nmX10 : ∀ a, a < 6 → ∀ b, b < 6 → a ≠ b → (TX10 a).2.1 ≠ (TX10 b).2.1 := by decide +kernel
theorem tyX10_ok : ∀ k, k < 6 → parseFieldDescriptor (TX10 k).2.2.1 = some (tyX10 k) := by decide +kernel
abbrev cX10_isAtEnd : ByteArray := prog_5_method_5_code
def yX10_isAtEnd : MethodName := ⟨RX10, "isAtEnd", "(LRepeatFree$Word;)Z"⟩
def dkwX10_isAtEnd_1 : List UInt8 := [182, 0, 49, 153, 0, 5, 4, 172, 132, 2, 255, 167, 255, 234, 3, 172]
abbrev dktX10_isAtEnd_1 : List UInt8 := dkwX10_isAtEnd_1 ++ []
def dkwX10_isAtEnd_0 : List UInt8 := [43, 180, 0, 36, 42, 180, 0, 18, 182, 0, 22, 100, 61, 28, 155, 0, 24, 42, 43, 28, 43, 180, 0, 36]
abbrev dktX10_isAtEnd_0 : List UInt8 := dkwX10_isAtEnd_0 ++ dktX10_isAtEnd_1
theorem dksX10_isAtEnd_0 : cX10_isAtEnd.data.toList.drop 0 = dktX10_isAtEnd_0 := by decide +kernel
theorem dksX10_isAtEnd_1 : cX10_isAtEnd.data.toList.drop 24 = dktX10_isAtEnd_1 := dk_seg dksX10_isAtEnd_0 24 rfl rfl
theorem dX10_isAtEnd_0 : decode cX10_isAtEnd 0 = .ok (.aload_n 1, 1) := dk_43 (dk_at dksX10_isAtEnd_0 0 rfl rfl)
theorem dX10_isAtEnd_1 : decode cX10_isAtEnd 1 = .ok (.getfield 36, 3) := dk_180 0 36 (dk_at dksX10_isAtEnd_0 1 rfl rfl)
theorem dX10_isAtEnd_4 : decode cX10_isAtEnd 4 = .ok (.aload_n 0, 1) := dk_42 (dk_at dksX10_isAtEnd_0 4 rfl rfl)
theorem dX10_isAtEnd_5 : decode cX10_isAtEnd 5 = .ok (.getfield 18, 3) := dk_180 0 18 (dk_at dksX10_isAtEnd_0 5 rfl rfl)
theorem dX10_isAtEnd_8 : decode cX10_isAtEnd 8 = .ok (.invokevirtual 22, 3) := dk_182 0 22 (dk_at dksX10_isAtEnd_0 8 rfl rfl)
theorem dX10_isAtEnd_11 : decode cX10_isAtEnd 11 = .ok (.isub, 1) := dk_100 (dk_at dksX10_isAtEnd_0 11 rfl rfl)
theorem dX10_isAtEnd_12 : decode cX10_isAtEnd 12 = .ok (.istore_n 2, 1) := dk_61 (dk_at dksX10_isAtEnd_0 12 rfl rfl)
theorem dX10_isAtEnd_13 : decode cX10_isAtEnd 13 = .ok (.iload_n 2, 1) := dk_28 (dk_at dksX10_isAtEnd_0 13 rfl rfl)
theorem dX10_isAtEnd_14 : decode cX10_isAtEnd 14 = .ok (.ifCond .lt 24, 3) := dk_155 0 24 (dk_at dksX10_isAtEnd_0 14 rfl rfl)
theorem dX10_isAtEnd_17 : decode cX10_isAtEnd 17 = .ok (.aload_n 0, 1) := dk_42 (dk_at dksX10_isAtEnd_0 17 rfl rfl)
theorem dX10_isAtEnd_18 : decode cX10_isAtEnd 18 = .ok (.aload_n 1, 1) := dk_43 (dk_at dksX10_isAtEnd_0 18 rfl rfl)
theorem dX10_isAtEnd_19 : decode cX10_isAtEnd 19 = .ok (.iload_n 2, 1) := dk_28 (dk_at dksX10_isAtEnd_0 19 rfl rfl)
theorem dX10_isAtEnd_20 : decode cX10_isAtEnd 20 = .ok (.aload_n 1, 1) := dk_43 (dk_at dksX10_isAtEnd_0 20 rfl rfl)
theorem dX10_isAtEnd_21 : decode cX10_isAtEnd 21 = .ok (.getfield 36, 3) := dk_180 0 36 (dk_at dksX10_isAtEnd_0 21 rfl rfl)
theorem dX10_isAtEnd_24 : decode cX10_isAtEnd 24 = .ok (.invokevirtual 49, 3) := dk_182 0 49 (dk_at dksX10_isAtEnd_1 0 rfl rfl)
theorem dX10_isAtEnd_27 : decode cX10_isAtEnd 27 = .ok (.ifCond .eq 5, 3) := dk_153 0 5 (dk_at dksX10_isAtEnd_1 3 rfl rfl)
theorem dX10_isAtEnd_30 : decode cX10_isAtEnd 30 = .ok (.iconst 1, 1) := dk_4 (dk_at dksX10_isAtEnd_1 6 rfl rfl)
theorem dX10_isAtEnd_31 : decode cX10_isAtEnd 31 = .ok (.ireturn, 1) := dk_172 (dk_at dksX10_isAtEnd_1 7 rfl rfl)
theorem dX10_isAtEnd_32 : decode cX10_isAtEnd 32 = .ok (.iinc 2 (-1), 3) := dk_132 2 255 (dk_at dksX10_isAtEnd_1 8 rfl rfl)
theorem dX10_isAtEnd_35 : decode cX10_isAtEnd 35 = .ok (.goto (-22), 3) := dk_167 255 234 (dk_at dksX10_isAtEnd_1 11 rfl rfl)
theorem dX10_isAtEnd_38 : decode cX10_isAtEnd 38 = .ok (.iconst 0, 1) := dk_3 (dk_at dksX10_isAtEnd_1 14 rfl rfl)
theorem dX10_isAtEnd_39 : decode cX10_isAtEnd 39 = .ok (.ireturn, 1) := dk_172 (dk_at dksX10_isAtEnd_1 15 rfl rfl)
abbrev cX10_begins : ByteArray := prog_5_method_4_code
def yX10_begins : MethodName := ⟨RX10, "begins", "(LRepeatFree$Word;II)Z"⟩
def dkwX10_begins_1 : List UInt8 := [132, 4, 1, 167, 255, 239, 42, 3, 28, 29, 182, 0, 46, 172]
abbrev dktX10_begins_1 : List UInt8 := dkwX10_begins_1 ++ []
def dkwX10_begins_0 : List UInt8 := [42, 43, 181, 0, 32, 3, 54, 4, 21, 4, 6, 162, 0, 17, 42, 180, 0, 9, 21, 4, 3, 79]
abbrev dktX10_begins_0 : List UInt8 := dkwX10_begins_0 ++ dktX10_begins_1
theorem dksX10_begins_0 : cX10_begins.data.toList.drop 0 = dktX10_begins_0 := by decide +kernel
theorem dksX10_begins_1 : cX10_begins.data.toList.drop 22 = dktX10_begins_1 := dk_seg dksX10_begins_0 22 rfl rfl
theorem dX10_begins_0 : decode cX10_begins 0 = .ok (.aload_n 0, 1) := dk_42 (dk_at dksX10_begins_0 0 rfl rfl)
theorem dX10_begins_1 : decode cX10_begins 1 = .ok (.aload_n 1, 1) := dk_43 (dk_at dksX10_begins_0 1 rfl rfl)
theorem dX10_begins_2 : decode cX10_begins 2 = .ok (.putfield 32, 3) := dk_181 0 32 (dk_at dksX10_begins_0 2 rfl rfl)
theorem dX10_begins_5 : decode cX10_begins 5 = .ok (.iconst 0, 1) := dk_3 (dk_at dksX10_begins_0 5 rfl rfl)
theorem dX10_begins_6 : decode cX10_begins 6 = .ok (.istore 4, 2) := dk_54 4 (dk_at dksX10_begins_0 6 rfl rfl)
theorem dX10_begins_8 : decode cX10_begins 8 = .ok (.iload 4, 2) := dk_21 4 (dk_at dksX10_begins_0 8 rfl rfl)
theorem dX10_begins_10 : decode cX10_begins 10 = .ok (.iconst 3, 1) := dk_6 (dk_at dksX10_begins_0 10 rfl rfl)
theorem dX10_begins_11 : decode cX10_begins 11 = .ok (.if_icmp .ge 17, 3) := dk_162 0 17 (dk_at dksX10_begins_0 11 rfl rfl)
theorem dX10_begins_14 : decode cX10_begins 14 = .ok (.aload_n 0, 1) := dk_42 (dk_at dksX10_begins_0 14 rfl rfl)
theorem dX10_begins_15 : decode cX10_begins 15 = .ok (.getfield 9, 3) := dk_180 0 9 (dk_at dksX10_begins_0 15 rfl rfl)
theorem dX10_begins_18 : decode cX10_begins 18 = .ok (.iload 4, 2) := dk_21 4 (dk_at dksX10_begins_0 18 rfl rfl)
theorem dX10_begins_20 : decode cX10_begins 20 = .ok (.iconst 0, 1) := dk_3 (dk_at dksX10_begins_0 20 rfl rfl)
theorem dX10_begins_21 : decode cX10_begins 21 = .ok (.iastore, 1) := dk_79 (dk_at dksX10_begins_0 21 rfl rfl)
theorem dX10_begins_22 : decode cX10_begins 22 = .ok (.iinc 4 1, 3) := dk_132 4 1 (dk_at dksX10_begins_1 0 rfl rfl)
theorem dX10_begins_25 : decode cX10_begins 25 = .ok (.goto (-17), 3) := dk_167 255 239 (dk_at dksX10_begins_1 3 rfl rfl)
theorem dX10_begins_28 : decode cX10_begins 28 = .ok (.aload_n 0, 1) := dk_42 (dk_at dksX10_begins_1 6 rfl rfl)
theorem dX10_begins_29 : decode cX10_begins 29 = .ok (.iconst 0, 1) := dk_3 (dk_at dksX10_begins_1 7 rfl rfl)
theorem dX10_begins_30 : decode cX10_begins 30 = .ok (.iload_n 2, 1) := dk_28 (dk_at dksX10_begins_1 8 rfl rfl)
theorem dX10_begins_31 : decode cX10_begins 31 = .ok (.iload_n 3, 1) := dk_29 (dk_at dksX10_begins_1 9 rfl rfl)
theorem dX10_begins_32 : decode cX10_begins 32 = .ok (.invokevirtual 46, 3) := dk_182 0 46 (dk_at dksX10_begins_1 10 rfl rfl)
theorem dX10_begins_35 : decode cX10_begins 35 = .ok (.ireturn, 1) := dk_172 (dk_at dksX10_begins_1 13 rfl rfl)
abbrev cX10_fits : ByteArray := prog_5_method_3_code
def yX10_fits : MethodName := ⟨RX10, "fits", "(III)Z"⟩
def dkwX10_fits_8 : List UInt8 := [180, 0, 9, 21, 5, 3, 79, 3, 172]
abbrev dktX10_fits_8 : List UInt8 := dkwX10_fits_8 ++ []
def dkwX10_fits_7 : List UInt8 := [42, 27, 4, 96, 28, 21, 7, 96, 29, 182, 0, 46, 153, 0, 5, 4, 172, 132, 7, 1, 167, 255, 212, 42]
abbrev dktX10_fits_7 : List UInt8 := dkwX10_fits_7 ++ dktX10_fits_8
def dkwX10_fits_6 : List UInt8 := [21, 7, 21, 6, 163, 0, 43, 42, 180, 0, 9, 21, 5, 21, 7, 79, 42, 180, 0, 15, 21, 5, 28, 79]
abbrev dktX10_fits_6 : List UInt8 := dkwX10_fits_6 ++ dktX10_fits_7
def dkwX10_fits_5 : List UInt8 := [180, 0, 9, 21, 5, 46, 96, 29, 182, 0, 46, 153, 0, 7, 4, 167, 0, 4, 3, 172, 4, 54, 7]
abbrev dktX10_fits_5 : List UInt8 := dkwX10_fits_5 ++ dktX10_fits_6
def dkwX10_fits_4 : List UInt8 := [21, 5, 46, 28, 42, 180, 0, 9, 21, 5, 46, 182, 0, 42, 153, 0, 27, 42, 27, 4, 96, 28, 42]
abbrev dktX10_fits_4 : List UInt8 := dkwX10_fits_4 ++ dktX10_fits_5
def dkwX10_fits_3 : List UInt8 := [158, 0, 66, 42, 180, 0, 9, 21, 5, 46, 21, 6, 163, 0, 52, 42, 180, 0, 32, 42, 180, 0, 15]
abbrev dktX10_fits_3 : List UInt8 := dkwX10_fits_3 ++ dktX10_fits_4
def dkwX10_fits_2 : List UInt8 := [180, 0, 32, 180, 0, 36, 28, 100, 21, 4, 4, 100, 27, 100, 100, 54, 6, 42, 180, 0, 9, 21, 5, 46]
abbrev dktX10_fits_2 : List UInt8 := dkwX10_fits_2 ++ dktX10_fits_3
def dkwX10_fits_1 : List UInt8 := [160, 0, 7, 4, 167, 0, 4, 3, 172, 42, 180, 0, 18, 27, 182, 0, 28, 16, 120, 100, 54, 5, 42]
abbrev dktX10_fits_1 : List UInt8 := dkwX10_fits_1 ++ dktX10_fits_2
def dkwX10_fits_0 : List UInt8 := [42, 180, 0, 18, 182, 0, 22, 54, 4, 27, 21, 4, 160, 0, 19, 29, 2, 159, 0, 8, 28, 29]
abbrev dktX10_fits_0 : List UInt8 := dkwX10_fits_0 ++ dktX10_fits_1
theorem dksX10_fits_0 : cX10_fits.data.toList.drop 0 = dktX10_fits_0 := by decide +kernel
theorem dksX10_fits_1 : cX10_fits.data.toList.drop 22 = dktX10_fits_1 := dk_seg dksX10_fits_0 22 rfl rfl
theorem dksX10_fits_2 : cX10_fits.data.toList.drop 45 = dktX10_fits_2 := dk_seg dksX10_fits_1 23 rfl rfl
theorem dksX10_fits_3 : cX10_fits.data.toList.drop 69 = dktX10_fits_3 := dk_seg dksX10_fits_2 24 rfl rfl
theorem dksX10_fits_4 : cX10_fits.data.toList.drop 92 = dktX10_fits_4 := dk_seg dksX10_fits_3 23 rfl rfl
theorem dksX10_fits_5 : cX10_fits.data.toList.drop 115 = dktX10_fits_5 := dk_seg dksX10_fits_4 23 rfl rfl
theorem dksX10_fits_6 : cX10_fits.data.toList.drop 138 = dktX10_fits_6 := dk_seg dksX10_fits_5 23 rfl rfl
theorem dksX10_fits_7 : cX10_fits.data.toList.drop 162 = dktX10_fits_7 := dk_seg dksX10_fits_6 24 rfl rfl
theorem dksX10_fits_8 : cX10_fits.data.toList.drop 186 = dktX10_fits_8 := dk_seg dksX10_fits_7 24 rfl rfl
theorem dX10_fits_0 : decode cX10_fits 0 = .ok (.aload_n 0, 1) := dk_42 (dk_at dksX10_fits_0 0 rfl rfl)
theorem dX10_fits_1 : decode cX10_fits 1 = .ok (.getfield 18, 3) := dk_180 0 18 (dk_at dksX10_fits_0 1 rfl rfl)
theorem dX10_fits_4 : decode cX10_fits 4 = .ok (.invokevirtual 22, 3) := dk_182 0 22 (dk_at dksX10_fits_0 4 rfl rfl)
theorem dX10_fits_7 : decode cX10_fits 7 = .ok (.istore 4, 2) := dk_54 4 (dk_at dksX10_fits_0 7 rfl rfl)
theorem dX10_fits_9 : decode cX10_fits 9 = .ok (.iload_n 1, 1) := dk_27 (dk_at dksX10_fits_0 9 rfl rfl)
theorem dX10_fits_10 : decode cX10_fits 10 = .ok (.iload 4, 2) := dk_21 4 (dk_at dksX10_fits_0 10 rfl rfl)
theorem dX10_fits_12 : decode cX10_fits 12 = .ok (.if_icmp .ne 19, 3) := dk_160 0 19 (dk_at dksX10_fits_0 12 rfl rfl)
theorem dX10_fits_15 : decode cX10_fits 15 = .ok (.iload_n 3, 1) := dk_29 (dk_at dksX10_fits_0 15 rfl rfl)
theorem dX10_fits_16 : decode cX10_fits 16 = .ok (.iconst (-1), 1) := dk_2 (dk_at dksX10_fits_0 16 rfl rfl)
theorem dX10_fits_17 : decode cX10_fits 17 = .ok (.if_icmp .eq 8, 3) := dk_159 0 8 (dk_at dksX10_fits_0 17 rfl rfl)
theorem dX10_fits_20 : decode cX10_fits 20 = .ok (.iload_n 2, 1) := dk_28 (dk_at dksX10_fits_0 20 rfl rfl)
theorem dX10_fits_21 : decode cX10_fits 21 = .ok (.iload_n 3, 1) := dk_29 (dk_at dksX10_fits_0 21 rfl rfl)
theorem dX10_fits_22 : decode cX10_fits 22 = .ok (.if_icmp .ne 7, 3) := dk_160 0 7 (dk_at dksX10_fits_1 0 rfl rfl)
theorem dX10_fits_25 : decode cX10_fits 25 = .ok (.iconst 1, 1) := dk_4 (dk_at dksX10_fits_1 3 rfl rfl)
theorem dX10_fits_26 : decode cX10_fits 26 = .ok (.goto 4, 3) := dk_167 0 4 (dk_at dksX10_fits_1 4 rfl rfl)
theorem dX10_fits_29 : decode cX10_fits 29 = .ok (.iconst 0, 1) := dk_3 (dk_at dksX10_fits_1 7 rfl rfl)
theorem dX10_fits_30 : decode cX10_fits 30 = .ok (.ireturn, 1) := dk_172 (dk_at dksX10_fits_1 8 rfl rfl)
theorem dX10_fits_31 : decode cX10_fits 31 = .ok (.aload_n 0, 1) := dk_42 (dk_at dksX10_fits_1 9 rfl rfl)
theorem dX10_fits_32 : decode cX10_fits 32 = .ok (.getfield 18, 3) := dk_180 0 18 (dk_at dksX10_fits_1 10 rfl rfl)
theorem dX10_fits_35 : decode cX10_fits 35 = .ok (.iload_n 1, 1) := dk_27 (dk_at dksX10_fits_1 13 rfl rfl)
theorem dX10_fits_36 : decode cX10_fits 36 = .ok (.invokevirtual 28, 3) := dk_182 0 28 (dk_at dksX10_fits_1 14 rfl rfl)
theorem dX10_fits_39 : decode cX10_fits 39 = .ok (.bipush 120, 2) := dk_16 120 (dk_at dksX10_fits_1 17 rfl rfl)
theorem dX10_fits_41 : decode cX10_fits 41 = .ok (.isub, 1) := dk_100 (dk_at dksX10_fits_1 19 rfl rfl)
theorem dX10_fits_42 : decode cX10_fits 42 = .ok (.istore 5, 2) := dk_54 5 (dk_at dksX10_fits_1 20 rfl rfl)
theorem dX10_fits_44 : decode cX10_fits 44 = .ok (.aload_n 0, 1) := dk_42 (dk_at dksX10_fits_1 22 rfl rfl)
theorem dX10_fits_45 : decode cX10_fits 45 = .ok (.getfield 32, 3) := dk_180 0 32 (dk_at dksX10_fits_2 0 rfl rfl)
theorem dX10_fits_48 : decode cX10_fits 48 = .ok (.getfield 36, 3) := dk_180 0 36 (dk_at dksX10_fits_2 3 rfl rfl)
theorem dX10_fits_51 : decode cX10_fits 51 = .ok (.iload_n 2, 1) := dk_28 (dk_at dksX10_fits_2 6 rfl rfl)
theorem dX10_fits_52 : decode cX10_fits 52 = .ok (.isub, 1) := dk_100 (dk_at dksX10_fits_2 7 rfl rfl)
theorem dX10_fits_53 : decode cX10_fits 53 = .ok (.iload 4, 2) := dk_21 4 (dk_at dksX10_fits_2 8 rfl rfl)
theorem dX10_fits_55 : decode cX10_fits 55 = .ok (.iconst 1, 1) := dk_4 (dk_at dksX10_fits_2 10 rfl rfl)
theorem dX10_fits_56 : decode cX10_fits 56 = .ok (.isub, 1) := dk_100 (dk_at dksX10_fits_2 11 rfl rfl)
theorem dX10_fits_57 : decode cX10_fits 57 = .ok (.iload_n 1, 1) := dk_27 (dk_at dksX10_fits_2 12 rfl rfl)
theorem dX10_fits_58 : decode cX10_fits 58 = .ok (.isub, 1) := dk_100 (dk_at dksX10_fits_2 13 rfl rfl)
theorem dX10_fits_59 : decode cX10_fits 59 = .ok (.isub, 1) := dk_100 (dk_at dksX10_fits_2 14 rfl rfl)
theorem dX10_fits_60 : decode cX10_fits 60 = .ok (.istore 6, 2) := dk_54 6 (dk_at dksX10_fits_2 15 rfl rfl)
theorem dX10_fits_62 : decode cX10_fits 62 = .ok (.aload_n 0, 1) := dk_42 (dk_at dksX10_fits_2 17 rfl rfl)
theorem dX10_fits_63 : decode cX10_fits 63 = .ok (.getfield 9, 3) := dk_180 0 9 (dk_at dksX10_fits_2 18 rfl rfl)
theorem dX10_fits_66 : decode cX10_fits 66 = .ok (.iload 5, 2) := dk_21 5 (dk_at dksX10_fits_2 21 rfl rfl)
theorem dX10_fits_68 : decode cX10_fits 68 = .ok (.iaload, 1) := dk_46 (dk_at dksX10_fits_2 23 rfl rfl)
theorem dX10_fits_69 : decode cX10_fits 69 = .ok (.ifCond .le 66, 3) := dk_158 0 66 (dk_at dksX10_fits_3 0 rfl rfl)
theorem dX10_fits_72 : decode cX10_fits 72 = .ok (.aload_n 0, 1) := dk_42 (dk_at dksX10_fits_3 3 rfl rfl)
theorem dX10_fits_73 : decode cX10_fits 73 = .ok (.getfield 9, 3) := dk_180 0 9 (dk_at dksX10_fits_3 4 rfl rfl)
theorem dX10_fits_76 : decode cX10_fits 76 = .ok (.iload 5, 2) := dk_21 5 (dk_at dksX10_fits_3 7 rfl rfl)
theorem dX10_fits_78 : decode cX10_fits 78 = .ok (.iaload, 1) := dk_46 (dk_at dksX10_fits_3 9 rfl rfl)
theorem dX10_fits_79 : decode cX10_fits 79 = .ok (.iload 6, 2) := dk_21 6 (dk_at dksX10_fits_3 10 rfl rfl)
theorem dX10_fits_81 : decode cX10_fits 81 = .ok (.if_icmp .gt 52, 3) := dk_163 0 52 (dk_at dksX10_fits_3 12 rfl rfl)
theorem dX10_fits_84 : decode cX10_fits 84 = .ok (.aload_n 0, 1) := dk_42 (dk_at dksX10_fits_3 15 rfl rfl)
theorem dX10_fits_85 : decode cX10_fits 85 = .ok (.getfield 32, 3) := dk_180 0 32 (dk_at dksX10_fits_3 16 rfl rfl)
theorem dX10_fits_88 : decode cX10_fits 88 = .ok (.aload_n 0, 1) := dk_42 (dk_at dksX10_fits_3 19 rfl rfl)
theorem dX10_fits_89 : decode cX10_fits 89 = .ok (.getfield 15, 3) := dk_180 0 15 (dk_at dksX10_fits_3 20 rfl rfl)
theorem dX10_fits_92 : decode cX10_fits 92 = .ok (.iload 5, 2) := dk_21 5 (dk_at dksX10_fits_4 0 rfl rfl)
theorem dX10_fits_94 : decode cX10_fits 94 = .ok (.iaload, 1) := dk_46 (dk_at dksX10_fits_4 2 rfl rfl)
theorem dX10_fits_95 : decode cX10_fits 95 = .ok (.iload_n 2, 1) := dk_28 (dk_at dksX10_fits_4 3 rfl rfl)
theorem dX10_fits_96 : decode cX10_fits 96 = .ok (.aload_n 0, 1) := dk_42 (dk_at dksX10_fits_4 4 rfl rfl)
theorem dX10_fits_97 : decode cX10_fits 97 = .ok (.getfield 9, 3) := dk_180 0 9 (dk_at dksX10_fits_4 5 rfl rfl)
theorem dX10_fits_100 : decode cX10_fits 100 = .ok (.iload 5, 2) := dk_21 5 (dk_at dksX10_fits_4 8 rfl rfl)
theorem dX10_fits_102 : decode cX10_fits 102 = .ok (.iaload, 1) := dk_46 (dk_at dksX10_fits_4 10 rfl rfl)
theorem dX10_fits_103 : decode cX10_fits 103 = .ok (.invokevirtual 42, 3) := dk_182 0 42 (dk_at dksX10_fits_4 11 rfl rfl)
theorem dX10_fits_106 : decode cX10_fits 106 = .ok (.ifCond .eq 27, 3) := dk_153 0 27 (dk_at dksX10_fits_4 14 rfl rfl)
theorem dX10_fits_109 : decode cX10_fits 109 = .ok (.aload_n 0, 1) := dk_42 (dk_at dksX10_fits_4 17 rfl rfl)
theorem dX10_fits_110 : decode cX10_fits 110 = .ok (.iload_n 1, 1) := dk_27 (dk_at dksX10_fits_4 18 rfl rfl)
theorem dX10_fits_111 : decode cX10_fits 111 = .ok (.iconst 1, 1) := dk_4 (dk_at dksX10_fits_4 19 rfl rfl)
theorem dX10_fits_112 : decode cX10_fits 112 = .ok (.iadd, 1) := dk_96 (dk_at dksX10_fits_4 20 rfl rfl)
theorem dX10_fits_113 : decode cX10_fits 113 = .ok (.iload_n 2, 1) := dk_28 (dk_at dksX10_fits_4 21 rfl rfl)
theorem dX10_fits_114 : decode cX10_fits 114 = .ok (.aload_n 0, 1) := dk_42 (dk_at dksX10_fits_4 22 rfl rfl)
theorem dX10_fits_115 : decode cX10_fits 115 = .ok (.getfield 9, 3) := dk_180 0 9 (dk_at dksX10_fits_5 0 rfl rfl)
theorem dX10_fits_118 : decode cX10_fits 118 = .ok (.iload 5, 2) := dk_21 5 (dk_at dksX10_fits_5 3 rfl rfl)
theorem dX10_fits_120 : decode cX10_fits 120 = .ok (.iaload, 1) := dk_46 (dk_at dksX10_fits_5 5 rfl rfl)
theorem dX10_fits_121 : decode cX10_fits 121 = .ok (.iadd, 1) := dk_96 (dk_at dksX10_fits_5 6 rfl rfl)
theorem dX10_fits_122 : decode cX10_fits 122 = .ok (.iload_n 3, 1) := dk_29 (dk_at dksX10_fits_5 7 rfl rfl)
theorem dX10_fits_123 : decode cX10_fits 123 = .ok (.invokevirtual 46, 3) := dk_182 0 46 (dk_at dksX10_fits_5 8 rfl rfl)
theorem dX10_fits_126 : decode cX10_fits 126 = .ok (.ifCond .eq 7, 3) := dk_153 0 7 (dk_at dksX10_fits_5 11 rfl rfl)
theorem dX10_fits_129 : decode cX10_fits 129 = .ok (.iconst 1, 1) := dk_4 (dk_at dksX10_fits_5 14 rfl rfl)
theorem dX10_fits_130 : decode cX10_fits 130 = .ok (.goto 4, 3) := dk_167 0 4 (dk_at dksX10_fits_5 15 rfl rfl)
theorem dX10_fits_133 : decode cX10_fits 133 = .ok (.iconst 0, 1) := dk_3 (dk_at dksX10_fits_5 18 rfl rfl)
theorem dX10_fits_134 : decode cX10_fits 134 = .ok (.ireturn, 1) := dk_172 (dk_at dksX10_fits_5 19 rfl rfl)
theorem dX10_fits_135 : decode cX10_fits 135 = .ok (.iconst 1, 1) := dk_4 (dk_at dksX10_fits_5 20 rfl rfl)
theorem dX10_fits_136 : decode cX10_fits 136 = .ok (.istore 7, 2) := dk_54 7 (dk_at dksX10_fits_5 21 rfl rfl)
theorem dX10_fits_138 : decode cX10_fits 138 = .ok (.iload 7, 2) := dk_21 7 (dk_at dksX10_fits_6 0 rfl rfl)
theorem dX10_fits_140 : decode cX10_fits 140 = .ok (.iload 6, 2) := dk_21 6 (dk_at dksX10_fits_6 2 rfl rfl)
theorem dX10_fits_142 : decode cX10_fits 142 = .ok (.if_icmp .gt 43, 3) := dk_163 0 43 (dk_at dksX10_fits_6 4 rfl rfl)
theorem dX10_fits_145 : decode cX10_fits 145 = .ok (.aload_n 0, 1) := dk_42 (dk_at dksX10_fits_6 7 rfl rfl)
theorem dX10_fits_146 : decode cX10_fits 146 = .ok (.getfield 9, 3) := dk_180 0 9 (dk_at dksX10_fits_6 8 rfl rfl)
theorem dX10_fits_149 : decode cX10_fits 149 = .ok (.iload 5, 2) := dk_21 5 (dk_at dksX10_fits_6 11 rfl rfl)
theorem dX10_fits_151 : decode cX10_fits 151 = .ok (.iload 7, 2) := dk_21 7 (dk_at dksX10_fits_6 13 rfl rfl)
theorem dX10_fits_153 : decode cX10_fits 153 = .ok (.iastore, 1) := dk_79 (dk_at dksX10_fits_6 15 rfl rfl)
theorem dX10_fits_154 : decode cX10_fits 154 = .ok (.aload_n 0, 1) := dk_42 (dk_at dksX10_fits_6 16 rfl rfl)
theorem dX10_fits_155 : decode cX10_fits 155 = .ok (.getfield 15, 3) := dk_180 0 15 (dk_at dksX10_fits_6 17 rfl rfl)
theorem dX10_fits_158 : decode cX10_fits 158 = .ok (.iload 5, 2) := dk_21 5 (dk_at dksX10_fits_6 20 rfl rfl)
theorem dX10_fits_160 : decode cX10_fits 160 = .ok (.iload_n 2, 1) := dk_28 (dk_at dksX10_fits_6 22 rfl rfl)
theorem dX10_fits_161 : decode cX10_fits 161 = .ok (.iastore, 1) := dk_79 (dk_at dksX10_fits_6 23 rfl rfl)
theorem dX10_fits_162 : decode cX10_fits 162 = .ok (.aload_n 0, 1) := dk_42 (dk_at dksX10_fits_7 0 rfl rfl)
theorem dX10_fits_163 : decode cX10_fits 163 = .ok (.iload_n 1, 1) := dk_27 (dk_at dksX10_fits_7 1 rfl rfl)
theorem dX10_fits_164 : decode cX10_fits 164 = .ok (.iconst 1, 1) := dk_4 (dk_at dksX10_fits_7 2 rfl rfl)
theorem dX10_fits_165 : decode cX10_fits 165 = .ok (.iadd, 1) := dk_96 (dk_at dksX10_fits_7 3 rfl rfl)
theorem dX10_fits_166 : decode cX10_fits 166 = .ok (.iload_n 2, 1) := dk_28 (dk_at dksX10_fits_7 4 rfl rfl)
theorem dX10_fits_167 : decode cX10_fits 167 = .ok (.iload 7, 2) := dk_21 7 (dk_at dksX10_fits_7 5 rfl rfl)
theorem dX10_fits_169 : decode cX10_fits 169 = .ok (.iadd, 1) := dk_96 (dk_at dksX10_fits_7 7 rfl rfl)
theorem dX10_fits_170 : decode cX10_fits 170 = .ok (.iload_n 3, 1) := dk_29 (dk_at dksX10_fits_7 8 rfl rfl)
theorem dX10_fits_171 : decode cX10_fits 171 = .ok (.invokevirtual 46, 3) := dk_182 0 46 (dk_at dksX10_fits_7 9 rfl rfl)
theorem dX10_fits_174 : decode cX10_fits 174 = .ok (.ifCond .eq 5, 3) := dk_153 0 5 (dk_at dksX10_fits_7 12 rfl rfl)
theorem dX10_fits_177 : decode cX10_fits 177 = .ok (.iconst 1, 1) := dk_4 (dk_at dksX10_fits_7 15 rfl rfl)
theorem dX10_fits_178 : decode cX10_fits 178 = .ok (.ireturn, 1) := dk_172 (dk_at dksX10_fits_7 16 rfl rfl)
theorem dX10_fits_179 : decode cX10_fits 179 = .ok (.iinc 7 1, 3) := dk_132 7 1 (dk_at dksX10_fits_7 17 rfl rfl)
theorem dX10_fits_182 : decode cX10_fits 182 = .ok (.goto (-44), 3) := dk_167 255 212 (dk_at dksX10_fits_7 20 rfl rfl)
theorem dX10_fits_185 : decode cX10_fits 185 = .ok (.aload_n 0, 1) := dk_42 (dk_at dksX10_fits_7 23 rfl rfl)
theorem dX10_fits_186 : decode cX10_fits 186 = .ok (.getfield 9, 3) := dk_180 0 9 (dk_at dksX10_fits_8 0 rfl rfl)
theorem dX10_fits_189 : decode cX10_fits 189 = .ok (.iload 5, 2) := dk_21 5 (dk_at dksX10_fits_8 3 rfl rfl)
theorem dX10_fits_191 : decode cX10_fits 191 = .ok (.iconst 0, 1) := dk_3 (dk_at dksX10_fits_8 5 rfl rfl)
theorem dX10_fits_192 : decode cX10_fits 192 = .ok (.iastore, 1) := dk_79 (dk_at dksX10_fits_8 6 rfl rfl)
theorem dX10_fits_193 : decode cX10_fits 193 = .ok (.iconst 0, 1) := dk_3 (dk_at dksX10_fits_8 7 rfl rfl)
theorem dX10_fits_194 : decode cX10_fits 194 = .ok (.ireturn, 1) := dk_172 (dk_at dksX10_fits_8 8 rfl rfl)
abbrev cX10_init : ByteArray := prog_5_method_1_code
def yX10_init : MethodName := ⟨RX10, "<init>", "(Ljava/lang/String;Ljava/lang/String;)V"⟩
def dkwX10_init_1 : List UInt8 := [177]
abbrev dktX10_init_1 : List UInt8 := dkwX10_init_1 ++ []
def dkwX10_init_0 : List UInt8 := [42, 43, 183, 0, 3, 42, 6, 188, 10, 181, 0, 9, 42, 6, 188, 10, 181, 0, 15, 42, 44, 181, 0, 18]
abbrev dktX10_init_0 : List UInt8 := dkwX10_init_0 ++ dktX10_init_1
theorem dksX10_init_0 : cX10_init.data.toList.drop 0 = dktX10_init_0 := by decide +kernel
theorem dksX10_init_1 : cX10_init.data.toList.drop 24 = dktX10_init_1 := dk_seg dksX10_init_0 24 rfl rfl
theorem dX10_init_0 : decode cX10_init 0 = .ok (.aload_n 0, 1) := dk_42 (dk_at dksX10_init_0 0 rfl rfl)
theorem dX10_init_1 : decode cX10_init 1 = .ok (.aload_n 1, 1) := dk_43 (dk_at dksX10_init_0 1 rfl rfl)
theorem dX10_init_2 : decode cX10_init 2 = .ok (.invokespecial 3, 3) := dk_183 0 3 (dk_at dksX10_init_0 2 rfl rfl)
theorem dX10_init_5 : decode cX10_init 5 = .ok (.aload_n 0, 1) := dk_42 (dk_at dksX10_init_0 5 rfl rfl)
theorem dX10_init_6 : decode cX10_init 6 = .ok (.iconst 3, 1) := dk_6 (dk_at dksX10_init_0 6 rfl rfl)
theorem dX10_init_7 : decode cX10_init 7 = .ok (.newarray .int, 2) := dk_188_10 (dk_at dksX10_init_0 7 rfl rfl)
theorem dX10_init_9 : decode cX10_init 9 = .ok (.putfield 9, 3) := dk_181 0 9 (dk_at dksX10_init_0 9 rfl rfl)
theorem dX10_init_12 : decode cX10_init 12 = .ok (.aload_n 0, 1) := dk_42 (dk_at dksX10_init_0 12 rfl rfl)
theorem dX10_init_13 : decode cX10_init 13 = .ok (.iconst 3, 1) := dk_6 (dk_at dksX10_init_0 13 rfl rfl)
theorem dX10_init_14 : decode cX10_init 14 = .ok (.newarray .int, 2) := dk_188_10 (dk_at dksX10_init_0 14 rfl rfl)
theorem dX10_init_16 : decode cX10_init 16 = .ok (.putfield 15, 3) := dk_181 0 15 (dk_at dksX10_init_0 16 rfl rfl)
theorem dX10_init_19 : decode cX10_init 19 = .ok (.aload_n 0, 1) := dk_42 (dk_at dksX10_init_0 19 rfl rfl)
theorem dX10_init_20 : decode cX10_init 20 = .ok (.aload_n 2, 1) := dk_44 (dk_at dksX10_init_0 20 rfl rfl)
theorem dX10_init_21 : decode cX10_init 21 = .ok (.putfield 18, 3) := dk_181 0 18 (dk_at dksX10_init_0 21 rfl rfl)
theorem dX10_init_24 : decode cX10_init 24 = .ok (.return_, 1) := dk_177 (dk_at dksX10_init_1 0 rfl rfl)
abbrev cX10_firstIn : ByteArray := prog_5_method_6_code
def yX10_firstIn : MethodName := ⟨RX10, "firstIn", "(LRepeatFree$Word;)I"⟩
def dkwX10_firstIn_1 : List UInt8 := [182, 0, 49, 153, 0, 5, 28, 172, 132, 2, 1, 167, 255, 225, 2, 172]
abbrev dktX10_firstIn_1 : List UInt8 := dkwX10_firstIn_1 ++ []
def dkwX10_firstIn_0 : List UInt8 := [3, 61, 28, 42, 180, 0, 18, 182, 0, 22, 96, 43, 180, 0, 36, 163, 0, 21, 42, 43, 28, 2]
abbrev dktX10_firstIn_0 : List UInt8 := dkwX10_firstIn_0 ++ dktX10_firstIn_1
theorem dksX10_firstIn_0 : cX10_firstIn.data.toList.drop 0 = dktX10_firstIn_0 := by decide +kernel
theorem dksX10_firstIn_1 : cX10_firstIn.data.toList.drop 22 = dktX10_firstIn_1 := dk_seg dksX10_firstIn_0 22 rfl rfl
theorem dX10_firstIn_0 : decode cX10_firstIn 0 = .ok (.iconst 0, 1) := dk_3 (dk_at dksX10_firstIn_0 0 rfl rfl)
theorem dX10_firstIn_1 : decode cX10_firstIn 1 = .ok (.istore_n 2, 1) := dk_61 (dk_at dksX10_firstIn_0 1 rfl rfl)
theorem dX10_firstIn_2 : decode cX10_firstIn 2 = .ok (.iload_n 2, 1) := dk_28 (dk_at dksX10_firstIn_0 2 rfl rfl)
theorem dX10_firstIn_3 : decode cX10_firstIn 3 = .ok (.aload_n 0, 1) := dk_42 (dk_at dksX10_firstIn_0 3 rfl rfl)
theorem dX10_firstIn_4 : decode cX10_firstIn 4 = .ok (.getfield 18, 3) := dk_180 0 18 (dk_at dksX10_firstIn_0 4 rfl rfl)
theorem dX10_firstIn_7 : decode cX10_firstIn 7 = .ok (.invokevirtual 22, 3) := dk_182 0 22 (dk_at dksX10_firstIn_0 7 rfl rfl)
theorem dX10_firstIn_10 : decode cX10_firstIn 10 = .ok (.iadd, 1) := dk_96 (dk_at dksX10_firstIn_0 10 rfl rfl)
theorem dX10_firstIn_11 : decode cX10_firstIn 11 = .ok (.aload_n 1, 1) := dk_43 (dk_at dksX10_firstIn_0 11 rfl rfl)
theorem dX10_firstIn_12 : decode cX10_firstIn 12 = .ok (.getfield 36, 3) := dk_180 0 36 (dk_at dksX10_firstIn_0 12 rfl rfl)
theorem dX10_firstIn_15 : decode cX10_firstIn 15 = .ok (.if_icmp .gt 21, 3) := dk_163 0 21 (dk_at dksX10_firstIn_0 15 rfl rfl)
theorem dX10_firstIn_18 : decode cX10_firstIn 18 = .ok (.aload_n 0, 1) := dk_42 (dk_at dksX10_firstIn_0 18 rfl rfl)
theorem dX10_firstIn_19 : decode cX10_firstIn 19 = .ok (.aload_n 1, 1) := dk_43 (dk_at dksX10_firstIn_0 19 rfl rfl)
theorem dX10_firstIn_20 : decode cX10_firstIn 20 = .ok (.iload_n 2, 1) := dk_28 (dk_at dksX10_firstIn_0 20 rfl rfl)
theorem dX10_firstIn_21 : decode cX10_firstIn 21 = .ok (.iconst (-1), 1) := dk_2 (dk_at dksX10_firstIn_0 21 rfl rfl)
theorem dX10_firstIn_22 : decode cX10_firstIn 22 = .ok (.invokevirtual 49, 3) := dk_182 0 49 (dk_at dksX10_firstIn_1 0 rfl rfl)
theorem dX10_firstIn_25 : decode cX10_firstIn 25 = .ok (.ifCond .eq 5, 3) := dk_153 0 5 (dk_at dksX10_firstIn_1 3 rfl rfl)
theorem dX10_firstIn_28 : decode cX10_firstIn 28 = .ok (.iload_n 2, 1) := dk_28 (dk_at dksX10_firstIn_1 6 rfl rfl)
theorem dX10_firstIn_29 : decode cX10_firstIn 29 = .ok (.ireturn, 1) := dk_172 (dk_at dksX10_firstIn_1 7 rfl rfl)
theorem dX10_firstIn_30 : decode cX10_firstIn 30 = .ok (.iinc 2 1, 3) := dk_132 2 1 (dk_at dksX10_firstIn_1 8 rfl rfl)
theorem dX10_firstIn_33 : decode cX10_firstIn 33 = .ok (.goto (-31), 3) := dk_167 255 225 (dk_at dksX10_firstIn_1 11 rfl rfl)
theorem dX10_firstIn_36 : decode cX10_firstIn 36 = .ok (.iconst (-1), 1) := dk_2 (dk_at dksX10_firstIn_1 14 rfl rfl)
theorem dX10_firstIn_37 : decode cX10_firstIn 37 = .ok (.ireturn, 1) := dk_172 (dk_at dksX10_firstIn_1 15 rfl rfl)
abbrev cX10_sizesIn : ByteArray := prog_5_method_8_code
def yX10_sizesIn : MethodName := ⟨RX10, "sizesIn", "(LRepeatFree$Word;I)[I"⟩
def dkwX10_sizesIn_7 : List UInt8 := [167, 255, 116, 25, 4, 176]
abbrev dktX10_sizesIn_7 : List UInt8 := dkwX10_sizesIn_7 ++ []
def dkwX10_sizesIn_6 : List UInt8 := [182, 0, 60, 153, 0, 6, 25, 4, 176, 132, 7, 1, 167, 255, 200, 132, 6, 1, 167, 255, 158, 132, 5, 1]
abbrev dktX10_sizesIn_6 : List UInt8 := dkwX10_sizesIn_6 ++ dktX10_sizesIn_7
def dkwX10_sizesIn_5 : List UInt8 := [25, 4, 3, 21, 5, 79, 25, 4, 4, 21, 6, 79, 25, 4, 5, 21, 7, 79, 42, 43, 28, 25, 4]
abbrev dktX10_sizesIn_5 : List UInt8 := dkwX10_sizesIn_5 ++ dktX10_sizesIn_6
def dkwX10_sizesIn_4 : List UInt8 := [54, 7, 21, 7, 29, 5, 184, 0, 56, 153, 0, 10, 43, 180, 0, 36, 167, 0, 4, 3, 163, 0, 41]
abbrev dktX10_sizesIn_4 : List UInt8 := dkwX10_sizesIn_4 ++ dktX10_sizesIn_5
def dkwX10_sizesIn_3 : List UInt8 := [43, 180, 0, 36, 167, 0, 4, 3, 163, 0, 83, 29, 5, 184, 0, 56, 153, 0, 7, 4, 167, 0, 4, 3]
abbrev dktX10_sizesIn_3 : List UInt8 := dkwX10_sizesIn_3 ++ dktX10_sizesIn_4
def dkwX10_sizesIn_2 : List UInt8 := [4, 184, 0, 56, 153, 0, 7, 4, 167, 0, 4, 3, 54, 6, 21, 6, 29, 4, 184, 0, 56, 153, 0, 10]
abbrev dktX10_sizesIn_2 : List UInt8 := dkwX10_sizesIn_2 ++ dktX10_sizesIn_3
def dkwX10_sizesIn_1 : List UInt8 := [54, 5, 21, 5, 29, 3, 184, 0, 56, 153, 0, 10, 43, 180, 0, 36, 167, 0, 4, 3, 163, 0, 125, 29]
abbrev dktX10_sizesIn_1 : List UInt8 := dkwX10_sizesIn_1 ++ dktX10_sizesIn_2
def dkwX10_sizesIn_0 : List UInt8 := [42, 182, 0, 53, 62, 6, 188, 10, 58, 4, 29, 3, 184, 0, 56, 153, 0, 7, 4, 167, 0, 4, 3]
abbrev dktX10_sizesIn_0 : List UInt8 := dkwX10_sizesIn_0 ++ dktX10_sizesIn_1
theorem dksX10_sizesIn_0 : cX10_sizesIn.data.toList.drop 0 = dktX10_sizesIn_0 := by decide +kernel
theorem dksX10_sizesIn_1 : cX10_sizesIn.data.toList.drop 23 = dktX10_sizesIn_1 := dk_seg dksX10_sizesIn_0 23 rfl rfl
theorem dksX10_sizesIn_2 : cX10_sizesIn.data.toList.drop 47 = dktX10_sizesIn_2 := dk_seg dksX10_sizesIn_1 24 rfl rfl
theorem dksX10_sizesIn_3 : cX10_sizesIn.data.toList.drop 71 = dktX10_sizesIn_3 := dk_seg dksX10_sizesIn_2 24 rfl rfl
theorem dksX10_sizesIn_4 : cX10_sizesIn.data.toList.drop 95 = dktX10_sizesIn_4 := dk_seg dksX10_sizesIn_3 24 rfl rfl
theorem dksX10_sizesIn_5 : cX10_sizesIn.data.toList.drop 118 = dktX10_sizesIn_5 := dk_seg dksX10_sizesIn_4 23 rfl rfl
theorem dksX10_sizesIn_6 : cX10_sizesIn.data.toList.drop 141 = dktX10_sizesIn_6 := dk_seg dksX10_sizesIn_5 23 rfl rfl
theorem dksX10_sizesIn_7 : cX10_sizesIn.data.toList.drop 165 = dktX10_sizesIn_7 := dk_seg dksX10_sizesIn_6 24 rfl rfl
theorem dX10_sizesIn_0 : decode cX10_sizesIn 0 = .ok (.aload_n 0, 1) := dk_42 (dk_at dksX10_sizesIn_0 0 rfl rfl)
theorem dX10_sizesIn_1 : decode cX10_sizesIn 1 = .ok (.invokevirtual 53, 3) := dk_182 0 53 (dk_at dksX10_sizesIn_0 1 rfl rfl)
theorem dX10_sizesIn_4 : decode cX10_sizesIn 4 = .ok (.istore_n 3, 1) := dk_62 (dk_at dksX10_sizesIn_0 4 rfl rfl)
theorem dX10_sizesIn_5 : decode cX10_sizesIn 5 = .ok (.iconst 3, 1) := dk_6 (dk_at dksX10_sizesIn_0 5 rfl rfl)
theorem dX10_sizesIn_6 : decode cX10_sizesIn 6 = .ok (.newarray .int, 2) := dk_188_10 (dk_at dksX10_sizesIn_0 6 rfl rfl)
theorem dX10_sizesIn_8 : decode cX10_sizesIn 8 = .ok (.astore 4, 2) := dk_58 4 (dk_at dksX10_sizesIn_0 8 rfl rfl)
theorem dX10_sizesIn_10 : decode cX10_sizesIn 10 = .ok (.iload_n 3, 1) := dk_29 (dk_at dksX10_sizesIn_0 10 rfl rfl)
theorem dX10_sizesIn_11 : decode cX10_sizesIn 11 = .ok (.iconst 0, 1) := dk_3 (dk_at dksX10_sizesIn_0 11 rfl rfl)
theorem dX10_sizesIn_12 : decode cX10_sizesIn 12 = .ok (.invokestatic 56, 3) := dk_184 0 56 (dk_at dksX10_sizesIn_0 12 rfl rfl)
theorem dX10_sizesIn_15 : decode cX10_sizesIn 15 = .ok (.ifCond .eq 7, 3) := dk_153 0 7 (dk_at dksX10_sizesIn_0 15 rfl rfl)
theorem dX10_sizesIn_18 : decode cX10_sizesIn 18 = .ok (.iconst 1, 1) := dk_4 (dk_at dksX10_sizesIn_0 18 rfl rfl)
theorem dX10_sizesIn_19 : decode cX10_sizesIn 19 = .ok (.goto 4, 3) := dk_167 0 4 (dk_at dksX10_sizesIn_0 19 rfl rfl)
theorem dX10_sizesIn_22 : decode cX10_sizesIn 22 = .ok (.iconst 0, 1) := dk_3 (dk_at dksX10_sizesIn_0 22 rfl rfl)
theorem dX10_sizesIn_23 : decode cX10_sizesIn 23 = .ok (.istore 5, 2) := dk_54 5 (dk_at dksX10_sizesIn_1 0 rfl rfl)
theorem dX10_sizesIn_25 : decode cX10_sizesIn 25 = .ok (.iload 5, 2) := dk_21 5 (dk_at dksX10_sizesIn_1 2 rfl rfl)
theorem dX10_sizesIn_27 : decode cX10_sizesIn 27 = .ok (.iload_n 3, 1) := dk_29 (dk_at dksX10_sizesIn_1 4 rfl rfl)
theorem dX10_sizesIn_28 : decode cX10_sizesIn 28 = .ok (.iconst 0, 1) := dk_3 (dk_at dksX10_sizesIn_1 5 rfl rfl)
theorem dX10_sizesIn_29 : decode cX10_sizesIn 29 = .ok (.invokestatic 56, 3) := dk_184 0 56 (dk_at dksX10_sizesIn_1 6 rfl rfl)
theorem dX10_sizesIn_32 : decode cX10_sizesIn 32 = .ok (.ifCond .eq 10, 3) := dk_153 0 10 (dk_at dksX10_sizesIn_1 9 rfl rfl)
theorem dX10_sizesIn_35 : decode cX10_sizesIn 35 = .ok (.aload_n 1, 1) := dk_43 (dk_at dksX10_sizesIn_1 12 rfl rfl)
theorem dX10_sizesIn_36 : decode cX10_sizesIn 36 = .ok (.getfield 36, 3) := dk_180 0 36 (dk_at dksX10_sizesIn_1 13 rfl rfl)
theorem dX10_sizesIn_39 : decode cX10_sizesIn 39 = .ok (.goto 4, 3) := dk_167 0 4 (dk_at dksX10_sizesIn_1 16 rfl rfl)
theorem dX10_sizesIn_42 : decode cX10_sizesIn 42 = .ok (.iconst 0, 1) := dk_3 (dk_at dksX10_sizesIn_1 19 rfl rfl)
theorem dX10_sizesIn_43 : decode cX10_sizesIn 43 = .ok (.if_icmp .gt 125, 3) := dk_163 0 125 (dk_at dksX10_sizesIn_1 20 rfl rfl)
theorem dX10_sizesIn_46 : decode cX10_sizesIn 46 = .ok (.iload_n 3, 1) := dk_29 (dk_at dksX10_sizesIn_1 23 rfl rfl)
theorem dX10_sizesIn_47 : decode cX10_sizesIn 47 = .ok (.iconst 1, 1) := dk_4 (dk_at dksX10_sizesIn_2 0 rfl rfl)
theorem dX10_sizesIn_48 : decode cX10_sizesIn 48 = .ok (.invokestatic 56, 3) := dk_184 0 56 (dk_at dksX10_sizesIn_2 1 rfl rfl)
theorem dX10_sizesIn_51 : decode cX10_sizesIn 51 = .ok (.ifCond .eq 7, 3) := dk_153 0 7 (dk_at dksX10_sizesIn_2 4 rfl rfl)
theorem dX10_sizesIn_54 : decode cX10_sizesIn 54 = .ok (.iconst 1, 1) := dk_4 (dk_at dksX10_sizesIn_2 7 rfl rfl)
theorem dX10_sizesIn_55 : decode cX10_sizesIn 55 = .ok (.goto 4, 3) := dk_167 0 4 (dk_at dksX10_sizesIn_2 8 rfl rfl)
theorem dX10_sizesIn_58 : decode cX10_sizesIn 58 = .ok (.iconst 0, 1) := dk_3 (dk_at dksX10_sizesIn_2 11 rfl rfl)
theorem dX10_sizesIn_59 : decode cX10_sizesIn 59 = .ok (.istore 6, 2) := dk_54 6 (dk_at dksX10_sizesIn_2 12 rfl rfl)
theorem dX10_sizesIn_61 : decode cX10_sizesIn 61 = .ok (.iload 6, 2) := dk_21 6 (dk_at dksX10_sizesIn_2 14 rfl rfl)
theorem dX10_sizesIn_63 : decode cX10_sizesIn 63 = .ok (.iload_n 3, 1) := dk_29 (dk_at dksX10_sizesIn_2 16 rfl rfl)
theorem dX10_sizesIn_64 : decode cX10_sizesIn 64 = .ok (.iconst 1, 1) := dk_4 (dk_at dksX10_sizesIn_2 17 rfl rfl)
theorem dX10_sizesIn_65 : decode cX10_sizesIn 65 = .ok (.invokestatic 56, 3) := dk_184 0 56 (dk_at dksX10_sizesIn_2 18 rfl rfl)
theorem dX10_sizesIn_68 : decode cX10_sizesIn 68 = .ok (.ifCond .eq 10, 3) := dk_153 0 10 (dk_at dksX10_sizesIn_2 21 rfl rfl)
theorem dX10_sizesIn_71 : decode cX10_sizesIn 71 = .ok (.aload_n 1, 1) := dk_43 (dk_at dksX10_sizesIn_3 0 rfl rfl)
theorem dX10_sizesIn_72 : decode cX10_sizesIn 72 = .ok (.getfield 36, 3) := dk_180 0 36 (dk_at dksX10_sizesIn_3 1 rfl rfl)
theorem dX10_sizesIn_75 : decode cX10_sizesIn 75 = .ok (.goto 4, 3) := dk_167 0 4 (dk_at dksX10_sizesIn_3 4 rfl rfl)
theorem dX10_sizesIn_78 : decode cX10_sizesIn 78 = .ok (.iconst 0, 1) := dk_3 (dk_at dksX10_sizesIn_3 7 rfl rfl)
theorem dX10_sizesIn_79 : decode cX10_sizesIn 79 = .ok (.if_icmp .gt 83, 3) := dk_163 0 83 (dk_at dksX10_sizesIn_3 8 rfl rfl)
theorem dX10_sizesIn_82 : decode cX10_sizesIn 82 = .ok (.iload_n 3, 1) := dk_29 (dk_at dksX10_sizesIn_3 11 rfl rfl)
theorem dX10_sizesIn_83 : decode cX10_sizesIn 83 = .ok (.iconst 2, 1) := dk_5 (dk_at dksX10_sizesIn_3 12 rfl rfl)
theorem dX10_sizesIn_84 : decode cX10_sizesIn 84 = .ok (.invokestatic 56, 3) := dk_184 0 56 (dk_at dksX10_sizesIn_3 13 rfl rfl)
theorem dX10_sizesIn_87 : decode cX10_sizesIn 87 = .ok (.ifCond .eq 7, 3) := dk_153 0 7 (dk_at dksX10_sizesIn_3 16 rfl rfl)
theorem dX10_sizesIn_90 : decode cX10_sizesIn 90 = .ok (.iconst 1, 1) := dk_4 (dk_at dksX10_sizesIn_3 19 rfl rfl)
theorem dX10_sizesIn_91 : decode cX10_sizesIn 91 = .ok (.goto 4, 3) := dk_167 0 4 (dk_at dksX10_sizesIn_3 20 rfl rfl)
theorem dX10_sizesIn_94 : decode cX10_sizesIn 94 = .ok (.iconst 0, 1) := dk_3 (dk_at dksX10_sizesIn_3 23 rfl rfl)
theorem dX10_sizesIn_95 : decode cX10_sizesIn 95 = .ok (.istore 7, 2) := dk_54 7 (dk_at dksX10_sizesIn_4 0 rfl rfl)
theorem dX10_sizesIn_97 : decode cX10_sizesIn 97 = .ok (.iload 7, 2) := dk_21 7 (dk_at dksX10_sizesIn_4 2 rfl rfl)
theorem dX10_sizesIn_99 : decode cX10_sizesIn 99 = .ok (.iload_n 3, 1) := dk_29 (dk_at dksX10_sizesIn_4 4 rfl rfl)
theorem dX10_sizesIn_100 : decode cX10_sizesIn 100 = .ok (.iconst 2, 1) := dk_5 (dk_at dksX10_sizesIn_4 5 rfl rfl)
theorem dX10_sizesIn_101 : decode cX10_sizesIn 101 = .ok (.invokestatic 56, 3) := dk_184 0 56 (dk_at dksX10_sizesIn_4 6 rfl rfl)
theorem dX10_sizesIn_104 : decode cX10_sizesIn 104 = .ok (.ifCond .eq 10, 3) := dk_153 0 10 (dk_at dksX10_sizesIn_4 9 rfl rfl)
theorem dX10_sizesIn_107 : decode cX10_sizesIn 107 = .ok (.aload_n 1, 1) := dk_43 (dk_at dksX10_sizesIn_4 12 rfl rfl)
theorem dX10_sizesIn_108 : decode cX10_sizesIn 108 = .ok (.getfield 36, 3) := dk_180 0 36 (dk_at dksX10_sizesIn_4 13 rfl rfl)
theorem dX10_sizesIn_111 : decode cX10_sizesIn 111 = .ok (.goto 4, 3) := dk_167 0 4 (dk_at dksX10_sizesIn_4 16 rfl rfl)
theorem dX10_sizesIn_114 : decode cX10_sizesIn 114 = .ok (.iconst 0, 1) := dk_3 (dk_at dksX10_sizesIn_4 19 rfl rfl)
theorem dX10_sizesIn_115 : decode cX10_sizesIn 115 = .ok (.if_icmp .gt 41, 3) := dk_163 0 41 (dk_at dksX10_sizesIn_4 20 rfl rfl)
theorem dX10_sizesIn_118 : decode cX10_sizesIn 118 = .ok (.aload 4, 2) := dk_25 4 (dk_at dksX10_sizesIn_5 0 rfl rfl)
theorem dX10_sizesIn_120 : decode cX10_sizesIn 120 = .ok (.iconst 0, 1) := dk_3 (dk_at dksX10_sizesIn_5 2 rfl rfl)
theorem dX10_sizesIn_121 : decode cX10_sizesIn 121 = .ok (.iload 5, 2) := dk_21 5 (dk_at dksX10_sizesIn_5 3 rfl rfl)
theorem dX10_sizesIn_123 : decode cX10_sizesIn 123 = .ok (.iastore, 1) := dk_79 (dk_at dksX10_sizesIn_5 5 rfl rfl)
theorem dX10_sizesIn_124 : decode cX10_sizesIn 124 = .ok (.aload 4, 2) := dk_25 4 (dk_at dksX10_sizesIn_5 6 rfl rfl)
theorem dX10_sizesIn_126 : decode cX10_sizesIn 126 = .ok (.iconst 1, 1) := dk_4 (dk_at dksX10_sizesIn_5 8 rfl rfl)
theorem dX10_sizesIn_127 : decode cX10_sizesIn 127 = .ok (.iload 6, 2) := dk_21 6 (dk_at dksX10_sizesIn_5 9 rfl rfl)
theorem dX10_sizesIn_129 : decode cX10_sizesIn 129 = .ok (.iastore, 1) := dk_79 (dk_at dksX10_sizesIn_5 11 rfl rfl)
theorem dX10_sizesIn_130 : decode cX10_sizesIn 130 = .ok (.aload 4, 2) := dk_25 4 (dk_at dksX10_sizesIn_5 12 rfl rfl)
theorem dX10_sizesIn_132 : decode cX10_sizesIn 132 = .ok (.iconst 2, 1) := dk_5 (dk_at dksX10_sizesIn_5 14 rfl rfl)
theorem dX10_sizesIn_133 : decode cX10_sizesIn 133 = .ok (.iload 7, 2) := dk_21 7 (dk_at dksX10_sizesIn_5 15 rfl rfl)
theorem dX10_sizesIn_135 : decode cX10_sizesIn 135 = .ok (.iastore, 1) := dk_79 (dk_at dksX10_sizesIn_5 17 rfl rfl)
theorem dX10_sizesIn_136 : decode cX10_sizesIn 136 = .ok (.aload_n 0, 1) := dk_42 (dk_at dksX10_sizesIn_5 18 rfl rfl)
theorem dX10_sizesIn_137 : decode cX10_sizesIn 137 = .ok (.aload_n 1, 1) := dk_43 (dk_at dksX10_sizesIn_5 19 rfl rfl)
theorem dX10_sizesIn_138 : decode cX10_sizesIn 138 = .ok (.iload_n 2, 1) := dk_28 (dk_at dksX10_sizesIn_5 20 rfl rfl)
theorem dX10_sizesIn_139 : decode cX10_sizesIn 139 = .ok (.aload 4, 2) := dk_25 4 (dk_at dksX10_sizesIn_5 21 rfl rfl)
theorem dX10_sizesIn_141 : decode cX10_sizesIn 141 = .ok (.invokevirtual 60, 3) := dk_182 0 60 (dk_at dksX10_sizesIn_6 0 rfl rfl)
theorem dX10_sizesIn_144 : decode cX10_sizesIn 144 = .ok (.ifCond .eq 6, 3) := dk_153 0 6 (dk_at dksX10_sizesIn_6 3 rfl rfl)
theorem dX10_sizesIn_147 : decode cX10_sizesIn 147 = .ok (.aload 4, 2) := dk_25 4 (dk_at dksX10_sizesIn_6 6 rfl rfl)
theorem dX10_sizesIn_149 : decode cX10_sizesIn 149 = .ok (.areturn, 1) := dk_176 (dk_at dksX10_sizesIn_6 8 rfl rfl)
theorem dX10_sizesIn_150 : decode cX10_sizesIn 150 = .ok (.iinc 7 1, 3) := dk_132 7 1 (dk_at dksX10_sizesIn_6 9 rfl rfl)
theorem dX10_sizesIn_153 : decode cX10_sizesIn 153 = .ok (.goto (-56), 3) := dk_167 255 200 (dk_at dksX10_sizesIn_6 12 rfl rfl)
theorem dX10_sizesIn_156 : decode cX10_sizesIn 156 = .ok (.iinc 6 1, 3) := dk_132 6 1 (dk_at dksX10_sizesIn_6 15 rfl rfl)
theorem dX10_sizesIn_159 : decode cX10_sizesIn 159 = .ok (.goto (-98), 3) := dk_167 255 158 (dk_at dksX10_sizesIn_6 18 rfl rfl)
theorem dX10_sizesIn_162 : decode cX10_sizesIn 162 = .ok (.iinc 5 1, 3) := dk_132 5 1 (dk_at dksX10_sizesIn_6 21 rfl rfl)
theorem dX10_sizesIn_165 : decode cX10_sizesIn 165 = .ok (.goto (-140), 3) := dk_167 255 116 (dk_at dksX10_sizesIn_7 0 rfl rfl)
theorem dX10_sizesIn_168 : decode cX10_sizesIn 168 = .ok (.aload 4, 2) := dk_25 4 (dk_at dksX10_sizesIn_7 3 rfl rfl)
theorem dX10_sizesIn_170 : decode cX10_sizesIn 170 = .ok (.areturn, 1) := dk_176 (dk_at dksX10_sizesIn_7 5 rfl rfl)
abbrev cX10_letters : ByteArray := prog_5_method_2_code
def yX10_letters : MethodName := ⟨RX10, "letters", "()I"⟩
def dkwX10_letters_1 : List UInt8 := [182, 0, 28, 16, 120, 100, 120, 128, 60, 132, 2, 1, 167, 255, 226, 27, 172]
abbrev dktX10_letters_1 : List UInt8 := dkwX10_letters_1 ++ []
def dkwX10_letters_0 : List UInt8 := [3, 60, 3, 61, 28, 42, 180, 0, 18, 182, 0, 22, 162, 0, 25, 27, 4, 42, 180, 0, 18, 28]
abbrev dktX10_letters_0 : List UInt8 := dkwX10_letters_0 ++ dktX10_letters_1
theorem dksX10_letters_0 : cX10_letters.data.toList.drop 0 = dktX10_letters_0 := by decide +kernel
theorem dksX10_letters_1 : cX10_letters.data.toList.drop 22 = dktX10_letters_1 := dk_seg dksX10_letters_0 22 rfl rfl
theorem dX10_letters_0 : decode cX10_letters 0 = .ok (.iconst 0, 1) := dk_3 (dk_at dksX10_letters_0 0 rfl rfl)
theorem dX10_letters_1 : decode cX10_letters 1 = .ok (.istore_n 1, 1) := dk_60 (dk_at dksX10_letters_0 1 rfl rfl)
theorem dX10_letters_2 : decode cX10_letters 2 = .ok (.iconst 0, 1) := dk_3 (dk_at dksX10_letters_0 2 rfl rfl)
theorem dX10_letters_3 : decode cX10_letters 3 = .ok (.istore_n 2, 1) := dk_61 (dk_at dksX10_letters_0 3 rfl rfl)
theorem dX10_letters_4 : decode cX10_letters 4 = .ok (.iload_n 2, 1) := dk_28 (dk_at dksX10_letters_0 4 rfl rfl)
theorem dX10_letters_5 : decode cX10_letters 5 = .ok (.aload_n 0, 1) := dk_42 (dk_at dksX10_letters_0 5 rfl rfl)
theorem dX10_letters_6 : decode cX10_letters 6 = .ok (.getfield 18, 3) := dk_180 0 18 (dk_at dksX10_letters_0 6 rfl rfl)
theorem dX10_letters_9 : decode cX10_letters 9 = .ok (.invokevirtual 22, 3) := dk_182 0 22 (dk_at dksX10_letters_0 9 rfl rfl)
theorem dX10_letters_12 : decode cX10_letters 12 = .ok (.if_icmp .ge 25, 3) := dk_162 0 25 (dk_at dksX10_letters_0 12 rfl rfl)
theorem dX10_letters_15 : decode cX10_letters 15 = .ok (.iload_n 1, 1) := dk_27 (dk_at dksX10_letters_0 15 rfl rfl)
theorem dX10_letters_16 : decode cX10_letters 16 = .ok (.iconst 1, 1) := dk_4 (dk_at dksX10_letters_0 16 rfl rfl)
theorem dX10_letters_17 : decode cX10_letters 17 = .ok (.aload_n 0, 1) := dk_42 (dk_at dksX10_letters_0 17 rfl rfl)
theorem dX10_letters_18 : decode cX10_letters 18 = .ok (.getfield 18, 3) := dk_180 0 18 (dk_at dksX10_letters_0 18 rfl rfl)
theorem dX10_letters_21 : decode cX10_letters 21 = .ok (.iload_n 2, 1) := dk_28 (dk_at dksX10_letters_0 21 rfl rfl)
theorem dX10_letters_22 : decode cX10_letters 22 = .ok (.invokevirtual 28, 3) := dk_182 0 28 (dk_at dksX10_letters_1 0 rfl rfl)
theorem dX10_letters_25 : decode cX10_letters 25 = .ok (.bipush 120, 2) := dk_16 120 (dk_at dksX10_letters_1 3 rfl rfl)
theorem dX10_letters_27 : decode cX10_letters 27 = .ok (.isub, 1) := dk_100 (dk_at dksX10_letters_1 5 rfl rfl)
theorem dX10_letters_28 : decode cX10_letters 28 = .ok (.ishl, 1) := dk_120 (dk_at dksX10_letters_1 6 rfl rfl)
theorem dX10_letters_29 : decode cX10_letters 29 = .ok (.ior, 1) := dk_128 (dk_at dksX10_letters_1 7 rfl rfl)
theorem dX10_letters_30 : decode cX10_letters 30 = .ok (.istore_n 1, 1) := dk_60 (dk_at dksX10_letters_1 8 rfl rfl)
theorem dX10_letters_31 : decode cX10_letters 31 = .ok (.iinc 2 1, 3) := dk_132 2 1 (dk_at dksX10_letters_1 9 rfl rfl)
theorem dX10_letters_34 : decode cX10_letters 34 = .ok (.goto (-30), 3) := dk_167 255 226 (dk_at dksX10_letters_1 12 rfl rfl)
theorem dX10_letters_37 : decode cX10_letters 37 = .ok (.iload_n 1, 1) := dk_27 (dk_at dksX10_letters_1 15 rfl rfl)
theorem dX10_letters_38 : decode cX10_letters 38 = .ok (.ireturn, 1) := dk_172 (dk_at dksX10_letters_1 16 rfl rfl)
abbrev cX10_fitsBy : ByteArray := prog_5_method_7_code
def yX10_fitsBy : MethodName := ⟨RX10, "fitsBy", "(LRepeatFree$Word;I[I)Z"⟩
def dkwX10_fitsBy_5 : List UInt8 := [3, 172, 21, 4, 45, 21, 6, 46, 96, 54, 4, 132, 5, 1, 167, 255, 157, 4, 172]
abbrev dktX10_fitsBy_5 : List UInt8 := dkwX10_fitsBy_5 ++ []
def dkwX10_fitsBy_4 : List UInt8 := [79, 167, 0, 25, 43, 42, 180, 0, 15, 21, 6, 46, 21, 4, 45, 21, 6, 46, 182, 0, 42, 154, 0, 5]
abbrev dktX10_fitsBy_4 : List UInt8 := dkwX10_fitsBy_4 ++ dktX10_fitsBy_5
def dkwX10_fitsBy_3 : List UInt8 := [164, 0, 5, 3, 172, 42, 180, 0, 15, 21, 6, 46, 2, 160, 0, 15, 42, 180, 0, 15, 21, 6, 21, 4]
abbrev dktX10_fitsBy_3 : List UInt8 := dkwX10_fitsBy_3 ++ dktX10_fitsBy_4
def dkwX10_fitsBy_2 : List UInt8 := [180, 0, 18, 21, 5, 182, 0, 28, 16, 120, 100, 54, 6, 21, 4, 45, 21, 6, 46, 96, 43, 180, 0, 36]
abbrev dktX10_fitsBy_2 : List UInt8 := dkwX10_fitsBy_2 ++ dktX10_fitsBy_3
def dkwX10_fitsBy_1 : List UInt8 := [79, 132, 5, 1, 167, 255, 239, 3, 54, 5, 21, 5, 42, 180, 0, 18, 182, 0, 22, 162, 0, 93, 42]
abbrev dktX10_fitsBy_1 : List UInt8 := dkwX10_fitsBy_1 ++ dktX10_fitsBy_2
def dkwX10_fitsBy_0 : List UInt8 := [42, 43, 181, 0, 32, 28, 54, 4, 3, 54, 5, 21, 5, 6, 162, 0, 17, 42, 180, 0, 15, 21, 5, 2]
abbrev dktX10_fitsBy_0 : List UInt8 := dkwX10_fitsBy_0 ++ dktX10_fitsBy_1
theorem dksX10_fitsBy_0 : cX10_fitsBy.data.toList.drop 0 = dktX10_fitsBy_0 := by decide +kernel
theorem dksX10_fitsBy_1 : cX10_fitsBy.data.toList.drop 24 = dktX10_fitsBy_1 := dk_seg dksX10_fitsBy_0 24 rfl rfl
theorem dksX10_fitsBy_2 : cX10_fitsBy.data.toList.drop 47 = dktX10_fitsBy_2 := dk_seg dksX10_fitsBy_1 23 rfl rfl
theorem dksX10_fitsBy_3 : cX10_fitsBy.data.toList.drop 71 = dktX10_fitsBy_3 := dk_seg dksX10_fitsBy_2 24 rfl rfl
theorem dksX10_fitsBy_4 : cX10_fitsBy.data.toList.drop 95 = dktX10_fitsBy_4 := dk_seg dksX10_fitsBy_3 24 rfl rfl
theorem dksX10_fitsBy_5 : cX10_fitsBy.data.toList.drop 119 = dktX10_fitsBy_5 := dk_seg dksX10_fitsBy_4 24 rfl rfl
theorem dX10_fitsBy_0 : decode cX10_fitsBy 0 = .ok (.aload_n 0, 1) := dk_42 (dk_at dksX10_fitsBy_0 0 rfl rfl)
theorem dX10_fitsBy_1 : decode cX10_fitsBy 1 = .ok (.aload_n 1, 1) := dk_43 (dk_at dksX10_fitsBy_0 1 rfl rfl)
theorem dX10_fitsBy_2 : decode cX10_fitsBy 2 = .ok (.putfield 32, 3) := dk_181 0 32 (dk_at dksX10_fitsBy_0 2 rfl rfl)
theorem dX10_fitsBy_5 : decode cX10_fitsBy 5 = .ok (.iload_n 2, 1) := dk_28 (dk_at dksX10_fitsBy_0 5 rfl rfl)
theorem dX10_fitsBy_6 : decode cX10_fitsBy 6 = .ok (.istore 4, 2) := dk_54 4 (dk_at dksX10_fitsBy_0 6 rfl rfl)
theorem dX10_fitsBy_8 : decode cX10_fitsBy 8 = .ok (.iconst 0, 1) := dk_3 (dk_at dksX10_fitsBy_0 8 rfl rfl)
theorem dX10_fitsBy_9 : decode cX10_fitsBy 9 = .ok (.istore 5, 2) := dk_54 5 (dk_at dksX10_fitsBy_0 9 rfl rfl)
theorem dX10_fitsBy_11 : decode cX10_fitsBy 11 = .ok (.iload 5, 2) := dk_21 5 (dk_at dksX10_fitsBy_0 11 rfl rfl)
theorem dX10_fitsBy_13 : decode cX10_fitsBy 13 = .ok (.iconst 3, 1) := dk_6 (dk_at dksX10_fitsBy_0 13 rfl rfl)
theorem dX10_fitsBy_14 : decode cX10_fitsBy 14 = .ok (.if_icmp .ge 17, 3) := dk_162 0 17 (dk_at dksX10_fitsBy_0 14 rfl rfl)
theorem dX10_fitsBy_17 : decode cX10_fitsBy 17 = .ok (.aload_n 0, 1) := dk_42 (dk_at dksX10_fitsBy_0 17 rfl rfl)
theorem dX10_fitsBy_18 : decode cX10_fitsBy 18 = .ok (.getfield 15, 3) := dk_180 0 15 (dk_at dksX10_fitsBy_0 18 rfl rfl)
theorem dX10_fitsBy_21 : decode cX10_fitsBy 21 = .ok (.iload 5, 2) := dk_21 5 (dk_at dksX10_fitsBy_0 21 rfl rfl)
theorem dX10_fitsBy_23 : decode cX10_fitsBy 23 = .ok (.iconst (-1), 1) := dk_2 (dk_at dksX10_fitsBy_0 23 rfl rfl)
theorem dX10_fitsBy_24 : decode cX10_fitsBy 24 = .ok (.iastore, 1) := dk_79 (dk_at dksX10_fitsBy_1 0 rfl rfl)
theorem dX10_fitsBy_25 : decode cX10_fitsBy 25 = .ok (.iinc 5 1, 3) := dk_132 5 1 (dk_at dksX10_fitsBy_1 1 rfl rfl)
theorem dX10_fitsBy_28 : decode cX10_fitsBy 28 = .ok (.goto (-17), 3) := dk_167 255 239 (dk_at dksX10_fitsBy_1 4 rfl rfl)
theorem dX10_fitsBy_31 : decode cX10_fitsBy 31 = .ok (.iconst 0, 1) := dk_3 (dk_at dksX10_fitsBy_1 7 rfl rfl)
theorem dX10_fitsBy_32 : decode cX10_fitsBy 32 = .ok (.istore 5, 2) := dk_54 5 (dk_at dksX10_fitsBy_1 8 rfl rfl)
theorem dX10_fitsBy_34 : decode cX10_fitsBy 34 = .ok (.iload 5, 2) := dk_21 5 (dk_at dksX10_fitsBy_1 10 rfl rfl)
theorem dX10_fitsBy_36 : decode cX10_fitsBy 36 = .ok (.aload_n 0, 1) := dk_42 (dk_at dksX10_fitsBy_1 12 rfl rfl)
theorem dX10_fitsBy_37 : decode cX10_fitsBy 37 = .ok (.getfield 18, 3) := dk_180 0 18 (dk_at dksX10_fitsBy_1 13 rfl rfl)
theorem dX10_fitsBy_40 : decode cX10_fitsBy 40 = .ok (.invokevirtual 22, 3) := dk_182 0 22 (dk_at dksX10_fitsBy_1 16 rfl rfl)
theorem dX10_fitsBy_43 : decode cX10_fitsBy 43 = .ok (.if_icmp .ge 93, 3) := dk_162 0 93 (dk_at dksX10_fitsBy_1 19 rfl rfl)
theorem dX10_fitsBy_46 : decode cX10_fitsBy 46 = .ok (.aload_n 0, 1) := dk_42 (dk_at dksX10_fitsBy_1 22 rfl rfl)
theorem dX10_fitsBy_47 : decode cX10_fitsBy 47 = .ok (.getfield 18, 3) := dk_180 0 18 (dk_at dksX10_fitsBy_2 0 rfl rfl)
theorem dX10_fitsBy_50 : decode cX10_fitsBy 50 = .ok (.iload 5, 2) := dk_21 5 (dk_at dksX10_fitsBy_2 3 rfl rfl)
theorem dX10_fitsBy_52 : decode cX10_fitsBy 52 = .ok (.invokevirtual 28, 3) := dk_182 0 28 (dk_at dksX10_fitsBy_2 5 rfl rfl)
theorem dX10_fitsBy_55 : decode cX10_fitsBy 55 = .ok (.bipush 120, 2) := dk_16 120 (dk_at dksX10_fitsBy_2 8 rfl rfl)
theorem dX10_fitsBy_57 : decode cX10_fitsBy 57 = .ok (.isub, 1) := dk_100 (dk_at dksX10_fitsBy_2 10 rfl rfl)
theorem dX10_fitsBy_58 : decode cX10_fitsBy 58 = .ok (.istore 6, 2) := dk_54 6 (dk_at dksX10_fitsBy_2 11 rfl rfl)
theorem dX10_fitsBy_60 : decode cX10_fitsBy 60 = .ok (.iload 4, 2) := dk_21 4 (dk_at dksX10_fitsBy_2 13 rfl rfl)
theorem dX10_fitsBy_62 : decode cX10_fitsBy 62 = .ok (.aload_n 3, 1) := dk_45 (dk_at dksX10_fitsBy_2 15 rfl rfl)
theorem dX10_fitsBy_63 : decode cX10_fitsBy 63 = .ok (.iload 6, 2) := dk_21 6 (dk_at dksX10_fitsBy_2 16 rfl rfl)
theorem dX10_fitsBy_65 : decode cX10_fitsBy 65 = .ok (.iaload, 1) := dk_46 (dk_at dksX10_fitsBy_2 18 rfl rfl)
theorem dX10_fitsBy_66 : decode cX10_fitsBy 66 = .ok (.iadd, 1) := dk_96 (dk_at dksX10_fitsBy_2 19 rfl rfl)
theorem dX10_fitsBy_67 : decode cX10_fitsBy 67 = .ok (.aload_n 1, 1) := dk_43 (dk_at dksX10_fitsBy_2 20 rfl rfl)
theorem dX10_fitsBy_68 : decode cX10_fitsBy 68 = .ok (.getfield 36, 3) := dk_180 0 36 (dk_at dksX10_fitsBy_2 21 rfl rfl)
theorem dX10_fitsBy_71 : decode cX10_fitsBy 71 = .ok (.if_icmp .le 5, 3) := dk_164 0 5 (dk_at dksX10_fitsBy_3 0 rfl rfl)
theorem dX10_fitsBy_74 : decode cX10_fitsBy 74 = .ok (.iconst 0, 1) := dk_3 (dk_at dksX10_fitsBy_3 3 rfl rfl)
theorem dX10_fitsBy_75 : decode cX10_fitsBy 75 = .ok (.ireturn, 1) := dk_172 (dk_at dksX10_fitsBy_3 4 rfl rfl)
theorem dX10_fitsBy_76 : decode cX10_fitsBy 76 = .ok (.aload_n 0, 1) := dk_42 (dk_at dksX10_fitsBy_3 5 rfl rfl)
theorem dX10_fitsBy_77 : decode cX10_fitsBy 77 = .ok (.getfield 15, 3) := dk_180 0 15 (dk_at dksX10_fitsBy_3 6 rfl rfl)
theorem dX10_fitsBy_80 : decode cX10_fitsBy 80 = .ok (.iload 6, 2) := dk_21 6 (dk_at dksX10_fitsBy_3 9 rfl rfl)
theorem dX10_fitsBy_82 : decode cX10_fitsBy 82 = .ok (.iaload, 1) := dk_46 (dk_at dksX10_fitsBy_3 11 rfl rfl)
theorem dX10_fitsBy_83 : decode cX10_fitsBy 83 = .ok (.iconst (-1), 1) := dk_2 (dk_at dksX10_fitsBy_3 12 rfl rfl)
theorem dX10_fitsBy_84 : decode cX10_fitsBy 84 = .ok (.if_icmp .ne 15, 3) := dk_160 0 15 (dk_at dksX10_fitsBy_3 13 rfl rfl)
theorem dX10_fitsBy_87 : decode cX10_fitsBy 87 = .ok (.aload_n 0, 1) := dk_42 (dk_at dksX10_fitsBy_3 16 rfl rfl)
theorem dX10_fitsBy_88 : decode cX10_fitsBy 88 = .ok (.getfield 15, 3) := dk_180 0 15 (dk_at dksX10_fitsBy_3 17 rfl rfl)
theorem dX10_fitsBy_91 : decode cX10_fitsBy 91 = .ok (.iload 6, 2) := dk_21 6 (dk_at dksX10_fitsBy_3 20 rfl rfl)
theorem dX10_fitsBy_93 : decode cX10_fitsBy 93 = .ok (.iload 4, 2) := dk_21 4 (dk_at dksX10_fitsBy_3 22 rfl rfl)
theorem dX10_fitsBy_95 : decode cX10_fitsBy 95 = .ok (.iastore, 1) := dk_79 (dk_at dksX10_fitsBy_4 0 rfl rfl)
theorem dX10_fitsBy_96 : decode cX10_fitsBy 96 = .ok (.goto 25, 3) := dk_167 0 25 (dk_at dksX10_fitsBy_4 1 rfl rfl)
theorem dX10_fitsBy_99 : decode cX10_fitsBy 99 = .ok (.aload_n 1, 1) := dk_43 (dk_at dksX10_fitsBy_4 4 rfl rfl)
theorem dX10_fitsBy_100 : decode cX10_fitsBy 100 = .ok (.aload_n 0, 1) := dk_42 (dk_at dksX10_fitsBy_4 5 rfl rfl)
theorem dX10_fitsBy_101 : decode cX10_fitsBy 101 = .ok (.getfield 15, 3) := dk_180 0 15 (dk_at dksX10_fitsBy_4 6 rfl rfl)
theorem dX10_fitsBy_104 : decode cX10_fitsBy 104 = .ok (.iload 6, 2) := dk_21 6 (dk_at dksX10_fitsBy_4 9 rfl rfl)
theorem dX10_fitsBy_106 : decode cX10_fitsBy 106 = .ok (.iaload, 1) := dk_46 (dk_at dksX10_fitsBy_4 11 rfl rfl)
theorem dX10_fitsBy_107 : decode cX10_fitsBy 107 = .ok (.iload 4, 2) := dk_21 4 (dk_at dksX10_fitsBy_4 12 rfl rfl)
theorem dX10_fitsBy_109 : decode cX10_fitsBy 109 = .ok (.aload_n 3, 1) := dk_45 (dk_at dksX10_fitsBy_4 14 rfl rfl)
theorem dX10_fitsBy_110 : decode cX10_fitsBy 110 = .ok (.iload 6, 2) := dk_21 6 (dk_at dksX10_fitsBy_4 15 rfl rfl)
theorem dX10_fitsBy_112 : decode cX10_fitsBy 112 = .ok (.iaload, 1) := dk_46 (dk_at dksX10_fitsBy_4 17 rfl rfl)
theorem dX10_fitsBy_113 : decode cX10_fitsBy 113 = .ok (.invokevirtual 42, 3) := dk_182 0 42 (dk_at dksX10_fitsBy_4 18 rfl rfl)
theorem dX10_fitsBy_116 : decode cX10_fitsBy 116 = .ok (.ifCond .ne 5, 3) := dk_154 0 5 (dk_at dksX10_fitsBy_4 21 rfl rfl)
theorem dX10_fitsBy_119 : decode cX10_fitsBy 119 = .ok (.iconst 0, 1) := dk_3 (dk_at dksX10_fitsBy_5 0 rfl rfl)
theorem dX10_fitsBy_120 : decode cX10_fitsBy 120 = .ok (.ireturn, 1) := dk_172 (dk_at dksX10_fitsBy_5 1 rfl rfl)
theorem dX10_fitsBy_121 : decode cX10_fitsBy 121 = .ok (.iload 4, 2) := dk_21 4 (dk_at dksX10_fitsBy_5 2 rfl rfl)
theorem dX10_fitsBy_123 : decode cX10_fitsBy 123 = .ok (.aload_n 3, 1) := dk_45 (dk_at dksX10_fitsBy_5 4 rfl rfl)
theorem dX10_fitsBy_124 : decode cX10_fitsBy 124 = .ok (.iload 6, 2) := dk_21 6 (dk_at dksX10_fitsBy_5 5 rfl rfl)
theorem dX10_fitsBy_126 : decode cX10_fitsBy 126 = .ok (.iaload, 1) := dk_46 (dk_at dksX10_fitsBy_5 7 rfl rfl)
theorem dX10_fitsBy_127 : decode cX10_fitsBy 127 = .ok (.iadd, 1) := dk_96 (dk_at dksX10_fitsBy_5 8 rfl rfl)
theorem dX10_fitsBy_128 : decode cX10_fitsBy 128 = .ok (.istore 4, 2) := dk_54 4 (dk_at dksX10_fitsBy_5 9 rfl rfl)
theorem dX10_fitsBy_130 : decode cX10_fitsBy 130 = .ok (.iinc 5 1, 3) := dk_132 5 1 (dk_at dksX10_fitsBy_5 11 rfl rfl)
theorem dX10_fitsBy_133 : decode cX10_fitsBy 133 = .ok (.goto (-99), 3) := dk_167 255 157 (dk_at dksX10_fitsBy_5 14 rfl rfl)
theorem dX10_fitsBy_136 : decode cX10_fitsBy 136 = .ok (.iconst 1, 1) := dk_4 (dk_at dksX10_fitsBy_5 17 rfl rfl)
theorem dX10_fitsBy_137 : decode cX10_fitsBy 137 = .ok (.ireturn, 1) := dk_172 (dk_at dksX10_fitsBy_5 18 rfl rfl)
theorem q159 : (Jvm.Cond.initialized "RepeatFree$Pattern") ∈ lw_all := lw_g (lw_at lw_m1 44 rfl) rfl
theorem q249 : (Jvm.Cond.fieldLinkNest "RepeatFree$Pattern" (36 : Nat) "RepeatFree$Word" "many" "I" "RepeatFree") ∈ lw_tbl := lw_at lw_m1 134 rfl
theorem q448 : (Jvm.Cond.instanceMethod ({ cls := "RepeatFree$Pattern", name := "isAtEnd", desc := "(LRepeatFree$Word;)Z" } : Jvm.MethodName)) ∈ lw_all := lw_g (lw_at lw_m2 93 rfl) rfl
theorem q449 : (Jvm.Cond.selects "RepeatFree$Pattern" ({ cls := "RepeatFree$Pattern", name := "isAtEnd", desc := "(LRepeatFree$Word;)Z" } : Jvm.MethodName) ({ cls := "RepeatFree$Pattern", name := "isAtEnd", desc := "(LRepeatFree$Word;)Z" } : Jvm.MethodName)) ∈ lw_all := lw_g (lw_at lw_m2 94 rfl) rfl
theorem q450 : (Jvm.Cond.code ({ cls := "RepeatFree$Pattern", name := "isAtEnd", desc := "(LRepeatFree$Word;)Z" } : Jvm.MethodName) prog_5_method_5_code (3 : Nat) (Option.some Jvm.ClassFile.FieldType.boolean)) ∈ lw_all := lw_g (lw_at lw_m2 95 rfl) rfl
theorem q451 : (Jvm.Cond.methodLink "RepeatFree$Pattern" (22 : Nat) ({ cls := "java/lang/String", name := "length", desc := "()I" } : Jvm.MethodName)) ∈ lw_all := lw_g (lw_at lw_m2 96 rfl) rfl
theorem q461 : (Jvm.Cond.methodLink "RepeatFree$Pattern" (49 : Nat) ({ cls := "RepeatFree$Pattern", name := "begins", desc := "(LRepeatFree$Word;II)Z" } : Jvm.MethodName)) ∈ lw_all := lw_g (lw_at lw_m2 106 rfl) rfl
theorem q462 : (Jvm.Cond.privateMethod ({ cls := "RepeatFree$Pattern", name := "begins", desc := "(LRepeatFree$Word;II)Z" } : Jvm.MethodName)) ∈ lw_tbl := lw_at lw_m2 107 rfl
theorem q463 : (Jvm.Cond.instanceMethod ({ cls := "RepeatFree$Pattern", name := "begins", desc := "(LRepeatFree$Word;II)Z" } : Jvm.MethodName)) ∈ lw_all := lw_g (lw_at lw_m2 108 rfl) rfl
theorem q464 : (Jvm.Cond.instantiable "RepeatFree$Pattern" (6 : Nat)) ∈ lw_all := lw_g (lw_at lw_m2 109 rfl) rfl
theorem q465 : (Jvm.Cond.code ({ cls := "RepeatFree$Pattern", name := "begins", desc := "(LRepeatFree$Word;II)Z" } : Jvm.MethodName) prog_5_method_4_code (5 : Nat) (Option.some Jvm.ClassFile.FieldType.boolean)) ∈ lw_all := lw_g (lw_at lw_m2 110 rfl) rfl
theorem q466 : (Jvm.Cond.methodLink "RepeatFree$Pattern" (46 : Nat) ({ cls := "RepeatFree$Pattern", name := "fits", desc := "(III)Z" } : Jvm.MethodName)) ∈ lw_all := lw_g (lw_at lw_m2 111 rfl) rfl
theorem q467 : (Jvm.Cond.privateMethod ({ cls := "RepeatFree$Pattern", name := "fits", desc := "(III)Z" } : Jvm.MethodName)) ∈ lw_tbl := lw_at lw_m2 112 rfl
theorem q468 : (Jvm.Cond.instanceMethod ({ cls := "RepeatFree$Pattern", name := "fits", desc := "(III)Z" } : Jvm.MethodName)) ∈ lw_all := lw_g (lw_at lw_m2 113 rfl) rfl
theorem q469 : (Jvm.Cond.code ({ cls := "RepeatFree$Pattern", name := "fits", desc := "(III)Z" } : Jvm.MethodName) prog_5_method_3_code (8 : Nat) (Option.some Jvm.ClassFile.FieldType.boolean)) ∈ lw_all := lw_g (lw_at lw_m2 114 rfl) rfl
theorem q470 : (Jvm.Cond.methodLink "RepeatFree$Pattern" (28 : Nat) ({ cls := "java/lang/String", name := "charAt", desc := "(I)C" } : Jvm.MethodName)) ∈ lw_all := lw_g (lw_at lw_m2 115 rfl) rfl
theorem q508 : (Jvm.Cond.methodLink "RepeatFree$Pattern" (42 : Nat) ({ cls := "RepeatFree$Word", name := "isSame", desc := "(III)Z" } : Jvm.MethodName)) ∈ lw_all := lw_g (lw_at lw_m2 153 rfl) rfl
theorem q667 : (Jvm.Cond.selects "RepeatFree$Pattern" ({ cls := "java/lang/Object", name := "getClass", desc := "()Ljava/lang/Class;" } : Jvm.MethodName) ({ cls := "java/lang/Object", name := "getClass", desc := "()Ljava/lang/Class;" } : Jvm.MethodName)) ∈ lw_all := lw_g (lw_at lw_m3 72 rfl) rfl
theorem q1186 : (Jvm.Cond.selects "RepeatFree$Pattern" ({ cls := "java/lang/Object", name := "equals", desc := "(Ljava/lang/Object;)Z" } : Jvm.MethodName) ({ cls := "java/lang/Object", name := "equals", desc := "(Ljava/lang/Object;)Z" } : Jvm.MethodName)) ∈ lw_all := lw_g (lw_at lw_m5 111 rfl) rfl
theorem q1449 : (Jvm.Cond.sameField "RepeatFree$Pattern" "RepeatFree$Named" "name" "Ljava/lang/String;") ∈ lw_all := lw_g (lw_at lw_m6 134 rfl) rfl
theorem q1491 : (Jvm.Cond.instanceMethod ({ cls := "RepeatFree$Pattern", name := "<init>", desc := "(Ljava/lang/String;Ljava/lang/String;)V" } : Jvm.MethodName)) ∈ lw_all := lw_g (lw_at lw_m6 176 rfl) rfl
theorem q1492 : (Jvm.Cond.code ({ cls := "RepeatFree$Pattern", name := "<init>", desc := "(Ljava/lang/String;Ljava/lang/String;)V" } : Jvm.MethodName) prog_5_method_1_code (3 : Nat) (Option.none : Option Jvm.ClassFile.FieldType)) ∈ lw_all := lw_g (lw_at lw_m6 177 rfl) rfl
theorem q1493 : (Jvm.Cond.methodLink "RepeatFree$Pattern" (3 : Nat) ({ cls := "RepeatFree$Named", name := "<init>", desc := "(Ljava/lang/String;)V" } : Jvm.MethodName)) ∈ lw_all := lw_g (lw_at lw_m6 178 rfl) rfl
theorem q1494 : (Jvm.Cond.fieldLink "RepeatFree$Pattern" (18 : Nat) "RepeatFree$Pattern" "shape" "Ljava/lang/String;") ∈ lw_all := lw_g (lw_at lw_m6 179 rfl) rfl
theorem q1498 : (Jvm.Cond.fieldLink "RepeatFree$Pattern" (9 : Nat) "RepeatFree$Pattern" "size" "[I") ∈ lw_all := lw_g (lw_at lw_m6 183 rfl) rfl
theorem q1499 : (Jvm.Cond.fieldLink "RepeatFree$Pattern" (15 : Nat) "RepeatFree$Pattern" "from" "[I") ∈ lw_all := lw_g (lw_at lw_m6 184 rfl) rfl
theorem q1500 : (Jvm.Cond.fieldLink "RepeatFree$Pattern" (32 : Nat) "RepeatFree$Pattern" "word" "LRepeatFree$Word;") ∈ lw_all := lw_g (lw_at lw_m6 185 rfl) rfl
theorem q1501 : (Jvm.Cond.laysFinal "RepeatFree$Pattern" "RepeatFree$Pattern" "shape" "Ljava/lang/String;") ∈ lw_all := lw_g (lw_at lw_m6 186 rfl) rfl
theorem q1502 : (Jvm.Cond.soleField "RepeatFree$Pattern" "shape") ∈ lw_all := lw_g (lw_at lw_m6 187 rfl) rfl
theorem q1503 : (Jvm.Cond.lays "RepeatFree$Pattern" "RepeatFree$Pattern" "isAvoided" "Z") ∈ lw_all := lw_g (lw_at lw_m6 188 rfl) rfl
theorem q1504 : (Jvm.Cond.soleField "RepeatFree$Pattern" "isAvoided") ∈ lw_all := lw_g (lw_at lw_m6 189 rfl) rfl
theorem q1505 : (Jvm.Cond.laysFinal "RepeatFree$Pattern" "RepeatFree$Pattern" "size" "[I") ∈ lw_all := lw_g (lw_at lw_m6 190 rfl) rfl
theorem q1506 : (Jvm.Cond.soleField "RepeatFree$Pattern" "size") ∈ lw_all := lw_g (lw_at lw_m6 191 rfl) rfl
theorem q1507 : (Jvm.Cond.laysFinal "RepeatFree$Pattern" "RepeatFree$Pattern" "from" "[I") ∈ lw_all := lw_g (lw_at lw_m6 192 rfl) rfl
theorem q1508 : (Jvm.Cond.soleField "RepeatFree$Pattern" "from") ∈ lw_all := lw_g (lw_at lw_m6 193 rfl) rfl
theorem q1509 : (Jvm.Cond.lays "RepeatFree$Pattern" "RepeatFree$Pattern" "word" "LRepeatFree$Word;") ∈ lw_all := lw_g (lw_at lw_m6 194 rfl) rfl
theorem q1510 : (Jvm.Cond.soleField "RepeatFree$Pattern" "word") ∈ lw_all := lw_g (lw_at lw_m6 195 rfl) rfl
theorem q1511 : (Jvm.Cond.laysFinal "RepeatFree$Pattern" "RepeatFree$Named" "name" "Ljava/lang/String;") ∈ lw_all := lw_g (lw_at lw_m6 196 rfl) rfl
theorem q1512 : (Jvm.Cond.superclass "RepeatFree$Pattern" "RepeatFree$Named") ∈ lw_all := lw_g (lw_at lw_m6 197 rfl) rfl
theorem q1865 : (Jvm.Cond.instanceMethod ({ cls := "RepeatFree$Pattern", name := "firstIn", desc := "(LRepeatFree$Word;)I" } : Jvm.MethodName)) ∈ lw_all := lw_g (lw_at lw_m8 70 rfl) rfl
theorem q1866 : (Jvm.Cond.selects "RepeatFree$Pattern" ({ cls := "RepeatFree$Pattern", name := "firstIn", desc := "(LRepeatFree$Word;)I" } : Jvm.MethodName) ({ cls := "RepeatFree$Pattern", name := "firstIn", desc := "(LRepeatFree$Word;)I" } : Jvm.MethodName)) ∈ lw_all := lw_g (lw_at lw_m8 71 rfl) rfl
theorem q1867 : (Jvm.Cond.code ({ cls := "RepeatFree$Pattern", name := "firstIn", desc := "(LRepeatFree$Word;)I" } : Jvm.MethodName) prog_5_method_6_code (3 : Nat) (Option.some Jvm.ClassFile.FieldType.int)) ∈ lw_all := lw_g (lw_at lw_m8 72 rfl) rfl
theorem q1869 : (Jvm.Cond.instanceMethod ({ cls := "RepeatFree$Pattern", name := "sizesIn", desc := "(LRepeatFree$Word;I)[I" } : Jvm.MethodName)) ∈ lw_all := lw_g (lw_at lw_m8 74 rfl) rfl
theorem q1870 : (Jvm.Cond.selects "RepeatFree$Pattern" ({ cls := "RepeatFree$Pattern", name := "sizesIn", desc := "(LRepeatFree$Word;I)[I" } : Jvm.MethodName) ({ cls := "RepeatFree$Pattern", name := "sizesIn", desc := "(LRepeatFree$Word;I)[I" } : Jvm.MethodName)) ∈ lw_all := lw_g (lw_at lw_m8 75 rfl) rfl
theorem q1871 : (Jvm.Cond.code ({ cls := "RepeatFree$Pattern", name := "sizesIn", desc := "(LRepeatFree$Word;I)[I" } : Jvm.MethodName) prog_5_method_8_code (8 : Nat) (Option.some (Jvm.ClassFile.FieldType.array Jvm.ClassFile.FieldType.int))) ∈ lw_all := lw_g (lw_at lw_m8 76 rfl) rfl
theorem q1872 : (Jvm.Cond.methodLink "RepeatFree$Pattern" (53 : Nat) ({ cls := "RepeatFree$Pattern", name := "letters", desc := "()I" } : Jvm.MethodName)) ∈ lw_all := lw_g (lw_at lw_m8 77 rfl) rfl
theorem q1873 : (Jvm.Cond.instanceMethod ({ cls := "RepeatFree$Pattern", name := "letters", desc := "()I" } : Jvm.MethodName)) ∈ lw_all := lw_g (lw_at lw_m8 78 rfl) rfl
theorem q1874 : (Jvm.Cond.selects "RepeatFree$Pattern" ({ cls := "RepeatFree$Pattern", name := "letters", desc := "()I" } : Jvm.MethodName) ({ cls := "RepeatFree$Pattern", name := "letters", desc := "()I" } : Jvm.MethodName)) ∈ lw_all := lw_g (lw_at lw_m8 79 rfl) rfl
theorem q1875 : (Jvm.Cond.code ({ cls := "RepeatFree$Pattern", name := "letters", desc := "()I" } : Jvm.MethodName) prog_5_method_2_code (3 : Nat) (Option.some Jvm.ClassFile.FieldType.int)) ∈ lw_all := lw_g (lw_at lw_m8 80 rfl) rfl
theorem q1876 : (Jvm.Cond.methodLinkNest "RepeatFree$Pattern" (56 : Nat) ({ cls := "RepeatFree", name := "has", desc := "(II)Z" } : Jvm.MethodName) "RepeatFree") ∈ lw_tbl := lw_at lw_m8 81 rfl
theorem q1879 : (Jvm.Cond.methodLink "RepeatFree$Pattern" (60 : Nat) ({ cls := "RepeatFree$Pattern", name := "fitsBy", desc := "(LRepeatFree$Word;I[I)Z" } : Jvm.MethodName)) ∈ lw_all := lw_g (lw_at lw_m8 84 rfl) rfl
theorem q1880 : (Jvm.Cond.privateMethod ({ cls := "RepeatFree$Pattern", name := "fitsBy", desc := "(LRepeatFree$Word;I[I)Z" } : Jvm.MethodName)) ∈ lw_tbl := lw_at lw_m8 85 rfl
theorem q1881 : (Jvm.Cond.instanceMethod ({ cls := "RepeatFree$Pattern", name := "fitsBy", desc := "(LRepeatFree$Word;I[I)Z" } : Jvm.MethodName)) ∈ lw_all := lw_g (lw_at lw_m8 86 rfl) rfl
theorem q1882 : (Jvm.Cond.code ({ cls := "RepeatFree$Pattern", name := "fitsBy", desc := "(LRepeatFree$Word;I[I)Z" } : Jvm.MethodName) prog_5_method_7_code (7 : Nat) (Option.some Jvm.ClassFile.FieldType.boolean)) ∈ lw_all := lw_g (lw_at lw_m8 87 rfl) rfl
theorem q2851 : (Jvm.Cond.castable "RepeatFree$Pattern" "RepeatFree$Named") ∈ lw_tbl := lw_at lw_m12 96 rfl
theorem q2852 : (Jvm.Cond.castable "RepeatFree$Pattern" "java/lang/Object") ∈ lw_tbl := lw_at lw_m12 97 rfl
theorem in_X10 : ∀ w ∈ wsX100, w ∈ lw_all := lw_in wsX100 [1511, 1501, 1503, 1505, 1507, 1509] (by decide +kernel) (by decide +kernel)
/-! RepeatFree$Run -/
set_option maxRecDepth 100000
def RX11 : String := "RepeatFree$Run"
def TX11 : u_T := fun k => match k with
  | 0 => ("RepeatFree$Run", "place", "I", true)
  | 1 => ("RepeatFree$Run", "size", "I", true)
  | _ => ("RepeatFree$Run", "period", "I", true)
def tyX11 : Nat → FieldType := fun k => match k with
  | 0 => .int
  | 1 => .int
  | _ => .int
abbrev wsX110 : List Cond := u_ws RX11 TX11 3
theorem nmX11 : ∀ a, a < 3 → ∀ b, b < 3 → a ≠ b → (TX11 a).2.1 ≠ (TX11 b).2.1 := by decide +kernel
theorem tyX11_ok : ∀ k, k < 3 → parseFieldDescriptor (TX11 k).2.2.1 = some (tyX11 k) := by decide +kernel
abbrev cX11_init : ByteArray := prog_7_method_1_code
def yX11_init : MethodName := ⟨RX11, "<init>", "(III)V"⟩
def dkwX11_init_0 : List UInt8 := [42, 183, 0, 1, 42, 27, 181, 0, 7, 42, 28, 181, 0, 13, 42, 29, 181, 0, 16, 177]
abbrev dktX11_init_0 : List UInt8 := dkwX11_init_0 ++ []
theorem dksX11_init_0 : cX11_init.data.toList.drop 0 = dktX11_init_0 := by decide +kernel
theorem dX11_init_0 : decode cX11_init 0 = .ok (.aload_n 0, 1) := dk_42 (dk_at dksX11_init_0 0 rfl rfl)
theorem dX11_init_1 : decode cX11_init 1 = .ok (.invokespecial 1, 3) := dk_183 0 1 (dk_at dksX11_init_0 1 rfl rfl)
theorem dX11_init_4 : decode cX11_init 4 = .ok (.aload_n 0, 1) := dk_42 (dk_at dksX11_init_0 4 rfl rfl)
theorem dX11_init_5 : decode cX11_init 5 = .ok (.iload_n 1, 1) := dk_27 (dk_at dksX11_init_0 5 rfl rfl)
theorem dX11_init_6 : decode cX11_init 6 = .ok (.putfield 7, 3) := dk_181 0 7 (dk_at dksX11_init_0 6 rfl rfl)
theorem dX11_init_9 : decode cX11_init 9 = .ok (.aload_n 0, 1) := dk_42 (dk_at dksX11_init_0 9 rfl rfl)
theorem dX11_init_10 : decode cX11_init 10 = .ok (.iload_n 2, 1) := dk_28 (dk_at dksX11_init_0 10 rfl rfl)
theorem dX11_init_11 : decode cX11_init 11 = .ok (.putfield 13, 3) := dk_181 0 13 (dk_at dksX11_init_0 11 rfl rfl)
theorem dX11_init_14 : decode cX11_init 14 = .ok (.aload_n 0, 1) := dk_42 (dk_at dksX11_init_0 14 rfl rfl)
theorem dX11_init_15 : decode cX11_init 15 = .ok (.iload_n 3, 1) := dk_29 (dk_at dksX11_init_0 15 rfl rfl)
theorem dX11_init_16 : decode cX11_init 16 = .ok (.putfield 16, 3) := dk_181 0 16 (dk_at dksX11_init_0 16 rfl rfl)
theorem dX11_init_19 : decode cX11_init 19 = .ok (.return_, 1) := dk_177 (dk_at dksX11_init_0 19 rfl rfl)
abbrev cX11_compareTo : ByteArray := prog_7_method_2_code
def yX11_compareTo : MethodName := ⟨RX11, "compareTo", "(LRepeatFree$Run;)I"⟩
def dkwX11_compareTo_1 : List UInt8 := [167, 0, 14, 42, 180, 0, 16, 43, 180, 0, 16, 184, 0, 19, 172]
abbrev dktX11_compareTo_1 : List UInt8 := dkwX11_compareTo_1 ++ []
def dkwX11_compareTo_0 : List UInt8 := [42, 180, 0, 7, 43, 180, 0, 7, 159, 0, 17, 42, 180, 0, 7, 43, 180, 0, 7, 184, 0, 19]
abbrev dktX11_compareTo_0 : List UInt8 := dkwX11_compareTo_0 ++ dktX11_compareTo_1
theorem dksX11_compareTo_0 : cX11_compareTo.data.toList.drop 0 = dktX11_compareTo_0 := by decide +kernel
theorem dksX11_compareTo_1 : cX11_compareTo.data.toList.drop 22 = dktX11_compareTo_1 := dk_seg dksX11_compareTo_0 22 rfl rfl
theorem dX11_compareTo_0 : decode cX11_compareTo 0 = .ok (.aload_n 0, 1) := dk_42 (dk_at dksX11_compareTo_0 0 rfl rfl)
theorem dX11_compareTo_1 : decode cX11_compareTo 1 = .ok (.getfield 7, 3) := dk_180 0 7 (dk_at dksX11_compareTo_0 1 rfl rfl)
theorem dX11_compareTo_4 : decode cX11_compareTo 4 = .ok (.aload_n 1, 1) := dk_43 (dk_at dksX11_compareTo_0 4 rfl rfl)
theorem dX11_compareTo_5 : decode cX11_compareTo 5 = .ok (.getfield 7, 3) := dk_180 0 7 (dk_at dksX11_compareTo_0 5 rfl rfl)
theorem dX11_compareTo_8 : decode cX11_compareTo 8 = .ok (.if_icmp .eq 17, 3) := dk_159 0 17 (dk_at dksX11_compareTo_0 8 rfl rfl)
theorem dX11_compareTo_11 : decode cX11_compareTo 11 = .ok (.aload_n 0, 1) := dk_42 (dk_at dksX11_compareTo_0 11 rfl rfl)
theorem dX11_compareTo_12 : decode cX11_compareTo 12 = .ok (.getfield 7, 3) := dk_180 0 7 (dk_at dksX11_compareTo_0 12 rfl rfl)
theorem dX11_compareTo_15 : decode cX11_compareTo 15 = .ok (.aload_n 1, 1) := dk_43 (dk_at dksX11_compareTo_0 15 rfl rfl)
theorem dX11_compareTo_16 : decode cX11_compareTo 16 = .ok (.getfield 7, 3) := dk_180 0 7 (dk_at dksX11_compareTo_0 16 rfl rfl)
theorem dX11_compareTo_19 : decode cX11_compareTo 19 = .ok (.invokestatic 19, 3) := dk_184 0 19 (dk_at dksX11_compareTo_0 19 rfl rfl)
theorem dX11_compareTo_22 : decode cX11_compareTo 22 = .ok (.goto 14, 3) := dk_167 0 14 (dk_at dksX11_compareTo_1 0 rfl rfl)
theorem dX11_compareTo_25 : decode cX11_compareTo 25 = .ok (.aload_n 0, 1) := dk_42 (dk_at dksX11_compareTo_1 3 rfl rfl)
theorem dX11_compareTo_26 : decode cX11_compareTo 26 = .ok (.getfield 16, 3) := dk_180 0 16 (dk_at dksX11_compareTo_1 4 rfl rfl)
theorem dX11_compareTo_29 : decode cX11_compareTo 29 = .ok (.aload_n 1, 1) := dk_43 (dk_at dksX11_compareTo_1 7 rfl rfl)
theorem dX11_compareTo_30 : decode cX11_compareTo 30 = .ok (.getfield 16, 3) := dk_180 0 16 (dk_at dksX11_compareTo_1 8 rfl rfl)
theorem dX11_compareTo_33 : decode cX11_compareTo 33 = .ok (.invokestatic 19, 3) := dk_184 0 19 (dk_at dksX11_compareTo_1 11 rfl rfl)
theorem dX11_compareTo_36 : decode cX11_compareTo 36 = .ok (.ireturn, 1) := dk_172 (dk_at dksX11_compareTo_1 14 rfl rfl)
theorem q163 : (Jvm.Cond.initialized "RepeatFree$Run") ∈ lw_all := lw_g (lw_at lw_m1 48 rfl) rfl
theorem q669 : (Jvm.Cond.selects "RepeatFree$Run" ({ cls := "java/lang/Object", name := "getClass", desc := "()Ljava/lang/Class;" } : Jvm.MethodName) ({ cls := "java/lang/Object", name := "getClass", desc := "()Ljava/lang/Class;" } : Jvm.MethodName)) ∈ lw_all := lw_g (lw_at lw_m3 74 rfl) rfl
theorem q1188 : (Jvm.Cond.selects "RepeatFree$Run" ({ cls := "java/lang/Object", name := "equals", desc := "(Ljava/lang/Object;)Z" } : Jvm.MethodName) ({ cls := "java/lang/Object", name := "equals", desc := "(Ljava/lang/Object;)Z" } : Jvm.MethodName)) ∈ lw_all := lw_g (lw_at lw_m5 113 rfl) rfl
theorem q1739 : (Jvm.Cond.instantiable "RepeatFree$Run" (3 : Nat)) ∈ lw_all := lw_g (lw_at lw_m7 184 rfl) rfl
theorem q1741 : (Jvm.Cond.instanceMethod ({ cls := "RepeatFree$Run", name := "<init>", desc := "(III)V" } : Jvm.MethodName)) ∈ lw_all := lw_g (lw_at lw_m7 186 rfl) rfl
theorem q1742 : (Jvm.Cond.code ({ cls := "RepeatFree$Run", name := "<init>", desc := "(III)V" } : Jvm.MethodName) prog_7_method_1_code (4 : Nat) (Option.none : Option Jvm.ClassFile.FieldType)) ∈ lw_all := lw_g (lw_at lw_m7 187 rfl) rfl
theorem q1743 : (Jvm.Cond.methodLink "RepeatFree$Run" (1 : Nat) ({ cls := "java/lang/Object", name := "<init>", desc := "()V" } : Jvm.MethodName)) ∈ lw_all := lw_g (lw_at lw_m7 188 rfl) rfl
theorem q1744 : (Jvm.Cond.fieldLink "RepeatFree$Run" (7 : Nat) "RepeatFree$Run" "place" "I") ∈ lw_all := lw_g (lw_at lw_m7 189 rfl) rfl
theorem q1746 : (Jvm.Cond.fieldLink "RepeatFree$Run" (13 : Nat) "RepeatFree$Run" "size" "I") ∈ lw_all := lw_g (lw_at lw_m7 191 rfl) rfl
theorem q1748 : (Jvm.Cond.fieldLink "RepeatFree$Run" (16 : Nat) "RepeatFree$Run" "period" "I") ∈ lw_all := lw_g (lw_at lw_m7 193 rfl) rfl
theorem q1750 : (Jvm.Cond.laysFinal "RepeatFree$Run" "RepeatFree$Run" "place" "I") ∈ lw_all := lw_g (lw_at lw_m7 195 rfl) rfl
theorem q1751 : (Jvm.Cond.soleField "RepeatFree$Run" "place") ∈ lw_all := lw_g (lw_at lw_m7 196 rfl) rfl
theorem q1752 : (Jvm.Cond.laysFinal "RepeatFree$Run" "RepeatFree$Run" "size" "I") ∈ lw_all := lw_g (lw_at lw_m7 197 rfl) rfl
theorem q1753 : (Jvm.Cond.soleField "RepeatFree$Run" "size") ∈ lw_all := lw_g (lw_at lw_m7 198 rfl) rfl
theorem q1754 : (Jvm.Cond.laysFinal "RepeatFree$Run" "RepeatFree$Run" "period" "I") ∈ lw_all := lw_g (lw_at lw_m7 199 rfl) rfl
theorem q1755 : (Jvm.Cond.soleField "RepeatFree$Run" "period") ∈ lw_all := lw_g (lw_at lw_m7 200 rfl) rfl
theorem q1756 : (Jvm.Cond.superclass "RepeatFree$Run" "java/lang/Object") ∈ lw_all := lw_g (lw_at lw_m7 201 rfl) rfl
theorem q1805 : (Jvm.Cond.instanceMethod ({ cls := "RepeatFree$Run", name := "compareTo", desc := "(LRepeatFree$Run;)I" } : Jvm.MethodName)) ∈ lw_all := lw_g (lw_at lw_m8 10 rfl) rfl
theorem q1806 : (Jvm.Cond.selects "RepeatFree$Run" ({ cls := "RepeatFree$Run", name := "compareTo", desc := "(LRepeatFree$Run;)I" } : Jvm.MethodName) ({ cls := "RepeatFree$Run", name := "compareTo", desc := "(LRepeatFree$Run;)I" } : Jvm.MethodName)) ∈ lw_all := lw_g (lw_at lw_m8 11 rfl) rfl
theorem q1807 : (Jvm.Cond.code ({ cls := "RepeatFree$Run", name := "compareTo", desc := "(LRepeatFree$Run;)I" } : Jvm.MethodName) prog_7_method_2_code (2 : Nat) (Option.some Jvm.ClassFile.FieldType.int)) ∈ lw_all := lw_g (lw_at lw_m8 12 rfl) rfl
theorem q1808 : (Jvm.Cond.methodLink "RepeatFree$Run" (19 : Nat) ({ cls := "java/lang/Integer", name := "compare", desc := "(II)I" } : Jvm.MethodName)) ∈ lw_all := lw_g (lw_at lw_m8 13 rfl) rfl
theorem q2876 : (Jvm.Cond.castable "RepeatFree$Run" "java/lang/Object") ∈ lw_tbl := lw_at lw_m12 121 rfl
theorem in_X11 : ∀ w ∈ wsX110, w ∈ lw_all := lw_in wsX110 [1750, 1752, 1754] (by decide +kernel) (by decide +kernel)
/-! RepeatFree$Search -/
set_option maxRecDepth 100000
def RX12 : String := "RepeatFree$Search"
def TX12 : u_T := fun k => match k with
  | 0 => ("RepeatFree$Search", "its", "LRepeatFree$Word;", true)
  | 1 => ("RepeatFree$Search", "tries", "I", false)
  | 2 => ("RepeatFree$Search", "isCut", "Z", false)
  | _ => ("RepeatFree$Search", "this$0", "LRepeatFree;", true)
def tyX12 : Nat → FieldType := fun k => match k with
  | 0 => .object "RepeatFree$Word"
  | 1 => .int
  | 2 => .boolean
  | _ => .object "RepeatFree"
abbrev wsX120 : List Cond := u_ws RX12 TX12 4
theorem nmX12 : ∀ a, a < 4 → ∀ b, b < 4 → a ≠ b → (TX12 a).2.1 ≠ (TX12 b).2.1 := by decide +kernel
theorem tyX12_ok : ∀ k, k < 4 → parseFieldDescriptor (TX12 k).2.2.1 = some (tyX12 k) := by decide +kernel
abbrev cX12_init : ByteArray := prog_8_method_1_code
def yX12_init : MethodName := ⟨RX12, "<init>", "(LRepeatFree;LRepeatFree$Word;)V"⟩
def dkwX12_init_0 : List UInt8 := [42, 43, 181, 0, 3, 42, 183, 0, 9, 42, 44, 181, 0, 15, 177]
abbrev dktX12_init_0 : List UInt8 := dkwX12_init_0 ++ []
theorem dksX12_init_0 : cX12_init.data.toList.drop 0 = dktX12_init_0 := by decide +kernel
theorem dX12_init_0 : decode cX12_init 0 = .ok (.aload_n 0, 1) := dk_42 (dk_at dksX12_init_0 0 rfl rfl)
theorem dX12_init_1 : decode cX12_init 1 = .ok (.aload_n 1, 1) := dk_43 (dk_at dksX12_init_0 1 rfl rfl)
theorem dX12_init_2 : decode cX12_init 2 = .ok (.putfield 3, 3) := dk_181 0 3 (dk_at dksX12_init_0 2 rfl rfl)
theorem dX12_init_5 : decode cX12_init 5 = .ok (.aload_n 0, 1) := dk_42 (dk_at dksX12_init_0 5 rfl rfl)
theorem dX12_init_6 : decode cX12_init 6 = .ok (.invokespecial 9, 3) := dk_183 0 9 (dk_at dksX12_init_0 6 rfl rfl)
theorem dX12_init_9 : decode cX12_init 9 = .ok (.aload_n 0, 1) := dk_42 (dk_at dksX12_init_0 9 rfl rfl)
theorem dX12_init_10 : decode cX12_init 10 = .ok (.aload_n 2, 1) := dk_44 (dk_at dksX12_init_0 10 rfl rfl)
theorem dX12_init_11 : decode cX12_init 11 = .ok (.putfield 15, 3) := dk_181 0 15 (dk_at dksX12_init_0 11 rfl rfl)
theorem dX12_init_14 : decode cX12_init 14 = .ok (.return_, 1) := dk_177 (dk_at dksX12_init_0 14 rfl rfl)
abbrev cX12_finds : ByteArray := prog_8_method_2_code
def yX12_finds : MethodName := ⟨RX12, "finds", "(III)Z"⟩
def dkwX12_finds_6 : List UInt8 := [182, 0, 49, 4, 96, 54, 4, 167, 255, 115, 4, 172]
abbrev dktX12_finds_6 : List UInt8 := dkwX12_finds_6 ++ []
def dkwX12_finds_5 : List UInt8 := [54, 4, 167, 255, 142, 42, 180, 0, 15, 180, 0, 19, 28, 160, 0, 5, 3, 172, 42, 180, 0, 15]
abbrev dktX12_finds_5 : List UInt8 := dkwX12_finds_5 ++ dktX12_finds_6
def dkwX12_finds_4 : List UInt8 := [154, 0, 11, 42, 180, 0, 15, 182, 0, 49, 87, 21, 5, 153, 0, 7, 3, 167, 0, 7, 21, 4, 4, 96]
abbrev dktX12_finds_4 : List UInt8 := dkwX12_finds_4 ++ dktX12_finds_5
def dkwX12_finds_3 : List UInt8 := [180, 0, 15, 21, 4, 182, 0, 41, 42, 180, 0, 3, 42, 180, 0, 15, 182, 0, 45, 54, 5, 21, 5]
abbrev dktX12_finds_3 : List UInt8 := dkwX12_finds_3 ++ dktX12_finds_4
def dkwX12_finds_2 : List UInt8 := [181, 0, 37, 42, 180, 0, 37, 153, 0, 5, 3, 172, 42, 89, 180, 0, 34, 4, 96, 181, 0, 34, 42]
abbrev dktX12_finds_2 : List UInt8 := dkwX12_finds_2 ++ dktX12_finds_3
def dkwX12_finds_1 : List UInt8 := [180, 0, 29, 162, 0, 94, 42, 42, 180, 0, 34, 17, 19, 136, 160, 0, 7, 4, 167, 0, 4, 3]
abbrev dktX12_finds_1 : List UInt8 := dkwX12_finds_1 ++ dktX12_finds_2
def dkwX12_finds_0 : List UInt8 := [29, 54, 4, 42, 180, 0, 15, 180, 0, 19, 27, 162, 0, 136, 21, 4, 42, 180, 0, 3, 180, 0, 25]
abbrev dktX12_finds_0 : List UInt8 := dkwX12_finds_0 ++ dktX12_finds_1
theorem dksX12_finds_0 : cX12_finds.data.toList.drop 0 = dktX12_finds_0 := by decide +kernel
theorem dksX12_finds_1 : cX12_finds.data.toList.drop 23 = dktX12_finds_1 := dk_seg dksX12_finds_0 23 rfl rfl
theorem dksX12_finds_2 : cX12_finds.data.toList.drop 45 = dktX12_finds_2 := dk_seg dksX12_finds_1 22 rfl rfl
theorem dksX12_finds_3 : cX12_finds.data.toList.drop 68 = dktX12_finds_3 := dk_seg dksX12_finds_2 23 rfl rfl
theorem dksX12_finds_4 : cX12_finds.data.toList.drop 91 = dktX12_finds_4 := dk_seg dksX12_finds_3 23 rfl rfl
theorem dksX12_finds_5 : cX12_finds.data.toList.drop 115 = dktX12_finds_5 := dk_seg dksX12_finds_4 24 rfl rfl
theorem dksX12_finds_6 : cX12_finds.data.toList.drop 137 = dktX12_finds_6 := dk_seg dksX12_finds_5 22 rfl rfl
theorem dX12_finds_0 : decode cX12_finds 0 = .ok (.iload_n 3, 1) := dk_29 (dk_at dksX12_finds_0 0 rfl rfl)
theorem dX12_finds_1 : decode cX12_finds 1 = .ok (.istore 4, 2) := dk_54 4 (dk_at dksX12_finds_0 1 rfl rfl)
theorem dX12_finds_3 : decode cX12_finds 3 = .ok (.aload_n 0, 1) := dk_42 (dk_at dksX12_finds_0 3 rfl rfl)
theorem dX12_finds_4 : decode cX12_finds 4 = .ok (.getfield 15, 3) := dk_180 0 15 (dk_at dksX12_finds_0 4 rfl rfl)
theorem dX12_finds_7 : decode cX12_finds 7 = .ok (.getfield 19, 3) := dk_180 0 19 (dk_at dksX12_finds_0 7 rfl rfl)
theorem dX12_finds_10 : decode cX12_finds 10 = .ok (.iload_n 1, 1) := dk_27 (dk_at dksX12_finds_0 10 rfl rfl)
theorem dX12_finds_11 : decode cX12_finds 11 = .ok (.if_icmp .ge 136, 3) := dk_162 0 136 (dk_at dksX12_finds_0 11 rfl rfl)
theorem dX12_finds_14 : decode cX12_finds 14 = .ok (.iload 4, 2) := dk_21 4 (dk_at dksX12_finds_0 14 rfl rfl)
theorem dX12_finds_16 : decode cX12_finds 16 = .ok (.aload_n 0, 1) := dk_42 (dk_at dksX12_finds_0 16 rfl rfl)
theorem dX12_finds_17 : decode cX12_finds 17 = .ok (.getfield 3, 3) := dk_180 0 3 (dk_at dksX12_finds_0 17 rfl rfl)
theorem dX12_finds_20 : decode cX12_finds 20 = .ok (.getfield 25, 3) := dk_180 0 25 (dk_at dksX12_finds_0 20 rfl rfl)
theorem dX12_finds_23 : decode cX12_finds 23 = .ok (.getfield 29, 3) := dk_180 0 29 (dk_at dksX12_finds_1 0 rfl rfl)
theorem dX12_finds_26 : decode cX12_finds 26 = .ok (.if_icmp .ge 94, 3) := dk_162 0 94 (dk_at dksX12_finds_1 3 rfl rfl)
theorem dX12_finds_29 : decode cX12_finds 29 = .ok (.aload_n 0, 1) := dk_42 (dk_at dksX12_finds_1 6 rfl rfl)
theorem dX12_finds_30 : decode cX12_finds 30 = .ok (.aload_n 0, 1) := dk_42 (dk_at dksX12_finds_1 7 rfl rfl)
theorem dX12_finds_31 : decode cX12_finds 31 = .ok (.getfield 34, 3) := dk_180 0 34 (dk_at dksX12_finds_1 8 rfl rfl)
theorem dX12_finds_34 : decode cX12_finds 34 = .ok (.sipush 5000, 3) := dk_17 19 136 (dk_at dksX12_finds_1 11 rfl rfl)
theorem dX12_finds_37 : decode cX12_finds 37 = .ok (.if_icmp .ne 7, 3) := dk_160 0 7 (dk_at dksX12_finds_1 14 rfl rfl)
theorem dX12_finds_40 : decode cX12_finds 40 = .ok (.iconst 1, 1) := dk_4 (dk_at dksX12_finds_1 17 rfl rfl)
theorem dX12_finds_41 : decode cX12_finds 41 = .ok (.goto 4, 3) := dk_167 0 4 (dk_at dksX12_finds_1 18 rfl rfl)
theorem dX12_finds_44 : decode cX12_finds 44 = .ok (.iconst 0, 1) := dk_3 (dk_at dksX12_finds_1 21 rfl rfl)
theorem dX12_finds_45 : decode cX12_finds 45 = .ok (.putfield 37, 3) := dk_181 0 37 (dk_at dksX12_finds_2 0 rfl rfl)
theorem dX12_finds_48 : decode cX12_finds 48 = .ok (.aload_n 0, 1) := dk_42 (dk_at dksX12_finds_2 3 rfl rfl)
theorem dX12_finds_49 : decode cX12_finds 49 = .ok (.getfield 37, 3) := dk_180 0 37 (dk_at dksX12_finds_2 4 rfl rfl)
theorem dX12_finds_52 : decode cX12_finds 52 = .ok (.ifCond .eq 5, 3) := dk_153 0 5 (dk_at dksX12_finds_2 7 rfl rfl)
theorem dX12_finds_55 : decode cX12_finds 55 = .ok (.iconst 0, 1) := dk_3 (dk_at dksX12_finds_2 10 rfl rfl)
theorem dX12_finds_56 : decode cX12_finds 56 = .ok (.ireturn, 1) := dk_172 (dk_at dksX12_finds_2 11 rfl rfl)
theorem dX12_finds_57 : decode cX12_finds 57 = .ok (.aload_n 0, 1) := dk_42 (dk_at dksX12_finds_2 12 rfl rfl)
theorem dX12_finds_58 : decode cX12_finds 58 = .ok (.dup, 1) := dk_89 (dk_at dksX12_finds_2 13 rfl rfl)
theorem dX12_finds_59 : decode cX12_finds 59 = .ok (.getfield 34, 3) := dk_180 0 34 (dk_at dksX12_finds_2 14 rfl rfl)
theorem dX12_finds_62 : decode cX12_finds 62 = .ok (.iconst 1, 1) := dk_4 (dk_at dksX12_finds_2 17 rfl rfl)
theorem dX12_finds_63 : decode cX12_finds 63 = .ok (.iadd, 1) := dk_96 (dk_at dksX12_finds_2 18 rfl rfl)
theorem dX12_finds_64 : decode cX12_finds 64 = .ok (.putfield 34, 3) := dk_181 0 34 (dk_at dksX12_finds_2 19 rfl rfl)
theorem dX12_finds_67 : decode cX12_finds 67 = .ok (.aload_n 0, 1) := dk_42 (dk_at dksX12_finds_2 22 rfl rfl)
theorem dX12_finds_68 : decode cX12_finds 68 = .ok (.getfield 15, 3) := dk_180 0 15 (dk_at dksX12_finds_3 0 rfl rfl)
theorem dX12_finds_71 : decode cX12_finds 71 = .ok (.iload 4, 2) := dk_21 4 (dk_at dksX12_finds_3 3 rfl rfl)
theorem dX12_finds_73 : decode cX12_finds 73 = .ok (.invokevirtual 41, 3) := dk_182 0 41 (dk_at dksX12_finds_3 5 rfl rfl)
theorem dX12_finds_76 : decode cX12_finds 76 = .ok (.aload_n 0, 1) := dk_42 (dk_at dksX12_finds_3 8 rfl rfl)
theorem dX12_finds_77 : decode cX12_finds 77 = .ok (.getfield 3, 3) := dk_180 0 3 (dk_at dksX12_finds_3 9 rfl rfl)
theorem dX12_finds_80 : decode cX12_finds 80 = .ok (.aload_n 0, 1) := dk_42 (dk_at dksX12_finds_3 12 rfl rfl)
theorem dX12_finds_81 : decode cX12_finds 81 = .ok (.getfield 15, 3) := dk_180 0 15 (dk_at dksX12_finds_3 13 rfl rfl)
theorem dX12_finds_84 : decode cX12_finds 84 = .ok (.invokevirtual 45, 3) := dk_182 0 45 (dk_at dksX12_finds_3 16 rfl rfl)
theorem dX12_finds_87 : decode cX12_finds 87 = .ok (.istore 5, 2) := dk_54 5 (dk_at dksX12_finds_3 19 rfl rfl)
theorem dX12_finds_89 : decode cX12_finds 89 = .ok (.iload 5, 2) := dk_21 5 (dk_at dksX12_finds_3 21 rfl rfl)
theorem dX12_finds_91 : decode cX12_finds 91 = .ok (.ifCond .ne 11, 3) := dk_154 0 11 (dk_at dksX12_finds_4 0 rfl rfl)
theorem dX12_finds_94 : decode cX12_finds 94 = .ok (.aload_n 0, 1) := dk_42 (dk_at dksX12_finds_4 3 rfl rfl)
theorem dX12_finds_95 : decode cX12_finds 95 = .ok (.getfield 15, 3) := dk_180 0 15 (dk_at dksX12_finds_4 4 rfl rfl)
theorem dX12_finds_98 : decode cX12_finds 98 = .ok (.invokevirtual 49, 3) := dk_182 0 49 (dk_at dksX12_finds_4 7 rfl rfl)
theorem dX12_finds_101 : decode cX12_finds 101 = .ok (.pop, 1) := dk_87 (dk_at dksX12_finds_4 10 rfl rfl)
theorem dX12_finds_102 : decode cX12_finds 102 = .ok (.iload 5, 2) := dk_21 5 (dk_at dksX12_finds_4 11 rfl rfl)
theorem dX12_finds_104 : decode cX12_finds 104 = .ok (.ifCond .eq 7, 3) := dk_153 0 7 (dk_at dksX12_finds_4 13 rfl rfl)
theorem dX12_finds_107 : decode cX12_finds 107 = .ok (.iconst 0, 1) := dk_3 (dk_at dksX12_finds_4 16 rfl rfl)
theorem dX12_finds_108 : decode cX12_finds 108 = .ok (.goto 7, 3) := dk_167 0 7 (dk_at dksX12_finds_4 17 rfl rfl)
theorem dX12_finds_111 : decode cX12_finds 111 = .ok (.iload 4, 2) := dk_21 4 (dk_at dksX12_finds_4 20 rfl rfl)
theorem dX12_finds_113 : decode cX12_finds 113 = .ok (.iconst 1, 1) := dk_4 (dk_at dksX12_finds_4 22 rfl rfl)
theorem dX12_finds_114 : decode cX12_finds 114 = .ok (.iadd, 1) := dk_96 (dk_at dksX12_finds_4 23 rfl rfl)
theorem dX12_finds_115 : decode cX12_finds 115 = .ok (.istore 4, 2) := dk_54 4 (dk_at dksX12_finds_5 0 rfl rfl)
theorem dX12_finds_117 : decode cX12_finds 117 = .ok (.goto (-114), 3) := dk_167 255 142 (dk_at dksX12_finds_5 2 rfl rfl)
theorem dX12_finds_120 : decode cX12_finds 120 = .ok (.aload_n 0, 1) := dk_42 (dk_at dksX12_finds_5 5 rfl rfl)
theorem dX12_finds_121 : decode cX12_finds 121 = .ok (.getfield 15, 3) := dk_180 0 15 (dk_at dksX12_finds_5 6 rfl rfl)
theorem dX12_finds_124 : decode cX12_finds 124 = .ok (.getfield 19, 3) := dk_180 0 19 (dk_at dksX12_finds_5 9 rfl rfl)
theorem dX12_finds_127 : decode cX12_finds 127 = .ok (.iload_n 2, 1) := dk_28 (dk_at dksX12_finds_5 12 rfl rfl)
theorem dX12_finds_128 : decode cX12_finds 128 = .ok (.if_icmp .ne 5, 3) := dk_160 0 5 (dk_at dksX12_finds_5 13 rfl rfl)
theorem dX12_finds_131 : decode cX12_finds 131 = .ok (.iconst 0, 1) := dk_3 (dk_at dksX12_finds_5 16 rfl rfl)
theorem dX12_finds_132 : decode cX12_finds 132 = .ok (.ireturn, 1) := dk_172 (dk_at dksX12_finds_5 17 rfl rfl)
theorem dX12_finds_133 : decode cX12_finds 133 = .ok (.aload_n 0, 1) := dk_42 (dk_at dksX12_finds_5 18 rfl rfl)
theorem dX12_finds_134 : decode cX12_finds 134 = .ok (.getfield 15, 3) := dk_180 0 15 (dk_at dksX12_finds_5 19 rfl rfl)
theorem dX12_finds_137 : decode cX12_finds 137 = .ok (.invokevirtual 49, 3) := dk_182 0 49 (dk_at dksX12_finds_6 0 rfl rfl)
theorem dX12_finds_140 : decode cX12_finds 140 = .ok (.iconst 1, 1) := dk_4 (dk_at dksX12_finds_6 3 rfl rfl)
theorem dX12_finds_141 : decode cX12_finds 141 = .ok (.iadd, 1) := dk_96 (dk_at dksX12_finds_6 4 rfl rfl)
theorem dX12_finds_142 : decode cX12_finds 142 = .ok (.istore 4, 2) := dk_54 4 (dk_at dksX12_finds_6 5 rfl rfl)
theorem dX12_finds_144 : decode cX12_finds 144 = .ok (.goto (-141), 3) := dk_167 255 115 (dk_at dksX12_finds_6 7 rfl rfl)
theorem dX12_finds_147 : decode cX12_finds 147 = .ok (.iconst 1, 1) := dk_4 (dk_at dksX12_finds_6 10 rfl rfl)
theorem dX12_finds_148 : decode cX12_finds 148 = .ok (.ireturn, 1) := dk_172 (dk_at dksX12_finds_6 11 rfl rfl)
abbrev cX12_findsNext : ByteArray := prog_8_method_3_code
def yX12_findsNext : MethodName := ⟨RX12, "findsNext", "(II)Z"⟩
def dkwX12_findsNext_1 : List UInt8 := [96, 182, 0, 53, 172]
abbrev dktX12_findsNext_1 : List UInt8 := dkwX12_findsNext_1 ++ []
def dkwX12_findsNext_0 : List UInt8 := [42, 180, 0, 15, 180, 0, 19, 28, 160, 0, 5, 3, 172, 42, 27, 28, 42, 180, 0, 15, 182, 0, 49, 4]
abbrev dktX12_findsNext_0 : List UInt8 := dkwX12_findsNext_0 ++ dktX12_findsNext_1
theorem dksX12_findsNext_0 : cX12_findsNext.data.toList.drop 0 = dktX12_findsNext_0 := by decide +kernel
theorem dksX12_findsNext_1 : cX12_findsNext.data.toList.drop 24 = dktX12_findsNext_1 := dk_seg dksX12_findsNext_0 24 rfl rfl
theorem dX12_findsNext_0 : decode cX12_findsNext 0 = .ok (.aload_n 0, 1) := dk_42 (dk_at dksX12_findsNext_0 0 rfl rfl)
theorem dX12_findsNext_1 : decode cX12_findsNext 1 = .ok (.getfield 15, 3) := dk_180 0 15 (dk_at dksX12_findsNext_0 1 rfl rfl)
theorem dX12_findsNext_4 : decode cX12_findsNext 4 = .ok (.getfield 19, 3) := dk_180 0 19 (dk_at dksX12_findsNext_0 4 rfl rfl)
theorem dX12_findsNext_7 : decode cX12_findsNext 7 = .ok (.iload_n 2, 1) := dk_28 (dk_at dksX12_findsNext_0 7 rfl rfl)
theorem dX12_findsNext_8 : decode cX12_findsNext 8 = .ok (.if_icmp .ne 5, 3) := dk_160 0 5 (dk_at dksX12_findsNext_0 8 rfl rfl)
theorem dX12_findsNext_11 : decode cX12_findsNext 11 = .ok (.iconst 0, 1) := dk_3 (dk_at dksX12_findsNext_0 11 rfl rfl)
theorem dX12_findsNext_12 : decode cX12_findsNext 12 = .ok (.ireturn, 1) := dk_172 (dk_at dksX12_findsNext_0 12 rfl rfl)
theorem dX12_findsNext_13 : decode cX12_findsNext 13 = .ok (.aload_n 0, 1) := dk_42 (dk_at dksX12_findsNext_0 13 rfl rfl)
theorem dX12_findsNext_14 : decode cX12_findsNext 14 = .ok (.iload_n 1, 1) := dk_27 (dk_at dksX12_findsNext_0 14 rfl rfl)
theorem dX12_findsNext_15 : decode cX12_findsNext 15 = .ok (.iload_n 2, 1) := dk_28 (dk_at dksX12_findsNext_0 15 rfl rfl)
theorem dX12_findsNext_16 : decode cX12_findsNext 16 = .ok (.aload_n 0, 1) := dk_42 (dk_at dksX12_findsNext_0 16 rfl rfl)
theorem dX12_findsNext_17 : decode cX12_findsNext 17 = .ok (.getfield 15, 3) := dk_180 0 15 (dk_at dksX12_findsNext_0 17 rfl rfl)
theorem dX12_findsNext_20 : decode cX12_findsNext 20 = .ok (.invokevirtual 49, 3) := dk_182 0 49 (dk_at dksX12_findsNext_0 20 rfl rfl)
theorem dX12_findsNext_23 : decode cX12_findsNext 23 = .ok (.iconst 1, 1) := dk_4 (dk_at dksX12_findsNext_0 23 rfl rfl)
theorem dX12_findsNext_24 : decode cX12_findsNext 24 = .ok (.iadd, 1) := dk_96 (dk_at dksX12_findsNext_1 0 rfl rfl)
theorem dX12_findsNext_25 : decode cX12_findsNext 25 = .ok (.invokevirtual 53, 3) := dk_182 0 53 (dk_at dksX12_findsNext_1 1 rfl rfl)
theorem dX12_findsNext_28 : decode cX12_findsNext 28 = .ok (.ireturn, 1) := dk_172 (dk_at dksX12_findsNext_1 4 rfl rfl)
theorem q166 : (Jvm.Cond.initialized "RepeatFree$Search") ∈ lw_all := lw_g (lw_at lw_m1 51 rfl) rfl
theorem q223 : (Jvm.Cond.fieldLinkNest "RepeatFree$Search" (29 : Nat) "RepeatFree$Told" "letters" "I" "RepeatFree") ∈ lw_tbl := lw_at lw_m1 108 rfl
theorem q248 : (Jvm.Cond.fieldLinkNest "RepeatFree$Search" (19 : Nat) "RepeatFree$Word" "many" "I" "RepeatFree") ∈ lw_tbl := lw_at lw_m1 133 rfl
theorem q277 : (Jvm.Cond.fieldLinkNest "RepeatFree$Search" (25 : Nat) "RepeatFree" "told" "LRepeatFree$Told;" "RepeatFree") ∈ lw_tbl := lw_at lw_m1 162 rfl
theorem q569 : (Jvm.Cond.instantiable "RepeatFree$Search" (4 : Nat)) ∈ lw_all := lw_g (lw_at lw_m2 214 rfl) rfl
theorem q571 : (Jvm.Cond.instanceMethod ({ cls := "RepeatFree$Search", name := "<init>", desc := "(LRepeatFree;LRepeatFree$Word;)V" } : Jvm.MethodName)) ∈ lw_all := lw_g (lw_at lw_m2 216 rfl) rfl
theorem q572 : (Jvm.Cond.code ({ cls := "RepeatFree$Search", name := "<init>", desc := "(LRepeatFree;LRepeatFree$Word;)V" } : Jvm.MethodName) prog_8_method_1_code (3 : Nat) (Option.none : Option Jvm.ClassFile.FieldType)) ∈ lw_all := lw_g (lw_at lw_m2 217 rfl) rfl
theorem q573 : (Jvm.Cond.methodLink "RepeatFree$Search" (9 : Nat) ({ cls := "java/lang/Object", name := "<init>", desc := "()V" } : Jvm.MethodName)) ∈ lw_all := lw_g (lw_at lw_m2 218 rfl) rfl
theorem q574 : (Jvm.Cond.fieldLink "RepeatFree$Search" (15 : Nat) "RepeatFree$Search" "its" "LRepeatFree$Word;") ∈ lw_all := lw_g (lw_at lw_m2 219 rfl) rfl
theorem q576 : (Jvm.Cond.fieldLink "RepeatFree$Search" (34 : Nat) "RepeatFree$Search" "tries" "I") ∈ lw_all := lw_g (lw_at lw_m2 221 rfl) rfl
theorem q578 : (Jvm.Cond.fieldLink "RepeatFree$Search" (37 : Nat) "RepeatFree$Search" "isCut" "Z") ∈ lw_all := lw_g (lw_at lw_m2 223 rfl) rfl
theorem q580 : (Jvm.Cond.fieldLink "RepeatFree$Search" (3 : Nat) "RepeatFree$Search" "this$0" "LRepeatFree;") ∈ lw_all := lw_g (lw_at lw_m2 225 rfl) rfl
theorem q581 : (Jvm.Cond.laysFinal "RepeatFree$Search" "RepeatFree$Search" "its" "LRepeatFree$Word;") ∈ lw_all := lw_g (lw_at lw_m2 226 rfl) rfl
theorem q582 : (Jvm.Cond.soleField "RepeatFree$Search" "its") ∈ lw_all := lw_g (lw_at lw_m2 227 rfl) rfl
theorem q583 : (Jvm.Cond.lays "RepeatFree$Search" "RepeatFree$Search" "tries" "I") ∈ lw_all := lw_g (lw_at lw_m2 228 rfl) rfl
theorem q584 : (Jvm.Cond.soleField "RepeatFree$Search" "tries") ∈ lw_all := lw_g (lw_at lw_m2 229 rfl) rfl
theorem q585 : (Jvm.Cond.lays "RepeatFree$Search" "RepeatFree$Search" "isCut" "Z") ∈ lw_all := lw_g (lw_at lw_m2 230 rfl) rfl
theorem q586 : (Jvm.Cond.soleField "RepeatFree$Search" "isCut") ∈ lw_all := lw_g (lw_at lw_m2 231 rfl) rfl
theorem q587 : (Jvm.Cond.laysFinal "RepeatFree$Search" "RepeatFree$Search" "this$0" "LRepeatFree;") ∈ lw_all := lw_g (lw_at lw_m2 232 rfl) rfl
theorem q588 : (Jvm.Cond.soleField "RepeatFree$Search" "this$0") ∈ lw_all := lw_g (lw_at lw_m2 233 rfl) rfl
theorem q589 : (Jvm.Cond.superclass "RepeatFree$Search" "java/lang/Object") ∈ lw_all := lw_g (lw_at lw_m2 234 rfl) rfl
theorem q591 : (Jvm.Cond.instanceMethod ({ cls := "RepeatFree$Search", name := "finds", desc := "(III)Z" } : Jvm.MethodName)) ∈ lw_all := lw_g (lw_at lw_m2 236 rfl) rfl
theorem q592 : (Jvm.Cond.selects "RepeatFree$Search" ({ cls := "RepeatFree$Search", name := "finds", desc := "(III)Z" } : Jvm.MethodName) ({ cls := "RepeatFree$Search", name := "finds", desc := "(III)Z" } : Jvm.MethodName)) ∈ lw_all := lw_g (lw_at lw_m2 237 rfl) rfl
theorem q593 : (Jvm.Cond.code ({ cls := "RepeatFree$Search", name := "finds", desc := "(III)Z" } : Jvm.MethodName) prog_8_method_2_code (6 : Nat) (Option.some Jvm.ClassFile.FieldType.boolean)) ∈ lw_all := lw_g (lw_at lw_m2 238 rfl) rfl
theorem q594 : (Jvm.Cond.methodLink "RepeatFree$Search" (41 : Nat) ({ cls := "RepeatFree$Word", name := "comes", desc := "(I)V" } : Jvm.MethodName)) ∈ lw_all := lw_g (lw_at lw_m2 239 rfl) rfl
theorem q595 : (Jvm.Cond.methodLinkNest "RepeatFree$Search" (45 : Nat) ({ cls := "RepeatFree", name := "isFreeAtEnd", desc := "(LRepeatFree$Word;)Z" } : Jvm.MethodName) "RepeatFree") ∈ lw_tbl := lw_at lw_m3 0 rfl
theorem q596 : (Jvm.Cond.methodLink "RepeatFree$Search" (49 : Nat) ({ cls := "RepeatFree$Word", name := "goes", desc := "()I" } : Jvm.MethodName)) ∈ lw_all := lw_g (lw_at lw_m3 1 rfl) rfl
theorem q670 : (Jvm.Cond.selects "RepeatFree$Search" ({ cls := "java/lang/Object", name := "getClass", desc := "()Ljava/lang/Class;" } : Jvm.MethodName) ({ cls := "java/lang/Object", name := "getClass", desc := "()Ljava/lang/Class;" } : Jvm.MethodName)) ∈ lw_all := lw_g (lw_at lw_m3 75 rfl) rfl
theorem q1189 : (Jvm.Cond.selects "RepeatFree$Search" ({ cls := "java/lang/Object", name := "equals", desc := "(Ljava/lang/Object;)Z" } : Jvm.MethodName) ({ cls := "java/lang/Object", name := "equals", desc := "(Ljava/lang/Object;)Z" } : Jvm.MethodName)) ∈ lw_all := lw_g (lw_at lw_m5 114 rfl) rfl
theorem q1910 : (Jvm.Cond.instanceMethod ({ cls := "RepeatFree$Search", name := "findsNext", desc := "(II)Z" } : Jvm.MethodName)) ∈ lw_all := lw_g (lw_at lw_m8 115 rfl) rfl
theorem q1911 : (Jvm.Cond.selects "RepeatFree$Search" ({ cls := "RepeatFree$Search", name := "findsNext", desc := "(II)Z" } : Jvm.MethodName) ({ cls := "RepeatFree$Search", name := "findsNext", desc := "(II)Z" } : Jvm.MethodName)) ∈ lw_all := lw_g (lw_at lw_m8 116 rfl) rfl
theorem q1912 : (Jvm.Cond.code ({ cls := "RepeatFree$Search", name := "findsNext", desc := "(II)Z" } : Jvm.MethodName) prog_8_method_3_code (3 : Nat) (Option.some Jvm.ClassFile.FieldType.boolean)) ∈ lw_all := lw_g (lw_at lw_m8 117 rfl) rfl
theorem q1913 : (Jvm.Cond.methodLink "RepeatFree$Search" (53 : Nat) ({ cls := "RepeatFree$Search", name := "finds", desc := "(III)Z" } : Jvm.MethodName)) ∈ lw_all := lw_g (lw_at lw_m8 118 rfl) rfl
theorem q2879 : (Jvm.Cond.castable "RepeatFree$Search" "java/lang/Object") ∈ lw_tbl := lw_at lw_m12 124 rfl
theorem in_X12 : ∀ w ∈ wsX120, w ∈ lw_all := lw_in wsX120 [581, 583, 585, 587] (by decide +kernel) (by decide +kernel)
/-! the law's own entry -/
set_option maxRecDepth 100000
abbrev cL_law : ByteArray := code
def dkwL_law_111 : List UInt8 := [159, 0, 5, 3, 172, 132, 4, 6, 167, 245, 37, 4, 172]
abbrev dktL_law_111 : List UInt8 := dkwL_law_111 ++ []
def dkwL_law_110 : List UInt8 := [167, 0, 28, 43, 42, 21, 4, 4, 96, 46, 182, 1, 59, 44, 42, 21, 4, 4, 96, 46, 182, 1, 62]
abbrev dktL_law_110 : List UInt8 := dkwL_law_110 ++ dktL_law_111
def dkwL_law_109 : List UInt8 := [21, 5, 159, 0, 5, 3, 172, 21, 5, 154, 0, 15, 45, 3, 47, 21, 6, 133, 148, 153, 0, 5, 3, 172]
abbrev dktL_law_109 : List UInt8 := dkwL_law_109 ++ dktL_law_110
def dkwL_law_108 : List UInt8 := [4, 96, 46, 42, 21, 4, 5, 96, 46, 42, 21, 4, 6, 96, 46, 182, 1, 58, 54, 6, 44, 182, 0, 148]
abbrev dktL_law_108 : List UInt8 := dkwL_law_108 ++ dktL_law_109
def dkwL_law_107 : List UInt8 := [96, 46, 42, 21, 4, 5, 96, 46, 42, 21, 4, 6, 96, 46, 45, 184, 1, 56, 54, 5, 44, 42, 21, 4]
abbrev dktL_law_107 : List UInt8 := dkwL_law_107 ++ dktL_law_108
def dkwL_law_106 : List UInt8 := [21, 6, 153, 0, 7, 10, 167, 0, 4, 9, 148, 153, 0, 5, 3, 172, 167, 0, 108, 43, 42, 21, 4, 4]
abbrev dktL_law_106 : List UInt8 := dkwL_law_106 ++ dktL_law_107
def dkwL_law_105 : List UInt8 := [182, 1, 55, 54, 6, 44, 182, 0, 148, 21, 5, 159, 0, 5, 3, 172, 21, 5, 154, 0, 22, 45, 3, 47]
abbrev dktL_law_105 : List UInt8 := dkwL_law_105 ++ dktL_law_106
def dkwL_law_104 : List UInt8 := [167, 0, 171, 43, 42, 21, 4, 4, 96, 46, 45, 184, 1, 53, 54, 5, 44, 42, 21, 4, 4, 96, 46]
abbrev dktL_law_104 : List UInt8 := dkwL_law_104 ++ dktL_law_105
def dkwL_law_103 : List UInt8 := [21, 5, 159, 0, 5, 3, 172, 21, 5, 154, 0, 14, 45, 3, 47, 22, 6, 148, 153, 0, 5, 3, 172]
abbrev dktL_law_103 : List UInt8 := dkwL_law_103 ++ dktL_law_104
def dkwL_law_102 : List UInt8 := [46, 45, 184, 1, 50, 54, 5, 44, 42, 21, 4, 4, 96, 46, 182, 1, 52, 55, 6, 44, 182, 0, 148]
abbrev dktL_law_102 : List UInt8 := dkwL_law_102 ++ dktL_law_103
def dkwL_law_101 : List UInt8 := [154, 0, 15, 45, 3, 47, 21, 6, 133, 148, 153, 0, 5, 3, 172, 167, 0, 226, 43, 42, 21, 4, 4, 96]
abbrev dktL_law_101 : List UInt8 := dkwL_law_101 ++ dktL_law_102
def dkwL_law_100 : List UInt8 := [21, 4, 6, 96, 46, 182, 1, 49, 54, 6, 44, 182, 0, 148, 21, 5, 159, 0, 5, 3, 172, 21, 5]
abbrev dktL_law_100 : List UInt8 := dkwL_law_100 ++ dktL_law_101
def dkwL_law_99 : List UInt8 := [6, 96, 46, 45, 184, 1, 47, 54, 5, 44, 42, 21, 4, 4, 96, 46, 42, 21, 4, 5, 96, 46, 42]
abbrev dktL_law_99 : List UInt8 := dkwL_law_99 ++ dktL_law_100
def dkwL_law_98 : List UInt8 := [153, 0, 5, 3, 172, 167, 1, 50, 43, 42, 21, 4, 4, 96, 46, 42, 21, 4, 5, 96, 46, 42, 21, 4]
abbrev dktL_law_98 : List UInt8 := dkwL_law_98 ++ dktL_law_99
def dkwL_law_97 : List UInt8 := [182, 0, 148, 21, 5, 159, 0, 5, 3, 172, 21, 5, 154, 0, 15, 45, 3, 47, 21, 6, 133, 148]
abbrev dktL_law_97 : List UInt8 := dkwL_law_97 ++ dktL_law_98
def dkwL_law_96 : List UInt8 := [21, 4, 4, 96, 46, 45, 184, 1, 44, 54, 5, 44, 42, 21, 4, 4, 96, 46, 182, 1, 46, 54, 6, 44]
abbrev dktL_law_96 : List UInt8 := dkwL_law_96 ++ dktL_law_97
def dkwL_law_95 : List UInt8 := [46, 182, 1, 39, 159, 1, 121, 3, 172, 43, 182, 1, 40, 44, 182, 1, 43, 159, 1, 108, 3, 172, 43, 42]
abbrev dktL_law_95 : List UInt8 := dkwL_law_95 ++ dktL_law_96
def dkwL_law_94 : List UInt8 := [153, 0, 5, 3, 172, 167, 1, 144, 43, 42, 21, 4, 4, 96, 46, 182, 1, 36, 44, 42, 21, 4, 4, 96]
abbrev dktL_law_94 : List UInt8 := dkwL_law_94 ++ dktL_law_95
def dkwL_law_93 : List UInt8 := [159, 0, 5, 3, 172, 21, 5, 154, 0, 22, 45, 3, 47, 21, 6, 153, 0, 7, 10, 167, 0, 4, 9, 148]
abbrev dktL_law_93 : List UInt8 := dkwL_law_93 ++ dktL_law_94
def dkwL_law_92 : List UInt8 := [21, 4, 5, 96, 46, 153, 0, 7, 4, 167, 0, 4, 3, 182, 1, 35, 54, 6, 44, 182, 0, 148, 21, 5]
abbrev dktL_law_92 : List UInt8 := dkwL_law_92 ++ dktL_law_93
def dkwL_law_91 : List UInt8 := [96, 46, 153, 0, 7, 4, 167, 0, 4, 3, 45, 184, 1, 32, 54, 5, 44, 42, 21, 4, 4, 96, 46, 42]
abbrev dktL_law_91 : List UInt8 := dkwL_law_91 ++ dktL_law_92
def dkwL_law_90 : List UInt8 := [47, 21, 6, 133, 148, 153, 0, 5, 3, 172, 167, 1, 235, 43, 42, 21, 4, 4, 96, 46, 42, 21, 4, 5]
abbrev dktL_law_90 : List UInt8 := dkwL_law_90 ++ dktL_law_91
def dkwL_law_89 : List UInt8 := [46, 182, 1, 31, 54, 6, 44, 182, 0, 148, 21, 5, 159, 0, 5, 3, 172, 21, 5, 154, 0, 15, 45, 3]
abbrev dktL_law_89 : List UInt8 := dkwL_law_89 ++ dktL_law_90
def dkwL_law_88 : List UInt8 := [45, 184, 1, 29, 54, 5, 44, 42, 21, 4, 4, 96, 46, 42, 21, 4, 5, 96, 46, 42, 21, 4, 6, 96]
abbrev dktL_law_88 : List UInt8 := dkwL_law_88 ++ dktL_law_89
def dkwL_law_87 : List UInt8 := [159, 2, 61, 3, 172, 43, 42, 21, 4, 4, 96, 46, 42, 21, 4, 5, 96, 46, 42, 21, 4, 6, 96, 46]
abbrev dktL_law_87 : List UInt8 := dkwL_law_87 ++ dktL_law_88
def dkwL_law_86 : List UInt8 := [3, 47, 21, 6, 133, 148, 153, 0, 5, 3, 172, 167, 2, 72, 43, 182, 1, 25, 44, 182, 1, 28]
abbrev dktL_law_86 : List UInt8 := dkwL_law_86 ++ dktL_law_87
def dkwL_law_85 : List UInt8 := [96, 46, 182, 1, 24, 54, 6, 44, 182, 0, 148, 21, 5, 159, 0, 5, 3, 172, 21, 5, 154, 0, 15, 45]
abbrev dktL_law_85 : List UInt8 := dkwL_law_85 ++ dktL_law_86
def dkwL_law_84 : List UInt8 := [46, 42, 21, 4, 5, 96, 46, 45, 184, 1, 22, 54, 5, 44, 42, 21, 4, 4, 96, 46, 42, 21, 4, 5]
abbrev dktL_law_84 : List UInt8 := dkwL_law_84 ++ dktL_law_85
def dkwL_law_83 : List UInt8 := [154, 0, 15, 45, 3, 47, 21, 6, 133, 148, 153, 0, 5, 3, 172, 167, 2, 140, 43, 42, 21, 4, 4, 96]
abbrev dktL_law_83 : List UInt8 := dkwL_law_83 ++ dktL_law_84
def dkwL_law_82 : List UInt8 := [184, 1, 19, 54, 5, 44, 182, 1, 21, 54, 6, 44, 182, 0, 148, 21, 5, 159, 0, 5, 3, 172, 21, 5]
abbrev dktL_law_82 : List UInt8 := dkwL_law_82 ++ dktL_law_83
def dkwL_law_81 : List UInt8 := [172, 21, 5, 154, 0, 15, 45, 3, 47, 21, 6, 133, 148, 153, 0, 5, 3, 172, 167, 2, 184, 43, 45]
abbrev dktL_law_81 : List UInt8 := dkwL_law_81 ++ dktL_law_82
def dkwL_law_80 : List UInt8 := [54, 5, 44, 42, 21, 4, 4, 96, 46, 182, 1, 18, 54, 6, 44, 182, 0, 148, 21, 5, 159, 0, 5, 3]
abbrev dktL_law_80 : List UInt8 := dkwL_law_80 ++ dktL_law_81
def dkwL_law_79 : List UInt8 := [21, 6, 133, 148, 153, 0, 5, 3, 172, 167, 2, 240, 43, 42, 21, 4, 4, 96, 46, 45, 184, 1, 16]
abbrev dktL_law_79 : List UInt8 := dkwL_law_79 ++ dktL_law_80
def dkwL_law_78 : List UInt8 := [182, 1, 15, 54, 6, 44, 182, 0, 148, 21, 5, 159, 0, 5, 3, 172, 21, 5, 154, 0, 15, 45, 3, 47]
abbrev dktL_law_78 : List UInt8 := dkwL_law_78 ++ dktL_law_79
def dkwL_law_77 : List UInt8 := [21, 4, 5, 96, 46, 45, 184, 1, 13, 54, 5, 44, 42, 21, 4, 4, 96, 46, 42, 21, 4, 5, 96, 46]
abbrev dktL_law_77 : List UInt8 := dkwL_law_77 ++ dktL_law_78
def dkwL_law_76 : List UInt8 := [45, 3, 47, 21, 6, 133, 148, 153, 0, 5, 3, 172, 167, 3, 52, 43, 42, 21, 4, 4, 96, 46, 42]
abbrev dktL_law_76 : List UInt8 := dkwL_law_76 ++ dktL_law_77
def dkwL_law_75 : List UInt8 := [5, 96, 46, 182, 1, 12, 54, 6, 44, 182, 0, 148, 21, 5, 159, 0, 5, 3, 172, 21, 5, 154, 0, 15]
abbrev dktL_law_75 : List UInt8 := dkwL_law_75 ++ dktL_law_76
def dkwL_law_74 : List UInt8 := [96, 46, 42, 21, 4, 5, 96, 46, 45, 184, 1, 10, 54, 5, 44, 42, 21, 4, 4, 96, 46, 42, 21, 4]
abbrev dktL_law_74 : List UInt8 := dkwL_law_74 ++ dktL_law_75
def dkwL_law_73 : List UInt8 := [21, 6, 153, 0, 7, 10, 167, 0, 4, 9, 148, 153, 0, 5, 3, 172, 167, 3, 120, 43, 42, 21, 4, 4]
abbrev dktL_law_73 : List UInt8 := dkwL_law_73 ++ dktL_law_74
def dkwL_law_72 : List UInt8 := [182, 1, 9, 54, 6, 44, 182, 0, 148, 21, 5, 159, 0, 5, 3, 172, 21, 5, 154, 0, 22, 45, 3, 47]
abbrev dktL_law_72 : List UInt8 := dkwL_law_72 ++ dktL_law_73
def dkwL_law_71 : List UInt8 := [167, 3, 183, 43, 42, 21, 4, 4, 96, 46, 45, 184, 1, 7, 54, 5, 44, 42, 21, 4, 4, 96, 46]
abbrev dktL_law_71 : List UInt8 := dkwL_law_71 ++ dktL_law_72
def dkwL_law_70 : List UInt8 := [21, 5, 159, 0, 5, 3, 172, 21, 5, 154, 0, 15, 45, 3, 47, 21, 6, 133, 148, 153, 0, 5, 3, 172]
abbrev dktL_law_70 : List UInt8 := dkwL_law_70 ++ dktL_law_71
def dkwL_law_69 : List UInt8 := [46, 45, 184, 1, 4, 54, 5, 44, 42, 21, 4, 4, 96, 46, 182, 1, 6, 54, 6, 44, 182, 0, 148]
abbrev dktL_law_69 : List UInt8 := dkwL_law_69 ++ dktL_law_70
def dkwL_law_68 : List UInt8 := [154, 0, 15, 45, 3, 47, 21, 6, 133, 148, 153, 0, 5, 3, 172, 167, 3, 239, 43, 42, 21, 4, 4, 96]
abbrev dktL_law_68 : List UInt8 := dkwL_law_68 ++ dktL_law_69
def dkwL_law_67 : List UInt8 := [21, 4, 4, 96, 46, 182, 1, 3, 54, 6, 44, 182, 0, 148, 21, 5, 159, 0, 5, 3, 172, 21, 5]
abbrev dktL_law_67 : List UInt8 := dkwL_law_67 ++ dktL_law_68
def dkwL_law_66 : List UInt8 := [153, 0, 5, 3, 172, 167, 4, 39, 43, 42, 21, 4, 4, 96, 46, 45, 184, 1, 1, 54, 5, 44, 42]
abbrev dktL_law_66 : List UInt8 := dkwL_law_66 ++ dktL_law_67
def dkwL_law_65 : List UInt8 := [182, 0, 148, 21, 5, 159, 0, 5, 3, 172, 21, 5, 154, 0, 15, 45, 3, 47, 21, 6, 133, 148]
abbrev dktL_law_65 : List UInt8 := dkwL_law_65 ++ dktL_law_66
def dkwL_law_64 : List UInt8 := [184, 0, 254, 54, 5, 44, 42, 21, 4, 4, 96, 46, 42, 21, 4, 5, 96, 46, 182, 1, 0, 54, 6, 44]
abbrev dktL_law_64 : List UInt8 := dkwL_law_64 ++ dktL_law_65
def dkwL_law_63 : List UInt8 := [153, 0, 5, 3, 172, 167, 4, 107, 43, 42, 21, 4, 4, 96, 46, 42, 21, 4, 5, 96, 46, 45]
abbrev dktL_law_63 : List UInt8 := dkwL_law_63 ++ dktL_law_64
def dkwL_law_62 : List UInt8 := [182, 0, 148, 21, 5, 159, 0, 5, 3, 172, 21, 5, 154, 0, 15, 45, 3, 47, 21, 6, 133, 148]
abbrev dktL_law_62 : List UInt8 := dkwL_law_62 ++ dktL_law_63
def dkwL_law_61 : List UInt8 := [184, 0, 251, 54, 5, 44, 42, 21, 4, 4, 96, 46, 42, 21, 4, 5, 96, 46, 182, 0, 253, 54, 6, 44]
abbrev dktL_law_61 : List UInt8 := dkwL_law_61 ++ dktL_law_62
def dkwL_law_60 : List UInt8 := [153, 0, 5, 3, 172, 167, 4, 175, 43, 42, 21, 4, 4, 96, 46, 42, 21, 4, 5, 96, 46, 45]
abbrev dktL_law_60 : List UInt8 := dkwL_law_60 ++ dktL_law_61
def dkwL_law_59 : List UInt8 := [55, 6, 44, 182, 0, 148, 21, 5, 159, 0, 5, 3, 172, 21, 5, 154, 0, 14, 45, 3, 47, 22, 6, 148]
abbrev dktL_law_59 : List UInt8 := dkwL_law_59 ++ dktL_law_60
def dkwL_law_58 : List UInt8 := [96, 46, 42, 21, 4, 5, 96, 46, 42, 21, 4, 6, 96, 46, 42, 21, 4, 7, 96, 46, 182, 0, 250]
abbrev dktL_law_58 : List UInt8 := dkwL_law_58 ++ dktL_law_59
def dkwL_law_57 : List UInt8 := [46, 42, 21, 4, 6, 96, 46, 42, 21, 4, 7, 96, 46, 45, 184, 0, 247, 54, 5, 44, 42, 21, 4, 4]
abbrev dktL_law_57 : List UInt8 := dkwL_law_57 ++ dktL_law_58
def dkwL_law_56 : List UInt8 := [21, 6, 133, 148, 153, 0, 5, 3, 172, 167, 5, 10, 43, 42, 21, 4, 4, 96, 46, 42, 21, 4, 5, 96]
abbrev dktL_law_56 : List UInt8 := dkwL_law_56 ++ dktL_law_57
def dkwL_law_55 : List UInt8 := [182, 0, 246, 54, 6, 44, 182, 0, 148, 21, 5, 159, 0, 5, 3, 172, 21, 5, 154, 0, 15, 45, 3, 47]
abbrev dktL_law_55 : List UInt8 := dkwL_law_55 ++ dktL_law_56
def dkwL_law_54 : List UInt8 := [42, 21, 4, 7, 96, 46, 133, 16, 32, 121, 42, 21, 4, 8, 96, 46, 133, 20, 0, 241, 127, 129]
abbrev dktL_law_54 : List UInt8 := dkwL_law_54 ++ dktL_law_55
def dkwL_law_53 : List UInt8 := [184, 0, 243, 54, 5, 44, 42, 21, 4, 4, 96, 46, 42, 21, 4, 5, 96, 46, 42, 21, 4, 6, 96, 46]
abbrev dktL_law_53 : List UInt8 := dkwL_law_53 ++ dktL_law_54
def dkwL_law_52 : List UInt8 := [42, 21, 4, 7, 96, 46, 133, 16, 32, 121, 42, 21, 4, 8, 96, 46, 133, 20, 0, 241, 127, 129, 45]
abbrev dktL_law_52 : List UInt8 := dkwL_law_52 ++ dktL_law_53
def dkwL_law_51 : List UInt8 := [3, 172, 167, 5, 134, 43, 42, 21, 4, 4, 96, 46, 42, 21, 4, 5, 96, 46, 42, 21, 4, 6, 96, 46]
abbrev dktL_law_51 : List UInt8 := dkwL_law_51 ++ dktL_law_52
def dkwL_law_50 : List UInt8 := [182, 0, 148, 21, 5, 159, 0, 5, 3, 172, 21, 5, 154, 0, 14, 45, 3, 47, 22, 6, 148, 153, 0, 5]
abbrev dktL_law_50 : List UInt8 := dkwL_law_50 ++ dktL_law_51
def dkwL_law_49 : List UInt8 := [21, 4, 4, 96, 46, 42, 21, 4, 5, 96, 46, 42, 21, 4, 6, 96, 46, 182, 0, 240, 55, 6, 44]
abbrev dktL_law_49 : List UInt8 := dkwL_law_49 ++ dktL_law_50
def dkwL_law_48 : List UInt8 := [4, 96, 46, 42, 21, 4, 5, 96, 46, 42, 21, 4, 6, 96, 46, 45, 184, 0, 238, 54, 5, 44, 42]
abbrev dktL_law_48 : List UInt8 := dkwL_law_48 ++ dktL_law_49
def dkwL_law_47 : List UInt8 := [21, 5, 154, 0, 15, 45, 3, 47, 21, 6, 133, 148, 153, 0, 5, 3, 172, 167, 5, 213, 43, 42, 21, 4]
abbrev dktL_law_47 : List UInt8 := dkwL_law_47 ++ dktL_law_48
def dkwL_law_46 : List UInt8 := [96, 46, 42, 21, 4, 6, 96, 46, 182, 0, 237, 54, 6, 44, 182, 0, 148, 21, 5, 159, 0, 5, 3, 172]
abbrev dktL_law_46 : List UInt8 := dkwL_law_46 ++ dktL_law_47
def dkwL_law_45 : List UInt8 := [46, 42, 21, 4, 6, 96, 46, 45, 184, 0, 234, 54, 5, 44, 42, 21, 4, 4, 96, 46, 42, 21, 4, 5]
abbrev dktL_law_45 : List UInt8 := dkwL_law_45 ++ dktL_law_46
def dkwL_law_44 : List UInt8 := [21, 6, 133, 148, 153, 0, 5, 3, 172, 167, 6, 37, 43, 42, 21, 4, 4, 96, 46, 42, 21, 4, 5, 96]
abbrev dktL_law_44 : List UInt8 := dkwL_law_44 ++ dktL_law_45
def dkwL_law_43 : List UInt8 := [182, 0, 233, 54, 6, 44, 182, 0, 148, 21, 5, 159, 0, 5, 3, 172, 21, 5, 154, 0, 15, 45, 3, 47]
abbrev dktL_law_43 : List UInt8 := dkwL_law_43 ++ dktL_law_44
def dkwL_law_42 : List UInt8 := [167, 6, 93, 43, 42, 21, 4, 4, 96, 46, 45, 184, 0, 231, 54, 5, 44, 42, 21, 4, 4, 96, 46]
abbrev dktL_law_42 : List UInt8 := dkwL_law_42 ++ dktL_law_43
def dkwL_law_41 : List UInt8 := [159, 0, 5, 3, 172, 21, 5, 154, 0, 15, 45, 3, 47, 21, 6, 133, 148, 153, 0, 5, 3, 172]
abbrev dktL_law_41 : List UInt8 := dkwL_law_41 ++ dktL_law_42
def dkwL_law_40 : List UInt8 := [184, 0, 228, 54, 5, 44, 42, 21, 4, 4, 96, 46, 182, 0, 230, 54, 6, 44, 182, 0, 148, 21, 5]
abbrev dktL_law_40 : List UInt8 := dkwL_law_40 ++ dktL_law_41
def dkwL_law_39 : List UInt8 := [167, 6, 162, 43, 182, 0, 224, 44, 182, 0, 227, 159, 6, 151, 3, 172, 43, 42, 21, 4, 4, 96, 46, 45]
abbrev dktL_law_39 : List UInt8 := dkwL_law_39 ++ dktL_law_40
def dkwL_law_38 : List UInt8 := [21, 5, 159, 0, 5, 3, 172, 21, 5, 154, 0, 15, 45, 3, 47, 21, 6, 133, 148, 153, 0, 5, 3, 172]
abbrev dktL_law_38 : List UInt8 := dkwL_law_38 ++ dktL_law_39
def dkwL_law_37 : List UInt8 := [46, 45, 184, 0, 221, 54, 5, 44, 42, 21, 4, 4, 96, 46, 182, 0, 223, 54, 6, 44, 182, 0, 148]
abbrev dktL_law_37 : List UInt8 := dkwL_law_37 ++ dktL_law_38
def dkwL_law_36 : List UInt8 := [154, 0, 15, 45, 3, 47, 21, 6, 133, 148, 153, 0, 5, 3, 172, 167, 6, 218, 43, 42, 21, 4, 4, 96]
abbrev dktL_law_36 : List UInt8 := dkwL_law_36 ++ dktL_law_37
def dkwL_law_35 : List UInt8 := [184, 0, 218, 54, 5, 44, 182, 0, 220, 54, 6, 44, 182, 0, 148, 21, 5, 159, 0, 5, 3, 172, 21, 5]
abbrev dktL_law_35 : List UInt8 := dkwL_law_35 ++ dktL_law_36
def dkwL_law_34 : List UInt8 := [172, 21, 5, 154, 0, 15, 45, 3, 47, 21, 6, 133, 148, 153, 0, 5, 3, 172, 167, 7, 6, 43, 45]
abbrev dktL_law_34 : List UInt8 := dkwL_law_34 ++ dktL_law_35
def dkwL_law_33 : List UInt8 := [54, 5, 44, 42, 21, 4, 4, 96, 46, 182, 0, 217, 54, 6, 44, 182, 0, 148, 21, 5, 159, 0, 5, 3]
abbrev dktL_law_33 : List UInt8 := dkwL_law_33 ++ dktL_law_34
def dkwL_law_32 : List UInt8 := [182, 0, 211, 44, 182, 0, 214, 159, 7, 64, 3, 172, 43, 42, 21, 4, 4, 96, 46, 45, 184, 0, 215]
abbrev dktL_law_32 : List UInt8 := dkwL_law_32 ++ dktL_law_33
def dkwL_law_31 : List UInt8 := [153, 0, 5, 3, 172, 167, 7, 88, 43, 182, 0, 207, 44, 182, 0, 210, 159, 7, 77, 3, 172, 43]
abbrev dktL_law_31 : List UInt8 := dkwL_law_31 ++ dktL_law_32
def dkwL_law_30 : List UInt8 := [182, 0, 148, 21, 5, 159, 0, 5, 3, 172, 21, 5, 154, 0, 15, 45, 3, 47, 21, 6, 133, 148]
abbrev dktL_law_30 : List UInt8 := dkwL_law_30 ++ dktL_law_31
def dkwL_law_29 : List UInt8 := [184, 0, 204, 54, 5, 44, 42, 21, 4, 4, 96, 46, 42, 21, 4, 5, 96, 46, 182, 0, 206, 54, 6, 44]
abbrev dktL_law_29 : List UInt8 := dkwL_law_29 ++ dktL_law_30
def dkwL_law_28 : List UInt8 := [182, 0, 203, 159, 7, 158, 3, 172, 43, 42, 21, 4, 4, 96, 46, 42, 21, 4, 5, 96, 46, 45]
abbrev dktL_law_28 : List UInt8 := dkwL_law_28 ++ dktL_law_29
def dkwL_law_27 : List UInt8 := [154, 0, 15, 45, 3, 47, 21, 6, 133, 148, 153, 0, 5, 3, 172, 167, 7, 169, 43, 182, 0, 200, 44]
abbrev dktL_law_27 : List UInt8 := dkwL_law_27 ++ dktL_law_28
def dkwL_law_26 : List UInt8 := [21, 4, 4, 96, 46, 182, 0, 199, 54, 6, 44, 182, 0, 148, 21, 5, 159, 0, 5, 3, 172, 21, 5]
abbrev dktL_law_26 : List UInt8 := dkwL_law_26 ++ dktL_law_27
def dkwL_law_25 : List UInt8 := [153, 0, 5, 3, 172, 167, 7, 225, 43, 42, 21, 4, 4, 96, 46, 45, 184, 0, 197, 54, 5, 44, 42]
abbrev dktL_law_25 : List UInt8 := dkwL_law_25 ++ dktL_law_26
def dkwL_law_24 : List UInt8 := [182, 0, 148, 21, 5, 159, 0, 5, 3, 172, 21, 5, 154, 0, 15, 45, 3, 47, 21, 6, 133, 148]
abbrev dktL_law_24 : List UInt8 := dkwL_law_24 ++ dktL_law_25
def dkwL_law_23 : List UInt8 := [184, 0, 193, 54, 5, 44, 42, 21, 4, 4, 96, 46, 42, 21, 4, 5, 96, 46, 182, 0, 196, 54, 6, 44]
abbrev dktL_law_23 : List UInt8 := dkwL_law_23 ++ dktL_law_24
def dkwL_law_22 : List UInt8 := [46, 182, 0, 192, 159, 8, 39, 3, 172, 43, 42, 21, 4, 4, 96, 46, 42, 21, 4, 5, 96, 46, 45]
abbrev dktL_law_22 : List UInt8 := dkwL_law_22 ++ dktL_law_23
def dkwL_law_21 : List UInt8 := [182, 0, 188, 159, 8, 64, 3, 172, 43, 42, 21, 4, 4, 96, 46, 182, 0, 189, 44, 42, 21, 4, 4, 96]
abbrev dktL_law_21 : List UInt8 := dkwL_law_21 ++ dktL_law_22
def dkwL_law_20 : List UInt8 := [154, 0, 15, 45, 3, 47, 21, 6, 133, 148, 153, 0, 5, 3, 172, 167, 8, 75, 43, 182, 0, 185, 44]
abbrev dktL_law_20 : List UInt8 := dkwL_law_20 ++ dktL_law_21
def dkwL_law_19 : List UInt8 := [21, 4, 4, 96, 46, 182, 0, 184, 54, 6, 44, 182, 0, 148, 21, 5, 159, 0, 5, 3, 172, 21, 5]
abbrev dktL_law_19 : List UInt8 := dkwL_law_19 ++ dktL_law_20
def dkwL_law_18 : List UInt8 := [182, 0, 181, 159, 8, 133, 3, 172, 43, 42, 21, 4, 4, 96, 46, 45, 184, 0, 182, 54, 5, 44, 42]
abbrev dktL_law_18 : List UInt8 := dkwL_law_18 ++ dktL_law_19
def dkwL_law_17 : List UInt8 := [159, 8, 159, 3, 172, 43, 182, 0, 173, 44, 182, 0, 177, 159, 8, 146, 3, 172, 43, 182, 0, 178, 44]
abbrev dktL_law_17 : List UInt8 := dkwL_law_17 ++ dktL_law_18
def dkwL_law_16 : List UInt8 := [45, 3, 47, 21, 6, 133, 148, 153, 0, 5, 3, 172, 167, 8, 170, 43, 182, 0, 169, 44, 182, 0, 172]
abbrev dktL_law_16 : List UInt8 := dkwL_law_16 ++ dktL_law_17
def dkwL_law_15 : List UInt8 := [54, 5, 44, 182, 0, 168, 54, 6, 44, 182, 0, 148, 21, 5, 159, 0, 5, 3, 172, 21, 5, 154, 0, 15]
abbrev dktL_law_15 : List UInt8 := dkwL_law_15 ++ dktL_law_16
def dkwL_law_14 : List UInt8 := [154, 0, 15, 45, 3, 47, 21, 6, 133, 148, 153, 0, 5, 3, 172, 167, 8, 214, 43, 45, 184, 0, 166]
abbrev dktL_law_14 : List UInt8 := dkwL_law_14 ++ dktL_law_15
def dkwL_law_13 : List UInt8 := [21, 4, 4, 96, 46, 182, 0, 165, 54, 6, 44, 182, 0, 148, 21, 5, 159, 0, 5, 3, 172, 21, 5]
abbrev dktL_law_13 : List UInt8 := dkwL_law_13 ++ dktL_law_14
def dkwL_law_12 : List UInt8 := [46, 182, 0, 161, 159, 9, 16, 3, 172, 43, 42, 21, 4, 4, 96, 46, 45, 184, 0, 162, 54, 5, 44, 42]
abbrev dktL_law_12 : List UInt8 := dkwL_law_12 ++ dktL_law_13
def dkwL_law_11 : List UInt8 := [182, 0, 157, 159, 9, 41, 3, 172, 43, 42, 21, 4, 4, 96, 46, 182, 0, 158, 44, 42, 21, 4, 4, 96]
abbrev dktL_law_11 : List UInt8 := dkwL_law_11 ++ dktL_law_12
def dkwL_law_10 : List UInt8 := [154, 0, 15, 45, 3, 47, 21, 6, 133, 148, 153, 0, 5, 3, 172, 167, 9, 52, 43, 182, 0, 154, 44]
abbrev dktL_law_10 : List UInt8 := dkwL_law_10 ++ dktL_law_11
def dkwL_law_9 : List UInt8 := [184, 0, 151, 54, 5, 44, 182, 0, 153, 54, 6, 44, 182, 0, 148, 21, 5, 159, 0, 5, 3, 172, 21, 5]
abbrev dktL_law_9 : List UInt8 := dkwL_law_9 ++ dktL_law_10
def dkwL_law_8 : List UInt8 := [3, 172, 21, 5, 154, 0, 15, 45, 3, 47, 21, 6, 133, 148, 153, 0, 5, 3, 172, 167, 9, 96, 43, 45]
abbrev dktL_law_8 : List UInt8 := dkwL_law_8 ++ dktL_law_9
def dkwL_law_7 : List UInt8 := [3, 172, 43, 45, 184, 0, 142, 54, 5, 44, 182, 0, 147, 54, 6, 44, 182, 0, 148, 21, 5, 159, 0, 5]
abbrev dktL_law_7 : List UInt8 := dkwL_law_7 ++ dktL_law_8
def dkwL_law_6 : List UInt8 := [172, 43, 42, 21, 4, 4, 96, 46, 182, 0, 138, 44, 42, 21, 4, 4, 96, 46, 182, 0, 141, 159, 9, 142]
abbrev dktL_law_6 : List UInt8 := dkwL_law_6 ++ dktL_law_7
def dkwL_law_5 : List UInt8 := [21, 4, 6, 96, 46, 42, 21, 4, 7, 96, 46, 42, 21, 4, 8, 96, 46, 182, 0, 137, 159, 9, 167, 3]
abbrev dktL_law_5 : List UInt8 := dkwL_law_5 ++ dktL_law_6
def dkwL_law_4 : List UInt8 := [46, 42, 21, 4, 8, 96, 46, 182, 0, 133, 44, 42, 21, 4, 4, 96, 46, 42, 21, 4, 5, 96, 46, 42]
abbrev dktL_law_4 : List UInt8 := dkwL_law_4 ++ dktL_law_5
def dkwL_law_3 : List UInt8 := [43, 42, 21, 4, 4, 96, 46, 42, 21, 4, 5, 96, 46, 42, 21, 4, 6, 96, 46, 42, 21, 4, 7, 96]
abbrev dktL_law_3 : List UInt8 := dkwL_law_3 ++ dktL_law_4
def dkwL_law_2 : List UInt8 := [170, 0, 0, 0, 0, 0, 10, 199, 0, 0, 0, 0, 0, 0, 0, 50, 0, 0, 0, 220, 0, 0, 1, 37, 0, 0, 1, 62, 0, 0, 1, 106, 0, 0, 1, 150, 0, 0, 1, 163, 0, 0, 1, 188, 0, 0, 1, 244, 0, 0, 2, 32, 0, 0, 2, 45, 0, 0, 2, 58, 0, 0, 2, 71, 0, 0, 2, 127, 0, 0, 2, 140, 0, 0, 2, 165, 0, 0, 2, 233, 0, 0, 3, 33, 0, 0, 3, 46, 0, 0, 3, 114, 0, 0, 3, 127, 0, 0, 3, 140, 0, 0, 3, 196, 0, 0, 3, 240, 0, 0, 4, 40, 0, 0, 4, 53, 0, 0, 4, 109, 0, 0, 4, 165, 0, 0, 4, 245, 0, 0, 5, 68, 0, 0, 5, 192, 0, 0, 6, 27, 0, 0, 6, 95, 0, 0, 6, 163, 0, 0, 6, 219, 0, 0, 7, 19, 0, 0, 7, 82, 0, 0, 7, 150, 0, 0, 7, 218, 0, 0, 8, 18, 0, 0, 8, 62, 0, 0, 8, 130, 0, 0, 8, 143, 0, 0, 8, 223, 0, 0, 9, 58, 0, 0, 9, 83, 0, 0, 9, 96, 0, 0, 9, 152, 0, 0, 9, 232, 0, 0, 10, 31, 0, 0, 10, 94, 0, 0, 10, 174]
abbrev dktL_law_2 : List UInt8 := dkwL_law_2 ++ dktL_law_3
def dkwL_law_1 : List UInt8 := [21, 4, 42, 190, 16, 6, 100, 163, 10, 215, 42, 21, 4, 46, 16, 63, 126]
abbrev dktL_law_1 : List UInt8 := dkwL_law_1 ++ dktL_law_2
def dkwL_law_0 : List UInt8 := [187, 0, 8, 89, 183, 0, 129, 76, 187, 0, 130, 89, 183, 0, 132, 77, 4, 188, 11, 78, 3, 54, 4]
abbrev dktL_law_0 : List UInt8 := dkwL_law_0 ++ dktL_law_1
theorem dksL_law_0 : cL_law.data.toList.drop 0 = dktL_law_0 := by decide +kernel
theorem dksL_law_1 : cL_law.data.toList.drop 23 = dktL_law_1 := dk_seg dksL_law_0 23 rfl rfl
theorem dksL_law_2 : cL_law.data.toList.drop 40 = dktL_law_2 := dk_seg dksL_law_1 17 rfl rfl
theorem dksL_law_3 : cL_law.data.toList.drop 260 = dktL_law_3 := dk_seg dksL_law_2 220 rfl rfl
theorem dksL_law_4 : cL_law.data.toList.drop 284 = dktL_law_4 := dk_seg dksL_law_3 24 rfl rfl
theorem dksL_law_5 : cL_law.data.toList.drop 308 = dktL_law_5 := dk_seg dksL_law_4 24 rfl rfl
theorem dksL_law_6 : cL_law.data.toList.drop 332 = dktL_law_6 := dk_seg dksL_law_5 24 rfl rfl
theorem dksL_law_7 : cL_law.data.toList.drop 356 = dktL_law_7 := dk_seg dksL_law_6 24 rfl rfl
theorem dksL_law_8 : cL_law.data.toList.drop 380 = dktL_law_8 := dk_seg dksL_law_7 24 rfl rfl
theorem dksL_law_9 : cL_law.data.toList.drop 404 = dktL_law_9 := dk_seg dksL_law_8 24 rfl rfl
theorem dksL_law_10 : cL_law.data.toList.drop 428 = dktL_law_10 := dk_seg dksL_law_9 24 rfl rfl
theorem dksL_law_11 : cL_law.data.toList.drop 451 = dktL_law_11 := dk_seg dksL_law_10 23 rfl rfl
theorem dksL_law_12 : cL_law.data.toList.drop 475 = dktL_law_12 := dk_seg dksL_law_11 24 rfl rfl
theorem dksL_law_13 : cL_law.data.toList.drop 499 = dktL_law_13 := dk_seg dksL_law_12 24 rfl rfl
theorem dksL_law_14 : cL_law.data.toList.drop 522 = dktL_law_14 := dk_seg dksL_law_13 23 rfl rfl
theorem dksL_law_15 : cL_law.data.toList.drop 545 = dktL_law_15 := dk_seg dksL_law_14 23 rfl rfl
theorem dksL_law_16 : cL_law.data.toList.drop 569 = dktL_law_16 := dk_seg dksL_law_15 24 rfl rfl
theorem dksL_law_17 : cL_law.data.toList.drop 592 = dktL_law_17 := dk_seg dksL_law_16 23 rfl rfl
theorem dksL_law_18 : cL_law.data.toList.drop 615 = dktL_law_18 := dk_seg dksL_law_17 23 rfl rfl
theorem dksL_law_19 : cL_law.data.toList.drop 638 = dktL_law_19 := dk_seg dksL_law_18 23 rfl rfl
theorem dksL_law_20 : cL_law.data.toList.drop 661 = dktL_law_20 := dk_seg dksL_law_19 23 rfl rfl
theorem dksL_law_21 : cL_law.data.toList.drop 684 = dktL_law_21 := dk_seg dksL_law_20 23 rfl rfl
theorem dksL_law_22 : cL_law.data.toList.drop 708 = dktL_law_22 := dk_seg dksL_law_21 24 rfl rfl
theorem dksL_law_23 : cL_law.data.toList.drop 731 = dktL_law_23 := dk_seg dksL_law_22 23 rfl rfl
theorem dksL_law_24 : cL_law.data.toList.drop 755 = dktL_law_24 := dk_seg dksL_law_23 24 rfl rfl
theorem dksL_law_25 : cL_law.data.toList.drop 777 = dktL_law_25 := dk_seg dksL_law_24 22 rfl rfl
theorem dksL_law_26 : cL_law.data.toList.drop 800 = dktL_law_26 := dk_seg dksL_law_25 23 rfl rfl
theorem dksL_law_27 : cL_law.data.toList.drop 823 = dktL_law_27 := dk_seg dksL_law_26 23 rfl rfl
theorem dksL_law_28 : cL_law.data.toList.drop 846 = dktL_law_28 := dk_seg dksL_law_27 23 rfl rfl
theorem dksL_law_29 : cL_law.data.toList.drop 868 = dktL_law_29 := dk_seg dksL_law_28 22 rfl rfl
theorem dksL_law_30 : cL_law.data.toList.drop 892 = dktL_law_30 := dk_seg dksL_law_29 24 rfl rfl
theorem dksL_law_31 : cL_law.data.toList.drop 914 = dktL_law_31 := dk_seg dksL_law_30 22 rfl rfl
theorem dksL_law_32 : cL_law.data.toList.drop 936 = dktL_law_32 := dk_seg dksL_law_31 22 rfl rfl
theorem dksL_law_33 : cL_law.data.toList.drop 959 = dktL_law_33 := dk_seg dksL_law_32 23 rfl rfl
theorem dksL_law_34 : cL_law.data.toList.drop 983 = dktL_law_34 := dk_seg dksL_law_33 24 rfl rfl
theorem dksL_law_35 : cL_law.data.toList.drop 1006 = dktL_law_35 := dk_seg dksL_law_34 23 rfl rfl
theorem dksL_law_36 : cL_law.data.toList.drop 1030 = dktL_law_36 := dk_seg dksL_law_35 24 rfl rfl
theorem dksL_law_37 : cL_law.data.toList.drop 1054 = dktL_law_37 := dk_seg dksL_law_36 24 rfl rfl
theorem dksL_law_38 : cL_law.data.toList.drop 1077 = dktL_law_38 := dk_seg dksL_law_37 23 rfl rfl
theorem dksL_law_39 : cL_law.data.toList.drop 1101 = dktL_law_39 := dk_seg dksL_law_38 24 rfl rfl
theorem dksL_law_40 : cL_law.data.toList.drop 1125 = dktL_law_40 := dk_seg dksL_law_39 24 rfl rfl
theorem dksL_law_41 : cL_law.data.toList.drop 1148 = dktL_law_41 := dk_seg dksL_law_40 23 rfl rfl
theorem dksL_law_42 : cL_law.data.toList.drop 1170 = dktL_law_42 := dk_seg dksL_law_41 22 rfl rfl
theorem dksL_law_43 : cL_law.data.toList.drop 1193 = dktL_law_43 := dk_seg dksL_law_42 23 rfl rfl
theorem dksL_law_44 : cL_law.data.toList.drop 1217 = dktL_law_44 := dk_seg dksL_law_43 24 rfl rfl
theorem dksL_law_45 : cL_law.data.toList.drop 1241 = dktL_law_45 := dk_seg dksL_law_44 24 rfl rfl
theorem dksL_law_46 : cL_law.data.toList.drop 1265 = dktL_law_46 := dk_seg dksL_law_45 24 rfl rfl
theorem dksL_law_47 : cL_law.data.toList.drop 1289 = dktL_law_47 := dk_seg dksL_law_46 24 rfl rfl
theorem dksL_law_48 : cL_law.data.toList.drop 1313 = dktL_law_48 := dk_seg dksL_law_47 24 rfl rfl
theorem dksL_law_49 : cL_law.data.toList.drop 1336 = dktL_law_49 := dk_seg dksL_law_48 23 rfl rfl
theorem dksL_law_50 : cL_law.data.toList.drop 1359 = dktL_law_50 := dk_seg dksL_law_49 23 rfl rfl
theorem dksL_law_51 : cL_law.data.toList.drop 1383 = dktL_law_51 := dk_seg dksL_law_50 24 rfl rfl
theorem dksL_law_52 : cL_law.data.toList.drop 1407 = dktL_law_52 := dk_seg dksL_law_51 24 rfl rfl
theorem dksL_law_53 : cL_law.data.toList.drop 1430 = dktL_law_53 := dk_seg dksL_law_52 23 rfl rfl
theorem dksL_law_54 : cL_law.data.toList.drop 1454 = dktL_law_54 := dk_seg dksL_law_53 24 rfl rfl
theorem dksL_law_55 : cL_law.data.toList.drop 1476 = dktL_law_55 := dk_seg dksL_law_54 22 rfl rfl
theorem dksL_law_56 : cL_law.data.toList.drop 1500 = dktL_law_56 := dk_seg dksL_law_55 24 rfl rfl
theorem dksL_law_57 : cL_law.data.toList.drop 1524 = dktL_law_57 := dk_seg dksL_law_56 24 rfl rfl
theorem dksL_law_58 : cL_law.data.toList.drop 1548 = dktL_law_58 := dk_seg dksL_law_57 24 rfl rfl
theorem dksL_law_59 : cL_law.data.toList.drop 1571 = dktL_law_59 := dk_seg dksL_law_58 23 rfl rfl
theorem dksL_law_60 : cL_law.data.toList.drop 1595 = dktL_law_60 := dk_seg dksL_law_59 24 rfl rfl
theorem dksL_law_61 : cL_law.data.toList.drop 1617 = dktL_law_61 := dk_seg dksL_law_60 22 rfl rfl
theorem dksL_law_62 : cL_law.data.toList.drop 1641 = dktL_law_62 := dk_seg dksL_law_61 24 rfl rfl
theorem dksL_law_63 : cL_law.data.toList.drop 1663 = dktL_law_63 := dk_seg dksL_law_62 22 rfl rfl
theorem dksL_law_64 : cL_law.data.toList.drop 1685 = dktL_law_64 := dk_seg dksL_law_63 22 rfl rfl
theorem dksL_law_65 : cL_law.data.toList.drop 1709 = dktL_law_65 := dk_seg dksL_law_64 24 rfl rfl
theorem dksL_law_66 : cL_law.data.toList.drop 1731 = dktL_law_66 := dk_seg dksL_law_65 22 rfl rfl
theorem dksL_law_67 : cL_law.data.toList.drop 1754 = dktL_law_67 := dk_seg dksL_law_66 23 rfl rfl
theorem dksL_law_68 : cL_law.data.toList.drop 1777 = dktL_law_68 := dk_seg dksL_law_67 23 rfl rfl
theorem dksL_law_69 : cL_law.data.toList.drop 1801 = dktL_law_69 := dk_seg dksL_law_68 24 rfl rfl
theorem dksL_law_70 : cL_law.data.toList.drop 1824 = dktL_law_70 := dk_seg dksL_law_69 23 rfl rfl
theorem dksL_law_71 : cL_law.data.toList.drop 1848 = dktL_law_71 := dk_seg dksL_law_70 24 rfl rfl
theorem dksL_law_72 : cL_law.data.toList.drop 1871 = dktL_law_72 := dk_seg dksL_law_71 23 rfl rfl
theorem dksL_law_73 : cL_law.data.toList.drop 1895 = dktL_law_73 := dk_seg dksL_law_72 24 rfl rfl
theorem dksL_law_74 : cL_law.data.toList.drop 1919 = dktL_law_74 := dk_seg dksL_law_73 24 rfl rfl
theorem dksL_law_75 : cL_law.data.toList.drop 1943 = dktL_law_75 := dk_seg dksL_law_74 24 rfl rfl
theorem dksL_law_76 : cL_law.data.toList.drop 1967 = dktL_law_76 := dk_seg dksL_law_75 24 rfl rfl
theorem dksL_law_77 : cL_law.data.toList.drop 1990 = dktL_law_77 := dk_seg dksL_law_76 23 rfl rfl
theorem dksL_law_78 : cL_law.data.toList.drop 2014 = dktL_law_78 := dk_seg dksL_law_77 24 rfl rfl
theorem dksL_law_79 : cL_law.data.toList.drop 2038 = dktL_law_79 := dk_seg dksL_law_78 24 rfl rfl
theorem dksL_law_80 : cL_law.data.toList.drop 2061 = dktL_law_80 := dk_seg dksL_law_79 23 rfl rfl
theorem dksL_law_81 : cL_law.data.toList.drop 2085 = dktL_law_81 := dk_seg dksL_law_80 24 rfl rfl
theorem dksL_law_82 : cL_law.data.toList.drop 2108 = dktL_law_82 := dk_seg dksL_law_81 23 rfl rfl
theorem dksL_law_83 : cL_law.data.toList.drop 2132 = dktL_law_83 := dk_seg dksL_law_82 24 rfl rfl
theorem dksL_law_84 : cL_law.data.toList.drop 2156 = dktL_law_84 := dk_seg dksL_law_83 24 rfl rfl
theorem dksL_law_85 : cL_law.data.toList.drop 2180 = dktL_law_85 := dk_seg dksL_law_84 24 rfl rfl
theorem dksL_law_86 : cL_law.data.toList.drop 2204 = dktL_law_86 := dk_seg dksL_law_85 24 rfl rfl
theorem dksL_law_87 : cL_law.data.toList.drop 2226 = dktL_law_87 := dk_seg dksL_law_86 22 rfl rfl
theorem dksL_law_88 : cL_law.data.toList.drop 2250 = dktL_law_88 := dk_seg dksL_law_87 24 rfl rfl
theorem dksL_law_89 : cL_law.data.toList.drop 2274 = dktL_law_89 := dk_seg dksL_law_88 24 rfl rfl
theorem dksL_law_90 : cL_law.data.toList.drop 2298 = dktL_law_90 := dk_seg dksL_law_89 24 rfl rfl
theorem dksL_law_91 : cL_law.data.toList.drop 2322 = dktL_law_91 := dk_seg dksL_law_90 24 rfl rfl
theorem dksL_law_92 : cL_law.data.toList.drop 2346 = dktL_law_92 := dk_seg dksL_law_91 24 rfl rfl
theorem dksL_law_93 : cL_law.data.toList.drop 2370 = dktL_law_93 := dk_seg dksL_law_92 24 rfl rfl
theorem dksL_law_94 : cL_law.data.toList.drop 2394 = dktL_law_94 := dk_seg dksL_law_93 24 rfl rfl
theorem dksL_law_95 : cL_law.data.toList.drop 2418 = dktL_law_95 := dk_seg dksL_law_94 24 rfl rfl
theorem dksL_law_96 : cL_law.data.toList.drop 2442 = dktL_law_96 := dk_seg dksL_law_95 24 rfl rfl
theorem dksL_law_97 : cL_law.data.toList.drop 2466 = dktL_law_97 := dk_seg dksL_law_96 24 rfl rfl
theorem dksL_law_98 : cL_law.data.toList.drop 2488 = dktL_law_98 := dk_seg dksL_law_97 22 rfl rfl
theorem dksL_law_99 : cL_law.data.toList.drop 2512 = dktL_law_99 := dk_seg dksL_law_98 24 rfl rfl
theorem dksL_law_100 : cL_law.data.toList.drop 2535 = dktL_law_100 := dk_seg dksL_law_99 23 rfl rfl
theorem dksL_law_101 : cL_law.data.toList.drop 2558 = dktL_law_101 := dk_seg dksL_law_100 23 rfl rfl
theorem dksL_law_102 : cL_law.data.toList.drop 2582 = dktL_law_102 := dk_seg dksL_law_101 24 rfl rfl
theorem dksL_law_103 : cL_law.data.toList.drop 2605 = dktL_law_103 := dk_seg dksL_law_102 23 rfl rfl
theorem dksL_law_104 : cL_law.data.toList.drop 2628 = dktL_law_104 := dk_seg dksL_law_103 23 rfl rfl
theorem dksL_law_105 : cL_law.data.toList.drop 2651 = dktL_law_105 := dk_seg dksL_law_104 23 rfl rfl
theorem dksL_law_106 : cL_law.data.toList.drop 2675 = dktL_law_106 := dk_seg dksL_law_105 24 rfl rfl
theorem dksL_law_107 : cL_law.data.toList.drop 2699 = dktL_law_107 := dk_seg dksL_law_106 24 rfl rfl
theorem dksL_law_108 : cL_law.data.toList.drop 2723 = dktL_law_108 := dk_seg dksL_law_107 24 rfl rfl
theorem dksL_law_109 : cL_law.data.toList.drop 2747 = dktL_law_109 := dk_seg dksL_law_108 24 rfl rfl
theorem dksL_law_110 : cL_law.data.toList.drop 2771 = dktL_law_110 := dk_seg dksL_law_109 24 rfl rfl
theorem dksL_law_111 : cL_law.data.toList.drop 2794 = dktL_law_111 := dk_seg dksL_law_110 23 rfl rfl
theorem dL_law_0 : decode cL_law 0 = .ok (.new 8, 3) := dk_187 0 8 (dk_at dksL_law_0 0 rfl rfl)
theorem dL_law_3 : decode cL_law 3 = .ok (.dup, 1) := dk_89 (dk_at dksL_law_0 3 rfl rfl)
theorem dL_law_4 : decode cL_law 4 = .ok (.invokespecial 129, 3) := dk_183 0 129 (dk_at dksL_law_0 4 rfl rfl)
theorem dL_law_7 : decode cL_law 7 = .ok (.astore_n 1, 1) := dk_76 (dk_at dksL_law_0 7 rfl rfl)
theorem dL_law_8 : decode cL_law 8 = .ok (.new 130, 3) := dk_187 0 130 (dk_at dksL_law_0 8 rfl rfl)
theorem dL_law_11 : decode cL_law 11 = .ok (.dup, 1) := dk_89 (dk_at dksL_law_0 11 rfl rfl)
theorem dL_law_12 : decode cL_law 12 = .ok (.invokespecial 132, 3) := dk_183 0 132 (dk_at dksL_law_0 12 rfl rfl)
theorem dL_law_15 : decode cL_law 15 = .ok (.astore_n 2, 1) := dk_77 (dk_at dksL_law_0 15 rfl rfl)
theorem dL_law_16 : decode cL_law 16 = .ok (.iconst 1, 1) := dk_4 (dk_at dksL_law_0 16 rfl rfl)
theorem dL_law_17 : decode cL_law 17 = .ok (.newarray .long, 2) := dk_188_11 (dk_at dksL_law_0 17 rfl rfl)
theorem dL_law_19 : decode cL_law 19 = .ok (.astore_n 3, 1) := dk_78 (dk_at dksL_law_0 19 rfl rfl)
theorem dL_law_20 : decode cL_law 20 = .ok (.iconst 0, 1) := dk_3 (dk_at dksL_law_0 20 rfl rfl)
theorem dL_law_21 : decode cL_law 21 = .ok (.istore 4, 2) := dk_54 4 (dk_at dksL_law_0 21 rfl rfl)
theorem dL_law_23 : decode cL_law 23 = .ok (.iload 4, 2) := dk_21 4 (dk_at dksL_law_1 0 rfl rfl)
theorem dL_law_25 : decode cL_law 25 = .ok (.aload_n 0, 1) := dk_42 (dk_at dksL_law_1 2 rfl rfl)
theorem dL_law_26 : decode cL_law 26 = .ok (.arraylength, 1) := dk_190 (dk_at dksL_law_1 3 rfl rfl)
theorem dL_law_27 : decode cL_law 27 = .ok (.bipush 6, 2) := dk_16 6 (dk_at dksL_law_1 4 rfl rfl)
theorem dL_law_29 : decode cL_law 29 = .ok (.isub, 1) := dk_100 (dk_at dksL_law_1 6 rfl rfl)
theorem dL_law_30 : decode cL_law 30 = .ok (.if_icmp .gt 2775, 3) := dk_163 10 215 (dk_at dksL_law_1 7 rfl rfl)
theorem dL_law_33 : decode cL_law 33 = .ok (.aload_n 0, 1) := dk_42 (dk_at dksL_law_1 10 rfl rfl)
theorem dL_law_34 : decode cL_law 34 = .ok (.iload 4, 2) := dk_21 4 (dk_at dksL_law_1 11 rfl rfl)
theorem dL_law_36 : decode cL_law 36 = .ok (.iaload, 1) := dk_46 (dk_at dksL_law_1 13 rfl rfl)
theorem dL_law_37 : decode cL_law 37 = .ok (.bipush 63, 2) := dk_16 63 (dk_at dksL_law_1 14 rfl rfl)
theorem dL_law_39 : decode cL_law 39 = .ok (.iand, 1) := dk_126 (dk_at dksL_law_1 16 rfl rfl)
theorem dL_law_40 : decode cL_law 40 = .ok (.tableswitch 2759 0 50 #[220, 293, 318, 362, 406, 419, 444, 500, 544, 557, 570, 583, 639, 652, 677, 745, 801, 814, 882, 895, 908, 964, 1008, 1064, 1077, 1133, 1189, 1269, 1348, 1472, 1563, 1631, 1699, 1755, 1811, 1874, 1942, 2010, 2066, 2110, 2178, 2191, 2271, 2362, 2387, 2400, 2456, 2536, 2591, 2654, 2734], 220) := by decide +kernel
theorem dL_law_260 : decode cL_law 260 = .ok (.aload_n 1, 1) := dk_43 (dk_at dksL_law_3 0 rfl rfl)
theorem dL_law_261 : decode cL_law 261 = .ok (.aload_n 0, 1) := dk_42 (dk_at dksL_law_3 1 rfl rfl)
theorem dL_law_262 : decode cL_law 262 = .ok (.iload 4, 2) := dk_21 4 (dk_at dksL_law_3 2 rfl rfl)
theorem dL_law_264 : decode cL_law 264 = .ok (.iconst 1, 1) := dk_4 (dk_at dksL_law_3 4 rfl rfl)
theorem dL_law_265 : decode cL_law 265 = .ok (.iadd, 1) := dk_96 (dk_at dksL_law_3 5 rfl rfl)
theorem dL_law_266 : decode cL_law 266 = .ok (.iaload, 1) := dk_46 (dk_at dksL_law_3 6 rfl rfl)
theorem dL_law_267 : decode cL_law 267 = .ok (.aload_n 0, 1) := dk_42 (dk_at dksL_law_3 7 rfl rfl)
theorem dL_law_268 : decode cL_law 268 = .ok (.iload 4, 2) := dk_21 4 (dk_at dksL_law_3 8 rfl rfl)
theorem dL_law_270 : decode cL_law 270 = .ok (.iconst 2, 1) := dk_5 (dk_at dksL_law_3 10 rfl rfl)
theorem dL_law_271 : decode cL_law 271 = .ok (.iadd, 1) := dk_96 (dk_at dksL_law_3 11 rfl rfl)
theorem dL_law_272 : decode cL_law 272 = .ok (.iaload, 1) := dk_46 (dk_at dksL_law_3 12 rfl rfl)
theorem dL_law_273 : decode cL_law 273 = .ok (.aload_n 0, 1) := dk_42 (dk_at dksL_law_3 13 rfl rfl)
theorem dL_law_274 : decode cL_law 274 = .ok (.iload 4, 2) := dk_21 4 (dk_at dksL_law_3 14 rfl rfl)
theorem dL_law_276 : decode cL_law 276 = .ok (.iconst 3, 1) := dk_6 (dk_at dksL_law_3 16 rfl rfl)
theorem dL_law_277 : decode cL_law 277 = .ok (.iadd, 1) := dk_96 (dk_at dksL_law_3 17 rfl rfl)
theorem dL_law_278 : decode cL_law 278 = .ok (.iaload, 1) := dk_46 (dk_at dksL_law_3 18 rfl rfl)
theorem dL_law_279 : decode cL_law 279 = .ok (.aload_n 0, 1) := dk_42 (dk_at dksL_law_3 19 rfl rfl)
theorem dL_law_280 : decode cL_law 280 = .ok (.iload 4, 2) := dk_21 4 (dk_at dksL_law_3 20 rfl rfl)
theorem dL_law_282 : decode cL_law 282 = .ok (.iconst 4, 1) := dk_7 (dk_at dksL_law_3 22 rfl rfl)
theorem dL_law_283 : decode cL_law 283 = .ok (.iadd, 1) := dk_96 (dk_at dksL_law_3 23 rfl rfl)
theorem dL_law_284 : decode cL_law 284 = .ok (.iaload, 1) := dk_46 (dk_at dksL_law_4 0 rfl rfl)
theorem dL_law_285 : decode cL_law 285 = .ok (.aload_n 0, 1) := dk_42 (dk_at dksL_law_4 1 rfl rfl)
theorem dL_law_286 : decode cL_law 286 = .ok (.iload 4, 2) := dk_21 4 (dk_at dksL_law_4 2 rfl rfl)
theorem dL_law_288 : decode cL_law 288 = .ok (.iconst 5, 1) := dk_8 (dk_at dksL_law_4 4 rfl rfl)
theorem dL_law_289 : decode cL_law 289 = .ok (.iadd, 1) := dk_96 (dk_at dksL_law_4 5 rfl rfl)
theorem dL_law_290 : decode cL_law 290 = .ok (.iaload, 1) := dk_46 (dk_at dksL_law_4 6 rfl rfl)
theorem dL_law_291 : decode cL_law 291 = .ok (.invokevirtual 133, 3) := dk_182 0 133 (dk_at dksL_law_4 7 rfl rfl)
theorem dL_law_294 : decode cL_law 294 = .ok (.aload_n 2, 1) := dk_44 (dk_at dksL_law_4 10 rfl rfl)
theorem dL_law_295 : decode cL_law 295 = .ok (.aload_n 0, 1) := dk_42 (dk_at dksL_law_4 11 rfl rfl)
theorem dL_law_296 : decode cL_law 296 = .ok (.iload 4, 2) := dk_21 4 (dk_at dksL_law_4 12 rfl rfl)
theorem dL_law_298 : decode cL_law 298 = .ok (.iconst 1, 1) := dk_4 (dk_at dksL_law_4 14 rfl rfl)
theorem dL_law_299 : decode cL_law 299 = .ok (.iadd, 1) := dk_96 (dk_at dksL_law_4 15 rfl rfl)
theorem dL_law_300 : decode cL_law 300 = .ok (.iaload, 1) := dk_46 (dk_at dksL_law_4 16 rfl rfl)
theorem dL_law_301 : decode cL_law 301 = .ok (.aload_n 0, 1) := dk_42 (dk_at dksL_law_4 17 rfl rfl)
theorem dL_law_302 : decode cL_law 302 = .ok (.iload 4, 2) := dk_21 4 (dk_at dksL_law_4 18 rfl rfl)
theorem dL_law_304 : decode cL_law 304 = .ok (.iconst 2, 1) := dk_5 (dk_at dksL_law_4 20 rfl rfl)
theorem dL_law_305 : decode cL_law 305 = .ok (.iadd, 1) := dk_96 (dk_at dksL_law_4 21 rfl rfl)
theorem dL_law_306 : decode cL_law 306 = .ok (.iaload, 1) := dk_46 (dk_at dksL_law_4 22 rfl rfl)
theorem dL_law_307 : decode cL_law 307 = .ok (.aload_n 0, 1) := dk_42 (dk_at dksL_law_4 23 rfl rfl)
theorem dL_law_308 : decode cL_law 308 = .ok (.iload 4, 2) := dk_21 4 (dk_at dksL_law_5 0 rfl rfl)
theorem dL_law_310 : decode cL_law 310 = .ok (.iconst 3, 1) := dk_6 (dk_at dksL_law_5 2 rfl rfl)
theorem dL_law_311 : decode cL_law 311 = .ok (.iadd, 1) := dk_96 (dk_at dksL_law_5 3 rfl rfl)
theorem dL_law_312 : decode cL_law 312 = .ok (.iaload, 1) := dk_46 (dk_at dksL_law_5 4 rfl rfl)
theorem dL_law_313 : decode cL_law 313 = .ok (.aload_n 0, 1) := dk_42 (dk_at dksL_law_5 5 rfl rfl)
theorem dL_law_314 : decode cL_law 314 = .ok (.iload 4, 2) := dk_21 4 (dk_at dksL_law_5 6 rfl rfl)
theorem dL_law_316 : decode cL_law 316 = .ok (.iconst 4, 1) := dk_7 (dk_at dksL_law_5 8 rfl rfl)
theorem dL_law_317 : decode cL_law 317 = .ok (.iadd, 1) := dk_96 (dk_at dksL_law_5 9 rfl rfl)
theorem dL_law_318 : decode cL_law 318 = .ok (.iaload, 1) := dk_46 (dk_at dksL_law_5 10 rfl rfl)
theorem dL_law_319 : decode cL_law 319 = .ok (.aload_n 0, 1) := dk_42 (dk_at dksL_law_5 11 rfl rfl)
theorem dL_law_320 : decode cL_law 320 = .ok (.iload 4, 2) := dk_21 4 (dk_at dksL_law_5 12 rfl rfl)
theorem dL_law_322 : decode cL_law 322 = .ok (.iconst 5, 1) := dk_8 (dk_at dksL_law_5 14 rfl rfl)
theorem dL_law_323 : decode cL_law 323 = .ok (.iadd, 1) := dk_96 (dk_at dksL_law_5 15 rfl rfl)
theorem dL_law_324 : decode cL_law 324 = .ok (.iaload, 1) := dk_46 (dk_at dksL_law_5 16 rfl rfl)
theorem dL_law_325 : decode cL_law 325 = .ok (.invokevirtual 137, 3) := dk_182 0 137 (dk_at dksL_law_5 17 rfl rfl)
theorem dL_law_328 : decode cL_law 328 = .ok (.if_icmp .eq 2471, 3) := dk_159 9 167 (dk_at dksL_law_5 20 rfl rfl)
theorem dL_law_331 : decode cL_law 331 = .ok (.iconst 0, 1) := dk_3 (dk_at dksL_law_5 23 rfl rfl)
theorem dL_law_332 : decode cL_law 332 = .ok (.ireturn, 1) := dk_172 (dk_at dksL_law_6 0 rfl rfl)
theorem dL_law_333 : decode cL_law 333 = .ok (.aload_n 1, 1) := dk_43 (dk_at dksL_law_6 1 rfl rfl)
theorem dL_law_334 : decode cL_law 334 = .ok (.aload_n 0, 1) := dk_42 (dk_at dksL_law_6 2 rfl rfl)
theorem dL_law_335 : decode cL_law 335 = .ok (.iload 4, 2) := dk_21 4 (dk_at dksL_law_6 3 rfl rfl)
theorem dL_law_337 : decode cL_law 337 = .ok (.iconst 1, 1) := dk_4 (dk_at dksL_law_6 5 rfl rfl)
theorem dL_law_338 : decode cL_law 338 = .ok (.iadd, 1) := dk_96 (dk_at dksL_law_6 6 rfl rfl)
theorem dL_law_339 : decode cL_law 339 = .ok (.iaload, 1) := dk_46 (dk_at dksL_law_6 7 rfl rfl)
theorem dL_law_340 : decode cL_law 340 = .ok (.invokevirtual 138, 3) := dk_182 0 138 (dk_at dksL_law_6 8 rfl rfl)
theorem dL_law_343 : decode cL_law 343 = .ok (.aload_n 2, 1) := dk_44 (dk_at dksL_law_6 11 rfl rfl)
theorem dL_law_344 : decode cL_law 344 = .ok (.aload_n 0, 1) := dk_42 (dk_at dksL_law_6 12 rfl rfl)
theorem dL_law_345 : decode cL_law 345 = .ok (.iload 4, 2) := dk_21 4 (dk_at dksL_law_6 13 rfl rfl)
theorem dL_law_347 : decode cL_law 347 = .ok (.iconst 1, 1) := dk_4 (dk_at dksL_law_6 15 rfl rfl)
theorem dL_law_348 : decode cL_law 348 = .ok (.iadd, 1) := dk_96 (dk_at dksL_law_6 16 rfl rfl)
theorem dL_law_349 : decode cL_law 349 = .ok (.iaload, 1) := dk_46 (dk_at dksL_law_6 17 rfl rfl)
theorem dL_law_350 : decode cL_law 350 = .ok (.invokevirtual 141, 3) := dk_182 0 141 (dk_at dksL_law_6 18 rfl rfl)
theorem dL_law_353 : decode cL_law 353 = .ok (.if_icmp .eq 2446, 3) := dk_159 9 142 (dk_at dksL_law_6 21 rfl rfl)
theorem dL_law_356 : decode cL_law 356 = .ok (.iconst 0, 1) := dk_3 (dk_at dksL_law_7 0 rfl rfl)
theorem dL_law_357 : decode cL_law 357 = .ok (.ireturn, 1) := dk_172 (dk_at dksL_law_7 1 rfl rfl)
theorem dL_law_358 : decode cL_law 358 = .ok (.aload_n 1, 1) := dk_43 (dk_at dksL_law_7 2 rfl rfl)
theorem dL_law_359 : decode cL_law 359 = .ok (.aload_n 3, 1) := dk_45 (dk_at dksL_law_7 3 rfl rfl)
theorem dL_law_360 : decode cL_law 360 = .ok (.invokestatic 142, 3) := dk_184 0 142 (dk_at dksL_law_7 4 rfl rfl)
theorem dL_law_363 : decode cL_law 363 = .ok (.istore 5, 2) := dk_54 5 (dk_at dksL_law_7 7 rfl rfl)
theorem dL_law_365 : decode cL_law 365 = .ok (.aload_n 2, 1) := dk_44 (dk_at dksL_law_7 9 rfl rfl)
theorem dL_law_366 : decode cL_law 366 = .ok (.invokevirtual 147, 3) := dk_182 0 147 (dk_at dksL_law_7 10 rfl rfl)
theorem dL_law_369 : decode cL_law 369 = .ok (.istore 6, 2) := dk_54 6 (dk_at dksL_law_7 13 rfl rfl)
theorem dL_law_371 : decode cL_law 371 = .ok (.aload_n 2, 1) := dk_44 (dk_at dksL_law_7 15 rfl rfl)
theorem dL_law_372 : decode cL_law 372 = .ok (.invokevirtual 148, 3) := dk_182 0 148 (dk_at dksL_law_7 16 rfl rfl)
theorem dL_law_375 : decode cL_law 375 = .ok (.iload 5, 2) := dk_21 5 (dk_at dksL_law_7 19 rfl rfl)
theorem dL_law_377 : decode cL_law 377 = .ok (.if_icmp .eq 5, 3) := dk_159 0 5 (dk_at dksL_law_7 21 rfl rfl)
theorem dL_law_380 : decode cL_law 380 = .ok (.iconst 0, 1) := dk_3 (dk_at dksL_law_8 0 rfl rfl)
theorem dL_law_381 : decode cL_law 381 = .ok (.ireturn, 1) := dk_172 (dk_at dksL_law_8 1 rfl rfl)
theorem dL_law_382 : decode cL_law 382 = .ok (.iload 5, 2) := dk_21 5 (dk_at dksL_law_8 2 rfl rfl)
theorem dL_law_384 : decode cL_law 384 = .ok (.ifCond .ne 15, 3) := dk_154 0 15 (dk_at dksL_law_8 4 rfl rfl)
theorem dL_law_387 : decode cL_law 387 = .ok (.aload_n 3, 1) := dk_45 (dk_at dksL_law_8 7 rfl rfl)
theorem dL_law_388 : decode cL_law 388 = .ok (.iconst 0, 1) := dk_3 (dk_at dksL_law_8 8 rfl rfl)
theorem dL_law_389 : decode cL_law 389 = .ok (.laload, 1) := dk_47 (dk_at dksL_law_8 9 rfl rfl)
theorem dL_law_390 : decode cL_law 390 = .ok (.iload 6, 2) := dk_21 6 (dk_at dksL_law_8 10 rfl rfl)
theorem dL_law_392 : decode cL_law 392 = .ok (.i2l, 1) := dk_133 (dk_at dksL_law_8 12 rfl rfl)
theorem dL_law_393 : decode cL_law 393 = .ok (.lcmp, 1) := dk_148 (dk_at dksL_law_8 13 rfl rfl)
theorem dL_law_394 : decode cL_law 394 = .ok (.ifCond .eq 5, 3) := dk_153 0 5 (dk_at dksL_law_8 14 rfl rfl)
theorem dL_law_397 : decode cL_law 397 = .ok (.iconst 0, 1) := dk_3 (dk_at dksL_law_8 17 rfl rfl)
theorem dL_law_398 : decode cL_law 398 = .ok (.ireturn, 1) := dk_172 (dk_at dksL_law_8 18 rfl rfl)
theorem dL_law_399 : decode cL_law 399 = .ok (.goto 2400, 3) := dk_167 9 96 (dk_at dksL_law_8 19 rfl rfl)
theorem dL_law_402 : decode cL_law 402 = .ok (.aload_n 1, 1) := dk_43 (dk_at dksL_law_8 22 rfl rfl)
theorem dL_law_403 : decode cL_law 403 = .ok (.aload_n 3, 1) := dk_45 (dk_at dksL_law_8 23 rfl rfl)
theorem dL_law_404 : decode cL_law 404 = .ok (.invokestatic 151, 3) := dk_184 0 151 (dk_at dksL_law_9 0 rfl rfl)
theorem dL_law_407 : decode cL_law 407 = .ok (.istore 5, 2) := dk_54 5 (dk_at dksL_law_9 3 rfl rfl)
theorem dL_law_409 : decode cL_law 409 = .ok (.aload_n 2, 1) := dk_44 (dk_at dksL_law_9 5 rfl rfl)
theorem dL_law_410 : decode cL_law 410 = .ok (.invokevirtual 153, 3) := dk_182 0 153 (dk_at dksL_law_9 6 rfl rfl)
theorem dL_law_413 : decode cL_law 413 = .ok (.istore 6, 2) := dk_54 6 (dk_at dksL_law_9 9 rfl rfl)
theorem dL_law_415 : decode cL_law 415 = .ok (.aload_n 2, 1) := dk_44 (dk_at dksL_law_9 11 rfl rfl)
theorem dL_law_416 : decode cL_law 416 = .ok (.invokevirtual 148, 3) := dk_182 0 148 (dk_at dksL_law_9 12 rfl rfl)
theorem dL_law_419 : decode cL_law 419 = .ok (.iload 5, 2) := dk_21 5 (dk_at dksL_law_9 15 rfl rfl)
theorem dL_law_421 : decode cL_law 421 = .ok (.if_icmp .eq 5, 3) := dk_159 0 5 (dk_at dksL_law_9 17 rfl rfl)
theorem dL_law_424 : decode cL_law 424 = .ok (.iconst 0, 1) := dk_3 (dk_at dksL_law_9 20 rfl rfl)
theorem dL_law_425 : decode cL_law 425 = .ok (.ireturn, 1) := dk_172 (dk_at dksL_law_9 21 rfl rfl)
theorem dL_law_426 : decode cL_law 426 = .ok (.iload 5, 2) := dk_21 5 (dk_at dksL_law_9 22 rfl rfl)
theorem dL_law_428 : decode cL_law 428 = .ok (.ifCond .ne 15, 3) := dk_154 0 15 (dk_at dksL_law_10 0 rfl rfl)
theorem dL_law_431 : decode cL_law 431 = .ok (.aload_n 3, 1) := dk_45 (dk_at dksL_law_10 3 rfl rfl)
theorem dL_law_432 : decode cL_law 432 = .ok (.iconst 0, 1) := dk_3 (dk_at dksL_law_10 4 rfl rfl)
theorem dL_law_433 : decode cL_law 433 = .ok (.laload, 1) := dk_47 (dk_at dksL_law_10 5 rfl rfl)
theorem dL_law_434 : decode cL_law 434 = .ok (.iload 6, 2) := dk_21 6 (dk_at dksL_law_10 6 rfl rfl)
theorem dL_law_436 : decode cL_law 436 = .ok (.i2l, 1) := dk_133 (dk_at dksL_law_10 8 rfl rfl)
theorem dL_law_437 : decode cL_law 437 = .ok (.lcmp, 1) := dk_148 (dk_at dksL_law_10 9 rfl rfl)
theorem dL_law_438 : decode cL_law 438 = .ok (.ifCond .eq 5, 3) := dk_153 0 5 (dk_at dksL_law_10 10 rfl rfl)
theorem dL_law_441 : decode cL_law 441 = .ok (.iconst 0, 1) := dk_3 (dk_at dksL_law_10 13 rfl rfl)
theorem dL_law_442 : decode cL_law 442 = .ok (.ireturn, 1) := dk_172 (dk_at dksL_law_10 14 rfl rfl)
theorem dL_law_443 : decode cL_law 443 = .ok (.goto 2356, 3) := dk_167 9 52 (dk_at dksL_law_10 15 rfl rfl)
theorem dL_law_446 : decode cL_law 446 = .ok (.aload_n 1, 1) := dk_43 (dk_at dksL_law_10 18 rfl rfl)
theorem dL_law_447 : decode cL_law 447 = .ok (.invokevirtual 154, 3) := dk_182 0 154 (dk_at dksL_law_10 19 rfl rfl)
theorem dL_law_450 : decode cL_law 450 = .ok (.aload_n 2, 1) := dk_44 (dk_at dksL_law_10 22 rfl rfl)
theorem dL_law_451 : decode cL_law 451 = .ok (.invokevirtual 157, 3) := dk_182 0 157 (dk_at dksL_law_11 0 rfl rfl)
theorem dL_law_454 : decode cL_law 454 = .ok (.if_icmp .eq 2345, 3) := dk_159 9 41 (dk_at dksL_law_11 3 rfl rfl)
theorem dL_law_457 : decode cL_law 457 = .ok (.iconst 0, 1) := dk_3 (dk_at dksL_law_11 6 rfl rfl)
theorem dL_law_458 : decode cL_law 458 = .ok (.ireturn, 1) := dk_172 (dk_at dksL_law_11 7 rfl rfl)
theorem dL_law_459 : decode cL_law 459 = .ok (.aload_n 1, 1) := dk_43 (dk_at dksL_law_11 8 rfl rfl)
theorem dL_law_460 : decode cL_law 460 = .ok (.aload_n 0, 1) := dk_42 (dk_at dksL_law_11 9 rfl rfl)
theorem dL_law_461 : decode cL_law 461 = .ok (.iload 4, 2) := dk_21 4 (dk_at dksL_law_11 10 rfl rfl)
theorem dL_law_463 : decode cL_law 463 = .ok (.iconst 1, 1) := dk_4 (dk_at dksL_law_11 12 rfl rfl)
theorem dL_law_464 : decode cL_law 464 = .ok (.iadd, 1) := dk_96 (dk_at dksL_law_11 13 rfl rfl)
theorem dL_law_465 : decode cL_law 465 = .ok (.iaload, 1) := dk_46 (dk_at dksL_law_11 14 rfl rfl)
theorem dL_law_466 : decode cL_law 466 = .ok (.invokevirtual 158, 3) := dk_182 0 158 (dk_at dksL_law_11 15 rfl rfl)
theorem dL_law_469 : decode cL_law 469 = .ok (.aload_n 2, 1) := dk_44 (dk_at dksL_law_11 18 rfl rfl)
theorem dL_law_470 : decode cL_law 470 = .ok (.aload_n 0, 1) := dk_42 (dk_at dksL_law_11 19 rfl rfl)
theorem dL_law_471 : decode cL_law 471 = .ok (.iload 4, 2) := dk_21 4 (dk_at dksL_law_11 20 rfl rfl)
theorem dL_law_473 : decode cL_law 473 = .ok (.iconst 1, 1) := dk_4 (dk_at dksL_law_11 22 rfl rfl)
theorem dL_law_474 : decode cL_law 474 = .ok (.iadd, 1) := dk_96 (dk_at dksL_law_11 23 rfl rfl)
theorem dL_law_475 : decode cL_law 475 = .ok (.iaload, 1) := dk_46 (dk_at dksL_law_12 0 rfl rfl)
theorem dL_law_476 : decode cL_law 476 = .ok (.invokevirtual 161, 3) := dk_182 0 161 (dk_at dksL_law_12 1 rfl rfl)
theorem dL_law_479 : decode cL_law 479 = .ok (.if_icmp .eq 2320, 3) := dk_159 9 16 (dk_at dksL_law_12 4 rfl rfl)
theorem dL_law_482 : decode cL_law 482 = .ok (.iconst 0, 1) := dk_3 (dk_at dksL_law_12 7 rfl rfl)
theorem dL_law_483 : decode cL_law 483 = .ok (.ireturn, 1) := dk_172 (dk_at dksL_law_12 8 rfl rfl)
theorem dL_law_484 : decode cL_law 484 = .ok (.aload_n 1, 1) := dk_43 (dk_at dksL_law_12 9 rfl rfl)
theorem dL_law_485 : decode cL_law 485 = .ok (.aload_n 0, 1) := dk_42 (dk_at dksL_law_12 10 rfl rfl)
theorem dL_law_486 : decode cL_law 486 = .ok (.iload 4, 2) := dk_21 4 (dk_at dksL_law_12 11 rfl rfl)
theorem dL_law_488 : decode cL_law 488 = .ok (.iconst 1, 1) := dk_4 (dk_at dksL_law_12 13 rfl rfl)
theorem dL_law_489 : decode cL_law 489 = .ok (.iadd, 1) := dk_96 (dk_at dksL_law_12 14 rfl rfl)
theorem dL_law_490 : decode cL_law 490 = .ok (.iaload, 1) := dk_46 (dk_at dksL_law_12 15 rfl rfl)
theorem dL_law_491 : decode cL_law 491 = .ok (.aload_n 3, 1) := dk_45 (dk_at dksL_law_12 16 rfl rfl)
theorem dL_law_492 : decode cL_law 492 = .ok (.invokestatic 162, 3) := dk_184 0 162 (dk_at dksL_law_12 17 rfl rfl)
theorem dL_law_495 : decode cL_law 495 = .ok (.istore 5, 2) := dk_54 5 (dk_at dksL_law_12 20 rfl rfl)
theorem dL_law_497 : decode cL_law 497 = .ok (.aload_n 2, 1) := dk_44 (dk_at dksL_law_12 22 rfl rfl)
theorem dL_law_498 : decode cL_law 498 = .ok (.aload_n 0, 1) := dk_42 (dk_at dksL_law_12 23 rfl rfl)
theorem dL_law_499 : decode cL_law 499 = .ok (.iload 4, 2) := dk_21 4 (dk_at dksL_law_13 0 rfl rfl)
theorem dL_law_501 : decode cL_law 501 = .ok (.iconst 1, 1) := dk_4 (dk_at dksL_law_13 2 rfl rfl)
theorem dL_law_502 : decode cL_law 502 = .ok (.iadd, 1) := dk_96 (dk_at dksL_law_13 3 rfl rfl)
theorem dL_law_503 : decode cL_law 503 = .ok (.iaload, 1) := dk_46 (dk_at dksL_law_13 4 rfl rfl)
theorem dL_law_504 : decode cL_law 504 = .ok (.invokevirtual 165, 3) := dk_182 0 165 (dk_at dksL_law_13 5 rfl rfl)
theorem dL_law_507 : decode cL_law 507 = .ok (.istore 6, 2) := dk_54 6 (dk_at dksL_law_13 8 rfl rfl)
theorem dL_law_509 : decode cL_law 509 = .ok (.aload_n 2, 1) := dk_44 (dk_at dksL_law_13 10 rfl rfl)
theorem dL_law_510 : decode cL_law 510 = .ok (.invokevirtual 148, 3) := dk_182 0 148 (dk_at dksL_law_13 11 rfl rfl)
theorem dL_law_513 : decode cL_law 513 = .ok (.iload 5, 2) := dk_21 5 (dk_at dksL_law_13 14 rfl rfl)
theorem dL_law_515 : decode cL_law 515 = .ok (.if_icmp .eq 5, 3) := dk_159 0 5 (dk_at dksL_law_13 16 rfl rfl)
theorem dL_law_518 : decode cL_law 518 = .ok (.iconst 0, 1) := dk_3 (dk_at dksL_law_13 19 rfl rfl)
theorem dL_law_519 : decode cL_law 519 = .ok (.ireturn, 1) := dk_172 (dk_at dksL_law_13 20 rfl rfl)
theorem dL_law_520 : decode cL_law 520 = .ok (.iload 5, 2) := dk_21 5 (dk_at dksL_law_13 21 rfl rfl)
theorem dL_law_522 : decode cL_law 522 = .ok (.ifCond .ne 15, 3) := dk_154 0 15 (dk_at dksL_law_14 0 rfl rfl)
theorem dL_law_525 : decode cL_law 525 = .ok (.aload_n 3, 1) := dk_45 (dk_at dksL_law_14 3 rfl rfl)
theorem dL_law_526 : decode cL_law 526 = .ok (.iconst 0, 1) := dk_3 (dk_at dksL_law_14 4 rfl rfl)
theorem dL_law_527 : decode cL_law 527 = .ok (.laload, 1) := dk_47 (dk_at dksL_law_14 5 rfl rfl)
theorem dL_law_528 : decode cL_law 528 = .ok (.iload 6, 2) := dk_21 6 (dk_at dksL_law_14 6 rfl rfl)
theorem dL_law_530 : decode cL_law 530 = .ok (.i2l, 1) := dk_133 (dk_at dksL_law_14 8 rfl rfl)
theorem dL_law_531 : decode cL_law 531 = .ok (.lcmp, 1) := dk_148 (dk_at dksL_law_14 9 rfl rfl)
theorem dL_law_532 : decode cL_law 532 = .ok (.ifCond .eq 5, 3) := dk_153 0 5 (dk_at dksL_law_14 10 rfl rfl)
theorem dL_law_535 : decode cL_law 535 = .ok (.iconst 0, 1) := dk_3 (dk_at dksL_law_14 13 rfl rfl)
theorem dL_law_536 : decode cL_law 536 = .ok (.ireturn, 1) := dk_172 (dk_at dksL_law_14 14 rfl rfl)
theorem dL_law_537 : decode cL_law 537 = .ok (.goto 2262, 3) := dk_167 8 214 (dk_at dksL_law_14 15 rfl rfl)
theorem dL_law_540 : decode cL_law 540 = .ok (.aload_n 1, 1) := dk_43 (dk_at dksL_law_14 18 rfl rfl)
theorem dL_law_541 : decode cL_law 541 = .ok (.aload_n 3, 1) := dk_45 (dk_at dksL_law_14 19 rfl rfl)
theorem dL_law_542 : decode cL_law 542 = .ok (.invokestatic 166, 3) := dk_184 0 166 (dk_at dksL_law_14 20 rfl rfl)
theorem dL_law_545 : decode cL_law 545 = .ok (.istore 5, 2) := dk_54 5 (dk_at dksL_law_15 0 rfl rfl)
theorem dL_law_547 : decode cL_law 547 = .ok (.aload_n 2, 1) := dk_44 (dk_at dksL_law_15 2 rfl rfl)
theorem dL_law_548 : decode cL_law 548 = .ok (.invokevirtual 168, 3) := dk_182 0 168 (dk_at dksL_law_15 3 rfl rfl)
theorem dL_law_551 : decode cL_law 551 = .ok (.istore 6, 2) := dk_54 6 (dk_at dksL_law_15 6 rfl rfl)
theorem dL_law_553 : decode cL_law 553 = .ok (.aload_n 2, 1) := dk_44 (dk_at dksL_law_15 8 rfl rfl)
theorem dL_law_554 : decode cL_law 554 = .ok (.invokevirtual 148, 3) := dk_182 0 148 (dk_at dksL_law_15 9 rfl rfl)
theorem dL_law_557 : decode cL_law 557 = .ok (.iload 5, 2) := dk_21 5 (dk_at dksL_law_15 12 rfl rfl)
theorem dL_law_559 : decode cL_law 559 = .ok (.if_icmp .eq 5, 3) := dk_159 0 5 (dk_at dksL_law_15 14 rfl rfl)
theorem dL_law_562 : decode cL_law 562 = .ok (.iconst 0, 1) := dk_3 (dk_at dksL_law_15 17 rfl rfl)
theorem dL_law_563 : decode cL_law 563 = .ok (.ireturn, 1) := dk_172 (dk_at dksL_law_15 18 rfl rfl)
theorem dL_law_564 : decode cL_law 564 = .ok (.iload 5, 2) := dk_21 5 (dk_at dksL_law_15 19 rfl rfl)
theorem dL_law_566 : decode cL_law 566 = .ok (.ifCond .ne 15, 3) := dk_154 0 15 (dk_at dksL_law_15 21 rfl rfl)
theorem dL_law_569 : decode cL_law 569 = .ok (.aload_n 3, 1) := dk_45 (dk_at dksL_law_16 0 rfl rfl)
theorem dL_law_570 : decode cL_law 570 = .ok (.iconst 0, 1) := dk_3 (dk_at dksL_law_16 1 rfl rfl)
theorem dL_law_571 : decode cL_law 571 = .ok (.laload, 1) := dk_47 (dk_at dksL_law_16 2 rfl rfl)
theorem dL_law_572 : decode cL_law 572 = .ok (.iload 6, 2) := dk_21 6 (dk_at dksL_law_16 3 rfl rfl)
theorem dL_law_574 : decode cL_law 574 = .ok (.i2l, 1) := dk_133 (dk_at dksL_law_16 5 rfl rfl)
theorem dL_law_575 : decode cL_law 575 = .ok (.lcmp, 1) := dk_148 (dk_at dksL_law_16 6 rfl rfl)
theorem dL_law_576 : decode cL_law 576 = .ok (.ifCond .eq 5, 3) := dk_153 0 5 (dk_at dksL_law_16 7 rfl rfl)
theorem dL_law_579 : decode cL_law 579 = .ok (.iconst 0, 1) := dk_3 (dk_at dksL_law_16 10 rfl rfl)
theorem dL_law_580 : decode cL_law 580 = .ok (.ireturn, 1) := dk_172 (dk_at dksL_law_16 11 rfl rfl)
theorem dL_law_581 : decode cL_law 581 = .ok (.goto 2218, 3) := dk_167 8 170 (dk_at dksL_law_16 12 rfl rfl)
theorem dL_law_584 : decode cL_law 584 = .ok (.aload_n 1, 1) := dk_43 (dk_at dksL_law_16 15 rfl rfl)
theorem dL_law_585 : decode cL_law 585 = .ok (.invokevirtual 169, 3) := dk_182 0 169 (dk_at dksL_law_16 16 rfl rfl)
theorem dL_law_588 : decode cL_law 588 = .ok (.aload_n 2, 1) := dk_44 (dk_at dksL_law_16 19 rfl rfl)
theorem dL_law_589 : decode cL_law 589 = .ok (.invokevirtual 172, 3) := dk_182 0 172 (dk_at dksL_law_16 20 rfl rfl)
theorem dL_law_592 : decode cL_law 592 = .ok (.if_icmp .eq 2207, 3) := dk_159 8 159 (dk_at dksL_law_17 0 rfl rfl)
theorem dL_law_595 : decode cL_law 595 = .ok (.iconst 0, 1) := dk_3 (dk_at dksL_law_17 3 rfl rfl)
theorem dL_law_596 : decode cL_law 596 = .ok (.ireturn, 1) := dk_172 (dk_at dksL_law_17 4 rfl rfl)
theorem dL_law_597 : decode cL_law 597 = .ok (.aload_n 1, 1) := dk_43 (dk_at dksL_law_17 5 rfl rfl)
theorem dL_law_598 : decode cL_law 598 = .ok (.invokevirtual 173, 3) := dk_182 0 173 (dk_at dksL_law_17 6 rfl rfl)
theorem dL_law_601 : decode cL_law 601 = .ok (.aload_n 2, 1) := dk_44 (dk_at dksL_law_17 9 rfl rfl)
theorem dL_law_602 : decode cL_law 602 = .ok (.invokevirtual 177, 3) := dk_182 0 177 (dk_at dksL_law_17 10 rfl rfl)
theorem dL_law_605 : decode cL_law 605 = .ok (.if_icmp .eq 2194, 3) := dk_159 8 146 (dk_at dksL_law_17 13 rfl rfl)
theorem dL_law_608 : decode cL_law 608 = .ok (.iconst 0, 1) := dk_3 (dk_at dksL_law_17 16 rfl rfl)
theorem dL_law_609 : decode cL_law 609 = .ok (.ireturn, 1) := dk_172 (dk_at dksL_law_17 17 rfl rfl)
theorem dL_law_610 : decode cL_law 610 = .ok (.aload_n 1, 1) := dk_43 (dk_at dksL_law_17 18 rfl rfl)
theorem dL_law_611 : decode cL_law 611 = .ok (.invokevirtual 178, 3) := dk_182 0 178 (dk_at dksL_law_17 19 rfl rfl)
theorem dL_law_614 : decode cL_law 614 = .ok (.aload_n 2, 1) := dk_44 (dk_at dksL_law_17 22 rfl rfl)
theorem dL_law_615 : decode cL_law 615 = .ok (.invokevirtual 181, 3) := dk_182 0 181 (dk_at dksL_law_18 0 rfl rfl)
theorem dL_law_618 : decode cL_law 618 = .ok (.if_icmp .eq 2181, 3) := dk_159 8 133 (dk_at dksL_law_18 3 rfl rfl)
theorem dL_law_621 : decode cL_law 621 = .ok (.iconst 0, 1) := dk_3 (dk_at dksL_law_18 6 rfl rfl)
theorem dL_law_622 : decode cL_law 622 = .ok (.ireturn, 1) := dk_172 (dk_at dksL_law_18 7 rfl rfl)
theorem dL_law_623 : decode cL_law 623 = .ok (.aload_n 1, 1) := dk_43 (dk_at dksL_law_18 8 rfl rfl)
theorem dL_law_624 : decode cL_law 624 = .ok (.aload_n 0, 1) := dk_42 (dk_at dksL_law_18 9 rfl rfl)
theorem dL_law_625 : decode cL_law 625 = .ok (.iload 4, 2) := dk_21 4 (dk_at dksL_law_18 10 rfl rfl)
theorem dL_law_627 : decode cL_law 627 = .ok (.iconst 1, 1) := dk_4 (dk_at dksL_law_18 12 rfl rfl)
theorem dL_law_628 : decode cL_law 628 = .ok (.iadd, 1) := dk_96 (dk_at dksL_law_18 13 rfl rfl)
theorem dL_law_629 : decode cL_law 629 = .ok (.iaload, 1) := dk_46 (dk_at dksL_law_18 14 rfl rfl)
theorem dL_law_630 : decode cL_law 630 = .ok (.aload_n 3, 1) := dk_45 (dk_at dksL_law_18 15 rfl rfl)
theorem dL_law_631 : decode cL_law 631 = .ok (.invokestatic 182, 3) := dk_184 0 182 (dk_at dksL_law_18 16 rfl rfl)
theorem dL_law_634 : decode cL_law 634 = .ok (.istore 5, 2) := dk_54 5 (dk_at dksL_law_18 19 rfl rfl)
theorem dL_law_636 : decode cL_law 636 = .ok (.aload_n 2, 1) := dk_44 (dk_at dksL_law_18 21 rfl rfl)
theorem dL_law_637 : decode cL_law 637 = .ok (.aload_n 0, 1) := dk_42 (dk_at dksL_law_18 22 rfl rfl)
theorem dL_law_638 : decode cL_law 638 = .ok (.iload 4, 2) := dk_21 4 (dk_at dksL_law_19 0 rfl rfl)
theorem dL_law_640 : decode cL_law 640 = .ok (.iconst 1, 1) := dk_4 (dk_at dksL_law_19 2 rfl rfl)
theorem dL_law_641 : decode cL_law 641 = .ok (.iadd, 1) := dk_96 (dk_at dksL_law_19 3 rfl rfl)
theorem dL_law_642 : decode cL_law 642 = .ok (.iaload, 1) := dk_46 (dk_at dksL_law_19 4 rfl rfl)
theorem dL_law_643 : decode cL_law 643 = .ok (.invokevirtual 184, 3) := dk_182 0 184 (dk_at dksL_law_19 5 rfl rfl)
theorem dL_law_646 : decode cL_law 646 = .ok (.istore 6, 2) := dk_54 6 (dk_at dksL_law_19 8 rfl rfl)
theorem dL_law_648 : decode cL_law 648 = .ok (.aload_n 2, 1) := dk_44 (dk_at dksL_law_19 10 rfl rfl)
theorem dL_law_649 : decode cL_law 649 = .ok (.invokevirtual 148, 3) := dk_182 0 148 (dk_at dksL_law_19 11 rfl rfl)
theorem dL_law_652 : decode cL_law 652 = .ok (.iload 5, 2) := dk_21 5 (dk_at dksL_law_19 14 rfl rfl)
theorem dL_law_654 : decode cL_law 654 = .ok (.if_icmp .eq 5, 3) := dk_159 0 5 (dk_at dksL_law_19 16 rfl rfl)
theorem dL_law_657 : decode cL_law 657 = .ok (.iconst 0, 1) := dk_3 (dk_at dksL_law_19 19 rfl rfl)
theorem dL_law_658 : decode cL_law 658 = .ok (.ireturn, 1) := dk_172 (dk_at dksL_law_19 20 rfl rfl)
theorem dL_law_659 : decode cL_law 659 = .ok (.iload 5, 2) := dk_21 5 (dk_at dksL_law_19 21 rfl rfl)
theorem dL_law_661 : decode cL_law 661 = .ok (.ifCond .ne 15, 3) := dk_154 0 15 (dk_at dksL_law_20 0 rfl rfl)
theorem dL_law_664 : decode cL_law 664 = .ok (.aload_n 3, 1) := dk_45 (dk_at dksL_law_20 3 rfl rfl)
theorem dL_law_665 : decode cL_law 665 = .ok (.iconst 0, 1) := dk_3 (dk_at dksL_law_20 4 rfl rfl)
theorem dL_law_666 : decode cL_law 666 = .ok (.laload, 1) := dk_47 (dk_at dksL_law_20 5 rfl rfl)
theorem dL_law_667 : decode cL_law 667 = .ok (.iload 6, 2) := dk_21 6 (dk_at dksL_law_20 6 rfl rfl)
theorem dL_law_669 : decode cL_law 669 = .ok (.i2l, 1) := dk_133 (dk_at dksL_law_20 8 rfl rfl)
theorem dL_law_670 : decode cL_law 670 = .ok (.lcmp, 1) := dk_148 (dk_at dksL_law_20 9 rfl rfl)
theorem dL_law_671 : decode cL_law 671 = .ok (.ifCond .eq 5, 3) := dk_153 0 5 (dk_at dksL_law_20 10 rfl rfl)
theorem dL_law_674 : decode cL_law 674 = .ok (.iconst 0, 1) := dk_3 (dk_at dksL_law_20 13 rfl rfl)
theorem dL_law_675 : decode cL_law 675 = .ok (.ireturn, 1) := dk_172 (dk_at dksL_law_20 14 rfl rfl)
theorem dL_law_676 : decode cL_law 676 = .ok (.goto 2123, 3) := dk_167 8 75 (dk_at dksL_law_20 15 rfl rfl)
theorem dL_law_679 : decode cL_law 679 = .ok (.aload_n 1, 1) := dk_43 (dk_at dksL_law_20 18 rfl rfl)
theorem dL_law_680 : decode cL_law 680 = .ok (.invokevirtual 185, 3) := dk_182 0 185 (dk_at dksL_law_20 19 rfl rfl)
theorem dL_law_683 : decode cL_law 683 = .ok (.aload_n 2, 1) := dk_44 (dk_at dksL_law_20 22 rfl rfl)
theorem dL_law_684 : decode cL_law 684 = .ok (.invokevirtual 188, 3) := dk_182 0 188 (dk_at dksL_law_21 0 rfl rfl)
theorem dL_law_687 : decode cL_law 687 = .ok (.if_icmp .eq 2112, 3) := dk_159 8 64 (dk_at dksL_law_21 3 rfl rfl)
theorem dL_law_690 : decode cL_law 690 = .ok (.iconst 0, 1) := dk_3 (dk_at dksL_law_21 6 rfl rfl)
theorem dL_law_691 : decode cL_law 691 = .ok (.ireturn, 1) := dk_172 (dk_at dksL_law_21 7 rfl rfl)
theorem dL_law_692 : decode cL_law 692 = .ok (.aload_n 1, 1) := dk_43 (dk_at dksL_law_21 8 rfl rfl)
theorem dL_law_693 : decode cL_law 693 = .ok (.aload_n 0, 1) := dk_42 (dk_at dksL_law_21 9 rfl rfl)
theorem dL_law_694 : decode cL_law 694 = .ok (.iload 4, 2) := dk_21 4 (dk_at dksL_law_21 10 rfl rfl)
theorem dL_law_696 : decode cL_law 696 = .ok (.iconst 1, 1) := dk_4 (dk_at dksL_law_21 12 rfl rfl)
theorem dL_law_697 : decode cL_law 697 = .ok (.iadd, 1) := dk_96 (dk_at dksL_law_21 13 rfl rfl)
theorem dL_law_698 : decode cL_law 698 = .ok (.iaload, 1) := dk_46 (dk_at dksL_law_21 14 rfl rfl)
theorem dL_law_699 : decode cL_law 699 = .ok (.invokevirtual 189, 3) := dk_182 0 189 (dk_at dksL_law_21 15 rfl rfl)
theorem dL_law_702 : decode cL_law 702 = .ok (.aload_n 2, 1) := dk_44 (dk_at dksL_law_21 18 rfl rfl)
theorem dL_law_703 : decode cL_law 703 = .ok (.aload_n 0, 1) := dk_42 (dk_at dksL_law_21 19 rfl rfl)
theorem dL_law_704 : decode cL_law 704 = .ok (.iload 4, 2) := dk_21 4 (dk_at dksL_law_21 20 rfl rfl)
theorem dL_law_706 : decode cL_law 706 = .ok (.iconst 1, 1) := dk_4 (dk_at dksL_law_21 22 rfl rfl)
theorem dL_law_707 : decode cL_law 707 = .ok (.iadd, 1) := dk_96 (dk_at dksL_law_21 23 rfl rfl)
theorem dL_law_708 : decode cL_law 708 = .ok (.iaload, 1) := dk_46 (dk_at dksL_law_22 0 rfl rfl)
theorem dL_law_709 : decode cL_law 709 = .ok (.invokevirtual 192, 3) := dk_182 0 192 (dk_at dksL_law_22 1 rfl rfl)
theorem dL_law_712 : decode cL_law 712 = .ok (.if_icmp .eq 2087, 3) := dk_159 8 39 (dk_at dksL_law_22 4 rfl rfl)
theorem dL_law_715 : decode cL_law 715 = .ok (.iconst 0, 1) := dk_3 (dk_at dksL_law_22 7 rfl rfl)
theorem dL_law_716 : decode cL_law 716 = .ok (.ireturn, 1) := dk_172 (dk_at dksL_law_22 8 rfl rfl)
theorem dL_law_717 : decode cL_law 717 = .ok (.aload_n 1, 1) := dk_43 (dk_at dksL_law_22 9 rfl rfl)
theorem dL_law_718 : decode cL_law 718 = .ok (.aload_n 0, 1) := dk_42 (dk_at dksL_law_22 10 rfl rfl)
theorem dL_law_719 : decode cL_law 719 = .ok (.iload 4, 2) := dk_21 4 (dk_at dksL_law_22 11 rfl rfl)
theorem dL_law_721 : decode cL_law 721 = .ok (.iconst 1, 1) := dk_4 (dk_at dksL_law_22 13 rfl rfl)
theorem dL_law_722 : decode cL_law 722 = .ok (.iadd, 1) := dk_96 (dk_at dksL_law_22 14 rfl rfl)
theorem dL_law_723 : decode cL_law 723 = .ok (.iaload, 1) := dk_46 (dk_at dksL_law_22 15 rfl rfl)
theorem dL_law_724 : decode cL_law 724 = .ok (.aload_n 0, 1) := dk_42 (dk_at dksL_law_22 16 rfl rfl)
theorem dL_law_725 : decode cL_law 725 = .ok (.iload 4, 2) := dk_21 4 (dk_at dksL_law_22 17 rfl rfl)
theorem dL_law_727 : decode cL_law 727 = .ok (.iconst 2, 1) := dk_5 (dk_at dksL_law_22 19 rfl rfl)
theorem dL_law_728 : decode cL_law 728 = .ok (.iadd, 1) := dk_96 (dk_at dksL_law_22 20 rfl rfl)
theorem dL_law_729 : decode cL_law 729 = .ok (.iaload, 1) := dk_46 (dk_at dksL_law_22 21 rfl rfl)
theorem dL_law_730 : decode cL_law 730 = .ok (.aload_n 3, 1) := dk_45 (dk_at dksL_law_22 22 rfl rfl)
theorem dL_law_731 : decode cL_law 731 = .ok (.invokestatic 193, 3) := dk_184 0 193 (dk_at dksL_law_23 0 rfl rfl)
theorem dL_law_734 : decode cL_law 734 = .ok (.istore 5, 2) := dk_54 5 (dk_at dksL_law_23 3 rfl rfl)
theorem dL_law_736 : decode cL_law 736 = .ok (.aload_n 2, 1) := dk_44 (dk_at dksL_law_23 5 rfl rfl)
theorem dL_law_737 : decode cL_law 737 = .ok (.aload_n 0, 1) := dk_42 (dk_at dksL_law_23 6 rfl rfl)
theorem dL_law_738 : decode cL_law 738 = .ok (.iload 4, 2) := dk_21 4 (dk_at dksL_law_23 7 rfl rfl)
theorem dL_law_740 : decode cL_law 740 = .ok (.iconst 1, 1) := dk_4 (dk_at dksL_law_23 9 rfl rfl)
theorem dL_law_741 : decode cL_law 741 = .ok (.iadd, 1) := dk_96 (dk_at dksL_law_23 10 rfl rfl)
theorem dL_law_742 : decode cL_law 742 = .ok (.iaload, 1) := dk_46 (dk_at dksL_law_23 11 rfl rfl)
theorem dL_law_743 : decode cL_law 743 = .ok (.aload_n 0, 1) := dk_42 (dk_at dksL_law_23 12 rfl rfl)
theorem dL_law_744 : decode cL_law 744 = .ok (.iload 4, 2) := dk_21 4 (dk_at dksL_law_23 13 rfl rfl)
theorem dL_law_746 : decode cL_law 746 = .ok (.iconst 2, 1) := dk_5 (dk_at dksL_law_23 15 rfl rfl)
theorem dL_law_747 : decode cL_law 747 = .ok (.iadd, 1) := dk_96 (dk_at dksL_law_23 16 rfl rfl)
theorem dL_law_748 : decode cL_law 748 = .ok (.iaload, 1) := dk_46 (dk_at dksL_law_23 17 rfl rfl)
theorem dL_law_749 : decode cL_law 749 = .ok (.invokevirtual 196, 3) := dk_182 0 196 (dk_at dksL_law_23 18 rfl rfl)
theorem dL_law_752 : decode cL_law 752 = .ok (.istore 6, 2) := dk_54 6 (dk_at dksL_law_23 21 rfl rfl)
theorem dL_law_754 : decode cL_law 754 = .ok (.aload_n 2, 1) := dk_44 (dk_at dksL_law_23 23 rfl rfl)
theorem dL_law_755 : decode cL_law 755 = .ok (.invokevirtual 148, 3) := dk_182 0 148 (dk_at dksL_law_24 0 rfl rfl)
theorem dL_law_758 : decode cL_law 758 = .ok (.iload 5, 2) := dk_21 5 (dk_at dksL_law_24 3 rfl rfl)
theorem dL_law_760 : decode cL_law 760 = .ok (.if_icmp .eq 5, 3) := dk_159 0 5 (dk_at dksL_law_24 5 rfl rfl)
theorem dL_law_763 : decode cL_law 763 = .ok (.iconst 0, 1) := dk_3 (dk_at dksL_law_24 8 rfl rfl)
theorem dL_law_764 : decode cL_law 764 = .ok (.ireturn, 1) := dk_172 (dk_at dksL_law_24 9 rfl rfl)
theorem dL_law_765 : decode cL_law 765 = .ok (.iload 5, 2) := dk_21 5 (dk_at dksL_law_24 10 rfl rfl)
theorem dL_law_767 : decode cL_law 767 = .ok (.ifCond .ne 15, 3) := dk_154 0 15 (dk_at dksL_law_24 12 rfl rfl)
theorem dL_law_770 : decode cL_law 770 = .ok (.aload_n 3, 1) := dk_45 (dk_at dksL_law_24 15 rfl rfl)
theorem dL_law_771 : decode cL_law 771 = .ok (.iconst 0, 1) := dk_3 (dk_at dksL_law_24 16 rfl rfl)
theorem dL_law_772 : decode cL_law 772 = .ok (.laload, 1) := dk_47 (dk_at dksL_law_24 17 rfl rfl)
theorem dL_law_773 : decode cL_law 773 = .ok (.iload 6, 2) := dk_21 6 (dk_at dksL_law_24 18 rfl rfl)
theorem dL_law_775 : decode cL_law 775 = .ok (.i2l, 1) := dk_133 (dk_at dksL_law_24 20 rfl rfl)
theorem dL_law_776 : decode cL_law 776 = .ok (.lcmp, 1) := dk_148 (dk_at dksL_law_24 21 rfl rfl)
theorem dL_law_777 : decode cL_law 777 = .ok (.ifCond .eq 5, 3) := dk_153 0 5 (dk_at dksL_law_25 0 rfl rfl)
theorem dL_law_780 : decode cL_law 780 = .ok (.iconst 0, 1) := dk_3 (dk_at dksL_law_25 3 rfl rfl)
theorem dL_law_781 : decode cL_law 781 = .ok (.ireturn, 1) := dk_172 (dk_at dksL_law_25 4 rfl rfl)
theorem dL_law_782 : decode cL_law 782 = .ok (.goto 2017, 3) := dk_167 7 225 (dk_at dksL_law_25 5 rfl rfl)
theorem dL_law_785 : decode cL_law 785 = .ok (.aload_n 1, 1) := dk_43 (dk_at dksL_law_25 8 rfl rfl)
theorem dL_law_786 : decode cL_law 786 = .ok (.aload_n 0, 1) := dk_42 (dk_at dksL_law_25 9 rfl rfl)
theorem dL_law_787 : decode cL_law 787 = .ok (.iload 4, 2) := dk_21 4 (dk_at dksL_law_25 10 rfl rfl)
theorem dL_law_789 : decode cL_law 789 = .ok (.iconst 1, 1) := dk_4 (dk_at dksL_law_25 12 rfl rfl)
theorem dL_law_790 : decode cL_law 790 = .ok (.iadd, 1) := dk_96 (dk_at dksL_law_25 13 rfl rfl)
theorem dL_law_791 : decode cL_law 791 = .ok (.iaload, 1) := dk_46 (dk_at dksL_law_25 14 rfl rfl)
theorem dL_law_792 : decode cL_law 792 = .ok (.aload_n 3, 1) := dk_45 (dk_at dksL_law_25 15 rfl rfl)
theorem dL_law_793 : decode cL_law 793 = .ok (.invokestatic 197, 3) := dk_184 0 197 (dk_at dksL_law_25 16 rfl rfl)
theorem dL_law_796 : decode cL_law 796 = .ok (.istore 5, 2) := dk_54 5 (dk_at dksL_law_25 19 rfl rfl)
theorem dL_law_798 : decode cL_law 798 = .ok (.aload_n 2, 1) := dk_44 (dk_at dksL_law_25 21 rfl rfl)
theorem dL_law_799 : decode cL_law 799 = .ok (.aload_n 0, 1) := dk_42 (dk_at dksL_law_25 22 rfl rfl)
theorem dL_law_800 : decode cL_law 800 = .ok (.iload 4, 2) := dk_21 4 (dk_at dksL_law_26 0 rfl rfl)
theorem dL_law_802 : decode cL_law 802 = .ok (.iconst 1, 1) := dk_4 (dk_at dksL_law_26 2 rfl rfl)
theorem dL_law_803 : decode cL_law 803 = .ok (.iadd, 1) := dk_96 (dk_at dksL_law_26 3 rfl rfl)
theorem dL_law_804 : decode cL_law 804 = .ok (.iaload, 1) := dk_46 (dk_at dksL_law_26 4 rfl rfl)
theorem dL_law_805 : decode cL_law 805 = .ok (.invokevirtual 199, 3) := dk_182 0 199 (dk_at dksL_law_26 5 rfl rfl)
theorem dL_law_808 : decode cL_law 808 = .ok (.istore 6, 2) := dk_54 6 (dk_at dksL_law_26 8 rfl rfl)
theorem dL_law_810 : decode cL_law 810 = .ok (.aload_n 2, 1) := dk_44 (dk_at dksL_law_26 10 rfl rfl)
theorem dL_law_811 : decode cL_law 811 = .ok (.invokevirtual 148, 3) := dk_182 0 148 (dk_at dksL_law_26 11 rfl rfl)
theorem dL_law_814 : decode cL_law 814 = .ok (.iload 5, 2) := dk_21 5 (dk_at dksL_law_26 14 rfl rfl)
theorem dL_law_816 : decode cL_law 816 = .ok (.if_icmp .eq 5, 3) := dk_159 0 5 (dk_at dksL_law_26 16 rfl rfl)
theorem dL_law_819 : decode cL_law 819 = .ok (.iconst 0, 1) := dk_3 (dk_at dksL_law_26 19 rfl rfl)
theorem dL_law_820 : decode cL_law 820 = .ok (.ireturn, 1) := dk_172 (dk_at dksL_law_26 20 rfl rfl)
theorem dL_law_821 : decode cL_law 821 = .ok (.iload 5, 2) := dk_21 5 (dk_at dksL_law_26 21 rfl rfl)
theorem dL_law_823 : decode cL_law 823 = .ok (.ifCond .ne 15, 3) := dk_154 0 15 (dk_at dksL_law_27 0 rfl rfl)
theorem dL_law_826 : decode cL_law 826 = .ok (.aload_n 3, 1) := dk_45 (dk_at dksL_law_27 3 rfl rfl)
theorem dL_law_827 : decode cL_law 827 = .ok (.iconst 0, 1) := dk_3 (dk_at dksL_law_27 4 rfl rfl)
theorem dL_law_828 : decode cL_law 828 = .ok (.laload, 1) := dk_47 (dk_at dksL_law_27 5 rfl rfl)
theorem dL_law_829 : decode cL_law 829 = .ok (.iload 6, 2) := dk_21 6 (dk_at dksL_law_27 6 rfl rfl)
theorem dL_law_831 : decode cL_law 831 = .ok (.i2l, 1) := dk_133 (dk_at dksL_law_27 8 rfl rfl)
theorem dL_law_832 : decode cL_law 832 = .ok (.lcmp, 1) := dk_148 (dk_at dksL_law_27 9 rfl rfl)
theorem dL_law_833 : decode cL_law 833 = .ok (.ifCond .eq 5, 3) := dk_153 0 5 (dk_at dksL_law_27 10 rfl rfl)
theorem dL_law_836 : decode cL_law 836 = .ok (.iconst 0, 1) := dk_3 (dk_at dksL_law_27 13 rfl rfl)
theorem dL_law_837 : decode cL_law 837 = .ok (.ireturn, 1) := dk_172 (dk_at dksL_law_27 14 rfl rfl)
theorem dL_law_838 : decode cL_law 838 = .ok (.goto 1961, 3) := dk_167 7 169 (dk_at dksL_law_27 15 rfl rfl)
theorem dL_law_841 : decode cL_law 841 = .ok (.aload_n 1, 1) := dk_43 (dk_at dksL_law_27 18 rfl rfl)
theorem dL_law_842 : decode cL_law 842 = .ok (.invokevirtual 200, 3) := dk_182 0 200 (dk_at dksL_law_27 19 rfl rfl)
theorem dL_law_845 : decode cL_law 845 = .ok (.aload_n 2, 1) := dk_44 (dk_at dksL_law_27 22 rfl rfl)
theorem dL_law_846 : decode cL_law 846 = .ok (.invokevirtual 203, 3) := dk_182 0 203 (dk_at dksL_law_28 0 rfl rfl)
theorem dL_law_849 : decode cL_law 849 = .ok (.if_icmp .eq 1950, 3) := dk_159 7 158 (dk_at dksL_law_28 3 rfl rfl)
theorem dL_law_852 : decode cL_law 852 = .ok (.iconst 0, 1) := dk_3 (dk_at dksL_law_28 6 rfl rfl)
theorem dL_law_853 : decode cL_law 853 = .ok (.ireturn, 1) := dk_172 (dk_at dksL_law_28 7 rfl rfl)
theorem dL_law_854 : decode cL_law 854 = .ok (.aload_n 1, 1) := dk_43 (dk_at dksL_law_28 8 rfl rfl)
theorem dL_law_855 : decode cL_law 855 = .ok (.aload_n 0, 1) := dk_42 (dk_at dksL_law_28 9 rfl rfl)
theorem dL_law_856 : decode cL_law 856 = .ok (.iload 4, 2) := dk_21 4 (dk_at dksL_law_28 10 rfl rfl)
theorem dL_law_858 : decode cL_law 858 = .ok (.iconst 1, 1) := dk_4 (dk_at dksL_law_28 12 rfl rfl)
theorem dL_law_859 : decode cL_law 859 = .ok (.iadd, 1) := dk_96 (dk_at dksL_law_28 13 rfl rfl)
theorem dL_law_860 : decode cL_law 860 = .ok (.iaload, 1) := dk_46 (dk_at dksL_law_28 14 rfl rfl)
theorem dL_law_861 : decode cL_law 861 = .ok (.aload_n 0, 1) := dk_42 (dk_at dksL_law_28 15 rfl rfl)
theorem dL_law_862 : decode cL_law 862 = .ok (.iload 4, 2) := dk_21 4 (dk_at dksL_law_28 16 rfl rfl)
theorem dL_law_864 : decode cL_law 864 = .ok (.iconst 2, 1) := dk_5 (dk_at dksL_law_28 18 rfl rfl)
theorem dL_law_865 : decode cL_law 865 = .ok (.iadd, 1) := dk_96 (dk_at dksL_law_28 19 rfl rfl)
theorem dL_law_866 : decode cL_law 866 = .ok (.iaload, 1) := dk_46 (dk_at dksL_law_28 20 rfl rfl)
theorem dL_law_867 : decode cL_law 867 = .ok (.aload_n 3, 1) := dk_45 (dk_at dksL_law_28 21 rfl rfl)
theorem dL_law_868 : decode cL_law 868 = .ok (.invokestatic 204, 3) := dk_184 0 204 (dk_at dksL_law_29 0 rfl rfl)
theorem dL_law_871 : decode cL_law 871 = .ok (.istore 5, 2) := dk_54 5 (dk_at dksL_law_29 3 rfl rfl)
theorem dL_law_873 : decode cL_law 873 = .ok (.aload_n 2, 1) := dk_44 (dk_at dksL_law_29 5 rfl rfl)
theorem dL_law_874 : decode cL_law 874 = .ok (.aload_n 0, 1) := dk_42 (dk_at dksL_law_29 6 rfl rfl)
theorem dL_law_875 : decode cL_law 875 = .ok (.iload 4, 2) := dk_21 4 (dk_at dksL_law_29 7 rfl rfl)
theorem dL_law_877 : decode cL_law 877 = .ok (.iconst 1, 1) := dk_4 (dk_at dksL_law_29 9 rfl rfl)
theorem dL_law_878 : decode cL_law 878 = .ok (.iadd, 1) := dk_96 (dk_at dksL_law_29 10 rfl rfl)
theorem dL_law_879 : decode cL_law 879 = .ok (.iaload, 1) := dk_46 (dk_at dksL_law_29 11 rfl rfl)
theorem dL_law_880 : decode cL_law 880 = .ok (.aload_n 0, 1) := dk_42 (dk_at dksL_law_29 12 rfl rfl)
theorem dL_law_881 : decode cL_law 881 = .ok (.iload 4, 2) := dk_21 4 (dk_at dksL_law_29 13 rfl rfl)
theorem dL_law_883 : decode cL_law 883 = .ok (.iconst 2, 1) := dk_5 (dk_at dksL_law_29 15 rfl rfl)
theorem dL_law_884 : decode cL_law 884 = .ok (.iadd, 1) := dk_96 (dk_at dksL_law_29 16 rfl rfl)
theorem dL_law_885 : decode cL_law 885 = .ok (.iaload, 1) := dk_46 (dk_at dksL_law_29 17 rfl rfl)
theorem dL_law_886 : decode cL_law 886 = .ok (.invokevirtual 206, 3) := dk_182 0 206 (dk_at dksL_law_29 18 rfl rfl)
theorem dL_law_889 : decode cL_law 889 = .ok (.istore 6, 2) := dk_54 6 (dk_at dksL_law_29 21 rfl rfl)
theorem dL_law_891 : decode cL_law 891 = .ok (.aload_n 2, 1) := dk_44 (dk_at dksL_law_29 23 rfl rfl)
theorem dL_law_892 : decode cL_law 892 = .ok (.invokevirtual 148, 3) := dk_182 0 148 (dk_at dksL_law_30 0 rfl rfl)
theorem dL_law_895 : decode cL_law 895 = .ok (.iload 5, 2) := dk_21 5 (dk_at dksL_law_30 3 rfl rfl)
theorem dL_law_897 : decode cL_law 897 = .ok (.if_icmp .eq 5, 3) := dk_159 0 5 (dk_at dksL_law_30 5 rfl rfl)
theorem dL_law_900 : decode cL_law 900 = .ok (.iconst 0, 1) := dk_3 (dk_at dksL_law_30 8 rfl rfl)
theorem dL_law_901 : decode cL_law 901 = .ok (.ireturn, 1) := dk_172 (dk_at dksL_law_30 9 rfl rfl)
theorem dL_law_902 : decode cL_law 902 = .ok (.iload 5, 2) := dk_21 5 (dk_at dksL_law_30 10 rfl rfl)
theorem dL_law_904 : decode cL_law 904 = .ok (.ifCond .ne 15, 3) := dk_154 0 15 (dk_at dksL_law_30 12 rfl rfl)
theorem dL_law_907 : decode cL_law 907 = .ok (.aload_n 3, 1) := dk_45 (dk_at dksL_law_30 15 rfl rfl)
theorem dL_law_908 : decode cL_law 908 = .ok (.iconst 0, 1) := dk_3 (dk_at dksL_law_30 16 rfl rfl)
theorem dL_law_909 : decode cL_law 909 = .ok (.laload, 1) := dk_47 (dk_at dksL_law_30 17 rfl rfl)
theorem dL_law_910 : decode cL_law 910 = .ok (.iload 6, 2) := dk_21 6 (dk_at dksL_law_30 18 rfl rfl)
theorem dL_law_912 : decode cL_law 912 = .ok (.i2l, 1) := dk_133 (dk_at dksL_law_30 20 rfl rfl)
theorem dL_law_913 : decode cL_law 913 = .ok (.lcmp, 1) := dk_148 (dk_at dksL_law_30 21 rfl rfl)
theorem dL_law_914 : decode cL_law 914 = .ok (.ifCond .eq 5, 3) := dk_153 0 5 (dk_at dksL_law_31 0 rfl rfl)
theorem dL_law_917 : decode cL_law 917 = .ok (.iconst 0, 1) := dk_3 (dk_at dksL_law_31 3 rfl rfl)
theorem dL_law_918 : decode cL_law 918 = .ok (.ireturn, 1) := dk_172 (dk_at dksL_law_31 4 rfl rfl)
theorem dL_law_919 : decode cL_law 919 = .ok (.goto 1880, 3) := dk_167 7 88 (dk_at dksL_law_31 5 rfl rfl)
theorem dL_law_922 : decode cL_law 922 = .ok (.aload_n 1, 1) := dk_43 (dk_at dksL_law_31 8 rfl rfl)
theorem dL_law_923 : decode cL_law 923 = .ok (.invokevirtual 207, 3) := dk_182 0 207 (dk_at dksL_law_31 9 rfl rfl)
theorem dL_law_926 : decode cL_law 926 = .ok (.aload_n 2, 1) := dk_44 (dk_at dksL_law_31 12 rfl rfl)
theorem dL_law_927 : decode cL_law 927 = .ok (.invokevirtual 210, 3) := dk_182 0 210 (dk_at dksL_law_31 13 rfl rfl)
theorem dL_law_930 : decode cL_law 930 = .ok (.if_icmp .eq 1869, 3) := dk_159 7 77 (dk_at dksL_law_31 16 rfl rfl)
theorem dL_law_933 : decode cL_law 933 = .ok (.iconst 0, 1) := dk_3 (dk_at dksL_law_31 19 rfl rfl)
theorem dL_law_934 : decode cL_law 934 = .ok (.ireturn, 1) := dk_172 (dk_at dksL_law_31 20 rfl rfl)
theorem dL_law_935 : decode cL_law 935 = .ok (.aload_n 1, 1) := dk_43 (dk_at dksL_law_31 21 rfl rfl)
theorem dL_law_936 : decode cL_law 936 = .ok (.invokevirtual 211, 3) := dk_182 0 211 (dk_at dksL_law_32 0 rfl rfl)
theorem dL_law_939 : decode cL_law 939 = .ok (.aload_n 2, 1) := dk_44 (dk_at dksL_law_32 3 rfl rfl)
theorem dL_law_940 : decode cL_law 940 = .ok (.invokevirtual 214, 3) := dk_182 0 214 (dk_at dksL_law_32 4 rfl rfl)
theorem dL_law_943 : decode cL_law 943 = .ok (.if_icmp .eq 1856, 3) := dk_159 7 64 (dk_at dksL_law_32 7 rfl rfl)
theorem dL_law_946 : decode cL_law 946 = .ok (.iconst 0, 1) := dk_3 (dk_at dksL_law_32 10 rfl rfl)
theorem dL_law_947 : decode cL_law 947 = .ok (.ireturn, 1) := dk_172 (dk_at dksL_law_32 11 rfl rfl)
theorem dL_law_948 : decode cL_law 948 = .ok (.aload_n 1, 1) := dk_43 (dk_at dksL_law_32 12 rfl rfl)
theorem dL_law_949 : decode cL_law 949 = .ok (.aload_n 0, 1) := dk_42 (dk_at dksL_law_32 13 rfl rfl)
theorem dL_law_950 : decode cL_law 950 = .ok (.iload 4, 2) := dk_21 4 (dk_at dksL_law_32 14 rfl rfl)
theorem dL_law_952 : decode cL_law 952 = .ok (.iconst 1, 1) := dk_4 (dk_at dksL_law_32 16 rfl rfl)
theorem dL_law_953 : decode cL_law 953 = .ok (.iadd, 1) := dk_96 (dk_at dksL_law_32 17 rfl rfl)
theorem dL_law_954 : decode cL_law 954 = .ok (.iaload, 1) := dk_46 (dk_at dksL_law_32 18 rfl rfl)
theorem dL_law_955 : decode cL_law 955 = .ok (.aload_n 3, 1) := dk_45 (dk_at dksL_law_32 19 rfl rfl)
theorem dL_law_956 : decode cL_law 956 = .ok (.invokestatic 215, 3) := dk_184 0 215 (dk_at dksL_law_32 20 rfl rfl)
theorem dL_law_959 : decode cL_law 959 = .ok (.istore 5, 2) := dk_54 5 (dk_at dksL_law_33 0 rfl rfl)
theorem dL_law_961 : decode cL_law 961 = .ok (.aload_n 2, 1) := dk_44 (dk_at dksL_law_33 2 rfl rfl)
theorem dL_law_962 : decode cL_law 962 = .ok (.aload_n 0, 1) := dk_42 (dk_at dksL_law_33 3 rfl rfl)
theorem dL_law_963 : decode cL_law 963 = .ok (.iload 4, 2) := dk_21 4 (dk_at dksL_law_33 4 rfl rfl)
theorem dL_law_965 : decode cL_law 965 = .ok (.iconst 1, 1) := dk_4 (dk_at dksL_law_33 6 rfl rfl)
theorem dL_law_966 : decode cL_law 966 = .ok (.iadd, 1) := dk_96 (dk_at dksL_law_33 7 rfl rfl)
theorem dL_law_967 : decode cL_law 967 = .ok (.iaload, 1) := dk_46 (dk_at dksL_law_33 8 rfl rfl)
theorem dL_law_968 : decode cL_law 968 = .ok (.invokevirtual 217, 3) := dk_182 0 217 (dk_at dksL_law_33 9 rfl rfl)
theorem dL_law_971 : decode cL_law 971 = .ok (.istore 6, 2) := dk_54 6 (dk_at dksL_law_33 12 rfl rfl)
theorem dL_law_973 : decode cL_law 973 = .ok (.aload_n 2, 1) := dk_44 (dk_at dksL_law_33 14 rfl rfl)
theorem dL_law_974 : decode cL_law 974 = .ok (.invokevirtual 148, 3) := dk_182 0 148 (dk_at dksL_law_33 15 rfl rfl)
theorem dL_law_977 : decode cL_law 977 = .ok (.iload 5, 2) := dk_21 5 (dk_at dksL_law_33 18 rfl rfl)
theorem dL_law_979 : decode cL_law 979 = .ok (.if_icmp .eq 5, 3) := dk_159 0 5 (dk_at dksL_law_33 20 rfl rfl)
theorem dL_law_982 : decode cL_law 982 = .ok (.iconst 0, 1) := dk_3 (dk_at dksL_law_33 23 rfl rfl)
theorem dL_law_983 : decode cL_law 983 = .ok (.ireturn, 1) := dk_172 (dk_at dksL_law_34 0 rfl rfl)
theorem dL_law_984 : decode cL_law 984 = .ok (.iload 5, 2) := dk_21 5 (dk_at dksL_law_34 1 rfl rfl)
theorem dL_law_986 : decode cL_law 986 = .ok (.ifCond .ne 15, 3) := dk_154 0 15 (dk_at dksL_law_34 3 rfl rfl)
theorem dL_law_989 : decode cL_law 989 = .ok (.aload_n 3, 1) := dk_45 (dk_at dksL_law_34 6 rfl rfl)
theorem dL_law_990 : decode cL_law 990 = .ok (.iconst 0, 1) := dk_3 (dk_at dksL_law_34 7 rfl rfl)
theorem dL_law_991 : decode cL_law 991 = .ok (.laload, 1) := dk_47 (dk_at dksL_law_34 8 rfl rfl)
theorem dL_law_992 : decode cL_law 992 = .ok (.iload 6, 2) := dk_21 6 (dk_at dksL_law_34 9 rfl rfl)
theorem dL_law_994 : decode cL_law 994 = .ok (.i2l, 1) := dk_133 (dk_at dksL_law_34 11 rfl rfl)
theorem dL_law_995 : decode cL_law 995 = .ok (.lcmp, 1) := dk_148 (dk_at dksL_law_34 12 rfl rfl)
theorem dL_law_996 : decode cL_law 996 = .ok (.ifCond .eq 5, 3) := dk_153 0 5 (dk_at dksL_law_34 13 rfl rfl)
theorem dL_law_999 : decode cL_law 999 = .ok (.iconst 0, 1) := dk_3 (dk_at dksL_law_34 16 rfl rfl)
theorem dL_law_1000 : decode cL_law 1000 = .ok (.ireturn, 1) := dk_172 (dk_at dksL_law_34 17 rfl rfl)
theorem dL_law_1001 : decode cL_law 1001 = .ok (.goto 1798, 3) := dk_167 7 6 (dk_at dksL_law_34 18 rfl rfl)
theorem dL_law_1004 : decode cL_law 1004 = .ok (.aload_n 1, 1) := dk_43 (dk_at dksL_law_34 21 rfl rfl)
theorem dL_law_1005 : decode cL_law 1005 = .ok (.aload_n 3, 1) := dk_45 (dk_at dksL_law_34 22 rfl rfl)
theorem dL_law_1006 : decode cL_law 1006 = .ok (.invokestatic 218, 3) := dk_184 0 218 (dk_at dksL_law_35 0 rfl rfl)
theorem dL_law_1009 : decode cL_law 1009 = .ok (.istore 5, 2) := dk_54 5 (dk_at dksL_law_35 3 rfl rfl)
theorem dL_law_1011 : decode cL_law 1011 = .ok (.aload_n 2, 1) := dk_44 (dk_at dksL_law_35 5 rfl rfl)
theorem dL_law_1012 : decode cL_law 1012 = .ok (.invokevirtual 220, 3) := dk_182 0 220 (dk_at dksL_law_35 6 rfl rfl)
theorem dL_law_1015 : decode cL_law 1015 = .ok (.istore 6, 2) := dk_54 6 (dk_at dksL_law_35 9 rfl rfl)
theorem dL_law_1017 : decode cL_law 1017 = .ok (.aload_n 2, 1) := dk_44 (dk_at dksL_law_35 11 rfl rfl)
theorem dL_law_1018 : decode cL_law 1018 = .ok (.invokevirtual 148, 3) := dk_182 0 148 (dk_at dksL_law_35 12 rfl rfl)
theorem dL_law_1021 : decode cL_law 1021 = .ok (.iload 5, 2) := dk_21 5 (dk_at dksL_law_35 15 rfl rfl)
theorem dL_law_1023 : decode cL_law 1023 = .ok (.if_icmp .eq 5, 3) := dk_159 0 5 (dk_at dksL_law_35 17 rfl rfl)
theorem dL_law_1026 : decode cL_law 1026 = .ok (.iconst 0, 1) := dk_3 (dk_at dksL_law_35 20 rfl rfl)
theorem dL_law_1027 : decode cL_law 1027 = .ok (.ireturn, 1) := dk_172 (dk_at dksL_law_35 21 rfl rfl)
theorem dL_law_1028 : decode cL_law 1028 = .ok (.iload 5, 2) := dk_21 5 (dk_at dksL_law_35 22 rfl rfl)
theorem dL_law_1030 : decode cL_law 1030 = .ok (.ifCond .ne 15, 3) := dk_154 0 15 (dk_at dksL_law_36 0 rfl rfl)
theorem dL_law_1033 : decode cL_law 1033 = .ok (.aload_n 3, 1) := dk_45 (dk_at dksL_law_36 3 rfl rfl)
theorem dL_law_1034 : decode cL_law 1034 = .ok (.iconst 0, 1) := dk_3 (dk_at dksL_law_36 4 rfl rfl)
theorem dL_law_1035 : decode cL_law 1035 = .ok (.laload, 1) := dk_47 (dk_at dksL_law_36 5 rfl rfl)
theorem dL_law_1036 : decode cL_law 1036 = .ok (.iload 6, 2) := dk_21 6 (dk_at dksL_law_36 6 rfl rfl)
theorem dL_law_1038 : decode cL_law 1038 = .ok (.i2l, 1) := dk_133 (dk_at dksL_law_36 8 rfl rfl)
theorem dL_law_1039 : decode cL_law 1039 = .ok (.lcmp, 1) := dk_148 (dk_at dksL_law_36 9 rfl rfl)
theorem dL_law_1040 : decode cL_law 1040 = .ok (.ifCond .eq 5, 3) := dk_153 0 5 (dk_at dksL_law_36 10 rfl rfl)
theorem dL_law_1043 : decode cL_law 1043 = .ok (.iconst 0, 1) := dk_3 (dk_at dksL_law_36 13 rfl rfl)
theorem dL_law_1044 : decode cL_law 1044 = .ok (.ireturn, 1) := dk_172 (dk_at dksL_law_36 14 rfl rfl)
theorem dL_law_1045 : decode cL_law 1045 = .ok (.goto 1754, 3) := dk_167 6 218 (dk_at dksL_law_36 15 rfl rfl)
theorem dL_law_1048 : decode cL_law 1048 = .ok (.aload_n 1, 1) := dk_43 (dk_at dksL_law_36 18 rfl rfl)
theorem dL_law_1049 : decode cL_law 1049 = .ok (.aload_n 0, 1) := dk_42 (dk_at dksL_law_36 19 rfl rfl)
theorem dL_law_1050 : decode cL_law 1050 = .ok (.iload 4, 2) := dk_21 4 (dk_at dksL_law_36 20 rfl rfl)
theorem dL_law_1052 : decode cL_law 1052 = .ok (.iconst 1, 1) := dk_4 (dk_at dksL_law_36 22 rfl rfl)
theorem dL_law_1053 : decode cL_law 1053 = .ok (.iadd, 1) := dk_96 (dk_at dksL_law_36 23 rfl rfl)
theorem dL_law_1054 : decode cL_law 1054 = .ok (.iaload, 1) := dk_46 (dk_at dksL_law_37 0 rfl rfl)
theorem dL_law_1055 : decode cL_law 1055 = .ok (.aload_n 3, 1) := dk_45 (dk_at dksL_law_37 1 rfl rfl)
theorem dL_law_1056 : decode cL_law 1056 = .ok (.invokestatic 221, 3) := dk_184 0 221 (dk_at dksL_law_37 2 rfl rfl)
theorem dL_law_1059 : decode cL_law 1059 = .ok (.istore 5, 2) := dk_54 5 (dk_at dksL_law_37 5 rfl rfl)
theorem dL_law_1061 : decode cL_law 1061 = .ok (.aload_n 2, 1) := dk_44 (dk_at dksL_law_37 7 rfl rfl)
theorem dL_law_1062 : decode cL_law 1062 = .ok (.aload_n 0, 1) := dk_42 (dk_at dksL_law_37 8 rfl rfl)
theorem dL_law_1063 : decode cL_law 1063 = .ok (.iload 4, 2) := dk_21 4 (dk_at dksL_law_37 9 rfl rfl)
theorem dL_law_1065 : decode cL_law 1065 = .ok (.iconst 1, 1) := dk_4 (dk_at dksL_law_37 11 rfl rfl)
theorem dL_law_1066 : decode cL_law 1066 = .ok (.iadd, 1) := dk_96 (dk_at dksL_law_37 12 rfl rfl)
theorem dL_law_1067 : decode cL_law 1067 = .ok (.iaload, 1) := dk_46 (dk_at dksL_law_37 13 rfl rfl)
theorem dL_law_1068 : decode cL_law 1068 = .ok (.invokevirtual 223, 3) := dk_182 0 223 (dk_at dksL_law_37 14 rfl rfl)
theorem dL_law_1071 : decode cL_law 1071 = .ok (.istore 6, 2) := dk_54 6 (dk_at dksL_law_37 17 rfl rfl)
theorem dL_law_1073 : decode cL_law 1073 = .ok (.aload_n 2, 1) := dk_44 (dk_at dksL_law_37 19 rfl rfl)
theorem dL_law_1074 : decode cL_law 1074 = .ok (.invokevirtual 148, 3) := dk_182 0 148 (dk_at dksL_law_37 20 rfl rfl)
theorem dL_law_1077 : decode cL_law 1077 = .ok (.iload 5, 2) := dk_21 5 (dk_at dksL_law_38 0 rfl rfl)
theorem dL_law_1079 : decode cL_law 1079 = .ok (.if_icmp .eq 5, 3) := dk_159 0 5 (dk_at dksL_law_38 2 rfl rfl)
theorem dL_law_1082 : decode cL_law 1082 = .ok (.iconst 0, 1) := dk_3 (dk_at dksL_law_38 5 rfl rfl)
theorem dL_law_1083 : decode cL_law 1083 = .ok (.ireturn, 1) := dk_172 (dk_at dksL_law_38 6 rfl rfl)
theorem dL_law_1084 : decode cL_law 1084 = .ok (.iload 5, 2) := dk_21 5 (dk_at dksL_law_38 7 rfl rfl)
theorem dL_law_1086 : decode cL_law 1086 = .ok (.ifCond .ne 15, 3) := dk_154 0 15 (dk_at dksL_law_38 9 rfl rfl)
theorem dL_law_1089 : decode cL_law 1089 = .ok (.aload_n 3, 1) := dk_45 (dk_at dksL_law_38 12 rfl rfl)
theorem dL_law_1090 : decode cL_law 1090 = .ok (.iconst 0, 1) := dk_3 (dk_at dksL_law_38 13 rfl rfl)
theorem dL_law_1091 : decode cL_law 1091 = .ok (.laload, 1) := dk_47 (dk_at dksL_law_38 14 rfl rfl)
theorem dL_law_1092 : decode cL_law 1092 = .ok (.iload 6, 2) := dk_21 6 (dk_at dksL_law_38 15 rfl rfl)
theorem dL_law_1094 : decode cL_law 1094 = .ok (.i2l, 1) := dk_133 (dk_at dksL_law_38 17 rfl rfl)
theorem dL_law_1095 : decode cL_law 1095 = .ok (.lcmp, 1) := dk_148 (dk_at dksL_law_38 18 rfl rfl)
theorem dL_law_1096 : decode cL_law 1096 = .ok (.ifCond .eq 5, 3) := dk_153 0 5 (dk_at dksL_law_38 19 rfl rfl)
theorem dL_law_1099 : decode cL_law 1099 = .ok (.iconst 0, 1) := dk_3 (dk_at dksL_law_38 22 rfl rfl)
theorem dL_law_1100 : decode cL_law 1100 = .ok (.ireturn, 1) := dk_172 (dk_at dksL_law_38 23 rfl rfl)
theorem dL_law_1101 : decode cL_law 1101 = .ok (.goto 1698, 3) := dk_167 6 162 (dk_at dksL_law_39 0 rfl rfl)
theorem dL_law_1104 : decode cL_law 1104 = .ok (.aload_n 1, 1) := dk_43 (dk_at dksL_law_39 3 rfl rfl)
theorem dL_law_1105 : decode cL_law 1105 = .ok (.invokevirtual 224, 3) := dk_182 0 224 (dk_at dksL_law_39 4 rfl rfl)
theorem dL_law_1108 : decode cL_law 1108 = .ok (.aload_n 2, 1) := dk_44 (dk_at dksL_law_39 7 rfl rfl)
theorem dL_law_1109 : decode cL_law 1109 = .ok (.invokevirtual 227, 3) := dk_182 0 227 (dk_at dksL_law_39 8 rfl rfl)
theorem dL_law_1112 : decode cL_law 1112 = .ok (.if_icmp .eq 1687, 3) := dk_159 6 151 (dk_at dksL_law_39 11 rfl rfl)
theorem dL_law_1115 : decode cL_law 1115 = .ok (.iconst 0, 1) := dk_3 (dk_at dksL_law_39 14 rfl rfl)
theorem dL_law_1116 : decode cL_law 1116 = .ok (.ireturn, 1) := dk_172 (dk_at dksL_law_39 15 rfl rfl)
theorem dL_law_1117 : decode cL_law 1117 = .ok (.aload_n 1, 1) := dk_43 (dk_at dksL_law_39 16 rfl rfl)
theorem dL_law_1118 : decode cL_law 1118 = .ok (.aload_n 0, 1) := dk_42 (dk_at dksL_law_39 17 rfl rfl)
theorem dL_law_1119 : decode cL_law 1119 = .ok (.iload 4, 2) := dk_21 4 (dk_at dksL_law_39 18 rfl rfl)
theorem dL_law_1121 : decode cL_law 1121 = .ok (.iconst 1, 1) := dk_4 (dk_at dksL_law_39 20 rfl rfl)
theorem dL_law_1122 : decode cL_law 1122 = .ok (.iadd, 1) := dk_96 (dk_at dksL_law_39 21 rfl rfl)
theorem dL_law_1123 : decode cL_law 1123 = .ok (.iaload, 1) := dk_46 (dk_at dksL_law_39 22 rfl rfl)
theorem dL_law_1124 : decode cL_law 1124 = .ok (.aload_n 3, 1) := dk_45 (dk_at dksL_law_39 23 rfl rfl)
theorem dL_law_1125 : decode cL_law 1125 = .ok (.invokestatic 228, 3) := dk_184 0 228 (dk_at dksL_law_40 0 rfl rfl)
theorem dL_law_1128 : decode cL_law 1128 = .ok (.istore 5, 2) := dk_54 5 (dk_at dksL_law_40 3 rfl rfl)
theorem dL_law_1130 : decode cL_law 1130 = .ok (.aload_n 2, 1) := dk_44 (dk_at dksL_law_40 5 rfl rfl)
theorem dL_law_1131 : decode cL_law 1131 = .ok (.aload_n 0, 1) := dk_42 (dk_at dksL_law_40 6 rfl rfl)
theorem dL_law_1132 : decode cL_law 1132 = .ok (.iload 4, 2) := dk_21 4 (dk_at dksL_law_40 7 rfl rfl)
theorem dL_law_1134 : decode cL_law 1134 = .ok (.iconst 1, 1) := dk_4 (dk_at dksL_law_40 9 rfl rfl)
theorem dL_law_1135 : decode cL_law 1135 = .ok (.iadd, 1) := dk_96 (dk_at dksL_law_40 10 rfl rfl)
theorem dL_law_1136 : decode cL_law 1136 = .ok (.iaload, 1) := dk_46 (dk_at dksL_law_40 11 rfl rfl)
theorem dL_law_1137 : decode cL_law 1137 = .ok (.invokevirtual 230, 3) := dk_182 0 230 (dk_at dksL_law_40 12 rfl rfl)
theorem dL_law_1140 : decode cL_law 1140 = .ok (.istore 6, 2) := dk_54 6 (dk_at dksL_law_40 15 rfl rfl)
theorem dL_law_1142 : decode cL_law 1142 = .ok (.aload_n 2, 1) := dk_44 (dk_at dksL_law_40 17 rfl rfl)
theorem dL_law_1143 : decode cL_law 1143 = .ok (.invokevirtual 148, 3) := dk_182 0 148 (dk_at dksL_law_40 18 rfl rfl)
theorem dL_law_1146 : decode cL_law 1146 = .ok (.iload 5, 2) := dk_21 5 (dk_at dksL_law_40 21 rfl rfl)
theorem dL_law_1148 : decode cL_law 1148 = .ok (.if_icmp .eq 5, 3) := dk_159 0 5 (dk_at dksL_law_41 0 rfl rfl)
theorem dL_law_1151 : decode cL_law 1151 = .ok (.iconst 0, 1) := dk_3 (dk_at dksL_law_41 3 rfl rfl)
theorem dL_law_1152 : decode cL_law 1152 = .ok (.ireturn, 1) := dk_172 (dk_at dksL_law_41 4 rfl rfl)
theorem dL_law_1153 : decode cL_law 1153 = .ok (.iload 5, 2) := dk_21 5 (dk_at dksL_law_41 5 rfl rfl)
theorem dL_law_1155 : decode cL_law 1155 = .ok (.ifCond .ne 15, 3) := dk_154 0 15 (dk_at dksL_law_41 7 rfl rfl)
theorem dL_law_1158 : decode cL_law 1158 = .ok (.aload_n 3, 1) := dk_45 (dk_at dksL_law_41 10 rfl rfl)
theorem dL_law_1159 : decode cL_law 1159 = .ok (.iconst 0, 1) := dk_3 (dk_at dksL_law_41 11 rfl rfl)
theorem dL_law_1160 : decode cL_law 1160 = .ok (.laload, 1) := dk_47 (dk_at dksL_law_41 12 rfl rfl)
theorem dL_law_1161 : decode cL_law 1161 = .ok (.iload 6, 2) := dk_21 6 (dk_at dksL_law_41 13 rfl rfl)
theorem dL_law_1163 : decode cL_law 1163 = .ok (.i2l, 1) := dk_133 (dk_at dksL_law_41 15 rfl rfl)
theorem dL_law_1164 : decode cL_law 1164 = .ok (.lcmp, 1) := dk_148 (dk_at dksL_law_41 16 rfl rfl)
theorem dL_law_1165 : decode cL_law 1165 = .ok (.ifCond .eq 5, 3) := dk_153 0 5 (dk_at dksL_law_41 17 rfl rfl)
theorem dL_law_1168 : decode cL_law 1168 = .ok (.iconst 0, 1) := dk_3 (dk_at dksL_law_41 20 rfl rfl)
theorem dL_law_1169 : decode cL_law 1169 = .ok (.ireturn, 1) := dk_172 (dk_at dksL_law_41 21 rfl rfl)
theorem dL_law_1170 : decode cL_law 1170 = .ok (.goto 1629, 3) := dk_167 6 93 (dk_at dksL_law_42 0 rfl rfl)
theorem dL_law_1173 : decode cL_law 1173 = .ok (.aload_n 1, 1) := dk_43 (dk_at dksL_law_42 3 rfl rfl)
theorem dL_law_1174 : decode cL_law 1174 = .ok (.aload_n 0, 1) := dk_42 (dk_at dksL_law_42 4 rfl rfl)
theorem dL_law_1175 : decode cL_law 1175 = .ok (.iload 4, 2) := dk_21 4 (dk_at dksL_law_42 5 rfl rfl)
theorem dL_law_1177 : decode cL_law 1177 = .ok (.iconst 1, 1) := dk_4 (dk_at dksL_law_42 7 rfl rfl)
theorem dL_law_1178 : decode cL_law 1178 = .ok (.iadd, 1) := dk_96 (dk_at dksL_law_42 8 rfl rfl)
theorem dL_law_1179 : decode cL_law 1179 = .ok (.iaload, 1) := dk_46 (dk_at dksL_law_42 9 rfl rfl)
theorem dL_law_1180 : decode cL_law 1180 = .ok (.aload_n 3, 1) := dk_45 (dk_at dksL_law_42 10 rfl rfl)
theorem dL_law_1181 : decode cL_law 1181 = .ok (.invokestatic 231, 3) := dk_184 0 231 (dk_at dksL_law_42 11 rfl rfl)
theorem dL_law_1184 : decode cL_law 1184 = .ok (.istore 5, 2) := dk_54 5 (dk_at dksL_law_42 14 rfl rfl)
theorem dL_law_1186 : decode cL_law 1186 = .ok (.aload_n 2, 1) := dk_44 (dk_at dksL_law_42 16 rfl rfl)
theorem dL_law_1187 : decode cL_law 1187 = .ok (.aload_n 0, 1) := dk_42 (dk_at dksL_law_42 17 rfl rfl)
theorem dL_law_1188 : decode cL_law 1188 = .ok (.iload 4, 2) := dk_21 4 (dk_at dksL_law_42 18 rfl rfl)
theorem dL_law_1190 : decode cL_law 1190 = .ok (.iconst 1, 1) := dk_4 (dk_at dksL_law_42 20 rfl rfl)
theorem dL_law_1191 : decode cL_law 1191 = .ok (.iadd, 1) := dk_96 (dk_at dksL_law_42 21 rfl rfl)
theorem dL_law_1192 : decode cL_law 1192 = .ok (.iaload, 1) := dk_46 (dk_at dksL_law_42 22 rfl rfl)
theorem dL_law_1193 : decode cL_law 1193 = .ok (.invokevirtual 233, 3) := dk_182 0 233 (dk_at dksL_law_43 0 rfl rfl)
theorem dL_law_1196 : decode cL_law 1196 = .ok (.istore 6, 2) := dk_54 6 (dk_at dksL_law_43 3 rfl rfl)
theorem dL_law_1198 : decode cL_law 1198 = .ok (.aload_n 2, 1) := dk_44 (dk_at dksL_law_43 5 rfl rfl)
theorem dL_law_1199 : decode cL_law 1199 = .ok (.invokevirtual 148, 3) := dk_182 0 148 (dk_at dksL_law_43 6 rfl rfl)
theorem dL_law_1202 : decode cL_law 1202 = .ok (.iload 5, 2) := dk_21 5 (dk_at dksL_law_43 9 rfl rfl)
theorem dL_law_1204 : decode cL_law 1204 = .ok (.if_icmp .eq 5, 3) := dk_159 0 5 (dk_at dksL_law_43 11 rfl rfl)
theorem dL_law_1207 : decode cL_law 1207 = .ok (.iconst 0, 1) := dk_3 (dk_at dksL_law_43 14 rfl rfl)
theorem dL_law_1208 : decode cL_law 1208 = .ok (.ireturn, 1) := dk_172 (dk_at dksL_law_43 15 rfl rfl)
theorem dL_law_1209 : decode cL_law 1209 = .ok (.iload 5, 2) := dk_21 5 (dk_at dksL_law_43 16 rfl rfl)
theorem dL_law_1211 : decode cL_law 1211 = .ok (.ifCond .ne 15, 3) := dk_154 0 15 (dk_at dksL_law_43 18 rfl rfl)
theorem dL_law_1214 : decode cL_law 1214 = .ok (.aload_n 3, 1) := dk_45 (dk_at dksL_law_43 21 rfl rfl)
theorem dL_law_1215 : decode cL_law 1215 = .ok (.iconst 0, 1) := dk_3 (dk_at dksL_law_43 22 rfl rfl)
theorem dL_law_1216 : decode cL_law 1216 = .ok (.laload, 1) := dk_47 (dk_at dksL_law_43 23 rfl rfl)
theorem dL_law_1217 : decode cL_law 1217 = .ok (.iload 6, 2) := dk_21 6 (dk_at dksL_law_44 0 rfl rfl)
theorem dL_law_1219 : decode cL_law 1219 = .ok (.i2l, 1) := dk_133 (dk_at dksL_law_44 2 rfl rfl)
theorem dL_law_1220 : decode cL_law 1220 = .ok (.lcmp, 1) := dk_148 (dk_at dksL_law_44 3 rfl rfl)
theorem dL_law_1221 : decode cL_law 1221 = .ok (.ifCond .eq 5, 3) := dk_153 0 5 (dk_at dksL_law_44 4 rfl rfl)
theorem dL_law_1224 : decode cL_law 1224 = .ok (.iconst 0, 1) := dk_3 (dk_at dksL_law_44 7 rfl rfl)
theorem dL_law_1225 : decode cL_law 1225 = .ok (.ireturn, 1) := dk_172 (dk_at dksL_law_44 8 rfl rfl)
theorem dL_law_1226 : decode cL_law 1226 = .ok (.goto 1573, 3) := dk_167 6 37 (dk_at dksL_law_44 9 rfl rfl)
theorem dL_law_1229 : decode cL_law 1229 = .ok (.aload_n 1, 1) := dk_43 (dk_at dksL_law_44 12 rfl rfl)
theorem dL_law_1230 : decode cL_law 1230 = .ok (.aload_n 0, 1) := dk_42 (dk_at dksL_law_44 13 rfl rfl)
theorem dL_law_1231 : decode cL_law 1231 = .ok (.iload 4, 2) := dk_21 4 (dk_at dksL_law_44 14 rfl rfl)
theorem dL_law_1233 : decode cL_law 1233 = .ok (.iconst 1, 1) := dk_4 (dk_at dksL_law_44 16 rfl rfl)
theorem dL_law_1234 : decode cL_law 1234 = .ok (.iadd, 1) := dk_96 (dk_at dksL_law_44 17 rfl rfl)
theorem dL_law_1235 : decode cL_law 1235 = .ok (.iaload, 1) := dk_46 (dk_at dksL_law_44 18 rfl rfl)
theorem dL_law_1236 : decode cL_law 1236 = .ok (.aload_n 0, 1) := dk_42 (dk_at dksL_law_44 19 rfl rfl)
theorem dL_law_1237 : decode cL_law 1237 = .ok (.iload 4, 2) := dk_21 4 (dk_at dksL_law_44 20 rfl rfl)
theorem dL_law_1239 : decode cL_law 1239 = .ok (.iconst 2, 1) := dk_5 (dk_at dksL_law_44 22 rfl rfl)
theorem dL_law_1240 : decode cL_law 1240 = .ok (.iadd, 1) := dk_96 (dk_at dksL_law_44 23 rfl rfl)
theorem dL_law_1241 : decode cL_law 1241 = .ok (.iaload, 1) := dk_46 (dk_at dksL_law_45 0 rfl rfl)
theorem dL_law_1242 : decode cL_law 1242 = .ok (.aload_n 0, 1) := dk_42 (dk_at dksL_law_45 1 rfl rfl)
theorem dL_law_1243 : decode cL_law 1243 = .ok (.iload 4, 2) := dk_21 4 (dk_at dksL_law_45 2 rfl rfl)
theorem dL_law_1245 : decode cL_law 1245 = .ok (.iconst 3, 1) := dk_6 (dk_at dksL_law_45 4 rfl rfl)
theorem dL_law_1246 : decode cL_law 1246 = .ok (.iadd, 1) := dk_96 (dk_at dksL_law_45 5 rfl rfl)
theorem dL_law_1247 : decode cL_law 1247 = .ok (.iaload, 1) := dk_46 (dk_at dksL_law_45 6 rfl rfl)
theorem dL_law_1248 : decode cL_law 1248 = .ok (.aload_n 3, 1) := dk_45 (dk_at dksL_law_45 7 rfl rfl)
theorem dL_law_1249 : decode cL_law 1249 = .ok (.invokestatic 234, 3) := dk_184 0 234 (dk_at dksL_law_45 8 rfl rfl)
theorem dL_law_1252 : decode cL_law 1252 = .ok (.istore 5, 2) := dk_54 5 (dk_at dksL_law_45 11 rfl rfl)
theorem dL_law_1254 : decode cL_law 1254 = .ok (.aload_n 2, 1) := dk_44 (dk_at dksL_law_45 13 rfl rfl)
theorem dL_law_1255 : decode cL_law 1255 = .ok (.aload_n 0, 1) := dk_42 (dk_at dksL_law_45 14 rfl rfl)
theorem dL_law_1256 : decode cL_law 1256 = .ok (.iload 4, 2) := dk_21 4 (dk_at dksL_law_45 15 rfl rfl)
theorem dL_law_1258 : decode cL_law 1258 = .ok (.iconst 1, 1) := dk_4 (dk_at dksL_law_45 17 rfl rfl)
theorem dL_law_1259 : decode cL_law 1259 = .ok (.iadd, 1) := dk_96 (dk_at dksL_law_45 18 rfl rfl)
theorem dL_law_1260 : decode cL_law 1260 = .ok (.iaload, 1) := dk_46 (dk_at dksL_law_45 19 rfl rfl)
theorem dL_law_1261 : decode cL_law 1261 = .ok (.aload_n 0, 1) := dk_42 (dk_at dksL_law_45 20 rfl rfl)
theorem dL_law_1262 : decode cL_law 1262 = .ok (.iload 4, 2) := dk_21 4 (dk_at dksL_law_45 21 rfl rfl)
theorem dL_law_1264 : decode cL_law 1264 = .ok (.iconst 2, 1) := dk_5 (dk_at dksL_law_45 23 rfl rfl)
theorem dL_law_1265 : decode cL_law 1265 = .ok (.iadd, 1) := dk_96 (dk_at dksL_law_46 0 rfl rfl)
theorem dL_law_1266 : decode cL_law 1266 = .ok (.iaload, 1) := dk_46 (dk_at dksL_law_46 1 rfl rfl)
theorem dL_law_1267 : decode cL_law 1267 = .ok (.aload_n 0, 1) := dk_42 (dk_at dksL_law_46 2 rfl rfl)
theorem dL_law_1268 : decode cL_law 1268 = .ok (.iload 4, 2) := dk_21 4 (dk_at dksL_law_46 3 rfl rfl)
theorem dL_law_1270 : decode cL_law 1270 = .ok (.iconst 3, 1) := dk_6 (dk_at dksL_law_46 5 rfl rfl)
theorem dL_law_1271 : decode cL_law 1271 = .ok (.iadd, 1) := dk_96 (dk_at dksL_law_46 6 rfl rfl)
theorem dL_law_1272 : decode cL_law 1272 = .ok (.iaload, 1) := dk_46 (dk_at dksL_law_46 7 rfl rfl)
theorem dL_law_1273 : decode cL_law 1273 = .ok (.invokevirtual 237, 3) := dk_182 0 237 (dk_at dksL_law_46 8 rfl rfl)
theorem dL_law_1276 : decode cL_law 1276 = .ok (.istore 6, 2) := dk_54 6 (dk_at dksL_law_46 11 rfl rfl)
theorem dL_law_1278 : decode cL_law 1278 = .ok (.aload_n 2, 1) := dk_44 (dk_at dksL_law_46 13 rfl rfl)
theorem dL_law_1279 : decode cL_law 1279 = .ok (.invokevirtual 148, 3) := dk_182 0 148 (dk_at dksL_law_46 14 rfl rfl)
theorem dL_law_1282 : decode cL_law 1282 = .ok (.iload 5, 2) := dk_21 5 (dk_at dksL_law_46 17 rfl rfl)
theorem dL_law_1284 : decode cL_law 1284 = .ok (.if_icmp .eq 5, 3) := dk_159 0 5 (dk_at dksL_law_46 19 rfl rfl)
theorem dL_law_1287 : decode cL_law 1287 = .ok (.iconst 0, 1) := dk_3 (dk_at dksL_law_46 22 rfl rfl)
theorem dL_law_1288 : decode cL_law 1288 = .ok (.ireturn, 1) := dk_172 (dk_at dksL_law_46 23 rfl rfl)
theorem dL_law_1289 : decode cL_law 1289 = .ok (.iload 5, 2) := dk_21 5 (dk_at dksL_law_47 0 rfl rfl)
theorem dL_law_1291 : decode cL_law 1291 = .ok (.ifCond .ne 15, 3) := dk_154 0 15 (dk_at dksL_law_47 2 rfl rfl)
theorem dL_law_1294 : decode cL_law 1294 = .ok (.aload_n 3, 1) := dk_45 (dk_at dksL_law_47 5 rfl rfl)
theorem dL_law_1295 : decode cL_law 1295 = .ok (.iconst 0, 1) := dk_3 (dk_at dksL_law_47 6 rfl rfl)
theorem dL_law_1296 : decode cL_law 1296 = .ok (.laload, 1) := dk_47 (dk_at dksL_law_47 7 rfl rfl)
theorem dL_law_1297 : decode cL_law 1297 = .ok (.iload 6, 2) := dk_21 6 (dk_at dksL_law_47 8 rfl rfl)
theorem dL_law_1299 : decode cL_law 1299 = .ok (.i2l, 1) := dk_133 (dk_at dksL_law_47 10 rfl rfl)
theorem dL_law_1300 : decode cL_law 1300 = .ok (.lcmp, 1) := dk_148 (dk_at dksL_law_47 11 rfl rfl)
theorem dL_law_1301 : decode cL_law 1301 = .ok (.ifCond .eq 5, 3) := dk_153 0 5 (dk_at dksL_law_47 12 rfl rfl)
theorem dL_law_1304 : decode cL_law 1304 = .ok (.iconst 0, 1) := dk_3 (dk_at dksL_law_47 15 rfl rfl)
theorem dL_law_1305 : decode cL_law 1305 = .ok (.ireturn, 1) := dk_172 (dk_at dksL_law_47 16 rfl rfl)
theorem dL_law_1306 : decode cL_law 1306 = .ok (.goto 1493, 3) := dk_167 5 213 (dk_at dksL_law_47 17 rfl rfl)
theorem dL_law_1309 : decode cL_law 1309 = .ok (.aload_n 1, 1) := dk_43 (dk_at dksL_law_47 20 rfl rfl)
theorem dL_law_1310 : decode cL_law 1310 = .ok (.aload_n 0, 1) := dk_42 (dk_at dksL_law_47 21 rfl rfl)
theorem dL_law_1311 : decode cL_law 1311 = .ok (.iload 4, 2) := dk_21 4 (dk_at dksL_law_47 22 rfl rfl)
theorem dL_law_1313 : decode cL_law 1313 = .ok (.iconst 1, 1) := dk_4 (dk_at dksL_law_48 0 rfl rfl)
theorem dL_law_1314 : decode cL_law 1314 = .ok (.iadd, 1) := dk_96 (dk_at dksL_law_48 1 rfl rfl)
theorem dL_law_1315 : decode cL_law 1315 = .ok (.iaload, 1) := dk_46 (dk_at dksL_law_48 2 rfl rfl)
theorem dL_law_1316 : decode cL_law 1316 = .ok (.aload_n 0, 1) := dk_42 (dk_at dksL_law_48 3 rfl rfl)
theorem dL_law_1317 : decode cL_law 1317 = .ok (.iload 4, 2) := dk_21 4 (dk_at dksL_law_48 4 rfl rfl)
theorem dL_law_1319 : decode cL_law 1319 = .ok (.iconst 2, 1) := dk_5 (dk_at dksL_law_48 6 rfl rfl)
theorem dL_law_1320 : decode cL_law 1320 = .ok (.iadd, 1) := dk_96 (dk_at dksL_law_48 7 rfl rfl)
theorem dL_law_1321 : decode cL_law 1321 = .ok (.iaload, 1) := dk_46 (dk_at dksL_law_48 8 rfl rfl)
theorem dL_law_1322 : decode cL_law 1322 = .ok (.aload_n 0, 1) := dk_42 (dk_at dksL_law_48 9 rfl rfl)
theorem dL_law_1323 : decode cL_law 1323 = .ok (.iload 4, 2) := dk_21 4 (dk_at dksL_law_48 10 rfl rfl)
theorem dL_law_1325 : decode cL_law 1325 = .ok (.iconst 3, 1) := dk_6 (dk_at dksL_law_48 12 rfl rfl)
theorem dL_law_1326 : decode cL_law 1326 = .ok (.iadd, 1) := dk_96 (dk_at dksL_law_48 13 rfl rfl)
theorem dL_law_1327 : decode cL_law 1327 = .ok (.iaload, 1) := dk_46 (dk_at dksL_law_48 14 rfl rfl)
theorem dL_law_1328 : decode cL_law 1328 = .ok (.aload_n 3, 1) := dk_45 (dk_at dksL_law_48 15 rfl rfl)
theorem dL_law_1329 : decode cL_law 1329 = .ok (.invokestatic 238, 3) := dk_184 0 238 (dk_at dksL_law_48 16 rfl rfl)
theorem dL_law_1332 : decode cL_law 1332 = .ok (.istore 5, 2) := dk_54 5 (dk_at dksL_law_48 19 rfl rfl)
theorem dL_law_1334 : decode cL_law 1334 = .ok (.aload_n 2, 1) := dk_44 (dk_at dksL_law_48 21 rfl rfl)
theorem dL_law_1335 : decode cL_law 1335 = .ok (.aload_n 0, 1) := dk_42 (dk_at dksL_law_48 22 rfl rfl)
theorem dL_law_1336 : decode cL_law 1336 = .ok (.iload 4, 2) := dk_21 4 (dk_at dksL_law_49 0 rfl rfl)
theorem dL_law_1338 : decode cL_law 1338 = .ok (.iconst 1, 1) := dk_4 (dk_at dksL_law_49 2 rfl rfl)
theorem dL_law_1339 : decode cL_law 1339 = .ok (.iadd, 1) := dk_96 (dk_at dksL_law_49 3 rfl rfl)
theorem dL_law_1340 : decode cL_law 1340 = .ok (.iaload, 1) := dk_46 (dk_at dksL_law_49 4 rfl rfl)
theorem dL_law_1341 : decode cL_law 1341 = .ok (.aload_n 0, 1) := dk_42 (dk_at dksL_law_49 5 rfl rfl)
theorem dL_law_1342 : decode cL_law 1342 = .ok (.iload 4, 2) := dk_21 4 (dk_at dksL_law_49 6 rfl rfl)
theorem dL_law_1344 : decode cL_law 1344 = .ok (.iconst 2, 1) := dk_5 (dk_at dksL_law_49 8 rfl rfl)
theorem dL_law_1345 : decode cL_law 1345 = .ok (.iadd, 1) := dk_96 (dk_at dksL_law_49 9 rfl rfl)
theorem dL_law_1346 : decode cL_law 1346 = .ok (.iaload, 1) := dk_46 (dk_at dksL_law_49 10 rfl rfl)
theorem dL_law_1347 : decode cL_law 1347 = .ok (.aload_n 0, 1) := dk_42 (dk_at dksL_law_49 11 rfl rfl)
theorem dL_law_1348 : decode cL_law 1348 = .ok (.iload 4, 2) := dk_21 4 (dk_at dksL_law_49 12 rfl rfl)
theorem dL_law_1350 : decode cL_law 1350 = .ok (.iconst 3, 1) := dk_6 (dk_at dksL_law_49 14 rfl rfl)
theorem dL_law_1351 : decode cL_law 1351 = .ok (.iadd, 1) := dk_96 (dk_at dksL_law_49 15 rfl rfl)
theorem dL_law_1352 : decode cL_law 1352 = .ok (.iaload, 1) := dk_46 (dk_at dksL_law_49 16 rfl rfl)
theorem dL_law_1353 : decode cL_law 1353 = .ok (.invokevirtual 240, 3) := dk_182 0 240 (dk_at dksL_law_49 17 rfl rfl)
theorem dL_law_1356 : decode cL_law 1356 = .ok (.lstore 6, 2) := dk_55 6 (dk_at dksL_law_49 20 rfl rfl)
theorem dL_law_1358 : decode cL_law 1358 = .ok (.aload_n 2, 1) := dk_44 (dk_at dksL_law_49 22 rfl rfl)
theorem dL_law_1359 : decode cL_law 1359 = .ok (.invokevirtual 148, 3) := dk_182 0 148 (dk_at dksL_law_50 0 rfl rfl)
theorem dL_law_1362 : decode cL_law 1362 = .ok (.iload 5, 2) := dk_21 5 (dk_at dksL_law_50 3 rfl rfl)
theorem dL_law_1364 : decode cL_law 1364 = .ok (.if_icmp .eq 5, 3) := dk_159 0 5 (dk_at dksL_law_50 5 rfl rfl)
theorem dL_law_1367 : decode cL_law 1367 = .ok (.iconst 0, 1) := dk_3 (dk_at dksL_law_50 8 rfl rfl)
theorem dL_law_1368 : decode cL_law 1368 = .ok (.ireturn, 1) := dk_172 (dk_at dksL_law_50 9 rfl rfl)
theorem dL_law_1369 : decode cL_law 1369 = .ok (.iload 5, 2) := dk_21 5 (dk_at dksL_law_50 10 rfl rfl)
theorem dL_law_1371 : decode cL_law 1371 = .ok (.ifCond .ne 14, 3) := dk_154 0 14 (dk_at dksL_law_50 12 rfl rfl)
theorem dL_law_1374 : decode cL_law 1374 = .ok (.aload_n 3, 1) := dk_45 (dk_at dksL_law_50 15 rfl rfl)
theorem dL_law_1375 : decode cL_law 1375 = .ok (.iconst 0, 1) := dk_3 (dk_at dksL_law_50 16 rfl rfl)
theorem dL_law_1376 : decode cL_law 1376 = .ok (.laload, 1) := dk_47 (dk_at dksL_law_50 17 rfl rfl)
theorem dL_law_1377 : decode cL_law 1377 = .ok (.lload 6, 2) := dk_22 6 (dk_at dksL_law_50 18 rfl rfl)
theorem dL_law_1379 : decode cL_law 1379 = .ok (.lcmp, 1) := dk_148 (dk_at dksL_law_50 20 rfl rfl)
theorem dL_law_1380 : decode cL_law 1380 = .ok (.ifCond .eq 5, 3) := dk_153 0 5 (dk_at dksL_law_50 21 rfl rfl)
theorem dL_law_1383 : decode cL_law 1383 = .ok (.iconst 0, 1) := dk_3 (dk_at dksL_law_51 0 rfl rfl)
theorem dL_law_1384 : decode cL_law 1384 = .ok (.ireturn, 1) := dk_172 (dk_at dksL_law_51 1 rfl rfl)
theorem dL_law_1385 : decode cL_law 1385 = .ok (.goto 1414, 3) := dk_167 5 134 (dk_at dksL_law_51 2 rfl rfl)
theorem dL_law_1388 : decode cL_law 1388 = .ok (.aload_n 1, 1) := dk_43 (dk_at dksL_law_51 5 rfl rfl)
theorem dL_law_1389 : decode cL_law 1389 = .ok (.aload_n 0, 1) := dk_42 (dk_at dksL_law_51 6 rfl rfl)
theorem dL_law_1390 : decode cL_law 1390 = .ok (.iload 4, 2) := dk_21 4 (dk_at dksL_law_51 7 rfl rfl)
theorem dL_law_1392 : decode cL_law 1392 = .ok (.iconst 1, 1) := dk_4 (dk_at dksL_law_51 9 rfl rfl)
theorem dL_law_1393 : decode cL_law 1393 = .ok (.iadd, 1) := dk_96 (dk_at dksL_law_51 10 rfl rfl)
theorem dL_law_1394 : decode cL_law 1394 = .ok (.iaload, 1) := dk_46 (dk_at dksL_law_51 11 rfl rfl)
theorem dL_law_1395 : decode cL_law 1395 = .ok (.aload_n 0, 1) := dk_42 (dk_at dksL_law_51 12 rfl rfl)
theorem dL_law_1396 : decode cL_law 1396 = .ok (.iload 4, 2) := dk_21 4 (dk_at dksL_law_51 13 rfl rfl)
theorem dL_law_1398 : decode cL_law 1398 = .ok (.iconst 2, 1) := dk_5 (dk_at dksL_law_51 15 rfl rfl)
theorem dL_law_1399 : decode cL_law 1399 = .ok (.iadd, 1) := dk_96 (dk_at dksL_law_51 16 rfl rfl)
theorem dL_law_1400 : decode cL_law 1400 = .ok (.iaload, 1) := dk_46 (dk_at dksL_law_51 17 rfl rfl)
theorem dL_law_1401 : decode cL_law 1401 = .ok (.aload_n 0, 1) := dk_42 (dk_at dksL_law_51 18 rfl rfl)
theorem dL_law_1402 : decode cL_law 1402 = .ok (.iload 4, 2) := dk_21 4 (dk_at dksL_law_51 19 rfl rfl)
theorem dL_law_1404 : decode cL_law 1404 = .ok (.iconst 3, 1) := dk_6 (dk_at dksL_law_51 21 rfl rfl)
theorem dL_law_1405 : decode cL_law 1405 = .ok (.iadd, 1) := dk_96 (dk_at dksL_law_51 22 rfl rfl)
theorem dL_law_1406 : decode cL_law 1406 = .ok (.iaload, 1) := dk_46 (dk_at dksL_law_51 23 rfl rfl)
theorem dL_law_1407 : decode cL_law 1407 = .ok (.aload_n 0, 1) := dk_42 (dk_at dksL_law_52 0 rfl rfl)
theorem dL_law_1408 : decode cL_law 1408 = .ok (.iload 4, 2) := dk_21 4 (dk_at dksL_law_52 1 rfl rfl)
theorem dL_law_1410 : decode cL_law 1410 = .ok (.iconst 4, 1) := dk_7 (dk_at dksL_law_52 3 rfl rfl)
theorem dL_law_1411 : decode cL_law 1411 = .ok (.iadd, 1) := dk_96 (dk_at dksL_law_52 4 rfl rfl)
theorem dL_law_1412 : decode cL_law 1412 = .ok (.iaload, 1) := dk_46 (dk_at dksL_law_52 5 rfl rfl)
theorem dL_law_1413 : decode cL_law 1413 = .ok (.i2l, 1) := dk_133 (dk_at dksL_law_52 6 rfl rfl)
theorem dL_law_1414 : decode cL_law 1414 = .ok (.bipush 32, 2) := dk_16 32 (dk_at dksL_law_52 7 rfl rfl)
theorem dL_law_1416 : decode cL_law 1416 = .ok (.lshl, 1) := dk_121 (dk_at dksL_law_52 9 rfl rfl)
theorem dL_law_1417 : decode cL_law 1417 = .ok (.aload_n 0, 1) := dk_42 (dk_at dksL_law_52 10 rfl rfl)
theorem dL_law_1418 : decode cL_law 1418 = .ok (.iload 4, 2) := dk_21 4 (dk_at dksL_law_52 11 rfl rfl)
theorem dL_law_1420 : decode cL_law 1420 = .ok (.iconst 5, 1) := dk_8 (dk_at dksL_law_52 13 rfl rfl)
theorem dL_law_1421 : decode cL_law 1421 = .ok (.iadd, 1) := dk_96 (dk_at dksL_law_52 14 rfl rfl)
theorem dL_law_1422 : decode cL_law 1422 = .ok (.iaload, 1) := dk_46 (dk_at dksL_law_52 15 rfl rfl)
theorem dL_law_1423 : decode cL_law 1423 = .ok (.i2l, 1) := dk_133 (dk_at dksL_law_52 16 rfl rfl)
theorem dL_law_1424 : decode cL_law 1424 = .ok (.ldc2_w 241, 3) := dk_20 0 241 (dk_at dksL_law_52 17 rfl rfl)
theorem dL_law_1427 : decode cL_law 1427 = .ok (.land, 1) := dk_127 (dk_at dksL_law_52 20 rfl rfl)
theorem dL_law_1428 : decode cL_law 1428 = .ok (.lor, 1) := dk_129 (dk_at dksL_law_52 21 rfl rfl)
theorem dL_law_1429 : decode cL_law 1429 = .ok (.aload_n 3, 1) := dk_45 (dk_at dksL_law_52 22 rfl rfl)
theorem dL_law_1430 : decode cL_law 1430 = .ok (.invokestatic 243, 3) := dk_184 0 243 (dk_at dksL_law_53 0 rfl rfl)
theorem dL_law_1433 : decode cL_law 1433 = .ok (.istore 5, 2) := dk_54 5 (dk_at dksL_law_53 3 rfl rfl)
theorem dL_law_1435 : decode cL_law 1435 = .ok (.aload_n 2, 1) := dk_44 (dk_at dksL_law_53 5 rfl rfl)
theorem dL_law_1436 : decode cL_law 1436 = .ok (.aload_n 0, 1) := dk_42 (dk_at dksL_law_53 6 rfl rfl)
theorem dL_law_1437 : decode cL_law 1437 = .ok (.iload 4, 2) := dk_21 4 (dk_at dksL_law_53 7 rfl rfl)
theorem dL_law_1439 : decode cL_law 1439 = .ok (.iconst 1, 1) := dk_4 (dk_at dksL_law_53 9 rfl rfl)
theorem dL_law_1440 : decode cL_law 1440 = .ok (.iadd, 1) := dk_96 (dk_at dksL_law_53 10 rfl rfl)
theorem dL_law_1441 : decode cL_law 1441 = .ok (.iaload, 1) := dk_46 (dk_at dksL_law_53 11 rfl rfl)
theorem dL_law_1442 : decode cL_law 1442 = .ok (.aload_n 0, 1) := dk_42 (dk_at dksL_law_53 12 rfl rfl)
theorem dL_law_1443 : decode cL_law 1443 = .ok (.iload 4, 2) := dk_21 4 (dk_at dksL_law_53 13 rfl rfl)
theorem dL_law_1445 : decode cL_law 1445 = .ok (.iconst 2, 1) := dk_5 (dk_at dksL_law_53 15 rfl rfl)
theorem dL_law_1446 : decode cL_law 1446 = .ok (.iadd, 1) := dk_96 (dk_at dksL_law_53 16 rfl rfl)
theorem dL_law_1447 : decode cL_law 1447 = .ok (.iaload, 1) := dk_46 (dk_at dksL_law_53 17 rfl rfl)
theorem dL_law_1448 : decode cL_law 1448 = .ok (.aload_n 0, 1) := dk_42 (dk_at dksL_law_53 18 rfl rfl)
theorem dL_law_1449 : decode cL_law 1449 = .ok (.iload 4, 2) := dk_21 4 (dk_at dksL_law_53 19 rfl rfl)
theorem dL_law_1451 : decode cL_law 1451 = .ok (.iconst 3, 1) := dk_6 (dk_at dksL_law_53 21 rfl rfl)
theorem dL_law_1452 : decode cL_law 1452 = .ok (.iadd, 1) := dk_96 (dk_at dksL_law_53 22 rfl rfl)
theorem dL_law_1453 : decode cL_law 1453 = .ok (.iaload, 1) := dk_46 (dk_at dksL_law_53 23 rfl rfl)
theorem dL_law_1454 : decode cL_law 1454 = .ok (.aload_n 0, 1) := dk_42 (dk_at dksL_law_54 0 rfl rfl)
theorem dL_law_1455 : decode cL_law 1455 = .ok (.iload 4, 2) := dk_21 4 (dk_at dksL_law_54 1 rfl rfl)
theorem dL_law_1457 : decode cL_law 1457 = .ok (.iconst 4, 1) := dk_7 (dk_at dksL_law_54 3 rfl rfl)
theorem dL_law_1458 : decode cL_law 1458 = .ok (.iadd, 1) := dk_96 (dk_at dksL_law_54 4 rfl rfl)
theorem dL_law_1459 : decode cL_law 1459 = .ok (.iaload, 1) := dk_46 (dk_at dksL_law_54 5 rfl rfl)
theorem dL_law_1460 : decode cL_law 1460 = .ok (.i2l, 1) := dk_133 (dk_at dksL_law_54 6 rfl rfl)
theorem dL_law_1461 : decode cL_law 1461 = .ok (.bipush 32, 2) := dk_16 32 (dk_at dksL_law_54 7 rfl rfl)
theorem dL_law_1463 : decode cL_law 1463 = .ok (.lshl, 1) := dk_121 (dk_at dksL_law_54 9 rfl rfl)
theorem dL_law_1464 : decode cL_law 1464 = .ok (.aload_n 0, 1) := dk_42 (dk_at dksL_law_54 10 rfl rfl)
theorem dL_law_1465 : decode cL_law 1465 = .ok (.iload 4, 2) := dk_21 4 (dk_at dksL_law_54 11 rfl rfl)
theorem dL_law_1467 : decode cL_law 1467 = .ok (.iconst 5, 1) := dk_8 (dk_at dksL_law_54 13 rfl rfl)
theorem dL_law_1468 : decode cL_law 1468 = .ok (.iadd, 1) := dk_96 (dk_at dksL_law_54 14 rfl rfl)
theorem dL_law_1469 : decode cL_law 1469 = .ok (.iaload, 1) := dk_46 (dk_at dksL_law_54 15 rfl rfl)
theorem dL_law_1470 : decode cL_law 1470 = .ok (.i2l, 1) := dk_133 (dk_at dksL_law_54 16 rfl rfl)
theorem dL_law_1471 : decode cL_law 1471 = .ok (.ldc2_w 241, 3) := dk_20 0 241 (dk_at dksL_law_54 17 rfl rfl)
theorem dL_law_1474 : decode cL_law 1474 = .ok (.land, 1) := dk_127 (dk_at dksL_law_54 20 rfl rfl)
theorem dL_law_1475 : decode cL_law 1475 = .ok (.lor, 1) := dk_129 (dk_at dksL_law_54 21 rfl rfl)
theorem dL_law_1476 : decode cL_law 1476 = .ok (.invokevirtual 246, 3) := dk_182 0 246 (dk_at dksL_law_55 0 rfl rfl)
theorem dL_law_1479 : decode cL_law 1479 = .ok (.istore 6, 2) := dk_54 6 (dk_at dksL_law_55 3 rfl rfl)
theorem dL_law_1481 : decode cL_law 1481 = .ok (.aload_n 2, 1) := dk_44 (dk_at dksL_law_55 5 rfl rfl)
theorem dL_law_1482 : decode cL_law 1482 = .ok (.invokevirtual 148, 3) := dk_182 0 148 (dk_at dksL_law_55 6 rfl rfl)
theorem dL_law_1485 : decode cL_law 1485 = .ok (.iload 5, 2) := dk_21 5 (dk_at dksL_law_55 9 rfl rfl)
theorem dL_law_1487 : decode cL_law 1487 = .ok (.if_icmp .eq 5, 3) := dk_159 0 5 (dk_at dksL_law_55 11 rfl rfl)
theorem dL_law_1490 : decode cL_law 1490 = .ok (.iconst 0, 1) := dk_3 (dk_at dksL_law_55 14 rfl rfl)
theorem dL_law_1491 : decode cL_law 1491 = .ok (.ireturn, 1) := dk_172 (dk_at dksL_law_55 15 rfl rfl)
theorem dL_law_1492 : decode cL_law 1492 = .ok (.iload 5, 2) := dk_21 5 (dk_at dksL_law_55 16 rfl rfl)
theorem dL_law_1494 : decode cL_law 1494 = .ok (.ifCond .ne 15, 3) := dk_154 0 15 (dk_at dksL_law_55 18 rfl rfl)
theorem dL_law_1497 : decode cL_law 1497 = .ok (.aload_n 3, 1) := dk_45 (dk_at dksL_law_55 21 rfl rfl)
theorem dL_law_1498 : decode cL_law 1498 = .ok (.iconst 0, 1) := dk_3 (dk_at dksL_law_55 22 rfl rfl)
theorem dL_law_1499 : decode cL_law 1499 = .ok (.laload, 1) := dk_47 (dk_at dksL_law_55 23 rfl rfl)
theorem dL_law_1500 : decode cL_law 1500 = .ok (.iload 6, 2) := dk_21 6 (dk_at dksL_law_56 0 rfl rfl)
theorem dL_law_1502 : decode cL_law 1502 = .ok (.i2l, 1) := dk_133 (dk_at dksL_law_56 2 rfl rfl)
theorem dL_law_1503 : decode cL_law 1503 = .ok (.lcmp, 1) := dk_148 (dk_at dksL_law_56 3 rfl rfl)
theorem dL_law_1504 : decode cL_law 1504 = .ok (.ifCond .eq 5, 3) := dk_153 0 5 (dk_at dksL_law_56 4 rfl rfl)
theorem dL_law_1507 : decode cL_law 1507 = .ok (.iconst 0, 1) := dk_3 (dk_at dksL_law_56 7 rfl rfl)
theorem dL_law_1508 : decode cL_law 1508 = .ok (.ireturn, 1) := dk_172 (dk_at dksL_law_56 8 rfl rfl)
theorem dL_law_1509 : decode cL_law 1509 = .ok (.goto 1290, 3) := dk_167 5 10 (dk_at dksL_law_56 9 rfl rfl)
theorem dL_law_1512 : decode cL_law 1512 = .ok (.aload_n 1, 1) := dk_43 (dk_at dksL_law_56 12 rfl rfl)
theorem dL_law_1513 : decode cL_law 1513 = .ok (.aload_n 0, 1) := dk_42 (dk_at dksL_law_56 13 rfl rfl)
theorem dL_law_1514 : decode cL_law 1514 = .ok (.iload 4, 2) := dk_21 4 (dk_at dksL_law_56 14 rfl rfl)
theorem dL_law_1516 : decode cL_law 1516 = .ok (.iconst 1, 1) := dk_4 (dk_at dksL_law_56 16 rfl rfl)
theorem dL_law_1517 : decode cL_law 1517 = .ok (.iadd, 1) := dk_96 (dk_at dksL_law_56 17 rfl rfl)
theorem dL_law_1518 : decode cL_law 1518 = .ok (.iaload, 1) := dk_46 (dk_at dksL_law_56 18 rfl rfl)
theorem dL_law_1519 : decode cL_law 1519 = .ok (.aload_n 0, 1) := dk_42 (dk_at dksL_law_56 19 rfl rfl)
theorem dL_law_1520 : decode cL_law 1520 = .ok (.iload 4, 2) := dk_21 4 (dk_at dksL_law_56 20 rfl rfl)
theorem dL_law_1522 : decode cL_law 1522 = .ok (.iconst 2, 1) := dk_5 (dk_at dksL_law_56 22 rfl rfl)
theorem dL_law_1523 : decode cL_law 1523 = .ok (.iadd, 1) := dk_96 (dk_at dksL_law_56 23 rfl rfl)
theorem dL_law_1524 : decode cL_law 1524 = .ok (.iaload, 1) := dk_46 (dk_at dksL_law_57 0 rfl rfl)
theorem dL_law_1525 : decode cL_law 1525 = .ok (.aload_n 0, 1) := dk_42 (dk_at dksL_law_57 1 rfl rfl)
theorem dL_law_1526 : decode cL_law 1526 = .ok (.iload 4, 2) := dk_21 4 (dk_at dksL_law_57 2 rfl rfl)
theorem dL_law_1528 : decode cL_law 1528 = .ok (.iconst 3, 1) := dk_6 (dk_at dksL_law_57 4 rfl rfl)
theorem dL_law_1529 : decode cL_law 1529 = .ok (.iadd, 1) := dk_96 (dk_at dksL_law_57 5 rfl rfl)
theorem dL_law_1530 : decode cL_law 1530 = .ok (.iaload, 1) := dk_46 (dk_at dksL_law_57 6 rfl rfl)
theorem dL_law_1531 : decode cL_law 1531 = .ok (.aload_n 0, 1) := dk_42 (dk_at dksL_law_57 7 rfl rfl)
theorem dL_law_1532 : decode cL_law 1532 = .ok (.iload 4, 2) := dk_21 4 (dk_at dksL_law_57 8 rfl rfl)
theorem dL_law_1534 : decode cL_law 1534 = .ok (.iconst 4, 1) := dk_7 (dk_at dksL_law_57 10 rfl rfl)
theorem dL_law_1535 : decode cL_law 1535 = .ok (.iadd, 1) := dk_96 (dk_at dksL_law_57 11 rfl rfl)
theorem dL_law_1536 : decode cL_law 1536 = .ok (.iaload, 1) := dk_46 (dk_at dksL_law_57 12 rfl rfl)
theorem dL_law_1537 : decode cL_law 1537 = .ok (.aload_n 3, 1) := dk_45 (dk_at dksL_law_57 13 rfl rfl)
theorem dL_law_1538 : decode cL_law 1538 = .ok (.invokestatic 247, 3) := dk_184 0 247 (dk_at dksL_law_57 14 rfl rfl)
theorem dL_law_1541 : decode cL_law 1541 = .ok (.istore 5, 2) := dk_54 5 (dk_at dksL_law_57 17 rfl rfl)
theorem dL_law_1543 : decode cL_law 1543 = .ok (.aload_n 2, 1) := dk_44 (dk_at dksL_law_57 19 rfl rfl)
theorem dL_law_1544 : decode cL_law 1544 = .ok (.aload_n 0, 1) := dk_42 (dk_at dksL_law_57 20 rfl rfl)
theorem dL_law_1545 : decode cL_law 1545 = .ok (.iload 4, 2) := dk_21 4 (dk_at dksL_law_57 21 rfl rfl)
theorem dL_law_1547 : decode cL_law 1547 = .ok (.iconst 1, 1) := dk_4 (dk_at dksL_law_57 23 rfl rfl)
theorem dL_law_1548 : decode cL_law 1548 = .ok (.iadd, 1) := dk_96 (dk_at dksL_law_58 0 rfl rfl)
theorem dL_law_1549 : decode cL_law 1549 = .ok (.iaload, 1) := dk_46 (dk_at dksL_law_58 1 rfl rfl)
theorem dL_law_1550 : decode cL_law 1550 = .ok (.aload_n 0, 1) := dk_42 (dk_at dksL_law_58 2 rfl rfl)
theorem dL_law_1551 : decode cL_law 1551 = .ok (.iload 4, 2) := dk_21 4 (dk_at dksL_law_58 3 rfl rfl)
theorem dL_law_1553 : decode cL_law 1553 = .ok (.iconst 2, 1) := dk_5 (dk_at dksL_law_58 5 rfl rfl)
theorem dL_law_1554 : decode cL_law 1554 = .ok (.iadd, 1) := dk_96 (dk_at dksL_law_58 6 rfl rfl)
theorem dL_law_1555 : decode cL_law 1555 = .ok (.iaload, 1) := dk_46 (dk_at dksL_law_58 7 rfl rfl)
theorem dL_law_1556 : decode cL_law 1556 = .ok (.aload_n 0, 1) := dk_42 (dk_at dksL_law_58 8 rfl rfl)
theorem dL_law_1557 : decode cL_law 1557 = .ok (.iload 4, 2) := dk_21 4 (dk_at dksL_law_58 9 rfl rfl)
theorem dL_law_1559 : decode cL_law 1559 = .ok (.iconst 3, 1) := dk_6 (dk_at dksL_law_58 11 rfl rfl)
theorem dL_law_1560 : decode cL_law 1560 = .ok (.iadd, 1) := dk_96 (dk_at dksL_law_58 12 rfl rfl)
theorem dL_law_1561 : decode cL_law 1561 = .ok (.iaload, 1) := dk_46 (dk_at dksL_law_58 13 rfl rfl)
theorem dL_law_1562 : decode cL_law 1562 = .ok (.aload_n 0, 1) := dk_42 (dk_at dksL_law_58 14 rfl rfl)
theorem dL_law_1563 : decode cL_law 1563 = .ok (.iload 4, 2) := dk_21 4 (dk_at dksL_law_58 15 rfl rfl)
theorem dL_law_1565 : decode cL_law 1565 = .ok (.iconst 4, 1) := dk_7 (dk_at dksL_law_58 17 rfl rfl)
theorem dL_law_1566 : decode cL_law 1566 = .ok (.iadd, 1) := dk_96 (dk_at dksL_law_58 18 rfl rfl)
theorem dL_law_1567 : decode cL_law 1567 = .ok (.iaload, 1) := dk_46 (dk_at dksL_law_58 19 rfl rfl)
theorem dL_law_1568 : decode cL_law 1568 = .ok (.invokevirtual 250, 3) := dk_182 0 250 (dk_at dksL_law_58 20 rfl rfl)
theorem dL_law_1571 : decode cL_law 1571 = .ok (.lstore 6, 2) := dk_55 6 (dk_at dksL_law_59 0 rfl rfl)
theorem dL_law_1573 : decode cL_law 1573 = .ok (.aload_n 2, 1) := dk_44 (dk_at dksL_law_59 2 rfl rfl)
theorem dL_law_1574 : decode cL_law 1574 = .ok (.invokevirtual 148, 3) := dk_182 0 148 (dk_at dksL_law_59 3 rfl rfl)
theorem dL_law_1577 : decode cL_law 1577 = .ok (.iload 5, 2) := dk_21 5 (dk_at dksL_law_59 6 rfl rfl)
theorem dL_law_1579 : decode cL_law 1579 = .ok (.if_icmp .eq 5, 3) := dk_159 0 5 (dk_at dksL_law_59 8 rfl rfl)
theorem dL_law_1582 : decode cL_law 1582 = .ok (.iconst 0, 1) := dk_3 (dk_at dksL_law_59 11 rfl rfl)
theorem dL_law_1583 : decode cL_law 1583 = .ok (.ireturn, 1) := dk_172 (dk_at dksL_law_59 12 rfl rfl)
theorem dL_law_1584 : decode cL_law 1584 = .ok (.iload 5, 2) := dk_21 5 (dk_at dksL_law_59 13 rfl rfl)
theorem dL_law_1586 : decode cL_law 1586 = .ok (.ifCond .ne 14, 3) := dk_154 0 14 (dk_at dksL_law_59 15 rfl rfl)
theorem dL_law_1589 : decode cL_law 1589 = .ok (.aload_n 3, 1) := dk_45 (dk_at dksL_law_59 18 rfl rfl)
theorem dL_law_1590 : decode cL_law 1590 = .ok (.iconst 0, 1) := dk_3 (dk_at dksL_law_59 19 rfl rfl)
theorem dL_law_1591 : decode cL_law 1591 = .ok (.laload, 1) := dk_47 (dk_at dksL_law_59 20 rfl rfl)
theorem dL_law_1592 : decode cL_law 1592 = .ok (.lload 6, 2) := dk_22 6 (dk_at dksL_law_59 21 rfl rfl)
theorem dL_law_1594 : decode cL_law 1594 = .ok (.lcmp, 1) := dk_148 (dk_at dksL_law_59 23 rfl rfl)
theorem dL_law_1595 : decode cL_law 1595 = .ok (.ifCond .eq 5, 3) := dk_153 0 5 (dk_at dksL_law_60 0 rfl rfl)
theorem dL_law_1598 : decode cL_law 1598 = .ok (.iconst 0, 1) := dk_3 (dk_at dksL_law_60 3 rfl rfl)
theorem dL_law_1599 : decode cL_law 1599 = .ok (.ireturn, 1) := dk_172 (dk_at dksL_law_60 4 rfl rfl)
theorem dL_law_1600 : decode cL_law 1600 = .ok (.goto 1199, 3) := dk_167 4 175 (dk_at dksL_law_60 5 rfl rfl)
theorem dL_law_1603 : decode cL_law 1603 = .ok (.aload_n 1, 1) := dk_43 (dk_at dksL_law_60 8 rfl rfl)
theorem dL_law_1604 : decode cL_law 1604 = .ok (.aload_n 0, 1) := dk_42 (dk_at dksL_law_60 9 rfl rfl)
theorem dL_law_1605 : decode cL_law 1605 = .ok (.iload 4, 2) := dk_21 4 (dk_at dksL_law_60 10 rfl rfl)
theorem dL_law_1607 : decode cL_law 1607 = .ok (.iconst 1, 1) := dk_4 (dk_at dksL_law_60 12 rfl rfl)
theorem dL_law_1608 : decode cL_law 1608 = .ok (.iadd, 1) := dk_96 (dk_at dksL_law_60 13 rfl rfl)
theorem dL_law_1609 : decode cL_law 1609 = .ok (.iaload, 1) := dk_46 (dk_at dksL_law_60 14 rfl rfl)
theorem dL_law_1610 : decode cL_law 1610 = .ok (.aload_n 0, 1) := dk_42 (dk_at dksL_law_60 15 rfl rfl)
theorem dL_law_1611 : decode cL_law 1611 = .ok (.iload 4, 2) := dk_21 4 (dk_at dksL_law_60 16 rfl rfl)
theorem dL_law_1613 : decode cL_law 1613 = .ok (.iconst 2, 1) := dk_5 (dk_at dksL_law_60 18 rfl rfl)
theorem dL_law_1614 : decode cL_law 1614 = .ok (.iadd, 1) := dk_96 (dk_at dksL_law_60 19 rfl rfl)
theorem dL_law_1615 : decode cL_law 1615 = .ok (.iaload, 1) := dk_46 (dk_at dksL_law_60 20 rfl rfl)
theorem dL_law_1616 : decode cL_law 1616 = .ok (.aload_n 3, 1) := dk_45 (dk_at dksL_law_60 21 rfl rfl)
theorem dL_law_1617 : decode cL_law 1617 = .ok (.invokestatic 251, 3) := dk_184 0 251 (dk_at dksL_law_61 0 rfl rfl)
theorem dL_law_1620 : decode cL_law 1620 = .ok (.istore 5, 2) := dk_54 5 (dk_at dksL_law_61 3 rfl rfl)
theorem dL_law_1622 : decode cL_law 1622 = .ok (.aload_n 2, 1) := dk_44 (dk_at dksL_law_61 5 rfl rfl)
theorem dL_law_1623 : decode cL_law 1623 = .ok (.aload_n 0, 1) := dk_42 (dk_at dksL_law_61 6 rfl rfl)
theorem dL_law_1624 : decode cL_law 1624 = .ok (.iload 4, 2) := dk_21 4 (dk_at dksL_law_61 7 rfl rfl)
theorem dL_law_1626 : decode cL_law 1626 = .ok (.iconst 1, 1) := dk_4 (dk_at dksL_law_61 9 rfl rfl)
theorem dL_law_1627 : decode cL_law 1627 = .ok (.iadd, 1) := dk_96 (dk_at dksL_law_61 10 rfl rfl)
theorem dL_law_1628 : decode cL_law 1628 = .ok (.iaload, 1) := dk_46 (dk_at dksL_law_61 11 rfl rfl)
theorem dL_law_1629 : decode cL_law 1629 = .ok (.aload_n 0, 1) := dk_42 (dk_at dksL_law_61 12 rfl rfl)
theorem dL_law_1630 : decode cL_law 1630 = .ok (.iload 4, 2) := dk_21 4 (dk_at dksL_law_61 13 rfl rfl)
theorem dL_law_1632 : decode cL_law 1632 = .ok (.iconst 2, 1) := dk_5 (dk_at dksL_law_61 15 rfl rfl)
theorem dL_law_1633 : decode cL_law 1633 = .ok (.iadd, 1) := dk_96 (dk_at dksL_law_61 16 rfl rfl)
theorem dL_law_1634 : decode cL_law 1634 = .ok (.iaload, 1) := dk_46 (dk_at dksL_law_61 17 rfl rfl)
theorem dL_law_1635 : decode cL_law 1635 = .ok (.invokevirtual 253, 3) := dk_182 0 253 (dk_at dksL_law_61 18 rfl rfl)
theorem dL_law_1638 : decode cL_law 1638 = .ok (.istore 6, 2) := dk_54 6 (dk_at dksL_law_61 21 rfl rfl)
theorem dL_law_1640 : decode cL_law 1640 = .ok (.aload_n 2, 1) := dk_44 (dk_at dksL_law_61 23 rfl rfl)
theorem dL_law_1641 : decode cL_law 1641 = .ok (.invokevirtual 148, 3) := dk_182 0 148 (dk_at dksL_law_62 0 rfl rfl)
theorem dL_law_1644 : decode cL_law 1644 = .ok (.iload 5, 2) := dk_21 5 (dk_at dksL_law_62 3 rfl rfl)
theorem dL_law_1646 : decode cL_law 1646 = .ok (.if_icmp .eq 5, 3) := dk_159 0 5 (dk_at dksL_law_62 5 rfl rfl)
theorem dL_law_1649 : decode cL_law 1649 = .ok (.iconst 0, 1) := dk_3 (dk_at dksL_law_62 8 rfl rfl)
theorem dL_law_1650 : decode cL_law 1650 = .ok (.ireturn, 1) := dk_172 (dk_at dksL_law_62 9 rfl rfl)
theorem dL_law_1651 : decode cL_law 1651 = .ok (.iload 5, 2) := dk_21 5 (dk_at dksL_law_62 10 rfl rfl)
theorem dL_law_1653 : decode cL_law 1653 = .ok (.ifCond .ne 15, 3) := dk_154 0 15 (dk_at dksL_law_62 12 rfl rfl)
theorem dL_law_1656 : decode cL_law 1656 = .ok (.aload_n 3, 1) := dk_45 (dk_at dksL_law_62 15 rfl rfl)
theorem dL_law_1657 : decode cL_law 1657 = .ok (.iconst 0, 1) := dk_3 (dk_at dksL_law_62 16 rfl rfl)
theorem dL_law_1658 : decode cL_law 1658 = .ok (.laload, 1) := dk_47 (dk_at dksL_law_62 17 rfl rfl)
theorem dL_law_1659 : decode cL_law 1659 = .ok (.iload 6, 2) := dk_21 6 (dk_at dksL_law_62 18 rfl rfl)
theorem dL_law_1661 : decode cL_law 1661 = .ok (.i2l, 1) := dk_133 (dk_at dksL_law_62 20 rfl rfl)
theorem dL_law_1662 : decode cL_law 1662 = .ok (.lcmp, 1) := dk_148 (dk_at dksL_law_62 21 rfl rfl)
theorem dL_law_1663 : decode cL_law 1663 = .ok (.ifCond .eq 5, 3) := dk_153 0 5 (dk_at dksL_law_63 0 rfl rfl)
theorem dL_law_1666 : decode cL_law 1666 = .ok (.iconst 0, 1) := dk_3 (dk_at dksL_law_63 3 rfl rfl)
theorem dL_law_1667 : decode cL_law 1667 = .ok (.ireturn, 1) := dk_172 (dk_at dksL_law_63 4 rfl rfl)
theorem dL_law_1668 : decode cL_law 1668 = .ok (.goto 1131, 3) := dk_167 4 107 (dk_at dksL_law_63 5 rfl rfl)
theorem dL_law_1671 : decode cL_law 1671 = .ok (.aload_n 1, 1) := dk_43 (dk_at dksL_law_63 8 rfl rfl)
theorem dL_law_1672 : decode cL_law 1672 = .ok (.aload_n 0, 1) := dk_42 (dk_at dksL_law_63 9 rfl rfl)
theorem dL_law_1673 : decode cL_law 1673 = .ok (.iload 4, 2) := dk_21 4 (dk_at dksL_law_63 10 rfl rfl)
theorem dL_law_1675 : decode cL_law 1675 = .ok (.iconst 1, 1) := dk_4 (dk_at dksL_law_63 12 rfl rfl)
theorem dL_law_1676 : decode cL_law 1676 = .ok (.iadd, 1) := dk_96 (dk_at dksL_law_63 13 rfl rfl)
theorem dL_law_1677 : decode cL_law 1677 = .ok (.iaload, 1) := dk_46 (dk_at dksL_law_63 14 rfl rfl)
theorem dL_law_1678 : decode cL_law 1678 = .ok (.aload_n 0, 1) := dk_42 (dk_at dksL_law_63 15 rfl rfl)
theorem dL_law_1679 : decode cL_law 1679 = .ok (.iload 4, 2) := dk_21 4 (dk_at dksL_law_63 16 rfl rfl)
theorem dL_law_1681 : decode cL_law 1681 = .ok (.iconst 2, 1) := dk_5 (dk_at dksL_law_63 18 rfl rfl)
theorem dL_law_1682 : decode cL_law 1682 = .ok (.iadd, 1) := dk_96 (dk_at dksL_law_63 19 rfl rfl)
theorem dL_law_1683 : decode cL_law 1683 = .ok (.iaload, 1) := dk_46 (dk_at dksL_law_63 20 rfl rfl)
theorem dL_law_1684 : decode cL_law 1684 = .ok (.aload_n 3, 1) := dk_45 (dk_at dksL_law_63 21 rfl rfl)
theorem dL_law_1685 : decode cL_law 1685 = .ok (.invokestatic 254, 3) := dk_184 0 254 (dk_at dksL_law_64 0 rfl rfl)
theorem dL_law_1688 : decode cL_law 1688 = .ok (.istore 5, 2) := dk_54 5 (dk_at dksL_law_64 3 rfl rfl)
theorem dL_law_1690 : decode cL_law 1690 = .ok (.aload_n 2, 1) := dk_44 (dk_at dksL_law_64 5 rfl rfl)
theorem dL_law_1691 : decode cL_law 1691 = .ok (.aload_n 0, 1) := dk_42 (dk_at dksL_law_64 6 rfl rfl)
theorem dL_law_1692 : decode cL_law 1692 = .ok (.iload 4, 2) := dk_21 4 (dk_at dksL_law_64 7 rfl rfl)
theorem dL_law_1694 : decode cL_law 1694 = .ok (.iconst 1, 1) := dk_4 (dk_at dksL_law_64 9 rfl rfl)
theorem dL_law_1695 : decode cL_law 1695 = .ok (.iadd, 1) := dk_96 (dk_at dksL_law_64 10 rfl rfl)
theorem dL_law_1696 : decode cL_law 1696 = .ok (.iaload, 1) := dk_46 (dk_at dksL_law_64 11 rfl rfl)
theorem dL_law_1697 : decode cL_law 1697 = .ok (.aload_n 0, 1) := dk_42 (dk_at dksL_law_64 12 rfl rfl)
theorem dL_law_1698 : decode cL_law 1698 = .ok (.iload 4, 2) := dk_21 4 (dk_at dksL_law_64 13 rfl rfl)
theorem dL_law_1700 : decode cL_law 1700 = .ok (.iconst 2, 1) := dk_5 (dk_at dksL_law_64 15 rfl rfl)
theorem dL_law_1701 : decode cL_law 1701 = .ok (.iadd, 1) := dk_96 (dk_at dksL_law_64 16 rfl rfl)
theorem dL_law_1702 : decode cL_law 1702 = .ok (.iaload, 1) := dk_46 (dk_at dksL_law_64 17 rfl rfl)
theorem dL_law_1703 : decode cL_law 1703 = .ok (.invokevirtual 256, 3) := dk_182 1 0 (dk_at dksL_law_64 18 rfl rfl)
theorem dL_law_1706 : decode cL_law 1706 = .ok (.istore 6, 2) := dk_54 6 (dk_at dksL_law_64 21 rfl rfl)
theorem dL_law_1708 : decode cL_law 1708 = .ok (.aload_n 2, 1) := dk_44 (dk_at dksL_law_64 23 rfl rfl)
theorem dL_law_1709 : decode cL_law 1709 = .ok (.invokevirtual 148, 3) := dk_182 0 148 (dk_at dksL_law_65 0 rfl rfl)
theorem dL_law_1712 : decode cL_law 1712 = .ok (.iload 5, 2) := dk_21 5 (dk_at dksL_law_65 3 rfl rfl)
theorem dL_law_1714 : decode cL_law 1714 = .ok (.if_icmp .eq 5, 3) := dk_159 0 5 (dk_at dksL_law_65 5 rfl rfl)
theorem dL_law_1717 : decode cL_law 1717 = .ok (.iconst 0, 1) := dk_3 (dk_at dksL_law_65 8 rfl rfl)
theorem dL_law_1718 : decode cL_law 1718 = .ok (.ireturn, 1) := dk_172 (dk_at dksL_law_65 9 rfl rfl)
theorem dL_law_1719 : decode cL_law 1719 = .ok (.iload 5, 2) := dk_21 5 (dk_at dksL_law_65 10 rfl rfl)
theorem dL_law_1721 : decode cL_law 1721 = .ok (.ifCond .ne 15, 3) := dk_154 0 15 (dk_at dksL_law_65 12 rfl rfl)
theorem dL_law_1724 : decode cL_law 1724 = .ok (.aload_n 3, 1) := dk_45 (dk_at dksL_law_65 15 rfl rfl)
theorem dL_law_1725 : decode cL_law 1725 = .ok (.iconst 0, 1) := dk_3 (dk_at dksL_law_65 16 rfl rfl)
theorem dL_law_1726 : decode cL_law 1726 = .ok (.laload, 1) := dk_47 (dk_at dksL_law_65 17 rfl rfl)
theorem dL_law_1727 : decode cL_law 1727 = .ok (.iload 6, 2) := dk_21 6 (dk_at dksL_law_65 18 rfl rfl)
theorem dL_law_1729 : decode cL_law 1729 = .ok (.i2l, 1) := dk_133 (dk_at dksL_law_65 20 rfl rfl)
theorem dL_law_1730 : decode cL_law 1730 = .ok (.lcmp, 1) := dk_148 (dk_at dksL_law_65 21 rfl rfl)
theorem dL_law_1731 : decode cL_law 1731 = .ok (.ifCond .eq 5, 3) := dk_153 0 5 (dk_at dksL_law_66 0 rfl rfl)
theorem dL_law_1734 : decode cL_law 1734 = .ok (.iconst 0, 1) := dk_3 (dk_at dksL_law_66 3 rfl rfl)
theorem dL_law_1735 : decode cL_law 1735 = .ok (.ireturn, 1) := dk_172 (dk_at dksL_law_66 4 rfl rfl)
theorem dL_law_1736 : decode cL_law 1736 = .ok (.goto 1063, 3) := dk_167 4 39 (dk_at dksL_law_66 5 rfl rfl)
theorem dL_law_1739 : decode cL_law 1739 = .ok (.aload_n 1, 1) := dk_43 (dk_at dksL_law_66 8 rfl rfl)
theorem dL_law_1740 : decode cL_law 1740 = .ok (.aload_n 0, 1) := dk_42 (dk_at dksL_law_66 9 rfl rfl)
theorem dL_law_1741 : decode cL_law 1741 = .ok (.iload 4, 2) := dk_21 4 (dk_at dksL_law_66 10 rfl rfl)
theorem dL_law_1743 : decode cL_law 1743 = .ok (.iconst 1, 1) := dk_4 (dk_at dksL_law_66 12 rfl rfl)
theorem dL_law_1744 : decode cL_law 1744 = .ok (.iadd, 1) := dk_96 (dk_at dksL_law_66 13 rfl rfl)
theorem dL_law_1745 : decode cL_law 1745 = .ok (.iaload, 1) := dk_46 (dk_at dksL_law_66 14 rfl rfl)
theorem dL_law_1746 : decode cL_law 1746 = .ok (.aload_n 3, 1) := dk_45 (dk_at dksL_law_66 15 rfl rfl)
theorem dL_law_1747 : decode cL_law 1747 = .ok (.invokestatic 257, 3) := dk_184 1 1 (dk_at dksL_law_66 16 rfl rfl)
theorem dL_law_1750 : decode cL_law 1750 = .ok (.istore 5, 2) := dk_54 5 (dk_at dksL_law_66 19 rfl rfl)
theorem dL_law_1752 : decode cL_law 1752 = .ok (.aload_n 2, 1) := dk_44 (dk_at dksL_law_66 21 rfl rfl)
theorem dL_law_1753 : decode cL_law 1753 = .ok (.aload_n 0, 1) := dk_42 (dk_at dksL_law_66 22 rfl rfl)
theorem dL_law_1754 : decode cL_law 1754 = .ok (.iload 4, 2) := dk_21 4 (dk_at dksL_law_67 0 rfl rfl)
theorem dL_law_1756 : decode cL_law 1756 = .ok (.iconst 1, 1) := dk_4 (dk_at dksL_law_67 2 rfl rfl)
theorem dL_law_1757 : decode cL_law 1757 = .ok (.iadd, 1) := dk_96 (dk_at dksL_law_67 3 rfl rfl)
theorem dL_law_1758 : decode cL_law 1758 = .ok (.iaload, 1) := dk_46 (dk_at dksL_law_67 4 rfl rfl)
theorem dL_law_1759 : decode cL_law 1759 = .ok (.invokevirtual 259, 3) := dk_182 1 3 (dk_at dksL_law_67 5 rfl rfl)
theorem dL_law_1762 : decode cL_law 1762 = .ok (.istore 6, 2) := dk_54 6 (dk_at dksL_law_67 8 rfl rfl)
theorem dL_law_1764 : decode cL_law 1764 = .ok (.aload_n 2, 1) := dk_44 (dk_at dksL_law_67 10 rfl rfl)
theorem dL_law_1765 : decode cL_law 1765 = .ok (.invokevirtual 148, 3) := dk_182 0 148 (dk_at dksL_law_67 11 rfl rfl)
theorem dL_law_1768 : decode cL_law 1768 = .ok (.iload 5, 2) := dk_21 5 (dk_at dksL_law_67 14 rfl rfl)
theorem dL_law_1770 : decode cL_law 1770 = .ok (.if_icmp .eq 5, 3) := dk_159 0 5 (dk_at dksL_law_67 16 rfl rfl)
theorem dL_law_1773 : decode cL_law 1773 = .ok (.iconst 0, 1) := dk_3 (dk_at dksL_law_67 19 rfl rfl)
theorem dL_law_1774 : decode cL_law 1774 = .ok (.ireturn, 1) := dk_172 (dk_at dksL_law_67 20 rfl rfl)
theorem dL_law_1775 : decode cL_law 1775 = .ok (.iload 5, 2) := dk_21 5 (dk_at dksL_law_67 21 rfl rfl)
theorem dL_law_1777 : decode cL_law 1777 = .ok (.ifCond .ne 15, 3) := dk_154 0 15 (dk_at dksL_law_68 0 rfl rfl)
theorem dL_law_1780 : decode cL_law 1780 = .ok (.aload_n 3, 1) := dk_45 (dk_at dksL_law_68 3 rfl rfl)
theorem dL_law_1781 : decode cL_law 1781 = .ok (.iconst 0, 1) := dk_3 (dk_at dksL_law_68 4 rfl rfl)
theorem dL_law_1782 : decode cL_law 1782 = .ok (.laload, 1) := dk_47 (dk_at dksL_law_68 5 rfl rfl)
theorem dL_law_1783 : decode cL_law 1783 = .ok (.iload 6, 2) := dk_21 6 (dk_at dksL_law_68 6 rfl rfl)
theorem dL_law_1785 : decode cL_law 1785 = .ok (.i2l, 1) := dk_133 (dk_at dksL_law_68 8 rfl rfl)
theorem dL_law_1786 : decode cL_law 1786 = .ok (.lcmp, 1) := dk_148 (dk_at dksL_law_68 9 rfl rfl)
theorem dL_law_1787 : decode cL_law 1787 = .ok (.ifCond .eq 5, 3) := dk_153 0 5 (dk_at dksL_law_68 10 rfl rfl)
theorem dL_law_1790 : decode cL_law 1790 = .ok (.iconst 0, 1) := dk_3 (dk_at dksL_law_68 13 rfl rfl)
theorem dL_law_1791 : decode cL_law 1791 = .ok (.ireturn, 1) := dk_172 (dk_at dksL_law_68 14 rfl rfl)
theorem dL_law_1792 : decode cL_law 1792 = .ok (.goto 1007, 3) := dk_167 3 239 (dk_at dksL_law_68 15 rfl rfl)
theorem dL_law_1795 : decode cL_law 1795 = .ok (.aload_n 1, 1) := dk_43 (dk_at dksL_law_68 18 rfl rfl)
theorem dL_law_1796 : decode cL_law 1796 = .ok (.aload_n 0, 1) := dk_42 (dk_at dksL_law_68 19 rfl rfl)
theorem dL_law_1797 : decode cL_law 1797 = .ok (.iload 4, 2) := dk_21 4 (dk_at dksL_law_68 20 rfl rfl)
theorem dL_law_1799 : decode cL_law 1799 = .ok (.iconst 1, 1) := dk_4 (dk_at dksL_law_68 22 rfl rfl)
theorem dL_law_1800 : decode cL_law 1800 = .ok (.iadd, 1) := dk_96 (dk_at dksL_law_68 23 rfl rfl)
theorem dL_law_1801 : decode cL_law 1801 = .ok (.iaload, 1) := dk_46 (dk_at dksL_law_69 0 rfl rfl)
theorem dL_law_1802 : decode cL_law 1802 = .ok (.aload_n 3, 1) := dk_45 (dk_at dksL_law_69 1 rfl rfl)
theorem dL_law_1803 : decode cL_law 1803 = .ok (.invokestatic 260, 3) := dk_184 1 4 (dk_at dksL_law_69 2 rfl rfl)
theorem dL_law_1806 : decode cL_law 1806 = .ok (.istore 5, 2) := dk_54 5 (dk_at dksL_law_69 5 rfl rfl)
theorem dL_law_1808 : decode cL_law 1808 = .ok (.aload_n 2, 1) := dk_44 (dk_at dksL_law_69 7 rfl rfl)
theorem dL_law_1809 : decode cL_law 1809 = .ok (.aload_n 0, 1) := dk_42 (dk_at dksL_law_69 8 rfl rfl)
theorem dL_law_1810 : decode cL_law 1810 = .ok (.iload 4, 2) := dk_21 4 (dk_at dksL_law_69 9 rfl rfl)
theorem dL_law_1812 : decode cL_law 1812 = .ok (.iconst 1, 1) := dk_4 (dk_at dksL_law_69 11 rfl rfl)
theorem dL_law_1813 : decode cL_law 1813 = .ok (.iadd, 1) := dk_96 (dk_at dksL_law_69 12 rfl rfl)
theorem dL_law_1814 : decode cL_law 1814 = .ok (.iaload, 1) := dk_46 (dk_at dksL_law_69 13 rfl rfl)
theorem dL_law_1815 : decode cL_law 1815 = .ok (.invokevirtual 262, 3) := dk_182 1 6 (dk_at dksL_law_69 14 rfl rfl)
theorem dL_law_1818 : decode cL_law 1818 = .ok (.istore 6, 2) := dk_54 6 (dk_at dksL_law_69 17 rfl rfl)
theorem dL_law_1820 : decode cL_law 1820 = .ok (.aload_n 2, 1) := dk_44 (dk_at dksL_law_69 19 rfl rfl)
theorem dL_law_1821 : decode cL_law 1821 = .ok (.invokevirtual 148, 3) := dk_182 0 148 (dk_at dksL_law_69 20 rfl rfl)
theorem dL_law_1824 : decode cL_law 1824 = .ok (.iload 5, 2) := dk_21 5 (dk_at dksL_law_70 0 rfl rfl)
theorem dL_law_1826 : decode cL_law 1826 = .ok (.if_icmp .eq 5, 3) := dk_159 0 5 (dk_at dksL_law_70 2 rfl rfl)
theorem dL_law_1829 : decode cL_law 1829 = .ok (.iconst 0, 1) := dk_3 (dk_at dksL_law_70 5 rfl rfl)
theorem dL_law_1830 : decode cL_law 1830 = .ok (.ireturn, 1) := dk_172 (dk_at dksL_law_70 6 rfl rfl)
theorem dL_law_1831 : decode cL_law 1831 = .ok (.iload 5, 2) := dk_21 5 (dk_at dksL_law_70 7 rfl rfl)
theorem dL_law_1833 : decode cL_law 1833 = .ok (.ifCond .ne 15, 3) := dk_154 0 15 (dk_at dksL_law_70 9 rfl rfl)
theorem dL_law_1836 : decode cL_law 1836 = .ok (.aload_n 3, 1) := dk_45 (dk_at dksL_law_70 12 rfl rfl)
theorem dL_law_1837 : decode cL_law 1837 = .ok (.iconst 0, 1) := dk_3 (dk_at dksL_law_70 13 rfl rfl)
theorem dL_law_1838 : decode cL_law 1838 = .ok (.laload, 1) := dk_47 (dk_at dksL_law_70 14 rfl rfl)
theorem dL_law_1839 : decode cL_law 1839 = .ok (.iload 6, 2) := dk_21 6 (dk_at dksL_law_70 15 rfl rfl)
theorem dL_law_1841 : decode cL_law 1841 = .ok (.i2l, 1) := dk_133 (dk_at dksL_law_70 17 rfl rfl)
theorem dL_law_1842 : decode cL_law 1842 = .ok (.lcmp, 1) := dk_148 (dk_at dksL_law_70 18 rfl rfl)
theorem dL_law_1843 : decode cL_law 1843 = .ok (.ifCond .eq 5, 3) := dk_153 0 5 (dk_at dksL_law_70 19 rfl rfl)
theorem dL_law_1846 : decode cL_law 1846 = .ok (.iconst 0, 1) := dk_3 (dk_at dksL_law_70 22 rfl rfl)
theorem dL_law_1847 : decode cL_law 1847 = .ok (.ireturn, 1) := dk_172 (dk_at dksL_law_70 23 rfl rfl)
theorem dL_law_1848 : decode cL_law 1848 = .ok (.goto 951, 3) := dk_167 3 183 (dk_at dksL_law_71 0 rfl rfl)
theorem dL_law_1851 : decode cL_law 1851 = .ok (.aload_n 1, 1) := dk_43 (dk_at dksL_law_71 3 rfl rfl)
theorem dL_law_1852 : decode cL_law 1852 = .ok (.aload_n 0, 1) := dk_42 (dk_at dksL_law_71 4 rfl rfl)
theorem dL_law_1853 : decode cL_law 1853 = .ok (.iload 4, 2) := dk_21 4 (dk_at dksL_law_71 5 rfl rfl)
theorem dL_law_1855 : decode cL_law 1855 = .ok (.iconst 1, 1) := dk_4 (dk_at dksL_law_71 7 rfl rfl)
theorem dL_law_1856 : decode cL_law 1856 = .ok (.iadd, 1) := dk_96 (dk_at dksL_law_71 8 rfl rfl)
theorem dL_law_1857 : decode cL_law 1857 = .ok (.iaload, 1) := dk_46 (dk_at dksL_law_71 9 rfl rfl)
theorem dL_law_1858 : decode cL_law 1858 = .ok (.aload_n 3, 1) := dk_45 (dk_at dksL_law_71 10 rfl rfl)
theorem dL_law_1859 : decode cL_law 1859 = .ok (.invokestatic 263, 3) := dk_184 1 7 (dk_at dksL_law_71 11 rfl rfl)
theorem dL_law_1862 : decode cL_law 1862 = .ok (.istore 5, 2) := dk_54 5 (dk_at dksL_law_71 14 rfl rfl)
theorem dL_law_1864 : decode cL_law 1864 = .ok (.aload_n 2, 1) := dk_44 (dk_at dksL_law_71 16 rfl rfl)
theorem dL_law_1865 : decode cL_law 1865 = .ok (.aload_n 0, 1) := dk_42 (dk_at dksL_law_71 17 rfl rfl)
theorem dL_law_1866 : decode cL_law 1866 = .ok (.iload 4, 2) := dk_21 4 (dk_at dksL_law_71 18 rfl rfl)
theorem dL_law_1868 : decode cL_law 1868 = .ok (.iconst 1, 1) := dk_4 (dk_at dksL_law_71 20 rfl rfl)
theorem dL_law_1869 : decode cL_law 1869 = .ok (.iadd, 1) := dk_96 (dk_at dksL_law_71 21 rfl rfl)
theorem dL_law_1870 : decode cL_law 1870 = .ok (.iaload, 1) := dk_46 (dk_at dksL_law_71 22 rfl rfl)
theorem dL_law_1871 : decode cL_law 1871 = .ok (.invokevirtual 265, 3) := dk_182 1 9 (dk_at dksL_law_72 0 rfl rfl)
theorem dL_law_1874 : decode cL_law 1874 = .ok (.istore 6, 2) := dk_54 6 (dk_at dksL_law_72 3 rfl rfl)
theorem dL_law_1876 : decode cL_law 1876 = .ok (.aload_n 2, 1) := dk_44 (dk_at dksL_law_72 5 rfl rfl)
theorem dL_law_1877 : decode cL_law 1877 = .ok (.invokevirtual 148, 3) := dk_182 0 148 (dk_at dksL_law_72 6 rfl rfl)
theorem dL_law_1880 : decode cL_law 1880 = .ok (.iload 5, 2) := dk_21 5 (dk_at dksL_law_72 9 rfl rfl)
theorem dL_law_1882 : decode cL_law 1882 = .ok (.if_icmp .eq 5, 3) := dk_159 0 5 (dk_at dksL_law_72 11 rfl rfl)
theorem dL_law_1885 : decode cL_law 1885 = .ok (.iconst 0, 1) := dk_3 (dk_at dksL_law_72 14 rfl rfl)
theorem dL_law_1886 : decode cL_law 1886 = .ok (.ireturn, 1) := dk_172 (dk_at dksL_law_72 15 rfl rfl)
theorem dL_law_1887 : decode cL_law 1887 = .ok (.iload 5, 2) := dk_21 5 (dk_at dksL_law_72 16 rfl rfl)
theorem dL_law_1889 : decode cL_law 1889 = .ok (.ifCond .ne 22, 3) := dk_154 0 22 (dk_at dksL_law_72 18 rfl rfl)
theorem dL_law_1892 : decode cL_law 1892 = .ok (.aload_n 3, 1) := dk_45 (dk_at dksL_law_72 21 rfl rfl)
theorem dL_law_1893 : decode cL_law 1893 = .ok (.iconst 0, 1) := dk_3 (dk_at dksL_law_72 22 rfl rfl)
theorem dL_law_1894 : decode cL_law 1894 = .ok (.laload, 1) := dk_47 (dk_at dksL_law_72 23 rfl rfl)
theorem dL_law_1895 : decode cL_law 1895 = .ok (.iload 6, 2) := dk_21 6 (dk_at dksL_law_73 0 rfl rfl)
theorem dL_law_1897 : decode cL_law 1897 = .ok (.ifCond .eq 7, 3) := dk_153 0 7 (dk_at dksL_law_73 2 rfl rfl)
theorem dL_law_1900 : decode cL_law 1900 = .ok (.lconst 1, 1) := dk_10 (dk_at dksL_law_73 5 rfl rfl)
theorem dL_law_1901 : decode cL_law 1901 = .ok (.goto 4, 3) := dk_167 0 4 (dk_at dksL_law_73 6 rfl rfl)
theorem dL_law_1904 : decode cL_law 1904 = .ok (.lconst 0, 1) := dk_9 (dk_at dksL_law_73 9 rfl rfl)
theorem dL_law_1905 : decode cL_law 1905 = .ok (.lcmp, 1) := dk_148 (dk_at dksL_law_73 10 rfl rfl)
theorem dL_law_1906 : decode cL_law 1906 = .ok (.ifCond .eq 5, 3) := dk_153 0 5 (dk_at dksL_law_73 11 rfl rfl)
theorem dL_law_1909 : decode cL_law 1909 = .ok (.iconst 0, 1) := dk_3 (dk_at dksL_law_73 14 rfl rfl)
theorem dL_law_1910 : decode cL_law 1910 = .ok (.ireturn, 1) := dk_172 (dk_at dksL_law_73 15 rfl rfl)
theorem dL_law_1911 : decode cL_law 1911 = .ok (.goto 888, 3) := dk_167 3 120 (dk_at dksL_law_73 16 rfl rfl)
theorem dL_law_1914 : decode cL_law 1914 = .ok (.aload_n 1, 1) := dk_43 (dk_at dksL_law_73 19 rfl rfl)
theorem dL_law_1915 : decode cL_law 1915 = .ok (.aload_n 0, 1) := dk_42 (dk_at dksL_law_73 20 rfl rfl)
theorem dL_law_1916 : decode cL_law 1916 = .ok (.iload 4, 2) := dk_21 4 (dk_at dksL_law_73 21 rfl rfl)
theorem dL_law_1918 : decode cL_law 1918 = .ok (.iconst 1, 1) := dk_4 (dk_at dksL_law_73 23 rfl rfl)
theorem dL_law_1919 : decode cL_law 1919 = .ok (.iadd, 1) := dk_96 (dk_at dksL_law_74 0 rfl rfl)
theorem dL_law_1920 : decode cL_law 1920 = .ok (.iaload, 1) := dk_46 (dk_at dksL_law_74 1 rfl rfl)
theorem dL_law_1921 : decode cL_law 1921 = .ok (.aload_n 0, 1) := dk_42 (dk_at dksL_law_74 2 rfl rfl)
theorem dL_law_1922 : decode cL_law 1922 = .ok (.iload 4, 2) := dk_21 4 (dk_at dksL_law_74 3 rfl rfl)
theorem dL_law_1924 : decode cL_law 1924 = .ok (.iconst 2, 1) := dk_5 (dk_at dksL_law_74 5 rfl rfl)
theorem dL_law_1925 : decode cL_law 1925 = .ok (.iadd, 1) := dk_96 (dk_at dksL_law_74 6 rfl rfl)
theorem dL_law_1926 : decode cL_law 1926 = .ok (.iaload, 1) := dk_46 (dk_at dksL_law_74 7 rfl rfl)
theorem dL_law_1927 : decode cL_law 1927 = .ok (.aload_n 3, 1) := dk_45 (dk_at dksL_law_74 8 rfl rfl)
theorem dL_law_1928 : decode cL_law 1928 = .ok (.invokestatic 266, 3) := dk_184 1 10 (dk_at dksL_law_74 9 rfl rfl)
theorem dL_law_1931 : decode cL_law 1931 = .ok (.istore 5, 2) := dk_54 5 (dk_at dksL_law_74 12 rfl rfl)
theorem dL_law_1933 : decode cL_law 1933 = .ok (.aload_n 2, 1) := dk_44 (dk_at dksL_law_74 14 rfl rfl)
theorem dL_law_1934 : decode cL_law 1934 = .ok (.aload_n 0, 1) := dk_42 (dk_at dksL_law_74 15 rfl rfl)
theorem dL_law_1935 : decode cL_law 1935 = .ok (.iload 4, 2) := dk_21 4 (dk_at dksL_law_74 16 rfl rfl)
theorem dL_law_1937 : decode cL_law 1937 = .ok (.iconst 1, 1) := dk_4 (dk_at dksL_law_74 18 rfl rfl)
theorem dL_law_1938 : decode cL_law 1938 = .ok (.iadd, 1) := dk_96 (dk_at dksL_law_74 19 rfl rfl)
theorem dL_law_1939 : decode cL_law 1939 = .ok (.iaload, 1) := dk_46 (dk_at dksL_law_74 20 rfl rfl)
theorem dL_law_1940 : decode cL_law 1940 = .ok (.aload_n 0, 1) := dk_42 (dk_at dksL_law_74 21 rfl rfl)
theorem dL_law_1941 : decode cL_law 1941 = .ok (.iload 4, 2) := dk_21 4 (dk_at dksL_law_74 22 rfl rfl)
theorem dL_law_1943 : decode cL_law 1943 = .ok (.iconst 2, 1) := dk_5 (dk_at dksL_law_75 0 rfl rfl)
theorem dL_law_1944 : decode cL_law 1944 = .ok (.iadd, 1) := dk_96 (dk_at dksL_law_75 1 rfl rfl)
theorem dL_law_1945 : decode cL_law 1945 = .ok (.iaload, 1) := dk_46 (dk_at dksL_law_75 2 rfl rfl)
theorem dL_law_1946 : decode cL_law 1946 = .ok (.invokevirtual 268, 3) := dk_182 1 12 (dk_at dksL_law_75 3 rfl rfl)
theorem dL_law_1949 : decode cL_law 1949 = .ok (.istore 6, 2) := dk_54 6 (dk_at dksL_law_75 6 rfl rfl)
theorem dL_law_1951 : decode cL_law 1951 = .ok (.aload_n 2, 1) := dk_44 (dk_at dksL_law_75 8 rfl rfl)
theorem dL_law_1952 : decode cL_law 1952 = .ok (.invokevirtual 148, 3) := dk_182 0 148 (dk_at dksL_law_75 9 rfl rfl)
theorem dL_law_1955 : decode cL_law 1955 = .ok (.iload 5, 2) := dk_21 5 (dk_at dksL_law_75 12 rfl rfl)
theorem dL_law_1957 : decode cL_law 1957 = .ok (.if_icmp .eq 5, 3) := dk_159 0 5 (dk_at dksL_law_75 14 rfl rfl)
theorem dL_law_1960 : decode cL_law 1960 = .ok (.iconst 0, 1) := dk_3 (dk_at dksL_law_75 17 rfl rfl)
theorem dL_law_1961 : decode cL_law 1961 = .ok (.ireturn, 1) := dk_172 (dk_at dksL_law_75 18 rfl rfl)
theorem dL_law_1962 : decode cL_law 1962 = .ok (.iload 5, 2) := dk_21 5 (dk_at dksL_law_75 19 rfl rfl)
theorem dL_law_1964 : decode cL_law 1964 = .ok (.ifCond .ne 15, 3) := dk_154 0 15 (dk_at dksL_law_75 21 rfl rfl)
theorem dL_law_1967 : decode cL_law 1967 = .ok (.aload_n 3, 1) := dk_45 (dk_at dksL_law_76 0 rfl rfl)
theorem dL_law_1968 : decode cL_law 1968 = .ok (.iconst 0, 1) := dk_3 (dk_at dksL_law_76 1 rfl rfl)
theorem dL_law_1969 : decode cL_law 1969 = .ok (.laload, 1) := dk_47 (dk_at dksL_law_76 2 rfl rfl)
theorem dL_law_1970 : decode cL_law 1970 = .ok (.iload 6, 2) := dk_21 6 (dk_at dksL_law_76 3 rfl rfl)
theorem dL_law_1972 : decode cL_law 1972 = .ok (.i2l, 1) := dk_133 (dk_at dksL_law_76 5 rfl rfl)
theorem dL_law_1973 : decode cL_law 1973 = .ok (.lcmp, 1) := dk_148 (dk_at dksL_law_76 6 rfl rfl)
theorem dL_law_1974 : decode cL_law 1974 = .ok (.ifCond .eq 5, 3) := dk_153 0 5 (dk_at dksL_law_76 7 rfl rfl)
theorem dL_law_1977 : decode cL_law 1977 = .ok (.iconst 0, 1) := dk_3 (dk_at dksL_law_76 10 rfl rfl)
theorem dL_law_1978 : decode cL_law 1978 = .ok (.ireturn, 1) := dk_172 (dk_at dksL_law_76 11 rfl rfl)
theorem dL_law_1979 : decode cL_law 1979 = .ok (.goto 820, 3) := dk_167 3 52 (dk_at dksL_law_76 12 rfl rfl)
theorem dL_law_1982 : decode cL_law 1982 = .ok (.aload_n 1, 1) := dk_43 (dk_at dksL_law_76 15 rfl rfl)
theorem dL_law_1983 : decode cL_law 1983 = .ok (.aload_n 0, 1) := dk_42 (dk_at dksL_law_76 16 rfl rfl)
theorem dL_law_1984 : decode cL_law 1984 = .ok (.iload 4, 2) := dk_21 4 (dk_at dksL_law_76 17 rfl rfl)
theorem dL_law_1986 : decode cL_law 1986 = .ok (.iconst 1, 1) := dk_4 (dk_at dksL_law_76 19 rfl rfl)
theorem dL_law_1987 : decode cL_law 1987 = .ok (.iadd, 1) := dk_96 (dk_at dksL_law_76 20 rfl rfl)
theorem dL_law_1988 : decode cL_law 1988 = .ok (.iaload, 1) := dk_46 (dk_at dksL_law_76 21 rfl rfl)
theorem dL_law_1989 : decode cL_law 1989 = .ok (.aload_n 0, 1) := dk_42 (dk_at dksL_law_76 22 rfl rfl)
theorem dL_law_1990 : decode cL_law 1990 = .ok (.iload 4, 2) := dk_21 4 (dk_at dksL_law_77 0 rfl rfl)
theorem dL_law_1992 : decode cL_law 1992 = .ok (.iconst 2, 1) := dk_5 (dk_at dksL_law_77 2 rfl rfl)
theorem dL_law_1993 : decode cL_law 1993 = .ok (.iadd, 1) := dk_96 (dk_at dksL_law_77 3 rfl rfl)
theorem dL_law_1994 : decode cL_law 1994 = .ok (.iaload, 1) := dk_46 (dk_at dksL_law_77 4 rfl rfl)
theorem dL_law_1995 : decode cL_law 1995 = .ok (.aload_n 3, 1) := dk_45 (dk_at dksL_law_77 5 rfl rfl)
theorem dL_law_1996 : decode cL_law 1996 = .ok (.invokestatic 269, 3) := dk_184 1 13 (dk_at dksL_law_77 6 rfl rfl)
theorem dL_law_1999 : decode cL_law 1999 = .ok (.istore 5, 2) := dk_54 5 (dk_at dksL_law_77 9 rfl rfl)
theorem dL_law_2001 : decode cL_law 2001 = .ok (.aload_n 2, 1) := dk_44 (dk_at dksL_law_77 11 rfl rfl)
theorem dL_law_2002 : decode cL_law 2002 = .ok (.aload_n 0, 1) := dk_42 (dk_at dksL_law_77 12 rfl rfl)
theorem dL_law_2003 : decode cL_law 2003 = .ok (.iload 4, 2) := dk_21 4 (dk_at dksL_law_77 13 rfl rfl)
theorem dL_law_2005 : decode cL_law 2005 = .ok (.iconst 1, 1) := dk_4 (dk_at dksL_law_77 15 rfl rfl)
theorem dL_law_2006 : decode cL_law 2006 = .ok (.iadd, 1) := dk_96 (dk_at dksL_law_77 16 rfl rfl)
theorem dL_law_2007 : decode cL_law 2007 = .ok (.iaload, 1) := dk_46 (dk_at dksL_law_77 17 rfl rfl)
theorem dL_law_2008 : decode cL_law 2008 = .ok (.aload_n 0, 1) := dk_42 (dk_at dksL_law_77 18 rfl rfl)
theorem dL_law_2009 : decode cL_law 2009 = .ok (.iload 4, 2) := dk_21 4 (dk_at dksL_law_77 19 rfl rfl)
theorem dL_law_2011 : decode cL_law 2011 = .ok (.iconst 2, 1) := dk_5 (dk_at dksL_law_77 21 rfl rfl)
theorem dL_law_2012 : decode cL_law 2012 = .ok (.iadd, 1) := dk_96 (dk_at dksL_law_77 22 rfl rfl)
theorem dL_law_2013 : decode cL_law 2013 = .ok (.iaload, 1) := dk_46 (dk_at dksL_law_77 23 rfl rfl)
theorem dL_law_2014 : decode cL_law 2014 = .ok (.invokevirtual 271, 3) := dk_182 1 15 (dk_at dksL_law_78 0 rfl rfl)
theorem dL_law_2017 : decode cL_law 2017 = .ok (.istore 6, 2) := dk_54 6 (dk_at dksL_law_78 3 rfl rfl)
theorem dL_law_2019 : decode cL_law 2019 = .ok (.aload_n 2, 1) := dk_44 (dk_at dksL_law_78 5 rfl rfl)
theorem dL_law_2020 : decode cL_law 2020 = .ok (.invokevirtual 148, 3) := dk_182 0 148 (dk_at dksL_law_78 6 rfl rfl)
theorem dL_law_2023 : decode cL_law 2023 = .ok (.iload 5, 2) := dk_21 5 (dk_at dksL_law_78 9 rfl rfl)
theorem dL_law_2025 : decode cL_law 2025 = .ok (.if_icmp .eq 5, 3) := dk_159 0 5 (dk_at dksL_law_78 11 rfl rfl)
theorem dL_law_2028 : decode cL_law 2028 = .ok (.iconst 0, 1) := dk_3 (dk_at dksL_law_78 14 rfl rfl)
theorem dL_law_2029 : decode cL_law 2029 = .ok (.ireturn, 1) := dk_172 (dk_at dksL_law_78 15 rfl rfl)
theorem dL_law_2030 : decode cL_law 2030 = .ok (.iload 5, 2) := dk_21 5 (dk_at dksL_law_78 16 rfl rfl)
theorem dL_law_2032 : decode cL_law 2032 = .ok (.ifCond .ne 15, 3) := dk_154 0 15 (dk_at dksL_law_78 18 rfl rfl)
theorem dL_law_2035 : decode cL_law 2035 = .ok (.aload_n 3, 1) := dk_45 (dk_at dksL_law_78 21 rfl rfl)
theorem dL_law_2036 : decode cL_law 2036 = .ok (.iconst 0, 1) := dk_3 (dk_at dksL_law_78 22 rfl rfl)
theorem dL_law_2037 : decode cL_law 2037 = .ok (.laload, 1) := dk_47 (dk_at dksL_law_78 23 rfl rfl)
theorem dL_law_2038 : decode cL_law 2038 = .ok (.iload 6, 2) := dk_21 6 (dk_at dksL_law_79 0 rfl rfl)
theorem dL_law_2040 : decode cL_law 2040 = .ok (.i2l, 1) := dk_133 (dk_at dksL_law_79 2 rfl rfl)
theorem dL_law_2041 : decode cL_law 2041 = .ok (.lcmp, 1) := dk_148 (dk_at dksL_law_79 3 rfl rfl)
theorem dL_law_2042 : decode cL_law 2042 = .ok (.ifCond .eq 5, 3) := dk_153 0 5 (dk_at dksL_law_79 4 rfl rfl)
theorem dL_law_2045 : decode cL_law 2045 = .ok (.iconst 0, 1) := dk_3 (dk_at dksL_law_79 7 rfl rfl)
theorem dL_law_2046 : decode cL_law 2046 = .ok (.ireturn, 1) := dk_172 (dk_at dksL_law_79 8 rfl rfl)
theorem dL_law_2047 : decode cL_law 2047 = .ok (.goto 752, 3) := dk_167 2 240 (dk_at dksL_law_79 9 rfl rfl)
theorem dL_law_2050 : decode cL_law 2050 = .ok (.aload_n 1, 1) := dk_43 (dk_at dksL_law_79 12 rfl rfl)
theorem dL_law_2051 : decode cL_law 2051 = .ok (.aload_n 0, 1) := dk_42 (dk_at dksL_law_79 13 rfl rfl)
theorem dL_law_2052 : decode cL_law 2052 = .ok (.iload 4, 2) := dk_21 4 (dk_at dksL_law_79 14 rfl rfl)
theorem dL_law_2054 : decode cL_law 2054 = .ok (.iconst 1, 1) := dk_4 (dk_at dksL_law_79 16 rfl rfl)
theorem dL_law_2055 : decode cL_law 2055 = .ok (.iadd, 1) := dk_96 (dk_at dksL_law_79 17 rfl rfl)
theorem dL_law_2056 : decode cL_law 2056 = .ok (.iaload, 1) := dk_46 (dk_at dksL_law_79 18 rfl rfl)
theorem dL_law_2057 : decode cL_law 2057 = .ok (.aload_n 3, 1) := dk_45 (dk_at dksL_law_79 19 rfl rfl)
theorem dL_law_2058 : decode cL_law 2058 = .ok (.invokestatic 272, 3) := dk_184 1 16 (dk_at dksL_law_79 20 rfl rfl)
theorem dL_law_2061 : decode cL_law 2061 = .ok (.istore 5, 2) := dk_54 5 (dk_at dksL_law_80 0 rfl rfl)
theorem dL_law_2063 : decode cL_law 2063 = .ok (.aload_n 2, 1) := dk_44 (dk_at dksL_law_80 2 rfl rfl)
theorem dL_law_2064 : decode cL_law 2064 = .ok (.aload_n 0, 1) := dk_42 (dk_at dksL_law_80 3 rfl rfl)
theorem dL_law_2065 : decode cL_law 2065 = .ok (.iload 4, 2) := dk_21 4 (dk_at dksL_law_80 4 rfl rfl)
theorem dL_law_2067 : decode cL_law 2067 = .ok (.iconst 1, 1) := dk_4 (dk_at dksL_law_80 6 rfl rfl)
theorem dL_law_2068 : decode cL_law 2068 = .ok (.iadd, 1) := dk_96 (dk_at dksL_law_80 7 rfl rfl)
theorem dL_law_2069 : decode cL_law 2069 = .ok (.iaload, 1) := dk_46 (dk_at dksL_law_80 8 rfl rfl)
theorem dL_law_2070 : decode cL_law 2070 = .ok (.invokevirtual 274, 3) := dk_182 1 18 (dk_at dksL_law_80 9 rfl rfl)
theorem dL_law_2073 : decode cL_law 2073 = .ok (.istore 6, 2) := dk_54 6 (dk_at dksL_law_80 12 rfl rfl)
theorem dL_law_2075 : decode cL_law 2075 = .ok (.aload_n 2, 1) := dk_44 (dk_at dksL_law_80 14 rfl rfl)
theorem dL_law_2076 : decode cL_law 2076 = .ok (.invokevirtual 148, 3) := dk_182 0 148 (dk_at dksL_law_80 15 rfl rfl)
theorem dL_law_2079 : decode cL_law 2079 = .ok (.iload 5, 2) := dk_21 5 (dk_at dksL_law_80 18 rfl rfl)
theorem dL_law_2081 : decode cL_law 2081 = .ok (.if_icmp .eq 5, 3) := dk_159 0 5 (dk_at dksL_law_80 20 rfl rfl)
theorem dL_law_2084 : decode cL_law 2084 = .ok (.iconst 0, 1) := dk_3 (dk_at dksL_law_80 23 rfl rfl)
theorem dL_law_2085 : decode cL_law 2085 = .ok (.ireturn, 1) := dk_172 (dk_at dksL_law_81 0 rfl rfl)
theorem dL_law_2086 : decode cL_law 2086 = .ok (.iload 5, 2) := dk_21 5 (dk_at dksL_law_81 1 rfl rfl)
theorem dL_law_2088 : decode cL_law 2088 = .ok (.ifCond .ne 15, 3) := dk_154 0 15 (dk_at dksL_law_81 3 rfl rfl)
theorem dL_law_2091 : decode cL_law 2091 = .ok (.aload_n 3, 1) := dk_45 (dk_at dksL_law_81 6 rfl rfl)
theorem dL_law_2092 : decode cL_law 2092 = .ok (.iconst 0, 1) := dk_3 (dk_at dksL_law_81 7 rfl rfl)
theorem dL_law_2093 : decode cL_law 2093 = .ok (.laload, 1) := dk_47 (dk_at dksL_law_81 8 rfl rfl)
theorem dL_law_2094 : decode cL_law 2094 = .ok (.iload 6, 2) := dk_21 6 (dk_at dksL_law_81 9 rfl rfl)
theorem dL_law_2096 : decode cL_law 2096 = .ok (.i2l, 1) := dk_133 (dk_at dksL_law_81 11 rfl rfl)
theorem dL_law_2097 : decode cL_law 2097 = .ok (.lcmp, 1) := dk_148 (dk_at dksL_law_81 12 rfl rfl)
theorem dL_law_2098 : decode cL_law 2098 = .ok (.ifCond .eq 5, 3) := dk_153 0 5 (dk_at dksL_law_81 13 rfl rfl)
theorem dL_law_2101 : decode cL_law 2101 = .ok (.iconst 0, 1) := dk_3 (dk_at dksL_law_81 16 rfl rfl)
theorem dL_law_2102 : decode cL_law 2102 = .ok (.ireturn, 1) := dk_172 (dk_at dksL_law_81 17 rfl rfl)
theorem dL_law_2103 : decode cL_law 2103 = .ok (.goto 696, 3) := dk_167 2 184 (dk_at dksL_law_81 18 rfl rfl)
theorem dL_law_2106 : decode cL_law 2106 = .ok (.aload_n 1, 1) := dk_43 (dk_at dksL_law_81 21 rfl rfl)
theorem dL_law_2107 : decode cL_law 2107 = .ok (.aload_n 3, 1) := dk_45 (dk_at dksL_law_81 22 rfl rfl)
theorem dL_law_2108 : decode cL_law 2108 = .ok (.invokestatic 275, 3) := dk_184 1 19 (dk_at dksL_law_82 0 rfl rfl)
theorem dL_law_2111 : decode cL_law 2111 = .ok (.istore 5, 2) := dk_54 5 (dk_at dksL_law_82 3 rfl rfl)
theorem dL_law_2113 : decode cL_law 2113 = .ok (.aload_n 2, 1) := dk_44 (dk_at dksL_law_82 5 rfl rfl)
theorem dL_law_2114 : decode cL_law 2114 = .ok (.invokevirtual 277, 3) := dk_182 1 21 (dk_at dksL_law_82 6 rfl rfl)
theorem dL_law_2117 : decode cL_law 2117 = .ok (.istore 6, 2) := dk_54 6 (dk_at dksL_law_82 9 rfl rfl)
theorem dL_law_2119 : decode cL_law 2119 = .ok (.aload_n 2, 1) := dk_44 (dk_at dksL_law_82 11 rfl rfl)
theorem dL_law_2120 : decode cL_law 2120 = .ok (.invokevirtual 148, 3) := dk_182 0 148 (dk_at dksL_law_82 12 rfl rfl)
theorem dL_law_2123 : decode cL_law 2123 = .ok (.iload 5, 2) := dk_21 5 (dk_at dksL_law_82 15 rfl rfl)
theorem dL_law_2125 : decode cL_law 2125 = .ok (.if_icmp .eq 5, 3) := dk_159 0 5 (dk_at dksL_law_82 17 rfl rfl)
theorem dL_law_2128 : decode cL_law 2128 = .ok (.iconst 0, 1) := dk_3 (dk_at dksL_law_82 20 rfl rfl)
theorem dL_law_2129 : decode cL_law 2129 = .ok (.ireturn, 1) := dk_172 (dk_at dksL_law_82 21 rfl rfl)
theorem dL_law_2130 : decode cL_law 2130 = .ok (.iload 5, 2) := dk_21 5 (dk_at dksL_law_82 22 rfl rfl)
theorem dL_law_2132 : decode cL_law 2132 = .ok (.ifCond .ne 15, 3) := dk_154 0 15 (dk_at dksL_law_83 0 rfl rfl)
theorem dL_law_2135 : decode cL_law 2135 = .ok (.aload_n 3, 1) := dk_45 (dk_at dksL_law_83 3 rfl rfl)
theorem dL_law_2136 : decode cL_law 2136 = .ok (.iconst 0, 1) := dk_3 (dk_at dksL_law_83 4 rfl rfl)
theorem dL_law_2137 : decode cL_law 2137 = .ok (.laload, 1) := dk_47 (dk_at dksL_law_83 5 rfl rfl)
theorem dL_law_2138 : decode cL_law 2138 = .ok (.iload 6, 2) := dk_21 6 (dk_at dksL_law_83 6 rfl rfl)
theorem dL_law_2140 : decode cL_law 2140 = .ok (.i2l, 1) := dk_133 (dk_at dksL_law_83 8 rfl rfl)
theorem dL_law_2141 : decode cL_law 2141 = .ok (.lcmp, 1) := dk_148 (dk_at dksL_law_83 9 rfl rfl)
theorem dL_law_2142 : decode cL_law 2142 = .ok (.ifCond .eq 5, 3) := dk_153 0 5 (dk_at dksL_law_83 10 rfl rfl)
theorem dL_law_2145 : decode cL_law 2145 = .ok (.iconst 0, 1) := dk_3 (dk_at dksL_law_83 13 rfl rfl)
theorem dL_law_2146 : decode cL_law 2146 = .ok (.ireturn, 1) := dk_172 (dk_at dksL_law_83 14 rfl rfl)
theorem dL_law_2147 : decode cL_law 2147 = .ok (.goto 652, 3) := dk_167 2 140 (dk_at dksL_law_83 15 rfl rfl)
theorem dL_law_2150 : decode cL_law 2150 = .ok (.aload_n 1, 1) := dk_43 (dk_at dksL_law_83 18 rfl rfl)
theorem dL_law_2151 : decode cL_law 2151 = .ok (.aload_n 0, 1) := dk_42 (dk_at dksL_law_83 19 rfl rfl)
theorem dL_law_2152 : decode cL_law 2152 = .ok (.iload 4, 2) := dk_21 4 (dk_at dksL_law_83 20 rfl rfl)
theorem dL_law_2154 : decode cL_law 2154 = .ok (.iconst 1, 1) := dk_4 (dk_at dksL_law_83 22 rfl rfl)
theorem dL_law_2155 : decode cL_law 2155 = .ok (.iadd, 1) := dk_96 (dk_at dksL_law_83 23 rfl rfl)
theorem dL_law_2156 : decode cL_law 2156 = .ok (.iaload, 1) := dk_46 (dk_at dksL_law_84 0 rfl rfl)
theorem dL_law_2157 : decode cL_law 2157 = .ok (.aload_n 0, 1) := dk_42 (dk_at dksL_law_84 1 rfl rfl)
theorem dL_law_2158 : decode cL_law 2158 = .ok (.iload 4, 2) := dk_21 4 (dk_at dksL_law_84 2 rfl rfl)
theorem dL_law_2160 : decode cL_law 2160 = .ok (.iconst 2, 1) := dk_5 (dk_at dksL_law_84 4 rfl rfl)
theorem dL_law_2161 : decode cL_law 2161 = .ok (.iadd, 1) := dk_96 (dk_at dksL_law_84 5 rfl rfl)
theorem dL_law_2162 : decode cL_law 2162 = .ok (.iaload, 1) := dk_46 (dk_at dksL_law_84 6 rfl rfl)
theorem dL_law_2163 : decode cL_law 2163 = .ok (.aload_n 3, 1) := dk_45 (dk_at dksL_law_84 7 rfl rfl)
theorem dL_law_2164 : decode cL_law 2164 = .ok (.invokestatic 278, 3) := dk_184 1 22 (dk_at dksL_law_84 8 rfl rfl)
theorem dL_law_2167 : decode cL_law 2167 = .ok (.istore 5, 2) := dk_54 5 (dk_at dksL_law_84 11 rfl rfl)
theorem dL_law_2169 : decode cL_law 2169 = .ok (.aload_n 2, 1) := dk_44 (dk_at dksL_law_84 13 rfl rfl)
theorem dL_law_2170 : decode cL_law 2170 = .ok (.aload_n 0, 1) := dk_42 (dk_at dksL_law_84 14 rfl rfl)
theorem dL_law_2171 : decode cL_law 2171 = .ok (.iload 4, 2) := dk_21 4 (dk_at dksL_law_84 15 rfl rfl)
theorem dL_law_2173 : decode cL_law 2173 = .ok (.iconst 1, 1) := dk_4 (dk_at dksL_law_84 17 rfl rfl)
theorem dL_law_2174 : decode cL_law 2174 = .ok (.iadd, 1) := dk_96 (dk_at dksL_law_84 18 rfl rfl)
theorem dL_law_2175 : decode cL_law 2175 = .ok (.iaload, 1) := dk_46 (dk_at dksL_law_84 19 rfl rfl)
theorem dL_law_2176 : decode cL_law 2176 = .ok (.aload_n 0, 1) := dk_42 (dk_at dksL_law_84 20 rfl rfl)
theorem dL_law_2177 : decode cL_law 2177 = .ok (.iload 4, 2) := dk_21 4 (dk_at dksL_law_84 21 rfl rfl)
theorem dL_law_2179 : decode cL_law 2179 = .ok (.iconst 2, 1) := dk_5 (dk_at dksL_law_84 23 rfl rfl)
theorem dL_law_2180 : decode cL_law 2180 = .ok (.iadd, 1) := dk_96 (dk_at dksL_law_85 0 rfl rfl)
theorem dL_law_2181 : decode cL_law 2181 = .ok (.iaload, 1) := dk_46 (dk_at dksL_law_85 1 rfl rfl)
theorem dL_law_2182 : decode cL_law 2182 = .ok (.invokevirtual 280, 3) := dk_182 1 24 (dk_at dksL_law_85 2 rfl rfl)
theorem dL_law_2185 : decode cL_law 2185 = .ok (.istore 6, 2) := dk_54 6 (dk_at dksL_law_85 5 rfl rfl)
theorem dL_law_2187 : decode cL_law 2187 = .ok (.aload_n 2, 1) := dk_44 (dk_at dksL_law_85 7 rfl rfl)
theorem dL_law_2188 : decode cL_law 2188 = .ok (.invokevirtual 148, 3) := dk_182 0 148 (dk_at dksL_law_85 8 rfl rfl)
theorem dL_law_2191 : decode cL_law 2191 = .ok (.iload 5, 2) := dk_21 5 (dk_at dksL_law_85 11 rfl rfl)
theorem dL_law_2193 : decode cL_law 2193 = .ok (.if_icmp .eq 5, 3) := dk_159 0 5 (dk_at dksL_law_85 13 rfl rfl)
theorem dL_law_2196 : decode cL_law 2196 = .ok (.iconst 0, 1) := dk_3 (dk_at dksL_law_85 16 rfl rfl)
theorem dL_law_2197 : decode cL_law 2197 = .ok (.ireturn, 1) := dk_172 (dk_at dksL_law_85 17 rfl rfl)
theorem dL_law_2198 : decode cL_law 2198 = .ok (.iload 5, 2) := dk_21 5 (dk_at dksL_law_85 18 rfl rfl)
theorem dL_law_2200 : decode cL_law 2200 = .ok (.ifCond .ne 15, 3) := dk_154 0 15 (dk_at dksL_law_85 20 rfl rfl)
theorem dL_law_2203 : decode cL_law 2203 = .ok (.aload_n 3, 1) := dk_45 (dk_at dksL_law_85 23 rfl rfl)
theorem dL_law_2204 : decode cL_law 2204 = .ok (.iconst 0, 1) := dk_3 (dk_at dksL_law_86 0 rfl rfl)
theorem dL_law_2205 : decode cL_law 2205 = .ok (.laload, 1) := dk_47 (dk_at dksL_law_86 1 rfl rfl)
theorem dL_law_2206 : decode cL_law 2206 = .ok (.iload 6, 2) := dk_21 6 (dk_at dksL_law_86 2 rfl rfl)
theorem dL_law_2208 : decode cL_law 2208 = .ok (.i2l, 1) := dk_133 (dk_at dksL_law_86 4 rfl rfl)
theorem dL_law_2209 : decode cL_law 2209 = .ok (.lcmp, 1) := dk_148 (dk_at dksL_law_86 5 rfl rfl)
theorem dL_law_2210 : decode cL_law 2210 = .ok (.ifCond .eq 5, 3) := dk_153 0 5 (dk_at dksL_law_86 6 rfl rfl)
theorem dL_law_2213 : decode cL_law 2213 = .ok (.iconst 0, 1) := dk_3 (dk_at dksL_law_86 9 rfl rfl)
theorem dL_law_2214 : decode cL_law 2214 = .ok (.ireturn, 1) := dk_172 (dk_at dksL_law_86 10 rfl rfl)
theorem dL_law_2215 : decode cL_law 2215 = .ok (.goto 584, 3) := dk_167 2 72 (dk_at dksL_law_86 11 rfl rfl)
theorem dL_law_2218 : decode cL_law 2218 = .ok (.aload_n 1, 1) := dk_43 (dk_at dksL_law_86 14 rfl rfl)
theorem dL_law_2219 : decode cL_law 2219 = .ok (.invokevirtual 281, 3) := dk_182 1 25 (dk_at dksL_law_86 15 rfl rfl)
theorem dL_law_2222 : decode cL_law 2222 = .ok (.aload_n 2, 1) := dk_44 (dk_at dksL_law_86 18 rfl rfl)
theorem dL_law_2223 : decode cL_law 2223 = .ok (.invokevirtual 284, 3) := dk_182 1 28 (dk_at dksL_law_86 19 rfl rfl)
theorem dL_law_2226 : decode cL_law 2226 = .ok (.if_icmp .eq 573, 3) := dk_159 2 61 (dk_at dksL_law_87 0 rfl rfl)
theorem dL_law_2229 : decode cL_law 2229 = .ok (.iconst 0, 1) := dk_3 (dk_at dksL_law_87 3 rfl rfl)
theorem dL_law_2230 : decode cL_law 2230 = .ok (.ireturn, 1) := dk_172 (dk_at dksL_law_87 4 rfl rfl)
theorem dL_law_2231 : decode cL_law 2231 = .ok (.aload_n 1, 1) := dk_43 (dk_at dksL_law_87 5 rfl rfl)
theorem dL_law_2232 : decode cL_law 2232 = .ok (.aload_n 0, 1) := dk_42 (dk_at dksL_law_87 6 rfl rfl)
theorem dL_law_2233 : decode cL_law 2233 = .ok (.iload 4, 2) := dk_21 4 (dk_at dksL_law_87 7 rfl rfl)
theorem dL_law_2235 : decode cL_law 2235 = .ok (.iconst 1, 1) := dk_4 (dk_at dksL_law_87 9 rfl rfl)
theorem dL_law_2236 : decode cL_law 2236 = .ok (.iadd, 1) := dk_96 (dk_at dksL_law_87 10 rfl rfl)
theorem dL_law_2237 : decode cL_law 2237 = .ok (.iaload, 1) := dk_46 (dk_at dksL_law_87 11 rfl rfl)
theorem dL_law_2238 : decode cL_law 2238 = .ok (.aload_n 0, 1) := dk_42 (dk_at dksL_law_87 12 rfl rfl)
theorem dL_law_2239 : decode cL_law 2239 = .ok (.iload 4, 2) := dk_21 4 (dk_at dksL_law_87 13 rfl rfl)
theorem dL_law_2241 : decode cL_law 2241 = .ok (.iconst 2, 1) := dk_5 (dk_at dksL_law_87 15 rfl rfl)
theorem dL_law_2242 : decode cL_law 2242 = .ok (.iadd, 1) := dk_96 (dk_at dksL_law_87 16 rfl rfl)
theorem dL_law_2243 : decode cL_law 2243 = .ok (.iaload, 1) := dk_46 (dk_at dksL_law_87 17 rfl rfl)
theorem dL_law_2244 : decode cL_law 2244 = .ok (.aload_n 0, 1) := dk_42 (dk_at dksL_law_87 18 rfl rfl)
theorem dL_law_2245 : decode cL_law 2245 = .ok (.iload 4, 2) := dk_21 4 (dk_at dksL_law_87 19 rfl rfl)
theorem dL_law_2247 : decode cL_law 2247 = .ok (.iconst 3, 1) := dk_6 (dk_at dksL_law_87 21 rfl rfl)
theorem dL_law_2248 : decode cL_law 2248 = .ok (.iadd, 1) := dk_96 (dk_at dksL_law_87 22 rfl rfl)
theorem dL_law_2249 : decode cL_law 2249 = .ok (.iaload, 1) := dk_46 (dk_at dksL_law_87 23 rfl rfl)
theorem dL_law_2250 : decode cL_law 2250 = .ok (.aload_n 3, 1) := dk_45 (dk_at dksL_law_88 0 rfl rfl)
theorem dL_law_2251 : decode cL_law 2251 = .ok (.invokestatic 285, 3) := dk_184 1 29 (dk_at dksL_law_88 1 rfl rfl)
theorem dL_law_2254 : decode cL_law 2254 = .ok (.istore 5, 2) := dk_54 5 (dk_at dksL_law_88 4 rfl rfl)
theorem dL_law_2256 : decode cL_law 2256 = .ok (.aload_n 2, 1) := dk_44 (dk_at dksL_law_88 6 rfl rfl)
theorem dL_law_2257 : decode cL_law 2257 = .ok (.aload_n 0, 1) := dk_42 (dk_at dksL_law_88 7 rfl rfl)
theorem dL_law_2258 : decode cL_law 2258 = .ok (.iload 4, 2) := dk_21 4 (dk_at dksL_law_88 8 rfl rfl)
theorem dL_law_2260 : decode cL_law 2260 = .ok (.iconst 1, 1) := dk_4 (dk_at dksL_law_88 10 rfl rfl)
theorem dL_law_2261 : decode cL_law 2261 = .ok (.iadd, 1) := dk_96 (dk_at dksL_law_88 11 rfl rfl)
theorem dL_law_2262 : decode cL_law 2262 = .ok (.iaload, 1) := dk_46 (dk_at dksL_law_88 12 rfl rfl)
theorem dL_law_2263 : decode cL_law 2263 = .ok (.aload_n 0, 1) := dk_42 (dk_at dksL_law_88 13 rfl rfl)
theorem dL_law_2264 : decode cL_law 2264 = .ok (.iload 4, 2) := dk_21 4 (dk_at dksL_law_88 14 rfl rfl)
theorem dL_law_2266 : decode cL_law 2266 = .ok (.iconst 2, 1) := dk_5 (dk_at dksL_law_88 16 rfl rfl)
theorem dL_law_2267 : decode cL_law 2267 = .ok (.iadd, 1) := dk_96 (dk_at dksL_law_88 17 rfl rfl)
theorem dL_law_2268 : decode cL_law 2268 = .ok (.iaload, 1) := dk_46 (dk_at dksL_law_88 18 rfl rfl)
theorem dL_law_2269 : decode cL_law 2269 = .ok (.aload_n 0, 1) := dk_42 (dk_at dksL_law_88 19 rfl rfl)
theorem dL_law_2270 : decode cL_law 2270 = .ok (.iload 4, 2) := dk_21 4 (dk_at dksL_law_88 20 rfl rfl)
theorem dL_law_2272 : decode cL_law 2272 = .ok (.iconst 3, 1) := dk_6 (dk_at dksL_law_88 22 rfl rfl)
theorem dL_law_2273 : decode cL_law 2273 = .ok (.iadd, 1) := dk_96 (dk_at dksL_law_88 23 rfl rfl)
theorem dL_law_2274 : decode cL_law 2274 = .ok (.iaload, 1) := dk_46 (dk_at dksL_law_89 0 rfl rfl)
theorem dL_law_2275 : decode cL_law 2275 = .ok (.invokevirtual 287, 3) := dk_182 1 31 (dk_at dksL_law_89 1 rfl rfl)
theorem dL_law_2278 : decode cL_law 2278 = .ok (.istore 6, 2) := dk_54 6 (dk_at dksL_law_89 4 rfl rfl)
theorem dL_law_2280 : decode cL_law 2280 = .ok (.aload_n 2, 1) := dk_44 (dk_at dksL_law_89 6 rfl rfl)
theorem dL_law_2281 : decode cL_law 2281 = .ok (.invokevirtual 148, 3) := dk_182 0 148 (dk_at dksL_law_89 7 rfl rfl)
theorem dL_law_2284 : decode cL_law 2284 = .ok (.iload 5, 2) := dk_21 5 (dk_at dksL_law_89 10 rfl rfl)
theorem dL_law_2286 : decode cL_law 2286 = .ok (.if_icmp .eq 5, 3) := dk_159 0 5 (dk_at dksL_law_89 12 rfl rfl)
theorem dL_law_2289 : decode cL_law 2289 = .ok (.iconst 0, 1) := dk_3 (dk_at dksL_law_89 15 rfl rfl)
theorem dL_law_2290 : decode cL_law 2290 = .ok (.ireturn, 1) := dk_172 (dk_at dksL_law_89 16 rfl rfl)
theorem dL_law_2291 : decode cL_law 2291 = .ok (.iload 5, 2) := dk_21 5 (dk_at dksL_law_89 17 rfl rfl)
theorem dL_law_2293 : decode cL_law 2293 = .ok (.ifCond .ne 15, 3) := dk_154 0 15 (dk_at dksL_law_89 19 rfl rfl)
theorem dL_law_2296 : decode cL_law 2296 = .ok (.aload_n 3, 1) := dk_45 (dk_at dksL_law_89 22 rfl rfl)
theorem dL_law_2297 : decode cL_law 2297 = .ok (.iconst 0, 1) := dk_3 (dk_at dksL_law_89 23 rfl rfl)
theorem dL_law_2298 : decode cL_law 2298 = .ok (.laload, 1) := dk_47 (dk_at dksL_law_90 0 rfl rfl)
theorem dL_law_2299 : decode cL_law 2299 = .ok (.iload 6, 2) := dk_21 6 (dk_at dksL_law_90 1 rfl rfl)
theorem dL_law_2301 : decode cL_law 2301 = .ok (.i2l, 1) := dk_133 (dk_at dksL_law_90 3 rfl rfl)
theorem dL_law_2302 : decode cL_law 2302 = .ok (.lcmp, 1) := dk_148 (dk_at dksL_law_90 4 rfl rfl)
theorem dL_law_2303 : decode cL_law 2303 = .ok (.ifCond .eq 5, 3) := dk_153 0 5 (dk_at dksL_law_90 5 rfl rfl)
theorem dL_law_2306 : decode cL_law 2306 = .ok (.iconst 0, 1) := dk_3 (dk_at dksL_law_90 8 rfl rfl)
theorem dL_law_2307 : decode cL_law 2307 = .ok (.ireturn, 1) := dk_172 (dk_at dksL_law_90 9 rfl rfl)
theorem dL_law_2308 : decode cL_law 2308 = .ok (.goto 491, 3) := dk_167 1 235 (dk_at dksL_law_90 10 rfl rfl)
theorem dL_law_2311 : decode cL_law 2311 = .ok (.aload_n 1, 1) := dk_43 (dk_at dksL_law_90 13 rfl rfl)
theorem dL_law_2312 : decode cL_law 2312 = .ok (.aload_n 0, 1) := dk_42 (dk_at dksL_law_90 14 rfl rfl)
theorem dL_law_2313 : decode cL_law 2313 = .ok (.iload 4, 2) := dk_21 4 (dk_at dksL_law_90 15 rfl rfl)
theorem dL_law_2315 : decode cL_law 2315 = .ok (.iconst 1, 1) := dk_4 (dk_at dksL_law_90 17 rfl rfl)
theorem dL_law_2316 : decode cL_law 2316 = .ok (.iadd, 1) := dk_96 (dk_at dksL_law_90 18 rfl rfl)
theorem dL_law_2317 : decode cL_law 2317 = .ok (.iaload, 1) := dk_46 (dk_at dksL_law_90 19 rfl rfl)
theorem dL_law_2318 : decode cL_law 2318 = .ok (.aload_n 0, 1) := dk_42 (dk_at dksL_law_90 20 rfl rfl)
theorem dL_law_2319 : decode cL_law 2319 = .ok (.iload 4, 2) := dk_21 4 (dk_at dksL_law_90 21 rfl rfl)
theorem dL_law_2321 : decode cL_law 2321 = .ok (.iconst 2, 1) := dk_5 (dk_at dksL_law_90 23 rfl rfl)
theorem dL_law_2322 : decode cL_law 2322 = .ok (.iadd, 1) := dk_96 (dk_at dksL_law_91 0 rfl rfl)
theorem dL_law_2323 : decode cL_law 2323 = .ok (.iaload, 1) := dk_46 (dk_at dksL_law_91 1 rfl rfl)
theorem dL_law_2324 : decode cL_law 2324 = .ok (.ifCond .eq 7, 3) := dk_153 0 7 (dk_at dksL_law_91 2 rfl rfl)
theorem dL_law_2327 : decode cL_law 2327 = .ok (.iconst 1, 1) := dk_4 (dk_at dksL_law_91 5 rfl rfl)
theorem dL_law_2328 : decode cL_law 2328 = .ok (.goto 4, 3) := dk_167 0 4 (dk_at dksL_law_91 6 rfl rfl)
theorem dL_law_2331 : decode cL_law 2331 = .ok (.iconst 0, 1) := dk_3 (dk_at dksL_law_91 9 rfl rfl)
theorem dL_law_2332 : decode cL_law 2332 = .ok (.aload_n 3, 1) := dk_45 (dk_at dksL_law_91 10 rfl rfl)
theorem dL_law_2333 : decode cL_law 2333 = .ok (.invokestatic 288, 3) := dk_184 1 32 (dk_at dksL_law_91 11 rfl rfl)
theorem dL_law_2336 : decode cL_law 2336 = .ok (.istore 5, 2) := dk_54 5 (dk_at dksL_law_91 14 rfl rfl)
theorem dL_law_2338 : decode cL_law 2338 = .ok (.aload_n 2, 1) := dk_44 (dk_at dksL_law_91 16 rfl rfl)
theorem dL_law_2339 : decode cL_law 2339 = .ok (.aload_n 0, 1) := dk_42 (dk_at dksL_law_91 17 rfl rfl)
theorem dL_law_2340 : decode cL_law 2340 = .ok (.iload 4, 2) := dk_21 4 (dk_at dksL_law_91 18 rfl rfl)
theorem dL_law_2342 : decode cL_law 2342 = .ok (.iconst 1, 1) := dk_4 (dk_at dksL_law_91 20 rfl rfl)
theorem dL_law_2343 : decode cL_law 2343 = .ok (.iadd, 1) := dk_96 (dk_at dksL_law_91 21 rfl rfl)
theorem dL_law_2344 : decode cL_law 2344 = .ok (.iaload, 1) := dk_46 (dk_at dksL_law_91 22 rfl rfl)
theorem dL_law_2345 : decode cL_law 2345 = .ok (.aload_n 0, 1) := dk_42 (dk_at dksL_law_91 23 rfl rfl)
theorem dL_law_2346 : decode cL_law 2346 = .ok (.iload 4, 2) := dk_21 4 (dk_at dksL_law_92 0 rfl rfl)
theorem dL_law_2348 : decode cL_law 2348 = .ok (.iconst 2, 1) := dk_5 (dk_at dksL_law_92 2 rfl rfl)
theorem dL_law_2349 : decode cL_law 2349 = .ok (.iadd, 1) := dk_96 (dk_at dksL_law_92 3 rfl rfl)
theorem dL_law_2350 : decode cL_law 2350 = .ok (.iaload, 1) := dk_46 (dk_at dksL_law_92 4 rfl rfl)
theorem dL_law_2351 : decode cL_law 2351 = .ok (.ifCond .eq 7, 3) := dk_153 0 7 (dk_at dksL_law_92 5 rfl rfl)
theorem dL_law_2354 : decode cL_law 2354 = .ok (.iconst 1, 1) := dk_4 (dk_at dksL_law_92 8 rfl rfl)
theorem dL_law_2355 : decode cL_law 2355 = .ok (.goto 4, 3) := dk_167 0 4 (dk_at dksL_law_92 9 rfl rfl)
theorem dL_law_2358 : decode cL_law 2358 = .ok (.iconst 0, 1) := dk_3 (dk_at dksL_law_92 12 rfl rfl)
theorem dL_law_2359 : decode cL_law 2359 = .ok (.invokevirtual 291, 3) := dk_182 1 35 (dk_at dksL_law_92 13 rfl rfl)
theorem dL_law_2362 : decode cL_law 2362 = .ok (.istore 6, 2) := dk_54 6 (dk_at dksL_law_92 16 rfl rfl)
theorem dL_law_2364 : decode cL_law 2364 = .ok (.aload_n 2, 1) := dk_44 (dk_at dksL_law_92 18 rfl rfl)
theorem dL_law_2365 : decode cL_law 2365 = .ok (.invokevirtual 148, 3) := dk_182 0 148 (dk_at dksL_law_92 19 rfl rfl)
theorem dL_law_2368 : decode cL_law 2368 = .ok (.iload 5, 2) := dk_21 5 (dk_at dksL_law_92 22 rfl rfl)
theorem dL_law_2370 : decode cL_law 2370 = .ok (.if_icmp .eq 5, 3) := dk_159 0 5 (dk_at dksL_law_93 0 rfl rfl)
theorem dL_law_2373 : decode cL_law 2373 = .ok (.iconst 0, 1) := dk_3 (dk_at dksL_law_93 3 rfl rfl)
theorem dL_law_2374 : decode cL_law 2374 = .ok (.ireturn, 1) := dk_172 (dk_at dksL_law_93 4 rfl rfl)
theorem dL_law_2375 : decode cL_law 2375 = .ok (.iload 5, 2) := dk_21 5 (dk_at dksL_law_93 5 rfl rfl)
theorem dL_law_2377 : decode cL_law 2377 = .ok (.ifCond .ne 22, 3) := dk_154 0 22 (dk_at dksL_law_93 7 rfl rfl)
theorem dL_law_2380 : decode cL_law 2380 = .ok (.aload_n 3, 1) := dk_45 (dk_at dksL_law_93 10 rfl rfl)
theorem dL_law_2381 : decode cL_law 2381 = .ok (.iconst 0, 1) := dk_3 (dk_at dksL_law_93 11 rfl rfl)
theorem dL_law_2382 : decode cL_law 2382 = .ok (.laload, 1) := dk_47 (dk_at dksL_law_93 12 rfl rfl)
theorem dL_law_2383 : decode cL_law 2383 = .ok (.iload 6, 2) := dk_21 6 (dk_at dksL_law_93 13 rfl rfl)
theorem dL_law_2385 : decode cL_law 2385 = .ok (.ifCond .eq 7, 3) := dk_153 0 7 (dk_at dksL_law_93 15 rfl rfl)
theorem dL_law_2388 : decode cL_law 2388 = .ok (.lconst 1, 1) := dk_10 (dk_at dksL_law_93 18 rfl rfl)
theorem dL_law_2389 : decode cL_law 2389 = .ok (.goto 4, 3) := dk_167 0 4 (dk_at dksL_law_93 19 rfl rfl)
theorem dL_law_2392 : decode cL_law 2392 = .ok (.lconst 0, 1) := dk_9 (dk_at dksL_law_93 22 rfl rfl)
theorem dL_law_2393 : decode cL_law 2393 = .ok (.lcmp, 1) := dk_148 (dk_at dksL_law_93 23 rfl rfl)
theorem dL_law_2394 : decode cL_law 2394 = .ok (.ifCond .eq 5, 3) := dk_153 0 5 (dk_at dksL_law_94 0 rfl rfl)
theorem dL_law_2397 : decode cL_law 2397 = .ok (.iconst 0, 1) := dk_3 (dk_at dksL_law_94 3 rfl rfl)
theorem dL_law_2398 : decode cL_law 2398 = .ok (.ireturn, 1) := dk_172 (dk_at dksL_law_94 4 rfl rfl)
theorem dL_law_2399 : decode cL_law 2399 = .ok (.goto 400, 3) := dk_167 1 144 (dk_at dksL_law_94 5 rfl rfl)
theorem dL_law_2402 : decode cL_law 2402 = .ok (.aload_n 1, 1) := dk_43 (dk_at dksL_law_94 8 rfl rfl)
theorem dL_law_2403 : decode cL_law 2403 = .ok (.aload_n 0, 1) := dk_42 (dk_at dksL_law_94 9 rfl rfl)
theorem dL_law_2404 : decode cL_law 2404 = .ok (.iload 4, 2) := dk_21 4 (dk_at dksL_law_94 10 rfl rfl)
theorem dL_law_2406 : decode cL_law 2406 = .ok (.iconst 1, 1) := dk_4 (dk_at dksL_law_94 12 rfl rfl)
theorem dL_law_2407 : decode cL_law 2407 = .ok (.iadd, 1) := dk_96 (dk_at dksL_law_94 13 rfl rfl)
theorem dL_law_2408 : decode cL_law 2408 = .ok (.iaload, 1) := dk_46 (dk_at dksL_law_94 14 rfl rfl)
theorem dL_law_2409 : decode cL_law 2409 = .ok (.invokevirtual 292, 3) := dk_182 1 36 (dk_at dksL_law_94 15 rfl rfl)
theorem dL_law_2412 : decode cL_law 2412 = .ok (.aload_n 2, 1) := dk_44 (dk_at dksL_law_94 18 rfl rfl)
theorem dL_law_2413 : decode cL_law 2413 = .ok (.aload_n 0, 1) := dk_42 (dk_at dksL_law_94 19 rfl rfl)
theorem dL_law_2414 : decode cL_law 2414 = .ok (.iload 4, 2) := dk_21 4 (dk_at dksL_law_94 20 rfl rfl)
theorem dL_law_2416 : decode cL_law 2416 = .ok (.iconst 1, 1) := dk_4 (dk_at dksL_law_94 22 rfl rfl)
theorem dL_law_2417 : decode cL_law 2417 = .ok (.iadd, 1) := dk_96 (dk_at dksL_law_94 23 rfl rfl)
theorem dL_law_2418 : decode cL_law 2418 = .ok (.iaload, 1) := dk_46 (dk_at dksL_law_95 0 rfl rfl)
theorem dL_law_2419 : decode cL_law 2419 = .ok (.invokevirtual 295, 3) := dk_182 1 39 (dk_at dksL_law_95 1 rfl rfl)
theorem dL_law_2422 : decode cL_law 2422 = .ok (.if_icmp .eq 377, 3) := dk_159 1 121 (dk_at dksL_law_95 4 rfl rfl)
theorem dL_law_2425 : decode cL_law 2425 = .ok (.iconst 0, 1) := dk_3 (dk_at dksL_law_95 7 rfl rfl)
theorem dL_law_2426 : decode cL_law 2426 = .ok (.ireturn, 1) := dk_172 (dk_at dksL_law_95 8 rfl rfl)
theorem dL_law_2427 : decode cL_law 2427 = .ok (.aload_n 1, 1) := dk_43 (dk_at dksL_law_95 9 rfl rfl)
theorem dL_law_2428 : decode cL_law 2428 = .ok (.invokevirtual 296, 3) := dk_182 1 40 (dk_at dksL_law_95 10 rfl rfl)
theorem dL_law_2431 : decode cL_law 2431 = .ok (.aload_n 2, 1) := dk_44 (dk_at dksL_law_95 13 rfl rfl)
theorem dL_law_2432 : decode cL_law 2432 = .ok (.invokevirtual 299, 3) := dk_182 1 43 (dk_at dksL_law_95 14 rfl rfl)
theorem dL_law_2435 : decode cL_law 2435 = .ok (.if_icmp .eq 364, 3) := dk_159 1 108 (dk_at dksL_law_95 17 rfl rfl)
theorem dL_law_2438 : decode cL_law 2438 = .ok (.iconst 0, 1) := dk_3 (dk_at dksL_law_95 20 rfl rfl)
theorem dL_law_2439 : decode cL_law 2439 = .ok (.ireturn, 1) := dk_172 (dk_at dksL_law_95 21 rfl rfl)
theorem dL_law_2440 : decode cL_law 2440 = .ok (.aload_n 1, 1) := dk_43 (dk_at dksL_law_95 22 rfl rfl)
theorem dL_law_2441 : decode cL_law 2441 = .ok (.aload_n 0, 1) := dk_42 (dk_at dksL_law_95 23 rfl rfl)
theorem dL_law_2442 : decode cL_law 2442 = .ok (.iload 4, 2) := dk_21 4 (dk_at dksL_law_96 0 rfl rfl)
theorem dL_law_2444 : decode cL_law 2444 = .ok (.iconst 1, 1) := dk_4 (dk_at dksL_law_96 2 rfl rfl)
theorem dL_law_2445 : decode cL_law 2445 = .ok (.iadd, 1) := dk_96 (dk_at dksL_law_96 3 rfl rfl)
theorem dL_law_2446 : decode cL_law 2446 = .ok (.iaload, 1) := dk_46 (dk_at dksL_law_96 4 rfl rfl)
theorem dL_law_2447 : decode cL_law 2447 = .ok (.aload_n 3, 1) := dk_45 (dk_at dksL_law_96 5 rfl rfl)
theorem dL_law_2448 : decode cL_law 2448 = .ok (.invokestatic 300, 3) := dk_184 1 44 (dk_at dksL_law_96 6 rfl rfl)
theorem dL_law_2451 : decode cL_law 2451 = .ok (.istore 5, 2) := dk_54 5 (dk_at dksL_law_96 9 rfl rfl)
theorem dL_law_2453 : decode cL_law 2453 = .ok (.aload_n 2, 1) := dk_44 (dk_at dksL_law_96 11 rfl rfl)
theorem dL_law_2454 : decode cL_law 2454 = .ok (.aload_n 0, 1) := dk_42 (dk_at dksL_law_96 12 rfl rfl)
theorem dL_law_2455 : decode cL_law 2455 = .ok (.iload 4, 2) := dk_21 4 (dk_at dksL_law_96 13 rfl rfl)
theorem dL_law_2457 : decode cL_law 2457 = .ok (.iconst 1, 1) := dk_4 (dk_at dksL_law_96 15 rfl rfl)
theorem dL_law_2458 : decode cL_law 2458 = .ok (.iadd, 1) := dk_96 (dk_at dksL_law_96 16 rfl rfl)
theorem dL_law_2459 : decode cL_law 2459 = .ok (.iaload, 1) := dk_46 (dk_at dksL_law_96 17 rfl rfl)
theorem dL_law_2460 : decode cL_law 2460 = .ok (.invokevirtual 302, 3) := dk_182 1 46 (dk_at dksL_law_96 18 rfl rfl)
theorem dL_law_2463 : decode cL_law 2463 = .ok (.istore 6, 2) := dk_54 6 (dk_at dksL_law_96 21 rfl rfl)
theorem dL_law_2465 : decode cL_law 2465 = .ok (.aload_n 2, 1) := dk_44 (dk_at dksL_law_96 23 rfl rfl)
theorem dL_law_2466 : decode cL_law 2466 = .ok (.invokevirtual 148, 3) := dk_182 0 148 (dk_at dksL_law_97 0 rfl rfl)
theorem dL_law_2469 : decode cL_law 2469 = .ok (.iload 5, 2) := dk_21 5 (dk_at dksL_law_97 3 rfl rfl)
theorem dL_law_2471 : decode cL_law 2471 = .ok (.if_icmp .eq 5, 3) := dk_159 0 5 (dk_at dksL_law_97 5 rfl rfl)
theorem dL_law_2474 : decode cL_law 2474 = .ok (.iconst 0, 1) := dk_3 (dk_at dksL_law_97 8 rfl rfl)
theorem dL_law_2475 : decode cL_law 2475 = .ok (.ireturn, 1) := dk_172 (dk_at dksL_law_97 9 rfl rfl)
theorem dL_law_2476 : decode cL_law 2476 = .ok (.iload 5, 2) := dk_21 5 (dk_at dksL_law_97 10 rfl rfl)
theorem dL_law_2478 : decode cL_law 2478 = .ok (.ifCond .ne 15, 3) := dk_154 0 15 (dk_at dksL_law_97 12 rfl rfl)
theorem dL_law_2481 : decode cL_law 2481 = .ok (.aload_n 3, 1) := dk_45 (dk_at dksL_law_97 15 rfl rfl)
theorem dL_law_2482 : decode cL_law 2482 = .ok (.iconst 0, 1) := dk_3 (dk_at dksL_law_97 16 rfl rfl)
theorem dL_law_2483 : decode cL_law 2483 = .ok (.laload, 1) := dk_47 (dk_at dksL_law_97 17 rfl rfl)
theorem dL_law_2484 : decode cL_law 2484 = .ok (.iload 6, 2) := dk_21 6 (dk_at dksL_law_97 18 rfl rfl)
theorem dL_law_2486 : decode cL_law 2486 = .ok (.i2l, 1) := dk_133 (dk_at dksL_law_97 20 rfl rfl)
theorem dL_law_2487 : decode cL_law 2487 = .ok (.lcmp, 1) := dk_148 (dk_at dksL_law_97 21 rfl rfl)
theorem dL_law_2488 : decode cL_law 2488 = .ok (.ifCond .eq 5, 3) := dk_153 0 5 (dk_at dksL_law_98 0 rfl rfl)
theorem dL_law_2491 : decode cL_law 2491 = .ok (.iconst 0, 1) := dk_3 (dk_at dksL_law_98 3 rfl rfl)
theorem dL_law_2492 : decode cL_law 2492 = .ok (.ireturn, 1) := dk_172 (dk_at dksL_law_98 4 rfl rfl)
theorem dL_law_2493 : decode cL_law 2493 = .ok (.goto 306, 3) := dk_167 1 50 (dk_at dksL_law_98 5 rfl rfl)
theorem dL_law_2496 : decode cL_law 2496 = .ok (.aload_n 1, 1) := dk_43 (dk_at dksL_law_98 8 rfl rfl)
theorem dL_law_2497 : decode cL_law 2497 = .ok (.aload_n 0, 1) := dk_42 (dk_at dksL_law_98 9 rfl rfl)
theorem dL_law_2498 : decode cL_law 2498 = .ok (.iload 4, 2) := dk_21 4 (dk_at dksL_law_98 10 rfl rfl)
theorem dL_law_2500 : decode cL_law 2500 = .ok (.iconst 1, 1) := dk_4 (dk_at dksL_law_98 12 rfl rfl)
theorem dL_law_2501 : decode cL_law 2501 = .ok (.iadd, 1) := dk_96 (dk_at dksL_law_98 13 rfl rfl)
theorem dL_law_2502 : decode cL_law 2502 = .ok (.iaload, 1) := dk_46 (dk_at dksL_law_98 14 rfl rfl)
theorem dL_law_2503 : decode cL_law 2503 = .ok (.aload_n 0, 1) := dk_42 (dk_at dksL_law_98 15 rfl rfl)
theorem dL_law_2504 : decode cL_law 2504 = .ok (.iload 4, 2) := dk_21 4 (dk_at dksL_law_98 16 rfl rfl)
theorem dL_law_2506 : decode cL_law 2506 = .ok (.iconst 2, 1) := dk_5 (dk_at dksL_law_98 18 rfl rfl)
theorem dL_law_2507 : decode cL_law 2507 = .ok (.iadd, 1) := dk_96 (dk_at dksL_law_98 19 rfl rfl)
theorem dL_law_2508 : decode cL_law 2508 = .ok (.iaload, 1) := dk_46 (dk_at dksL_law_98 20 rfl rfl)
theorem dL_law_2509 : decode cL_law 2509 = .ok (.aload_n 0, 1) := dk_42 (dk_at dksL_law_98 21 rfl rfl)
theorem dL_law_2510 : decode cL_law 2510 = .ok (.iload 4, 2) := dk_21 4 (dk_at dksL_law_98 22 rfl rfl)
theorem dL_law_2512 : decode cL_law 2512 = .ok (.iconst 3, 1) := dk_6 (dk_at dksL_law_99 0 rfl rfl)
theorem dL_law_2513 : decode cL_law 2513 = .ok (.iadd, 1) := dk_96 (dk_at dksL_law_99 1 rfl rfl)
theorem dL_law_2514 : decode cL_law 2514 = .ok (.iaload, 1) := dk_46 (dk_at dksL_law_99 2 rfl rfl)
theorem dL_law_2515 : decode cL_law 2515 = .ok (.aload_n 3, 1) := dk_45 (dk_at dksL_law_99 3 rfl rfl)
theorem dL_law_2516 : decode cL_law 2516 = .ok (.invokestatic 303, 3) := dk_184 1 47 (dk_at dksL_law_99 4 rfl rfl)
theorem dL_law_2519 : decode cL_law 2519 = .ok (.istore 5, 2) := dk_54 5 (dk_at dksL_law_99 7 rfl rfl)
theorem dL_law_2521 : decode cL_law 2521 = .ok (.aload_n 2, 1) := dk_44 (dk_at dksL_law_99 9 rfl rfl)
theorem dL_law_2522 : decode cL_law 2522 = .ok (.aload_n 0, 1) := dk_42 (dk_at dksL_law_99 10 rfl rfl)
theorem dL_law_2523 : decode cL_law 2523 = .ok (.iload 4, 2) := dk_21 4 (dk_at dksL_law_99 11 rfl rfl)
theorem dL_law_2525 : decode cL_law 2525 = .ok (.iconst 1, 1) := dk_4 (dk_at dksL_law_99 13 rfl rfl)
theorem dL_law_2526 : decode cL_law 2526 = .ok (.iadd, 1) := dk_96 (dk_at dksL_law_99 14 rfl rfl)
theorem dL_law_2527 : decode cL_law 2527 = .ok (.iaload, 1) := dk_46 (dk_at dksL_law_99 15 rfl rfl)
theorem dL_law_2528 : decode cL_law 2528 = .ok (.aload_n 0, 1) := dk_42 (dk_at dksL_law_99 16 rfl rfl)
theorem dL_law_2529 : decode cL_law 2529 = .ok (.iload 4, 2) := dk_21 4 (dk_at dksL_law_99 17 rfl rfl)
theorem dL_law_2531 : decode cL_law 2531 = .ok (.iconst 2, 1) := dk_5 (dk_at dksL_law_99 19 rfl rfl)
theorem dL_law_2532 : decode cL_law 2532 = .ok (.iadd, 1) := dk_96 (dk_at dksL_law_99 20 rfl rfl)
theorem dL_law_2533 : decode cL_law 2533 = .ok (.iaload, 1) := dk_46 (dk_at dksL_law_99 21 rfl rfl)
theorem dL_law_2534 : decode cL_law 2534 = .ok (.aload_n 0, 1) := dk_42 (dk_at dksL_law_99 22 rfl rfl)
theorem dL_law_2535 : decode cL_law 2535 = .ok (.iload 4, 2) := dk_21 4 (dk_at dksL_law_100 0 rfl rfl)
theorem dL_law_2537 : decode cL_law 2537 = .ok (.iconst 3, 1) := dk_6 (dk_at dksL_law_100 2 rfl rfl)
theorem dL_law_2538 : decode cL_law 2538 = .ok (.iadd, 1) := dk_96 (dk_at dksL_law_100 3 rfl rfl)
theorem dL_law_2539 : decode cL_law 2539 = .ok (.iaload, 1) := dk_46 (dk_at dksL_law_100 4 rfl rfl)
theorem dL_law_2540 : decode cL_law 2540 = .ok (.invokevirtual 305, 3) := dk_182 1 49 (dk_at dksL_law_100 5 rfl rfl)
theorem dL_law_2543 : decode cL_law 2543 = .ok (.istore 6, 2) := dk_54 6 (dk_at dksL_law_100 8 rfl rfl)
theorem dL_law_2545 : decode cL_law 2545 = .ok (.aload_n 2, 1) := dk_44 (dk_at dksL_law_100 10 rfl rfl)
theorem dL_law_2546 : decode cL_law 2546 = .ok (.invokevirtual 148, 3) := dk_182 0 148 (dk_at dksL_law_100 11 rfl rfl)
theorem dL_law_2549 : decode cL_law 2549 = .ok (.iload 5, 2) := dk_21 5 (dk_at dksL_law_100 14 rfl rfl)
theorem dL_law_2551 : decode cL_law 2551 = .ok (.if_icmp .eq 5, 3) := dk_159 0 5 (dk_at dksL_law_100 16 rfl rfl)
theorem dL_law_2554 : decode cL_law 2554 = .ok (.iconst 0, 1) := dk_3 (dk_at dksL_law_100 19 rfl rfl)
theorem dL_law_2555 : decode cL_law 2555 = .ok (.ireturn, 1) := dk_172 (dk_at dksL_law_100 20 rfl rfl)
theorem dL_law_2556 : decode cL_law 2556 = .ok (.iload 5, 2) := dk_21 5 (dk_at dksL_law_100 21 rfl rfl)
theorem dL_law_2558 : decode cL_law 2558 = .ok (.ifCond .ne 15, 3) := dk_154 0 15 (dk_at dksL_law_101 0 rfl rfl)
theorem dL_law_2561 : decode cL_law 2561 = .ok (.aload_n 3, 1) := dk_45 (dk_at dksL_law_101 3 rfl rfl)
theorem dL_law_2562 : decode cL_law 2562 = .ok (.iconst 0, 1) := dk_3 (dk_at dksL_law_101 4 rfl rfl)
theorem dL_law_2563 : decode cL_law 2563 = .ok (.laload, 1) := dk_47 (dk_at dksL_law_101 5 rfl rfl)
theorem dL_law_2564 : decode cL_law 2564 = .ok (.iload 6, 2) := dk_21 6 (dk_at dksL_law_101 6 rfl rfl)
theorem dL_law_2566 : decode cL_law 2566 = .ok (.i2l, 1) := dk_133 (dk_at dksL_law_101 8 rfl rfl)
theorem dL_law_2567 : decode cL_law 2567 = .ok (.lcmp, 1) := dk_148 (dk_at dksL_law_101 9 rfl rfl)
theorem dL_law_2568 : decode cL_law 2568 = .ok (.ifCond .eq 5, 3) := dk_153 0 5 (dk_at dksL_law_101 10 rfl rfl)
theorem dL_law_2571 : decode cL_law 2571 = .ok (.iconst 0, 1) := dk_3 (dk_at dksL_law_101 13 rfl rfl)
theorem dL_law_2572 : decode cL_law 2572 = .ok (.ireturn, 1) := dk_172 (dk_at dksL_law_101 14 rfl rfl)
theorem dL_law_2573 : decode cL_law 2573 = .ok (.goto 226, 3) := dk_167 0 226 (dk_at dksL_law_101 15 rfl rfl)
theorem dL_law_2576 : decode cL_law 2576 = .ok (.aload_n 1, 1) := dk_43 (dk_at dksL_law_101 18 rfl rfl)
theorem dL_law_2577 : decode cL_law 2577 = .ok (.aload_n 0, 1) := dk_42 (dk_at dksL_law_101 19 rfl rfl)
theorem dL_law_2578 : decode cL_law 2578 = .ok (.iload 4, 2) := dk_21 4 (dk_at dksL_law_101 20 rfl rfl)
theorem dL_law_2580 : decode cL_law 2580 = .ok (.iconst 1, 1) := dk_4 (dk_at dksL_law_101 22 rfl rfl)
theorem dL_law_2581 : decode cL_law 2581 = .ok (.iadd, 1) := dk_96 (dk_at dksL_law_101 23 rfl rfl)
theorem dL_law_2582 : decode cL_law 2582 = .ok (.iaload, 1) := dk_46 (dk_at dksL_law_102 0 rfl rfl)
theorem dL_law_2583 : decode cL_law 2583 = .ok (.aload_n 3, 1) := dk_45 (dk_at dksL_law_102 1 rfl rfl)
theorem dL_law_2584 : decode cL_law 2584 = .ok (.invokestatic 306, 3) := dk_184 1 50 (dk_at dksL_law_102 2 rfl rfl)
theorem dL_law_2587 : decode cL_law 2587 = .ok (.istore 5, 2) := dk_54 5 (dk_at dksL_law_102 5 rfl rfl)
theorem dL_law_2589 : decode cL_law 2589 = .ok (.aload_n 2, 1) := dk_44 (dk_at dksL_law_102 7 rfl rfl)
theorem dL_law_2590 : decode cL_law 2590 = .ok (.aload_n 0, 1) := dk_42 (dk_at dksL_law_102 8 rfl rfl)
theorem dL_law_2591 : decode cL_law 2591 = .ok (.iload 4, 2) := dk_21 4 (dk_at dksL_law_102 9 rfl rfl)
theorem dL_law_2593 : decode cL_law 2593 = .ok (.iconst 1, 1) := dk_4 (dk_at dksL_law_102 11 rfl rfl)
theorem dL_law_2594 : decode cL_law 2594 = .ok (.iadd, 1) := dk_96 (dk_at dksL_law_102 12 rfl rfl)
theorem dL_law_2595 : decode cL_law 2595 = .ok (.iaload, 1) := dk_46 (dk_at dksL_law_102 13 rfl rfl)
theorem dL_law_2596 : decode cL_law 2596 = .ok (.invokevirtual 308, 3) := dk_182 1 52 (dk_at dksL_law_102 14 rfl rfl)
theorem dL_law_2599 : decode cL_law 2599 = .ok (.lstore 6, 2) := dk_55 6 (dk_at dksL_law_102 17 rfl rfl)
theorem dL_law_2601 : decode cL_law 2601 = .ok (.aload_n 2, 1) := dk_44 (dk_at dksL_law_102 19 rfl rfl)
theorem dL_law_2602 : decode cL_law 2602 = .ok (.invokevirtual 148, 3) := dk_182 0 148 (dk_at dksL_law_102 20 rfl rfl)
theorem dL_law_2605 : decode cL_law 2605 = .ok (.iload 5, 2) := dk_21 5 (dk_at dksL_law_103 0 rfl rfl)
theorem dL_law_2607 : decode cL_law 2607 = .ok (.if_icmp .eq 5, 3) := dk_159 0 5 (dk_at dksL_law_103 2 rfl rfl)
theorem dL_law_2610 : decode cL_law 2610 = .ok (.iconst 0, 1) := dk_3 (dk_at dksL_law_103 5 rfl rfl)
theorem dL_law_2611 : decode cL_law 2611 = .ok (.ireturn, 1) := dk_172 (dk_at dksL_law_103 6 rfl rfl)
theorem dL_law_2612 : decode cL_law 2612 = .ok (.iload 5, 2) := dk_21 5 (dk_at dksL_law_103 7 rfl rfl)
theorem dL_law_2614 : decode cL_law 2614 = .ok (.ifCond .ne 14, 3) := dk_154 0 14 (dk_at dksL_law_103 9 rfl rfl)
theorem dL_law_2617 : decode cL_law 2617 = .ok (.aload_n 3, 1) := dk_45 (dk_at dksL_law_103 12 rfl rfl)
theorem dL_law_2618 : decode cL_law 2618 = .ok (.iconst 0, 1) := dk_3 (dk_at dksL_law_103 13 rfl rfl)
theorem dL_law_2619 : decode cL_law 2619 = .ok (.laload, 1) := dk_47 (dk_at dksL_law_103 14 rfl rfl)
theorem dL_law_2620 : decode cL_law 2620 = .ok (.lload 6, 2) := dk_22 6 (dk_at dksL_law_103 15 rfl rfl)
theorem dL_law_2622 : decode cL_law 2622 = .ok (.lcmp, 1) := dk_148 (dk_at dksL_law_103 17 rfl rfl)
theorem dL_law_2623 : decode cL_law 2623 = .ok (.ifCond .eq 5, 3) := dk_153 0 5 (dk_at dksL_law_103 18 rfl rfl)
theorem dL_law_2626 : decode cL_law 2626 = .ok (.iconst 0, 1) := dk_3 (dk_at dksL_law_103 21 rfl rfl)
theorem dL_law_2627 : decode cL_law 2627 = .ok (.ireturn, 1) := dk_172 (dk_at dksL_law_103 22 rfl rfl)
theorem dL_law_2628 : decode cL_law 2628 = .ok (.goto 171, 3) := dk_167 0 171 (dk_at dksL_law_104 0 rfl rfl)
theorem dL_law_2631 : decode cL_law 2631 = .ok (.aload_n 1, 1) := dk_43 (dk_at dksL_law_104 3 rfl rfl)
theorem dL_law_2632 : decode cL_law 2632 = .ok (.aload_n 0, 1) := dk_42 (dk_at dksL_law_104 4 rfl rfl)
theorem dL_law_2633 : decode cL_law 2633 = .ok (.iload 4, 2) := dk_21 4 (dk_at dksL_law_104 5 rfl rfl)
theorem dL_law_2635 : decode cL_law 2635 = .ok (.iconst 1, 1) := dk_4 (dk_at dksL_law_104 7 rfl rfl)
theorem dL_law_2636 : decode cL_law 2636 = .ok (.iadd, 1) := dk_96 (dk_at dksL_law_104 8 rfl rfl)
theorem dL_law_2637 : decode cL_law 2637 = .ok (.iaload, 1) := dk_46 (dk_at dksL_law_104 9 rfl rfl)
theorem dL_law_2638 : decode cL_law 2638 = .ok (.aload_n 3, 1) := dk_45 (dk_at dksL_law_104 10 rfl rfl)
theorem dL_law_2639 : decode cL_law 2639 = .ok (.invokestatic 309, 3) := dk_184 1 53 (dk_at dksL_law_104 11 rfl rfl)
theorem dL_law_2642 : decode cL_law 2642 = .ok (.istore 5, 2) := dk_54 5 (dk_at dksL_law_104 14 rfl rfl)
theorem dL_law_2644 : decode cL_law 2644 = .ok (.aload_n 2, 1) := dk_44 (dk_at dksL_law_104 16 rfl rfl)
theorem dL_law_2645 : decode cL_law 2645 = .ok (.aload_n 0, 1) := dk_42 (dk_at dksL_law_104 17 rfl rfl)
theorem dL_law_2646 : decode cL_law 2646 = .ok (.iload 4, 2) := dk_21 4 (dk_at dksL_law_104 18 rfl rfl)
theorem dL_law_2648 : decode cL_law 2648 = .ok (.iconst 1, 1) := dk_4 (dk_at dksL_law_104 20 rfl rfl)
theorem dL_law_2649 : decode cL_law 2649 = .ok (.iadd, 1) := dk_96 (dk_at dksL_law_104 21 rfl rfl)
theorem dL_law_2650 : decode cL_law 2650 = .ok (.iaload, 1) := dk_46 (dk_at dksL_law_104 22 rfl rfl)
theorem dL_law_2651 : decode cL_law 2651 = .ok (.invokevirtual 311, 3) := dk_182 1 55 (dk_at dksL_law_105 0 rfl rfl)
theorem dL_law_2654 : decode cL_law 2654 = .ok (.istore 6, 2) := dk_54 6 (dk_at dksL_law_105 3 rfl rfl)
theorem dL_law_2656 : decode cL_law 2656 = .ok (.aload_n 2, 1) := dk_44 (dk_at dksL_law_105 5 rfl rfl)
theorem dL_law_2657 : decode cL_law 2657 = .ok (.invokevirtual 148, 3) := dk_182 0 148 (dk_at dksL_law_105 6 rfl rfl)
theorem dL_law_2660 : decode cL_law 2660 = .ok (.iload 5, 2) := dk_21 5 (dk_at dksL_law_105 9 rfl rfl)
theorem dL_law_2662 : decode cL_law 2662 = .ok (.if_icmp .eq 5, 3) := dk_159 0 5 (dk_at dksL_law_105 11 rfl rfl)
theorem dL_law_2665 : decode cL_law 2665 = .ok (.iconst 0, 1) := dk_3 (dk_at dksL_law_105 14 rfl rfl)
theorem dL_law_2666 : decode cL_law 2666 = .ok (.ireturn, 1) := dk_172 (dk_at dksL_law_105 15 rfl rfl)
theorem dL_law_2667 : decode cL_law 2667 = .ok (.iload 5, 2) := dk_21 5 (dk_at dksL_law_105 16 rfl rfl)
theorem dL_law_2669 : decode cL_law 2669 = .ok (.ifCond .ne 22, 3) := dk_154 0 22 (dk_at dksL_law_105 18 rfl rfl)
theorem dL_law_2672 : decode cL_law 2672 = .ok (.aload_n 3, 1) := dk_45 (dk_at dksL_law_105 21 rfl rfl)
theorem dL_law_2673 : decode cL_law 2673 = .ok (.iconst 0, 1) := dk_3 (dk_at dksL_law_105 22 rfl rfl)
theorem dL_law_2674 : decode cL_law 2674 = .ok (.laload, 1) := dk_47 (dk_at dksL_law_105 23 rfl rfl)
theorem dL_law_2675 : decode cL_law 2675 = .ok (.iload 6, 2) := dk_21 6 (dk_at dksL_law_106 0 rfl rfl)
theorem dL_law_2677 : decode cL_law 2677 = .ok (.ifCond .eq 7, 3) := dk_153 0 7 (dk_at dksL_law_106 2 rfl rfl)
theorem dL_law_2680 : decode cL_law 2680 = .ok (.lconst 1, 1) := dk_10 (dk_at dksL_law_106 5 rfl rfl)
theorem dL_law_2681 : decode cL_law 2681 = .ok (.goto 4, 3) := dk_167 0 4 (dk_at dksL_law_106 6 rfl rfl)
theorem dL_law_2684 : decode cL_law 2684 = .ok (.lconst 0, 1) := dk_9 (dk_at dksL_law_106 9 rfl rfl)
theorem dL_law_2685 : decode cL_law 2685 = .ok (.lcmp, 1) := dk_148 (dk_at dksL_law_106 10 rfl rfl)
theorem dL_law_2686 : decode cL_law 2686 = .ok (.ifCond .eq 5, 3) := dk_153 0 5 (dk_at dksL_law_106 11 rfl rfl)
theorem dL_law_2689 : decode cL_law 2689 = .ok (.iconst 0, 1) := dk_3 (dk_at dksL_law_106 14 rfl rfl)
theorem dL_law_2690 : decode cL_law 2690 = .ok (.ireturn, 1) := dk_172 (dk_at dksL_law_106 15 rfl rfl)
theorem dL_law_2691 : decode cL_law 2691 = .ok (.goto 108, 3) := dk_167 0 108 (dk_at dksL_law_106 16 rfl rfl)
theorem dL_law_2694 : decode cL_law 2694 = .ok (.aload_n 1, 1) := dk_43 (dk_at dksL_law_106 19 rfl rfl)
theorem dL_law_2695 : decode cL_law 2695 = .ok (.aload_n 0, 1) := dk_42 (dk_at dksL_law_106 20 rfl rfl)
theorem dL_law_2696 : decode cL_law 2696 = .ok (.iload 4, 2) := dk_21 4 (dk_at dksL_law_106 21 rfl rfl)
theorem dL_law_2698 : decode cL_law 2698 = .ok (.iconst 1, 1) := dk_4 (dk_at dksL_law_106 23 rfl rfl)
theorem dL_law_2699 : decode cL_law 2699 = .ok (.iadd, 1) := dk_96 (dk_at dksL_law_107 0 rfl rfl)
theorem dL_law_2700 : decode cL_law 2700 = .ok (.iaload, 1) := dk_46 (dk_at dksL_law_107 1 rfl rfl)
theorem dL_law_2701 : decode cL_law 2701 = .ok (.aload_n 0, 1) := dk_42 (dk_at dksL_law_107 2 rfl rfl)
theorem dL_law_2702 : decode cL_law 2702 = .ok (.iload 4, 2) := dk_21 4 (dk_at dksL_law_107 3 rfl rfl)
theorem dL_law_2704 : decode cL_law 2704 = .ok (.iconst 2, 1) := dk_5 (dk_at dksL_law_107 5 rfl rfl)
theorem dL_law_2705 : decode cL_law 2705 = .ok (.iadd, 1) := dk_96 (dk_at dksL_law_107 6 rfl rfl)
theorem dL_law_2706 : decode cL_law 2706 = .ok (.iaload, 1) := dk_46 (dk_at dksL_law_107 7 rfl rfl)
theorem dL_law_2707 : decode cL_law 2707 = .ok (.aload_n 0, 1) := dk_42 (dk_at dksL_law_107 8 rfl rfl)
theorem dL_law_2708 : decode cL_law 2708 = .ok (.iload 4, 2) := dk_21 4 (dk_at dksL_law_107 9 rfl rfl)
theorem dL_law_2710 : decode cL_law 2710 = .ok (.iconst 3, 1) := dk_6 (dk_at dksL_law_107 11 rfl rfl)
theorem dL_law_2711 : decode cL_law 2711 = .ok (.iadd, 1) := dk_96 (dk_at dksL_law_107 12 rfl rfl)
theorem dL_law_2712 : decode cL_law 2712 = .ok (.iaload, 1) := dk_46 (dk_at dksL_law_107 13 rfl rfl)
theorem dL_law_2713 : decode cL_law 2713 = .ok (.aload_n 3, 1) := dk_45 (dk_at dksL_law_107 14 rfl rfl)
theorem dL_law_2714 : decode cL_law 2714 = .ok (.invokestatic 312, 3) := dk_184 1 56 (dk_at dksL_law_107 15 rfl rfl)
theorem dL_law_2717 : decode cL_law 2717 = .ok (.istore 5, 2) := dk_54 5 (dk_at dksL_law_107 18 rfl rfl)
theorem dL_law_2719 : decode cL_law 2719 = .ok (.aload_n 2, 1) := dk_44 (dk_at dksL_law_107 20 rfl rfl)
theorem dL_law_2720 : decode cL_law 2720 = .ok (.aload_n 0, 1) := dk_42 (dk_at dksL_law_107 21 rfl rfl)
theorem dL_law_2721 : decode cL_law 2721 = .ok (.iload 4, 2) := dk_21 4 (dk_at dksL_law_107 22 rfl rfl)
theorem dL_law_2723 : decode cL_law 2723 = .ok (.iconst 1, 1) := dk_4 (dk_at dksL_law_108 0 rfl rfl)
theorem dL_law_2724 : decode cL_law 2724 = .ok (.iadd, 1) := dk_96 (dk_at dksL_law_108 1 rfl rfl)
theorem dL_law_2725 : decode cL_law 2725 = .ok (.iaload, 1) := dk_46 (dk_at dksL_law_108 2 rfl rfl)
theorem dL_law_2726 : decode cL_law 2726 = .ok (.aload_n 0, 1) := dk_42 (dk_at dksL_law_108 3 rfl rfl)
theorem dL_law_2727 : decode cL_law 2727 = .ok (.iload 4, 2) := dk_21 4 (dk_at dksL_law_108 4 rfl rfl)
theorem dL_law_2729 : decode cL_law 2729 = .ok (.iconst 2, 1) := dk_5 (dk_at dksL_law_108 6 rfl rfl)
theorem dL_law_2730 : decode cL_law 2730 = .ok (.iadd, 1) := dk_96 (dk_at dksL_law_108 7 rfl rfl)
theorem dL_law_2731 : decode cL_law 2731 = .ok (.iaload, 1) := dk_46 (dk_at dksL_law_108 8 rfl rfl)
theorem dL_law_2732 : decode cL_law 2732 = .ok (.aload_n 0, 1) := dk_42 (dk_at dksL_law_108 9 rfl rfl)
theorem dL_law_2733 : decode cL_law 2733 = .ok (.iload 4, 2) := dk_21 4 (dk_at dksL_law_108 10 rfl rfl)
theorem dL_law_2735 : decode cL_law 2735 = .ok (.iconst 3, 1) := dk_6 (dk_at dksL_law_108 12 rfl rfl)
theorem dL_law_2736 : decode cL_law 2736 = .ok (.iadd, 1) := dk_96 (dk_at dksL_law_108 13 rfl rfl)
theorem dL_law_2737 : decode cL_law 2737 = .ok (.iaload, 1) := dk_46 (dk_at dksL_law_108 14 rfl rfl)
theorem dL_law_2738 : decode cL_law 2738 = .ok (.invokevirtual 314, 3) := dk_182 1 58 (dk_at dksL_law_108 15 rfl rfl)
theorem dL_law_2741 : decode cL_law 2741 = .ok (.istore 6, 2) := dk_54 6 (dk_at dksL_law_108 18 rfl rfl)
theorem dL_law_2743 : decode cL_law 2743 = .ok (.aload_n 2, 1) := dk_44 (dk_at dksL_law_108 20 rfl rfl)
theorem dL_law_2744 : decode cL_law 2744 = .ok (.invokevirtual 148, 3) := dk_182 0 148 (dk_at dksL_law_108 21 rfl rfl)
theorem dL_law_2747 : decode cL_law 2747 = .ok (.iload 5, 2) := dk_21 5 (dk_at dksL_law_109 0 rfl rfl)
theorem dL_law_2749 : decode cL_law 2749 = .ok (.if_icmp .eq 5, 3) := dk_159 0 5 (dk_at dksL_law_109 2 rfl rfl)
theorem dL_law_2752 : decode cL_law 2752 = .ok (.iconst 0, 1) := dk_3 (dk_at dksL_law_109 5 rfl rfl)
theorem dL_law_2753 : decode cL_law 2753 = .ok (.ireturn, 1) := dk_172 (dk_at dksL_law_109 6 rfl rfl)
theorem dL_law_2754 : decode cL_law 2754 = .ok (.iload 5, 2) := dk_21 5 (dk_at dksL_law_109 7 rfl rfl)
theorem dL_law_2756 : decode cL_law 2756 = .ok (.ifCond .ne 15, 3) := dk_154 0 15 (dk_at dksL_law_109 9 rfl rfl)
theorem dL_law_2759 : decode cL_law 2759 = .ok (.aload_n 3, 1) := dk_45 (dk_at dksL_law_109 12 rfl rfl)
theorem dL_law_2760 : decode cL_law 2760 = .ok (.iconst 0, 1) := dk_3 (dk_at dksL_law_109 13 rfl rfl)
theorem dL_law_2761 : decode cL_law 2761 = .ok (.laload, 1) := dk_47 (dk_at dksL_law_109 14 rfl rfl)
theorem dL_law_2762 : decode cL_law 2762 = .ok (.iload 6, 2) := dk_21 6 (dk_at dksL_law_109 15 rfl rfl)
theorem dL_law_2764 : decode cL_law 2764 = .ok (.i2l, 1) := dk_133 (dk_at dksL_law_109 17 rfl rfl)
theorem dL_law_2765 : decode cL_law 2765 = .ok (.lcmp, 1) := dk_148 (dk_at dksL_law_109 18 rfl rfl)
theorem dL_law_2766 : decode cL_law 2766 = .ok (.ifCond .eq 5, 3) := dk_153 0 5 (dk_at dksL_law_109 19 rfl rfl)
theorem dL_law_2769 : decode cL_law 2769 = .ok (.iconst 0, 1) := dk_3 (dk_at dksL_law_109 22 rfl rfl)
theorem dL_law_2770 : decode cL_law 2770 = .ok (.ireturn, 1) := dk_172 (dk_at dksL_law_109 23 rfl rfl)
theorem dL_law_2771 : decode cL_law 2771 = .ok (.goto 28, 3) := dk_167 0 28 (dk_at dksL_law_110 0 rfl rfl)
theorem dL_law_2774 : decode cL_law 2774 = .ok (.aload_n 1, 1) := dk_43 (dk_at dksL_law_110 3 rfl rfl)
theorem dL_law_2775 : decode cL_law 2775 = .ok (.aload_n 0, 1) := dk_42 (dk_at dksL_law_110 4 rfl rfl)
theorem dL_law_2776 : decode cL_law 2776 = .ok (.iload 4, 2) := dk_21 4 (dk_at dksL_law_110 5 rfl rfl)
theorem dL_law_2778 : decode cL_law 2778 = .ok (.iconst 1, 1) := dk_4 (dk_at dksL_law_110 7 rfl rfl)
theorem dL_law_2779 : decode cL_law 2779 = .ok (.iadd, 1) := dk_96 (dk_at dksL_law_110 8 rfl rfl)
theorem dL_law_2780 : decode cL_law 2780 = .ok (.iaload, 1) := dk_46 (dk_at dksL_law_110 9 rfl rfl)
theorem dL_law_2781 : decode cL_law 2781 = .ok (.invokevirtual 315, 3) := dk_182 1 59 (dk_at dksL_law_110 10 rfl rfl)
theorem dL_law_2784 : decode cL_law 2784 = .ok (.aload_n 2, 1) := dk_44 (dk_at dksL_law_110 13 rfl rfl)
theorem dL_law_2785 : decode cL_law 2785 = .ok (.aload_n 0, 1) := dk_42 (dk_at dksL_law_110 14 rfl rfl)
theorem dL_law_2786 : decode cL_law 2786 = .ok (.iload 4, 2) := dk_21 4 (dk_at dksL_law_110 15 rfl rfl)
theorem dL_law_2788 : decode cL_law 2788 = .ok (.iconst 1, 1) := dk_4 (dk_at dksL_law_110 17 rfl rfl)
theorem dL_law_2789 : decode cL_law 2789 = .ok (.iadd, 1) := dk_96 (dk_at dksL_law_110 18 rfl rfl)
theorem dL_law_2790 : decode cL_law 2790 = .ok (.iaload, 1) := dk_46 (dk_at dksL_law_110 19 rfl rfl)
theorem dL_law_2791 : decode cL_law 2791 = .ok (.invokevirtual 318, 3) := dk_182 1 62 (dk_at dksL_law_110 20 rfl rfl)
theorem dL_law_2794 : decode cL_law 2794 = .ok (.if_icmp .eq 5, 3) := dk_159 0 5 (dk_at dksL_law_111 0 rfl rfl)
theorem dL_law_2797 : decode cL_law 2797 = .ok (.iconst 0, 1) := dk_3 (dk_at dksL_law_111 3 rfl rfl)
theorem dL_law_2798 : decode cL_law 2798 = .ok (.ireturn, 1) := dk_172 (dk_at dksL_law_111 4 rfl rfl)
theorem dL_law_2799 : decode cL_law 2799 = .ok (.iinc 4 6, 3) := dk_132 4 6 (dk_at dksL_law_111 5 rfl rfl)
theorem dL_law_2802 : decode cL_law 2802 = .ok (.goto (-2779), 3) := dk_167 245 37 (dk_at dksL_law_111 8 rfl rfl)
theorem dL_law_2805 : decode cL_law 2805 = .ok (.iconst 1, 1) := dk_4 (dk_at dksL_law_111 11 rfl rfl)
theorem dL_law_2806 : decode cL_law 2806 = .ok (.ireturn, 1) := dk_172 (dk_at dksL_law_111 12 rfl rfl)
