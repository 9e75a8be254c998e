/-! RepeatFree -/
set_option maxRecDepth 100000
def RX1 : String := "RepeatFree"
def TX1 : u_T := fun k => match k with
  | 0 => ("RepeatFree", "tape", "[B", true)
  | 1 => ("RepeatFree", "taped", "I", false)
  | 2 => ("RepeatFree", "wrongAt", "I", false)
  | 3 => ("RepeatFree", "told", "LRepeatFree$Told;", false)
  | 4 => ("RepeatFree", "avoided", "[LRepeatFree$Pattern;", false)
  | 5 => ("RepeatFree", "word", "LRepeatFree$Word;", false)
  | 6 => ("RepeatFree", "past", "Ljava/util/ArrayDeque;", true)
  | 7 => ("RepeatFree", "judged", "LRepeatFree$Word;", true)
  | _ => ("RepeatFree", "imaged", "LRepeatFree$Word;", true)
def tyX1 : Nat → FieldType := fun k => match k with
  | 0 => .array .byte
  | 1 => .int
  | 2 => .int
  | 3 => .object "RepeatFree$Told"
  | 4 => .array (.object "RepeatFree$Pattern")
  | 5 => .object "RepeatFree$Word"
  | 6 => .object "java/util/ArrayDeque"
  | 7 => .object "RepeatFree$Word"
  | _ => .object "RepeatFree$Word"
abbrev wsX10 : List Cond := u_ws RX1 TX1 9
theorem nmX1 : ∀ a, a < 9 → ∀ b, b < 9 → a ≠ b → (TX1 a).2.1 ≠ (TX1 b).2.1 := by decide +kernel
theorem tyX1_ok : ∀ k, k < 9 → parseFieldDescriptor (TX1 k).2.2.1 = some (tyX1 k) := by decide +kernel
abbrev cX1_init : ByteArray := prog_1_method_7_code
def yX1_init : MethodName := ⟨RX1, "<init>", "()V"⟩
def dkwX1_init_3 : List UInt8 := [181, 0, 56, 42, 187, 0, 42, 89, 183, 0, 44, 181, 0, 59, 177]
abbrev dktX1_init_3 : List UInt8 := dkwX1_init_3 ++ []
def dkwX1_init_2 : List UInt8 := [181, 0, 45, 42, 187, 0, 49, 89, 183, 0, 51, 181, 0, 52, 42, 187, 0, 42, 89, 183, 0, 44]
abbrev dktX1_init_2 : List UInt8 := dkwX1_init_2 ++ dktX1_init_3
def dkwX1_init_1 : List UInt8 := [183, 0, 31, 181, 0, 32, 42, 3, 189, 0, 36, 181, 0, 38, 42, 187, 0, 42, 89, 183, 0, 44]
abbrev dktX1_init_1 : List UInt8 := dkwX1_init_1 ++ dktX1_init_2
def dkwX1_init_0 : List UInt8 := [42, 183, 0, 16, 42, 17, 1, 144, 188, 8, 181, 0, 21, 42, 2, 181, 0, 25, 42, 187, 0, 29, 89]
abbrev dktX1_init_0 : List UInt8 := dkwX1_init_0 ++ dktX1_init_1
theorem dksX1_init_0 : cX1_init.data.toList.drop 0 = dktX1_init_0 := by decide +kernel
theorem dksX1_init_1 : cX1_init.data.toList.drop 23 = dktX1_init_1 := dk_seg dksX1_init_0 23 rfl rfl
theorem dksX1_init_2 : cX1_init.data.toList.drop 45 = dktX1_init_2 := dk_seg dksX1_init_1 22 rfl rfl
theorem dksX1_init_3 : cX1_init.data.toList.drop 67 = dktX1_init_3 := dk_seg dksX1_init_2 22 rfl rfl
theorem dX1_init_0 : decode cX1_init 0 = .ok (.aload_n 0, 1) := dk_42 (dk_at dksX1_init_0 0 rfl rfl)
theorem dX1_init_1 : decode cX1_init 1 = .ok (.invokespecial 16, 3) := dk_183 0 16 (dk_at dksX1_init_0 1 rfl rfl)
theorem dX1_init_4 : decode cX1_init 4 = .ok (.aload_n 0, 1) := dk_42 (dk_at dksX1_init_0 4 rfl rfl)
theorem dX1_init_5 : decode cX1_init 5 = .ok (.sipush 400, 3) := dk_17 1 144 (dk_at dksX1_init_0 5 rfl rfl)
theorem dX1_init_8 : decode cX1_init 8 = .ok (.newarray .byte, 2) := dk_188_8 (dk_at dksX1_init_0 8 rfl rfl)
theorem dX1_init_10 : decode cX1_init 10 = .ok (.putfield 21, 3) := dk_181 0 21 (dk_at dksX1_init_0 10 rfl rfl)
theorem dX1_init_13 : decode cX1_init 13 = .ok (.aload_n 0, 1) := dk_42 (dk_at dksX1_init_0 13 rfl rfl)
theorem dX1_init_14 : decode cX1_init 14 = .ok (.iconst (-1), 1) := dk_2 (dk_at dksX1_init_0 14 rfl rfl)
theorem dX1_init_15 : decode cX1_init 15 = .ok (.putfield 25, 3) := dk_181 0 25 (dk_at dksX1_init_0 15 rfl rfl)
theorem dX1_init_18 : decode cX1_init 18 = .ok (.aload_n 0, 1) := dk_42 (dk_at dksX1_init_0 18 rfl rfl)
theorem dX1_init_19 : decode cX1_init 19 = .ok (.new 29, 3) := dk_187 0 29 (dk_at dksX1_init_0 19 rfl rfl)
theorem dX1_init_22 : decode cX1_init 22 = .ok (.dup, 1) := dk_89 (dk_at dksX1_init_0 22 rfl rfl)
theorem dX1_init_23 : decode cX1_init 23 = .ok (.invokespecial 31, 3) := dk_183 0 31 (dk_at dksX1_init_1 0 rfl rfl)
theorem dX1_init_26 : decode cX1_init 26 = .ok (.putfield 32, 3) := dk_181 0 32 (dk_at dksX1_init_1 3 rfl rfl)
theorem dX1_init_29 : decode cX1_init 29 = .ok (.aload_n 0, 1) := dk_42 (dk_at dksX1_init_1 6 rfl rfl)
theorem dX1_init_30 : decode cX1_init 30 = .ok (.iconst 0, 1) := dk_3 (dk_at dksX1_init_1 7 rfl rfl)
theorem dX1_init_31 : decode cX1_init 31 = .ok (.anewarray 36, 3) := dk_189 0 36 (dk_at dksX1_init_1 8 rfl rfl)
theorem dX1_init_34 : decode cX1_init 34 = .ok (.putfield 38, 3) := dk_181 0 38 (dk_at dksX1_init_1 11 rfl rfl)
theorem dX1_init_37 : decode cX1_init 37 = .ok (.aload_n 0, 1) := dk_42 (dk_at dksX1_init_1 14 rfl rfl)
theorem dX1_init_38 : decode cX1_init 38 = .ok (.new 42, 3) := dk_187 0 42 (dk_at dksX1_init_1 15 rfl rfl)
theorem dX1_init_41 : decode cX1_init 41 = .ok (.dup, 1) := dk_89 (dk_at dksX1_init_1 18 rfl rfl)
theorem dX1_init_42 : decode cX1_init 42 = .ok (.invokespecial 44, 3) := dk_183 0 44 (dk_at dksX1_init_1 19 rfl rfl)
theorem dX1_init_45 : decode cX1_init 45 = .ok (.putfield 45, 3) := dk_181 0 45 (dk_at dksX1_init_2 0 rfl rfl)
theorem dX1_init_48 : decode cX1_init 48 = .ok (.aload_n 0, 1) := dk_42 (dk_at dksX1_init_2 3 rfl rfl)
theorem dX1_init_49 : decode cX1_init 49 = .ok (.new 49, 3) := dk_187 0 49 (dk_at dksX1_init_2 4 rfl rfl)
theorem dX1_init_52 : decode cX1_init 52 = .ok (.dup, 1) := dk_89 (dk_at dksX1_init_2 7 rfl rfl)
theorem dX1_init_53 : decode cX1_init 53 = .ok (.invokespecial 51, 3) := dk_183 0 51 (dk_at dksX1_init_2 8 rfl rfl)
theorem dX1_init_56 : decode cX1_init 56 = .ok (.putfield 52, 3) := dk_181 0 52 (dk_at dksX1_init_2 11 rfl rfl)
theorem dX1_init_59 : decode cX1_init 59 = .ok (.aload_n 0, 1) := dk_42 (dk_at dksX1_init_2 14 rfl rfl)
theorem dX1_init_60 : decode cX1_init 60 = .ok (.new 42, 3) := dk_187 0 42 (dk_at dksX1_init_2 15 rfl rfl)
theorem dX1_init_63 : decode cX1_init 63 = .ok (.dup, 1) := dk_89 (dk_at dksX1_init_2 18 rfl rfl)
theorem dX1_init_64 : decode cX1_init 64 = .ok (.invokespecial 44, 3) := dk_183 0 44 (dk_at dksX1_init_2 19 rfl rfl)
theorem dX1_init_67 : decode cX1_init 67 = .ok (.putfield 56, 3) := dk_181 0 56 (dk_at dksX1_init_3 0 rfl rfl)
theorem dX1_init_70 : decode cX1_init 70 = .ok (.aload_n 0, 1) := dk_42 (dk_at dksX1_init_3 3 rfl rfl)
theorem dX1_init_71 : decode cX1_init 71 = .ok (.new 42, 3) := dk_187 0 42 (dk_at dksX1_init_3 4 rfl rfl)
theorem dX1_init_74 : decode cX1_init 74 = .ok (.dup, 1) := dk_89 (dk_at dksX1_init_3 7 rfl rfl)
theorem dX1_init_75 : decode cX1_init 75 = .ok (.invokespecial 44, 3) := dk_183 0 44 (dk_at dksX1_init_3 8 rfl rfl)
theorem dX1_init_78 : decode cX1_init 78 = .ok (.putfield 59, 3) := dk_181 0 59 (dk_at dksX1_init_3 11 rfl rfl)
theorem dX1_init_81 : decode cX1_init 81 = .ok (.return_, 1) := dk_177 (dk_at dksX1_init_3 14 rfl rfl)
abbrev cX1_feed : ByteArray := prog_1_method_8_code
def yX1_feed : MethodName := ⟨RX1, "feed", "(IIIII)I"⟩
def dkwX1_feed_2 : List UInt8 := [172]
abbrev dktX1_feed_2 : List UInt8 := dkwX1_feed_2 ++ []
def dkwX1_feed_1 : List UInt8 := [182, 0, 65, 42, 29, 182, 0, 65, 42, 21, 4, 182, 0, 65, 42, 21, 5, 182, 0, 65, 42, 180, 0, 62]
abbrev dktX1_feed_1 : List UInt8 := dkwX1_feed_1 ++ dktX1_feed_2
def dkwX1_feed_0 : List UInt8 := [42, 180, 0, 62, 16, 20, 96, 17, 1, 144, 164, 0, 5, 2, 172, 42, 27, 182, 0, 65, 42, 28]
abbrev dktX1_feed_0 : List UInt8 := dkwX1_feed_0 ++ dktX1_feed_1
theorem dksX1_feed_0 : cX1_feed.data.toList.drop 0 = dktX1_feed_0 := by decide +kernel
theorem dksX1_feed_1 : cX1_feed.data.toList.drop 22 = dktX1_feed_1 := dk_seg dksX1_feed_0 22 rfl rfl
theorem dksX1_feed_2 : cX1_feed.data.toList.drop 46 = dktX1_feed_2 := dk_seg dksX1_feed_1 24 rfl rfl
theorem dX1_feed_0 : decode cX1_feed 0 = .ok (.aload_n 0, 1) := dk_42 (dk_at dksX1_feed_0 0 rfl rfl)
theorem dX1_feed_1 : decode cX1_feed 1 = .ok (.getfield 62, 3) := dk_180 0 62 (dk_at dksX1_feed_0 1 rfl rfl)
theorem dX1_feed_4 : decode cX1_feed 4 = .ok (.bipush 20, 2) := dk_16 20 (dk_at dksX1_feed_0 4 rfl rfl)
theorem dX1_feed_6 : decode cX1_feed 6 = .ok (.iadd, 1) := dk_96 (dk_at dksX1_feed_0 6 rfl rfl)
theorem dX1_feed_7 : decode cX1_feed 7 = .ok (.sipush 400, 3) := dk_17 1 144 (dk_at dksX1_feed_0 7 rfl rfl)
theorem dX1_feed_10 : decode cX1_feed 10 = .ok (.if_icmp .le 5, 3) := dk_164 0 5 (dk_at dksX1_feed_0 10 rfl rfl)
theorem dX1_feed_13 : decode cX1_feed 13 = .ok (.iconst (-1), 1) := dk_2 (dk_at dksX1_feed_0 13 rfl rfl)
theorem dX1_feed_14 : decode cX1_feed 14 = .ok (.ireturn, 1) := dk_172 (dk_at dksX1_feed_0 14 rfl rfl)
theorem dX1_feed_15 : decode cX1_feed 15 = .ok (.aload_n 0, 1) := dk_42 (dk_at dksX1_feed_0 15 rfl rfl)
theorem dX1_feed_16 : decode cX1_feed 16 = .ok (.iload_n 1, 1) := dk_27 (dk_at dksX1_feed_0 16 rfl rfl)
theorem dX1_feed_17 : decode cX1_feed 17 = .ok (.invokevirtual 65, 3) := dk_182 0 65 (dk_at dksX1_feed_0 17 rfl rfl)
theorem dX1_feed_20 : decode cX1_feed 20 = .ok (.aload_n 0, 1) := dk_42 (dk_at dksX1_feed_0 20 rfl rfl)
theorem dX1_feed_21 : decode cX1_feed 21 = .ok (.iload_n 2, 1) := dk_28 (dk_at dksX1_feed_0 21 rfl rfl)
theorem dX1_feed_22 : decode cX1_feed 22 = .ok (.invokevirtual 65, 3) := dk_182 0 65 (dk_at dksX1_feed_1 0 rfl rfl)
theorem dX1_feed_25 : decode cX1_feed 25 = .ok (.aload_n 0, 1) := dk_42 (dk_at dksX1_feed_1 3 rfl rfl)
theorem dX1_feed_26 : decode cX1_feed 26 = .ok (.iload_n 3, 1) := dk_29 (dk_at dksX1_feed_1 4 rfl rfl)
theorem dX1_feed_27 : decode cX1_feed 27 = .ok (.invokevirtual 65, 3) := dk_182 0 65 (dk_at dksX1_feed_1 5 rfl rfl)
theorem dX1_feed_30 : decode cX1_feed 30 = .ok (.aload_n 0, 1) := dk_42 (dk_at dksX1_feed_1 8 rfl rfl)
theorem dX1_feed_31 : decode cX1_feed 31 = .ok (.iload 4, 2) := dk_21 4 (dk_at dksX1_feed_1 9 rfl rfl)
theorem dX1_feed_33 : decode cX1_feed 33 = .ok (.invokevirtual 65, 3) := dk_182 0 65 (dk_at dksX1_feed_1 11 rfl rfl)
theorem dX1_feed_36 : decode cX1_feed 36 = .ok (.aload_n 0, 1) := dk_42 (dk_at dksX1_feed_1 14 rfl rfl)
theorem dX1_feed_37 : decode cX1_feed 37 = .ok (.iload 5, 2) := dk_21 5 (dk_at dksX1_feed_1 15 rfl rfl)
theorem dX1_feed_39 : decode cX1_feed 39 = .ok (.invokevirtual 65, 3) := dk_182 0 65 (dk_at dksX1_feed_1 17 rfl rfl)
theorem dX1_feed_42 : decode cX1_feed 42 = .ok (.aload_n 0, 1) := dk_42 (dk_at dksX1_feed_1 20 rfl rfl)
theorem dX1_feed_43 : decode cX1_feed 43 = .ok (.getfield 62, 3) := dk_180 0 62 (dk_at dksX1_feed_1 21 rfl rfl)
theorem dX1_feed_46 : decode cX1_feed 46 = .ok (.ireturn, 1) := dk_172 (dk_at dksX1_feed_2 0 rfl rfl)
abbrev cX1_lays : ByteArray := prog_1_method_9_code
def yX1_lays : MethodName := ⟨RX1, "lays", "(I)V"⟩
def dkwX1_lays_1 : List UInt8 := [180, 0, 62, 4, 96, 181, 0, 62, 132, 2, 248, 167, 255, 226, 177]
abbrev dktX1_lays_1 : List UInt8 := dkwX1_lays_1 ++ []
def dkwX1_lays_0 : List UInt8 := [16, 24, 61, 28, 155, 0, 32, 42, 180, 0, 21, 42, 180, 0, 62, 27, 28, 122, 145, 84, 42, 89]
abbrev dktX1_lays_0 : List UInt8 := dkwX1_lays_0 ++ dktX1_lays_1
theorem dksX1_lays_0 : cX1_lays.data.toList.drop 0 = dktX1_lays_0 := by decide +kernel
theorem dksX1_lays_1 : cX1_lays.data.toList.drop 22 = dktX1_lays_1 := dk_seg dksX1_lays_0 22 rfl rfl
theorem dX1_lays_0 : decode cX1_lays 0 = .ok (.bipush 24, 2) := dk_16 24 (dk_at dksX1_lays_0 0 rfl rfl)
theorem dX1_lays_2 : decode cX1_lays 2 = .ok (.istore_n 2, 1) := dk_61 (dk_at dksX1_lays_0 2 rfl rfl)
theorem dX1_lays_3 : decode cX1_lays 3 = .ok (.iload_n 2, 1) := dk_28 (dk_at dksX1_lays_0 3 rfl rfl)
theorem dX1_lays_4 : decode cX1_lays 4 = .ok (.ifCond .lt 32, 3) := dk_155 0 32 (dk_at dksX1_lays_0 4 rfl rfl)
theorem dX1_lays_7 : decode cX1_lays 7 = .ok (.aload_n 0, 1) := dk_42 (dk_at dksX1_lays_0 7 rfl rfl)
theorem dX1_lays_8 : decode cX1_lays 8 = .ok (.getfield 21, 3) := dk_180 0 21 (dk_at dksX1_lays_0 8 rfl rfl)
theorem dX1_lays_11 : decode cX1_lays 11 = .ok (.aload_n 0, 1) := dk_42 (dk_at dksX1_lays_0 11 rfl rfl)
theorem dX1_lays_12 : decode cX1_lays 12 = .ok (.getfield 62, 3) := dk_180 0 62 (dk_at dksX1_lays_0 12 rfl rfl)
theorem dX1_lays_15 : decode cX1_lays 15 = .ok (.iload_n 1, 1) := dk_27 (dk_at dksX1_lays_0 15 rfl rfl)
theorem dX1_lays_16 : decode cX1_lays 16 = .ok (.iload_n 2, 1) := dk_28 (dk_at dksX1_lays_0 16 rfl rfl)
theorem dX1_lays_17 : decode cX1_lays 17 = .ok (.ishr, 1) := dk_122 (dk_at dksX1_lays_0 17 rfl rfl)
theorem dX1_lays_18 : decode cX1_lays 18 = .ok (.i2b, 1) := dk_145 (dk_at dksX1_lays_0 18 rfl rfl)
theorem dX1_lays_19 : decode cX1_lays 19 = .ok (.bastore, 1) := dk_84 (dk_at dksX1_lays_0 19 rfl rfl)
theorem dX1_lays_20 : decode cX1_lays 20 = .ok (.aload_n 0, 1) := dk_42 (dk_at dksX1_lays_0 20 rfl rfl)
theorem dX1_lays_21 : decode cX1_lays 21 = .ok (.dup, 1) := dk_89 (dk_at dksX1_lays_0 21 rfl rfl)
theorem dX1_lays_22 : decode cX1_lays 22 = .ok (.getfield 62, 3) := dk_180 0 62 (dk_at dksX1_lays_1 0 rfl rfl)
theorem dX1_lays_25 : decode cX1_lays 25 = .ok (.iconst 1, 1) := dk_4 (dk_at dksX1_lays_1 3 rfl rfl)
theorem dX1_lays_26 : decode cX1_lays 26 = .ok (.iadd, 1) := dk_96 (dk_at dksX1_lays_1 4 rfl rfl)
theorem dX1_lays_27 : decode cX1_lays 27 = .ok (.putfield 62, 3) := dk_181 0 62 (dk_at dksX1_lays_1 5 rfl rfl)
theorem dX1_lays_30 : decode cX1_lays 30 = .ok (.iinc 2 (-8), 3) := dk_132 2 248 (dk_at dksX1_lays_1 8 rfl rfl)
theorem dX1_lays_33 : decode cX1_lays 33 = .ok (.goto (-30), 3) := dk_167 255 226 (dk_at dksX1_lays_1 11 rfl rfl)
theorem dX1_lays_36 : decode cX1_lays 36 = .ok (.return_, 1) := dk_177 (dk_at dksX1_lays_1 14 rfl rfl)
abbrev cX1_end : ByteArray := prog_1_method_10_code
def yX1_end : MethodName := ⟨RX1, "end", "(I)Z"⟩
def dkwX1_end_0 : List UInt8 := [27, 155, 0, 11, 27, 42, 180, 0, 62, 164, 0, 5, 3, 172, 42, 27, 181, 0, 62, 4, 172]
abbrev dktX1_end_0 : List UInt8 := dkwX1_end_0 ++ []
theorem dksX1_end_0 : cX1_end.data.toList.drop 0 = dktX1_end_0 := by decide +kernel
theorem dX1_end_0 : decode cX1_end 0 = .ok (.iload_n 1, 1) := dk_27 (dk_at dksX1_end_0 0 rfl rfl)
theorem dX1_end_1 : decode cX1_end 1 = .ok (.ifCond .lt 11, 3) := dk_155 0 11 (dk_at dksX1_end_0 1 rfl rfl)
theorem dX1_end_4 : decode cX1_end 4 = .ok (.iload_n 1, 1) := dk_27 (dk_at dksX1_end_0 4 rfl rfl)
theorem dX1_end_5 : decode cX1_end 5 = .ok (.aload_n 0, 1) := dk_42 (dk_at dksX1_end_0 5 rfl rfl)
theorem dX1_end_6 : decode cX1_end 6 = .ok (.getfield 62, 3) := dk_180 0 62 (dk_at dksX1_end_0 6 rfl rfl)
theorem dX1_end_9 : decode cX1_end 9 = .ok (.if_icmp .le 5, 3) := dk_164 0 5 (dk_at dksX1_end_0 9 rfl rfl)
theorem dX1_end_12 : decode cX1_end 12 = .ok (.iconst 0, 1) := dk_3 (dk_at dksX1_end_0 12 rfl rfl)
theorem dX1_end_13 : decode cX1_end 13 = .ok (.ireturn, 1) := dk_172 (dk_at dksX1_end_0 13 rfl rfl)
theorem dX1_end_14 : decode cX1_end 14 = .ok (.aload_n 0, 1) := dk_42 (dk_at dksX1_end_0 14 rfl rfl)
theorem dX1_end_15 : decode cX1_end 15 = .ok (.iload_n 1, 1) := dk_27 (dk_at dksX1_end_0 15 rfl rfl)
theorem dX1_end_16 : decode cX1_end 16 = .ok (.putfield 62, 3) := dk_181 0 62 (dk_at dksX1_end_0 16 rfl rfl)
theorem dX1_end_19 : decode cX1_end 19 = .ok (.iconst 1, 1) := dk_4 (dk_at dksX1_end_0 19 rfl rfl)
theorem dX1_end_20 : decode cX1_end 20 = .ok (.ireturn, 1) := dk_172 (dk_at dksX1_end_0 20 rfl rfl)
abbrev cX1_fault : ByteArray := prog_1_method_18_code
def yX1_fault : MethodName := ⟨RX1, "fault", "()I"⟩
theorem dX1_fault_0 : decode cX1_fault 0 = .ok (.aload_n 0, 1) := by decide +kernel
theorem dX1_fault_1 : decode cX1_fault 1 = .ok (.getfield 25, 3) := by decide +kernel
theorem dX1_fault_4 : decode cX1_fault 4 = .ok (.ireturn, 1) := by decide +kernel
abbrev cX1_letter : ByteArray := prog_1_method_19_code
def yX1_letter : MethodName := ⟨RX1, "letter", "(I)I"⟩
def dkwX1_letter_1 : List UInt8 := [180, 0, 152, 27, 51, 167, 0, 4, 2, 172]
abbrev dktX1_letter_1 : List UInt8 := dkwX1_letter_1 ++ []
def dkwX1_letter_0 : List UInt8 := [27, 133, 9, 42, 180, 0, 45, 180, 0, 132, 4, 100, 133, 184, 0, 128, 153, 0, 15, 42, 180, 0, 45]
abbrev dktX1_letter_0 : List UInt8 := dkwX1_letter_0 ++ dktX1_letter_1
theorem dksX1_letter_0 : cX1_letter.data.toList.drop 0 = dktX1_letter_0 := by decide +kernel
theorem dksX1_letter_1 : cX1_letter.data.toList.drop 23 = dktX1_letter_1 := dk_seg dksX1_letter_0 23 rfl rfl
theorem dX1_letter_0 : decode cX1_letter 0 = .ok (.iload_n 1, 1) := dk_27 (dk_at dksX1_letter_0 0 rfl rfl)
theorem dX1_letter_1 : decode cX1_letter 1 = .ok (.i2l, 1) := dk_133 (dk_at dksX1_letter_0 1 rfl rfl)
theorem dX1_letter_2 : decode cX1_letter 2 = .ok (.lconst 0, 1) := dk_9 (dk_at dksX1_letter_0 2 rfl rfl)
theorem dX1_letter_3 : decode cX1_letter 3 = .ok (.aload_n 0, 1) := dk_42 (dk_at dksX1_letter_0 3 rfl rfl)
theorem dX1_letter_4 : decode cX1_letter 4 = .ok (.getfield 45, 3) := dk_180 0 45 (dk_at dksX1_letter_0 4 rfl rfl)
theorem dX1_letter_7 : decode cX1_letter 7 = .ok (.getfield 132, 3) := dk_180 0 132 (dk_at dksX1_letter_0 7 rfl rfl)
theorem dX1_letter_10 : decode cX1_letter 10 = .ok (.iconst 1, 1) := dk_4 (dk_at dksX1_letter_0 10 rfl rfl)
theorem dX1_letter_11 : decode cX1_letter 11 = .ok (.isub, 1) := dk_100 (dk_at dksX1_letter_0 11 rfl rfl)
theorem dX1_letter_12 : decode cX1_letter 12 = .ok (.i2l, 1) := dk_133 (dk_at dksX1_letter_0 12 rfl rfl)
theorem dX1_letter_13 : decode cX1_letter 13 = .ok (.invokestatic 128, 3) := dk_184 0 128 (dk_at dksX1_letter_0 13 rfl rfl)
theorem dX1_letter_16 : decode cX1_letter 16 = .ok (.ifCond .eq 15, 3) := dk_153 0 15 (dk_at dksX1_letter_0 16 rfl rfl)
theorem dX1_letter_19 : decode cX1_letter 19 = .ok (.aload_n 0, 1) := dk_42 (dk_at dksX1_letter_0 19 rfl rfl)
theorem dX1_letter_20 : decode cX1_letter 20 = .ok (.getfield 45, 3) := dk_180 0 45 (dk_at dksX1_letter_0 20 rfl rfl)
theorem dX1_letter_23 : decode cX1_letter 23 = .ok (.getfield 152, 3) := dk_180 0 152 (dk_at dksX1_letter_1 0 rfl rfl)
theorem dX1_letter_26 : decode cX1_letter 26 = .ok (.iload_n 1, 1) := dk_27 (dk_at dksX1_letter_1 3 rfl rfl)
theorem dX1_letter_27 : decode cX1_letter 27 = .ok (.baload, 1) := dk_51 (dk_at dksX1_letter_1 4 rfl rfl)
theorem dX1_letter_28 : decode cX1_letter 28 = .ok (.goto 4, 3) := dk_167 0 4 (dk_at dksX1_letter_1 5 rfl rfl)
theorem dX1_letter_31 : decode cX1_letter 31 = .ok (.iconst (-1), 1) := dk_2 (dk_at dksX1_letter_1 8 rfl rfl)
theorem dX1_letter_32 : decode cX1_letter 32 = .ok (.ireturn, 1) := dk_172 (dk_at dksX1_letter_1 9 rfl rfl)
abbrev cX1_isIn : ByteArray := prog_1_method_1_code
def yX1_isIn : MethodName := ⟨RX1, "isIn", "(JJJ)Z"⟩
def dkwX1_isIn_0 : List UInt8 := [30, 32, 148, 155, 0, 14, 30, 22, 4, 148, 157, 0, 7, 4, 167, 0, 4, 3, 172]
abbrev dktX1_isIn_0 : List UInt8 := dkwX1_isIn_0 ++ []
theorem dksX1_isIn_0 : cX1_isIn.data.toList.drop 0 = dktX1_isIn_0 := by decide +kernel
theorem dX1_isIn_0 : decode cX1_isIn 0 = .ok (.lload_n 0, 1) := dk_30 (dk_at dksX1_isIn_0 0 rfl rfl)
theorem dX1_isIn_1 : decode cX1_isIn 1 = .ok (.lload_n 2, 1) := dk_32 (dk_at dksX1_isIn_0 1 rfl rfl)
theorem dX1_isIn_2 : decode cX1_isIn 2 = .ok (.lcmp, 1) := dk_148 (dk_at dksX1_isIn_0 2 rfl rfl)
theorem dX1_isIn_3 : decode cX1_isIn 3 = .ok (.ifCond .lt 14, 3) := dk_155 0 14 (dk_at dksX1_isIn_0 3 rfl rfl)
theorem dX1_isIn_6 : decode cX1_isIn 6 = .ok (.lload_n 0, 1) := dk_30 (dk_at dksX1_isIn_0 6 rfl rfl)
theorem dX1_isIn_7 : decode cX1_isIn 7 = .ok (.lload 4, 2) := dk_22 4 (dk_at dksX1_isIn_0 7 rfl rfl)
theorem dX1_isIn_9 : decode cX1_isIn 9 = .ok (.lcmp, 1) := dk_148 (dk_at dksX1_isIn_0 9 rfl rfl)
theorem dX1_isIn_10 : decode cX1_isIn 10 = .ok (.ifCond .gt 7, 3) := dk_157 0 7 (dk_at dksX1_isIn_0 10 rfl rfl)
theorem dX1_isIn_13 : decode cX1_isIn 13 = .ok (.iconst 1, 1) := dk_4 (dk_at dksX1_isIn_0 13 rfl rfl)
theorem dX1_isIn_14 : decode cX1_isIn 14 = .ok (.goto 4, 3) := dk_167 0 4 (dk_at dksX1_isIn_0 14 rfl rfl)
theorem dX1_isIn_17 : decode cX1_isIn 17 = .ok (.iconst 0, 1) := dk_3 (dk_at dksX1_isIn_0 17 rfl rfl)
theorem dX1_isIn_18 : decode cX1_isIn 18 = .ok (.ireturn, 1) := dk_172 (dk_at dksX1_isIn_0 18 rfl rfl)
abbrev cX1_undo : ByteArray := prog_1_method_23_code
def yX1_undo : MethodName := ⟨RX1, "undo", "()I"⟩
def dkwX1_undo_1 : List UInt8 := [181, 0, 45, 42, 180, 0, 52, 182, 0, 146, 172]
abbrev dktX1_undo_1 : List UInt8 := dkwX1_undo_1 ++ []
def dkwX1_undo_0 : List UInt8 := [42, 180, 0, 52, 182, 0, 172, 153, 0, 5, 2, 172, 42, 42, 180, 0, 52, 182, 0, 175, 192, 0, 42]
abbrev dktX1_undo_0 : List UInt8 := dkwX1_undo_0 ++ dktX1_undo_1
theorem dksX1_undo_0 : cX1_undo.data.toList.drop 0 = dktX1_undo_0 := by decide +kernel
theorem dksX1_undo_1 : cX1_undo.data.toList.drop 23 = dktX1_undo_1 := dk_seg dksX1_undo_0 23 rfl rfl
theorem dX1_undo_0 : decode cX1_undo 0 = .ok (.aload_n 0, 1) := dk_42 (dk_at dksX1_undo_0 0 rfl rfl)
theorem dX1_undo_1 : decode cX1_undo 1 = .ok (.getfield 52, 3) := dk_180 0 52 (dk_at dksX1_undo_0 1 rfl rfl)
theorem dX1_undo_4 : decode cX1_undo 4 = .ok (.invokevirtual 172, 3) := dk_182 0 172 (dk_at dksX1_undo_0 4 rfl rfl)
theorem dX1_undo_7 : decode cX1_undo 7 = .ok (.ifCond .eq 5, 3) := dk_153 0 5 (dk_at dksX1_undo_0 7 rfl rfl)
theorem dX1_undo_10 : decode cX1_undo 10 = .ok (.iconst (-1), 1) := dk_2 (dk_at dksX1_undo_0 10 rfl rfl)
theorem dX1_undo_11 : decode cX1_undo 11 = .ok (.ireturn, 1) := dk_172 (dk_at dksX1_undo_0 11 rfl rfl)
theorem dX1_undo_12 : decode cX1_undo 12 = .ok (.aload_n 0, 1) := dk_42 (dk_at dksX1_undo_0 12 rfl rfl)
theorem dX1_undo_13 : decode cX1_undo 13 = .ok (.aload_n 0, 1) := dk_42 (dk_at dksX1_undo_0 13 rfl rfl)
theorem dX1_undo_14 : decode cX1_undo 14 = .ok (.getfield 52, 3) := dk_180 0 52 (dk_at dksX1_undo_0 14 rfl rfl)
theorem dX1_undo_17 : decode cX1_undo 17 = .ok (.invokevirtual 175, 3) := dk_182 0 175 (dk_at dksX1_undo_0 17 rfl rfl)
theorem dX1_undo_20 : decode cX1_undo 20 = .ok (.checkcast 42, 3) := dk_192 0 42 (dk_at dksX1_undo_0 20 rfl rfl)
theorem dX1_undo_23 : decode cX1_undo 23 = .ok (.putfield 45, 3) := dk_181 0 45 (dk_at dksX1_undo_1 0 rfl rfl)
theorem dX1_undo_26 : decode cX1_undo 26 = .ok (.aload_n 0, 1) := dk_42 (dk_at dksX1_undo_1 3 rfl rfl)
theorem dX1_undo_27 : decode cX1_undo 27 = .ok (.getfield 52, 3) := dk_180 0 52 (dk_at dksX1_undo_1 4 rfl rfl)
theorem dX1_undo_30 : decode cX1_undo 30 = .ok (.invokevirtual 146, 3) := dk_182 0 146 (dk_at dksX1_undo_1 7 rfl rfl)
theorem dX1_undo_33 : decode cX1_undo 33 = .ok (.ireturn, 1) := dk_172 (dk_at dksX1_undo_1 10 rfl rfl)
abbrev cX1_free : ByteArray := prog_1_method_26_code
def yX1_free : MethodName := ⟨RX1, "free", "()Z"⟩
def dkwX1_free_0 : List UInt8 := [42, 42, 180, 0, 45, 182, 0, 199, 2, 160, 0, 7, 4, 167, 0, 4, 3, 172]
abbrev dktX1_free_0 : List UInt8 := dkwX1_free_0 ++ []
theorem dksX1_free_0 : cX1_free.data.toList.drop 0 = dktX1_free_0 := by decide +kernel
theorem dX1_free_0 : decode cX1_free 0 = .ok (.aload_n 0, 1) := dk_42 (dk_at dksX1_free_0 0 rfl rfl)
theorem dX1_free_1 : decode cX1_free 1 = .ok (.aload_n 0, 1) := dk_42 (dk_at dksX1_free_0 1 rfl rfl)
theorem dX1_free_2 : decode cX1_free 2 = .ok (.getfield 45, 3) := dk_180 0 45 (dk_at dksX1_free_0 2 rfl rfl)
theorem dX1_free_5 : decode cX1_free 5 = .ok (.invokevirtual 199, 3) := dk_182 0 199 (dk_at dksX1_free_0 5 rfl rfl)
theorem dX1_free_8 : decode cX1_free 8 = .ok (.iconst (-1), 1) := dk_2 (dk_at dksX1_free_0 8 rfl rfl)
theorem dX1_free_9 : decode cX1_free 9 = .ok (.if_icmp .ne 7, 3) := dk_160 0 7 (dk_at dksX1_free_0 9 rfl rfl)
theorem dX1_free_12 : decode cX1_free 12 = .ok (.iconst 1, 1) := dk_4 (dk_at dksX1_free_0 12 rfl rfl)
theorem dX1_free_13 : decode cX1_free 13 = .ok (.goto 4, 3) := dk_167 0 4 (dk_at dksX1_free_0 13 rfl rfl)
theorem dX1_free_16 : decode cX1_free 16 = .ok (.iconst 0, 1) := dk_3 (dk_at dksX1_free_0 16 rfl rfl)
theorem dX1_free_17 : decode cX1_free 17 = .ok (.ireturn, 1) := dk_172 (dk_at dksX1_free_0 17 rfl rfl)
abbrev cX1_endsOf : ByteArray := prog_1_method_25_code
def yX1_endsOf : MethodName := ⟨RX1, "endsOf", "(LRepeatFree$Word;)I"⟩
def dkwX1_endsOf_2 : List UInt8 := [167, 255, 219, 2, 172]
abbrev dktX1_endsOf_2 : List UInt8 := dkwX1_endsOf_2 ++ []
def dkwX1_endsOf_1 : List UInt8 := [180, 0, 152, 28, 51, 182, 0, 135, 42, 42, 180, 0, 56, 182, 0, 196, 154, 0, 5, 28, 172, 132, 2, 1]
abbrev dktX1_endsOf_1 : List UInt8 := dkwX1_endsOf_1 ++ dktX1_endsOf_2
def dkwX1_endsOf_0 : List UInt8 := [42, 180, 0, 56, 3, 181, 0, 132, 3, 61, 28, 43, 180, 0, 132, 162, 0, 35, 42, 180, 0, 56, 43]
abbrev dktX1_endsOf_0 : List UInt8 := dkwX1_endsOf_0 ++ dktX1_endsOf_1
theorem dksX1_endsOf_0 : cX1_endsOf.data.toList.drop 0 = dktX1_endsOf_0 := by decide +kernel
theorem dksX1_endsOf_1 : cX1_endsOf.data.toList.drop 23 = dktX1_endsOf_1 := dk_seg dksX1_endsOf_0 23 rfl rfl
theorem dksX1_endsOf_2 : cX1_endsOf.data.toList.drop 47 = dktX1_endsOf_2 := dk_seg dksX1_endsOf_1 24 rfl rfl
theorem dX1_endsOf_0 : decode cX1_endsOf 0 = .ok (.aload_n 0, 1) := dk_42 (dk_at dksX1_endsOf_0 0 rfl rfl)
theorem dX1_endsOf_1 : decode cX1_endsOf 1 = .ok (.getfield 56, 3) := dk_180 0 56 (dk_at dksX1_endsOf_0 1 rfl rfl)
theorem dX1_endsOf_4 : decode cX1_endsOf 4 = .ok (.iconst 0, 1) := dk_3 (dk_at dksX1_endsOf_0 4 rfl rfl)
theorem dX1_endsOf_5 : decode cX1_endsOf 5 = .ok (.putfield 132, 3) := dk_181 0 132 (dk_at dksX1_endsOf_0 5 rfl rfl)
theorem dX1_endsOf_8 : decode cX1_endsOf 8 = .ok (.iconst 0, 1) := dk_3 (dk_at dksX1_endsOf_0 8 rfl rfl)
theorem dX1_endsOf_9 : decode cX1_endsOf 9 = .ok (.istore_n 2, 1) := dk_61 (dk_at dksX1_endsOf_0 9 rfl rfl)
theorem dX1_endsOf_10 : decode cX1_endsOf 10 = .ok (.iload_n 2, 1) := dk_28 (dk_at dksX1_endsOf_0 10 rfl rfl)
theorem dX1_endsOf_11 : decode cX1_endsOf 11 = .ok (.aload_n 1, 1) := dk_43 (dk_at dksX1_endsOf_0 11 rfl rfl)
theorem dX1_endsOf_12 : decode cX1_endsOf 12 = .ok (.getfield 132, 3) := dk_180 0 132 (dk_at dksX1_endsOf_0 12 rfl rfl)
theorem dX1_endsOf_15 : decode cX1_endsOf 15 = .ok (.if_icmp .ge 35, 3) := dk_162 0 35 (dk_at dksX1_endsOf_0 15 rfl rfl)
theorem dX1_endsOf_18 : decode cX1_endsOf 18 = .ok (.aload_n 0, 1) := dk_42 (dk_at dksX1_endsOf_0 18 rfl rfl)
theorem dX1_endsOf_19 : decode cX1_endsOf 19 = .ok (.getfield 56, 3) := dk_180 0 56 (dk_at dksX1_endsOf_0 19 rfl rfl)
theorem dX1_endsOf_22 : decode cX1_endsOf 22 = .ok (.aload_n 1, 1) := dk_43 (dk_at dksX1_endsOf_0 22 rfl rfl)
theorem dX1_endsOf_23 : decode cX1_endsOf 23 = .ok (.getfield 152, 3) := dk_180 0 152 (dk_at dksX1_endsOf_1 0 rfl rfl)
theorem dX1_endsOf_26 : decode cX1_endsOf 26 = .ok (.iload_n 2, 1) := dk_28 (dk_at dksX1_endsOf_1 3 rfl rfl)
theorem dX1_endsOf_27 : decode cX1_endsOf 27 = .ok (.baload, 1) := dk_51 (dk_at dksX1_endsOf_1 4 rfl rfl)
theorem dX1_endsOf_28 : decode cX1_endsOf 28 = .ok (.invokevirtual 135, 3) := dk_182 0 135 (dk_at dksX1_endsOf_1 5 rfl rfl)
theorem dX1_endsOf_31 : decode cX1_endsOf 31 = .ok (.aload_n 0, 1) := dk_42 (dk_at dksX1_endsOf_1 8 rfl rfl)
theorem dX1_endsOf_32 : decode cX1_endsOf 32 = .ok (.aload_n 0, 1) := dk_42 (dk_at dksX1_endsOf_1 9 rfl rfl)
theorem dX1_endsOf_33 : decode cX1_endsOf 33 = .ok (.getfield 56, 3) := dk_180 0 56 (dk_at dksX1_endsOf_1 10 rfl rfl)
theorem dX1_endsOf_36 : decode cX1_endsOf 36 = .ok (.invokevirtual 196, 3) := dk_182 0 196 (dk_at dksX1_endsOf_1 13 rfl rfl)
theorem dX1_endsOf_39 : decode cX1_endsOf 39 = .ok (.ifCond .ne 5, 3) := dk_154 0 5 (dk_at dksX1_endsOf_1 16 rfl rfl)
theorem dX1_endsOf_42 : decode cX1_endsOf 42 = .ok (.iload_n 2, 1) := dk_28 (dk_at dksX1_endsOf_1 19 rfl rfl)
theorem dX1_endsOf_43 : decode cX1_endsOf 43 = .ok (.ireturn, 1) := dk_172 (dk_at dksX1_endsOf_1 20 rfl rfl)
theorem dX1_endsOf_44 : decode cX1_endsOf 44 = .ok (.iinc 2 1, 3) := dk_132 2 1 (dk_at dksX1_endsOf_1 21 rfl rfl)
theorem dX1_endsOf_47 : decode cX1_endsOf 47 = .ok (.goto (-37), 3) := dk_167 255 219 (dk_at dksX1_endsOf_2 0 rfl rfl)
theorem dX1_endsOf_50 : decode cX1_endsOf 50 = .ok (.iconst (-1), 1) := dk_2 (dk_at dksX1_endsOf_2 3 rfl rfl)
theorem dX1_endsOf_51 : decode cX1_endsOf 51 = .ok (.ireturn, 1) := dk_172 (dk_at dksX1_endsOf_2 4 rfl rfl)
abbrev cX1_isFreeAtEnd : ByteArray := prog_1_method_24_code
def yX1_isFreeAtEnd : MethodName := ⟨RX1, "isFreeAtEnd", "(LRepeatFree$Word;)Z"⟩
def dkwX1_isFreeAtEnd_3 : List UInt8 := [172, 132, 2, 1, 167, 255, 229, 4, 172]
abbrev dktX1_isFreeAtEnd_3 : List UInt8 := dkwX1_isFreeAtEnd_3 ++ []
def dkwX1_isFreeAtEnd_2 : List UInt8 := [61, 28, 42, 180, 0, 38, 190, 162, 0, 24, 42, 180, 0, 38, 28, 50, 43, 182, 0, 192, 153, 0, 5, 3]
abbrev dktX1_isFreeAtEnd_2 : List UInt8 := dkwX1_isFreeAtEnd_2 ++ dktX1_isFreeAtEnd_3
def dkwX1_isFreeAtEnd_1 : List UInt8 := [180, 0, 178, 43, 28, 182, 0, 182, 28, 182, 0, 186, 153, 0, 5, 3, 172, 132, 2, 1, 167, 255, 224, 3]
abbrev dktX1_isFreeAtEnd_1 : List UInt8 := dkwX1_isFreeAtEnd_1 ++ dktX1_isFreeAtEnd_2
def dkwX1_isFreeAtEnd_0 : List UInt8 := [42, 180, 0, 32, 180, 0, 178, 198, 0, 40, 4, 61, 28, 43, 180, 0, 132, 163, 0, 30, 42, 180, 0, 32]
abbrev dktX1_isFreeAtEnd_0 : List UInt8 := dkwX1_isFreeAtEnd_0 ++ dktX1_isFreeAtEnd_1
theorem dksX1_isFreeAtEnd_0 : cX1_isFreeAtEnd.data.toList.drop 0 = dktX1_isFreeAtEnd_0 := by decide +kernel
theorem dksX1_isFreeAtEnd_1 : cX1_isFreeAtEnd.data.toList.drop 24 = dktX1_isFreeAtEnd_1 := dk_seg dksX1_isFreeAtEnd_0 24 rfl rfl
theorem dksX1_isFreeAtEnd_2 : cX1_isFreeAtEnd.data.toList.drop 48 = dktX1_isFreeAtEnd_2 := dk_seg dksX1_isFreeAtEnd_1 24 rfl rfl
theorem dksX1_isFreeAtEnd_3 : cX1_isFreeAtEnd.data.toList.drop 72 = dktX1_isFreeAtEnd_3 := dk_seg dksX1_isFreeAtEnd_2 24 rfl rfl
theorem dX1_isFreeAtEnd_0 : decode cX1_isFreeAtEnd 0 = .ok (.aload_n 0, 1) := dk_42 (dk_at dksX1_isFreeAtEnd_0 0 rfl rfl)
theorem dX1_isFreeAtEnd_1 : decode cX1_isFreeAtEnd 1 = .ok (.getfield 32, 3) := dk_180 0 32 (dk_at dksX1_isFreeAtEnd_0 1 rfl rfl)
theorem dX1_isFreeAtEnd_4 : decode cX1_isFreeAtEnd 4 = .ok (.getfield 178, 3) := dk_180 0 178 (dk_at dksX1_isFreeAtEnd_0 4 rfl rfl)
theorem dX1_isFreeAtEnd_7 : decode cX1_isFreeAtEnd 7 = .ok (.ifnull 40, 3) := dk_198 0 40 (dk_at dksX1_isFreeAtEnd_0 7 rfl rfl)
theorem dX1_isFreeAtEnd_10 : decode cX1_isFreeAtEnd 10 = .ok (.iconst 1, 1) := dk_4 (dk_at dksX1_isFreeAtEnd_0 10 rfl rfl)
theorem dX1_isFreeAtEnd_11 : decode cX1_isFreeAtEnd 11 = .ok (.istore_n 2, 1) := dk_61 (dk_at dksX1_isFreeAtEnd_0 11 rfl rfl)
theorem dX1_isFreeAtEnd_12 : decode cX1_isFreeAtEnd 12 = .ok (.iload_n 2, 1) := dk_28 (dk_at dksX1_isFreeAtEnd_0 12 rfl rfl)
theorem dX1_isFreeAtEnd_13 : decode cX1_isFreeAtEnd 13 = .ok (.aload_n 1, 1) := dk_43 (dk_at dksX1_isFreeAtEnd_0 13 rfl rfl)
theorem dX1_isFreeAtEnd_14 : decode cX1_isFreeAtEnd 14 = .ok (.getfield 132, 3) := dk_180 0 132 (dk_at dksX1_isFreeAtEnd_0 14 rfl rfl)
theorem dX1_isFreeAtEnd_17 : decode cX1_isFreeAtEnd 17 = .ok (.if_icmp .gt 30, 3) := dk_163 0 30 (dk_at dksX1_isFreeAtEnd_0 17 rfl rfl)
theorem dX1_isFreeAtEnd_20 : decode cX1_isFreeAtEnd 20 = .ok (.aload_n 0, 1) := dk_42 (dk_at dksX1_isFreeAtEnd_0 20 rfl rfl)
theorem dX1_isFreeAtEnd_21 : decode cX1_isFreeAtEnd 21 = .ok (.getfield 32, 3) := dk_180 0 32 (dk_at dksX1_isFreeAtEnd_0 21 rfl rfl)
theorem dX1_isFreeAtEnd_24 : decode cX1_isFreeAtEnd 24 = .ok (.getfield 178, 3) := dk_180 0 178 (dk_at dksX1_isFreeAtEnd_1 0 rfl rfl)
theorem dX1_isFreeAtEnd_27 : decode cX1_isFreeAtEnd 27 = .ok (.aload_n 1, 1) := dk_43 (dk_at dksX1_isFreeAtEnd_1 3 rfl rfl)
theorem dX1_isFreeAtEnd_28 : decode cX1_isFreeAtEnd 28 = .ok (.iload_n 2, 1) := dk_28 (dk_at dksX1_isFreeAtEnd_1 4 rfl rfl)
theorem dX1_isFreeAtEnd_29 : decode cX1_isFreeAtEnd 29 = .ok (.invokevirtual 182, 3) := dk_182 0 182 (dk_at dksX1_isFreeAtEnd_1 5 rfl rfl)
theorem dX1_isFreeAtEnd_32 : decode cX1_isFreeAtEnd 32 = .ok (.iload_n 2, 1) := dk_28 (dk_at dksX1_isFreeAtEnd_1 8 rfl rfl)
theorem dX1_isFreeAtEnd_33 : decode cX1_isFreeAtEnd 33 = .ok (.invokevirtual 186, 3) := dk_182 0 186 (dk_at dksX1_isFreeAtEnd_1 9 rfl rfl)
theorem dX1_isFreeAtEnd_36 : decode cX1_isFreeAtEnd 36 = .ok (.ifCond .eq 5, 3) := dk_153 0 5 (dk_at dksX1_isFreeAtEnd_1 12 rfl rfl)
theorem dX1_isFreeAtEnd_39 : decode cX1_isFreeAtEnd 39 = .ok (.iconst 0, 1) := dk_3 (dk_at dksX1_isFreeAtEnd_1 15 rfl rfl)
theorem dX1_isFreeAtEnd_40 : decode cX1_isFreeAtEnd 40 = .ok (.ireturn, 1) := dk_172 (dk_at dksX1_isFreeAtEnd_1 16 rfl rfl)
theorem dX1_isFreeAtEnd_41 : decode cX1_isFreeAtEnd 41 = .ok (.iinc 2 1, 3) := dk_132 2 1 (dk_at dksX1_isFreeAtEnd_1 17 rfl rfl)
theorem dX1_isFreeAtEnd_44 : decode cX1_isFreeAtEnd 44 = .ok (.goto (-32), 3) := dk_167 255 224 (dk_at dksX1_isFreeAtEnd_1 20 rfl rfl)
theorem dX1_isFreeAtEnd_47 : decode cX1_isFreeAtEnd 47 = .ok (.iconst 0, 1) := dk_3 (dk_at dksX1_isFreeAtEnd_1 23 rfl rfl)
theorem dX1_isFreeAtEnd_48 : decode cX1_isFreeAtEnd 48 = .ok (.istore_n 2, 1) := dk_61 (dk_at dksX1_isFreeAtEnd_2 0 rfl rfl)
theorem dX1_isFreeAtEnd_49 : decode cX1_isFreeAtEnd 49 = .ok (.iload_n 2, 1) := dk_28 (dk_at dksX1_isFreeAtEnd_2 1 rfl rfl)
theorem dX1_isFreeAtEnd_50 : decode cX1_isFreeAtEnd 50 = .ok (.aload_n 0, 1) := dk_42 (dk_at dksX1_isFreeAtEnd_2 2 rfl rfl)
theorem dX1_isFreeAtEnd_51 : decode cX1_isFreeAtEnd 51 = .ok (.getfield 38, 3) := dk_180 0 38 (dk_at dksX1_isFreeAtEnd_2 3 rfl rfl)
theorem dX1_isFreeAtEnd_54 : decode cX1_isFreeAtEnd 54 = .ok (.arraylength, 1) := dk_190 (dk_at dksX1_isFreeAtEnd_2 6 rfl rfl)
theorem dX1_isFreeAtEnd_55 : decode cX1_isFreeAtEnd 55 = .ok (.if_icmp .ge 24, 3) := dk_162 0 24 (dk_at dksX1_isFreeAtEnd_2 7 rfl rfl)
theorem dX1_isFreeAtEnd_58 : decode cX1_isFreeAtEnd 58 = .ok (.aload_n 0, 1) := dk_42 (dk_at dksX1_isFreeAtEnd_2 10 rfl rfl)
theorem dX1_isFreeAtEnd_59 : decode cX1_isFreeAtEnd 59 = .ok (.getfield 38, 3) := dk_180 0 38 (dk_at dksX1_isFreeAtEnd_2 11 rfl rfl)
theorem dX1_isFreeAtEnd_62 : decode cX1_isFreeAtEnd 62 = .ok (.iload_n 2, 1) := dk_28 (dk_at dksX1_isFreeAtEnd_2 14 rfl rfl)
theorem dX1_isFreeAtEnd_63 : decode cX1_isFreeAtEnd 63 = .ok (.aaload, 1) := dk_50 (dk_at dksX1_isFreeAtEnd_2 15 rfl rfl)
theorem dX1_isFreeAtEnd_64 : decode cX1_isFreeAtEnd 64 = .ok (.aload_n 1, 1) := dk_43 (dk_at dksX1_isFreeAtEnd_2 16 rfl rfl)
theorem dX1_isFreeAtEnd_65 : decode cX1_isFreeAtEnd 65 = .ok (.invokevirtual 192, 3) := dk_182 0 192 (dk_at dksX1_isFreeAtEnd_2 17 rfl rfl)
theorem dX1_isFreeAtEnd_68 : decode cX1_isFreeAtEnd 68 = .ok (.ifCond .eq 5, 3) := dk_153 0 5 (dk_at dksX1_isFreeAtEnd_2 20 rfl rfl)
theorem dX1_isFreeAtEnd_71 : decode cX1_isFreeAtEnd 71 = .ok (.iconst 0, 1) := dk_3 (dk_at dksX1_isFreeAtEnd_2 23 rfl rfl)
theorem dX1_isFreeAtEnd_72 : decode cX1_isFreeAtEnd 72 = .ok (.ireturn, 1) := dk_172 (dk_at dksX1_isFreeAtEnd_3 0 rfl rfl)
theorem dX1_isFreeAtEnd_73 : decode cX1_isFreeAtEnd 73 = .ok (.iinc 2 1, 3) := dk_132 2 1 (dk_at dksX1_isFreeAtEnd_3 1 rfl rfl)
theorem dX1_isFreeAtEnd_76 : decode cX1_isFreeAtEnd 76 = .ok (.goto (-27), 3) := dk_167 255 229 (dk_at dksX1_isFreeAtEnd_3 4 rfl rfl)
theorem dX1_isFreeAtEnd_79 : decode cX1_isFreeAtEnd 79 = .ok (.iconst 1, 1) := dk_4 (dk_at dksX1_isFreeAtEnd_3 7 rfl rfl)
theorem dX1_isFreeAtEnd_80 : decode cX1_isFreeAtEnd 80 = .ok (.ireturn, 1) := dk_172 (dk_at dksX1_isFreeAtEnd_3 8 rfl rfl)
abbrev cX1_ends : ByteArray := prog_1_method_27_code
def yX1_ends : MethodName := ⟨RX1, "ends", "()I"⟩
def dkwX1_ends_0 : List UInt8 := [42, 42, 180, 0, 45, 182, 0, 199, 172]
abbrev dktX1_ends_0 : List UInt8 := dkwX1_ends_0 ++ []
theorem dksX1_ends_0 : cX1_ends.data.toList.drop 0 = dktX1_ends_0 := by decide +kernel
theorem dX1_ends_0 : decode cX1_ends 0 = .ok (.aload_n 0, 1) := dk_42 (dk_at dksX1_ends_0 0 rfl rfl)
theorem dX1_ends_1 : decode cX1_ends 1 = .ok (.aload_n 0, 1) := dk_42 (dk_at dksX1_ends_0 1 rfl rfl)
theorem dX1_ends_2 : decode cX1_ends 2 = .ok (.getfield 45, 3) := dk_180 0 45 (dk_at dksX1_ends_0 2 rfl rfl)
theorem dX1_ends_5 : decode cX1_ends 5 = .ok (.invokevirtual 199, 3) := dk_182 0 199 (dk_at dksX1_ends_0 5 rfl rfl)
theorem dX1_ends_8 : decode cX1_ends 8 = .ok (.ireturn, 1) := dk_172 (dk_at dksX1_ends_0 8 rfl rfl)
abbrev cX1_period : ByteArray := prog_1_method_30_code
def yX1_period : MethodName := ⟨RX1, "period", "()I"⟩
def dkwX1_period_1 : List UInt8 := [182, 0, 217, 172]
abbrev dktX1_period_1 : List UInt8 := dkwX1_period_1 ++ []
def dkwX1_period_0 : List UInt8 := [42, 180, 0, 45, 180, 0, 132, 154, 0, 7, 2, 167, 0, 15, 42, 3, 42, 180, 0, 45, 180, 0, 132]
abbrev dktX1_period_0 : List UInt8 := dkwX1_period_0 ++ dktX1_period_1
theorem dksX1_period_0 : cX1_period.data.toList.drop 0 = dktX1_period_0 := by decide +kernel
theorem dksX1_period_1 : cX1_period.data.toList.drop 23 = dktX1_period_1 := dk_seg dksX1_period_0 23 rfl rfl
theorem dX1_period_0 : decode cX1_period 0 = .ok (.aload_n 0, 1) := dk_42 (dk_at dksX1_period_0 0 rfl rfl)
theorem dX1_period_1 : decode cX1_period 1 = .ok (.getfield 45, 3) := dk_180 0 45 (dk_at dksX1_period_0 1 rfl rfl)
theorem dX1_period_4 : decode cX1_period 4 = .ok (.getfield 132, 3) := dk_180 0 132 (dk_at dksX1_period_0 4 rfl rfl)
theorem dX1_period_7 : decode cX1_period 7 = .ok (.ifCond .ne 7, 3) := dk_154 0 7 (dk_at dksX1_period_0 7 rfl rfl)
theorem dX1_period_10 : decode cX1_period 10 = .ok (.iconst (-1), 1) := dk_2 (dk_at dksX1_period_0 10 rfl rfl)
theorem dX1_period_11 : decode cX1_period 11 = .ok (.goto 15, 3) := dk_167 0 15 (dk_at dksX1_period_0 11 rfl rfl)
theorem dX1_period_14 : decode cX1_period 14 = .ok (.aload_n 0, 1) := dk_42 (dk_at dksX1_period_0 14 rfl rfl)
theorem dX1_period_15 : decode cX1_period 15 = .ok (.iconst 0, 1) := dk_3 (dk_at dksX1_period_0 15 rfl rfl)
theorem dX1_period_16 : decode cX1_period 16 = .ok (.aload_n 0, 1) := dk_42 (dk_at dksX1_period_0 16 rfl rfl)
theorem dX1_period_17 : decode cX1_period 17 = .ok (.getfield 45, 3) := dk_180 0 45 (dk_at dksX1_period_0 17 rfl rfl)
theorem dX1_period_20 : decode cX1_period 20 = .ok (.getfield 132, 3) := dk_180 0 132 (dk_at dksX1_period_0 20 rfl rfl)
theorem dX1_period_23 : decode cX1_period 23 = .ok (.invokevirtual 217, 3) := dk_182 0 217 (dk_at dksX1_period_1 0 rfl rfl)
theorem dX1_period_26 : decode cX1_period 26 = .ok (.ireturn, 1) := dk_172 (dk_at dksX1_period_1 3 rfl rfl)
abbrev cX1_leastPeriod : ByteArray := prog_1_method_29_code
def yX1_leastPeriod : MethodName := ⟨RX1, "leastPeriod", "(II)I"⟩
def dkwX1_leastPeriod_1 : List UInt8 := [28, 29, 100, 162, 0, 9, 132, 3, 1, 167, 255, 225, 29, 172]
abbrev dktX1_leastPeriod_1 : List UInt8 := dkwX1_leastPeriod_1 ++ []
def dkwX1_leastPeriod_0 : List UInt8 := [4, 62, 29, 28, 162, 0, 32, 28, 29, 100, 42, 180, 0, 45, 27, 27, 29, 96, 182, 0, 208, 184, 0, 212]
abbrev dktX1_leastPeriod_0 : List UInt8 := dkwX1_leastPeriod_0 ++ dktX1_leastPeriod_1
theorem dksX1_leastPeriod_0 : cX1_leastPeriod.data.toList.drop 0 = dktX1_leastPeriod_0 := by decide +kernel
theorem dksX1_leastPeriod_1 : cX1_leastPeriod.data.toList.drop 24 = dktX1_leastPeriod_1 := dk_seg dksX1_leastPeriod_0 24 rfl rfl
theorem dX1_leastPeriod_0 : decode cX1_leastPeriod 0 = .ok (.iconst 1, 1) := dk_4 (dk_at dksX1_leastPeriod_0 0 rfl rfl)
theorem dX1_leastPeriod_1 : decode cX1_leastPeriod 1 = .ok (.istore_n 3, 1) := dk_62 (dk_at dksX1_leastPeriod_0 1 rfl rfl)
theorem dX1_leastPeriod_2 : decode cX1_leastPeriod 2 = .ok (.iload_n 3, 1) := dk_29 (dk_at dksX1_leastPeriod_0 2 rfl rfl)
theorem dX1_leastPeriod_3 : decode cX1_leastPeriod 3 = .ok (.iload_n 2, 1) := dk_28 (dk_at dksX1_leastPeriod_0 3 rfl rfl)
theorem dX1_leastPeriod_4 : decode cX1_leastPeriod 4 = .ok (.if_icmp .ge 32, 3) := dk_162 0 32 (dk_at dksX1_leastPeriod_0 4 rfl rfl)
theorem dX1_leastPeriod_7 : decode cX1_leastPeriod 7 = .ok (.iload_n 2, 1) := dk_28 (dk_at dksX1_leastPeriod_0 7 rfl rfl)
theorem dX1_leastPeriod_8 : decode cX1_leastPeriod 8 = .ok (.iload_n 3, 1) := dk_29 (dk_at dksX1_leastPeriod_0 8 rfl rfl)
theorem dX1_leastPeriod_9 : decode cX1_leastPeriod 9 = .ok (.isub, 1) := dk_100 (dk_at dksX1_leastPeriod_0 9 rfl rfl)
theorem dX1_leastPeriod_10 : decode cX1_leastPeriod 10 = .ok (.aload_n 0, 1) := dk_42 (dk_at dksX1_leastPeriod_0 10 rfl rfl)
theorem dX1_leastPeriod_11 : decode cX1_leastPeriod 11 = .ok (.getfield 45, 3) := dk_180 0 45 (dk_at dksX1_leastPeriod_0 11 rfl rfl)
theorem dX1_leastPeriod_14 : decode cX1_leastPeriod 14 = .ok (.iload_n 1, 1) := dk_27 (dk_at dksX1_leastPeriod_0 14 rfl rfl)
theorem dX1_leastPeriod_15 : decode cX1_leastPeriod 15 = .ok (.iload_n 1, 1) := dk_27 (dk_at dksX1_leastPeriod_0 15 rfl rfl)
theorem dX1_leastPeriod_16 : decode cX1_leastPeriod 16 = .ok (.iload_n 3, 1) := dk_29 (dk_at dksX1_leastPeriod_0 16 rfl rfl)
theorem dX1_leastPeriod_17 : decode cX1_leastPeriod 17 = .ok (.iadd, 1) := dk_96 (dk_at dksX1_leastPeriod_0 17 rfl rfl)
theorem dX1_leastPeriod_18 : decode cX1_leastPeriod 18 = .ok (.invokevirtual 208, 3) := dk_182 0 208 (dk_at dksX1_leastPeriod_0 18 rfl rfl)
theorem dX1_leastPeriod_21 : decode cX1_leastPeriod 21 = .ok (.invokestatic 212, 3) := dk_184 0 212 (dk_at dksX1_leastPeriod_0 21 rfl rfl)
theorem dX1_leastPeriod_24 : decode cX1_leastPeriod 24 = .ok (.iload_n 2, 1) := dk_28 (dk_at dksX1_leastPeriod_1 0 rfl rfl)
theorem dX1_leastPeriod_25 : decode cX1_leastPeriod 25 = .ok (.iload_n 3, 1) := dk_29 (dk_at dksX1_leastPeriod_1 1 rfl rfl)
theorem dX1_leastPeriod_26 : decode cX1_leastPeriod 26 = .ok (.isub, 1) := dk_100 (dk_at dksX1_leastPeriod_1 2 rfl rfl)
theorem dX1_leastPeriod_27 : decode cX1_leastPeriod 27 = .ok (.if_icmp .ge 9, 3) := dk_162 0 9 (dk_at dksX1_leastPeriod_1 3 rfl rfl)
theorem dX1_leastPeriod_30 : decode cX1_leastPeriod 30 = .ok (.iinc 3 1, 3) := dk_132 3 1 (dk_at dksX1_leastPeriod_1 6 rfl rfl)
theorem dX1_leastPeriod_33 : decode cX1_leastPeriod 33 = .ok (.goto (-31), 3) := dk_167 255 225 (dk_at dksX1_leastPeriod_1 9 rfl rfl)
theorem dX1_leastPeriod_36 : decode cX1_leastPeriod 36 = .ok (.iload_n 3, 1) := dk_29 (dk_at dksX1_leastPeriod_1 12 rfl rfl)
theorem dX1_leastPeriod_37 : decode cX1_leastPeriod 37 = .ok (.ireturn, 1) := dk_172 (dk_at dksX1_leastPeriod_1 13 rfl rfl)
abbrev cX1_border : ByteArray := prog_1_method_31_code
def yX1_border : MethodName := ⟨RX1, "border", "(I)I"⟩
def dkwX1_border_2 : List UInt8 := [180, 0, 45, 180, 0, 132, 29, 100, 172, 132, 2, 255, 132, 3, 1, 167, 255, 197, 2, 172]
abbrev dktX1_border_2 : List UInt8 := dkwX1_border_2 ++ []
def dkwX1_border_1 : List UInt8 := [29, 182, 0, 208, 42, 180, 0, 45, 180, 0, 132, 29, 100, 159, 0, 6, 167, 0, 20, 28, 154, 0, 13, 42]
abbrev dktX1_border_1 : List UInt8 := dkwX1_border_1 ++ dktX1_border_2
def dkwX1_border_0 : List UInt8 := [27, 61, 4, 62, 29, 42, 180, 0, 45, 180, 0, 132, 162, 0, 54, 27, 155, 0, 50, 42, 180, 0, 45, 3]
abbrev dktX1_border_0 : List UInt8 := dkwX1_border_0 ++ dktX1_border_1
theorem dksX1_border_0 : cX1_border.data.toList.drop 0 = dktX1_border_0 := by decide +kernel
theorem dksX1_border_1 : cX1_border.data.toList.drop 24 = dktX1_border_1 := dk_seg dksX1_border_0 24 rfl rfl
theorem dksX1_border_2 : cX1_border.data.toList.drop 48 = dktX1_border_2 := dk_seg dksX1_border_1 24 rfl rfl
theorem dX1_border_0 : decode cX1_border 0 = .ok (.iload_n 1, 1) := dk_27 (dk_at dksX1_border_0 0 rfl rfl)
theorem dX1_border_1 : decode cX1_border 1 = .ok (.istore_n 2, 1) := dk_61 (dk_at dksX1_border_0 1 rfl rfl)
theorem dX1_border_2 : decode cX1_border 2 = .ok (.iconst 1, 1) := dk_4 (dk_at dksX1_border_0 2 rfl rfl)
theorem dX1_border_3 : decode cX1_border 3 = .ok (.istore_n 3, 1) := dk_62 (dk_at dksX1_border_0 3 rfl rfl)
theorem dX1_border_4 : decode cX1_border 4 = .ok (.iload_n 3, 1) := dk_29 (dk_at dksX1_border_0 4 rfl rfl)
theorem dX1_border_5 : decode cX1_border 5 = .ok (.aload_n 0, 1) := dk_42 (dk_at dksX1_border_0 5 rfl rfl)
theorem dX1_border_6 : decode cX1_border 6 = .ok (.getfield 45, 3) := dk_180 0 45 (dk_at dksX1_border_0 6 rfl rfl)
theorem dX1_border_9 : decode cX1_border 9 = .ok (.getfield 132, 3) := dk_180 0 132 (dk_at dksX1_border_0 9 rfl rfl)
theorem dX1_border_12 : decode cX1_border 12 = .ok (.if_icmp .ge 54, 3) := dk_162 0 54 (dk_at dksX1_border_0 12 rfl rfl)
theorem dX1_border_15 : decode cX1_border 15 = .ok (.iload_n 1, 1) := dk_27 (dk_at dksX1_border_0 15 rfl rfl)
theorem dX1_border_16 : decode cX1_border 16 = .ok (.ifCond .lt 50, 3) := dk_155 0 50 (dk_at dksX1_border_0 16 rfl rfl)
theorem dX1_border_19 : decode cX1_border 19 = .ok (.aload_n 0, 1) := dk_42 (dk_at dksX1_border_0 19 rfl rfl)
theorem dX1_border_20 : decode cX1_border 20 = .ok (.getfield 45, 3) := dk_180 0 45 (dk_at dksX1_border_0 20 rfl rfl)
theorem dX1_border_23 : decode cX1_border 23 = .ok (.iconst 0, 1) := dk_3 (dk_at dksX1_border_0 23 rfl rfl)
theorem dX1_border_24 : decode cX1_border 24 = .ok (.iload_n 3, 1) := dk_29 (dk_at dksX1_border_1 0 rfl rfl)
theorem dX1_border_25 : decode cX1_border 25 = .ok (.invokevirtual 208, 3) := dk_182 0 208 (dk_at dksX1_border_1 1 rfl rfl)
theorem dX1_border_28 : decode cX1_border 28 = .ok (.aload_n 0, 1) := dk_42 (dk_at dksX1_border_1 4 rfl rfl)
theorem dX1_border_29 : decode cX1_border 29 = .ok (.getfield 45, 3) := dk_180 0 45 (dk_at dksX1_border_1 5 rfl rfl)
theorem dX1_border_32 : decode cX1_border 32 = .ok (.getfield 132, 3) := dk_180 0 132 (dk_at dksX1_border_1 8 rfl rfl)
theorem dX1_border_35 : decode cX1_border 35 = .ok (.iload_n 3, 1) := dk_29 (dk_at dksX1_border_1 11 rfl rfl)
theorem dX1_border_36 : decode cX1_border 36 = .ok (.isub, 1) := dk_100 (dk_at dksX1_border_1 12 rfl rfl)
theorem dX1_border_37 : decode cX1_border 37 = .ok (.if_icmp .eq 6, 3) := dk_159 0 6 (dk_at dksX1_border_1 13 rfl rfl)
theorem dX1_border_40 : decode cX1_border 40 = .ok (.goto 20, 3) := dk_167 0 20 (dk_at dksX1_border_1 16 rfl rfl)
theorem dX1_border_43 : decode cX1_border 43 = .ok (.iload_n 2, 1) := dk_28 (dk_at dksX1_border_1 19 rfl rfl)
theorem dX1_border_44 : decode cX1_border 44 = .ok (.ifCond .ne 13, 3) := dk_154 0 13 (dk_at dksX1_border_1 20 rfl rfl)
theorem dX1_border_47 : decode cX1_border 47 = .ok (.aload_n 0, 1) := dk_42 (dk_at dksX1_border_1 23 rfl rfl)
theorem dX1_border_48 : decode cX1_border 48 = .ok (.getfield 45, 3) := dk_180 0 45 (dk_at dksX1_border_2 0 rfl rfl)
theorem dX1_border_51 : decode cX1_border 51 = .ok (.getfield 132, 3) := dk_180 0 132 (dk_at dksX1_border_2 3 rfl rfl)
theorem dX1_border_54 : decode cX1_border 54 = .ok (.iload_n 3, 1) := dk_29 (dk_at dksX1_border_2 6 rfl rfl)
theorem dX1_border_55 : decode cX1_border 55 = .ok (.isub, 1) := dk_100 (dk_at dksX1_border_2 7 rfl rfl)
theorem dX1_border_56 : decode cX1_border 56 = .ok (.ireturn, 1) := dk_172 (dk_at dksX1_border_2 8 rfl rfl)
theorem dX1_border_57 : decode cX1_border 57 = .ok (.iinc 2 (-1), 3) := dk_132 2 255 (dk_at dksX1_border_2 9 rfl rfl)
theorem dX1_border_60 : decode cX1_border 60 = .ok (.iinc 3 1, 3) := dk_132 3 1 (dk_at dksX1_border_2 12 rfl rfl)
theorem dX1_border_63 : decode cX1_border 63 = .ok (.goto (-59), 3) := dk_167 255 197 (dk_at dksX1_border_2 15 rfl rfl)
theorem dX1_border_66 : decode cX1_border 66 = .ok (.iconst (-1), 1) := dk_2 (dk_at dksX1_border_2 18 rfl rfl)
theorem dX1_border_67 : decode cX1_border 67 = .ok (.ireturn, 1) := dk_172 (dk_at dksX1_border_2 19 rfl rfl)
abbrev cX1_mirror : ByteArray := prog_1_method_36_code
def yX1_mirror : MethodName := ⟨RX1, "mirror", "()I"⟩
def dkwX1_mirror_1 : List UInt8 := [28, 4, 96, 182, 1, 17, 184, 1, 20, 184, 1, 20, 60, 132, 2, 1, 167, 255, 220, 27, 172]
abbrev dktX1_mirror_1 : List UInt8 := dkwX1_mirror_1 ++ []
def dkwX1_mirror_0 : List UInt8 := [3, 60, 3, 61, 28, 42, 180, 0, 45, 180, 0, 132, 162, 0, 31, 27, 42, 28, 28, 182, 1, 17, 42, 28]
abbrev dktX1_mirror_0 : List UInt8 := dkwX1_mirror_0 ++ dktX1_mirror_1
theorem dksX1_mirror_0 : cX1_mirror.data.toList.drop 0 = dktX1_mirror_0 := by decide +kernel
theorem dksX1_mirror_1 : cX1_mirror.data.toList.drop 24 = dktX1_mirror_1 := dk_seg dksX1_mirror_0 24 rfl rfl
theorem dX1_mirror_0 : decode cX1_mirror 0 = .ok (.iconst 0, 1) := dk_3 (dk_at dksX1_mirror_0 0 rfl rfl)
theorem dX1_mirror_1 : decode cX1_mirror 1 = .ok (.istore_n 1, 1) := dk_60 (dk_at dksX1_mirror_0 1 rfl rfl)
theorem dX1_mirror_2 : decode cX1_mirror 2 = .ok (.iconst 0, 1) := dk_3 (dk_at dksX1_mirror_0 2 rfl rfl)
theorem dX1_mirror_3 : decode cX1_mirror 3 = .ok (.istore_n 2, 1) := dk_61 (dk_at dksX1_mirror_0 3 rfl rfl)
theorem dX1_mirror_4 : decode cX1_mirror 4 = .ok (.iload_n 2, 1) := dk_28 (dk_at dksX1_mirror_0 4 rfl rfl)
theorem dX1_mirror_5 : decode cX1_mirror 5 = .ok (.aload_n 0, 1) := dk_42 (dk_at dksX1_mirror_0 5 rfl rfl)
theorem dX1_mirror_6 : decode cX1_mirror 6 = .ok (.getfield 45, 3) := dk_180 0 45 (dk_at dksX1_mirror_0 6 rfl rfl)
theorem dX1_mirror_9 : decode cX1_mirror 9 = .ok (.getfield 132, 3) := dk_180 0 132 (dk_at dksX1_mirror_0 9 rfl rfl)
theorem dX1_mirror_12 : decode cX1_mirror 12 = .ok (.if_icmp .ge 31, 3) := dk_162 0 31 (dk_at dksX1_mirror_0 12 rfl rfl)
theorem dX1_mirror_15 : decode cX1_mirror 15 = .ok (.iload_n 1, 1) := dk_27 (dk_at dksX1_mirror_0 15 rfl rfl)
theorem dX1_mirror_16 : decode cX1_mirror 16 = .ok (.aload_n 0, 1) := dk_42 (dk_at dksX1_mirror_0 16 rfl rfl)
theorem dX1_mirror_17 : decode cX1_mirror 17 = .ok (.iload_n 2, 1) := dk_28 (dk_at dksX1_mirror_0 17 rfl rfl)
theorem dX1_mirror_18 : decode cX1_mirror 18 = .ok (.iload_n 2, 1) := dk_28 (dk_at dksX1_mirror_0 18 rfl rfl)
theorem dX1_mirror_19 : decode cX1_mirror 19 = .ok (.invokevirtual 273, 3) := dk_182 1 17 (dk_at dksX1_mirror_0 19 rfl rfl)
theorem dX1_mirror_22 : decode cX1_mirror 22 = .ok (.aload_n 0, 1) := dk_42 (dk_at dksX1_mirror_0 22 rfl rfl)
theorem dX1_mirror_23 : decode cX1_mirror 23 = .ok (.iload_n 2, 1) := dk_28 (dk_at dksX1_mirror_0 23 rfl rfl)
theorem dX1_mirror_24 : decode cX1_mirror 24 = .ok (.iload_n 2, 1) := dk_28 (dk_at dksX1_mirror_1 0 rfl rfl)
theorem dX1_mirror_25 : decode cX1_mirror 25 = .ok (.iconst 1, 1) := dk_4 (dk_at dksX1_mirror_1 1 rfl rfl)
theorem dX1_mirror_26 : decode cX1_mirror 26 = .ok (.iadd, 1) := dk_96 (dk_at dksX1_mirror_1 2 rfl rfl)
theorem dX1_mirror_27 : decode cX1_mirror 27 = .ok (.invokevirtual 273, 3) := dk_182 1 17 (dk_at dksX1_mirror_1 3 rfl rfl)
theorem dX1_mirror_30 : decode cX1_mirror 30 = .ok (.invokestatic 276, 3) := dk_184 1 20 (dk_at dksX1_mirror_1 6 rfl rfl)
theorem dX1_mirror_33 : decode cX1_mirror 33 = .ok (.invokestatic 276, 3) := dk_184 1 20 (dk_at dksX1_mirror_1 9 rfl rfl)
theorem dX1_mirror_36 : decode cX1_mirror 36 = .ok (.istore_n 1, 1) := dk_60 (dk_at dksX1_mirror_1 12 rfl rfl)
theorem dX1_mirror_37 : decode cX1_mirror 37 = .ok (.iinc 2 1, 3) := dk_132 2 1 (dk_at dksX1_mirror_1 13 rfl rfl)
theorem dX1_mirror_40 : decode cX1_mirror 40 = .ok (.goto (-36), 3) := dk_167 255 220 (dk_at dksX1_mirror_1 16 rfl rfl)
theorem dX1_mirror_43 : decode cX1_mirror 43 = .ok (.iload_n 1, 1) := dk_27 (dk_at dksX1_mirror_1 19 rfl rfl)
theorem dX1_mirror_44 : decode cX1_mirror 44 = .ok (.ireturn, 1) := dk_172 (dk_at dksX1_mirror_1 20 rfl rfl)
abbrev cX1_around : ByteArray := prog_1_method_35_code
def yX1_around : MethodName := ⟨RX1, "around", "(II)I"⟩
def dkwX1_around_2 : List UInt8 := [132, 4, 1, 167, 255, 212, 21, 4, 29, 100, 4, 100, 172]
abbrev dktX1_around_2 : List UInt8 := dkwX1_around_2 ++ []
def dkwX1_around_1 : List UInt8 := [180, 0, 45, 180, 0, 152, 29, 51, 42, 180, 0, 45, 180, 0, 152, 21, 4, 51, 160, 0, 12, 132, 3, 255]
abbrev dktX1_around_1 : List UInt8 := dkwX1_around_1 ++ dktX1_around_2
def dkwX1_around_0 : List UInt8 := [27, 62, 28, 54, 4, 29, 155, 0, 46, 21, 4, 42, 180, 0, 45, 180, 0, 132, 162, 0, 34, 42]
abbrev dktX1_around_0 : List UInt8 := dkwX1_around_0 ++ dktX1_around_1
theorem dksX1_around_0 : cX1_around.data.toList.drop 0 = dktX1_around_0 := by decide +kernel
theorem dksX1_around_1 : cX1_around.data.toList.drop 22 = dktX1_around_1 := dk_seg dksX1_around_0 22 rfl rfl
theorem dksX1_around_2 : cX1_around.data.toList.drop 46 = dktX1_around_2 := dk_seg dksX1_around_1 24 rfl rfl
theorem dX1_around_0 : decode cX1_around 0 = .ok (.iload_n 1, 1) := dk_27 (dk_at dksX1_around_0 0 rfl rfl)
theorem dX1_around_1 : decode cX1_around 1 = .ok (.istore_n 3, 1) := dk_62 (dk_at dksX1_around_0 1 rfl rfl)
theorem dX1_around_2 : decode cX1_around 2 = .ok (.iload_n 2, 1) := dk_28 (dk_at dksX1_around_0 2 rfl rfl)
theorem dX1_around_3 : decode cX1_around 3 = .ok (.istore 4, 2) := dk_54 4 (dk_at dksX1_around_0 3 rfl rfl)
theorem dX1_around_5 : decode cX1_around 5 = .ok (.iload_n 3, 1) := dk_29 (dk_at dksX1_around_0 5 rfl rfl)
theorem dX1_around_6 : decode cX1_around 6 = .ok (.ifCond .lt 46, 3) := dk_155 0 46 (dk_at dksX1_around_0 6 rfl rfl)
theorem dX1_around_9 : decode cX1_around 9 = .ok (.iload 4, 2) := dk_21 4 (dk_at dksX1_around_0 9 rfl rfl)
theorem dX1_around_11 : decode cX1_around 11 = .ok (.aload_n 0, 1) := dk_42 (dk_at dksX1_around_0 11 rfl rfl)
theorem dX1_around_12 : decode cX1_around 12 = .ok (.getfield 45, 3) := dk_180 0 45 (dk_at dksX1_around_0 12 rfl rfl)
theorem dX1_around_15 : decode cX1_around 15 = .ok (.getfield 132, 3) := dk_180 0 132 (dk_at dksX1_around_0 15 rfl rfl)
theorem dX1_around_18 : decode cX1_around 18 = .ok (.if_icmp .ge 34, 3) := dk_162 0 34 (dk_at dksX1_around_0 18 rfl rfl)
theorem dX1_around_21 : decode cX1_around 21 = .ok (.aload_n 0, 1) := dk_42 (dk_at dksX1_around_0 21 rfl rfl)
theorem dX1_around_22 : decode cX1_around 22 = .ok (.getfield 45, 3) := dk_180 0 45 (dk_at dksX1_around_1 0 rfl rfl)
theorem dX1_around_25 : decode cX1_around 25 = .ok (.getfield 152, 3) := dk_180 0 152 (dk_at dksX1_around_1 3 rfl rfl)
theorem dX1_around_28 : decode cX1_around 28 = .ok (.iload_n 3, 1) := dk_29 (dk_at dksX1_around_1 6 rfl rfl)
theorem dX1_around_29 : decode cX1_around 29 = .ok (.baload, 1) := dk_51 (dk_at dksX1_around_1 7 rfl rfl)
theorem dX1_around_30 : decode cX1_around 30 = .ok (.aload_n 0, 1) := dk_42 (dk_at dksX1_around_1 8 rfl rfl)
theorem dX1_around_31 : decode cX1_around 31 = .ok (.getfield 45, 3) := dk_180 0 45 (dk_at dksX1_around_1 9 rfl rfl)
theorem dX1_around_34 : decode cX1_around 34 = .ok (.getfield 152, 3) := dk_180 0 152 (dk_at dksX1_around_1 12 rfl rfl)
theorem dX1_around_37 : decode cX1_around 37 = .ok (.iload 4, 2) := dk_21 4 (dk_at dksX1_around_1 15 rfl rfl)
theorem dX1_around_39 : decode cX1_around 39 = .ok (.baload, 1) := dk_51 (dk_at dksX1_around_1 17 rfl rfl)
theorem dX1_around_40 : decode cX1_around 40 = .ok (.if_icmp .ne 12, 3) := dk_160 0 12 (dk_at dksX1_around_1 18 rfl rfl)
theorem dX1_around_43 : decode cX1_around 43 = .ok (.iinc 3 (-1), 3) := dk_132 3 255 (dk_at dksX1_around_1 21 rfl rfl)
theorem dX1_around_46 : decode cX1_around 46 = .ok (.iinc 4 1, 3) := dk_132 4 1 (dk_at dksX1_around_2 0 rfl rfl)
theorem dX1_around_49 : decode cX1_around 49 = .ok (.goto (-44), 3) := dk_167 255 212 (dk_at dksX1_around_2 3 rfl rfl)
theorem dX1_around_52 : decode cX1_around 52 = .ok (.iload 4, 2) := dk_21 4 (dk_at dksX1_around_2 6 rfl rfl)
theorem dX1_around_54 : decode cX1_around 54 = .ok (.iload_n 3, 1) := dk_29 (dk_at dksX1_around_2 8 rfl rfl)
theorem dX1_around_55 : decode cX1_around 55 = .ok (.isub, 1) := dk_100 (dk_at dksX1_around_2 9 rfl rfl)
theorem dX1_around_56 : decode cX1_around 56 = .ok (.iconst 1, 1) := dk_4 (dk_at dksX1_around_2 10 rfl rfl)
theorem dX1_around_57 : decode cX1_around 57 = .ok (.isub, 1) := dk_100 (dk_at dksX1_around_2 11 rfl rfl)
theorem dX1_around_58 : decode cX1_around 58 = .ok (.ireturn, 1) := dk_172 (dk_at dksX1_around_2 12 rfl rfl)
abbrev cX1_goes : ByteArray := prog_1_method_37_code
def yX1_goes : MethodName := ⟨RX1, "goes", "()I"⟩
def dkwX1_goes_3 : List UInt8 := [182, 0, 169, 54, 4, 132, 3, 1, 167, 255, 213, 27, 172]
abbrev dktX1_goes_3 : List UInt8 := dkwX1_goes_3 ++ []
def dkwX1_goes_2 : List UInt8 := [182, 0, 135, 27, 42, 44, 182, 0, 196, 153, 0, 9, 4, 29, 120, 167, 0, 4, 3, 128, 60, 44]
abbrev dktX1_goes_2 : List UInt8 := dkwX1_goes_2 ++ dktX1_goes_3
def dkwX1_goes_1 : List UInt8 := [180, 0, 45, 182, 0, 165, 77, 3, 62, 29, 42, 180, 0, 32, 180, 0, 97, 162, 0, 38, 44, 29]
abbrev dktX1_goes_1 : List UInt8 := dkwX1_goes_1 ++ dktX1_goes_2
def dkwX1_goes_0 : List UInt8 := [42, 180, 0, 45, 180, 0, 132, 16, 64, 159, 0, 10, 42, 182, 1, 23, 154, 0, 5, 3, 172, 3, 60, 42]
abbrev dktX1_goes_0 : List UInt8 := dkwX1_goes_0 ++ dktX1_goes_1
theorem dksX1_goes_0 : cX1_goes.data.toList.drop 0 = dktX1_goes_0 := by decide +kernel
theorem dksX1_goes_1 : cX1_goes.data.toList.drop 24 = dktX1_goes_1 := dk_seg dksX1_goes_0 24 rfl rfl
theorem dksX1_goes_2 : cX1_goes.data.toList.drop 46 = dktX1_goes_2 := dk_seg dksX1_goes_1 22 rfl rfl
theorem dksX1_goes_3 : cX1_goes.data.toList.drop 68 = dktX1_goes_3 := dk_seg dksX1_goes_2 22 rfl rfl
theorem dX1_goes_0 : decode cX1_goes 0 = .ok (.aload_n 0, 1) := dk_42 (dk_at dksX1_goes_0 0 rfl rfl)
theorem dX1_goes_1 : decode cX1_goes 1 = .ok (.getfield 45, 3) := dk_180 0 45 (dk_at dksX1_goes_0 1 rfl rfl)
theorem dX1_goes_4 : decode cX1_goes 4 = .ok (.getfield 132, 3) := dk_180 0 132 (dk_at dksX1_goes_0 4 rfl rfl)
theorem dX1_goes_7 : decode cX1_goes 7 = .ok (.bipush 64, 2) := dk_16 64 (dk_at dksX1_goes_0 7 rfl rfl)
theorem dX1_goes_9 : decode cX1_goes 9 = .ok (.if_icmp .eq 10, 3) := dk_159 0 10 (dk_at dksX1_goes_0 9 rfl rfl)
theorem dX1_goes_12 : decode cX1_goes 12 = .ok (.aload_n 0, 1) := dk_42 (dk_at dksX1_goes_0 12 rfl rfl)
theorem dX1_goes_13 : decode cX1_goes 13 = .ok (.invokevirtual 279, 3) := dk_182 1 23 (dk_at dksX1_goes_0 13 rfl rfl)
theorem dX1_goes_16 : decode cX1_goes 16 = .ok (.ifCond .ne 5, 3) := dk_154 0 5 (dk_at dksX1_goes_0 16 rfl rfl)
theorem dX1_goes_19 : decode cX1_goes 19 = .ok (.iconst 0, 1) := dk_3 (dk_at dksX1_goes_0 19 rfl rfl)
theorem dX1_goes_20 : decode cX1_goes 20 = .ok (.ireturn, 1) := dk_172 (dk_at dksX1_goes_0 20 rfl rfl)
theorem dX1_goes_21 : decode cX1_goes 21 = .ok (.iconst 0, 1) := dk_3 (dk_at dksX1_goes_0 21 rfl rfl)
theorem dX1_goes_22 : decode cX1_goes 22 = .ok (.istore_n 1, 1) := dk_60 (dk_at dksX1_goes_0 22 rfl rfl)
theorem dX1_goes_23 : decode cX1_goes 23 = .ok (.aload_n 0, 1) := dk_42 (dk_at dksX1_goes_0 23 rfl rfl)
theorem dX1_goes_24 : decode cX1_goes 24 = .ok (.getfield 45, 3) := dk_180 0 45 (dk_at dksX1_goes_1 0 rfl rfl)
theorem dX1_goes_27 : decode cX1_goes 27 = .ok (.invokevirtual 165, 3) := dk_182 0 165 (dk_at dksX1_goes_1 3 rfl rfl)
theorem dX1_goes_30 : decode cX1_goes 30 = .ok (.astore_n 2, 1) := dk_77 (dk_at dksX1_goes_1 6 rfl rfl)
theorem dX1_goes_31 : decode cX1_goes 31 = .ok (.iconst 0, 1) := dk_3 (dk_at dksX1_goes_1 7 rfl rfl)
theorem dX1_goes_32 : decode cX1_goes 32 = .ok (.istore_n 3, 1) := dk_62 (dk_at dksX1_goes_1 8 rfl rfl)
theorem dX1_goes_33 : decode cX1_goes 33 = .ok (.iload_n 3, 1) := dk_29 (dk_at dksX1_goes_1 9 rfl rfl)
theorem dX1_goes_34 : decode cX1_goes 34 = .ok (.aload_n 0, 1) := dk_42 (dk_at dksX1_goes_1 10 rfl rfl)
theorem dX1_goes_35 : decode cX1_goes 35 = .ok (.getfield 32, 3) := dk_180 0 32 (dk_at dksX1_goes_1 11 rfl rfl)
theorem dX1_goes_38 : decode cX1_goes 38 = .ok (.getfield 97, 3) := dk_180 0 97 (dk_at dksX1_goes_1 14 rfl rfl)
theorem dX1_goes_41 : decode cX1_goes 41 = .ok (.if_icmp .ge 38, 3) := dk_162 0 38 (dk_at dksX1_goes_1 17 rfl rfl)
theorem dX1_goes_44 : decode cX1_goes 44 = .ok (.aload_n 2, 1) := dk_44 (dk_at dksX1_goes_1 20 rfl rfl)
theorem dX1_goes_45 : decode cX1_goes 45 = .ok (.iload_n 3, 1) := dk_29 (dk_at dksX1_goes_1 21 rfl rfl)
theorem dX1_goes_46 : decode cX1_goes 46 = .ok (.invokevirtual 135, 3) := dk_182 0 135 (dk_at dksX1_goes_2 0 rfl rfl)
theorem dX1_goes_49 : decode cX1_goes 49 = .ok (.iload_n 1, 1) := dk_27 (dk_at dksX1_goes_2 3 rfl rfl)
theorem dX1_goes_50 : decode cX1_goes 50 = .ok (.aload_n 0, 1) := dk_42 (dk_at dksX1_goes_2 4 rfl rfl)
theorem dX1_goes_51 : decode cX1_goes 51 = .ok (.aload_n 2, 1) := dk_44 (dk_at dksX1_goes_2 5 rfl rfl)
theorem dX1_goes_52 : decode cX1_goes 52 = .ok (.invokevirtual 196, 3) := dk_182 0 196 (dk_at dksX1_goes_2 6 rfl rfl)
theorem dX1_goes_55 : decode cX1_goes 55 = .ok (.ifCond .eq 9, 3) := dk_153 0 9 (dk_at dksX1_goes_2 9 rfl rfl)
theorem dX1_goes_58 : decode cX1_goes 58 = .ok (.iconst 1, 1) := dk_4 (dk_at dksX1_goes_2 12 rfl rfl)
theorem dX1_goes_59 : decode cX1_goes 59 = .ok (.iload_n 3, 1) := dk_29 (dk_at dksX1_goes_2 13 rfl rfl)
theorem dX1_goes_60 : decode cX1_goes 60 = .ok (.ishl, 1) := dk_120 (dk_at dksX1_goes_2 14 rfl rfl)
theorem dX1_goes_61 : decode cX1_goes 61 = .ok (.goto 4, 3) := dk_167 0 4 (dk_at dksX1_goes_2 15 rfl rfl)
theorem dX1_goes_64 : decode cX1_goes 64 = .ok (.iconst 0, 1) := dk_3 (dk_at dksX1_goes_2 18 rfl rfl)
theorem dX1_goes_65 : decode cX1_goes 65 = .ok (.ior, 1) := dk_128 (dk_at dksX1_goes_2 19 rfl rfl)
theorem dX1_goes_66 : decode cX1_goes 66 = .ok (.istore_n 1, 1) := dk_60 (dk_at dksX1_goes_2 20 rfl rfl)
theorem dX1_goes_67 : decode cX1_goes 67 = .ok (.aload_n 2, 1) := dk_44 (dk_at dksX1_goes_2 21 rfl rfl)
theorem dX1_goes_68 : decode cX1_goes 68 = .ok (.invokevirtual 169, 3) := dk_182 0 169 (dk_at dksX1_goes_3 0 rfl rfl)
theorem dX1_goes_71 : decode cX1_goes 71 = .ok (.istore 4, 2) := dk_54 4 (dk_at dksX1_goes_3 3 rfl rfl)
theorem dX1_goes_73 : decode cX1_goes 73 = .ok (.iinc 3 1, 3) := dk_132 3 1 (dk_at dksX1_goes_3 5 rfl rfl)
theorem dX1_goes_76 : decode cX1_goes 76 = .ok (.goto (-43), 3) := dk_167 255 213 (dk_at dksX1_goes_3 8 rfl rfl)
theorem dX1_goes_79 : decode cX1_goes 79 = .ok (.iload_n 1, 1) := dk_27 (dk_at dksX1_goes_3 11 rfl rfl)
theorem dX1_goes_80 : decode cX1_goes 80 = .ok (.ireturn, 1) := dk_172 (dk_at dksX1_goes_3 12 rfl rfl)
abbrev cX1_further : ByteArray := prog_1_method_38_code
def yX1_further : MethodName := ⟨RX1, "further", "()I"⟩
def dkwX1_further_3 : List UInt8 := [45, 180, 1, 34, 153, 0, 8, 16, 254, 167, 0, 6, 28, 4, 100, 172, 132, 2, 1, 167, 255, 192, 27, 172]
abbrev dktX1_further_3 : List UInt8 := dkwX1_further_3 ++ []
def dkwX1_further_2 : List UInt8 := [45, 42, 180, 0, 45, 180, 0, 132, 28, 96, 42, 180, 0, 45, 180, 0, 132, 3, 182, 1, 31, 154, 0, 19]
abbrev dktX1_further_2 : List UInt8 := dkwX1_further_2 ++ dktX1_further_3
def dkwX1_further_1 : List UInt8 := [60, 4, 61, 28, 27, 163, 0, 65, 187, 1, 26, 89, 42, 42, 180, 0, 45, 182, 0, 165, 183, 1, 28, 78]
abbrev dktX1_further_1 : List UInt8 := dkwX1_further_1 ++ dktX1_further_2
def dkwX1_further_0 : List UInt8 := [42, 182, 1, 23, 154, 0, 5, 3, 172, 16, 20, 16, 64, 42, 180, 0, 45, 180, 0, 132, 100, 184, 0, 212]
abbrev dktX1_further_0 : List UInt8 := dkwX1_further_0 ++ dktX1_further_1
theorem dksX1_further_0 : cX1_further.data.toList.drop 0 = dktX1_further_0 := by decide +kernel
theorem dksX1_further_1 : cX1_further.data.toList.drop 24 = dktX1_further_1 := dk_seg dksX1_further_0 24 rfl rfl
theorem dksX1_further_2 : cX1_further.data.toList.drop 48 = dktX1_further_2 := dk_seg dksX1_further_1 24 rfl rfl
theorem dksX1_further_3 : cX1_further.data.toList.drop 72 = dktX1_further_3 := dk_seg dksX1_further_2 24 rfl rfl
theorem dX1_further_0 : decode cX1_further 0 = .ok (.aload_n 0, 1) := dk_42 (dk_at dksX1_further_0 0 rfl rfl)
theorem dX1_further_1 : decode cX1_further 1 = .ok (.invokevirtual 279, 3) := dk_182 1 23 (dk_at dksX1_further_0 1 rfl rfl)
theorem dX1_further_4 : decode cX1_further 4 = .ok (.ifCond .ne 5, 3) := dk_154 0 5 (dk_at dksX1_further_0 4 rfl rfl)
theorem dX1_further_7 : decode cX1_further 7 = .ok (.iconst 0, 1) := dk_3 (dk_at dksX1_further_0 7 rfl rfl)
theorem dX1_further_8 : decode cX1_further 8 = .ok (.ireturn, 1) := dk_172 (dk_at dksX1_further_0 8 rfl rfl)
theorem dX1_further_9 : decode cX1_further 9 = .ok (.bipush 20, 2) := dk_16 20 (dk_at dksX1_further_0 9 rfl rfl)
theorem dX1_further_11 : decode cX1_further 11 = .ok (.bipush 64, 2) := dk_16 64 (dk_at dksX1_further_0 11 rfl rfl)
theorem dX1_further_13 : decode cX1_further 13 = .ok (.aload_n 0, 1) := dk_42 (dk_at dksX1_further_0 13 rfl rfl)
theorem dX1_further_14 : decode cX1_further 14 = .ok (.getfield 45, 3) := dk_180 0 45 (dk_at dksX1_further_0 14 rfl rfl)
theorem dX1_further_17 : decode cX1_further 17 = .ok (.getfield 132, 3) := dk_180 0 132 (dk_at dksX1_further_0 17 rfl rfl)
theorem dX1_further_20 : decode cX1_further 20 = .ok (.isub, 1) := dk_100 (dk_at dksX1_further_0 20 rfl rfl)
theorem dX1_further_21 : decode cX1_further 21 = .ok (.invokestatic 212, 3) := dk_184 0 212 (dk_at dksX1_further_0 21 rfl rfl)
theorem dX1_further_24 : decode cX1_further 24 = .ok (.istore_n 1, 1) := dk_60 (dk_at dksX1_further_1 0 rfl rfl)
theorem dX1_further_25 : decode cX1_further 25 = .ok (.iconst 1, 1) := dk_4 (dk_at dksX1_further_1 1 rfl rfl)
theorem dX1_further_26 : decode cX1_further 26 = .ok (.istore_n 2, 1) := dk_61 (dk_at dksX1_further_1 2 rfl rfl)
theorem dX1_further_27 : decode cX1_further 27 = .ok (.iload_n 2, 1) := dk_28 (dk_at dksX1_further_1 3 rfl rfl)
theorem dX1_further_28 : decode cX1_further 28 = .ok (.iload_n 1, 1) := dk_27 (dk_at dksX1_further_1 4 rfl rfl)
theorem dX1_further_29 : decode cX1_further 29 = .ok (.if_icmp .gt 65, 3) := dk_163 0 65 (dk_at dksX1_further_1 5 rfl rfl)
theorem dX1_further_32 : decode cX1_further 32 = .ok (.new 282, 3) := dk_187 1 26 (dk_at dksX1_further_1 8 rfl rfl)
theorem dX1_further_35 : decode cX1_further 35 = .ok (.dup, 1) := dk_89 (dk_at dksX1_further_1 11 rfl rfl)
theorem dX1_further_36 : decode cX1_further 36 = .ok (.aload_n 0, 1) := dk_42 (dk_at dksX1_further_1 12 rfl rfl)
theorem dX1_further_37 : decode cX1_further 37 = .ok (.aload_n 0, 1) := dk_42 (dk_at dksX1_further_1 13 rfl rfl)
theorem dX1_further_38 : decode cX1_further 38 = .ok (.getfield 45, 3) := dk_180 0 45 (dk_at dksX1_further_1 14 rfl rfl)
theorem dX1_further_41 : decode cX1_further 41 = .ok (.invokevirtual 165, 3) := dk_182 0 165 (dk_at dksX1_further_1 17 rfl rfl)
theorem dX1_further_44 : decode cX1_further 44 = .ok (.invokespecial 284, 3) := dk_183 1 28 (dk_at dksX1_further_1 20 rfl rfl)
theorem dX1_further_47 : decode cX1_further 47 = .ok (.astore_n 3, 1) := dk_78 (dk_at dksX1_further_1 23 rfl rfl)
theorem dX1_further_48 : decode cX1_further 48 = .ok (.aload_n 3, 1) := dk_45 (dk_at dksX1_further_2 0 rfl rfl)
theorem dX1_further_49 : decode cX1_further 49 = .ok (.aload_n 0, 1) := dk_42 (dk_at dksX1_further_2 1 rfl rfl)
theorem dX1_further_50 : decode cX1_further 50 = .ok (.getfield 45, 3) := dk_180 0 45 (dk_at dksX1_further_2 2 rfl rfl)
theorem dX1_further_53 : decode cX1_further 53 = .ok (.getfield 132, 3) := dk_180 0 132 (dk_at dksX1_further_2 5 rfl rfl)
theorem dX1_further_56 : decode cX1_further 56 = .ok (.iload_n 2, 1) := dk_28 (dk_at dksX1_further_2 8 rfl rfl)
theorem dX1_further_57 : decode cX1_further 57 = .ok (.iadd, 1) := dk_96 (dk_at dksX1_further_2 9 rfl rfl)
theorem dX1_further_58 : decode cX1_further 58 = .ok (.aload_n 0, 1) := dk_42 (dk_at dksX1_further_2 10 rfl rfl)
theorem dX1_further_59 : decode cX1_further 59 = .ok (.getfield 45, 3) := dk_180 0 45 (dk_at dksX1_further_2 11 rfl rfl)
theorem dX1_further_62 : decode cX1_further 62 = .ok (.getfield 132, 3) := dk_180 0 132 (dk_at dksX1_further_2 14 rfl rfl)
theorem dX1_further_65 : decode cX1_further 65 = .ok (.iconst 0, 1) := dk_3 (dk_at dksX1_further_2 17 rfl rfl)
theorem dX1_further_66 : decode cX1_further 66 = .ok (.invokevirtual 287, 3) := dk_182 1 31 (dk_at dksX1_further_2 18 rfl rfl)
theorem dX1_further_69 : decode cX1_further 69 = .ok (.ifCond .ne 19, 3) := dk_154 0 19 (dk_at dksX1_further_2 21 rfl rfl)
theorem dX1_further_72 : decode cX1_further 72 = .ok (.aload_n 3, 1) := dk_45 (dk_at dksX1_further_3 0 rfl rfl)
theorem dX1_further_73 : decode cX1_further 73 = .ok (.getfield 290, 3) := dk_180 1 34 (dk_at dksX1_further_3 1 rfl rfl)
theorem dX1_further_76 : decode cX1_further 76 = .ok (.ifCond .eq 8, 3) := dk_153 0 8 (dk_at dksX1_further_3 4 rfl rfl)
theorem dX1_further_79 : decode cX1_further 79 = .ok (.bipush (-2), 2) := dk_16 254 (dk_at dksX1_further_3 7 rfl rfl)
theorem dX1_further_81 : decode cX1_further 81 = .ok (.goto 6, 3) := dk_167 0 6 (dk_at dksX1_further_3 9 rfl rfl)
theorem dX1_further_84 : decode cX1_further 84 = .ok (.iload_n 2, 1) := dk_28 (dk_at dksX1_further_3 12 rfl rfl)
theorem dX1_further_85 : decode cX1_further 85 = .ok (.iconst 1, 1) := dk_4 (dk_at dksX1_further_3 13 rfl rfl)
theorem dX1_further_86 : decode cX1_further 86 = .ok (.isub, 1) := dk_100 (dk_at dksX1_further_3 14 rfl rfl)
theorem dX1_further_87 : decode cX1_further 87 = .ok (.ireturn, 1) := dk_172 (dk_at dksX1_further_3 15 rfl rfl)
theorem dX1_further_88 : decode cX1_further 88 = .ok (.iinc 2 1, 3) := dk_132 2 1 (dk_at dksX1_further_3 16 rfl rfl)
theorem dX1_further_91 : decode cX1_further 91 = .ok (.goto (-64), 3) := dk_167 255 192 (dk_at dksX1_further_3 19 rfl rfl)
theorem dX1_further_94 : decode cX1_further 94 = .ok (.iload_n 1, 1) := dk_27 (dk_at dksX1_further_3 22 rfl rfl)
theorem dX1_further_95 : decode cX1_further 95 = .ok (.ireturn, 1) := dk_172 (dk_at dksX1_further_3 23 rfl rfl)
abbrev cX1_longest : ByteArray := prog_1_method_43_code
def yX1_longest : MethodName := ⟨RX1, "longest", "()I"⟩
def dkwX1_longest_2 : List UInt8 := [100, 172, 132, 1, 1, 167, 255, 205, 16, 40, 172]
abbrev dktX1_longest_2 : List UInt8 := dkwX1_longest_2 ++ []
def dkwX1_longest_1 : List UInt8 := [44, 27, 3, 3, 182, 1, 31, 154, 0, 19, 44, 180, 1, 34, 153, 0, 8, 16, 254, 167, 0, 6, 27, 4]
abbrev dktX1_longest_1 : List UInt8 := dkwX1_longest_1 ++ dktX1_longest_2
def dkwX1_longest_0 : List UInt8 := [4, 60, 27, 16, 40, 163, 0, 51, 187, 1, 26, 89, 42, 187, 0, 42, 89, 183, 0, 44, 183, 1, 28, 77]
abbrev dktX1_longest_0 : List UInt8 := dkwX1_longest_0 ++ dktX1_longest_1
theorem dksX1_longest_0 : cX1_longest.data.toList.drop 0 = dktX1_longest_0 := by decide +kernel
theorem dksX1_longest_1 : cX1_longest.data.toList.drop 24 = dktX1_longest_1 := dk_seg dksX1_longest_0 24 rfl rfl
theorem dksX1_longest_2 : cX1_longest.data.toList.drop 48 = dktX1_longest_2 := dk_seg dksX1_longest_1 24 rfl rfl
theorem dX1_longest_0 : decode cX1_longest 0 = .ok (.iconst 1, 1) := dk_4 (dk_at dksX1_longest_0 0 rfl rfl)
theorem dX1_longest_1 : decode cX1_longest 1 = .ok (.istore_n 1, 1) := dk_60 (dk_at dksX1_longest_0 1 rfl rfl)
theorem dX1_longest_2 : decode cX1_longest 2 = .ok (.iload_n 1, 1) := dk_27 (dk_at dksX1_longest_0 2 rfl rfl)
theorem dX1_longest_3 : decode cX1_longest 3 = .ok (.bipush 40, 2) := dk_16 40 (dk_at dksX1_longest_0 3 rfl rfl)
theorem dX1_longest_5 : decode cX1_longest 5 = .ok (.if_icmp .gt 51, 3) := dk_163 0 51 (dk_at dksX1_longest_0 5 rfl rfl)
theorem dX1_longest_8 : decode cX1_longest 8 = .ok (.new 282, 3) := dk_187 1 26 (dk_at dksX1_longest_0 8 rfl rfl)
theorem dX1_longest_11 : decode cX1_longest 11 = .ok (.dup, 1) := dk_89 (dk_at dksX1_longest_0 11 rfl rfl)
theorem dX1_longest_12 : decode cX1_longest 12 = .ok (.aload_n 0, 1) := dk_42 (dk_at dksX1_longest_0 12 rfl rfl)
theorem dX1_longest_13 : decode cX1_longest 13 = .ok (.new 42, 3) := dk_187 0 42 (dk_at dksX1_longest_0 13 rfl rfl)
theorem dX1_longest_16 : decode cX1_longest 16 = .ok (.dup, 1) := dk_89 (dk_at dksX1_longest_0 16 rfl rfl)
theorem dX1_longest_17 : decode cX1_longest 17 = .ok (.invokespecial 44, 3) := dk_183 0 44 (dk_at dksX1_longest_0 17 rfl rfl)
theorem dX1_longest_20 : decode cX1_longest 20 = .ok (.invokespecial 284, 3) := dk_183 1 28 (dk_at dksX1_longest_0 20 rfl rfl)
theorem dX1_longest_23 : decode cX1_longest 23 = .ok (.astore_n 2, 1) := dk_77 (dk_at dksX1_longest_0 23 rfl rfl)
theorem dX1_longest_24 : decode cX1_longest 24 = .ok (.aload_n 2, 1) := dk_44 (dk_at dksX1_longest_1 0 rfl rfl)
theorem dX1_longest_25 : decode cX1_longest 25 = .ok (.iload_n 1, 1) := dk_27 (dk_at dksX1_longest_1 1 rfl rfl)
theorem dX1_longest_26 : decode cX1_longest 26 = .ok (.iconst 0, 1) := dk_3 (dk_at dksX1_longest_1 2 rfl rfl)
theorem dX1_longest_27 : decode cX1_longest 27 = .ok (.iconst 0, 1) := dk_3 (dk_at dksX1_longest_1 3 rfl rfl)
theorem dX1_longest_28 : decode cX1_longest 28 = .ok (.invokevirtual 287, 3) := dk_182 1 31 (dk_at dksX1_longest_1 4 rfl rfl)
theorem dX1_longest_31 : decode cX1_longest 31 = .ok (.ifCond .ne 19, 3) := dk_154 0 19 (dk_at dksX1_longest_1 7 rfl rfl)
theorem dX1_longest_34 : decode cX1_longest 34 = .ok (.aload_n 2, 1) := dk_44 (dk_at dksX1_longest_1 10 rfl rfl)
theorem dX1_longest_35 : decode cX1_longest 35 = .ok (.getfield 290, 3) := dk_180 1 34 (dk_at dksX1_longest_1 11 rfl rfl)
theorem dX1_longest_38 : decode cX1_longest 38 = .ok (.ifCond .eq 8, 3) := dk_153 0 8 (dk_at dksX1_longest_1 14 rfl rfl)
theorem dX1_longest_41 : decode cX1_longest 41 = .ok (.bipush (-2), 2) := dk_16 254 (dk_at dksX1_longest_1 17 rfl rfl)
theorem dX1_longest_43 : decode cX1_longest 43 = .ok (.goto 6, 3) := dk_167 0 6 (dk_at dksX1_longest_1 19 rfl rfl)
theorem dX1_longest_46 : decode cX1_longest 46 = .ok (.iload_n 1, 1) := dk_27 (dk_at dksX1_longest_1 22 rfl rfl)
theorem dX1_longest_47 : decode cX1_longest 47 = .ok (.iconst 1, 1) := dk_4 (dk_at dksX1_longest_1 23 rfl rfl)
theorem dX1_longest_48 : decode cX1_longest 48 = .ok (.isub, 1) := dk_100 (dk_at dksX1_longest_2 0 rfl rfl)
theorem dX1_longest_49 : decode cX1_longest 49 = .ok (.ireturn, 1) := dk_172 (dk_at dksX1_longest_2 1 rfl rfl)
theorem dX1_longest_50 : decode cX1_longest 50 = .ok (.iinc 1 1, 3) := dk_132 1 1 (dk_at dksX1_longest_2 2 rfl rfl)
theorem dX1_longest_53 : decode cX1_longest 53 = .ok (.goto (-51), 3) := dk_167 255 205 (dk_at dksX1_longest_2 5 rfl rfl)
theorem dX1_longest_56 : decode cX1_longest 56 = .ok (.bipush 40, 2) := dk_16 40 (dk_at dksX1_longest_2 8 rfl rfl)
theorem dX1_longest_58 : decode cX1_longest 58 = .ok (.ireturn, 1) := dk_172 (dk_at dksX1_longest_2 10 rfl rfl)
abbrev cX1_ahead : ByteArray := prog_1_method_50_code
def yX1_ahead : MethodName := ⟨RX1, "ahead", "()I"⟩
def dkwX1_ahead_4 : List UInt8 := [120, 167, 0, 4, 3, 128, 60, 132, 2, 1, 167, 255, 169, 27, 172]
abbrev dktX1_ahead_4 : List UInt8 := dkwX1_ahead_4 ++ []
def dkwX1_ahead_3 : List UInt8 := [182, 0, 135, 132, 3, 1, 167, 255, 226, 27, 42, 42, 180, 0, 59, 182, 0, 199, 2, 160, 0, 9, 4, 28]
abbrev dktX1_ahead_3 : List UInt8 := dkwX1_ahead_3 ++ dktX1_ahead_4
def dkwX1_ahead_2 : List UInt8 := [29, 42, 180, 0, 45, 180, 0, 132, 162, 0, 25, 42, 180, 0, 59, 42, 180, 0, 45, 180, 0, 152, 29, 51]
abbrev dktX1_ahead_2 : List UInt8 := dkwX1_ahead_2 ++ dktX1_ahead_3
def dkwX1_ahead_1 : List UInt8 := [180, 0, 97, 162, 0, 82, 42, 180, 0, 59, 3, 181, 0, 132, 42, 180, 0, 59, 28, 182, 0, 135, 3, 62]
abbrev dktX1_ahead_1 : List UInt8 := dkwX1_ahead_1 ++ dktX1_ahead_2
def dkwX1_ahead_0 : List UInt8 := [42, 180, 0, 45, 180, 0, 132, 16, 64, 160, 0, 5, 3, 172, 3, 60, 3, 61, 28, 42, 180, 0, 32]
abbrev dktX1_ahead_0 : List UInt8 := dkwX1_ahead_0 ++ dktX1_ahead_1
theorem dksX1_ahead_0 : cX1_ahead.data.toList.drop 0 = dktX1_ahead_0 := by decide +kernel
theorem dksX1_ahead_1 : cX1_ahead.data.toList.drop 23 = dktX1_ahead_1 := dk_seg dksX1_ahead_0 23 rfl rfl
theorem dksX1_ahead_2 : cX1_ahead.data.toList.drop 47 = dktX1_ahead_2 := dk_seg dksX1_ahead_1 24 rfl rfl
theorem dksX1_ahead_3 : cX1_ahead.data.toList.drop 71 = dktX1_ahead_3 := dk_seg dksX1_ahead_2 24 rfl rfl
theorem dksX1_ahead_4 : cX1_ahead.data.toList.drop 95 = dktX1_ahead_4 := dk_seg dksX1_ahead_3 24 rfl rfl
theorem dX1_ahead_0 : decode cX1_ahead 0 = .ok (.aload_n 0, 1) := dk_42 (dk_at dksX1_ahead_0 0 rfl rfl)
theorem dX1_ahead_1 : decode cX1_ahead 1 = .ok (.getfield 45, 3) := dk_180 0 45 (dk_at dksX1_ahead_0 1 rfl rfl)
theorem dX1_ahead_4 : decode cX1_ahead 4 = .ok (.getfield 132, 3) := dk_180 0 132 (dk_at dksX1_ahead_0 4 rfl rfl)
theorem dX1_ahead_7 : decode cX1_ahead 7 = .ok (.bipush 64, 2) := dk_16 64 (dk_at dksX1_ahead_0 7 rfl rfl)
theorem dX1_ahead_9 : decode cX1_ahead 9 = .ok (.if_icmp .ne 5, 3) := dk_160 0 5 (dk_at dksX1_ahead_0 9 rfl rfl)
theorem dX1_ahead_12 : decode cX1_ahead 12 = .ok (.iconst 0, 1) := dk_3 (dk_at dksX1_ahead_0 12 rfl rfl)
theorem dX1_ahead_13 : decode cX1_ahead 13 = .ok (.ireturn, 1) := dk_172 (dk_at dksX1_ahead_0 13 rfl rfl)
theorem dX1_ahead_14 : decode cX1_ahead 14 = .ok (.iconst 0, 1) := dk_3 (dk_at dksX1_ahead_0 14 rfl rfl)
theorem dX1_ahead_15 : decode cX1_ahead 15 = .ok (.istore_n 1, 1) := dk_60 (dk_at dksX1_ahead_0 15 rfl rfl)
theorem dX1_ahead_16 : decode cX1_ahead 16 = .ok (.iconst 0, 1) := dk_3 (dk_at dksX1_ahead_0 16 rfl rfl)
theorem dX1_ahead_17 : decode cX1_ahead 17 = .ok (.istore_n 2, 1) := dk_61 (dk_at dksX1_ahead_0 17 rfl rfl)
theorem dX1_ahead_18 : decode cX1_ahead 18 = .ok (.iload_n 2, 1) := dk_28 (dk_at dksX1_ahead_0 18 rfl rfl)
theorem dX1_ahead_19 : decode cX1_ahead 19 = .ok (.aload_n 0, 1) := dk_42 (dk_at dksX1_ahead_0 19 rfl rfl)
theorem dX1_ahead_20 : decode cX1_ahead 20 = .ok (.getfield 32, 3) := dk_180 0 32 (dk_at dksX1_ahead_0 20 rfl rfl)
theorem dX1_ahead_23 : decode cX1_ahead 23 = .ok (.getfield 97, 3) := dk_180 0 97 (dk_at dksX1_ahead_1 0 rfl rfl)
theorem dX1_ahead_26 : decode cX1_ahead 26 = .ok (.if_icmp .ge 82, 3) := dk_162 0 82 (dk_at dksX1_ahead_1 3 rfl rfl)
theorem dX1_ahead_29 : decode cX1_ahead 29 = .ok (.aload_n 0, 1) := dk_42 (dk_at dksX1_ahead_1 6 rfl rfl)
theorem dX1_ahead_30 : decode cX1_ahead 30 = .ok (.getfield 59, 3) := dk_180 0 59 (dk_at dksX1_ahead_1 7 rfl rfl)
theorem dX1_ahead_33 : decode cX1_ahead 33 = .ok (.iconst 0, 1) := dk_3 (dk_at dksX1_ahead_1 10 rfl rfl)
theorem dX1_ahead_34 : decode cX1_ahead 34 = .ok (.putfield 132, 3) := dk_181 0 132 (dk_at dksX1_ahead_1 11 rfl rfl)
theorem dX1_ahead_37 : decode cX1_ahead 37 = .ok (.aload_n 0, 1) := dk_42 (dk_at dksX1_ahead_1 14 rfl rfl)
theorem dX1_ahead_38 : decode cX1_ahead 38 = .ok (.getfield 59, 3) := dk_180 0 59 (dk_at dksX1_ahead_1 15 rfl rfl)
theorem dX1_ahead_41 : decode cX1_ahead 41 = .ok (.iload_n 2, 1) := dk_28 (dk_at dksX1_ahead_1 18 rfl rfl)
theorem dX1_ahead_42 : decode cX1_ahead 42 = .ok (.invokevirtual 135, 3) := dk_182 0 135 (dk_at dksX1_ahead_1 19 rfl rfl)
theorem dX1_ahead_45 : decode cX1_ahead 45 = .ok (.iconst 0, 1) := dk_3 (dk_at dksX1_ahead_1 22 rfl rfl)
theorem dX1_ahead_46 : decode cX1_ahead 46 = .ok (.istore_n 3, 1) := dk_62 (dk_at dksX1_ahead_1 23 rfl rfl)
theorem dX1_ahead_47 : decode cX1_ahead 47 = .ok (.iload_n 3, 1) := dk_29 (dk_at dksX1_ahead_2 0 rfl rfl)
theorem dX1_ahead_48 : decode cX1_ahead 48 = .ok (.aload_n 0, 1) := dk_42 (dk_at dksX1_ahead_2 1 rfl rfl)
theorem dX1_ahead_49 : decode cX1_ahead 49 = .ok (.getfield 45, 3) := dk_180 0 45 (dk_at dksX1_ahead_2 2 rfl rfl)
theorem dX1_ahead_52 : decode cX1_ahead 52 = .ok (.getfield 132, 3) := dk_180 0 132 (dk_at dksX1_ahead_2 5 rfl rfl)
theorem dX1_ahead_55 : decode cX1_ahead 55 = .ok (.if_icmp .ge 25, 3) := dk_162 0 25 (dk_at dksX1_ahead_2 8 rfl rfl)
theorem dX1_ahead_58 : decode cX1_ahead 58 = .ok (.aload_n 0, 1) := dk_42 (dk_at dksX1_ahead_2 11 rfl rfl)
theorem dX1_ahead_59 : decode cX1_ahead 59 = .ok (.getfield 59, 3) := dk_180 0 59 (dk_at dksX1_ahead_2 12 rfl rfl)
theorem dX1_ahead_62 : decode cX1_ahead 62 = .ok (.aload_n 0, 1) := dk_42 (dk_at dksX1_ahead_2 15 rfl rfl)
theorem dX1_ahead_63 : decode cX1_ahead 63 = .ok (.getfield 45, 3) := dk_180 0 45 (dk_at dksX1_ahead_2 16 rfl rfl)
theorem dX1_ahead_66 : decode cX1_ahead 66 = .ok (.getfield 152, 3) := dk_180 0 152 (dk_at dksX1_ahead_2 19 rfl rfl)
theorem dX1_ahead_69 : decode cX1_ahead 69 = .ok (.iload_n 3, 1) := dk_29 (dk_at dksX1_ahead_2 22 rfl rfl)
theorem dX1_ahead_70 : decode cX1_ahead 70 = .ok (.baload, 1) := dk_51 (dk_at dksX1_ahead_2 23 rfl rfl)
theorem dX1_ahead_71 : decode cX1_ahead 71 = .ok (.invokevirtual 135, 3) := dk_182 0 135 (dk_at dksX1_ahead_3 0 rfl rfl)
theorem dX1_ahead_74 : decode cX1_ahead 74 = .ok (.iinc 3 1, 3) := dk_132 3 1 (dk_at dksX1_ahead_3 3 rfl rfl)
theorem dX1_ahead_77 : decode cX1_ahead 77 = .ok (.goto (-30), 3) := dk_167 255 226 (dk_at dksX1_ahead_3 6 rfl rfl)
theorem dX1_ahead_80 : decode cX1_ahead 80 = .ok (.iload_n 1, 1) := dk_27 (dk_at dksX1_ahead_3 9 rfl rfl)
theorem dX1_ahead_81 : decode cX1_ahead 81 = .ok (.aload_n 0, 1) := dk_42 (dk_at dksX1_ahead_3 10 rfl rfl)
theorem dX1_ahead_82 : decode cX1_ahead 82 = .ok (.aload_n 0, 1) := dk_42 (dk_at dksX1_ahead_3 11 rfl rfl)
theorem dX1_ahead_83 : decode cX1_ahead 83 = .ok (.getfield 59, 3) := dk_180 0 59 (dk_at dksX1_ahead_3 12 rfl rfl)
theorem dX1_ahead_86 : decode cX1_ahead 86 = .ok (.invokevirtual 199, 3) := dk_182 0 199 (dk_at dksX1_ahead_3 15 rfl rfl)
theorem dX1_ahead_89 : decode cX1_ahead 89 = .ok (.iconst (-1), 1) := dk_2 (dk_at dksX1_ahead_3 18 rfl rfl)
theorem dX1_ahead_90 : decode cX1_ahead 90 = .ok (.if_icmp .ne 9, 3) := dk_160 0 9 (dk_at dksX1_ahead_3 19 rfl rfl)
theorem dX1_ahead_93 : decode cX1_ahead 93 = .ok (.iconst 1, 1) := dk_4 (dk_at dksX1_ahead_3 22 rfl rfl)
theorem dX1_ahead_94 : decode cX1_ahead 94 = .ok (.iload_n 2, 1) := dk_28 (dk_at dksX1_ahead_3 23 rfl rfl)
theorem dX1_ahead_95 : decode cX1_ahead 95 = .ok (.ishl, 1) := dk_120 (dk_at dksX1_ahead_4 0 rfl rfl)
theorem dX1_ahead_96 : decode cX1_ahead 96 = .ok (.goto 4, 3) := dk_167 0 4 (dk_at dksX1_ahead_4 1 rfl rfl)
theorem dX1_ahead_99 : decode cX1_ahead 99 = .ok (.iconst 0, 1) := dk_3 (dk_at dksX1_ahead_4 4 rfl rfl)
theorem dX1_ahead_100 : decode cX1_ahead 100 = .ok (.ior, 1) := dk_128 (dk_at dksX1_ahead_4 5 rfl rfl)
theorem dX1_ahead_101 : decode cX1_ahead 101 = .ok (.istore_n 1, 1) := dk_60 (dk_at dksX1_ahead_4 6 rfl rfl)
theorem dX1_ahead_102 : decode cX1_ahead 102 = .ok (.iinc 2 1, 3) := dk_132 2 1 (dk_at dksX1_ahead_4 7 rfl rfl)
theorem dX1_ahead_105 : decode cX1_ahead 105 = .ok (.goto (-87), 3) := dk_167 255 169 (dk_at dksX1_ahead_4 10 rfl rfl)
theorem dX1_ahead_108 : decode cX1_ahead 108 = .ok (.iload_n 1, 1) := dk_27 (dk_at dksX1_ahead_4 13 rfl rfl)
theorem dX1_ahead_109 : decode cX1_ahead 109 = .ok (.ireturn, 1) := dk_172 (dk_at dksX1_ahead_4 14 rfl rfl)
abbrev cX1_lyndon : ByteArray := prog_1_method_53_code
def yX1_lyndon : MethodName := ⟨RX1, "lyndon", "(I)I"⟩
def dkwX1_lyndon_6 : List UInt8 := [167, 0, 4, 2, 172]
abbrev dktX1_lyndon_6 : List UInt8 := dkwX1_lyndon_6 ++ []
def dkwX1_lyndon_5 : List UInt8 := [132, 2, 1, 29, 21, 5, 21, 4, 100, 96, 62, 167, 255, 228, 167, 255, 132, 27, 2, 160, 0, 7, 28]
abbrev dktX1_lyndon_5 : List UInt8 := dkwX1_lyndon_5 ++ dktX1_lyndon_6
def dkwX1_lyndon_4 : List UInt8 := [132, 5, 1, 167, 255, 185, 29, 21, 4, 163, 0, 28, 28, 27, 160, 0, 9, 21, 5, 21, 4, 100, 172]
abbrev dktX1_lyndon_4 : List UInt8 := dkwX1_lyndon_4 ++ dktX1_lyndon_5
def dkwX1_lyndon_3 : List UInt8 := [180, 0, 45, 180, 0, 152, 21, 5, 51, 162, 0, 7, 29, 167, 0, 7, 21, 4, 4, 96, 54, 4]
abbrev dktX1_lyndon_3 : List UInt8 := dkwX1_lyndon_3 ++ dktX1_lyndon_4
def dkwX1_lyndon_2 : List UInt8 := [180, 0, 45, 180, 0, 152, 21, 5, 51, 163, 0, 42, 42, 180, 0, 45, 180, 0, 152, 21, 4, 51, 42]
abbrev dktX1_lyndon_2 : List UInt8 := dkwX1_lyndon_2 ++ dktX1_lyndon_3
def dkwX1_lyndon_1 : List UInt8 := [21, 5, 42, 180, 0, 45, 180, 0, 132, 162, 0, 65, 42, 180, 0, 45, 180, 0, 152, 21, 4, 51, 42]
abbrev dktX1_lyndon_1 : List UInt8 := dkwX1_lyndon_1 ++ dktX1_lyndon_2
def dkwX1_lyndon_0 : List UInt8 := [3, 61, 3, 62, 29, 42, 180, 0, 45, 180, 0, 132, 162, 0, 119, 29, 54, 4, 29, 4, 96, 54, 5]
abbrev dktX1_lyndon_0 : List UInt8 := dkwX1_lyndon_0 ++ dktX1_lyndon_1
theorem dksX1_lyndon_0 : cX1_lyndon.data.toList.drop 0 = dktX1_lyndon_0 := by decide +kernel
theorem dksX1_lyndon_1 : cX1_lyndon.data.toList.drop 23 = dktX1_lyndon_1 := dk_seg dksX1_lyndon_0 23 rfl rfl
theorem dksX1_lyndon_2 : cX1_lyndon.data.toList.drop 46 = dktX1_lyndon_2 := dk_seg dksX1_lyndon_1 23 rfl rfl
theorem dksX1_lyndon_3 : cX1_lyndon.data.toList.drop 69 = dktX1_lyndon_3 := dk_seg dksX1_lyndon_2 23 rfl rfl
theorem dksX1_lyndon_4 : cX1_lyndon.data.toList.drop 91 = dktX1_lyndon_4 := dk_seg dksX1_lyndon_3 22 rfl rfl
theorem dksX1_lyndon_5 : cX1_lyndon.data.toList.drop 114 = dktX1_lyndon_5 := dk_seg dksX1_lyndon_4 23 rfl rfl
theorem dksX1_lyndon_6 : cX1_lyndon.data.toList.drop 137 = dktX1_lyndon_6 := dk_seg dksX1_lyndon_5 23 rfl rfl
theorem dX1_lyndon_0 : decode cX1_lyndon 0 = .ok (.iconst 0, 1) := dk_3 (dk_at dksX1_lyndon_0 0 rfl rfl)
theorem dX1_lyndon_1 : decode cX1_lyndon 1 = .ok (.istore_n 2, 1) := dk_61 (dk_at dksX1_lyndon_0 1 rfl rfl)
theorem dX1_lyndon_2 : decode cX1_lyndon 2 = .ok (.iconst 0, 1) := dk_3 (dk_at dksX1_lyndon_0 2 rfl rfl)
theorem dX1_lyndon_3 : decode cX1_lyndon 3 = .ok (.istore_n 3, 1) := dk_62 (dk_at dksX1_lyndon_0 3 rfl rfl)
theorem dX1_lyndon_4 : decode cX1_lyndon 4 = .ok (.iload_n 3, 1) := dk_29 (dk_at dksX1_lyndon_0 4 rfl rfl)
theorem dX1_lyndon_5 : decode cX1_lyndon 5 = .ok (.aload_n 0, 1) := dk_42 (dk_at dksX1_lyndon_0 5 rfl rfl)
theorem dX1_lyndon_6 : decode cX1_lyndon 6 = .ok (.getfield 45, 3) := dk_180 0 45 (dk_at dksX1_lyndon_0 6 rfl rfl)
theorem dX1_lyndon_9 : decode cX1_lyndon 9 = .ok (.getfield 132, 3) := dk_180 0 132 (dk_at dksX1_lyndon_0 9 rfl rfl)
theorem dX1_lyndon_12 : decode cX1_lyndon 12 = .ok (.if_icmp .ge 119, 3) := dk_162 0 119 (dk_at dksX1_lyndon_0 12 rfl rfl)
theorem dX1_lyndon_15 : decode cX1_lyndon 15 = .ok (.iload_n 3, 1) := dk_29 (dk_at dksX1_lyndon_0 15 rfl rfl)
theorem dX1_lyndon_16 : decode cX1_lyndon 16 = .ok (.istore 4, 2) := dk_54 4 (dk_at dksX1_lyndon_0 16 rfl rfl)
theorem dX1_lyndon_18 : decode cX1_lyndon 18 = .ok (.iload_n 3, 1) := dk_29 (dk_at dksX1_lyndon_0 18 rfl rfl)
theorem dX1_lyndon_19 : decode cX1_lyndon 19 = .ok (.iconst 1, 1) := dk_4 (dk_at dksX1_lyndon_0 19 rfl rfl)
theorem dX1_lyndon_20 : decode cX1_lyndon 20 = .ok (.iadd, 1) := dk_96 (dk_at dksX1_lyndon_0 20 rfl rfl)
theorem dX1_lyndon_21 : decode cX1_lyndon 21 = .ok (.istore 5, 2) := dk_54 5 (dk_at dksX1_lyndon_0 21 rfl rfl)
theorem dX1_lyndon_23 : decode cX1_lyndon 23 = .ok (.iload 5, 2) := dk_21 5 (dk_at dksX1_lyndon_1 0 rfl rfl)
theorem dX1_lyndon_25 : decode cX1_lyndon 25 = .ok (.aload_n 0, 1) := dk_42 (dk_at dksX1_lyndon_1 2 rfl rfl)
theorem dX1_lyndon_26 : decode cX1_lyndon 26 = .ok (.getfield 45, 3) := dk_180 0 45 (dk_at dksX1_lyndon_1 3 rfl rfl)
theorem dX1_lyndon_29 : decode cX1_lyndon 29 = .ok (.getfield 132, 3) := dk_180 0 132 (dk_at dksX1_lyndon_1 6 rfl rfl)
theorem dX1_lyndon_32 : decode cX1_lyndon 32 = .ok (.if_icmp .ge 65, 3) := dk_162 0 65 (dk_at dksX1_lyndon_1 9 rfl rfl)
theorem dX1_lyndon_35 : decode cX1_lyndon 35 = .ok (.aload_n 0, 1) := dk_42 (dk_at dksX1_lyndon_1 12 rfl rfl)
theorem dX1_lyndon_36 : decode cX1_lyndon 36 = .ok (.getfield 45, 3) := dk_180 0 45 (dk_at dksX1_lyndon_1 13 rfl rfl)
theorem dX1_lyndon_39 : decode cX1_lyndon 39 = .ok (.getfield 152, 3) := dk_180 0 152 (dk_at dksX1_lyndon_1 16 rfl rfl)
theorem dX1_lyndon_42 : decode cX1_lyndon 42 = .ok (.iload 4, 2) := dk_21 4 (dk_at dksX1_lyndon_1 19 rfl rfl)
theorem dX1_lyndon_44 : decode cX1_lyndon 44 = .ok (.baload, 1) := dk_51 (dk_at dksX1_lyndon_1 21 rfl rfl)
theorem dX1_lyndon_45 : decode cX1_lyndon 45 = .ok (.aload_n 0, 1) := dk_42 (dk_at dksX1_lyndon_1 22 rfl rfl)
theorem dX1_lyndon_46 : decode cX1_lyndon 46 = .ok (.getfield 45, 3) := dk_180 0 45 (dk_at dksX1_lyndon_2 0 rfl rfl)
theorem dX1_lyndon_49 : decode cX1_lyndon 49 = .ok (.getfield 152, 3) := dk_180 0 152 (dk_at dksX1_lyndon_2 3 rfl rfl)
theorem dX1_lyndon_52 : decode cX1_lyndon 52 = .ok (.iload 5, 2) := dk_21 5 (dk_at dksX1_lyndon_2 6 rfl rfl)
theorem dX1_lyndon_54 : decode cX1_lyndon 54 = .ok (.baload, 1) := dk_51 (dk_at dksX1_lyndon_2 8 rfl rfl)
theorem dX1_lyndon_55 : decode cX1_lyndon 55 = .ok (.if_icmp .gt 42, 3) := dk_163 0 42 (dk_at dksX1_lyndon_2 9 rfl rfl)
theorem dX1_lyndon_58 : decode cX1_lyndon 58 = .ok (.aload_n 0, 1) := dk_42 (dk_at dksX1_lyndon_2 12 rfl rfl)
theorem dX1_lyndon_59 : decode cX1_lyndon 59 = .ok (.getfield 45, 3) := dk_180 0 45 (dk_at dksX1_lyndon_2 13 rfl rfl)
theorem dX1_lyndon_62 : decode cX1_lyndon 62 = .ok (.getfield 152, 3) := dk_180 0 152 (dk_at dksX1_lyndon_2 16 rfl rfl)
theorem dX1_lyndon_65 : decode cX1_lyndon 65 = .ok (.iload 4, 2) := dk_21 4 (dk_at dksX1_lyndon_2 19 rfl rfl)
theorem dX1_lyndon_67 : decode cX1_lyndon 67 = .ok (.baload, 1) := dk_51 (dk_at dksX1_lyndon_2 21 rfl rfl)
theorem dX1_lyndon_68 : decode cX1_lyndon 68 = .ok (.aload_n 0, 1) := dk_42 (dk_at dksX1_lyndon_2 22 rfl rfl)
theorem dX1_lyndon_69 : decode cX1_lyndon 69 = .ok (.getfield 45, 3) := dk_180 0 45 (dk_at dksX1_lyndon_3 0 rfl rfl)
theorem dX1_lyndon_72 : decode cX1_lyndon 72 = .ok (.getfield 152, 3) := dk_180 0 152 (dk_at dksX1_lyndon_3 3 rfl rfl)
theorem dX1_lyndon_75 : decode cX1_lyndon 75 = .ok (.iload 5, 2) := dk_21 5 (dk_at dksX1_lyndon_3 6 rfl rfl)
theorem dX1_lyndon_77 : decode cX1_lyndon 77 = .ok (.baload, 1) := dk_51 (dk_at dksX1_lyndon_3 8 rfl rfl)
theorem dX1_lyndon_78 : decode cX1_lyndon 78 = .ok (.if_icmp .ge 7, 3) := dk_162 0 7 (dk_at dksX1_lyndon_3 9 rfl rfl)
theorem dX1_lyndon_81 : decode cX1_lyndon 81 = .ok (.iload_n 3, 1) := dk_29 (dk_at dksX1_lyndon_3 12 rfl rfl)
theorem dX1_lyndon_82 : decode cX1_lyndon 82 = .ok (.goto 7, 3) := dk_167 0 7 (dk_at dksX1_lyndon_3 13 rfl rfl)
theorem dX1_lyndon_85 : decode cX1_lyndon 85 = .ok (.iload 4, 2) := dk_21 4 (dk_at dksX1_lyndon_3 16 rfl rfl)
theorem dX1_lyndon_87 : decode cX1_lyndon 87 = .ok (.iconst 1, 1) := dk_4 (dk_at dksX1_lyndon_3 18 rfl rfl)
theorem dX1_lyndon_88 : decode cX1_lyndon 88 = .ok (.iadd, 1) := dk_96 (dk_at dksX1_lyndon_3 19 rfl rfl)
theorem dX1_lyndon_89 : decode cX1_lyndon 89 = .ok (.istore 4, 2) := dk_54 4 (dk_at dksX1_lyndon_3 20 rfl rfl)
theorem dX1_lyndon_91 : decode cX1_lyndon 91 = .ok (.iinc 5 1, 3) := dk_132 5 1 (dk_at dksX1_lyndon_4 0 rfl rfl)
theorem dX1_lyndon_94 : decode cX1_lyndon 94 = .ok (.goto (-71), 3) := dk_167 255 185 (dk_at dksX1_lyndon_4 3 rfl rfl)
theorem dX1_lyndon_97 : decode cX1_lyndon 97 = .ok (.iload_n 3, 1) := dk_29 (dk_at dksX1_lyndon_4 6 rfl rfl)
theorem dX1_lyndon_98 : decode cX1_lyndon 98 = .ok (.iload 4, 2) := dk_21 4 (dk_at dksX1_lyndon_4 7 rfl rfl)
theorem dX1_lyndon_100 : decode cX1_lyndon 100 = .ok (.if_icmp .gt 28, 3) := dk_163 0 28 (dk_at dksX1_lyndon_4 9 rfl rfl)
theorem dX1_lyndon_103 : decode cX1_lyndon 103 = .ok (.iload_n 2, 1) := dk_28 (dk_at dksX1_lyndon_4 12 rfl rfl)
theorem dX1_lyndon_104 : decode cX1_lyndon 104 = .ok (.iload_n 1, 1) := dk_27 (dk_at dksX1_lyndon_4 13 rfl rfl)
theorem dX1_lyndon_105 : decode cX1_lyndon 105 = .ok (.if_icmp .ne 9, 3) := dk_160 0 9 (dk_at dksX1_lyndon_4 14 rfl rfl)
theorem dX1_lyndon_108 : decode cX1_lyndon 108 = .ok (.iload 5, 2) := dk_21 5 (dk_at dksX1_lyndon_4 17 rfl rfl)
theorem dX1_lyndon_110 : decode cX1_lyndon 110 = .ok (.iload 4, 2) := dk_21 4 (dk_at dksX1_lyndon_4 19 rfl rfl)
theorem dX1_lyndon_112 : decode cX1_lyndon 112 = .ok (.isub, 1) := dk_100 (dk_at dksX1_lyndon_4 21 rfl rfl)
theorem dX1_lyndon_113 : decode cX1_lyndon 113 = .ok (.ireturn, 1) := dk_172 (dk_at dksX1_lyndon_4 22 rfl rfl)
theorem dX1_lyndon_114 : decode cX1_lyndon 114 = .ok (.iinc 2 1, 3) := dk_132 2 1 (dk_at dksX1_lyndon_5 0 rfl rfl)
theorem dX1_lyndon_117 : decode cX1_lyndon 117 = .ok (.iload_n 3, 1) := dk_29 (dk_at dksX1_lyndon_5 3 rfl rfl)
theorem dX1_lyndon_118 : decode cX1_lyndon 118 = .ok (.iload 5, 2) := dk_21 5 (dk_at dksX1_lyndon_5 4 rfl rfl)
theorem dX1_lyndon_120 : decode cX1_lyndon 120 = .ok (.iload 4, 2) := dk_21 4 (dk_at dksX1_lyndon_5 6 rfl rfl)
theorem dX1_lyndon_122 : decode cX1_lyndon 122 = .ok (.isub, 1) := dk_100 (dk_at dksX1_lyndon_5 8 rfl rfl)
theorem dX1_lyndon_123 : decode cX1_lyndon 123 = .ok (.iadd, 1) := dk_96 (dk_at dksX1_lyndon_5 9 rfl rfl)
theorem dX1_lyndon_124 : decode cX1_lyndon 124 = .ok (.istore_n 3, 1) := dk_62 (dk_at dksX1_lyndon_5 10 rfl rfl)
theorem dX1_lyndon_125 : decode cX1_lyndon 125 = .ok (.goto (-28), 3) := dk_167 255 228 (dk_at dksX1_lyndon_5 11 rfl rfl)
theorem dX1_lyndon_128 : decode cX1_lyndon 128 = .ok (.goto (-124), 3) := dk_167 255 132 (dk_at dksX1_lyndon_5 14 rfl rfl)
theorem dX1_lyndon_131 : decode cX1_lyndon 131 = .ok (.iload_n 1, 1) := dk_27 (dk_at dksX1_lyndon_5 17 rfl rfl)
theorem dX1_lyndon_132 : decode cX1_lyndon 132 = .ok (.iconst (-1), 1) := dk_2 (dk_at dksX1_lyndon_5 18 rfl rfl)
theorem dX1_lyndon_133 : decode cX1_lyndon 133 = .ok (.if_icmp .ne 7, 3) := dk_160 0 7 (dk_at dksX1_lyndon_5 19 rfl rfl)
theorem dX1_lyndon_136 : decode cX1_lyndon 136 = .ok (.iload_n 2, 1) := dk_28 (dk_at dksX1_lyndon_5 22 rfl rfl)
theorem dX1_lyndon_137 : decode cX1_lyndon 137 = .ok (.goto 4, 3) := dk_167 0 4 (dk_at dksX1_lyndon_6 0 rfl rfl)
theorem dX1_lyndon_140 : decode cX1_lyndon 140 = .ok (.iconst (-1), 1) := dk_2 (dk_at dksX1_lyndon_6 3 rfl rfl)
theorem dX1_lyndon_141 : decode cX1_lyndon 141 = .ok (.ireturn, 1) := dk_172 (dk_at dksX1_lyndon_6 4 rfl rfl)
abbrev cX1_turned : ByteArray := prog_1_method_54_code
def yX1_turned : MethodName := ⟨RX1, "turned", "()I"⟩
def dkwX1_turned_2 : List UInt8 := [172]
abbrev dktX1_turned_2 : List UInt8 := dkwX1_turned_2 ++ []
def dkwX1_turned_1 : List UInt8 := [180, 0, 132, 162, 0, 20, 42, 28, 27, 182, 1, 77, 153, 0, 5, 28, 60, 132, 2, 1, 167, 255, 231, 27]
abbrev dktX1_turned_1 : List UInt8 := dkwX1_turned_1 ++ dktX1_turned_2
def dkwX1_turned_0 : List UInt8 := [42, 180, 0, 45, 180, 0, 132, 154, 0, 7, 2, 167, 0, 4, 3, 60, 4, 61, 28, 42, 180, 0, 45]
abbrev dktX1_turned_0 : List UInt8 := dkwX1_turned_0 ++ dktX1_turned_1
theorem dksX1_turned_0 : cX1_turned.data.toList.drop 0 = dktX1_turned_0 := by decide +kernel
theorem dksX1_turned_1 : cX1_turned.data.toList.drop 23 = dktX1_turned_1 := dk_seg dksX1_turned_0 23 rfl rfl
theorem dksX1_turned_2 : cX1_turned.data.toList.drop 47 = dktX1_turned_2 := dk_seg dksX1_turned_1 24 rfl rfl
theorem dX1_turned_0 : decode cX1_turned 0 = .ok (.aload_n 0, 1) := dk_42 (dk_at dksX1_turned_0 0 rfl rfl)
theorem dX1_turned_1 : decode cX1_turned 1 = .ok (.getfield 45, 3) := dk_180 0 45 (dk_at dksX1_turned_0 1 rfl rfl)
theorem dX1_turned_4 : decode cX1_turned 4 = .ok (.getfield 132, 3) := dk_180 0 132 (dk_at dksX1_turned_0 4 rfl rfl)
theorem dX1_turned_7 : decode cX1_turned 7 = .ok (.ifCond .ne 7, 3) := dk_154 0 7 (dk_at dksX1_turned_0 7 rfl rfl)
theorem dX1_turned_10 : decode cX1_turned 10 = .ok (.iconst (-1), 1) := dk_2 (dk_at dksX1_turned_0 10 rfl rfl)
theorem dX1_turned_11 : decode cX1_turned 11 = .ok (.goto 4, 3) := dk_167 0 4 (dk_at dksX1_turned_0 11 rfl rfl)
theorem dX1_turned_14 : decode cX1_turned 14 = .ok (.iconst 0, 1) := dk_3 (dk_at dksX1_turned_0 14 rfl rfl)
theorem dX1_turned_15 : decode cX1_turned 15 = .ok (.istore_n 1, 1) := dk_60 (dk_at dksX1_turned_0 15 rfl rfl)
theorem dX1_turned_16 : decode cX1_turned 16 = .ok (.iconst 1, 1) := dk_4 (dk_at dksX1_turned_0 16 rfl rfl)
theorem dX1_turned_17 : decode cX1_turned 17 = .ok (.istore_n 2, 1) := dk_61 (dk_at dksX1_turned_0 17 rfl rfl)
theorem dX1_turned_18 : decode cX1_turned 18 = .ok (.iload_n 2, 1) := dk_28 (dk_at dksX1_turned_0 18 rfl rfl)
theorem dX1_turned_19 : decode cX1_turned 19 = .ok (.aload_n 0, 1) := dk_42 (dk_at dksX1_turned_0 19 rfl rfl)
theorem dX1_turned_20 : decode cX1_turned 20 = .ok (.getfield 45, 3) := dk_180 0 45 (dk_at dksX1_turned_0 20 rfl rfl)
theorem dX1_turned_23 : decode cX1_turned 23 = .ok (.getfield 132, 3) := dk_180 0 132 (dk_at dksX1_turned_1 0 rfl rfl)
theorem dX1_turned_26 : decode cX1_turned 26 = .ok (.if_icmp .ge 20, 3) := dk_162 0 20 (dk_at dksX1_turned_1 3 rfl rfl)
theorem dX1_turned_29 : decode cX1_turned 29 = .ok (.aload_n 0, 1) := dk_42 (dk_at dksX1_turned_1 6 rfl rfl)
theorem dX1_turned_30 : decode cX1_turned 30 = .ok (.iload_n 2, 1) := dk_28 (dk_at dksX1_turned_1 7 rfl rfl)
theorem dX1_turned_31 : decode cX1_turned 31 = .ok (.iload_n 1, 1) := dk_27 (dk_at dksX1_turned_1 8 rfl rfl)
theorem dX1_turned_32 : decode cX1_turned 32 = .ok (.invokevirtual 333, 3) := dk_182 1 77 (dk_at dksX1_turned_1 9 rfl rfl)
theorem dX1_turned_35 : decode cX1_turned 35 = .ok (.ifCond .eq 5, 3) := dk_153 0 5 (dk_at dksX1_turned_1 12 rfl rfl)
theorem dX1_turned_38 : decode cX1_turned 38 = .ok (.iload_n 2, 1) := dk_28 (dk_at dksX1_turned_1 15 rfl rfl)
theorem dX1_turned_39 : decode cX1_turned 39 = .ok (.istore_n 1, 1) := dk_60 (dk_at dksX1_turned_1 16 rfl rfl)
theorem dX1_turned_40 : decode cX1_turned 40 = .ok (.iinc 2 1, 3) := dk_132 2 1 (dk_at dksX1_turned_1 17 rfl rfl)
theorem dX1_turned_43 : decode cX1_turned 43 = .ok (.goto (-25), 3) := dk_167 255 231 (dk_at dksX1_turned_1 20 rfl rfl)
theorem dX1_turned_46 : decode cX1_turned 46 = .ok (.iload_n 1, 1) := dk_27 (dk_at dksX1_turned_1 23 rfl rfl)
theorem dX1_turned_47 : decode cX1_turned 47 = .ok (.ireturn, 1) := dk_172 (dk_at dksX1_turned_2 0 rfl rfl)
abbrev cX1_isLess : ByteArray := prog_1_method_55_code
def yX1_isLess : MethodName := ⟨RX1, "isLess", "(II)Z"⟩
def dkwX1_isLess_3 : List UInt8 := [132, 3, 1, 167, 255, 185, 3, 172]
abbrev dktX1_isLess_3 : List UInt8 := dkwX1_isLess_3 ++ []
def dkwX1_isLess_2 : List UInt8 := [180, 0, 132, 112, 51, 100, 54, 4, 21, 4, 153, 0, 14, 21, 4, 156, 0, 7, 4, 167, 0, 4, 3, 172]
abbrev dktX1_isLess_2 : List UInt8 := dkwX1_isLess_2 ++ dktX1_isLess_3
def dkwX1_isLess_1 : List UInt8 := [180, 0, 45, 180, 0, 132, 112, 51, 42, 180, 0, 45, 180, 0, 152, 28, 29, 96, 42, 180, 0, 45]
abbrev dktX1_isLess_1 : List UInt8 := dkwX1_isLess_1 ++ dktX1_isLess_2
def dkwX1_isLess_0 : List UInt8 := [3, 62, 29, 42, 180, 0, 45, 180, 0, 132, 162, 0, 66, 42, 180, 0, 45, 180, 0, 152, 27, 29, 96, 42]
abbrev dktX1_isLess_0 : List UInt8 := dkwX1_isLess_0 ++ dktX1_isLess_1
theorem dksX1_isLess_0 : cX1_isLess.data.toList.drop 0 = dktX1_isLess_0 := by decide +kernel
theorem dksX1_isLess_1 : cX1_isLess.data.toList.drop 24 = dktX1_isLess_1 := dk_seg dksX1_isLess_0 24 rfl rfl
theorem dksX1_isLess_2 : cX1_isLess.data.toList.drop 46 = dktX1_isLess_2 := dk_seg dksX1_isLess_1 22 rfl rfl
theorem dksX1_isLess_3 : cX1_isLess.data.toList.drop 70 = dktX1_isLess_3 := dk_seg dksX1_isLess_2 24 rfl rfl
theorem dX1_isLess_0 : decode cX1_isLess 0 = .ok (.iconst 0, 1) := dk_3 (dk_at dksX1_isLess_0 0 rfl rfl)
theorem dX1_isLess_1 : decode cX1_isLess 1 = .ok (.istore_n 3, 1) := dk_62 (dk_at dksX1_isLess_0 1 rfl rfl)
theorem dX1_isLess_2 : decode cX1_isLess 2 = .ok (.iload_n 3, 1) := dk_29 (dk_at dksX1_isLess_0 2 rfl rfl)
theorem dX1_isLess_3 : decode cX1_isLess 3 = .ok (.aload_n 0, 1) := dk_42 (dk_at dksX1_isLess_0 3 rfl rfl)
theorem dX1_isLess_4 : decode cX1_isLess 4 = .ok (.getfield 45, 3) := dk_180 0 45 (dk_at dksX1_isLess_0 4 rfl rfl)
theorem dX1_isLess_7 : decode cX1_isLess 7 = .ok (.getfield 132, 3) := dk_180 0 132 (dk_at dksX1_isLess_0 7 rfl rfl)
theorem dX1_isLess_10 : decode cX1_isLess 10 = .ok (.if_icmp .ge 66, 3) := dk_162 0 66 (dk_at dksX1_isLess_0 10 rfl rfl)
theorem dX1_isLess_13 : decode cX1_isLess 13 = .ok (.aload_n 0, 1) := dk_42 (dk_at dksX1_isLess_0 13 rfl rfl)
theorem dX1_isLess_14 : decode cX1_isLess 14 = .ok (.getfield 45, 3) := dk_180 0 45 (dk_at dksX1_isLess_0 14 rfl rfl)
theorem dX1_isLess_17 : decode cX1_isLess 17 = .ok (.getfield 152, 3) := dk_180 0 152 (dk_at dksX1_isLess_0 17 rfl rfl)
theorem dX1_isLess_20 : decode cX1_isLess 20 = .ok (.iload_n 1, 1) := dk_27 (dk_at dksX1_isLess_0 20 rfl rfl)
theorem dX1_isLess_21 : decode cX1_isLess 21 = .ok (.iload_n 3, 1) := dk_29 (dk_at dksX1_isLess_0 21 rfl rfl)
theorem dX1_isLess_22 : decode cX1_isLess 22 = .ok (.iadd, 1) := dk_96 (dk_at dksX1_isLess_0 22 rfl rfl)
theorem dX1_isLess_23 : decode cX1_isLess 23 = .ok (.aload_n 0, 1) := dk_42 (dk_at dksX1_isLess_0 23 rfl rfl)
theorem dX1_isLess_24 : decode cX1_isLess 24 = .ok (.getfield 45, 3) := dk_180 0 45 (dk_at dksX1_isLess_1 0 rfl rfl)
theorem dX1_isLess_27 : decode cX1_isLess 27 = .ok (.getfield 132, 3) := dk_180 0 132 (dk_at dksX1_isLess_1 3 rfl rfl)
theorem dX1_isLess_30 : decode cX1_isLess 30 = .ok (.irem, 1) := dk_112 (dk_at dksX1_isLess_1 6 rfl rfl)
theorem dX1_isLess_31 : decode cX1_isLess 31 = .ok (.baload, 1) := dk_51 (dk_at dksX1_isLess_1 7 rfl rfl)
theorem dX1_isLess_32 : decode cX1_isLess 32 = .ok (.aload_n 0, 1) := dk_42 (dk_at dksX1_isLess_1 8 rfl rfl)
theorem dX1_isLess_33 : decode cX1_isLess 33 = .ok (.getfield 45, 3) := dk_180 0 45 (dk_at dksX1_isLess_1 9 rfl rfl)
theorem dX1_isLess_36 : decode cX1_isLess 36 = .ok (.getfield 152, 3) := dk_180 0 152 (dk_at dksX1_isLess_1 12 rfl rfl)
theorem dX1_isLess_39 : decode cX1_isLess 39 = .ok (.iload_n 2, 1) := dk_28 (dk_at dksX1_isLess_1 15 rfl rfl)
theorem dX1_isLess_40 : decode cX1_isLess 40 = .ok (.iload_n 3, 1) := dk_29 (dk_at dksX1_isLess_1 16 rfl rfl)
theorem dX1_isLess_41 : decode cX1_isLess 41 = .ok (.iadd, 1) := dk_96 (dk_at dksX1_isLess_1 17 rfl rfl)
theorem dX1_isLess_42 : decode cX1_isLess 42 = .ok (.aload_n 0, 1) := dk_42 (dk_at dksX1_isLess_1 18 rfl rfl)
theorem dX1_isLess_43 : decode cX1_isLess 43 = .ok (.getfield 45, 3) := dk_180 0 45 (dk_at dksX1_isLess_1 19 rfl rfl)
theorem dX1_isLess_46 : decode cX1_isLess 46 = .ok (.getfield 132, 3) := dk_180 0 132 (dk_at dksX1_isLess_2 0 rfl rfl)
theorem dX1_isLess_49 : decode cX1_isLess 49 = .ok (.irem, 1) := dk_112 (dk_at dksX1_isLess_2 3 rfl rfl)
theorem dX1_isLess_50 : decode cX1_isLess 50 = .ok (.baload, 1) := dk_51 (dk_at dksX1_isLess_2 4 rfl rfl)
theorem dX1_isLess_51 : decode cX1_isLess 51 = .ok (.isub, 1) := dk_100 (dk_at dksX1_isLess_2 5 rfl rfl)
theorem dX1_isLess_52 : decode cX1_isLess 52 = .ok (.istore 4, 2) := dk_54 4 (dk_at dksX1_isLess_2 6 rfl rfl)
theorem dX1_isLess_54 : decode cX1_isLess 54 = .ok (.iload 4, 2) := dk_21 4 (dk_at dksX1_isLess_2 8 rfl rfl)
theorem dX1_isLess_56 : decode cX1_isLess 56 = .ok (.ifCond .eq 14, 3) := dk_153 0 14 (dk_at dksX1_isLess_2 10 rfl rfl)
theorem dX1_isLess_59 : decode cX1_isLess 59 = .ok (.iload 4, 2) := dk_21 4 (dk_at dksX1_isLess_2 13 rfl rfl)
theorem dX1_isLess_61 : decode cX1_isLess 61 = .ok (.ifCond .ge 7, 3) := dk_156 0 7 (dk_at dksX1_isLess_2 15 rfl rfl)
theorem dX1_isLess_64 : decode cX1_isLess 64 = .ok (.iconst 1, 1) := dk_4 (dk_at dksX1_isLess_2 18 rfl rfl)
theorem dX1_isLess_65 : decode cX1_isLess 65 = .ok (.goto 4, 3) := dk_167 0 4 (dk_at dksX1_isLess_2 19 rfl rfl)
theorem dX1_isLess_68 : decode cX1_isLess 68 = .ok (.iconst 0, 1) := dk_3 (dk_at dksX1_isLess_2 22 rfl rfl)
theorem dX1_isLess_69 : decode cX1_isLess 69 = .ok (.ireturn, 1) := dk_172 (dk_at dksX1_isLess_2 23 rfl rfl)
theorem dX1_isLess_70 : decode cX1_isLess 70 = .ok (.iinc 3 1, 3) := dk_132 3 1 (dk_at dksX1_isLess_3 0 rfl rfl)
theorem dX1_isLess_73 : decode cX1_isLess 73 = .ok (.goto (-71), 3) := dk_167 255 185 (dk_at dksX1_isLess_3 3 rfl rfl)
theorem dX1_isLess_76 : decode cX1_isLess 76 = .ok (.iconst 0, 1) := dk_3 (dk_at dksX1_isLess_3 6 rfl rfl)
theorem dX1_isLess_77 : decode cX1_isLess 77 = .ok (.ireturn, 1) := dk_172 (dk_at dksX1_isLess_3 7 rfl rfl)
abbrev cX1_count : ByteArray := prog_1_method_93_code
def yX1_count : MethodName := ⟨RX1, "count", "(I)I"⟩
def dkwX1_count_5 : List UInt8 := [3, 167, 0, 7, 44, 180, 1, 246, 172, 44, 199, 0, 7, 3, 167, 0, 7, 44, 180, 1, 69, 172, 2, 172]
abbrev dktX1_count_5 : List UInt8 := dkwX1_count_5 ++ []
def dkwX1_count_4 : List UInt8 := [180, 0, 52, 182, 0, 146, 172, 44, 199, 0, 7, 3, 167, 0, 7, 44, 180, 1, 243, 172, 44, 199, 0, 7]
abbrev dktX1_count_4 : List UInt8 := dkwX1_count_4 ++ dktX1_count_5
def dkwX1_count_3 : List UInt8 := [180, 0, 100, 182, 0, 251, 172, 42, 180, 0, 38, 190, 172, 42, 180, 0, 45, 180, 0, 132, 172, 42]
abbrev dktX1_count_3 : List UInt8 := dkwX1_count_3 ++ dktX1_count_4
def dkwX1_count_2 : List UInt8 := [42, 180, 0, 32, 180, 0, 97, 172, 42, 180, 0, 32, 180, 1, 83, 182, 0, 251, 172, 42, 180, 0, 32]
abbrev dktX1_count_2 : List UInt8 := dkwX1_count_2 ++ dktX1_count_3
def dkwX1_count_1 : List UInt8 := [170, 0, 0, 0, 0, 0, 142, 0, 0, 0, 0, 0, 0, 0, 8, 0, 0, 0, 51, 0, 0, 0, 59, 0, 0, 0, 70, 0, 0, 0, 81, 0, 0, 0, 87, 0, 0, 0, 95, 0, 0, 0, 103, 0, 0, 0, 116, 0, 0, 0, 129]
abbrev dktX1_count_1 : List UInt8 := dkwX1_count_1 ++ dktX1_count_2
def dkwX1_count_0 : List UInt8 := [42, 180, 0, 32, 180, 0, 178, 77, 27]
abbrev dktX1_count_0 : List UInt8 := dkwX1_count_0 ++ dktX1_count_1
theorem dksX1_count_0 : cX1_count.data.toList.drop 0 = dktX1_count_0 := by decide +kernel
theorem dksX1_count_1 : cX1_count.data.toList.drop 9 = dktX1_count_1 := dk_seg dksX1_count_0 9 rfl rfl
theorem dksX1_count_2 : cX1_count.data.toList.drop 60 = dktX1_count_2 := dk_seg dksX1_count_1 51 rfl rfl
theorem dksX1_count_3 : cX1_count.data.toList.drop 83 = dktX1_count_3 := dk_seg dksX1_count_2 23 rfl rfl
theorem dksX1_count_4 : cX1_count.data.toList.drop 105 = dktX1_count_4 := dk_seg dksX1_count_3 22 rfl rfl
theorem dksX1_count_5 : cX1_count.data.toList.drop 129 = dktX1_count_5 := dk_seg dksX1_count_4 24 rfl rfl
theorem dX1_count_0 : decode cX1_count 0 = .ok (.aload_n 0, 1) := dk_42 (dk_at dksX1_count_0 0 rfl rfl)
theorem dX1_count_1 : decode cX1_count 1 = .ok (.getfield 32, 3) := dk_180 0 32 (dk_at dksX1_count_0 1 rfl rfl)
theorem dX1_count_4 : decode cX1_count 4 = .ok (.getfield 178, 3) := dk_180 0 178 (dk_at dksX1_count_0 4 rfl rfl)
theorem dX1_count_7 : decode cX1_count 7 = .ok (.astore_n 2, 1) := dk_77 (dk_at dksX1_count_0 7 rfl rfl)
theorem dX1_count_8 : decode cX1_count 8 = .ok (.iload_n 1, 1) := dk_27 (dk_at dksX1_count_0 8 rfl rfl)
theorem dX1_count_9 : decode cX1_count 9 = .ok (.tableswitch 142 0 8 #[51, 59, 70, 81, 87, 95, 103, 116, 129], 51) := by decide +kernel
theorem dX1_count_60 : decode cX1_count 60 = .ok (.aload_n 0, 1) := dk_42 (dk_at dksX1_count_2 0 rfl rfl)
theorem dX1_count_61 : decode cX1_count 61 = .ok (.getfield 32, 3) := dk_180 0 32 (dk_at dksX1_count_2 1 rfl rfl)
theorem dX1_count_64 : decode cX1_count 64 = .ok (.getfield 97, 3) := dk_180 0 97 (dk_at dksX1_count_2 4 rfl rfl)
theorem dX1_count_67 : decode cX1_count 67 = .ok (.ireturn, 1) := dk_172 (dk_at dksX1_count_2 7 rfl rfl)
theorem dX1_count_68 : decode cX1_count 68 = .ok (.aload_n 0, 1) := dk_42 (dk_at dksX1_count_2 8 rfl rfl)
theorem dX1_count_69 : decode cX1_count 69 = .ok (.getfield 32, 3) := dk_180 0 32 (dk_at dksX1_count_2 9 rfl rfl)
theorem dX1_count_72 : decode cX1_count 72 = .ok (.getfield 339, 3) := dk_180 1 83 (dk_at dksX1_count_2 12 rfl rfl)
theorem dX1_count_75 : decode cX1_count 75 = .ok (.invokevirtual 251, 3) := dk_182 0 251 (dk_at dksX1_count_2 15 rfl rfl)
theorem dX1_count_78 : decode cX1_count 78 = .ok (.ireturn, 1) := dk_172 (dk_at dksX1_count_2 18 rfl rfl)
theorem dX1_count_79 : decode cX1_count 79 = .ok (.aload_n 0, 1) := dk_42 (dk_at dksX1_count_2 19 rfl rfl)
theorem dX1_count_80 : decode cX1_count 80 = .ok (.getfield 32, 3) := dk_180 0 32 (dk_at dksX1_count_2 20 rfl rfl)
theorem dX1_count_83 : decode cX1_count 83 = .ok (.getfield 100, 3) := dk_180 0 100 (dk_at dksX1_count_3 0 rfl rfl)
theorem dX1_count_86 : decode cX1_count 86 = .ok (.invokevirtual 251, 3) := dk_182 0 251 (dk_at dksX1_count_3 3 rfl rfl)
theorem dX1_count_89 : decode cX1_count 89 = .ok (.ireturn, 1) := dk_172 (dk_at dksX1_count_3 6 rfl rfl)
theorem dX1_count_90 : decode cX1_count 90 = .ok (.aload_n 0, 1) := dk_42 (dk_at dksX1_count_3 7 rfl rfl)
theorem dX1_count_91 : decode cX1_count 91 = .ok (.getfield 38, 3) := dk_180 0 38 (dk_at dksX1_count_3 8 rfl rfl)
theorem dX1_count_94 : decode cX1_count 94 = .ok (.arraylength, 1) := dk_190 (dk_at dksX1_count_3 11 rfl rfl)
theorem dX1_count_95 : decode cX1_count 95 = .ok (.ireturn, 1) := dk_172 (dk_at dksX1_count_3 12 rfl rfl)
theorem dX1_count_96 : decode cX1_count 96 = .ok (.aload_n 0, 1) := dk_42 (dk_at dksX1_count_3 13 rfl rfl)
theorem dX1_count_97 : decode cX1_count 97 = .ok (.getfield 45, 3) := dk_180 0 45 (dk_at dksX1_count_3 14 rfl rfl)
theorem dX1_count_100 : decode cX1_count 100 = .ok (.getfield 132, 3) := dk_180 0 132 (dk_at dksX1_count_3 17 rfl rfl)
theorem dX1_count_103 : decode cX1_count 103 = .ok (.ireturn, 1) := dk_172 (dk_at dksX1_count_3 20 rfl rfl)
theorem dX1_count_104 : decode cX1_count 104 = .ok (.aload_n 0, 1) := dk_42 (dk_at dksX1_count_3 21 rfl rfl)
theorem dX1_count_105 : decode cX1_count 105 = .ok (.getfield 52, 3) := dk_180 0 52 (dk_at dksX1_count_4 0 rfl rfl)
theorem dX1_count_108 : decode cX1_count 108 = .ok (.invokevirtual 146, 3) := dk_182 0 146 (dk_at dksX1_count_4 3 rfl rfl)
theorem dX1_count_111 : decode cX1_count 111 = .ok (.ireturn, 1) := dk_172 (dk_at dksX1_count_4 6 rfl rfl)
theorem dX1_count_112 : decode cX1_count 112 = .ok (.aload_n 2, 1) := dk_44 (dk_at dksX1_count_4 7 rfl rfl)
theorem dX1_count_113 : decode cX1_count 113 = .ok (.ifnonnull 7, 3) := dk_199 0 7 (dk_at dksX1_count_4 8 rfl rfl)
theorem dX1_count_116 : decode cX1_count 116 = .ok (.iconst 0, 1) := dk_3 (dk_at dksX1_count_4 11 rfl rfl)
theorem dX1_count_117 : decode cX1_count 117 = .ok (.goto 7, 3) := dk_167 0 7 (dk_at dksX1_count_4 12 rfl rfl)
theorem dX1_count_120 : decode cX1_count 120 = .ok (.aload_n 2, 1) := dk_44 (dk_at dksX1_count_4 15 rfl rfl)
theorem dX1_count_121 : decode cX1_count 121 = .ok (.getfield 499, 3) := dk_180 1 243 (dk_at dksX1_count_4 16 rfl rfl)
theorem dX1_count_124 : decode cX1_count 124 = .ok (.ireturn, 1) := dk_172 (dk_at dksX1_count_4 19 rfl rfl)
theorem dX1_count_125 : decode cX1_count 125 = .ok (.aload_n 2, 1) := dk_44 (dk_at dksX1_count_4 20 rfl rfl)
theorem dX1_count_126 : decode cX1_count 126 = .ok (.ifnonnull 7, 3) := dk_199 0 7 (dk_at dksX1_count_4 21 rfl rfl)
theorem dX1_count_129 : decode cX1_count 129 = .ok (.iconst 0, 1) := dk_3 (dk_at dksX1_count_5 0 rfl rfl)
theorem dX1_count_130 : decode cX1_count 130 = .ok (.goto 7, 3) := dk_167 0 7 (dk_at dksX1_count_5 1 rfl rfl)
theorem dX1_count_133 : decode cX1_count 133 = .ok (.aload_n 2, 1) := dk_44 (dk_at dksX1_count_5 4 rfl rfl)
theorem dX1_count_134 : decode cX1_count 134 = .ok (.getfield 502, 3) := dk_180 1 246 (dk_at dksX1_count_5 5 rfl rfl)
theorem dX1_count_137 : decode cX1_count 137 = .ok (.ireturn, 1) := dk_172 (dk_at dksX1_count_5 8 rfl rfl)
theorem dX1_count_138 : decode cX1_count 138 = .ok (.aload_n 2, 1) := dk_44 (dk_at dksX1_count_5 9 rfl rfl)
theorem dX1_count_139 : decode cX1_count 139 = .ok (.ifnonnull 7, 3) := dk_199 0 7 (dk_at dksX1_count_5 10 rfl rfl)
theorem dX1_count_142 : decode cX1_count 142 = .ok (.iconst 0, 1) := dk_3 (dk_at dksX1_count_5 13 rfl rfl)
theorem dX1_count_143 : decode cX1_count 143 = .ok (.goto 7, 3) := dk_167 0 7 (dk_at dksX1_count_5 14 rfl rfl)
theorem dX1_count_146 : decode cX1_count 146 = .ok (.aload_n 2, 1) := dk_44 (dk_at dksX1_count_5 17 rfl rfl)
theorem dX1_count_147 : decode cX1_count 147 = .ok (.getfield 325, 3) := dk_180 1 69 (dk_at dksX1_count_5 18 rfl rfl)
theorem dX1_count_150 : decode cX1_count 150 = .ok (.ireturn, 1) := dk_172 (dk_at dksX1_count_5 21 rfl rfl)
theorem dX1_count_151 : decode cX1_count 151 = .ok (.iconst (-1), 1) := dk_2 (dk_at dksX1_count_5 22 rfl rfl)
theorem dX1_count_152 : decode cX1_count 152 = .ok (.ireturn, 1) := dk_172 (dk_at dksX1_count_5 23 rfl rfl)
abbrev cX1_read : ByteArray := prog_1_method_13_code
def yX1_read : MethodName := ⟨RX1, "read", "()I"⟩
def dkwX1_read_2 : List UInt8 := [183, 0, 44, 181, 0, 45, 42, 180, 0, 52, 182, 0, 94, 42, 180, 0, 32, 180, 0, 97, 172]
abbrev dktX1_read_2 : List UInt8 := dkwX1_read_2 ++ []
def dkwX1_read_1 : List UInt8 := [167, 0, 13, 77, 42, 44, 180, 0, 84, 182, 0, 87, 191, 42, 182, 0, 91, 42, 187, 0, 42, 89]
abbrev dktX1_read_1 : List UInt8 := dkwX1_read_1 ++ dktX1_read_2
def dkwX1_read_0 : List UInt8 := [42, 182, 0, 69, 60, 42, 187, 0, 73, 89, 42, 180, 0, 21, 27, 183, 0, 75, 182, 0, 78, 181, 0, 32]
abbrev dktX1_read_0 : List UInt8 := dkwX1_read_0 ++ dktX1_read_1
theorem dksX1_read_0 : cX1_read.data.toList.drop 0 = dktX1_read_0 := by decide +kernel
theorem dksX1_read_1 : cX1_read.data.toList.drop 24 = dktX1_read_1 := dk_seg dksX1_read_0 24 rfl rfl
theorem dksX1_read_2 : cX1_read.data.toList.drop 46 = dktX1_read_2 := dk_seg dksX1_read_1 22 rfl rfl
theorem dX1_read_0 : decode cX1_read 0 = .ok (.aload_n 0, 1) := dk_42 (dk_at dksX1_read_0 0 rfl rfl)
theorem dX1_read_1 : decode cX1_read 1 = .ok (.invokevirtual 69, 3) := dk_182 0 69 (dk_at dksX1_read_0 1 rfl rfl)
theorem dX1_read_4 : decode cX1_read 4 = .ok (.istore_n 1, 1) := dk_60 (dk_at dksX1_read_0 4 rfl rfl)
theorem dX1_read_5 : decode cX1_read 5 = .ok (.aload_n 0, 1) := dk_42 (dk_at dksX1_read_0 5 rfl rfl)
theorem dX1_read_6 : decode cX1_read 6 = .ok (.new 73, 3) := dk_187 0 73 (dk_at dksX1_read_0 6 rfl rfl)
theorem dX1_read_9 : decode cX1_read 9 = .ok (.dup, 1) := dk_89 (dk_at dksX1_read_0 9 rfl rfl)
theorem dX1_read_10 : decode cX1_read 10 = .ok (.aload_n 0, 1) := dk_42 (dk_at dksX1_read_0 10 rfl rfl)
theorem dX1_read_11 : decode cX1_read 11 = .ok (.getfield 21, 3) := dk_180 0 21 (dk_at dksX1_read_0 11 rfl rfl)
theorem dX1_read_14 : decode cX1_read 14 = .ok (.iload_n 1, 1) := dk_27 (dk_at dksX1_read_0 14 rfl rfl)
theorem dX1_read_15 : decode cX1_read 15 = .ok (.invokespecial 75, 3) := dk_183 0 75 (dk_at dksX1_read_0 15 rfl rfl)
theorem dX1_read_18 : decode cX1_read 18 = .ok (.invokevirtual 78, 3) := dk_182 0 78 (dk_at dksX1_read_0 18 rfl rfl)
theorem dX1_read_21 : decode cX1_read 21 = .ok (.putfield 32, 3) := dk_181 0 32 (dk_at dksX1_read_0 21 rfl rfl)
theorem dX1_read_24 : decode cX1_read 24 = .ok (.goto 13, 3) := dk_167 0 13 (dk_at dksX1_read_1 0 rfl rfl)
theorem dX1_read_27 : decode cX1_read 27 = .ok (.astore_n 2, 1) := dk_77 (dk_at dksX1_read_1 3 rfl rfl)
theorem dX1_read_28 : decode cX1_read 28 = .ok (.aload_n 0, 1) := dk_42 (dk_at dksX1_read_1 4 rfl rfl)
theorem dX1_read_29 : decode cX1_read 29 = .ok (.aload_n 2, 1) := dk_44 (dk_at dksX1_read_1 5 rfl rfl)
theorem dX1_read_30 : decode cX1_read 30 = .ok (.getfield 84, 3) := dk_180 0 84 (dk_at dksX1_read_1 6 rfl rfl)
theorem dX1_read_33 : decode cX1_read 33 = .ok (.invokevirtual 87, 3) := dk_182 0 87 (dk_at dksX1_read_1 9 rfl rfl)
theorem dX1_read_36 : decode cX1_read 36 = .ok (.athrow, 1) := dk_191 (dk_at dksX1_read_1 12 rfl rfl)
theorem dX1_read_37 : decode cX1_read 37 = .ok (.aload_n 0, 1) := dk_42 (dk_at dksX1_read_1 13 rfl rfl)
theorem dX1_read_38 : decode cX1_read 38 = .ok (.invokevirtual 91, 3) := dk_182 0 91 (dk_at dksX1_read_1 14 rfl rfl)
theorem dX1_read_41 : decode cX1_read 41 = .ok (.aload_n 0, 1) := dk_42 (dk_at dksX1_read_1 17 rfl rfl)
theorem dX1_read_42 : decode cX1_read 42 = .ok (.new 42, 3) := dk_187 0 42 (dk_at dksX1_read_1 18 rfl rfl)
theorem dX1_read_45 : decode cX1_read 45 = .ok (.dup, 1) := dk_89 (dk_at dksX1_read_1 21 rfl rfl)
theorem dX1_read_46 : decode cX1_read 46 = .ok (.invokespecial 44, 3) := dk_183 0 44 (dk_at dksX1_read_2 0 rfl rfl)
theorem dX1_read_49 : decode cX1_read 49 = .ok (.putfield 45, 3) := dk_181 0 45 (dk_at dksX1_read_2 3 rfl rfl)
theorem dX1_read_52 : decode cX1_read 52 = .ok (.aload_n 0, 1) := dk_42 (dk_at dksX1_read_2 6 rfl rfl)
theorem dX1_read_53 : decode cX1_read 53 = .ok (.getfield 52, 3) := dk_180 0 52 (dk_at dksX1_read_2 7 rfl rfl)
theorem dX1_read_56 : decode cX1_read 56 = .ok (.invokevirtual 94, 3) := dk_182 0 94 (dk_at dksX1_read_2 10 rfl rfl)
theorem dX1_read_59 : decode cX1_read 59 = .ok (.aload_n 0, 1) := dk_42 (dk_at dksX1_read_2 13 rfl rfl)
theorem dX1_read_60 : decode cX1_read 60 = .ok (.getfield 32, 3) := dk_180 0 32 (dk_at dksX1_read_2 14 rfl rfl)
theorem dX1_read_63 : decode cX1_read 63 = .ok (.getfield 97, 3) := dk_180 0 97 (dk_at dksX1_read_2 17 rfl rfl)
theorem dX1_read_66 : decode cX1_read 66 = .ok (.ireturn, 1) := dk_172 (dk_at dksX1_read_2 20 rfl rfl)
abbrev cX1_took : ByteArray := prog_1_method_11_code
def yX1_took : MethodName := ⟨RX1, "took", "()I"⟩
def dkwX1_took_0 : List UInt8 := [42, 180, 0, 62, 60, 42, 3, 181, 0, 62, 42, 2, 181, 0, 25, 27, 172]
abbrev dktX1_took_0 : List UInt8 := dkwX1_took_0 ++ []
theorem dksX1_took_0 : cX1_took.data.toList.drop 0 = dktX1_took_0 := by decide +kernel
theorem dX1_took_0 : decode cX1_took 0 = .ok (.aload_n 0, 1) := dk_42 (dk_at dksX1_took_0 0 rfl rfl)
theorem dX1_took_1 : decode cX1_took 1 = .ok (.getfield 62, 3) := dk_180 0 62 (dk_at dksX1_took_0 1 rfl rfl)
theorem dX1_took_4 : decode cX1_took 4 = .ok (.istore_n 1, 1) := dk_60 (dk_at dksX1_took_0 4 rfl rfl)
theorem dX1_took_5 : decode cX1_took 5 = .ok (.aload_n 0, 1) := dk_42 (dk_at dksX1_took_0 5 rfl rfl)
theorem dX1_took_6 : decode cX1_took 6 = .ok (.iconst 0, 1) := dk_3 (dk_at dksX1_took_0 6 rfl rfl)
theorem dX1_took_7 : decode cX1_took 7 = .ok (.putfield 62, 3) := dk_181 0 62 (dk_at dksX1_took_0 7 rfl rfl)
theorem dX1_took_10 : decode cX1_took 10 = .ok (.aload_n 0, 1) := dk_42 (dk_at dksX1_took_0 10 rfl rfl)
theorem dX1_took_11 : decode cX1_took 11 = .ok (.iconst (-1), 1) := dk_2 (dk_at dksX1_took_0 11 rfl rfl)
theorem dX1_took_12 : decode cX1_took 12 = .ok (.putfield 25, 3) := dk_181 0 25 (dk_at dksX1_took_0 12 rfl rfl)
theorem dX1_took_15 : decode cX1_took 15 = .ok (.iload_n 1, 1) := dk_27 (dk_at dksX1_took_0 15 rfl rfl)
theorem dX1_took_16 : decode cX1_took 16 = .ok (.ireturn, 1) := dk_172 (dk_at dksX1_took_0 16 rfl rfl)
abbrev cX1_isWrong : ByteArray := prog_1_method_12_code
def yX1_isWrong : MethodName := ⟨RX1, "isWrong", "(I)Ljava/lang/IllegalArgumentException;"⟩
def dkwX1_isWrong_0 : List UInt8 := [42, 27, 181, 0, 25, 187, 0, 1, 89, 183, 0, 3, 176]
abbrev dktX1_isWrong_0 : List UInt8 := dkwX1_isWrong_0 ++ []
theorem dksX1_isWrong_0 : cX1_isWrong.data.toList.drop 0 = dktX1_isWrong_0 := by decide +kernel
theorem dX1_isWrong_0 : decode cX1_isWrong 0 = .ok (.aload_n 0, 1) := dk_42 (dk_at dksX1_isWrong_0 0 rfl rfl)
theorem dX1_isWrong_1 : decode cX1_isWrong 1 = .ok (.iload_n 1, 1) := dk_27 (dk_at dksX1_isWrong_0 1 rfl rfl)
theorem dX1_isWrong_2 : decode cX1_isWrong 2 = .ok (.putfield 25, 3) := dk_181 0 25 (dk_at dksX1_isWrong_0 2 rfl rfl)
theorem dX1_isWrong_5 : decode cX1_isWrong 5 = .ok (.new 1, 3) := dk_187 0 1 (dk_at dksX1_isWrong_0 5 rfl rfl)
theorem dX1_isWrong_8 : decode cX1_isWrong 8 = .ok (.dup, 1) := dk_89 (dk_at dksX1_isWrong_0 8 rfl rfl)
theorem dX1_isWrong_9 : decode cX1_isWrong 9 = .ok (.invokespecial 3, 3) := dk_183 0 3 (dk_at dksX1_isWrong_0 9 rfl rfl)
theorem dX1_isWrong_12 : decode cX1_isWrong 12 = .ok (.areturn, 1) := dk_176 (dk_at dksX1_isWrong_0 12 rfl rfl)
abbrev cX1_laysAvoided : ByteArray := prog_1_method_14_code
def yX1_laysAvoided : MethodName := ⟨RX1, "laysAvoided", "()V"⟩
def dkwX1_laysAvoided_4 : List UInt8 := [154, 0, 6, 167, 255, 230, 132, 1, 255, 42, 180, 0, 38, 27, 45, 83, 167, 255, 217, 177]
abbrev dktX1_laysAvoided_4 : List UInt8 := dkwX1_laysAvoided_4 ++ []
def dkwX1_laysAvoided_3 : List UInt8 := [185, 0, 110, 1, 0, 153, 0, 36, 44, 185, 0, 116, 1, 0, 192, 0, 36, 78, 45, 180, 0, 120]
abbrev dktX1_laysAvoided_3 : List UInt8 := dkwX1_laysAvoided_3 ++ dktX1_laysAvoided_4
def dkwX1_laysAvoided_2 : List UInt8 := [167, 255, 222, 42, 27, 189, 0, 36, 181, 0, 38, 42, 180, 0, 32, 180, 0, 100, 182, 0, 104, 77, 44]
abbrev dktX1_laysAvoided_2 : List UInt8 := dkwX1_laysAvoided_2 ++ dktX1_laysAvoided_3
def dkwX1_laysAvoided_1 : List UInt8 := [185, 0, 116, 1, 0, 192, 0, 36, 78, 27, 45, 180, 0, 120, 153, 0, 7, 4, 167, 0, 4, 3, 96, 60]
abbrev dktX1_laysAvoided_1 : List UInt8 := dkwX1_laysAvoided_1 ++ dktX1_laysAvoided_2
def dkwX1_laysAvoided_0 : List UInt8 := [3, 60, 42, 180, 0, 32, 180, 0, 100, 182, 0, 104, 77, 44, 185, 0, 110, 1, 0, 153, 0, 31, 44]
abbrev dktX1_laysAvoided_0 : List UInt8 := dkwX1_laysAvoided_0 ++ dktX1_laysAvoided_1
theorem dksX1_laysAvoided_0 : cX1_laysAvoided.data.toList.drop 0 = dktX1_laysAvoided_0 := by decide +kernel
theorem dksX1_laysAvoided_1 : cX1_laysAvoided.data.toList.drop 23 = dktX1_laysAvoided_1 := dk_seg dksX1_laysAvoided_0 23 rfl rfl
theorem dksX1_laysAvoided_2 : cX1_laysAvoided.data.toList.drop 47 = dktX1_laysAvoided_2 := dk_seg dksX1_laysAvoided_1 24 rfl rfl
theorem dksX1_laysAvoided_3 : cX1_laysAvoided.data.toList.drop 70 = dktX1_laysAvoided_3 := dk_seg dksX1_laysAvoided_2 23 rfl rfl
theorem dksX1_laysAvoided_4 : cX1_laysAvoided.data.toList.drop 92 = dktX1_laysAvoided_4 := dk_seg dksX1_laysAvoided_3 22 rfl rfl
theorem dX1_laysAvoided_0 : decode cX1_laysAvoided 0 = .ok (.iconst 0, 1) := dk_3 (dk_at dksX1_laysAvoided_0 0 rfl rfl)
theorem dX1_laysAvoided_1 : decode cX1_laysAvoided 1 = .ok (.istore_n 1, 1) := dk_60 (dk_at dksX1_laysAvoided_0 1 rfl rfl)
theorem dX1_laysAvoided_2 : decode cX1_laysAvoided 2 = .ok (.aload_n 0, 1) := dk_42 (dk_at dksX1_laysAvoided_0 2 rfl rfl)
theorem dX1_laysAvoided_3 : decode cX1_laysAvoided 3 = .ok (.getfield 32, 3) := dk_180 0 32 (dk_at dksX1_laysAvoided_0 3 rfl rfl)
theorem dX1_laysAvoided_6 : decode cX1_laysAvoided 6 = .ok (.getfield 100, 3) := dk_180 0 100 (dk_at dksX1_laysAvoided_0 6 rfl rfl)
theorem dX1_laysAvoided_9 : decode cX1_laysAvoided 9 = .ok (.invokevirtual 104, 3) := dk_182 0 104 (dk_at dksX1_laysAvoided_0 9 rfl rfl)
theorem dX1_laysAvoided_12 : decode cX1_laysAvoided 12 = .ok (.astore_n 2, 1) := dk_77 (dk_at dksX1_laysAvoided_0 12 rfl rfl)
theorem dX1_laysAvoided_13 : decode cX1_laysAvoided 13 = .ok (.aload_n 2, 1) := dk_44 (dk_at dksX1_laysAvoided_0 13 rfl rfl)
theorem dX1_laysAvoided_14 : decode cX1_laysAvoided 14 = .ok (.invokeinterface 110 1, 5) := by decide +kernel
theorem dX1_laysAvoided_19 : decode cX1_laysAvoided 19 = .ok (.ifCond .eq 31, 3) := dk_153 0 31 (dk_at dksX1_laysAvoided_0 19 rfl rfl)
theorem dX1_laysAvoided_22 : decode cX1_laysAvoided 22 = .ok (.aload_n 2, 1) := dk_44 (dk_at dksX1_laysAvoided_0 22 rfl rfl)
theorem dX1_laysAvoided_23 : decode cX1_laysAvoided 23 = .ok (.invokeinterface 116 1, 5) := by decide +kernel
theorem dX1_laysAvoided_28 : decode cX1_laysAvoided 28 = .ok (.checkcast 36, 3) := dk_192 0 36 (dk_at dksX1_laysAvoided_1 5 rfl rfl)
theorem dX1_laysAvoided_31 : decode cX1_laysAvoided 31 = .ok (.astore_n 3, 1) := dk_78 (dk_at dksX1_laysAvoided_1 8 rfl rfl)
theorem dX1_laysAvoided_32 : decode cX1_laysAvoided 32 = .ok (.iload_n 1, 1) := dk_27 (dk_at dksX1_laysAvoided_1 9 rfl rfl)
theorem dX1_laysAvoided_33 : decode cX1_laysAvoided 33 = .ok (.aload_n 3, 1) := dk_45 (dk_at dksX1_laysAvoided_1 10 rfl rfl)
theorem dX1_laysAvoided_34 : decode cX1_laysAvoided 34 = .ok (.getfield 120, 3) := dk_180 0 120 (dk_at dksX1_laysAvoided_1 11 rfl rfl)
theorem dX1_laysAvoided_37 : decode cX1_laysAvoided 37 = .ok (.ifCond .eq 7, 3) := dk_153 0 7 (dk_at dksX1_laysAvoided_1 14 rfl rfl)
theorem dX1_laysAvoided_40 : decode cX1_laysAvoided 40 = .ok (.iconst 1, 1) := dk_4 (dk_at dksX1_laysAvoided_1 17 rfl rfl)
theorem dX1_laysAvoided_41 : decode cX1_laysAvoided 41 = .ok (.goto 4, 3) := dk_167 0 4 (dk_at dksX1_laysAvoided_1 18 rfl rfl)
theorem dX1_laysAvoided_44 : decode cX1_laysAvoided 44 = .ok (.iconst 0, 1) := dk_3 (dk_at dksX1_laysAvoided_1 21 rfl rfl)
theorem dX1_laysAvoided_45 : decode cX1_laysAvoided 45 = .ok (.iadd, 1) := dk_96 (dk_at dksX1_laysAvoided_1 22 rfl rfl)
theorem dX1_laysAvoided_46 : decode cX1_laysAvoided 46 = .ok (.istore_n 1, 1) := dk_60 (dk_at dksX1_laysAvoided_1 23 rfl rfl)
theorem dX1_laysAvoided_47 : decode cX1_laysAvoided 47 = .ok (.goto (-34), 3) := dk_167 255 222 (dk_at dksX1_laysAvoided_2 0 rfl rfl)
theorem dX1_laysAvoided_50 : decode cX1_laysAvoided 50 = .ok (.aload_n 0, 1) := dk_42 (dk_at dksX1_laysAvoided_2 3 rfl rfl)
theorem dX1_laysAvoided_51 : decode cX1_laysAvoided 51 = .ok (.iload_n 1, 1) := dk_27 (dk_at dksX1_laysAvoided_2 4 rfl rfl)
theorem dX1_laysAvoided_52 : decode cX1_laysAvoided 52 = .ok (.anewarray 36, 3) := dk_189 0 36 (dk_at dksX1_laysAvoided_2 5 rfl rfl)
theorem dX1_laysAvoided_55 : decode cX1_laysAvoided 55 = .ok (.putfield 38, 3) := dk_181 0 38 (dk_at dksX1_laysAvoided_2 8 rfl rfl)
theorem dX1_laysAvoided_58 : decode cX1_laysAvoided 58 = .ok (.aload_n 0, 1) := dk_42 (dk_at dksX1_laysAvoided_2 11 rfl rfl)
theorem dX1_laysAvoided_59 : decode cX1_laysAvoided 59 = .ok (.getfield 32, 3) := dk_180 0 32 (dk_at dksX1_laysAvoided_2 12 rfl rfl)
theorem dX1_laysAvoided_62 : decode cX1_laysAvoided 62 = .ok (.getfield 100, 3) := dk_180 0 100 (dk_at dksX1_laysAvoided_2 15 rfl rfl)
theorem dX1_laysAvoided_65 : decode cX1_laysAvoided 65 = .ok (.invokevirtual 104, 3) := dk_182 0 104 (dk_at dksX1_laysAvoided_2 18 rfl rfl)
theorem dX1_laysAvoided_68 : decode cX1_laysAvoided 68 = .ok (.astore_n 2, 1) := dk_77 (dk_at dksX1_laysAvoided_2 21 rfl rfl)
theorem dX1_laysAvoided_69 : decode cX1_laysAvoided 69 = .ok (.aload_n 2, 1) := dk_44 (dk_at dksX1_laysAvoided_2 22 rfl rfl)
theorem dX1_laysAvoided_70 : decode cX1_laysAvoided 70 = .ok (.invokeinterface 110 1, 5) := by decide +kernel
theorem dX1_laysAvoided_75 : decode cX1_laysAvoided 75 = .ok (.ifCond .eq 36, 3) := dk_153 0 36 (dk_at dksX1_laysAvoided_3 5 rfl rfl)
theorem dX1_laysAvoided_78 : decode cX1_laysAvoided 78 = .ok (.aload_n 2, 1) := dk_44 (dk_at dksX1_laysAvoided_3 8 rfl rfl)
theorem dX1_laysAvoided_79 : decode cX1_laysAvoided 79 = .ok (.invokeinterface 116 1, 5) := by decide +kernel
theorem dX1_laysAvoided_84 : decode cX1_laysAvoided 84 = .ok (.checkcast 36, 3) := dk_192 0 36 (dk_at dksX1_laysAvoided_3 14 rfl rfl)
theorem dX1_laysAvoided_87 : decode cX1_laysAvoided 87 = .ok (.astore_n 3, 1) := dk_78 (dk_at dksX1_laysAvoided_3 17 rfl rfl)
theorem dX1_laysAvoided_88 : decode cX1_laysAvoided 88 = .ok (.aload_n 3, 1) := dk_45 (dk_at dksX1_laysAvoided_3 18 rfl rfl)
theorem dX1_laysAvoided_89 : decode cX1_laysAvoided 89 = .ok (.getfield 120, 3) := dk_180 0 120 (dk_at dksX1_laysAvoided_3 19 rfl rfl)
theorem dX1_laysAvoided_92 : decode cX1_laysAvoided 92 = .ok (.ifCond .ne 6, 3) := dk_154 0 6 (dk_at dksX1_laysAvoided_4 0 rfl rfl)
theorem dX1_laysAvoided_95 : decode cX1_laysAvoided 95 = .ok (.goto (-26), 3) := dk_167 255 230 (dk_at dksX1_laysAvoided_4 3 rfl rfl)
theorem dX1_laysAvoided_98 : decode cX1_laysAvoided 98 = .ok (.iinc 1 (-1), 3) := dk_132 1 255 (dk_at dksX1_laysAvoided_4 6 rfl rfl)
theorem dX1_laysAvoided_101 : decode cX1_laysAvoided 101 = .ok (.aload_n 0, 1) := dk_42 (dk_at dksX1_laysAvoided_4 9 rfl rfl)
theorem dX1_laysAvoided_102 : decode cX1_laysAvoided 102 = .ok (.getfield 38, 3) := dk_180 0 38 (dk_at dksX1_laysAvoided_4 10 rfl rfl)
theorem dX1_laysAvoided_105 : decode cX1_laysAvoided 105 = .ok (.iload_n 1, 1) := dk_27 (dk_at dksX1_laysAvoided_4 13 rfl rfl)
theorem dX1_laysAvoided_106 : decode cX1_laysAvoided 106 = .ok (.aload_n 3, 1) := dk_45 (dk_at dksX1_laysAvoided_4 14 rfl rfl)
theorem dX1_laysAvoided_107 : decode cX1_laysAvoided 107 = .ok (.aastore, 1) := dk_83 (dk_at dksX1_laysAvoided_4 15 rfl rfl)
theorem dX1_laysAvoided_108 : decode cX1_laysAvoided 108 = .ok (.goto (-39), 3) := dk_167 255 217 (dk_at dksX1_laysAvoided_4 16 rfl rfl)
theorem dX1_laysAvoided_111 : decode cX1_laysAvoided 111 = .ok (.return_, 1) := dk_177 (dk_at dksX1_laysAvoided_4 19 rfl rfl)
abbrev cX1_word : ByteArray := prog_1_method_16_code
def yX1_word : MethodName := ⟨RX1, "word", "()I"⟩
def dkwX1_word_6 : List UInt8 := [182, 0, 138, 44, 180, 0, 132, 172]
abbrev dktX1_word_6 : List UInt8 := dkwX1_word_6 ++ []
def dkwX1_word_5 : List UInt8 := [153, 0, 9, 132, 3, 1, 167, 255, 236, 29, 27, 162, 0, 9, 42, 29, 182, 0, 87, 191, 42, 44]
abbrev dktX1_word_5 : List UInt8 := dkwX1_word_5 ++ dktX1_word_6
def dkwX1_word_4 : List UInt8 := [182, 0, 135, 132, 3, 1, 167, 255, 193, 29, 27, 162, 0, 21, 42, 180, 0, 21, 29, 51, 184, 0, 124]
abbrev dktX1_word_4 : List UInt8 := dkwX1_word_4 ++ dktX1_word_5
def dkwX1_word_3 : List UInt8 := [180, 0, 132, 16, 64, 160, 0, 9, 42, 29, 182, 0, 87, 191, 44, 42, 180, 0, 21, 29, 51, 16, 97, 100]
abbrev dktX1_word_3 : List UInt8 := dkwX1_word_3 ++ dktX1_word_4
def dkwX1_word_2 : List UInt8 := [51, 16, 97, 100, 133, 9, 42, 180, 0, 32, 180, 0, 97, 4, 100, 133, 184, 0, 128, 153, 0, 37, 44]
abbrev dktX1_word_2 : List UInt8 := dkwX1_word_2 ++ dktX1_word_3
def dkwX1_word_1 : List UInt8 := [29, 51, 184, 0, 124, 153, 0, 9, 132, 3, 1, 167, 255, 236, 29, 27, 162, 0, 64, 42, 180, 0, 21, 29]
abbrev dktX1_word_1 : List UInt8 := dkwX1_word_1 ++ dktX1_word_2
def dkwX1_word_0 : List UInt8 := [42, 182, 0, 69, 60, 187, 0, 42, 89, 183, 0, 44, 77, 3, 62, 29, 27, 162, 0, 21, 42, 180, 0, 21]
abbrev dktX1_word_0 : List UInt8 := dkwX1_word_0 ++ dktX1_word_1
theorem dksX1_word_0 : cX1_word.data.toList.drop 0 = dktX1_word_0 := by decide +kernel
theorem dksX1_word_1 : cX1_word.data.toList.drop 24 = dktX1_word_1 := dk_seg dksX1_word_0 24 rfl rfl
theorem dksX1_word_2 : cX1_word.data.toList.drop 48 = dktX1_word_2 := dk_seg dksX1_word_1 24 rfl rfl
theorem dksX1_word_3 : cX1_word.data.toList.drop 71 = dktX1_word_3 := dk_seg dksX1_word_2 23 rfl rfl
theorem dksX1_word_4 : cX1_word.data.toList.drop 95 = dktX1_word_4 := dk_seg dksX1_word_3 24 rfl rfl
theorem dksX1_word_5 : cX1_word.data.toList.drop 118 = dktX1_word_5 := dk_seg dksX1_word_4 23 rfl rfl
theorem dksX1_word_6 : cX1_word.data.toList.drop 140 = dktX1_word_6 := dk_seg dksX1_word_5 22 rfl rfl
theorem dX1_word_0 : decode cX1_word 0 = .ok (.aload_n 0, 1) := dk_42 (dk_at dksX1_word_0 0 rfl rfl)
theorem dX1_word_1 : decode cX1_word 1 = .ok (.invokevirtual 69, 3) := dk_182 0 69 (dk_at dksX1_word_0 1 rfl rfl)
theorem dX1_word_4 : decode cX1_word 4 = .ok (.istore_n 1, 1) := dk_60 (dk_at dksX1_word_0 4 rfl rfl)
theorem dX1_word_5 : decode cX1_word 5 = .ok (.new 42, 3) := dk_187 0 42 (dk_at dksX1_word_0 5 rfl rfl)
theorem dX1_word_8 : decode cX1_word 8 = .ok (.dup, 1) := dk_89 (dk_at dksX1_word_0 8 rfl rfl)
theorem dX1_word_9 : decode cX1_word 9 = .ok (.invokespecial 44, 3) := dk_183 0 44 (dk_at dksX1_word_0 9 rfl rfl)
theorem dX1_word_12 : decode cX1_word 12 = .ok (.astore_n 2, 1) := dk_77 (dk_at dksX1_word_0 12 rfl rfl)
theorem dX1_word_13 : decode cX1_word 13 = .ok (.iconst 0, 1) := dk_3 (dk_at dksX1_word_0 13 rfl rfl)
theorem dX1_word_14 : decode cX1_word 14 = .ok (.istore_n 3, 1) := dk_62 (dk_at dksX1_word_0 14 rfl rfl)
theorem dX1_word_15 : decode cX1_word 15 = .ok (.iload_n 3, 1) := dk_29 (dk_at dksX1_word_0 15 rfl rfl)
theorem dX1_word_16 : decode cX1_word 16 = .ok (.iload_n 1, 1) := dk_27 (dk_at dksX1_word_0 16 rfl rfl)
theorem dX1_word_17 : decode cX1_word 17 = .ok (.if_icmp .ge 21, 3) := dk_162 0 21 (dk_at dksX1_word_0 17 rfl rfl)
theorem dX1_word_20 : decode cX1_word 20 = .ok (.aload_n 0, 1) := dk_42 (dk_at dksX1_word_0 20 rfl rfl)
theorem dX1_word_21 : decode cX1_word 21 = .ok (.getfield 21, 3) := dk_180 0 21 (dk_at dksX1_word_0 21 rfl rfl)
theorem dX1_word_24 : decode cX1_word 24 = .ok (.iload_n 3, 1) := dk_29 (dk_at dksX1_word_1 0 rfl rfl)
theorem dX1_word_25 : decode cX1_word 25 = .ok (.baload, 1) := dk_51 (dk_at dksX1_word_1 1 rfl rfl)
theorem dX1_word_26 : decode cX1_word 26 = .ok (.invokestatic 124, 3) := dk_184 0 124 (dk_at dksX1_word_1 2 rfl rfl)
theorem dX1_word_29 : decode cX1_word 29 = .ok (.ifCond .eq 9, 3) := dk_153 0 9 (dk_at dksX1_word_1 5 rfl rfl)
theorem dX1_word_32 : decode cX1_word 32 = .ok (.iinc 3 1, 3) := dk_132 3 1 (dk_at dksX1_word_1 8 rfl rfl)
theorem dX1_word_35 : decode cX1_word 35 = .ok (.goto (-20), 3) := dk_167 255 236 (dk_at dksX1_word_1 11 rfl rfl)
theorem dX1_word_38 : decode cX1_word 38 = .ok (.iload_n 3, 1) := dk_29 (dk_at dksX1_word_1 14 rfl rfl)
theorem dX1_word_39 : decode cX1_word 39 = .ok (.iload_n 1, 1) := dk_27 (dk_at dksX1_word_1 15 rfl rfl)
theorem dX1_word_40 : decode cX1_word 40 = .ok (.if_icmp .ge 64, 3) := dk_162 0 64 (dk_at dksX1_word_1 16 rfl rfl)
theorem dX1_word_43 : decode cX1_word 43 = .ok (.aload_n 0, 1) := dk_42 (dk_at dksX1_word_1 19 rfl rfl)
theorem dX1_word_44 : decode cX1_word 44 = .ok (.getfield 21, 3) := dk_180 0 21 (dk_at dksX1_word_1 20 rfl rfl)
theorem dX1_word_47 : decode cX1_word 47 = .ok (.iload_n 3, 1) := dk_29 (dk_at dksX1_word_1 23 rfl rfl)
theorem dX1_word_48 : decode cX1_word 48 = .ok (.baload, 1) := dk_51 (dk_at dksX1_word_2 0 rfl rfl)
theorem dX1_word_49 : decode cX1_word 49 = .ok (.bipush 97, 2) := dk_16 97 (dk_at dksX1_word_2 1 rfl rfl)
theorem dX1_word_51 : decode cX1_word 51 = .ok (.isub, 1) := dk_100 (dk_at dksX1_word_2 3 rfl rfl)
theorem dX1_word_52 : decode cX1_word 52 = .ok (.i2l, 1) := dk_133 (dk_at dksX1_word_2 4 rfl rfl)
theorem dX1_word_53 : decode cX1_word 53 = .ok (.lconst 0, 1) := dk_9 (dk_at dksX1_word_2 5 rfl rfl)
theorem dX1_word_54 : decode cX1_word 54 = .ok (.aload_n 0, 1) := dk_42 (dk_at dksX1_word_2 6 rfl rfl)
theorem dX1_word_55 : decode cX1_word 55 = .ok (.getfield 32, 3) := dk_180 0 32 (dk_at dksX1_word_2 7 rfl rfl)
theorem dX1_word_58 : decode cX1_word 58 = .ok (.getfield 97, 3) := dk_180 0 97 (dk_at dksX1_word_2 10 rfl rfl)
theorem dX1_word_61 : decode cX1_word 61 = .ok (.iconst 1, 1) := dk_4 (dk_at dksX1_word_2 13 rfl rfl)
theorem dX1_word_62 : decode cX1_word 62 = .ok (.isub, 1) := dk_100 (dk_at dksX1_word_2 14 rfl rfl)
theorem dX1_word_63 : decode cX1_word 63 = .ok (.i2l, 1) := dk_133 (dk_at dksX1_word_2 15 rfl rfl)
theorem dX1_word_64 : decode cX1_word 64 = .ok (.invokestatic 128, 3) := dk_184 0 128 (dk_at dksX1_word_2 16 rfl rfl)
theorem dX1_word_67 : decode cX1_word 67 = .ok (.ifCond .eq 37, 3) := dk_153 0 37 (dk_at dksX1_word_2 19 rfl rfl)
theorem dX1_word_70 : decode cX1_word 70 = .ok (.aload_n 2, 1) := dk_44 (dk_at dksX1_word_2 22 rfl rfl)
theorem dX1_word_71 : decode cX1_word 71 = .ok (.getfield 132, 3) := dk_180 0 132 (dk_at dksX1_word_3 0 rfl rfl)
theorem dX1_word_74 : decode cX1_word 74 = .ok (.bipush 64, 2) := dk_16 64 (dk_at dksX1_word_3 3 rfl rfl)
theorem dX1_word_76 : decode cX1_word 76 = .ok (.if_icmp .ne 9, 3) := dk_160 0 9 (dk_at dksX1_word_3 5 rfl rfl)
theorem dX1_word_79 : decode cX1_word 79 = .ok (.aload_n 0, 1) := dk_42 (dk_at dksX1_word_3 8 rfl rfl)
theorem dX1_word_80 : decode cX1_word 80 = .ok (.iload_n 3, 1) := dk_29 (dk_at dksX1_word_3 9 rfl rfl)
theorem dX1_word_81 : decode cX1_word 81 = .ok (.invokevirtual 87, 3) := dk_182 0 87 (dk_at dksX1_word_3 10 rfl rfl)
theorem dX1_word_84 : decode cX1_word 84 = .ok (.athrow, 1) := dk_191 (dk_at dksX1_word_3 13 rfl rfl)
theorem dX1_word_85 : decode cX1_word 85 = .ok (.aload_n 2, 1) := dk_44 (dk_at dksX1_word_3 14 rfl rfl)
theorem dX1_word_86 : decode cX1_word 86 = .ok (.aload_n 0, 1) := dk_42 (dk_at dksX1_word_3 15 rfl rfl)
theorem dX1_word_87 : decode cX1_word 87 = .ok (.getfield 21, 3) := dk_180 0 21 (dk_at dksX1_word_3 16 rfl rfl)
theorem dX1_word_90 : decode cX1_word 90 = .ok (.iload_n 3, 1) := dk_29 (dk_at dksX1_word_3 19 rfl rfl)
theorem dX1_word_91 : decode cX1_word 91 = .ok (.baload, 1) := dk_51 (dk_at dksX1_word_3 20 rfl rfl)
theorem dX1_word_92 : decode cX1_word 92 = .ok (.bipush 97, 2) := dk_16 97 (dk_at dksX1_word_3 21 rfl rfl)
theorem dX1_word_94 : decode cX1_word 94 = .ok (.isub, 1) := dk_100 (dk_at dksX1_word_3 23 rfl rfl)
theorem dX1_word_95 : decode cX1_word 95 = .ok (.invokevirtual 135, 3) := dk_182 0 135 (dk_at dksX1_word_4 0 rfl rfl)
theorem dX1_word_98 : decode cX1_word 98 = .ok (.iinc 3 1, 3) := dk_132 3 1 (dk_at dksX1_word_4 3 rfl rfl)
theorem dX1_word_101 : decode cX1_word 101 = .ok (.goto (-63), 3) := dk_167 255 193 (dk_at dksX1_word_4 6 rfl rfl)
theorem dX1_word_104 : decode cX1_word 104 = .ok (.iload_n 3, 1) := dk_29 (dk_at dksX1_word_4 9 rfl rfl)
theorem dX1_word_105 : decode cX1_word 105 = .ok (.iload_n 1, 1) := dk_27 (dk_at dksX1_word_4 10 rfl rfl)
theorem dX1_word_106 : decode cX1_word 106 = .ok (.if_icmp .ge 21, 3) := dk_162 0 21 (dk_at dksX1_word_4 11 rfl rfl)
theorem dX1_word_109 : decode cX1_word 109 = .ok (.aload_n 0, 1) := dk_42 (dk_at dksX1_word_4 14 rfl rfl)
theorem dX1_word_110 : decode cX1_word 110 = .ok (.getfield 21, 3) := dk_180 0 21 (dk_at dksX1_word_4 15 rfl rfl)
theorem dX1_word_113 : decode cX1_word 113 = .ok (.iload_n 3, 1) := dk_29 (dk_at dksX1_word_4 18 rfl rfl)
theorem dX1_word_114 : decode cX1_word 114 = .ok (.baload, 1) := dk_51 (dk_at dksX1_word_4 19 rfl rfl)
theorem dX1_word_115 : decode cX1_word 115 = .ok (.invokestatic 124, 3) := dk_184 0 124 (dk_at dksX1_word_4 20 rfl rfl)
theorem dX1_word_118 : decode cX1_word 118 = .ok (.ifCond .eq 9, 3) := dk_153 0 9 (dk_at dksX1_word_5 0 rfl rfl)
theorem dX1_word_121 : decode cX1_word 121 = .ok (.iinc 3 1, 3) := dk_132 3 1 (dk_at dksX1_word_5 3 rfl rfl)
theorem dX1_word_124 : decode cX1_word 124 = .ok (.goto (-20), 3) := dk_167 255 236 (dk_at dksX1_word_5 6 rfl rfl)
theorem dX1_word_127 : decode cX1_word 127 = .ok (.iload_n 3, 1) := dk_29 (dk_at dksX1_word_5 9 rfl rfl)
theorem dX1_word_128 : decode cX1_word 128 = .ok (.iload_n 1, 1) := dk_27 (dk_at dksX1_word_5 10 rfl rfl)
theorem dX1_word_129 : decode cX1_word 129 = .ok (.if_icmp .ge 9, 3) := dk_162 0 9 (dk_at dksX1_word_5 11 rfl rfl)
theorem dX1_word_132 : decode cX1_word 132 = .ok (.aload_n 0, 1) := dk_42 (dk_at dksX1_word_5 14 rfl rfl)
theorem dX1_word_133 : decode cX1_word 133 = .ok (.iload_n 3, 1) := dk_29 (dk_at dksX1_word_5 15 rfl rfl)
theorem dX1_word_134 : decode cX1_word 134 = .ok (.invokevirtual 87, 3) := dk_182 0 87 (dk_at dksX1_word_5 16 rfl rfl)
theorem dX1_word_137 : decode cX1_word 137 = .ok (.athrow, 1) := dk_191 (dk_at dksX1_word_5 19 rfl rfl)
theorem dX1_word_138 : decode cX1_word 138 = .ok (.aload_n 0, 1) := dk_42 (dk_at dksX1_word_5 20 rfl rfl)
theorem dX1_word_139 : decode cX1_word 139 = .ok (.aload_n 2, 1) := dk_44 (dk_at dksX1_word_5 21 rfl rfl)
theorem dX1_word_140 : decode cX1_word 140 = .ok (.invokevirtual 138, 3) := dk_182 0 138 (dk_at dksX1_word_6 0 rfl rfl)
theorem dX1_word_143 : decode cX1_word 143 = .ok (.aload_n 2, 1) := dk_44 (dk_at dksX1_word_6 3 rfl rfl)
theorem dX1_word_144 : decode cX1_word 144 = .ok (.getfield 132, 3) := dk_180 0 132 (dk_at dksX1_word_6 4 rfl rfl)
theorem dX1_word_147 : decode cX1_word 147 = .ok (.ireturn, 1) := dk_172 (dk_at dksX1_word_6 7 rfl rfl)
abbrev cX1_isBlank : ByteArray := prog_1_method_15_code
def yX1_isBlank : MethodName := ⟨RX1, "isBlank", "(I)Z"⟩
def dkwX1_isBlank_0 : List UInt8 := [26, 16, 32, 159, 0, 15, 26, 16, 9, 159, 0, 9, 26, 16, 10, 160, 0, 7, 4, 167, 0, 4, 3, 172]
abbrev dktX1_isBlank_0 : List UInt8 := dkwX1_isBlank_0 ++ []
theorem dksX1_isBlank_0 : cX1_isBlank.data.toList.drop 0 = dktX1_isBlank_0 := by decide +kernel
theorem dX1_isBlank_0 : decode cX1_isBlank 0 = .ok (.iload_n 0, 1) := dk_26 (dk_at dksX1_isBlank_0 0 rfl rfl)
theorem dX1_isBlank_1 : decode cX1_isBlank 1 = .ok (.bipush 32, 2) := dk_16 32 (dk_at dksX1_isBlank_0 1 rfl rfl)
theorem dX1_isBlank_3 : decode cX1_isBlank 3 = .ok (.if_icmp .eq 15, 3) := dk_159 0 15 (dk_at dksX1_isBlank_0 3 rfl rfl)
theorem dX1_isBlank_6 : decode cX1_isBlank 6 = .ok (.iload_n 0, 1) := dk_26 (dk_at dksX1_isBlank_0 6 rfl rfl)
theorem dX1_isBlank_7 : decode cX1_isBlank 7 = .ok (.bipush 9, 2) := dk_16 9 (dk_at dksX1_isBlank_0 7 rfl rfl)
theorem dX1_isBlank_9 : decode cX1_isBlank 9 = .ok (.if_icmp .eq 9, 3) := dk_159 0 9 (dk_at dksX1_isBlank_0 9 rfl rfl)
theorem dX1_isBlank_12 : decode cX1_isBlank 12 = .ok (.iload_n 0, 1) := dk_26 (dk_at dksX1_isBlank_0 12 rfl rfl)
theorem dX1_isBlank_13 : decode cX1_isBlank 13 = .ok (.bipush 10, 2) := dk_16 10 (dk_at dksX1_isBlank_0 13 rfl rfl)
theorem dX1_isBlank_15 : decode cX1_isBlank 15 = .ok (.if_icmp .ne 7, 3) := dk_160 0 7 (dk_at dksX1_isBlank_0 15 rfl rfl)
theorem dX1_isBlank_18 : decode cX1_isBlank 18 = .ok (.iconst 1, 1) := dk_4 (dk_at dksX1_isBlank_0 18 rfl rfl)
theorem dX1_isBlank_19 : decode cX1_isBlank 19 = .ok (.goto 4, 3) := dk_167 0 4 (dk_at dksX1_isBlank_0 19 rfl rfl)
theorem dX1_isBlank_22 : decode cX1_isBlank 22 = .ok (.iconst 0, 1) := dk_3 (dk_at dksX1_isBlank_0 22 rfl rfl)
theorem dX1_isBlank_23 : decode cX1_isBlank 23 = .ok (.ireturn, 1) := dk_172 (dk_at dksX1_isBlank_0 23 rfl rfl)
abbrev cX1_becomes : ByteArray := prog_1_method_17_code
def yX1_becomes : MethodName := ⟨RX1, "becomes", "(LRepeatFree$Word;)V"⟩
def dkwX1_becomes_1 : List UInt8 := [180, 0, 52, 182, 0, 149, 87, 42, 43, 181, 0, 45, 177]
abbrev dktX1_becomes_1 : List UInt8 := dkwX1_becomes_1 ++ []
def dkwX1_becomes_0 : List UInt8 := [42, 180, 0, 52, 42, 180, 0, 45, 182, 0, 142, 42, 180, 0, 52, 182, 0, 146, 16, 10, 164, 0, 11, 42]
abbrev dktX1_becomes_0 : List UInt8 := dkwX1_becomes_0 ++ dktX1_becomes_1
theorem dksX1_becomes_0 : cX1_becomes.data.toList.drop 0 = dktX1_becomes_0 := by decide +kernel
theorem dksX1_becomes_1 : cX1_becomes.data.toList.drop 24 = dktX1_becomes_1 := dk_seg dksX1_becomes_0 24 rfl rfl
theorem dX1_becomes_0 : decode cX1_becomes 0 = .ok (.aload_n 0, 1) := dk_42 (dk_at dksX1_becomes_0 0 rfl rfl)
theorem dX1_becomes_1 : decode cX1_becomes 1 = .ok (.getfield 52, 3) := dk_180 0 52 (dk_at dksX1_becomes_0 1 rfl rfl)
theorem dX1_becomes_4 : decode cX1_becomes 4 = .ok (.aload_n 0, 1) := dk_42 (dk_at dksX1_becomes_0 4 rfl rfl)
theorem dX1_becomes_5 : decode cX1_becomes 5 = .ok (.getfield 45, 3) := dk_180 0 45 (dk_at dksX1_becomes_0 5 rfl rfl)
theorem dX1_becomes_8 : decode cX1_becomes 8 = .ok (.invokevirtual 142, 3) := dk_182 0 142 (dk_at dksX1_becomes_0 8 rfl rfl)
theorem dX1_becomes_11 : decode cX1_becomes 11 = .ok (.aload_n 0, 1) := dk_42 (dk_at dksX1_becomes_0 11 rfl rfl)
theorem dX1_becomes_12 : decode cX1_becomes 12 = .ok (.getfield 52, 3) := dk_180 0 52 (dk_at dksX1_becomes_0 12 rfl rfl)
theorem dX1_becomes_15 : decode cX1_becomes 15 = .ok (.invokevirtual 146, 3) := dk_182 0 146 (dk_at dksX1_becomes_0 15 rfl rfl)
theorem dX1_becomes_18 : decode cX1_becomes 18 = .ok (.bipush 10, 2) := dk_16 10 (dk_at dksX1_becomes_0 18 rfl rfl)
theorem dX1_becomes_20 : decode cX1_becomes 20 = .ok (.if_icmp .le 11, 3) := dk_164 0 11 (dk_at dksX1_becomes_0 20 rfl rfl)
theorem dX1_becomes_23 : decode cX1_becomes 23 = .ok (.aload_n 0, 1) := dk_42 (dk_at dksX1_becomes_0 23 rfl rfl)
theorem dX1_becomes_24 : decode cX1_becomes 24 = .ok (.getfield 52, 3) := dk_180 0 52 (dk_at dksX1_becomes_1 0 rfl rfl)
theorem dX1_becomes_27 : decode cX1_becomes 27 = .ok (.invokevirtual 149, 3) := dk_182 0 149 (dk_at dksX1_becomes_1 3 rfl rfl)
theorem dX1_becomes_30 : decode cX1_becomes 30 = .ok (.pop, 1) := dk_87 (dk_at dksX1_becomes_1 6 rfl rfl)
theorem dX1_becomes_31 : decode cX1_becomes 31 = .ok (.aload_n 0, 1) := dk_42 (dk_at dksX1_becomes_1 7 rfl rfl)
theorem dX1_becomes_32 : decode cX1_becomes 32 = .ok (.aload_n 1, 1) := dk_43 (dk_at dksX1_becomes_1 8 rfl rfl)
theorem dX1_becomes_33 : decode cX1_becomes 33 = .ok (.putfield 45, 3) := dk_181 0 45 (dk_at dksX1_becomes_1 9 rfl rfl)
theorem dX1_becomes_36 : decode cX1_becomes 36 = .ok (.return_, 1) := dk_177 (dk_at dksX1_becomes_1 12 rfl rfl)
abbrev cX1_push : ByteArray := prog_1_method_21_code
def yX1_push : MethodName := ⟨RX1, "push", "(I)I"⟩
def dkwX1_push_2 : List UInt8 := [180, 0, 45, 180, 0, 132, 172]
abbrev dktX1_push_2 : List UInt8 := dkwX1_push_2 ++ []
def dkwX1_push_1 : List UInt8 := [3, 184, 0, 162, 42, 42, 180, 0, 45, 182, 0, 165, 182, 0, 138, 42, 180, 0, 45, 27, 182, 0, 135, 42]
abbrev dktX1_push_1 : List UInt8 := dkwX1_push_1 ++ dktX1_push_2
def dkwX1_push_0 : List UInt8 := [42, 27, 182, 0, 155, 184, 0, 158, 42, 180, 0, 45, 180, 0, 132, 16, 64, 162, 0, 7, 4, 167, 0, 4]
abbrev dktX1_push_0 : List UInt8 := dkwX1_push_0 ++ dktX1_push_1
theorem dksX1_push_0 : cX1_push.data.toList.drop 0 = dktX1_push_0 := by decide +kernel
theorem dksX1_push_1 : cX1_push.data.toList.drop 24 = dktX1_push_1 := dk_seg dksX1_push_0 24 rfl rfl
theorem dksX1_push_2 : cX1_push.data.toList.drop 48 = dktX1_push_2 := dk_seg dksX1_push_1 24 rfl rfl
theorem dX1_push_0 : decode cX1_push 0 = .ok (.aload_n 0, 1) := dk_42 (dk_at dksX1_push_0 0 rfl rfl)
theorem dX1_push_1 : decode cX1_push 1 = .ok (.iload_n 1, 1) := dk_27 (dk_at dksX1_push_0 1 rfl rfl)
theorem dX1_push_2 : decode cX1_push 2 = .ok (.invokevirtual 155, 3) := dk_182 0 155 (dk_at dksX1_push_0 2 rfl rfl)
theorem dX1_push_5 : decode cX1_push 5 = .ok (.invokestatic 158, 3) := dk_184 0 158 (dk_at dksX1_push_0 5 rfl rfl)
theorem dX1_push_8 : decode cX1_push 8 = .ok (.aload_n 0, 1) := dk_42 (dk_at dksX1_push_0 8 rfl rfl)
theorem dX1_push_9 : decode cX1_push 9 = .ok (.getfield 45, 3) := dk_180 0 45 (dk_at dksX1_push_0 9 rfl rfl)
theorem dX1_push_12 : decode cX1_push 12 = .ok (.getfield 132, 3) := dk_180 0 132 (dk_at dksX1_push_0 12 rfl rfl)
theorem dX1_push_15 : decode cX1_push 15 = .ok (.bipush 64, 2) := dk_16 64 (dk_at dksX1_push_0 15 rfl rfl)
theorem dX1_push_17 : decode cX1_push 17 = .ok (.if_icmp .ge 7, 3) := dk_162 0 7 (dk_at dksX1_push_0 17 rfl rfl)
theorem dX1_push_20 : decode cX1_push 20 = .ok (.iconst 1, 1) := dk_4 (dk_at dksX1_push_0 20 rfl rfl)
theorem dX1_push_21 : decode cX1_push 21 = .ok (.goto 4, 3) := dk_167 0 4 (dk_at dksX1_push_0 21 rfl rfl)
theorem dX1_push_24 : decode cX1_push 24 = .ok (.iconst 0, 1) := dk_3 (dk_at dksX1_push_1 0 rfl rfl)
theorem dX1_push_25 : decode cX1_push 25 = .ok (.invokestatic 162, 3) := dk_184 0 162 (dk_at dksX1_push_1 1 rfl rfl)
theorem dX1_push_28 : decode cX1_push 28 = .ok (.aload_n 0, 1) := dk_42 (dk_at dksX1_push_1 4 rfl rfl)
theorem dX1_push_29 : decode cX1_push 29 = .ok (.aload_n 0, 1) := dk_42 (dk_at dksX1_push_1 5 rfl rfl)
theorem dX1_push_30 : decode cX1_push 30 = .ok (.getfield 45, 3) := dk_180 0 45 (dk_at dksX1_push_1 6 rfl rfl)
theorem dX1_push_33 : decode cX1_push 33 = .ok (.invokevirtual 165, 3) := dk_182 0 165 (dk_at dksX1_push_1 9 rfl rfl)
theorem dX1_push_36 : decode cX1_push 36 = .ok (.invokevirtual 138, 3) := dk_182 0 138 (dk_at dksX1_push_1 12 rfl rfl)
theorem dX1_push_39 : decode cX1_push 39 = .ok (.aload_n 0, 1) := dk_42 (dk_at dksX1_push_1 15 rfl rfl)
theorem dX1_push_40 : decode cX1_push 40 = .ok (.getfield 45, 3) := dk_180 0 45 (dk_at dksX1_push_1 16 rfl rfl)
theorem dX1_push_43 : decode cX1_push 43 = .ok (.iload_n 1, 1) := dk_27 (dk_at dksX1_push_1 19 rfl rfl)
theorem dX1_push_44 : decode cX1_push 44 = .ok (.invokevirtual 135, 3) := dk_182 0 135 (dk_at dksX1_push_1 20 rfl rfl)
theorem dX1_push_47 : decode cX1_push 47 = .ok (.aload_n 0, 1) := dk_42 (dk_at dksX1_push_1 23 rfl rfl)
theorem dX1_push_48 : decode cX1_push 48 = .ok (.getfield 45, 3) := dk_180 0 45 (dk_at dksX1_push_2 0 rfl rfl)
theorem dX1_push_51 : decode cX1_push 51 = .ok (.getfield 132, 3) := dk_180 0 132 (dk_at dksX1_push_2 3 rfl rfl)
theorem dX1_push_54 : decode cX1_push 54 = .ok (.ireturn, 1) := dk_172 (dk_at dksX1_push_2 6 rfl rfl)
abbrev cX1_isLetter : ByteArray := prog_1_method_20_code
def yX1_isLetter : MethodName := ⟨RX1, "isLetter", "(I)Z"⟩
def dkwX1_isLetter_0 : List UInt8 := [27, 133, 9, 42, 180, 0, 32, 180, 0, 97, 4, 100, 133, 184, 0, 128, 172]
abbrev dktX1_isLetter_0 : List UInt8 := dkwX1_isLetter_0 ++ []
theorem dksX1_isLetter_0 : cX1_isLetter.data.toList.drop 0 = dktX1_isLetter_0 := by decide +kernel
theorem dX1_isLetter_0 : decode cX1_isLetter 0 = .ok (.iload_n 1, 1) := dk_27 (dk_at dksX1_isLetter_0 0 rfl rfl)
theorem dX1_isLetter_1 : decode cX1_isLetter 1 = .ok (.i2l, 1) := dk_133 (dk_at dksX1_isLetter_0 1 rfl rfl)
theorem dX1_isLetter_2 : decode cX1_isLetter 2 = .ok (.lconst 0, 1) := dk_9 (dk_at dksX1_isLetter_0 2 rfl rfl)
theorem dX1_isLetter_3 : decode cX1_isLetter 3 = .ok (.aload_n 0, 1) := dk_42 (dk_at dksX1_isLetter_0 3 rfl rfl)
theorem dX1_isLetter_4 : decode cX1_isLetter 4 = .ok (.getfield 32, 3) := dk_180 0 32 (dk_at dksX1_isLetter_0 4 rfl rfl)
theorem dX1_isLetter_7 : decode cX1_isLetter 7 = .ok (.getfield 97, 3) := dk_180 0 97 (dk_at dksX1_isLetter_0 7 rfl rfl)
theorem dX1_isLetter_10 : decode cX1_isLetter 10 = .ok (.iconst 1, 1) := dk_4 (dk_at dksX1_isLetter_0 10 rfl rfl)
theorem dX1_isLetter_11 : decode cX1_isLetter 11 = .ok (.isub, 1) := dk_100 (dk_at dksX1_isLetter_0 11 rfl rfl)
theorem dX1_isLetter_12 : decode cX1_isLetter 12 = .ok (.i2l, 1) := dk_133 (dk_at dksX1_isLetter_0 12 rfl rfl)
theorem dX1_isLetter_13 : decode cX1_isLetter 13 = .ok (.invokestatic 128, 3) := dk_184 0 128 (dk_at dksX1_isLetter_0 13 rfl rfl)
theorem dX1_isLetter_16 : decode cX1_isLetter 16 = .ok (.ireturn, 1) := dk_172 (dk_at dksX1_isLetter_0 16 rfl rfl)
abbrev cX1_must : ByteArray := prog_1_method_3_code
def yX1_must : MethodName := ⟨RX1, "must", "(Z)V"⟩
def dkwX1_must_0 : List UInt8 := [26, 154, 0, 11, 187, 0, 1, 89, 183, 0, 3, 191, 177]
abbrev dktX1_must_0 : List UInt8 := dkwX1_must_0 ++ []
theorem dksX1_must_0 : cX1_must.data.toList.drop 0 = dktX1_must_0 := by decide +kernel
theorem dX1_must_0 : decode cX1_must 0 = .ok (.iload_n 0, 1) := dk_26 (dk_at dksX1_must_0 0 rfl rfl)
theorem dX1_must_1 : decode cX1_must 1 = .ok (.ifCond .ne 11, 3) := dk_154 0 11 (dk_at dksX1_must_0 1 rfl rfl)
theorem dX1_must_4 : decode cX1_must 4 = .ok (.new 1, 3) := dk_187 0 1 (dk_at dksX1_must_0 4 rfl rfl)
theorem dX1_must_7 : decode cX1_must 7 = .ok (.dup, 1) := dk_89 (dk_at dksX1_must_0 7 rfl rfl)
theorem dX1_must_8 : decode cX1_must 8 = .ok (.invokespecial 3, 3) := dk_183 0 3 (dk_at dksX1_must_0 8 rfl rfl)
theorem dX1_must_11 : decode cX1_must 11 = .ok (.athrow, 1) := dk_191 (dk_at dksX1_must_0 11 rfl rfl)
theorem dX1_must_12 : decode cX1_must 12 = .ok (.return_, 1) := dk_177 (dk_at dksX1_must_0 12 rfl rfl)
abbrev cX1_can : ByteArray := prog_1_method_4_code
def yX1_can : MethodName := ⟨RX1, "can", "(Z)V"⟩
def dkwX1_can_0 : List UInt8 := [26, 154, 0, 11, 187, 0, 7, 89, 183, 0, 9, 191, 177]
abbrev dktX1_can_0 : List UInt8 := dkwX1_can_0 ++ []
theorem dksX1_can_0 : cX1_can.data.toList.drop 0 = dktX1_can_0 := by decide +kernel
theorem dX1_can_0 : decode cX1_can 0 = .ok (.iload_n 0, 1) := dk_26 (dk_at dksX1_can_0 0 rfl rfl)
theorem dX1_can_1 : decode cX1_can 1 = .ok (.ifCond .ne 11, 3) := dk_154 0 11 (dk_at dksX1_can_0 1 rfl rfl)
theorem dX1_can_4 : decode cX1_can 4 = .ok (.new 7, 3) := dk_187 0 7 (dk_at dksX1_can_0 4 rfl rfl)
theorem dX1_can_7 : decode cX1_can 7 = .ok (.dup, 1) := dk_89 (dk_at dksX1_can_0 7 rfl rfl)
theorem dX1_can_8 : decode cX1_can 8 = .ok (.invokespecial 9, 3) := dk_183 0 9 (dk_at dksX1_can_0 8 rfl rfl)
theorem dX1_can_11 : decode cX1_can 11 = .ok (.athrow, 1) := dk_191 (dk_at dksX1_can_0 11 rfl rfl)
theorem dX1_can_12 : decode cX1_can 12 = .ok (.return_, 1) := dk_177 (dk_at dksX1_can_0 12 rfl rfl)
abbrev cX1_pop : ByteArray := prog_1_method_22_code
def yX1_pop : MethodName := ⟨RX1, "pop", "()I"⟩
def dkwX1_pop_1 : List UInt8 := [182, 0, 165, 182, 0, 138, 42, 180, 0, 45, 182, 0, 169, 172]
abbrev dktX1_pop_1 : List UInt8 := dkwX1_pop_1 ++ []
def dkwX1_pop_0 : List UInt8 := [42, 180, 0, 45, 180, 0, 132, 158, 0, 7, 4, 167, 0, 4, 3, 184, 0, 162, 42, 42, 180, 0, 45]
abbrev dktX1_pop_0 : List UInt8 := dkwX1_pop_0 ++ dktX1_pop_1
theorem dksX1_pop_0 : cX1_pop.data.toList.drop 0 = dktX1_pop_0 := by decide +kernel
theorem dksX1_pop_1 : cX1_pop.data.toList.drop 23 = dktX1_pop_1 := dk_seg dksX1_pop_0 23 rfl rfl
theorem dX1_pop_0 : decode cX1_pop 0 = .ok (.aload_n 0, 1) := dk_42 (dk_at dksX1_pop_0 0 rfl rfl)
theorem dX1_pop_1 : decode cX1_pop 1 = .ok (.getfield 45, 3) := dk_180 0 45 (dk_at dksX1_pop_0 1 rfl rfl)
theorem dX1_pop_4 : decode cX1_pop 4 = .ok (.getfield 132, 3) := dk_180 0 132 (dk_at dksX1_pop_0 4 rfl rfl)
theorem dX1_pop_7 : decode cX1_pop 7 = .ok (.ifCond .le 7, 3) := dk_158 0 7 (dk_at dksX1_pop_0 7 rfl rfl)
theorem dX1_pop_10 : decode cX1_pop 10 = .ok (.iconst 1, 1) := dk_4 (dk_at dksX1_pop_0 10 rfl rfl)
theorem dX1_pop_11 : decode cX1_pop 11 = .ok (.goto 4, 3) := dk_167 0 4 (dk_at dksX1_pop_0 11 rfl rfl)
theorem dX1_pop_14 : decode cX1_pop 14 = .ok (.iconst 0, 1) := dk_3 (dk_at dksX1_pop_0 14 rfl rfl)
theorem dX1_pop_15 : decode cX1_pop 15 = .ok (.invokestatic 162, 3) := dk_184 0 162 (dk_at dksX1_pop_0 15 rfl rfl)
theorem dX1_pop_18 : decode cX1_pop 18 = .ok (.aload_n 0, 1) := dk_42 (dk_at dksX1_pop_0 18 rfl rfl)
theorem dX1_pop_19 : decode cX1_pop 19 = .ok (.aload_n 0, 1) := dk_42 (dk_at dksX1_pop_0 19 rfl rfl)
theorem dX1_pop_20 : decode cX1_pop 20 = .ok (.getfield 45, 3) := dk_180 0 45 (dk_at dksX1_pop_0 20 rfl rfl)
theorem dX1_pop_23 : decode cX1_pop 23 = .ok (.invokevirtual 165, 3) := dk_182 0 165 (dk_at dksX1_pop_1 0 rfl rfl)
theorem dX1_pop_26 : decode cX1_pop 26 = .ok (.invokevirtual 138, 3) := dk_182 0 138 (dk_at dksX1_pop_1 3 rfl rfl)
theorem dX1_pop_29 : decode cX1_pop 29 = .ok (.aload_n 0, 1) := dk_42 (dk_at dksX1_pop_1 6 rfl rfl)
theorem dX1_pop_30 : decode cX1_pop 30 = .ok (.getfield 45, 3) := dk_180 0 45 (dk_at dksX1_pop_1 7 rfl rfl)
theorem dX1_pop_33 : decode cX1_pop 33 = .ok (.invokevirtual 169, 3) := dk_182 0 169 (dk_at dksX1_pop_1 10 rfl rfl)
theorem dX1_pop_36 : decode cX1_pop 36 = .ok (.ireturn, 1) := dk_172 (dk_at dksX1_pop_1 13 rfl rfl)
abbrev cX1_greatest : ByteArray := prog_1_method_28_code
def yX1_greatest : MethodName := ⟨RX1, "greatest", "(I)I"⟩
def dkwX1_greatest_6 : List UInt8 := [160, 0, 8, 21, 4, 167, 0, 14, 21, 4, 2, 160, 0, 7, 2, 167, 0, 4, 29, 172]
abbrev dktX1_greatest_6 : List UInt8 := dkwX1_greatest_6 ++ []
def dkwX1_greatest_5 : List UInt8 := [54, 4, 132, 6, 1, 167, 255, 172, 132, 5, 1, 167, 255, 151, 27, 154, 0, 7, 28, 167, 0, 24, 27, 5]
abbrev dktX1_greatest_5 : List UInt8 := dkwX1_greatest_5 ++ dktX1_greatest_6
def dkwX1_greatest_4 : List UInt8 := [21, 5, 21, 4, 163, 0, 22, 21, 7, 28, 163, 0, 6, 167, 0, 13, 21, 7, 61, 21, 6, 62, 21, 5]
abbrev dktX1_greatest_4 : List UInt8 := dkwX1_greatest_4 ++ dktX1_greatest_5
def dkwX1_greatest_3 : List UInt8 := [54, 7, 21, 7, 29, 104, 28, 21, 6, 104, 100, 54, 8, 21, 8, 155, 0, 34, 21, 8, 154, 0, 19]
abbrev dktX1_greatest_3 : List UInt8 := dkwX1_greatest_3 ++ dktX1_greatest_4
def dkwX1_greatest_2 : List UInt8 := [180, 0, 132, 163, 0, 75, 21, 6, 42, 180, 0, 45, 21, 5, 21, 5, 21, 6, 96, 182, 0, 208, 96]
abbrev dktX1_greatest_2 : List UInt8 := dkwX1_greatest_2 ++ dktX1_greatest_3
def dkwX1_greatest_1 : List UInt8 := [42, 180, 0, 45, 180, 0, 132, 162, 0, 99, 4, 54, 6, 21, 5, 21, 6, 96, 42, 180, 0, 45]
abbrev dktX1_greatest_1 : List UInt8 := dkwX1_greatest_1 ++ dktX1_greatest_2
def dkwX1_greatest_0 : List UInt8 := [27, 133, 9, 20, 0, 203, 184, 0, 128, 184, 0, 205, 2, 61, 4, 62, 2, 54, 4, 3, 54, 5, 21, 5]
abbrev dktX1_greatest_0 : List UInt8 := dkwX1_greatest_0 ++ dktX1_greatest_1
theorem dksX1_greatest_0 : cX1_greatest.data.toList.drop 0 = dktX1_greatest_0 := by decide +kernel
theorem dksX1_greatest_1 : cX1_greatest.data.toList.drop 24 = dktX1_greatest_1 := dk_seg dksX1_greatest_0 24 rfl rfl
theorem dksX1_greatest_2 : cX1_greatest.data.toList.drop 46 = dktX1_greatest_2 := dk_seg dksX1_greatest_1 22 rfl rfl
theorem dksX1_greatest_3 : cX1_greatest.data.toList.drop 69 = dktX1_greatest_3 := dk_seg dksX1_greatest_2 23 rfl rfl
theorem dksX1_greatest_4 : cX1_greatest.data.toList.drop 92 = dktX1_greatest_4 := dk_seg dksX1_greatest_3 23 rfl rfl
theorem dksX1_greatest_5 : cX1_greatest.data.toList.drop 116 = dktX1_greatest_5 := dk_seg dksX1_greatest_4 24 rfl rfl
theorem dksX1_greatest_6 : cX1_greatest.data.toList.drop 140 = dktX1_greatest_6 := dk_seg dksX1_greatest_5 24 rfl rfl
theorem dX1_greatest_0 : decode cX1_greatest 0 = .ok (.iload_n 1, 1) := dk_27 (dk_at dksX1_greatest_0 0 rfl rfl)
theorem dX1_greatest_1 : decode cX1_greatest 1 = .ok (.i2l, 1) := dk_133 (dk_at dksX1_greatest_0 1 rfl rfl)
theorem dX1_greatest_2 : decode cX1_greatest 2 = .ok (.lconst 0, 1) := dk_9 (dk_at dksX1_greatest_0 2 rfl rfl)
theorem dX1_greatest_3 : decode cX1_greatest 3 = .ok (.ldc2_w 203, 3) := dk_20 0 203 (dk_at dksX1_greatest_0 3 rfl rfl)
theorem dX1_greatest_6 : decode cX1_greatest 6 = .ok (.invokestatic 128, 3) := dk_184 0 128 (dk_at dksX1_greatest_0 6 rfl rfl)
theorem dX1_greatest_9 : decode cX1_greatest 9 = .ok (.invokestatic 205, 3) := dk_184 0 205 (dk_at dksX1_greatest_0 9 rfl rfl)
theorem dX1_greatest_12 : decode cX1_greatest 12 = .ok (.iconst (-1), 1) := dk_2 (dk_at dksX1_greatest_0 12 rfl rfl)
theorem dX1_greatest_13 : decode cX1_greatest 13 = .ok (.istore_n 2, 1) := dk_61 (dk_at dksX1_greatest_0 13 rfl rfl)
theorem dX1_greatest_14 : decode cX1_greatest 14 = .ok (.iconst 1, 1) := dk_4 (dk_at dksX1_greatest_0 14 rfl rfl)
theorem dX1_greatest_15 : decode cX1_greatest 15 = .ok (.istore_n 3, 1) := dk_62 (dk_at dksX1_greatest_0 15 rfl rfl)
theorem dX1_greatest_16 : decode cX1_greatest 16 = .ok (.iconst (-1), 1) := dk_2 (dk_at dksX1_greatest_0 16 rfl rfl)
theorem dX1_greatest_17 : decode cX1_greatest 17 = .ok (.istore 4, 2) := dk_54 4 (dk_at dksX1_greatest_0 17 rfl rfl)
theorem dX1_greatest_19 : decode cX1_greatest 19 = .ok (.iconst 0, 1) := dk_3 (dk_at dksX1_greatest_0 19 rfl rfl)
theorem dX1_greatest_20 : decode cX1_greatest 20 = .ok (.istore 5, 2) := dk_54 5 (dk_at dksX1_greatest_0 20 rfl rfl)
theorem dX1_greatest_22 : decode cX1_greatest 22 = .ok (.iload 5, 2) := dk_21 5 (dk_at dksX1_greatest_0 22 rfl rfl)
theorem dX1_greatest_24 : decode cX1_greatest 24 = .ok (.aload_n 0, 1) := dk_42 (dk_at dksX1_greatest_1 0 rfl rfl)
theorem dX1_greatest_25 : decode cX1_greatest 25 = .ok (.getfield 45, 3) := dk_180 0 45 (dk_at dksX1_greatest_1 1 rfl rfl)
theorem dX1_greatest_28 : decode cX1_greatest 28 = .ok (.getfield 132, 3) := dk_180 0 132 (dk_at dksX1_greatest_1 4 rfl rfl)
theorem dX1_greatest_31 : decode cX1_greatest 31 = .ok (.if_icmp .ge 99, 3) := dk_162 0 99 (dk_at dksX1_greatest_1 7 rfl rfl)
theorem dX1_greatest_34 : decode cX1_greatest 34 = .ok (.iconst 1, 1) := dk_4 (dk_at dksX1_greatest_1 10 rfl rfl)
theorem dX1_greatest_35 : decode cX1_greatest 35 = .ok (.istore 6, 2) := dk_54 6 (dk_at dksX1_greatest_1 11 rfl rfl)
theorem dX1_greatest_37 : decode cX1_greatest 37 = .ok (.iload 5, 2) := dk_21 5 (dk_at dksX1_greatest_1 13 rfl rfl)
theorem dX1_greatest_39 : decode cX1_greatest 39 = .ok (.iload 6, 2) := dk_21 6 (dk_at dksX1_greatest_1 15 rfl rfl)
theorem dX1_greatest_41 : decode cX1_greatest 41 = .ok (.iadd, 1) := dk_96 (dk_at dksX1_greatest_1 17 rfl rfl)
theorem dX1_greatest_42 : decode cX1_greatest 42 = .ok (.aload_n 0, 1) := dk_42 (dk_at dksX1_greatest_1 18 rfl rfl)
theorem dX1_greatest_43 : decode cX1_greatest 43 = .ok (.getfield 45, 3) := dk_180 0 45 (dk_at dksX1_greatest_1 19 rfl rfl)
theorem dX1_greatest_46 : decode cX1_greatest 46 = .ok (.getfield 132, 3) := dk_180 0 132 (dk_at dksX1_greatest_2 0 rfl rfl)
theorem dX1_greatest_49 : decode cX1_greatest 49 = .ok (.if_icmp .gt 75, 3) := dk_163 0 75 (dk_at dksX1_greatest_2 3 rfl rfl)
theorem dX1_greatest_52 : decode cX1_greatest 52 = .ok (.iload 6, 2) := dk_21 6 (dk_at dksX1_greatest_2 6 rfl rfl)
theorem dX1_greatest_54 : decode cX1_greatest 54 = .ok (.aload_n 0, 1) := dk_42 (dk_at dksX1_greatest_2 8 rfl rfl)
theorem dX1_greatest_55 : decode cX1_greatest 55 = .ok (.getfield 45, 3) := dk_180 0 45 (dk_at dksX1_greatest_2 9 rfl rfl)
theorem dX1_greatest_58 : decode cX1_greatest 58 = .ok (.iload 5, 2) := dk_21 5 (dk_at dksX1_greatest_2 12 rfl rfl)
theorem dX1_greatest_60 : decode cX1_greatest 60 = .ok (.iload 5, 2) := dk_21 5 (dk_at dksX1_greatest_2 14 rfl rfl)
theorem dX1_greatest_62 : decode cX1_greatest 62 = .ok (.iload 6, 2) := dk_21 6 (dk_at dksX1_greatest_2 16 rfl rfl)
theorem dX1_greatest_64 : decode cX1_greatest 64 = .ok (.iadd, 1) := dk_96 (dk_at dksX1_greatest_2 18 rfl rfl)
theorem dX1_greatest_65 : decode cX1_greatest 65 = .ok (.invokevirtual 208, 3) := dk_182 0 208 (dk_at dksX1_greatest_2 19 rfl rfl)
theorem dX1_greatest_68 : decode cX1_greatest 68 = .ok (.iadd, 1) := dk_96 (dk_at dksX1_greatest_2 22 rfl rfl)
theorem dX1_greatest_69 : decode cX1_greatest 69 = .ok (.istore 7, 2) := dk_54 7 (dk_at dksX1_greatest_3 0 rfl rfl)
theorem dX1_greatest_71 : decode cX1_greatest 71 = .ok (.iload 7, 2) := dk_21 7 (dk_at dksX1_greatest_3 2 rfl rfl)
theorem dX1_greatest_73 : decode cX1_greatest 73 = .ok (.iload_n 3, 1) := dk_29 (dk_at dksX1_greatest_3 4 rfl rfl)
theorem dX1_greatest_74 : decode cX1_greatest 74 = .ok (.imul, 1) := dk_104 (dk_at dksX1_greatest_3 5 rfl rfl)
theorem dX1_greatest_75 : decode cX1_greatest 75 = .ok (.iload_n 2, 1) := dk_28 (dk_at dksX1_greatest_3 6 rfl rfl)
theorem dX1_greatest_76 : decode cX1_greatest 76 = .ok (.iload 6, 2) := dk_21 6 (dk_at dksX1_greatest_3 7 rfl rfl)
theorem dX1_greatest_78 : decode cX1_greatest 78 = .ok (.imul, 1) := dk_104 (dk_at dksX1_greatest_3 9 rfl rfl)
theorem dX1_greatest_79 : decode cX1_greatest 79 = .ok (.isub, 1) := dk_100 (dk_at dksX1_greatest_3 10 rfl rfl)
theorem dX1_greatest_80 : decode cX1_greatest 80 = .ok (.istore 8, 2) := dk_54 8 (dk_at dksX1_greatest_3 11 rfl rfl)
theorem dX1_greatest_82 : decode cX1_greatest 82 = .ok (.iload 8, 2) := dk_21 8 (dk_at dksX1_greatest_3 13 rfl rfl)
theorem dX1_greatest_84 : decode cX1_greatest 84 = .ok (.ifCond .lt 34, 3) := dk_155 0 34 (dk_at dksX1_greatest_3 15 rfl rfl)
theorem dX1_greatest_87 : decode cX1_greatest 87 = .ok (.iload 8, 2) := dk_21 8 (dk_at dksX1_greatest_3 18 rfl rfl)
theorem dX1_greatest_89 : decode cX1_greatest 89 = .ok (.ifCond .ne 19, 3) := dk_154 0 19 (dk_at dksX1_greatest_3 20 rfl rfl)
theorem dX1_greatest_92 : decode cX1_greatest 92 = .ok (.iload 5, 2) := dk_21 5 (dk_at dksX1_greatest_4 0 rfl rfl)
theorem dX1_greatest_94 : decode cX1_greatest 94 = .ok (.iload 4, 2) := dk_21 4 (dk_at dksX1_greatest_4 2 rfl rfl)
theorem dX1_greatest_96 : decode cX1_greatest 96 = .ok (.if_icmp .gt 22, 3) := dk_163 0 22 (dk_at dksX1_greatest_4 4 rfl rfl)
theorem dX1_greatest_99 : decode cX1_greatest 99 = .ok (.iload 7, 2) := dk_21 7 (dk_at dksX1_greatest_4 7 rfl rfl)
theorem dX1_greatest_101 : decode cX1_greatest 101 = .ok (.iload_n 2, 1) := dk_28 (dk_at dksX1_greatest_4 9 rfl rfl)
theorem dX1_greatest_102 : decode cX1_greatest 102 = .ok (.if_icmp .gt 6, 3) := dk_163 0 6 (dk_at dksX1_greatest_4 10 rfl rfl)
theorem dX1_greatest_105 : decode cX1_greatest 105 = .ok (.goto 13, 3) := dk_167 0 13 (dk_at dksX1_greatest_4 13 rfl rfl)
theorem dX1_greatest_108 : decode cX1_greatest 108 = .ok (.iload 7, 2) := dk_21 7 (dk_at dksX1_greatest_4 16 rfl rfl)
theorem dX1_greatest_110 : decode cX1_greatest 110 = .ok (.istore_n 2, 1) := dk_61 (dk_at dksX1_greatest_4 18 rfl rfl)
theorem dX1_greatest_111 : decode cX1_greatest 111 = .ok (.iload 6, 2) := dk_21 6 (dk_at dksX1_greatest_4 19 rfl rfl)
theorem dX1_greatest_113 : decode cX1_greatest 113 = .ok (.istore_n 3, 1) := dk_62 (dk_at dksX1_greatest_4 21 rfl rfl)
theorem dX1_greatest_114 : decode cX1_greatest 114 = .ok (.iload 5, 2) := dk_21 5 (dk_at dksX1_greatest_4 22 rfl rfl)
theorem dX1_greatest_116 : decode cX1_greatest 116 = .ok (.istore 4, 2) := dk_54 4 (dk_at dksX1_greatest_5 0 rfl rfl)
theorem dX1_greatest_118 : decode cX1_greatest 118 = .ok (.iinc 6 1, 3) := dk_132 6 1 (dk_at dksX1_greatest_5 2 rfl rfl)
theorem dX1_greatest_121 : decode cX1_greatest 121 = .ok (.goto (-84), 3) := dk_167 255 172 (dk_at dksX1_greatest_5 5 rfl rfl)
theorem dX1_greatest_124 : decode cX1_greatest 124 = .ok (.iinc 5 1, 3) := dk_132 5 1 (dk_at dksX1_greatest_5 8 rfl rfl)
theorem dX1_greatest_127 : decode cX1_greatest 127 = .ok (.goto (-105), 3) := dk_167 255 151 (dk_at dksX1_greatest_5 11 rfl rfl)
theorem dX1_greatest_130 : decode cX1_greatest 130 = .ok (.iload_n 1, 1) := dk_27 (dk_at dksX1_greatest_5 14 rfl rfl)
theorem dX1_greatest_131 : decode cX1_greatest 131 = .ok (.ifCond .ne 7, 3) := dk_154 0 7 (dk_at dksX1_greatest_5 15 rfl rfl)
theorem dX1_greatest_134 : decode cX1_greatest 134 = .ok (.iload_n 2, 1) := dk_28 (dk_at dksX1_greatest_5 18 rfl rfl)
theorem dX1_greatest_135 : decode cX1_greatest 135 = .ok (.goto 24, 3) := dk_167 0 24 (dk_at dksX1_greatest_5 19 rfl rfl)
theorem dX1_greatest_138 : decode cX1_greatest 138 = .ok (.iload_n 1, 1) := dk_27 (dk_at dksX1_greatest_5 22 rfl rfl)
theorem dX1_greatest_139 : decode cX1_greatest 139 = .ok (.iconst 2, 1) := dk_5 (dk_at dksX1_greatest_5 23 rfl rfl)
theorem dX1_greatest_140 : decode cX1_greatest 140 = .ok (.if_icmp .ne 8, 3) := dk_160 0 8 (dk_at dksX1_greatest_6 0 rfl rfl)
theorem dX1_greatest_143 : decode cX1_greatest 143 = .ok (.iload 4, 2) := dk_21 4 (dk_at dksX1_greatest_6 3 rfl rfl)
theorem dX1_greatest_145 : decode cX1_greatest 145 = .ok (.goto 14, 3) := dk_167 0 14 (dk_at dksX1_greatest_6 5 rfl rfl)
theorem dX1_greatest_148 : decode cX1_greatest 148 = .ok (.iload 4, 2) := dk_21 4 (dk_at dksX1_greatest_6 8 rfl rfl)
theorem dX1_greatest_150 : decode cX1_greatest 150 = .ok (.iconst (-1), 1) := dk_2 (dk_at dksX1_greatest_6 10 rfl rfl)
theorem dX1_greatest_151 : decode cX1_greatest 151 = .ok (.if_icmp .ne 7, 3) := dk_160 0 7 (dk_at dksX1_greatest_6 11 rfl rfl)
theorem dX1_greatest_154 : decode cX1_greatest 154 = .ok (.iconst (-1), 1) := dk_2 (dk_at dksX1_greatest_6 14 rfl rfl)
theorem dX1_greatest_155 : decode cX1_greatest 155 = .ok (.goto 4, 3) := dk_167 0 4 (dk_at dksX1_greatest_6 15 rfl rfl)
theorem dX1_greatest_158 : decode cX1_greatest 158 = .ok (.iload_n 3, 1) := dk_29 (dk_at dksX1_greatest_6 18 rfl rfl)
theorem dX1_greatest_159 : decode cX1_greatest 159 = .ok (.ireturn, 1) := dk_172 (dk_at dksX1_greatest_6 19 rfl rfl)
abbrev cX1_thereIs : ByteArray := prog_1_method_6_code
def yX1_thereIs : MethodName := ⟨RX1, "thereIs", "(Z)V"⟩
def dkwX1_thereIs_0 : List UInt8 := [26, 154, 0, 11, 187, 0, 13, 89, 183, 0, 15, 191, 177]
abbrev dktX1_thereIs_0 : List UInt8 := dkwX1_thereIs_0 ++ []
theorem dksX1_thereIs_0 : cX1_thereIs.data.toList.drop 0 = dktX1_thereIs_0 := by decide +kernel
theorem dX1_thereIs_0 : decode cX1_thereIs 0 = .ok (.iload_n 0, 1) := dk_26 (dk_at dksX1_thereIs_0 0 rfl rfl)
theorem dX1_thereIs_1 : decode cX1_thereIs 1 = .ok (.ifCond .ne 11, 3) := dk_154 0 11 (dk_at dksX1_thereIs_0 1 rfl rfl)
theorem dX1_thereIs_4 : decode cX1_thereIs 4 = .ok (.new 13, 3) := dk_187 0 13 (dk_at dksX1_thereIs_0 4 rfl rfl)
theorem dX1_thereIs_7 : decode cX1_thereIs 7 = .ok (.dup, 1) := dk_89 (dk_at dksX1_thereIs_0 7 rfl rfl)
theorem dX1_thereIs_8 : decode cX1_thereIs 8 = .ok (.invokespecial 15, 3) := dk_183 0 15 (dk_at dksX1_thereIs_0 8 rfl rfl)
theorem dX1_thereIs_11 : decode cX1_thereIs 11 = .ok (.athrow, 1) := dk_191 (dk_at dksX1_thereIs_0 11 rfl rfl)
theorem dX1_thereIs_12 : decode cX1_thereIs 12 = .ok (.return_, 1) := dk_177 (dk_at dksX1_thereIs_0 12 rfl rfl)
abbrev cX1_run : ByteArray := prog_1_method_33_code
def yX1_run : MethodName := ⟨RX1, "run", "(II)I"⟩
def dkwX1_run_3 : List UInt8 := [160, 0, 11, 25, 4, 180, 0, 243, 167, 0, 8, 25, 4, 180, 0, 245, 172]
abbrev dktX1_run_3 : List UInt8 := dkwX1_run_3 ++ []
def dkwX1_run_2 : List UInt8 := [182, 0, 252, 192, 0, 233, 58, 4, 28, 154, 0, 11, 25, 4, 180, 0, 242, 167, 0, 21, 28, 4]
abbrev dktX1_run_2 : List UInt8 := dkwX1_run_2 ++ dktX1_run_3
def dkwX1_run_1 : List UInt8 := [182, 0, 251, 172, 27, 133, 9, 45, 182, 0, 251, 4, 100, 133, 184, 0, 128, 154, 0, 5, 2, 172, 45, 27]
abbrev dktX1_run_1 : List UInt8 := dkwX1_run_1 ++ dktX1_run_2
def dkwX1_run_0 : List UInt8 := [28, 133, 9, 20, 0, 203, 184, 0, 128, 184, 0, 205, 42, 182, 1, 7, 78, 27, 2, 160, 0, 8, 45]
abbrev dktX1_run_0 : List UInt8 := dkwX1_run_0 ++ dktX1_run_1
theorem dksX1_run_0 : cX1_run.data.toList.drop 0 = dktX1_run_0 := by decide +kernel
theorem dksX1_run_1 : cX1_run.data.toList.drop 23 = dktX1_run_1 := dk_seg dksX1_run_0 23 rfl rfl
theorem dksX1_run_2 : cX1_run.data.toList.drop 47 = dktX1_run_2 := dk_seg dksX1_run_1 24 rfl rfl
theorem dksX1_run_3 : cX1_run.data.toList.drop 69 = dktX1_run_3 := dk_seg dksX1_run_2 22 rfl rfl
theorem dX1_run_0 : decode cX1_run 0 = .ok (.iload_n 2, 1) := dk_28 (dk_at dksX1_run_0 0 rfl rfl)
theorem dX1_run_1 : decode cX1_run 1 = .ok (.i2l, 1) := dk_133 (dk_at dksX1_run_0 1 rfl rfl)
theorem dX1_run_2 : decode cX1_run 2 = .ok (.lconst 0, 1) := dk_9 (dk_at dksX1_run_0 2 rfl rfl)
theorem dX1_run_3 : decode cX1_run 3 = .ok (.ldc2_w 203, 3) := dk_20 0 203 (dk_at dksX1_run_0 3 rfl rfl)
theorem dX1_run_6 : decode cX1_run 6 = .ok (.invokestatic 128, 3) := dk_184 0 128 (dk_at dksX1_run_0 6 rfl rfl)
theorem dX1_run_9 : decode cX1_run 9 = .ok (.invokestatic 205, 3) := dk_184 0 205 (dk_at dksX1_run_0 9 rfl rfl)
theorem dX1_run_12 : decode cX1_run 12 = .ok (.aload_n 0, 1) := dk_42 (dk_at dksX1_run_0 12 rfl rfl)
theorem dX1_run_13 : decode cX1_run 13 = .ok (.invokevirtual 263, 3) := dk_182 1 7 (dk_at dksX1_run_0 13 rfl rfl)
theorem dX1_run_16 : decode cX1_run 16 = .ok (.astore_n 3, 1) := dk_78 (dk_at dksX1_run_0 16 rfl rfl)
theorem dX1_run_17 : decode cX1_run 17 = .ok (.iload_n 1, 1) := dk_27 (dk_at dksX1_run_0 17 rfl rfl)
theorem dX1_run_18 : decode cX1_run 18 = .ok (.iconst (-1), 1) := dk_2 (dk_at dksX1_run_0 18 rfl rfl)
theorem dX1_run_19 : decode cX1_run 19 = .ok (.if_icmp .ne 8, 3) := dk_160 0 8 (dk_at dksX1_run_0 19 rfl rfl)
theorem dX1_run_22 : decode cX1_run 22 = .ok (.aload_n 3, 1) := dk_45 (dk_at dksX1_run_0 22 rfl rfl)
theorem dX1_run_23 : decode cX1_run 23 = .ok (.invokevirtual 251, 3) := dk_182 0 251 (dk_at dksX1_run_1 0 rfl rfl)
theorem dX1_run_26 : decode cX1_run 26 = .ok (.ireturn, 1) := dk_172 (dk_at dksX1_run_1 3 rfl rfl)
theorem dX1_run_27 : decode cX1_run 27 = .ok (.iload_n 1, 1) := dk_27 (dk_at dksX1_run_1 4 rfl rfl)
theorem dX1_run_28 : decode cX1_run 28 = .ok (.i2l, 1) := dk_133 (dk_at dksX1_run_1 5 rfl rfl)
theorem dX1_run_29 : decode cX1_run 29 = .ok (.lconst 0, 1) := dk_9 (dk_at dksX1_run_1 6 rfl rfl)
theorem dX1_run_30 : decode cX1_run 30 = .ok (.aload_n 3, 1) := dk_45 (dk_at dksX1_run_1 7 rfl rfl)
theorem dX1_run_31 : decode cX1_run 31 = .ok (.invokevirtual 251, 3) := dk_182 0 251 (dk_at dksX1_run_1 8 rfl rfl)
theorem dX1_run_34 : decode cX1_run 34 = .ok (.iconst 1, 1) := dk_4 (dk_at dksX1_run_1 11 rfl rfl)
theorem dX1_run_35 : decode cX1_run 35 = .ok (.isub, 1) := dk_100 (dk_at dksX1_run_1 12 rfl rfl)
theorem dX1_run_36 : decode cX1_run 36 = .ok (.i2l, 1) := dk_133 (dk_at dksX1_run_1 13 rfl rfl)
theorem dX1_run_37 : decode cX1_run 37 = .ok (.invokestatic 128, 3) := dk_184 0 128 (dk_at dksX1_run_1 14 rfl rfl)
theorem dX1_run_40 : decode cX1_run 40 = .ok (.ifCond .ne 5, 3) := dk_154 0 5 (dk_at dksX1_run_1 17 rfl rfl)
theorem dX1_run_43 : decode cX1_run 43 = .ok (.iconst (-1), 1) := dk_2 (dk_at dksX1_run_1 20 rfl rfl)
theorem dX1_run_44 : decode cX1_run 44 = .ok (.ireturn, 1) := dk_172 (dk_at dksX1_run_1 21 rfl rfl)
theorem dX1_run_45 : decode cX1_run 45 = .ok (.aload_n 3, 1) := dk_45 (dk_at dksX1_run_1 22 rfl rfl)
theorem dX1_run_46 : decode cX1_run 46 = .ok (.iload_n 1, 1) := dk_27 (dk_at dksX1_run_1 23 rfl rfl)
theorem dX1_run_47 : decode cX1_run 47 = .ok (.invokevirtual 252, 3) := dk_182 0 252 (dk_at dksX1_run_2 0 rfl rfl)
theorem dX1_run_50 : decode cX1_run 50 = .ok (.checkcast 233, 3) := dk_192 0 233 (dk_at dksX1_run_2 3 rfl rfl)
theorem dX1_run_53 : decode cX1_run 53 = .ok (.astore 4, 2) := dk_58 4 (dk_at dksX1_run_2 6 rfl rfl)
theorem dX1_run_55 : decode cX1_run 55 = .ok (.iload_n 2, 1) := dk_28 (dk_at dksX1_run_2 8 rfl rfl)
theorem dX1_run_56 : decode cX1_run 56 = .ok (.ifCond .ne 11, 3) := dk_154 0 11 (dk_at dksX1_run_2 9 rfl rfl)
theorem dX1_run_59 : decode cX1_run 59 = .ok (.aload 4, 2) := dk_25 4 (dk_at dksX1_run_2 12 rfl rfl)
theorem dX1_run_61 : decode cX1_run 61 = .ok (.getfield 242, 3) := dk_180 0 242 (dk_at dksX1_run_2 14 rfl rfl)
theorem dX1_run_64 : decode cX1_run 64 = .ok (.goto 21, 3) := dk_167 0 21 (dk_at dksX1_run_2 17 rfl rfl)
theorem dX1_run_67 : decode cX1_run 67 = .ok (.iload_n 2, 1) := dk_28 (dk_at dksX1_run_2 20 rfl rfl)
theorem dX1_run_68 : decode cX1_run 68 = .ok (.iconst 1, 1) := dk_4 (dk_at dksX1_run_2 21 rfl rfl)
theorem dX1_run_69 : decode cX1_run 69 = .ok (.if_icmp .ne 11, 3) := dk_160 0 11 (dk_at dksX1_run_3 0 rfl rfl)
theorem dX1_run_72 : decode cX1_run 72 = .ok (.aload 4, 2) := dk_25 4 (dk_at dksX1_run_3 3 rfl rfl)
theorem dX1_run_74 : decode cX1_run 74 = .ok (.getfield 243, 3) := dk_180 0 243 (dk_at dksX1_run_3 5 rfl rfl)
theorem dX1_run_77 : decode cX1_run 77 = .ok (.goto 8, 3) := dk_167 0 8 (dk_at dksX1_run_3 8 rfl rfl)
theorem dX1_run_80 : decode cX1_run 80 = .ok (.aload 4, 2) := dk_25 4 (dk_at dksX1_run_3 11 rfl rfl)
theorem dX1_run_82 : decode cX1_run 82 = .ok (.getfield 245, 3) := dk_180 0 245 (dk_at dksX1_run_3 13 rfl rfl)
theorem dX1_run_85 : decode cX1_run 85 = .ok (.ireturn, 1) := dk_172 (dk_at dksX1_run_3 16 rfl rfl)
abbrev cX1_runs : ByteArray := prog_1_method_32_code
def yX1_runs : MethodName := ⟨RX1, "runs", "()Ljava/util/LinkedList;"⟩
def dkwX1_runs_12 : List UInt8 := [182, 1, 4, 167, 255, 192, 44, 176]
abbrev dktX1_runs_12 : List UInt8 := dkwX1_runs_12 ++ []
def dkwX1_runs_11 : List UInt8 := [192, 0, 233, 25, 4, 182, 1, 0, 158, 0, 9, 132, 5, 255, 167, 255, 229, 44, 21, 5, 25, 4]
abbrev dktX1_runs_11 : List UInt8 := dkwX1_runs_11 ++ dktX1_runs_12
def dkwX1_runs_10 : List UInt8 := [192, 0, 233, 58, 4, 44, 182, 0, 251, 54, 5, 21, 5, 158, 0, 28, 44, 21, 5, 4, 100, 182, 0, 252]
abbrev dktX1_runs_10 : List UInt8 := dkwX1_runs_10 ++ dktX1_runs_11
def dkwX1_runs_9 : List UInt8 := [183, 0, 220, 77, 43, 182, 0, 104, 78, 45, 185, 0, 110, 1, 0, 153, 0, 61, 45, 185, 0, 116, 1, 0]
abbrev dktX1_runs_9 : List UInt8 := dkwX1_runs_9 ++ dktX1_runs_10
def dkwX1_runs_8 : List UInt8 := [182, 0, 217, 45, 180, 0, 245, 162, 0, 9, 44, 185, 0, 248, 1, 0, 167, 255, 212, 187, 0, 105, 89]
abbrev dktX1_runs_8 : List UInt8 := dkwX1_runs_8 ++ dktX1_runs_9
def dkwX1_runs_7 : List UInt8 := [153, 0, 41, 44, 185, 0, 116, 1, 0, 192, 0, 233, 78, 42, 45, 180, 0, 242, 45, 180, 0, 243]
abbrev dktX1_runs_7 : List UInt8 := dkwX1_runs_7 ++ dktX1_runs_8
def dkwX1_runs_6 : List UInt8 := [54, 4, 167, 255, 202, 132, 2, 1, 167, 255, 116, 43, 182, 0, 104, 77, 44, 185, 0, 110, 1, 0]
abbrev dktX1_runs_6 : List UInt8 := dkwX1_runs_6 ++ dktX1_runs_7
def dkwX1_runs_5 : List UInt8 := [28, 100, 21, 5, 21, 4, 100, 28, 96, 28, 183, 0, 235, 182, 0, 238, 87, 45, 21, 5, 182, 0, 227]
abbrev dktX1_runs_5 : List UInt8 := dkwX1_runs_5 ++ dktX1_runs_6
def dkwX1_runs_4 : List UInt8 := [45, 21, 4, 182, 0, 230, 54, 5, 21, 5, 21, 4, 100, 28, 161, 0, 27, 43, 187, 0, 233, 89, 21, 4]
abbrev dktX1_runs_4 : List UInt8 := dkwX1_runs_4 ++ dktX1_runs_5
def dkwX1_runs_3 : List UInt8 := [45, 21, 4, 182, 0, 224, 132, 4, 1, 167, 255, 210, 45, 28, 182, 0, 227, 54, 4, 21, 4, 155, 0, 55]
abbrev dktX1_runs_3 : List UInt8 := dkwX1_runs_3 ++ dktX1_runs_4
def dkwX1_runs_2 : List UInt8 := [180, 0, 45, 180, 0, 152, 21, 4, 51, 42, 180, 0, 45, 180, 0, 152, 21, 4, 28, 100, 51, 160, 0, 9]
abbrev dktX1_runs_2 : List UInt8 := dkwX1_runs_2 ++ dktX1_runs_3
def dkwX1_runs_1 : List UInt8 := [187, 0, 221, 89, 183, 0, 223, 78, 28, 54, 4, 21, 4, 42, 180, 0, 45, 180, 0, 132, 162, 0, 40, 42]
abbrev dktX1_runs_1 : List UInt8 := dkwX1_runs_1 ++ dktX1_runs_2
def dkwX1_runs_0 : List UInt8 := [187, 0, 105, 89, 183, 0, 220, 76, 4, 61, 5, 28, 104, 42, 180, 0, 45, 180, 0, 132, 163, 0, 133]
abbrev dktX1_runs_0 : List UInt8 := dkwX1_runs_0 ++ dktX1_runs_1
theorem dksX1_runs_0 : cX1_runs.data.toList.drop 0 = dktX1_runs_0 := by decide +kernel
theorem dksX1_runs_1 : cX1_runs.data.toList.drop 23 = dktX1_runs_1 := dk_seg dksX1_runs_0 23 rfl rfl
theorem dksX1_runs_2 : cX1_runs.data.toList.drop 47 = dktX1_runs_2 := dk_seg dksX1_runs_1 24 rfl rfl
theorem dksX1_runs_3 : cX1_runs.data.toList.drop 71 = dktX1_runs_3 := dk_seg dksX1_runs_2 24 rfl rfl
theorem dksX1_runs_4 : cX1_runs.data.toList.drop 95 = dktX1_runs_4 := dk_seg dksX1_runs_3 24 rfl rfl
theorem dksX1_runs_5 : cX1_runs.data.toList.drop 119 = dktX1_runs_5 := dk_seg dksX1_runs_4 24 rfl rfl
theorem dksX1_runs_6 : cX1_runs.data.toList.drop 142 = dktX1_runs_6 := dk_seg dksX1_runs_5 23 rfl rfl
theorem dksX1_runs_7 : cX1_runs.data.toList.drop 164 = dktX1_runs_7 := dk_seg dksX1_runs_6 22 rfl rfl
theorem dksX1_runs_8 : cX1_runs.data.toList.drop 186 = dktX1_runs_8 := dk_seg dksX1_runs_7 22 rfl rfl
theorem dksX1_runs_9 : cX1_runs.data.toList.drop 209 = dktX1_runs_9 := dk_seg dksX1_runs_8 23 rfl rfl
theorem dksX1_runs_10 : cX1_runs.data.toList.drop 233 = dktX1_runs_10 := dk_seg dksX1_runs_9 24 rfl rfl
theorem dksX1_runs_11 : cX1_runs.data.toList.drop 257 = dktX1_runs_11 := dk_seg dksX1_runs_10 24 rfl rfl
theorem dksX1_runs_12 : cX1_runs.data.toList.drop 279 = dktX1_runs_12 := dk_seg dksX1_runs_11 22 rfl rfl
theorem dX1_runs_0 : decode cX1_runs 0 = .ok (.new 105, 3) := dk_187 0 105 (dk_at dksX1_runs_0 0 rfl rfl)
theorem dX1_runs_3 : decode cX1_runs 3 = .ok (.dup, 1) := dk_89 (dk_at dksX1_runs_0 3 rfl rfl)
theorem dX1_runs_4 : decode cX1_runs 4 = .ok (.invokespecial 220, 3) := dk_183 0 220 (dk_at dksX1_runs_0 4 rfl rfl)
theorem dX1_runs_7 : decode cX1_runs 7 = .ok (.astore_n 1, 1) := dk_76 (dk_at dksX1_runs_0 7 rfl rfl)
theorem dX1_runs_8 : decode cX1_runs 8 = .ok (.iconst 1, 1) := dk_4 (dk_at dksX1_runs_0 8 rfl rfl)
theorem dX1_runs_9 : decode cX1_runs 9 = .ok (.istore_n 2, 1) := dk_61 (dk_at dksX1_runs_0 9 rfl rfl)
theorem dX1_runs_10 : decode cX1_runs 10 = .ok (.iconst 2, 1) := dk_5 (dk_at dksX1_runs_0 10 rfl rfl)
theorem dX1_runs_11 : decode cX1_runs 11 = .ok (.iload_n 2, 1) := dk_28 (dk_at dksX1_runs_0 11 rfl rfl)
theorem dX1_runs_12 : decode cX1_runs 12 = .ok (.imul, 1) := dk_104 (dk_at dksX1_runs_0 12 rfl rfl)
theorem dX1_runs_13 : decode cX1_runs 13 = .ok (.aload_n 0, 1) := dk_42 (dk_at dksX1_runs_0 13 rfl rfl)
theorem dX1_runs_14 : decode cX1_runs 14 = .ok (.getfield 45, 3) := dk_180 0 45 (dk_at dksX1_runs_0 14 rfl rfl)
theorem dX1_runs_17 : decode cX1_runs 17 = .ok (.getfield 132, 3) := dk_180 0 132 (dk_at dksX1_runs_0 17 rfl rfl)
theorem dX1_runs_20 : decode cX1_runs 20 = .ok (.if_icmp .gt 133, 3) := dk_163 0 133 (dk_at dksX1_runs_0 20 rfl rfl)
theorem dX1_runs_23 : decode cX1_runs 23 = .ok (.new 221, 3) := dk_187 0 221 (dk_at dksX1_runs_1 0 rfl rfl)
theorem dX1_runs_26 : decode cX1_runs 26 = .ok (.dup, 1) := dk_89 (dk_at dksX1_runs_1 3 rfl rfl)
theorem dX1_runs_27 : decode cX1_runs 27 = .ok (.invokespecial 223, 3) := dk_183 0 223 (dk_at dksX1_runs_1 4 rfl rfl)
theorem dX1_runs_30 : decode cX1_runs 30 = .ok (.astore_n 3, 1) := dk_78 (dk_at dksX1_runs_1 7 rfl rfl)
theorem dX1_runs_31 : decode cX1_runs 31 = .ok (.iload_n 2, 1) := dk_28 (dk_at dksX1_runs_1 8 rfl rfl)
theorem dX1_runs_32 : decode cX1_runs 32 = .ok (.istore 4, 2) := dk_54 4 (dk_at dksX1_runs_1 9 rfl rfl)
theorem dX1_runs_34 : decode cX1_runs 34 = .ok (.iload 4, 2) := dk_21 4 (dk_at dksX1_runs_1 11 rfl rfl)
theorem dX1_runs_36 : decode cX1_runs 36 = .ok (.aload_n 0, 1) := dk_42 (dk_at dksX1_runs_1 13 rfl rfl)
theorem dX1_runs_37 : decode cX1_runs 37 = .ok (.getfield 45, 3) := dk_180 0 45 (dk_at dksX1_runs_1 14 rfl rfl)
theorem dX1_runs_40 : decode cX1_runs 40 = .ok (.getfield 132, 3) := dk_180 0 132 (dk_at dksX1_runs_1 17 rfl rfl)
theorem dX1_runs_43 : decode cX1_runs 43 = .ok (.if_icmp .ge 40, 3) := dk_162 0 40 (dk_at dksX1_runs_1 20 rfl rfl)
theorem dX1_runs_46 : decode cX1_runs 46 = .ok (.aload_n 0, 1) := dk_42 (dk_at dksX1_runs_1 23 rfl rfl)
theorem dX1_runs_47 : decode cX1_runs 47 = .ok (.getfield 45, 3) := dk_180 0 45 (dk_at dksX1_runs_2 0 rfl rfl)
theorem dX1_runs_50 : decode cX1_runs 50 = .ok (.getfield 152, 3) := dk_180 0 152 (dk_at dksX1_runs_2 3 rfl rfl)
theorem dX1_runs_53 : decode cX1_runs 53 = .ok (.iload 4, 2) := dk_21 4 (dk_at dksX1_runs_2 6 rfl rfl)
theorem dX1_runs_55 : decode cX1_runs 55 = .ok (.baload, 1) := dk_51 (dk_at dksX1_runs_2 8 rfl rfl)
theorem dX1_runs_56 : decode cX1_runs 56 = .ok (.aload_n 0, 1) := dk_42 (dk_at dksX1_runs_2 9 rfl rfl)
theorem dX1_runs_57 : decode cX1_runs 57 = .ok (.getfield 45, 3) := dk_180 0 45 (dk_at dksX1_runs_2 10 rfl rfl)
theorem dX1_runs_60 : decode cX1_runs 60 = .ok (.getfield 152, 3) := dk_180 0 152 (dk_at dksX1_runs_2 13 rfl rfl)
theorem dX1_runs_63 : decode cX1_runs 63 = .ok (.iload 4, 2) := dk_21 4 (dk_at dksX1_runs_2 16 rfl rfl)
theorem dX1_runs_65 : decode cX1_runs 65 = .ok (.iload_n 2, 1) := dk_28 (dk_at dksX1_runs_2 18 rfl rfl)
theorem dX1_runs_66 : decode cX1_runs 66 = .ok (.isub, 1) := dk_100 (dk_at dksX1_runs_2 19 rfl rfl)
theorem dX1_runs_67 : decode cX1_runs 67 = .ok (.baload, 1) := dk_51 (dk_at dksX1_runs_2 20 rfl rfl)
theorem dX1_runs_68 : decode cX1_runs 68 = .ok (.if_icmp .ne 9, 3) := dk_160 0 9 (dk_at dksX1_runs_2 21 rfl rfl)
theorem dX1_runs_71 : decode cX1_runs 71 = .ok (.aload_n 3, 1) := dk_45 (dk_at dksX1_runs_3 0 rfl rfl)
theorem dX1_runs_72 : decode cX1_runs 72 = .ok (.iload 4, 2) := dk_21 4 (dk_at dksX1_runs_3 1 rfl rfl)
theorem dX1_runs_74 : decode cX1_runs 74 = .ok (.invokevirtual 224, 3) := dk_182 0 224 (dk_at dksX1_runs_3 3 rfl rfl)
theorem dX1_runs_77 : decode cX1_runs 77 = .ok (.iinc 4 1, 3) := dk_132 4 1 (dk_at dksX1_runs_3 6 rfl rfl)
theorem dX1_runs_80 : decode cX1_runs 80 = .ok (.goto (-46), 3) := dk_167 255 210 (dk_at dksX1_runs_3 9 rfl rfl)
theorem dX1_runs_83 : decode cX1_runs 83 = .ok (.aload_n 3, 1) := dk_45 (dk_at dksX1_runs_3 12 rfl rfl)
theorem dX1_runs_84 : decode cX1_runs 84 = .ok (.iload_n 2, 1) := dk_28 (dk_at dksX1_runs_3 13 rfl rfl)
theorem dX1_runs_85 : decode cX1_runs 85 = .ok (.invokevirtual 227, 3) := dk_182 0 227 (dk_at dksX1_runs_3 14 rfl rfl)
theorem dX1_runs_88 : decode cX1_runs 88 = .ok (.istore 4, 2) := dk_54 4 (dk_at dksX1_runs_3 17 rfl rfl)
theorem dX1_runs_90 : decode cX1_runs 90 = .ok (.iload 4, 2) := dk_21 4 (dk_at dksX1_runs_3 19 rfl rfl)
theorem dX1_runs_92 : decode cX1_runs 92 = .ok (.ifCond .lt 55, 3) := dk_155 0 55 (dk_at dksX1_runs_3 21 rfl rfl)
theorem dX1_runs_95 : decode cX1_runs 95 = .ok (.aload_n 3, 1) := dk_45 (dk_at dksX1_runs_4 0 rfl rfl)
theorem dX1_runs_96 : decode cX1_runs 96 = .ok (.iload 4, 2) := dk_21 4 (dk_at dksX1_runs_4 1 rfl rfl)
theorem dX1_runs_98 : decode cX1_runs 98 = .ok (.invokevirtual 230, 3) := dk_182 0 230 (dk_at dksX1_runs_4 3 rfl rfl)
theorem dX1_runs_101 : decode cX1_runs 101 = .ok (.istore 5, 2) := dk_54 5 (dk_at dksX1_runs_4 6 rfl rfl)
theorem dX1_runs_103 : decode cX1_runs 103 = .ok (.iload 5, 2) := dk_21 5 (dk_at dksX1_runs_4 8 rfl rfl)
theorem dX1_runs_105 : decode cX1_runs 105 = .ok (.iload 4, 2) := dk_21 4 (dk_at dksX1_runs_4 10 rfl rfl)
theorem dX1_runs_107 : decode cX1_runs 107 = .ok (.isub, 1) := dk_100 (dk_at dksX1_runs_4 12 rfl rfl)
theorem dX1_runs_108 : decode cX1_runs 108 = .ok (.iload_n 2, 1) := dk_28 (dk_at dksX1_runs_4 13 rfl rfl)
theorem dX1_runs_109 : decode cX1_runs 109 = .ok (.if_icmp .lt 27, 3) := dk_161 0 27 (dk_at dksX1_runs_4 14 rfl rfl)
theorem dX1_runs_112 : decode cX1_runs 112 = .ok (.aload_n 1, 1) := dk_43 (dk_at dksX1_runs_4 17 rfl rfl)
theorem dX1_runs_113 : decode cX1_runs 113 = .ok (.new 233, 3) := dk_187 0 233 (dk_at dksX1_runs_4 18 rfl rfl)
theorem dX1_runs_116 : decode cX1_runs 116 = .ok (.dup, 1) := dk_89 (dk_at dksX1_runs_4 21 rfl rfl)
theorem dX1_runs_117 : decode cX1_runs 117 = .ok (.iload 4, 2) := dk_21 4 (dk_at dksX1_runs_4 22 rfl rfl)
theorem dX1_runs_119 : decode cX1_runs 119 = .ok (.iload_n 2, 1) := dk_28 (dk_at dksX1_runs_5 0 rfl rfl)
theorem dX1_runs_120 : decode cX1_runs 120 = .ok (.isub, 1) := dk_100 (dk_at dksX1_runs_5 1 rfl rfl)
theorem dX1_runs_121 : decode cX1_runs 121 = .ok (.iload 5, 2) := dk_21 5 (dk_at dksX1_runs_5 2 rfl rfl)
theorem dX1_runs_123 : decode cX1_runs 123 = .ok (.iload 4, 2) := dk_21 4 (dk_at dksX1_runs_5 4 rfl rfl)
theorem dX1_runs_125 : decode cX1_runs 125 = .ok (.isub, 1) := dk_100 (dk_at dksX1_runs_5 6 rfl rfl)
theorem dX1_runs_126 : decode cX1_runs 126 = .ok (.iload_n 2, 1) := dk_28 (dk_at dksX1_runs_5 7 rfl rfl)
theorem dX1_runs_127 : decode cX1_runs 127 = .ok (.iadd, 1) := dk_96 (dk_at dksX1_runs_5 8 rfl rfl)
theorem dX1_runs_128 : decode cX1_runs 128 = .ok (.iload_n 2, 1) := dk_28 (dk_at dksX1_runs_5 9 rfl rfl)
theorem dX1_runs_129 : decode cX1_runs 129 = .ok (.invokespecial 235, 3) := dk_183 0 235 (dk_at dksX1_runs_5 10 rfl rfl)
theorem dX1_runs_132 : decode cX1_runs 132 = .ok (.invokevirtual 238, 3) := dk_182 0 238 (dk_at dksX1_runs_5 13 rfl rfl)
theorem dX1_runs_135 : decode cX1_runs 135 = .ok (.pop, 1) := dk_87 (dk_at dksX1_runs_5 16 rfl rfl)
theorem dX1_runs_136 : decode cX1_runs 136 = .ok (.aload_n 3, 1) := dk_45 (dk_at dksX1_runs_5 17 rfl rfl)
theorem dX1_runs_137 : decode cX1_runs 137 = .ok (.iload 5, 2) := dk_21 5 (dk_at dksX1_runs_5 18 rfl rfl)
theorem dX1_runs_139 : decode cX1_runs 139 = .ok (.invokevirtual 227, 3) := dk_182 0 227 (dk_at dksX1_runs_5 20 rfl rfl)
theorem dX1_runs_142 : decode cX1_runs 142 = .ok (.istore 4, 2) := dk_54 4 (dk_at dksX1_runs_6 0 rfl rfl)
theorem dX1_runs_144 : decode cX1_runs 144 = .ok (.goto (-54), 3) := dk_167 255 202 (dk_at dksX1_runs_6 2 rfl rfl)
theorem dX1_runs_147 : decode cX1_runs 147 = .ok (.iinc 2 1, 3) := dk_132 2 1 (dk_at dksX1_runs_6 5 rfl rfl)
theorem dX1_runs_150 : decode cX1_runs 150 = .ok (.goto (-140), 3) := dk_167 255 116 (dk_at dksX1_runs_6 8 rfl rfl)
theorem dX1_runs_153 : decode cX1_runs 153 = .ok (.aload_n 1, 1) := dk_43 (dk_at dksX1_runs_6 11 rfl rfl)
theorem dX1_runs_154 : decode cX1_runs 154 = .ok (.invokevirtual 104, 3) := dk_182 0 104 (dk_at dksX1_runs_6 12 rfl rfl)
theorem dX1_runs_157 : decode cX1_runs 157 = .ok (.astore_n 2, 1) := dk_77 (dk_at dksX1_runs_6 15 rfl rfl)
theorem dX1_runs_158 : decode cX1_runs 158 = .ok (.aload_n 2, 1) := dk_44 (dk_at dksX1_runs_6 16 rfl rfl)
theorem dX1_runs_159 : decode cX1_runs 159 = .ok (.invokeinterface 110 1, 5) := by decide +kernel
theorem dX1_runs_164 : decode cX1_runs 164 = .ok (.ifCond .eq 41, 3) := dk_153 0 41 (dk_at dksX1_runs_7 0 rfl rfl)
theorem dX1_runs_167 : decode cX1_runs 167 = .ok (.aload_n 2, 1) := dk_44 (dk_at dksX1_runs_7 3 rfl rfl)
theorem dX1_runs_168 : decode cX1_runs 168 = .ok (.invokeinterface 116 1, 5) := by decide +kernel
theorem dX1_runs_173 : decode cX1_runs 173 = .ok (.checkcast 233, 3) := dk_192 0 233 (dk_at dksX1_runs_7 9 rfl rfl)
theorem dX1_runs_176 : decode cX1_runs 176 = .ok (.astore_n 3, 1) := dk_78 (dk_at dksX1_runs_7 12 rfl rfl)
theorem dX1_runs_177 : decode cX1_runs 177 = .ok (.aload_n 0, 1) := dk_42 (dk_at dksX1_runs_7 13 rfl rfl)
theorem dX1_runs_178 : decode cX1_runs 178 = .ok (.aload_n 3, 1) := dk_45 (dk_at dksX1_runs_7 14 rfl rfl)
theorem dX1_runs_179 : decode cX1_runs 179 = .ok (.getfield 242, 3) := dk_180 0 242 (dk_at dksX1_runs_7 15 rfl rfl)
theorem dX1_runs_182 : decode cX1_runs 182 = .ok (.aload_n 3, 1) := dk_45 (dk_at dksX1_runs_7 18 rfl rfl)
theorem dX1_runs_183 : decode cX1_runs 183 = .ok (.getfield 243, 3) := dk_180 0 243 (dk_at dksX1_runs_7 19 rfl rfl)
theorem dX1_runs_186 : decode cX1_runs 186 = .ok (.invokevirtual 217, 3) := dk_182 0 217 (dk_at dksX1_runs_8 0 rfl rfl)
theorem dX1_runs_189 : decode cX1_runs 189 = .ok (.aload_n 3, 1) := dk_45 (dk_at dksX1_runs_8 3 rfl rfl)
theorem dX1_runs_190 : decode cX1_runs 190 = .ok (.getfield 245, 3) := dk_180 0 245 (dk_at dksX1_runs_8 4 rfl rfl)
theorem dX1_runs_193 : decode cX1_runs 193 = .ok (.if_icmp .ge 9, 3) := dk_162 0 9 (dk_at dksX1_runs_8 7 rfl rfl)
theorem dX1_runs_196 : decode cX1_runs 196 = .ok (.aload_n 2, 1) := dk_44 (dk_at dksX1_runs_8 10 rfl rfl)
theorem dX1_runs_197 : decode cX1_runs 197 = .ok (.invokeinterface 248 1, 5) := by decide +kernel
theorem dX1_runs_202 : decode cX1_runs 202 = .ok (.goto (-44), 3) := dk_167 255 212 (dk_at dksX1_runs_8 16 rfl rfl)
theorem dX1_runs_205 : decode cX1_runs 205 = .ok (.new 105, 3) := dk_187 0 105 (dk_at dksX1_runs_8 19 rfl rfl)
theorem dX1_runs_208 : decode cX1_runs 208 = .ok (.dup, 1) := dk_89 (dk_at dksX1_runs_8 22 rfl rfl)
theorem dX1_runs_209 : decode cX1_runs 209 = .ok (.invokespecial 220, 3) := dk_183 0 220 (dk_at dksX1_runs_9 0 rfl rfl)
theorem dX1_runs_212 : decode cX1_runs 212 = .ok (.astore_n 2, 1) := dk_77 (dk_at dksX1_runs_9 3 rfl rfl)
theorem dX1_runs_213 : decode cX1_runs 213 = .ok (.aload_n 1, 1) := dk_43 (dk_at dksX1_runs_9 4 rfl rfl)
theorem dX1_runs_214 : decode cX1_runs 214 = .ok (.invokevirtual 104, 3) := dk_182 0 104 (dk_at dksX1_runs_9 5 rfl rfl)
theorem dX1_runs_217 : decode cX1_runs 217 = .ok (.astore_n 3, 1) := dk_78 (dk_at dksX1_runs_9 8 rfl rfl)
theorem dX1_runs_218 : decode cX1_runs 218 = .ok (.aload_n 3, 1) := dk_45 (dk_at dksX1_runs_9 9 rfl rfl)
theorem dX1_runs_219 : decode cX1_runs 219 = .ok (.invokeinterface 110 1, 5) := by decide +kernel
theorem dX1_runs_224 : decode cX1_runs 224 = .ok (.ifCond .eq 61, 3) := dk_153 0 61 (dk_at dksX1_runs_9 15 rfl rfl)
theorem dX1_runs_227 : decode cX1_runs 227 = .ok (.aload_n 3, 1) := dk_45 (dk_at dksX1_runs_9 18 rfl rfl)
theorem dX1_runs_228 : decode cX1_runs 228 = .ok (.invokeinterface 116 1, 5) := by decide +kernel
theorem dX1_runs_233 : decode cX1_runs 233 = .ok (.checkcast 233, 3) := dk_192 0 233 (dk_at dksX1_runs_10 0 rfl rfl)
theorem dX1_runs_236 : decode cX1_runs 236 = .ok (.astore 4, 2) := dk_58 4 (dk_at dksX1_runs_10 3 rfl rfl)
theorem dX1_runs_238 : decode cX1_runs 238 = .ok (.aload_n 2, 1) := dk_44 (dk_at dksX1_runs_10 5 rfl rfl)
theorem dX1_runs_239 : decode cX1_runs 239 = .ok (.invokevirtual 251, 3) := dk_182 0 251 (dk_at dksX1_runs_10 6 rfl rfl)
theorem dX1_runs_242 : decode cX1_runs 242 = .ok (.istore 5, 2) := dk_54 5 (dk_at dksX1_runs_10 9 rfl rfl)
theorem dX1_runs_244 : decode cX1_runs 244 = .ok (.iload 5, 2) := dk_21 5 (dk_at dksX1_runs_10 11 rfl rfl)
theorem dX1_runs_246 : decode cX1_runs 246 = .ok (.ifCond .le 28, 3) := dk_158 0 28 (dk_at dksX1_runs_10 13 rfl rfl)
theorem dX1_runs_249 : decode cX1_runs 249 = .ok (.aload_n 2, 1) := dk_44 (dk_at dksX1_runs_10 16 rfl rfl)
theorem dX1_runs_250 : decode cX1_runs 250 = .ok (.iload 5, 2) := dk_21 5 (dk_at dksX1_runs_10 17 rfl rfl)
theorem dX1_runs_252 : decode cX1_runs 252 = .ok (.iconst 1, 1) := dk_4 (dk_at dksX1_runs_10 19 rfl rfl)
theorem dX1_runs_253 : decode cX1_runs 253 = .ok (.isub, 1) := dk_100 (dk_at dksX1_runs_10 20 rfl rfl)
theorem dX1_runs_254 : decode cX1_runs 254 = .ok (.invokevirtual 252, 3) := dk_182 0 252 (dk_at dksX1_runs_10 21 rfl rfl)
theorem dX1_runs_257 : decode cX1_runs 257 = .ok (.checkcast 233, 3) := dk_192 0 233 (dk_at dksX1_runs_11 0 rfl rfl)
theorem dX1_runs_260 : decode cX1_runs 260 = .ok (.aload 4, 2) := dk_25 4 (dk_at dksX1_runs_11 3 rfl rfl)
theorem dX1_runs_262 : decode cX1_runs 262 = .ok (.invokevirtual 256, 3) := dk_182 1 0 (dk_at dksX1_runs_11 5 rfl rfl)
theorem dX1_runs_265 : decode cX1_runs 265 = .ok (.ifCond .le 9, 3) := dk_158 0 9 (dk_at dksX1_runs_11 8 rfl rfl)
theorem dX1_runs_268 : decode cX1_runs 268 = .ok (.iinc 5 (-1), 3) := dk_132 5 255 (dk_at dksX1_runs_11 11 rfl rfl)
theorem dX1_runs_271 : decode cX1_runs 271 = .ok (.goto (-27), 3) := dk_167 255 229 (dk_at dksX1_runs_11 14 rfl rfl)
theorem dX1_runs_274 : decode cX1_runs 274 = .ok (.aload_n 2, 1) := dk_44 (dk_at dksX1_runs_11 17 rfl rfl)
theorem dX1_runs_275 : decode cX1_runs 275 = .ok (.iload 5, 2) := dk_21 5 (dk_at dksX1_runs_11 18 rfl rfl)
theorem dX1_runs_277 : decode cX1_runs 277 = .ok (.aload 4, 2) := dk_25 4 (dk_at dksX1_runs_11 20 rfl rfl)
theorem dX1_runs_279 : decode cX1_runs 279 = .ok (.invokevirtual 260, 3) := dk_182 1 4 (dk_at dksX1_runs_12 0 rfl rfl)
theorem dX1_runs_282 : decode cX1_runs 282 = .ok (.goto (-64), 3) := dk_167 255 192 (dk_at dksX1_runs_12 3 rfl rfl)
theorem dX1_runs_285 : decode cX1_runs 285 = .ok (.aload_n 2, 1) := dk_44 (dk_at dksX1_runs_12 6 rfl rfl)
theorem dX1_runs_286 : decode cX1_runs 286 = .ok (.areturn, 1) := dk_176 (dk_at dksX1_runs_12 7 rfl rfl)
abbrev cX1_factors : ByteArray := prog_1_method_34_code
def yX1_factors : MethodName := ⟨RX1, "factors", "(I)I"⟩
def dkwX1_factors_3 : List UInt8 := [167, 255, 221, 28, 21, 4, 153, 0, 7, 4, 167, 0, 4, 3, 96, 61, 132, 3, 1, 167, 255, 183, 28, 172]
abbrev dktX1_factors_3 : List UInt8 := dkwX1_factors_3 ++ []
def dkwX1_factors_2 : List UInt8 := [180, 0, 45, 21, 5, 29, 27, 182, 1, 13, 154, 0, 7, 4, 167, 0, 4, 3, 54, 4, 132, 5, 1]
abbrev dktX1_factors_2 : List UInt8 := dkwX1_factors_2 ++ dktX1_factors_3
def dkwX1_factors_1 : List UInt8 := [180, 0, 132, 163, 0, 66, 4, 54, 4, 3, 54, 5, 21, 5, 29, 162, 0, 35, 21, 4, 153, 0, 30, 42]
abbrev dktX1_factors_1 : List UInt8 := dkwX1_factors_1 ++ dktX1_factors_2
def dkwX1_factors_0 : List UInt8 := [27, 133, 10, 20, 1, 11, 184, 0, 128, 184, 0, 158, 3, 61, 3, 62, 29, 27, 96, 42, 180, 0, 45]
abbrev dktX1_factors_0 : List UInt8 := dkwX1_factors_0 ++ dktX1_factors_1
theorem dksX1_factors_0 : cX1_factors.data.toList.drop 0 = dktX1_factors_0 := by decide +kernel
theorem dksX1_factors_1 : cX1_factors.data.toList.drop 23 = dktX1_factors_1 := dk_seg dksX1_factors_0 23 rfl rfl
theorem dksX1_factors_2 : cX1_factors.data.toList.drop 47 = dktX1_factors_2 := dk_seg dksX1_factors_1 24 rfl rfl
theorem dksX1_factors_3 : cX1_factors.data.toList.drop 70 = dktX1_factors_3 := dk_seg dksX1_factors_2 23 rfl rfl
theorem dX1_factors_0 : decode cX1_factors 0 = .ok (.iload_n 1, 1) := dk_27 (dk_at dksX1_factors_0 0 rfl rfl)
theorem dX1_factors_1 : decode cX1_factors 1 = .ok (.i2l, 1) := dk_133 (dk_at dksX1_factors_0 1 rfl rfl)
theorem dX1_factors_2 : decode cX1_factors 2 = .ok (.lconst 1, 1) := dk_10 (dk_at dksX1_factors_0 2 rfl rfl)
theorem dX1_factors_3 : decode cX1_factors 3 = .ok (.ldc2_w 267, 3) := dk_20 1 11 (dk_at dksX1_factors_0 3 rfl rfl)
theorem dX1_factors_6 : decode cX1_factors 6 = .ok (.invokestatic 128, 3) := dk_184 0 128 (dk_at dksX1_factors_0 6 rfl rfl)
theorem dX1_factors_9 : decode cX1_factors 9 = .ok (.invokestatic 158, 3) := dk_184 0 158 (dk_at dksX1_factors_0 9 rfl rfl)
theorem dX1_factors_12 : decode cX1_factors 12 = .ok (.iconst 0, 1) := dk_3 (dk_at dksX1_factors_0 12 rfl rfl)
theorem dX1_factors_13 : decode cX1_factors 13 = .ok (.istore_n 2, 1) := dk_61 (dk_at dksX1_factors_0 13 rfl rfl)
theorem dX1_factors_14 : decode cX1_factors 14 = .ok (.iconst 0, 1) := dk_3 (dk_at dksX1_factors_0 14 rfl rfl)
theorem dX1_factors_15 : decode cX1_factors 15 = .ok (.istore_n 3, 1) := dk_62 (dk_at dksX1_factors_0 15 rfl rfl)
theorem dX1_factors_16 : decode cX1_factors 16 = .ok (.iload_n 3, 1) := dk_29 (dk_at dksX1_factors_0 16 rfl rfl)
theorem dX1_factors_17 : decode cX1_factors 17 = .ok (.iload_n 1, 1) := dk_27 (dk_at dksX1_factors_0 17 rfl rfl)
theorem dX1_factors_18 : decode cX1_factors 18 = .ok (.iadd, 1) := dk_96 (dk_at dksX1_factors_0 18 rfl rfl)
theorem dX1_factors_19 : decode cX1_factors 19 = .ok (.aload_n 0, 1) := dk_42 (dk_at dksX1_factors_0 19 rfl rfl)
theorem dX1_factors_20 : decode cX1_factors 20 = .ok (.getfield 45, 3) := dk_180 0 45 (dk_at dksX1_factors_0 20 rfl rfl)
theorem dX1_factors_23 : decode cX1_factors 23 = .ok (.getfield 132, 3) := dk_180 0 132 (dk_at dksX1_factors_1 0 rfl rfl)
theorem dX1_factors_26 : decode cX1_factors 26 = .ok (.if_icmp .gt 66, 3) := dk_163 0 66 (dk_at dksX1_factors_1 3 rfl rfl)
theorem dX1_factors_29 : decode cX1_factors 29 = .ok (.iconst 1, 1) := dk_4 (dk_at dksX1_factors_1 6 rfl rfl)
theorem dX1_factors_30 : decode cX1_factors 30 = .ok (.istore 4, 2) := dk_54 4 (dk_at dksX1_factors_1 7 rfl rfl)
theorem dX1_factors_32 : decode cX1_factors 32 = .ok (.iconst 0, 1) := dk_3 (dk_at dksX1_factors_1 9 rfl rfl)
theorem dX1_factors_33 : decode cX1_factors 33 = .ok (.istore 5, 2) := dk_54 5 (dk_at dksX1_factors_1 10 rfl rfl)
theorem dX1_factors_35 : decode cX1_factors 35 = .ok (.iload 5, 2) := dk_21 5 (dk_at dksX1_factors_1 12 rfl rfl)
theorem dX1_factors_37 : decode cX1_factors 37 = .ok (.iload_n 3, 1) := dk_29 (dk_at dksX1_factors_1 14 rfl rfl)
theorem dX1_factors_38 : decode cX1_factors 38 = .ok (.if_icmp .ge 35, 3) := dk_162 0 35 (dk_at dksX1_factors_1 15 rfl rfl)
theorem dX1_factors_41 : decode cX1_factors 41 = .ok (.iload 4, 2) := dk_21 4 (dk_at dksX1_factors_1 18 rfl rfl)
theorem dX1_factors_43 : decode cX1_factors 43 = .ok (.ifCond .eq 30, 3) := dk_153 0 30 (dk_at dksX1_factors_1 20 rfl rfl)
theorem dX1_factors_46 : decode cX1_factors 46 = .ok (.aload_n 0, 1) := dk_42 (dk_at dksX1_factors_1 23 rfl rfl)
theorem dX1_factors_47 : decode cX1_factors 47 = .ok (.getfield 45, 3) := dk_180 0 45 (dk_at dksX1_factors_2 0 rfl rfl)
theorem dX1_factors_50 : decode cX1_factors 50 = .ok (.iload 5, 2) := dk_21 5 (dk_at dksX1_factors_2 3 rfl rfl)
theorem dX1_factors_52 : decode cX1_factors 52 = .ok (.iload_n 3, 1) := dk_29 (dk_at dksX1_factors_2 5 rfl rfl)
theorem dX1_factors_53 : decode cX1_factors 53 = .ok (.iload_n 1, 1) := dk_27 (dk_at dksX1_factors_2 6 rfl rfl)
theorem dX1_factors_54 : decode cX1_factors 54 = .ok (.invokevirtual 269, 3) := dk_182 1 13 (dk_at dksX1_factors_2 7 rfl rfl)
theorem dX1_factors_57 : decode cX1_factors 57 = .ok (.ifCond .ne 7, 3) := dk_154 0 7 (dk_at dksX1_factors_2 10 rfl rfl)
theorem dX1_factors_60 : decode cX1_factors 60 = .ok (.iconst 1, 1) := dk_4 (dk_at dksX1_factors_2 13 rfl rfl)
theorem dX1_factors_61 : decode cX1_factors 61 = .ok (.goto 4, 3) := dk_167 0 4 (dk_at dksX1_factors_2 14 rfl rfl)
theorem dX1_factors_64 : decode cX1_factors 64 = .ok (.iconst 0, 1) := dk_3 (dk_at dksX1_factors_2 17 rfl rfl)
theorem dX1_factors_65 : decode cX1_factors 65 = .ok (.istore 4, 2) := dk_54 4 (dk_at dksX1_factors_2 18 rfl rfl)
theorem dX1_factors_67 : decode cX1_factors 67 = .ok (.iinc 5 1, 3) := dk_132 5 1 (dk_at dksX1_factors_2 20 rfl rfl)
theorem dX1_factors_70 : decode cX1_factors 70 = .ok (.goto (-35), 3) := dk_167 255 221 (dk_at dksX1_factors_3 0 rfl rfl)
theorem dX1_factors_73 : decode cX1_factors 73 = .ok (.iload_n 2, 1) := dk_28 (dk_at dksX1_factors_3 3 rfl rfl)
theorem dX1_factors_74 : decode cX1_factors 74 = .ok (.iload 4, 2) := dk_21 4 (dk_at dksX1_factors_3 4 rfl rfl)
theorem dX1_factors_76 : decode cX1_factors 76 = .ok (.ifCond .eq 7, 3) := dk_153 0 7 (dk_at dksX1_factors_3 6 rfl rfl)
theorem dX1_factors_79 : decode cX1_factors 79 = .ok (.iconst 1, 1) := dk_4 (dk_at dksX1_factors_3 9 rfl rfl)
theorem dX1_factors_80 : decode cX1_factors 80 = .ok (.goto 4, 3) := dk_167 0 4 (dk_at dksX1_factors_3 10 rfl rfl)
theorem dX1_factors_83 : decode cX1_factors 83 = .ok (.iconst 0, 1) := dk_3 (dk_at dksX1_factors_3 13 rfl rfl)
theorem dX1_factors_84 : decode cX1_factors 84 = .ok (.iadd, 1) := dk_96 (dk_at dksX1_factors_3 14 rfl rfl)
theorem dX1_factors_85 : decode cX1_factors 85 = .ok (.istore_n 2, 1) := dk_61 (dk_at dksX1_factors_3 15 rfl rfl)
theorem dX1_factors_86 : decode cX1_factors 86 = .ok (.iinc 3 1, 3) := dk_132 3 1 (dk_at dksX1_factors_3 16 rfl rfl)
theorem dX1_factors_89 : decode cX1_factors 89 = .ok (.goto (-73), 3) := dk_167 255 183 (dk_at dksX1_factors_3 19 rfl rfl)
theorem dX1_factors_92 : decode cX1_factors 92 = .ok (.iload_n 2, 1) := dk_28 (dk_at dksX1_factors_3 22 rfl rfl)
theorem dX1_factors_93 : decode cX1_factors 93 = .ok (.ireturn, 1) := dk_172 (dk_at dksX1_factors_3 23 rfl rfl)
abbrev cX1_met : ByteArray := prog_1_method_83_code
def yX1_met : MethodName := ⟨RX1, "met", "(II)I"⟩
def dkwX1_met_2 : List UInt8 := [180, 0, 45, 21, 4, 182, 1, 191, 28, 4, 100, 46, 172]
abbrev dktX1_met_2 : List UInt8 := dkwX1_met_2 ++ []
def dkwX1_met_1 : List UInt8 := [182, 1, 188, 54, 4, 28, 153, 0, 9, 21, 4, 2, 160, 0, 8, 21, 4, 167, 0, 17, 45, 42]
abbrev dktX1_met_1 : List UInt8 := dkwX1_met_1 ++ dktX1_met_2
def dkwX1_met_0 : List UInt8 := [42, 27, 182, 1, 73, 78, 28, 133, 9, 20, 1, 186, 184, 0, 128, 184, 0, 205, 45, 42, 180, 0, 45]
abbrev dktX1_met_0 : List UInt8 := dkwX1_met_0 ++ dktX1_met_1
theorem dksX1_met_0 : cX1_met.data.toList.drop 0 = dktX1_met_0 := by decide +kernel
theorem dksX1_met_1 : cX1_met.data.toList.drop 23 = dktX1_met_1 := dk_seg dksX1_met_0 23 rfl rfl
theorem dksX1_met_2 : cX1_met.data.toList.drop 45 = dktX1_met_2 := dk_seg dksX1_met_1 22 rfl rfl
theorem dX1_met_0 : decode cX1_met 0 = .ok (.aload_n 0, 1) := dk_42 (dk_at dksX1_met_0 0 rfl rfl)
theorem dX1_met_1 : decode cX1_met 1 = .ok (.iload_n 1, 1) := dk_27 (dk_at dksX1_met_0 1 rfl rfl)
theorem dX1_met_2 : decode cX1_met 2 = .ok (.invokevirtual 329, 3) := dk_182 1 73 (dk_at dksX1_met_0 2 rfl rfl)
theorem dX1_met_5 : decode cX1_met 5 = .ok (.astore_n 3, 1) := dk_78 (dk_at dksX1_met_0 5 rfl rfl)
theorem dX1_met_6 : decode cX1_met 6 = .ok (.iload_n 2, 1) := dk_28 (dk_at dksX1_met_0 6 rfl rfl)
theorem dX1_met_7 : decode cX1_met 7 = .ok (.i2l, 1) := dk_133 (dk_at dksX1_met_0 7 rfl rfl)
theorem dX1_met_8 : decode cX1_met 8 = .ok (.lconst 0, 1) := dk_9 (dk_at dksX1_met_0 8 rfl rfl)
theorem dX1_met_9 : decode cX1_met 9 = .ok (.ldc2_w 442, 3) := dk_20 1 186 (dk_at dksX1_met_0 9 rfl rfl)
theorem dX1_met_12 : decode cX1_met 12 = .ok (.invokestatic 128, 3) := dk_184 0 128 (dk_at dksX1_met_0 12 rfl rfl)
theorem dX1_met_15 : decode cX1_met 15 = .ok (.invokestatic 205, 3) := dk_184 0 205 (dk_at dksX1_met_0 15 rfl rfl)
theorem dX1_met_18 : decode cX1_met 18 = .ok (.aload_n 3, 1) := dk_45 (dk_at dksX1_met_0 18 rfl rfl)
theorem dX1_met_19 : decode cX1_met 19 = .ok (.aload_n 0, 1) := dk_42 (dk_at dksX1_met_0 19 rfl rfl)
theorem dX1_met_20 : decode cX1_met 20 = .ok (.getfield 45, 3) := dk_180 0 45 (dk_at dksX1_met_0 20 rfl rfl)
theorem dX1_met_23 : decode cX1_met 23 = .ok (.invokevirtual 444, 3) := dk_182 1 188 (dk_at dksX1_met_1 0 rfl rfl)
theorem dX1_met_26 : decode cX1_met 26 = .ok (.istore 4, 2) := dk_54 4 (dk_at dksX1_met_1 3 rfl rfl)
theorem dX1_met_28 : decode cX1_met 28 = .ok (.iload_n 2, 1) := dk_28 (dk_at dksX1_met_1 5 rfl rfl)
theorem dX1_met_29 : decode cX1_met 29 = .ok (.ifCond .eq 9, 3) := dk_153 0 9 (dk_at dksX1_met_1 6 rfl rfl)
theorem dX1_met_32 : decode cX1_met 32 = .ok (.iload 4, 2) := dk_21 4 (dk_at dksX1_met_1 9 rfl rfl)
theorem dX1_met_34 : decode cX1_met 34 = .ok (.iconst (-1), 1) := dk_2 (dk_at dksX1_met_1 11 rfl rfl)
theorem dX1_met_35 : decode cX1_met 35 = .ok (.if_icmp .ne 8, 3) := dk_160 0 8 (dk_at dksX1_met_1 12 rfl rfl)
theorem dX1_met_38 : decode cX1_met 38 = .ok (.iload 4, 2) := dk_21 4 (dk_at dksX1_met_1 15 rfl rfl)
theorem dX1_met_40 : decode cX1_met 40 = .ok (.goto 17, 3) := dk_167 0 17 (dk_at dksX1_met_1 17 rfl rfl)
theorem dX1_met_43 : decode cX1_met 43 = .ok (.aload_n 3, 1) := dk_45 (dk_at dksX1_met_1 20 rfl rfl)
theorem dX1_met_44 : decode cX1_met 44 = .ok (.aload_n 0, 1) := dk_42 (dk_at dksX1_met_1 21 rfl rfl)
theorem dX1_met_45 : decode cX1_met 45 = .ok (.getfield 45, 3) := dk_180 0 45 (dk_at dksX1_met_2 0 rfl rfl)
theorem dX1_met_48 : decode cX1_met 48 = .ok (.iload 4, 2) := dk_21 4 (dk_at dksX1_met_2 3 rfl rfl)
theorem dX1_met_50 : decode cX1_met 50 = .ok (.invokevirtual 447, 3) := dk_182 1 191 (dk_at dksX1_met_2 5 rfl rfl)
theorem dX1_met_53 : decode cX1_met 53 = .ok (.iload_n 2, 1) := dk_28 (dk_at dksX1_met_2 8 rfl rfl)
theorem dX1_met_54 : decode cX1_met 54 = .ok (.iconst 1, 1) := dk_4 (dk_at dksX1_met_2 9 rfl rfl)
theorem dX1_met_55 : decode cX1_met 55 = .ok (.isub, 1) := dk_100 (dk_at dksX1_met_2 10 rfl rfl)
theorem dX1_met_56 : decode cX1_met 56 = .ok (.iaload, 1) := dk_46 (dk_at dksX1_met_2 11 rfl rfl)
theorem dX1_met_57 : decode cX1_met 57 = .ok (.ireturn, 1) := dk_172 (dk_at dksX1_met_2 12 rfl rfl)
abbrev cX1_patternAt : ByteArray := prog_1_method_82_code
def yX1_patternAt : MethodName := ⟨RX1, "patternAt", "(I)LRepeatFree$Pattern;"⟩
def dkwX1_patternAt_1 : List UInt8 := [180, 0, 32, 180, 0, 100, 27, 182, 0, 252, 192, 0, 36, 176]
abbrev dktX1_patternAt_1 : List UInt8 := dkwX1_patternAt_1 ++ []
def dkwX1_patternAt_0 : List UInt8 := [27, 133, 9, 42, 180, 0, 32, 180, 0, 100, 182, 0, 251, 4, 100, 133, 184, 0, 128, 184, 1, 86, 42]
abbrev dktX1_patternAt_0 : List UInt8 := dkwX1_patternAt_0 ++ dktX1_patternAt_1
theorem dksX1_patternAt_0 : cX1_patternAt.data.toList.drop 0 = dktX1_patternAt_0 := by decide +kernel
theorem dksX1_patternAt_1 : cX1_patternAt.data.toList.drop 23 = dktX1_patternAt_1 := dk_seg dksX1_patternAt_0 23 rfl rfl
theorem dX1_patternAt_0 : decode cX1_patternAt 0 = .ok (.iload_n 1, 1) := dk_27 (dk_at dksX1_patternAt_0 0 rfl rfl)
theorem dX1_patternAt_1 : decode cX1_patternAt 1 = .ok (.i2l, 1) := dk_133 (dk_at dksX1_patternAt_0 1 rfl rfl)
theorem dX1_patternAt_2 : decode cX1_patternAt 2 = .ok (.lconst 0, 1) := dk_9 (dk_at dksX1_patternAt_0 2 rfl rfl)
theorem dX1_patternAt_3 : decode cX1_patternAt 3 = .ok (.aload_n 0, 1) := dk_42 (dk_at dksX1_patternAt_0 3 rfl rfl)
theorem dX1_patternAt_4 : decode cX1_patternAt 4 = .ok (.getfield 32, 3) := dk_180 0 32 (dk_at dksX1_patternAt_0 4 rfl rfl)
theorem dX1_patternAt_7 : decode cX1_patternAt 7 = .ok (.getfield 100, 3) := dk_180 0 100 (dk_at dksX1_patternAt_0 7 rfl rfl)
theorem dX1_patternAt_10 : decode cX1_patternAt 10 = .ok (.invokevirtual 251, 3) := dk_182 0 251 (dk_at dksX1_patternAt_0 10 rfl rfl)
theorem dX1_patternAt_13 : decode cX1_patternAt 13 = .ok (.iconst 1, 1) := dk_4 (dk_at dksX1_patternAt_0 13 rfl rfl)
theorem dX1_patternAt_14 : decode cX1_patternAt 14 = .ok (.isub, 1) := dk_100 (dk_at dksX1_patternAt_0 14 rfl rfl)
theorem dX1_patternAt_15 : decode cX1_patternAt 15 = .ok (.i2l, 1) := dk_133 (dk_at dksX1_patternAt_0 15 rfl rfl)
theorem dX1_patternAt_16 : decode cX1_patternAt 16 = .ok (.invokestatic 128, 3) := dk_184 0 128 (dk_at dksX1_patternAt_0 16 rfl rfl)
theorem dX1_patternAt_19 : decode cX1_patternAt 19 = .ok (.invokestatic 342, 3) := dk_184 1 86 (dk_at dksX1_patternAt_0 19 rfl rfl)
theorem dX1_patternAt_22 : decode cX1_patternAt 22 = .ok (.aload_n 0, 1) := dk_42 (dk_at dksX1_patternAt_0 22 rfl rfl)
theorem dX1_patternAt_23 : decode cX1_patternAt 23 = .ok (.getfield 32, 3) := dk_180 0 32 (dk_at dksX1_patternAt_1 0 rfl rfl)
theorem dX1_patternAt_26 : decode cX1_patternAt 26 = .ok (.getfield 100, 3) := dk_180 0 100 (dk_at dksX1_patternAt_1 3 rfl rfl)
theorem dX1_patternAt_29 : decode cX1_patternAt 29 = .ok (.iload_n 1, 1) := dk_27 (dk_at dksX1_patternAt_1 6 rfl rfl)
theorem dX1_patternAt_30 : decode cX1_patternAt 30 = .ok (.invokevirtual 252, 3) := dk_182 0 252 (dk_at dksX1_patternAt_1 7 rfl rfl)
theorem dX1_patternAt_33 : decode cX1_patternAt 33 = .ok (.checkcast 36, 3) := dk_192 0 36 (dk_at dksX1_patternAt_1 10 rfl rfl)
theorem dX1_patternAt_36 : decode cX1_patternAt 36 = .ok (.areturn, 1) := dk_176 (dk_at dksX1_patternAt_1 13 rfl rfl)
abbrev cX1_mustBe : ByteArray := prog_1_method_5_code
def yX1_mustBe : MethodName := ⟨RX1, "mustBe", "(Z)V"⟩
def dkwX1_mustBe_0 : List UInt8 := [26, 154, 0, 11, 187, 0, 10, 89, 183, 0, 12, 191, 177]
abbrev dktX1_mustBe_0 : List UInt8 := dkwX1_mustBe_0 ++ []
theorem dksX1_mustBe_0 : cX1_mustBe.data.toList.drop 0 = dktX1_mustBe_0 := by decide +kernel
theorem dX1_mustBe_0 : decode cX1_mustBe 0 = .ok (.iload_n 0, 1) := dk_26 (dk_at dksX1_mustBe_0 0 rfl rfl)
theorem dX1_mustBe_1 : decode cX1_mustBe 1 = .ok (.ifCond .ne 11, 3) := dk_154 0 11 (dk_at dksX1_mustBe_0 1 rfl rfl)
theorem dX1_mustBe_4 : decode cX1_mustBe 4 = .ok (.new 10, 3) := dk_187 0 10 (dk_at dksX1_mustBe_0 4 rfl rfl)
theorem dX1_mustBe_7 : decode cX1_mustBe 7 = .ok (.dup, 1) := dk_89 (dk_at dksX1_mustBe_0 7 rfl rfl)
theorem dX1_mustBe_8 : decode cX1_mustBe 8 = .ok (.invokespecial 12, 3) := dk_183 0 12 (dk_at dksX1_mustBe_0 8 rfl rfl)
theorem dX1_mustBe_11 : decode cX1_mustBe 11 = .ok (.athrow, 1) := dk_191 (dk_at dksX1_mustBe_0 11 rfl rfl)
theorem dX1_mustBe_12 : decode cX1_mustBe 12 = .ok (.return_, 1) := dk_177 (dk_at dksX1_mustBe_0 12 rfl rfl)
abbrev cX1_has : ByteArray := prog_1_method_2_code
def yX1_has : MethodName := ⟨RX1, "has", "(II)Z"⟩
def dkwX1_has_0 : List UInt8 := [26, 27, 122, 4, 126, 4, 160, 0, 7, 4, 167, 0, 4, 3, 172]
abbrev dktX1_has_0 : List UInt8 := dkwX1_has_0 ++ []
theorem dksX1_has_0 : cX1_has.data.toList.drop 0 = dktX1_has_0 := by decide +kernel
theorem dX1_has_0 : decode cX1_has 0 = .ok (.iload_n 0, 1) := dk_26 (dk_at dksX1_has_0 0 rfl rfl)
theorem dX1_has_1 : decode cX1_has 1 = .ok (.iload_n 1, 1) := dk_27 (dk_at dksX1_has_0 1 rfl rfl)
theorem dX1_has_2 : decode cX1_has 2 = .ok (.ishr, 1) := dk_122 (dk_at dksX1_has_0 2 rfl rfl)
theorem dX1_has_3 : decode cX1_has 3 = .ok (.iconst 1, 1) := dk_4 (dk_at dksX1_has_0 3 rfl rfl)
theorem dX1_has_4 : decode cX1_has 4 = .ok (.iand, 1) := dk_126 (dk_at dksX1_has_0 4 rfl rfl)
theorem dX1_has_5 : decode cX1_has 5 = .ok (.iconst 1, 1) := dk_4 (dk_at dksX1_has_0 5 rfl rfl)
theorem dX1_has_6 : decode cX1_has 6 = .ok (.if_icmp .ne 7, 3) := dk_160 0 7 (dk_at dksX1_has_0 6 rfl rfl)
theorem dX1_has_9 : decode cX1_has 9 = .ok (.iconst 1, 1) := dk_4 (dk_at dksX1_has_0 9 rfl rfl)
theorem dX1_has_10 : decode cX1_has 10 = .ok (.goto 4, 3) := dk_167 0 4 (dk_at dksX1_has_0 10 rfl rfl)
theorem dX1_has_13 : decode cX1_has 13 = .ok (.iconst 0, 1) := dk_3 (dk_at dksX1_has_0 13 rfl rfl)
theorem dX1_has_14 : decode cX1_has 14 = .ok (.ireturn, 1) := dk_172 (dk_at dksX1_has_0 14 rfl rfl)
abbrev cX1_first : ByteArray := prog_1_method_39_code
def yX1_first : MethodName := ⟨RX1, "first", "(I)I"⟩
def dkwX1_first_2 : List UInt8 := [167, 0, 4, 2, 172, 42, 44, 180, 1, 39, 182, 0, 138, 44, 180, 1, 42, 172]
abbrev dktX1_first_2 : List UInt8 := dkwX1_first_2 ++ []
def dkwX1_first_1 : List UInt8 := [183, 1, 28, 77, 44, 27, 3, 3, 182, 1, 31, 154, 0, 17, 44, 180, 1, 34, 153, 0, 8, 16, 254]
abbrev dktX1_first_1 : List UInt8 := dkwX1_first_1 ++ dktX1_first_2
def dkwX1_first_0 : List UInt8 := [27, 133, 10, 20, 1, 37, 184, 0, 128, 184, 0, 158, 187, 1, 26, 89, 42, 187, 0, 42, 89, 183, 0, 44]
abbrev dktX1_first_0 : List UInt8 := dkwX1_first_0 ++ dktX1_first_1
theorem dksX1_first_0 : cX1_first.data.toList.drop 0 = dktX1_first_0 := by decide +kernel
theorem dksX1_first_1 : cX1_first.data.toList.drop 24 = dktX1_first_1 := dk_seg dksX1_first_0 24 rfl rfl
theorem dksX1_first_2 : cX1_first.data.toList.drop 47 = dktX1_first_2 := dk_seg dksX1_first_1 23 rfl rfl
theorem dX1_first_0 : decode cX1_first 0 = .ok (.iload_n 1, 1) := dk_27 (dk_at dksX1_first_0 0 rfl rfl)
theorem dX1_first_1 : decode cX1_first 1 = .ok (.i2l, 1) := dk_133 (dk_at dksX1_first_0 1 rfl rfl)
theorem dX1_first_2 : decode cX1_first 2 = .ok (.lconst 1, 1) := dk_10 (dk_at dksX1_first_0 2 rfl rfl)
theorem dX1_first_3 : decode cX1_first 3 = .ok (.ldc2_w 293, 3) := dk_20 1 37 (dk_at dksX1_first_0 3 rfl rfl)
theorem dX1_first_6 : decode cX1_first 6 = .ok (.invokestatic 128, 3) := dk_184 0 128 (dk_at dksX1_first_0 6 rfl rfl)
theorem dX1_first_9 : decode cX1_first 9 = .ok (.invokestatic 158, 3) := dk_184 0 158 (dk_at dksX1_first_0 9 rfl rfl)
theorem dX1_first_12 : decode cX1_first 12 = .ok (.new 282, 3) := dk_187 1 26 (dk_at dksX1_first_0 12 rfl rfl)
theorem dX1_first_15 : decode cX1_first 15 = .ok (.dup, 1) := dk_89 (dk_at dksX1_first_0 15 rfl rfl)
theorem dX1_first_16 : decode cX1_first 16 = .ok (.aload_n 0, 1) := dk_42 (dk_at dksX1_first_0 16 rfl rfl)
theorem dX1_first_17 : decode cX1_first 17 = .ok (.new 42, 3) := dk_187 0 42 (dk_at dksX1_first_0 17 rfl rfl)
theorem dX1_first_20 : decode cX1_first 20 = .ok (.dup, 1) := dk_89 (dk_at dksX1_first_0 20 rfl rfl)
theorem dX1_first_21 : decode cX1_first 21 = .ok (.invokespecial 44, 3) := dk_183 0 44 (dk_at dksX1_first_0 21 rfl rfl)
theorem dX1_first_24 : decode cX1_first 24 = .ok (.invokespecial 284, 3) := dk_183 1 28 (dk_at dksX1_first_1 0 rfl rfl)
theorem dX1_first_27 : decode cX1_first 27 = .ok (.astore_n 2, 1) := dk_77 (dk_at dksX1_first_1 3 rfl rfl)
theorem dX1_first_28 : decode cX1_first 28 = .ok (.aload_n 2, 1) := dk_44 (dk_at dksX1_first_1 4 rfl rfl)
theorem dX1_first_29 : decode cX1_first 29 = .ok (.iload_n 1, 1) := dk_27 (dk_at dksX1_first_1 5 rfl rfl)
theorem dX1_first_30 : decode cX1_first 30 = .ok (.iconst 0, 1) := dk_3 (dk_at dksX1_first_1 6 rfl rfl)
theorem dX1_first_31 : decode cX1_first 31 = .ok (.iconst 0, 1) := dk_3 (dk_at dksX1_first_1 7 rfl rfl)
theorem dX1_first_32 : decode cX1_first 32 = .ok (.invokevirtual 287, 3) := dk_182 1 31 (dk_at dksX1_first_1 8 rfl rfl)
theorem dX1_first_35 : decode cX1_first 35 = .ok (.ifCond .ne 17, 3) := dk_154 0 17 (dk_at dksX1_first_1 11 rfl rfl)
theorem dX1_first_38 : decode cX1_first 38 = .ok (.aload_n 2, 1) := dk_44 (dk_at dksX1_first_1 14 rfl rfl)
theorem dX1_first_39 : decode cX1_first 39 = .ok (.getfield 290, 3) := dk_180 1 34 (dk_at dksX1_first_1 15 rfl rfl)
theorem dX1_first_42 : decode cX1_first 42 = .ok (.ifCond .eq 8, 3) := dk_153 0 8 (dk_at dksX1_first_1 18 rfl rfl)
theorem dX1_first_45 : decode cX1_first 45 = .ok (.bipush (-2), 2) := dk_16 254 (dk_at dksX1_first_1 21 rfl rfl)
theorem dX1_first_47 : decode cX1_first 47 = .ok (.goto 4, 3) := dk_167 0 4 (dk_at dksX1_first_2 0 rfl rfl)
theorem dX1_first_50 : decode cX1_first 50 = .ok (.iconst (-1), 1) := dk_2 (dk_at dksX1_first_2 3 rfl rfl)
theorem dX1_first_51 : decode cX1_first 51 = .ok (.ireturn, 1) := dk_172 (dk_at dksX1_first_2 4 rfl rfl)
theorem dX1_first_52 : decode cX1_first 52 = .ok (.aload_n 0, 1) := dk_42 (dk_at dksX1_first_2 5 rfl rfl)
theorem dX1_first_53 : decode cX1_first 53 = .ok (.aload_n 2, 1) := dk_44 (dk_at dksX1_first_2 6 rfl rfl)
theorem dX1_first_54 : decode cX1_first 54 = .ok (.getfield 295, 3) := dk_180 1 39 (dk_at dksX1_first_2 7 rfl rfl)
theorem dX1_first_57 : decode cX1_first 57 = .ok (.invokevirtual 138, 3) := dk_182 0 138 (dk_at dksX1_first_2 10 rfl rfl)
theorem dX1_first_60 : decode cX1_first 60 = .ok (.aload_n 2, 1) := dk_44 (dk_at dksX1_first_2 13 rfl rfl)
theorem dX1_first_61 : decode cX1_first 61 = .ok (.getfield 298, 3) := dk_180 1 42 (dk_at dksX1_first_2 14 rfl rfl)
theorem dX1_first_64 : decode cX1_first 64 = .ok (.ireturn, 1) := dk_172 (dk_at dksX1_first_2 17 rfl rfl)
abbrev cX1_next : ByteArray := prog_1_method_40_code
def yX1_next : MethodName := ⟨RX1, "next", "()I"⟩
def dkwX1_next_6 : List UInt8 := [25, 6, 180, 1, 42, 62, 132, 4, 255, 167, 255, 151, 2, 172]
abbrev dktX1_next_6 : List UInt8 := dkwX1_next_6 ++ []
def dkwX1_next_5 : List UInt8 := [153, 0, 12, 42, 25, 5, 182, 0, 138, 21, 4, 172, 25, 6, 180, 1, 34, 153, 0, 6, 16, 254, 172]
abbrev dktX1_next_5 : List UInt8 := dkwX1_next_5 ++ dktX1_next_6
def dkwX1_next_4 : List UInt8 := [181, 1, 42, 25, 6, 27, 21, 4, 42, 180, 0, 45, 180, 0, 152, 21, 4, 51, 4, 96, 182, 1, 31]
abbrev dktX1_next_4 : List UInt8 := dkwX1_next_4 ++ dktX1_next_5
def dkwX1_next_3 : List UInt8 := [58, 5, 25, 5, 21, 4, 181, 0, 132, 187, 1, 26, 89, 42, 25, 5, 183, 1, 28, 58, 6, 25, 6, 29]
abbrev dktX1_next_3 : List UInt8 := dkwX1_next_3 ++ dktX1_next_4
def dkwX1_next_2 : List UInt8 := [155, 0, 106, 28, 2, 159, 0, 12, 21, 4, 28, 164, 0, 6, 167, 0, 86, 42, 180, 0, 45, 182, 0, 165]
abbrev dktX1_next_2 : List UInt8 := dkwX1_next_2 ++ dktX1_next_3
def dkwX1_next_1 : List UInt8 := [180, 0, 132, 60, 42, 42, 180, 0, 45, 182, 0, 199, 61, 3, 62, 27, 4, 100, 54, 4, 21, 4]
abbrev dktX1_next_1 : List UInt8 := dkwX1_next_1 ++ dktX1_next_2
def dkwX1_next_0 : List UInt8 := [42, 180, 0, 45, 180, 0, 132, 16, 40, 163, 0, 7, 4, 167, 0, 4, 3, 184, 0, 162, 42, 180, 0, 45]
abbrev dktX1_next_0 : List UInt8 := dkwX1_next_0 ++ dktX1_next_1
theorem dksX1_next_0 : cX1_next.data.toList.drop 0 = dktX1_next_0 := by decide +kernel
theorem dksX1_next_1 : cX1_next.data.toList.drop 24 = dktX1_next_1 := dk_seg dksX1_next_0 24 rfl rfl
theorem dksX1_next_2 : cX1_next.data.toList.drop 46 = dktX1_next_2 := dk_seg dksX1_next_1 22 rfl rfl
theorem dksX1_next_3 : cX1_next.data.toList.drop 70 = dktX1_next_3 := dk_seg dksX1_next_2 24 rfl rfl
theorem dksX1_next_4 : cX1_next.data.toList.drop 94 = dktX1_next_4 := dk_seg dksX1_next_3 24 rfl rfl
theorem dksX1_next_5 : cX1_next.data.toList.drop 117 = dktX1_next_5 := dk_seg dksX1_next_4 23 rfl rfl
theorem dksX1_next_6 : cX1_next.data.toList.drop 140 = dktX1_next_6 := dk_seg dksX1_next_5 23 rfl rfl
theorem dX1_next_0 : decode cX1_next 0 = .ok (.aload_n 0, 1) := dk_42 (dk_at dksX1_next_0 0 rfl rfl)
theorem dX1_next_1 : decode cX1_next 1 = .ok (.getfield 45, 3) := dk_180 0 45 (dk_at dksX1_next_0 1 rfl rfl)
theorem dX1_next_4 : decode cX1_next 4 = .ok (.getfield 132, 3) := dk_180 0 132 (dk_at dksX1_next_0 4 rfl rfl)
theorem dX1_next_7 : decode cX1_next 7 = .ok (.bipush 40, 2) := dk_16 40 (dk_at dksX1_next_0 7 rfl rfl)
theorem dX1_next_9 : decode cX1_next 9 = .ok (.if_icmp .gt 7, 3) := dk_163 0 7 (dk_at dksX1_next_0 9 rfl rfl)
theorem dX1_next_12 : decode cX1_next 12 = .ok (.iconst 1, 1) := dk_4 (dk_at dksX1_next_0 12 rfl rfl)
theorem dX1_next_13 : decode cX1_next 13 = .ok (.goto 4, 3) := dk_167 0 4 (dk_at dksX1_next_0 13 rfl rfl)
theorem dX1_next_16 : decode cX1_next 16 = .ok (.iconst 0, 1) := dk_3 (dk_at dksX1_next_0 16 rfl rfl)
theorem dX1_next_17 : decode cX1_next 17 = .ok (.invokestatic 162, 3) := dk_184 0 162 (dk_at dksX1_next_0 17 rfl rfl)
theorem dX1_next_20 : decode cX1_next 20 = .ok (.aload_n 0, 1) := dk_42 (dk_at dksX1_next_0 20 rfl rfl)
theorem dX1_next_21 : decode cX1_next 21 = .ok (.getfield 45, 3) := dk_180 0 45 (dk_at dksX1_next_0 21 rfl rfl)
theorem dX1_next_24 : decode cX1_next 24 = .ok (.getfield 132, 3) := dk_180 0 132 (dk_at dksX1_next_1 0 rfl rfl)
theorem dX1_next_27 : decode cX1_next 27 = .ok (.istore_n 1, 1) := dk_60 (dk_at dksX1_next_1 3 rfl rfl)
theorem dX1_next_28 : decode cX1_next 28 = .ok (.aload_n 0, 1) := dk_42 (dk_at dksX1_next_1 4 rfl rfl)
theorem dX1_next_29 : decode cX1_next 29 = .ok (.aload_n 0, 1) := dk_42 (dk_at dksX1_next_1 5 rfl rfl)
theorem dX1_next_30 : decode cX1_next 30 = .ok (.getfield 45, 3) := dk_180 0 45 (dk_at dksX1_next_1 6 rfl rfl)
theorem dX1_next_33 : decode cX1_next 33 = .ok (.invokevirtual 199, 3) := dk_182 0 199 (dk_at dksX1_next_1 9 rfl rfl)
theorem dX1_next_36 : decode cX1_next 36 = .ok (.istore_n 2, 1) := dk_61 (dk_at dksX1_next_1 12 rfl rfl)
theorem dX1_next_37 : decode cX1_next 37 = .ok (.iconst 0, 1) := dk_3 (dk_at dksX1_next_1 13 rfl rfl)
theorem dX1_next_38 : decode cX1_next 38 = .ok (.istore_n 3, 1) := dk_62 (dk_at dksX1_next_1 14 rfl rfl)
theorem dX1_next_39 : decode cX1_next 39 = .ok (.iload_n 1, 1) := dk_27 (dk_at dksX1_next_1 15 rfl rfl)
theorem dX1_next_40 : decode cX1_next 40 = .ok (.iconst 1, 1) := dk_4 (dk_at dksX1_next_1 16 rfl rfl)
theorem dX1_next_41 : decode cX1_next 41 = .ok (.isub, 1) := dk_100 (dk_at dksX1_next_1 17 rfl rfl)
theorem dX1_next_42 : decode cX1_next 42 = .ok (.istore 4, 2) := dk_54 4 (dk_at dksX1_next_1 18 rfl rfl)
theorem dX1_next_44 : decode cX1_next 44 = .ok (.iload 4, 2) := dk_21 4 (dk_at dksX1_next_1 20 rfl rfl)
theorem dX1_next_46 : decode cX1_next 46 = .ok (.ifCond .lt 106, 3) := dk_155 0 106 (dk_at dksX1_next_2 0 rfl rfl)
theorem dX1_next_49 : decode cX1_next 49 = .ok (.iload_n 2, 1) := dk_28 (dk_at dksX1_next_2 3 rfl rfl)
theorem dX1_next_50 : decode cX1_next 50 = .ok (.iconst (-1), 1) := dk_2 (dk_at dksX1_next_2 4 rfl rfl)
theorem dX1_next_51 : decode cX1_next 51 = .ok (.if_icmp .eq 12, 3) := dk_159 0 12 (dk_at dksX1_next_2 5 rfl rfl)
theorem dX1_next_54 : decode cX1_next 54 = .ok (.iload 4, 2) := dk_21 4 (dk_at dksX1_next_2 8 rfl rfl)
theorem dX1_next_56 : decode cX1_next 56 = .ok (.iload_n 2, 1) := dk_28 (dk_at dksX1_next_2 10 rfl rfl)
theorem dX1_next_57 : decode cX1_next 57 = .ok (.if_icmp .le 6, 3) := dk_164 0 6 (dk_at dksX1_next_2 11 rfl rfl)
theorem dX1_next_60 : decode cX1_next 60 = .ok (.goto 86, 3) := dk_167 0 86 (dk_at dksX1_next_2 14 rfl rfl)
theorem dX1_next_63 : decode cX1_next 63 = .ok (.aload_n 0, 1) := dk_42 (dk_at dksX1_next_2 17 rfl rfl)
theorem dX1_next_64 : decode cX1_next 64 = .ok (.getfield 45, 3) := dk_180 0 45 (dk_at dksX1_next_2 18 rfl rfl)
theorem dX1_next_67 : decode cX1_next 67 = .ok (.invokevirtual 165, 3) := dk_182 0 165 (dk_at dksX1_next_2 21 rfl rfl)
theorem dX1_next_70 : decode cX1_next 70 = .ok (.astore 5, 2) := dk_58 5 (dk_at dksX1_next_3 0 rfl rfl)
theorem dX1_next_72 : decode cX1_next 72 = .ok (.aload 5, 2) := dk_25 5 (dk_at dksX1_next_3 2 rfl rfl)
theorem dX1_next_74 : decode cX1_next 74 = .ok (.iload 4, 2) := dk_21 4 (dk_at dksX1_next_3 4 rfl rfl)
theorem dX1_next_76 : decode cX1_next 76 = .ok (.putfield 132, 3) := dk_181 0 132 (dk_at dksX1_next_3 6 rfl rfl)
theorem dX1_next_79 : decode cX1_next 79 = .ok (.new 282, 3) := dk_187 1 26 (dk_at dksX1_next_3 9 rfl rfl)
theorem dX1_next_82 : decode cX1_next 82 = .ok (.dup, 1) := dk_89 (dk_at dksX1_next_3 12 rfl rfl)
theorem dX1_next_83 : decode cX1_next 83 = .ok (.aload_n 0, 1) := dk_42 (dk_at dksX1_next_3 13 rfl rfl)
theorem dX1_next_84 : decode cX1_next 84 = .ok (.aload 5, 2) := dk_25 5 (dk_at dksX1_next_3 14 rfl rfl)
theorem dX1_next_86 : decode cX1_next 86 = .ok (.invokespecial 284, 3) := dk_183 1 28 (dk_at dksX1_next_3 16 rfl rfl)
theorem dX1_next_89 : decode cX1_next 89 = .ok (.astore 6, 2) := dk_58 6 (dk_at dksX1_next_3 19 rfl rfl)
theorem dX1_next_91 : decode cX1_next 91 = .ok (.aload 6, 2) := dk_25 6 (dk_at dksX1_next_3 21 rfl rfl)
theorem dX1_next_93 : decode cX1_next 93 = .ok (.iload_n 3, 1) := dk_29 (dk_at dksX1_next_3 23 rfl rfl)
theorem dX1_next_94 : decode cX1_next 94 = .ok (.putfield 298, 3) := dk_181 1 42 (dk_at dksX1_next_4 0 rfl rfl)
theorem dX1_next_97 : decode cX1_next 97 = .ok (.aload 6, 2) := dk_25 6 (dk_at dksX1_next_4 3 rfl rfl)
theorem dX1_next_99 : decode cX1_next 99 = .ok (.iload_n 1, 1) := dk_27 (dk_at dksX1_next_4 5 rfl rfl)
theorem dX1_next_100 : decode cX1_next 100 = .ok (.iload 4, 2) := dk_21 4 (dk_at dksX1_next_4 6 rfl rfl)
theorem dX1_next_102 : decode cX1_next 102 = .ok (.aload_n 0, 1) := dk_42 (dk_at dksX1_next_4 8 rfl rfl)
theorem dX1_next_103 : decode cX1_next 103 = .ok (.getfield 45, 3) := dk_180 0 45 (dk_at dksX1_next_4 9 rfl rfl)
theorem dX1_next_106 : decode cX1_next 106 = .ok (.getfield 152, 3) := dk_180 0 152 (dk_at dksX1_next_4 12 rfl rfl)
theorem dX1_next_109 : decode cX1_next 109 = .ok (.iload 4, 2) := dk_21 4 (dk_at dksX1_next_4 15 rfl rfl)
theorem dX1_next_111 : decode cX1_next 111 = .ok (.baload, 1) := dk_51 (dk_at dksX1_next_4 17 rfl rfl)
theorem dX1_next_112 : decode cX1_next 112 = .ok (.iconst 1, 1) := dk_4 (dk_at dksX1_next_4 18 rfl rfl)
theorem dX1_next_113 : decode cX1_next 113 = .ok (.iadd, 1) := dk_96 (dk_at dksX1_next_4 19 rfl rfl)
theorem dX1_next_114 : decode cX1_next 114 = .ok (.invokevirtual 287, 3) := dk_182 1 31 (dk_at dksX1_next_4 20 rfl rfl)
theorem dX1_next_117 : decode cX1_next 117 = .ok (.ifCond .eq 12, 3) := dk_153 0 12 (dk_at dksX1_next_5 0 rfl rfl)
theorem dX1_next_120 : decode cX1_next 120 = .ok (.aload_n 0, 1) := dk_42 (dk_at dksX1_next_5 3 rfl rfl)
theorem dX1_next_121 : decode cX1_next 121 = .ok (.aload 5, 2) := dk_25 5 (dk_at dksX1_next_5 4 rfl rfl)
theorem dX1_next_123 : decode cX1_next 123 = .ok (.invokevirtual 138, 3) := dk_182 0 138 (dk_at dksX1_next_5 6 rfl rfl)
theorem dX1_next_126 : decode cX1_next 126 = .ok (.iload 4, 2) := dk_21 4 (dk_at dksX1_next_5 9 rfl rfl)
theorem dX1_next_128 : decode cX1_next 128 = .ok (.ireturn, 1) := dk_172 (dk_at dksX1_next_5 11 rfl rfl)
theorem dX1_next_129 : decode cX1_next 129 = .ok (.aload 6, 2) := dk_25 6 (dk_at dksX1_next_5 12 rfl rfl)
theorem dX1_next_131 : decode cX1_next 131 = .ok (.getfield 290, 3) := dk_180 1 34 (dk_at dksX1_next_5 14 rfl rfl)
theorem dX1_next_134 : decode cX1_next 134 = .ok (.ifCond .eq 6, 3) := dk_153 0 6 (dk_at dksX1_next_5 17 rfl rfl)
theorem dX1_next_137 : decode cX1_next 137 = .ok (.bipush (-2), 2) := dk_16 254 (dk_at dksX1_next_5 20 rfl rfl)
theorem dX1_next_139 : decode cX1_next 139 = .ok (.ireturn, 1) := dk_172 (dk_at dksX1_next_5 22 rfl rfl)
theorem dX1_next_140 : decode cX1_next 140 = .ok (.aload 6, 2) := dk_25 6 (dk_at dksX1_next_6 0 rfl rfl)
theorem dX1_next_142 : decode cX1_next 142 = .ok (.getfield 298, 3) := dk_180 1 42 (dk_at dksX1_next_6 2 rfl rfl)
theorem dX1_next_145 : decode cX1_next 145 = .ok (.istore_n 3, 1) := dk_62 (dk_at dksX1_next_6 5 rfl rfl)
theorem dX1_next_146 : decode cX1_next 146 = .ok (.iinc 4 (-1), 3) := dk_132 4 255 (dk_at dksX1_next_6 6 rfl rfl)
theorem dX1_next_149 : decode cX1_next 149 = .ok (.goto (-105), 3) := dk_167 255 151 (dk_at dksX1_next_6 9 rfl rfl)
theorem dX1_next_152 : decode cX1_next 152 = .ok (.iconst (-1), 1) := dk_2 (dk_at dksX1_next_6 12 rfl rfl)
theorem dX1_next_153 : decode cX1_next 153 = .ok (.ireturn, 1) := dk_172 (dk_at dksX1_next_6 13 rfl rfl)
abbrev cX1_many : ByteArray := prog_1_method_42_code
def yX1_many : MethodName := ⟨RX1, "many", "(I)I"⟩
def dkwX1_many_0 : List UInt8 := [27, 133, 9, 20, 1, 37, 184, 0, 128, 184, 0, 158, 42, 27, 182, 1, 48, 172]
abbrev dktX1_many_0 : List UInt8 := dkwX1_many_0 ++ []
theorem dksX1_many_0 : cX1_many.data.toList.drop 0 = dktX1_many_0 := by decide +kernel
theorem dX1_many_0 : decode cX1_many 0 = .ok (.iload_n 1, 1) := dk_27 (dk_at dksX1_many_0 0 rfl rfl)
theorem dX1_many_1 : decode cX1_many 1 = .ok (.i2l, 1) := dk_133 (dk_at dksX1_many_0 1 rfl rfl)
theorem dX1_many_2 : decode cX1_many 2 = .ok (.lconst 0, 1) := dk_9 (dk_at dksX1_many_0 2 rfl rfl)
theorem dX1_many_3 : decode cX1_many 3 = .ok (.ldc2_w 293, 3) := dk_20 1 37 (dk_at dksX1_many_0 3 rfl rfl)
theorem dX1_many_6 : decode cX1_many 6 = .ok (.invokestatic 128, 3) := dk_184 0 128 (dk_at dksX1_many_0 6 rfl rfl)
theorem dX1_many_9 : decode cX1_many 9 = .ok (.invokestatic 158, 3) := dk_184 0 158 (dk_at dksX1_many_0 9 rfl rfl)
theorem dX1_many_12 : decode cX1_many 12 = .ok (.aload_n 0, 1) := dk_42 (dk_at dksX1_many_0 12 rfl rfl)
theorem dX1_many_13 : decode cX1_many 13 = .ok (.iload_n 1, 1) := dk_27 (dk_at dksX1_many_0 13 rfl rfl)
theorem dX1_many_14 : decode cX1_many 14 = .ok (.invokevirtual 304, 3) := dk_182 1 48 (dk_at dksX1_many_0 14 rfl rfl)
theorem dX1_many_17 : decode cX1_many 17 = .ok (.ireturn, 1) := dk_172 (dk_at dksX1_many_0 17 rfl rfl)
abbrev cX1_howMany : ByteArray := prog_1_method_41_code
def yX1_howMany : MethodName := ⟨RX1, "howMany", "(I)I"⟩
def dkwX1_howMany_2 : List UInt8 := [54, 4, 167, 255, 240, 44, 180, 1, 34, 153, 0, 8, 16, 254, 167, 0, 4, 29, 172]
abbrev dktX1_howMany_2 : List UInt8 := dkwX1_howMany_2 ++ []
def dkwX1_howMany_1 : List UInt8 := [44, 27, 3, 3, 182, 1, 31, 54, 4, 21, 4, 153, 0, 17, 132, 3, 1, 44, 27, 3, 182, 1, 45]
abbrev dktX1_howMany_1 : List UInt8 := dkwX1_howMany_1 ++ dktX1_howMany_2
def dkwX1_howMany_0 : List UInt8 := [27, 154, 0, 5, 4, 172, 187, 1, 26, 89, 42, 187, 0, 42, 89, 183, 0, 44, 183, 1, 28, 77, 3, 62]
abbrev dktX1_howMany_0 : List UInt8 := dkwX1_howMany_0 ++ dktX1_howMany_1
theorem dksX1_howMany_0 : cX1_howMany.data.toList.drop 0 = dktX1_howMany_0 := by decide +kernel
theorem dksX1_howMany_1 : cX1_howMany.data.toList.drop 24 = dktX1_howMany_1 := dk_seg dksX1_howMany_0 24 rfl rfl
theorem dksX1_howMany_2 : cX1_howMany.data.toList.drop 47 = dktX1_howMany_2 := dk_seg dksX1_howMany_1 23 rfl rfl
theorem dX1_howMany_0 : decode cX1_howMany 0 = .ok (.iload_n 1, 1) := dk_27 (dk_at dksX1_howMany_0 0 rfl rfl)
theorem dX1_howMany_1 : decode cX1_howMany 1 = .ok (.ifCond .ne 5, 3) := dk_154 0 5 (dk_at dksX1_howMany_0 1 rfl rfl)
theorem dX1_howMany_4 : decode cX1_howMany 4 = .ok (.iconst 1, 1) := dk_4 (dk_at dksX1_howMany_0 4 rfl rfl)
theorem dX1_howMany_5 : decode cX1_howMany 5 = .ok (.ireturn, 1) := dk_172 (dk_at dksX1_howMany_0 5 rfl rfl)
theorem dX1_howMany_6 : decode cX1_howMany 6 = .ok (.new 282, 3) := dk_187 1 26 (dk_at dksX1_howMany_0 6 rfl rfl)
theorem dX1_howMany_9 : decode cX1_howMany 9 = .ok (.dup, 1) := dk_89 (dk_at dksX1_howMany_0 9 rfl rfl)
theorem dX1_howMany_10 : decode cX1_howMany 10 = .ok (.aload_n 0, 1) := dk_42 (dk_at dksX1_howMany_0 10 rfl rfl)
theorem dX1_howMany_11 : decode cX1_howMany 11 = .ok (.new 42, 3) := dk_187 0 42 (dk_at dksX1_howMany_0 11 rfl rfl)
theorem dX1_howMany_14 : decode cX1_howMany 14 = .ok (.dup, 1) := dk_89 (dk_at dksX1_howMany_0 14 rfl rfl)
theorem dX1_howMany_15 : decode cX1_howMany 15 = .ok (.invokespecial 44, 3) := dk_183 0 44 (dk_at dksX1_howMany_0 15 rfl rfl)
theorem dX1_howMany_18 : decode cX1_howMany 18 = .ok (.invokespecial 284, 3) := dk_183 1 28 (dk_at dksX1_howMany_0 18 rfl rfl)
theorem dX1_howMany_21 : decode cX1_howMany 21 = .ok (.astore_n 2, 1) := dk_77 (dk_at dksX1_howMany_0 21 rfl rfl)
theorem dX1_howMany_22 : decode cX1_howMany 22 = .ok (.iconst 0, 1) := dk_3 (dk_at dksX1_howMany_0 22 rfl rfl)
theorem dX1_howMany_23 : decode cX1_howMany 23 = .ok (.istore_n 3, 1) := dk_62 (dk_at dksX1_howMany_0 23 rfl rfl)
theorem dX1_howMany_24 : decode cX1_howMany 24 = .ok (.aload_n 2, 1) := dk_44 (dk_at dksX1_howMany_1 0 rfl rfl)
theorem dX1_howMany_25 : decode cX1_howMany 25 = .ok (.iload_n 1, 1) := dk_27 (dk_at dksX1_howMany_1 1 rfl rfl)
theorem dX1_howMany_26 : decode cX1_howMany 26 = .ok (.iconst 0, 1) := dk_3 (dk_at dksX1_howMany_1 2 rfl rfl)
theorem dX1_howMany_27 : decode cX1_howMany 27 = .ok (.iconst 0, 1) := dk_3 (dk_at dksX1_howMany_1 3 rfl rfl)
theorem dX1_howMany_28 : decode cX1_howMany 28 = .ok (.invokevirtual 287, 3) := dk_182 1 31 (dk_at dksX1_howMany_1 4 rfl rfl)
theorem dX1_howMany_31 : decode cX1_howMany 31 = .ok (.istore 4, 2) := dk_54 4 (dk_at dksX1_howMany_1 7 rfl rfl)
theorem dX1_howMany_33 : decode cX1_howMany 33 = .ok (.iload 4, 2) := dk_21 4 (dk_at dksX1_howMany_1 9 rfl rfl)
theorem dX1_howMany_35 : decode cX1_howMany 35 = .ok (.ifCond .eq 17, 3) := dk_153 0 17 (dk_at dksX1_howMany_1 11 rfl rfl)
theorem dX1_howMany_38 : decode cX1_howMany 38 = .ok (.iinc 3 1, 3) := dk_132 3 1 (dk_at dksX1_howMany_1 14 rfl rfl)
theorem dX1_howMany_41 : decode cX1_howMany 41 = .ok (.aload_n 2, 1) := dk_44 (dk_at dksX1_howMany_1 17 rfl rfl)
theorem dX1_howMany_42 : decode cX1_howMany 42 = .ok (.iload_n 1, 1) := dk_27 (dk_at dksX1_howMany_1 18 rfl rfl)
theorem dX1_howMany_43 : decode cX1_howMany 43 = .ok (.iconst 0, 1) := dk_3 (dk_at dksX1_howMany_1 19 rfl rfl)
theorem dX1_howMany_44 : decode cX1_howMany 44 = .ok (.invokevirtual 301, 3) := dk_182 1 45 (dk_at dksX1_howMany_1 20 rfl rfl)
theorem dX1_howMany_47 : decode cX1_howMany 47 = .ok (.istore 4, 2) := dk_54 4 (dk_at dksX1_howMany_2 0 rfl rfl)
theorem dX1_howMany_49 : decode cX1_howMany 49 = .ok (.goto (-16), 3) := dk_167 255 240 (dk_at dksX1_howMany_2 2 rfl rfl)
theorem dX1_howMany_52 : decode cX1_howMany 52 = .ok (.aload_n 2, 1) := dk_44 (dk_at dksX1_howMany_2 5 rfl rfl)
theorem dX1_howMany_53 : decode cX1_howMany 53 = .ok (.getfield 290, 3) := dk_180 1 34 (dk_at dksX1_howMany_2 6 rfl rfl)
theorem dX1_howMany_56 : decode cX1_howMany 56 = .ok (.ifCond .eq 8, 3) := dk_153 0 8 (dk_at dksX1_howMany_2 9 rfl rfl)
theorem dX1_howMany_59 : decode cX1_howMany 59 = .ok (.bipush (-2), 2) := dk_16 254 (dk_at dksX1_howMany_2 12 rfl rfl)
theorem dX1_howMany_61 : decode cX1_howMany 61 = .ok (.goto 4, 3) := dk_167 0 4 (dk_at dksX1_howMany_2 14 rfl rfl)
theorem dX1_howMany_64 : decode cX1_howMany 64 = .ok (.iload_n 3, 1) := dk_29 (dk_at dksX1_howMany_2 17 rfl rfl)
theorem dX1_howMany_65 : decode cX1_howMany 65 = .ok (.ireturn, 1) := dk_172 (dk_at dksX1_howMany_2 18 rfl rfl)
abbrev cX1_growth : ByteArray := prog_1_method_44_code
def yX1_growth : MethodName := ⟨RX1, "growth", "(I)I"⟩
def dkwX1_growth_2 : List UInt8 := [16, 254, 167, 0, 10, 17, 3, 232, 29, 104, 28, 108, 172]
abbrev dktX1_growth_2 : List UInt8 := dkwX1_growth_2 ++ []
def dkwX1_growth_1 : List UInt8 := [154, 0, 7, 2, 167, 0, 5, 16, 254, 172, 42, 27, 4, 96, 182, 1, 48, 62, 29, 16, 254, 160, 0, 8]
abbrev dktX1_growth_1 : List UInt8 := dkwX1_growth_1 ++ dktX1_growth_2
def dkwX1_growth_0 : List UInt8 := [27, 133, 9, 20, 1, 51, 184, 0, 128, 184, 0, 158, 42, 27, 182, 1, 48, 61, 28, 157, 0, 14, 28]
abbrev dktX1_growth_0 : List UInt8 := dkwX1_growth_0 ++ dktX1_growth_1
theorem dksX1_growth_0 : cX1_growth.data.toList.drop 0 = dktX1_growth_0 := by decide +kernel
theorem dksX1_growth_1 : cX1_growth.data.toList.drop 23 = dktX1_growth_1 := dk_seg dksX1_growth_0 23 rfl rfl
theorem dksX1_growth_2 : cX1_growth.data.toList.drop 47 = dktX1_growth_2 := dk_seg dksX1_growth_1 24 rfl rfl
theorem dX1_growth_0 : decode cX1_growth 0 = .ok (.iload_n 1, 1) := dk_27 (dk_at dksX1_growth_0 0 rfl rfl)
theorem dX1_growth_1 : decode cX1_growth 1 = .ok (.i2l, 1) := dk_133 (dk_at dksX1_growth_0 1 rfl rfl)
theorem dX1_growth_2 : decode cX1_growth 2 = .ok (.lconst 0, 1) := dk_9 (dk_at dksX1_growth_0 2 rfl rfl)
theorem dX1_growth_3 : decode cX1_growth 3 = .ok (.ldc2_w 307, 3) := dk_20 1 51 (dk_at dksX1_growth_0 3 rfl rfl)
theorem dX1_growth_6 : decode cX1_growth 6 = .ok (.invokestatic 128, 3) := dk_184 0 128 (dk_at dksX1_growth_0 6 rfl rfl)
theorem dX1_growth_9 : decode cX1_growth 9 = .ok (.invokestatic 158, 3) := dk_184 0 158 (dk_at dksX1_growth_0 9 rfl rfl)
theorem dX1_growth_12 : decode cX1_growth 12 = .ok (.aload_n 0, 1) := dk_42 (dk_at dksX1_growth_0 12 rfl rfl)
theorem dX1_growth_13 : decode cX1_growth 13 = .ok (.iload_n 1, 1) := dk_27 (dk_at dksX1_growth_0 13 rfl rfl)
theorem dX1_growth_14 : decode cX1_growth 14 = .ok (.invokevirtual 304, 3) := dk_182 1 48 (dk_at dksX1_growth_0 14 rfl rfl)
theorem dX1_growth_17 : decode cX1_growth 17 = .ok (.istore_n 2, 1) := dk_61 (dk_at dksX1_growth_0 17 rfl rfl)
theorem dX1_growth_18 : decode cX1_growth 18 = .ok (.iload_n 2, 1) := dk_28 (dk_at dksX1_growth_0 18 rfl rfl)
theorem dX1_growth_19 : decode cX1_growth 19 = .ok (.ifCond .gt 14, 3) := dk_157 0 14 (dk_at dksX1_growth_0 19 rfl rfl)
theorem dX1_growth_22 : decode cX1_growth 22 = .ok (.iload_n 2, 1) := dk_28 (dk_at dksX1_growth_0 22 rfl rfl)
theorem dX1_growth_23 : decode cX1_growth 23 = .ok (.ifCond .ne 7, 3) := dk_154 0 7 (dk_at dksX1_growth_1 0 rfl rfl)
theorem dX1_growth_26 : decode cX1_growth 26 = .ok (.iconst (-1), 1) := dk_2 (dk_at dksX1_growth_1 3 rfl rfl)
theorem dX1_growth_27 : decode cX1_growth 27 = .ok (.goto 5, 3) := dk_167 0 5 (dk_at dksX1_growth_1 4 rfl rfl)
theorem dX1_growth_30 : decode cX1_growth 30 = .ok (.bipush (-2), 2) := dk_16 254 (dk_at dksX1_growth_1 7 rfl rfl)
theorem dX1_growth_32 : decode cX1_growth 32 = .ok (.ireturn, 1) := dk_172 (dk_at dksX1_growth_1 9 rfl rfl)
theorem dX1_growth_33 : decode cX1_growth 33 = .ok (.aload_n 0, 1) := dk_42 (dk_at dksX1_growth_1 10 rfl rfl)
theorem dX1_growth_34 : decode cX1_growth 34 = .ok (.iload_n 1, 1) := dk_27 (dk_at dksX1_growth_1 11 rfl rfl)
theorem dX1_growth_35 : decode cX1_growth 35 = .ok (.iconst 1, 1) := dk_4 (dk_at dksX1_growth_1 12 rfl rfl)
theorem dX1_growth_36 : decode cX1_growth 36 = .ok (.iadd, 1) := dk_96 (dk_at dksX1_growth_1 13 rfl rfl)
theorem dX1_growth_37 : decode cX1_growth 37 = .ok (.invokevirtual 304, 3) := dk_182 1 48 (dk_at dksX1_growth_1 14 rfl rfl)
theorem dX1_growth_40 : decode cX1_growth 40 = .ok (.istore_n 3, 1) := dk_62 (dk_at dksX1_growth_1 17 rfl rfl)
theorem dX1_growth_41 : decode cX1_growth 41 = .ok (.iload_n 3, 1) := dk_29 (dk_at dksX1_growth_1 18 rfl rfl)
theorem dX1_growth_42 : decode cX1_growth 42 = .ok (.bipush (-2), 2) := dk_16 254 (dk_at dksX1_growth_1 19 rfl rfl)
theorem dX1_growth_44 : decode cX1_growth 44 = .ok (.if_icmp .ne 8, 3) := dk_160 0 8 (dk_at dksX1_growth_1 21 rfl rfl)
theorem dX1_growth_47 : decode cX1_growth 47 = .ok (.bipush (-2), 2) := dk_16 254 (dk_at dksX1_growth_2 0 rfl rfl)
theorem dX1_growth_49 : decode cX1_growth 49 = .ok (.goto 10, 3) := dk_167 0 10 (dk_at dksX1_growth_2 2 rfl rfl)
theorem dX1_growth_52 : decode cX1_growth 52 = .ok (.sipush 1000, 3) := dk_17 3 232 (dk_at dksX1_growth_2 5 rfl rfl)
theorem dX1_growth_55 : decode cX1_growth 55 = .ok (.iload_n 3, 1) := dk_29 (dk_at dksX1_growth_2 8 rfl rfl)
theorem dX1_growth_56 : decode cX1_growth 56 = .ok (.imul, 1) := dk_104 (dk_at dksX1_growth_2 9 rfl rfl)
theorem dX1_growth_57 : decode cX1_growth 57 = .ok (.iload_n 2, 1) := dk_28 (dk_at dksX1_growth_2 10 rfl rfl)
theorem dX1_growth_58 : decode cX1_growth 58 = .ok (.idiv, 1) := dk_108 (dk_at dksX1_growth_2 11 rfl rfl)
theorem dX1_growth_59 : decode cX1_growth 59 = .ok (.ireturn, 1) := dk_172 (dk_at dksX1_growth_2 12 rfl rfl)
abbrev cX1_image : ByteArray := prog_1_method_60_code
def yX1_image : MethodName := ⟨RX1, "image", "(I)I"⟩
def dkwX1_image_1 : List UInt8 := [182, 0, 165, 182, 0, 138, 42, 180, 0, 45, 180, 0, 132, 172]
abbrev dktX1_image_1 : List UInt8 := dkwX1_image_1 ++ []
def dkwX1_image_0 : List UInt8 := [42, 27, 182, 1, 95, 77, 42, 44, 42, 180, 0, 45, 182, 1, 99, 184, 0, 162, 42, 42, 180, 0, 59]
abbrev dktX1_image_0 : List UInt8 := dkwX1_image_0 ++ dktX1_image_1
theorem dksX1_image_0 : cX1_image.data.toList.drop 0 = dktX1_image_0 := by decide +kernel
theorem dksX1_image_1 : cX1_image.data.toList.drop 23 = dktX1_image_1 := dk_seg dksX1_image_0 23 rfl rfl
theorem dX1_image_0 : decode cX1_image 0 = .ok (.aload_n 0, 1) := dk_42 (dk_at dksX1_image_0 0 rfl rfl)
theorem dX1_image_1 : decode cX1_image 1 = .ok (.iload_n 1, 1) := dk_27 (dk_at dksX1_image_0 1 rfl rfl)
theorem dX1_image_2 : decode cX1_image 2 = .ok (.invokevirtual 351, 3) := dk_182 1 95 (dk_at dksX1_image_0 2 rfl rfl)
theorem dX1_image_5 : decode cX1_image 5 = .ok (.astore_n 2, 1) := dk_77 (dk_at dksX1_image_0 5 rfl rfl)
theorem dX1_image_6 : decode cX1_image 6 = .ok (.aload_n 0, 1) := dk_42 (dk_at dksX1_image_0 6 rfl rfl)
theorem dX1_image_7 : decode cX1_image 7 = .ok (.aload_n 2, 1) := dk_44 (dk_at dksX1_image_0 7 rfl rfl)
theorem dX1_image_8 : decode cX1_image 8 = .ok (.aload_n 0, 1) := dk_42 (dk_at dksX1_image_0 8 rfl rfl)
theorem dX1_image_9 : decode cX1_image 9 = .ok (.getfield 45, 3) := dk_180 0 45 (dk_at dksX1_image_0 9 rfl rfl)
theorem dX1_image_12 : decode cX1_image 12 = .ok (.invokevirtual 355, 3) := dk_182 1 99 (dk_at dksX1_image_0 12 rfl rfl)
theorem dX1_image_15 : decode cX1_image 15 = .ok (.invokestatic 162, 3) := dk_184 0 162 (dk_at dksX1_image_0 15 rfl rfl)
theorem dX1_image_18 : decode cX1_image 18 = .ok (.aload_n 0, 1) := dk_42 (dk_at dksX1_image_0 18 rfl rfl)
theorem dX1_image_19 : decode cX1_image 19 = .ok (.aload_n 0, 1) := dk_42 (dk_at dksX1_image_0 19 rfl rfl)
theorem dX1_image_20 : decode cX1_image 20 = .ok (.getfield 59, 3) := dk_180 0 59 (dk_at dksX1_image_0 20 rfl rfl)
theorem dX1_image_23 : decode cX1_image 23 = .ok (.invokevirtual 165, 3) := dk_182 0 165 (dk_at dksX1_image_1 0 rfl rfl)
theorem dX1_image_26 : decode cX1_image 26 = .ok (.invokevirtual 138, 3) := dk_182 0 138 (dk_at dksX1_image_1 3 rfl rfl)
theorem dX1_image_29 : decode cX1_image 29 = .ok (.aload_n 0, 1) := dk_42 (dk_at dksX1_image_1 6 rfl rfl)
theorem dX1_image_30 : decode cX1_image 30 = .ok (.getfield 45, 3) := dk_180 0 45 (dk_at dksX1_image_1 7 rfl rfl)
theorem dX1_image_33 : decode cX1_image 33 = .ok (.getfield 132, 3) := dk_180 0 132 (dk_at dksX1_image_1 10 rfl rfl)
theorem dX1_image_36 : decode cX1_image 36 = .ok (.ireturn, 1) := dk_172 (dk_at dksX1_image_1 13 rfl rfl)
abbrev cX1_mapAt : ByteArray := prog_1_method_58_code
def yX1_mapAt : MethodName := ⟨RX1, "mapAt", "(I)LRepeatFree$Mapping;"⟩
def dkwX1_mapAt_1 : List UInt8 := [180, 0, 32, 180, 1, 83, 27, 182, 0, 252, 192, 1, 89, 176]
abbrev dktX1_mapAt_1 : List UInt8 := dkwX1_mapAt_1 ++ []
def dkwX1_mapAt_0 : List UInt8 := [27, 133, 9, 42, 180, 0, 32, 180, 1, 83, 182, 0, 251, 4, 100, 133, 184, 0, 128, 184, 1, 86, 42]
abbrev dktX1_mapAt_0 : List UInt8 := dkwX1_mapAt_0 ++ dktX1_mapAt_1
theorem dksX1_mapAt_0 : cX1_mapAt.data.toList.drop 0 = dktX1_mapAt_0 := by decide +kernel
theorem dksX1_mapAt_1 : cX1_mapAt.data.toList.drop 23 = dktX1_mapAt_1 := dk_seg dksX1_mapAt_0 23 rfl rfl
theorem dX1_mapAt_0 : decode cX1_mapAt 0 = .ok (.iload_n 1, 1) := dk_27 (dk_at dksX1_mapAt_0 0 rfl rfl)
theorem dX1_mapAt_1 : decode cX1_mapAt 1 = .ok (.i2l, 1) := dk_133 (dk_at dksX1_mapAt_0 1 rfl rfl)
theorem dX1_mapAt_2 : decode cX1_mapAt 2 = .ok (.lconst 0, 1) := dk_9 (dk_at dksX1_mapAt_0 2 rfl rfl)
theorem dX1_mapAt_3 : decode cX1_mapAt 3 = .ok (.aload_n 0, 1) := dk_42 (dk_at dksX1_mapAt_0 3 rfl rfl)
theorem dX1_mapAt_4 : decode cX1_mapAt 4 = .ok (.getfield 32, 3) := dk_180 0 32 (dk_at dksX1_mapAt_0 4 rfl rfl)
theorem dX1_mapAt_7 : decode cX1_mapAt 7 = .ok (.getfield 339, 3) := dk_180 1 83 (dk_at dksX1_mapAt_0 7 rfl rfl)
theorem dX1_mapAt_10 : decode cX1_mapAt 10 = .ok (.invokevirtual 251, 3) := dk_182 0 251 (dk_at dksX1_mapAt_0 10 rfl rfl)
theorem dX1_mapAt_13 : decode cX1_mapAt 13 = .ok (.iconst 1, 1) := dk_4 (dk_at dksX1_mapAt_0 13 rfl rfl)
theorem dX1_mapAt_14 : decode cX1_mapAt 14 = .ok (.isub, 1) := dk_100 (dk_at dksX1_mapAt_0 14 rfl rfl)
theorem dX1_mapAt_15 : decode cX1_mapAt 15 = .ok (.i2l, 1) := dk_133 (dk_at dksX1_mapAt_0 15 rfl rfl)
theorem dX1_mapAt_16 : decode cX1_mapAt 16 = .ok (.invokestatic 128, 3) := dk_184 0 128 (dk_at dksX1_mapAt_0 16 rfl rfl)
theorem dX1_mapAt_19 : decode cX1_mapAt 19 = .ok (.invokestatic 342, 3) := dk_184 1 86 (dk_at dksX1_mapAt_0 19 rfl rfl)
theorem dX1_mapAt_22 : decode cX1_mapAt 22 = .ok (.aload_n 0, 1) := dk_42 (dk_at dksX1_mapAt_0 22 rfl rfl)
theorem dX1_mapAt_23 : decode cX1_mapAt 23 = .ok (.getfield 32, 3) := dk_180 0 32 (dk_at dksX1_mapAt_1 0 rfl rfl)
theorem dX1_mapAt_26 : decode cX1_mapAt 26 = .ok (.getfield 339, 3) := dk_180 1 83 (dk_at dksX1_mapAt_1 3 rfl rfl)
theorem dX1_mapAt_29 : decode cX1_mapAt 29 = .ok (.iload_n 1, 1) := dk_27 (dk_at dksX1_mapAt_1 6 rfl rfl)
theorem dX1_mapAt_30 : decode cX1_mapAt 30 = .ok (.invokevirtual 252, 3) := dk_182 0 252 (dk_at dksX1_mapAt_1 7 rfl rfl)
theorem dX1_mapAt_33 : decode cX1_mapAt 33 = .ok (.checkcast 345, 3) := dk_192 1 89 (dk_at dksX1_mapAt_1 10 rfl rfl)
theorem dX1_mapAt_36 : decode cX1_mapAt 36 = .ok (.areturn, 1) := dk_176 (dk_at dksX1_mapAt_1 13 rfl rfl)
abbrev cX1_laysImage : ByteArray := prog_1_method_59_code
def yX1_laysImage : MethodName := ⟨RX1, "laysImage", "(LRepeatFree$Mapping;LRepeatFree$Word;)Z"⟩
def dkwX1_laysImage_3 : List UInt8 := [182, 0, 135, 132, 5, 1, 167, 255, 233, 132, 3, 1, 167, 255, 185, 4, 172]
abbrev dktX1_laysImage_3 : List UInt8 := dkwX1_laysImage_3 ++ []
def dkwX1_laysImage_2 : List UInt8 := [3, 172, 3, 54, 5, 21, 5, 25, 4, 190, 162, 0, 21, 42, 180, 0, 59, 25, 4, 21, 5, 51]
abbrev dktX1_laysImage_2 : List UInt8 := dkwX1_laysImage_2 ++ dktX1_laysImage_3
def dkwX1_laysImage_1 : List UInt8 := [180, 0, 152, 29, 51, 50, 58, 4, 42, 180, 0, 59, 180, 0, 132, 25, 4, 190, 96, 16, 64, 164, 0, 5]
abbrev dktX1_laysImage_1 : List UInt8 := dkwX1_laysImage_1 ++ dktX1_laysImage_2
def dkwX1_laysImage_0 : List UInt8 := [42, 180, 0, 59, 3, 181, 0, 132, 3, 62, 29, 44, 180, 0, 132, 162, 0, 69, 43, 180, 1, 91, 44]
abbrev dktX1_laysImage_0 : List UInt8 := dkwX1_laysImage_0 ++ dktX1_laysImage_1
theorem dksX1_laysImage_0 : cX1_laysImage.data.toList.drop 0 = dktX1_laysImage_0 := by decide +kernel
theorem dksX1_laysImage_1 : cX1_laysImage.data.toList.drop 23 = dktX1_laysImage_1 := dk_seg dksX1_laysImage_0 23 rfl rfl
theorem dksX1_laysImage_2 : cX1_laysImage.data.toList.drop 47 = dktX1_laysImage_2 := dk_seg dksX1_laysImage_1 24 rfl rfl
theorem dksX1_laysImage_3 : cX1_laysImage.data.toList.drop 69 = dktX1_laysImage_3 := dk_seg dksX1_laysImage_2 22 rfl rfl
theorem dX1_laysImage_0 : decode cX1_laysImage 0 = .ok (.aload_n 0, 1) := dk_42 (dk_at dksX1_laysImage_0 0 rfl rfl)
theorem dX1_laysImage_1 : decode cX1_laysImage 1 = .ok (.getfield 59, 3) := dk_180 0 59 (dk_at dksX1_laysImage_0 1 rfl rfl)
theorem dX1_laysImage_4 : decode cX1_laysImage 4 = .ok (.iconst 0, 1) := dk_3 (dk_at dksX1_laysImage_0 4 rfl rfl)
theorem dX1_laysImage_5 : decode cX1_laysImage 5 = .ok (.putfield 132, 3) := dk_181 0 132 (dk_at dksX1_laysImage_0 5 rfl rfl)
theorem dX1_laysImage_8 : decode cX1_laysImage 8 = .ok (.iconst 0, 1) := dk_3 (dk_at dksX1_laysImage_0 8 rfl rfl)
theorem dX1_laysImage_9 : decode cX1_laysImage 9 = .ok (.istore_n 3, 1) := dk_62 (dk_at dksX1_laysImage_0 9 rfl rfl)
theorem dX1_laysImage_10 : decode cX1_laysImage 10 = .ok (.iload_n 3, 1) := dk_29 (dk_at dksX1_laysImage_0 10 rfl rfl)
theorem dX1_laysImage_11 : decode cX1_laysImage 11 = .ok (.aload_n 2, 1) := dk_44 (dk_at dksX1_laysImage_0 11 rfl rfl)
theorem dX1_laysImage_12 : decode cX1_laysImage 12 = .ok (.getfield 132, 3) := dk_180 0 132 (dk_at dksX1_laysImage_0 12 rfl rfl)
theorem dX1_laysImage_15 : decode cX1_laysImage 15 = .ok (.if_icmp .ge 69, 3) := dk_162 0 69 (dk_at dksX1_laysImage_0 15 rfl rfl)
theorem dX1_laysImage_18 : decode cX1_laysImage 18 = .ok (.aload_n 1, 1) := dk_43 (dk_at dksX1_laysImage_0 18 rfl rfl)
theorem dX1_laysImage_19 : decode cX1_laysImage 19 = .ok (.getfield 347, 3) := dk_180 1 91 (dk_at dksX1_laysImage_0 19 rfl rfl)
theorem dX1_laysImage_22 : decode cX1_laysImage 22 = .ok (.aload_n 2, 1) := dk_44 (dk_at dksX1_laysImage_0 22 rfl rfl)
theorem dX1_laysImage_23 : decode cX1_laysImage 23 = .ok (.getfield 152, 3) := dk_180 0 152 (dk_at dksX1_laysImage_1 0 rfl rfl)
theorem dX1_laysImage_26 : decode cX1_laysImage 26 = .ok (.iload_n 3, 1) := dk_29 (dk_at dksX1_laysImage_1 3 rfl rfl)
theorem dX1_laysImage_27 : decode cX1_laysImage 27 = .ok (.baload, 1) := dk_51 (dk_at dksX1_laysImage_1 4 rfl rfl)
theorem dX1_laysImage_28 : decode cX1_laysImage 28 = .ok (.aaload, 1) := dk_50 (dk_at dksX1_laysImage_1 5 rfl rfl)
theorem dX1_laysImage_29 : decode cX1_laysImage 29 = .ok (.astore 4, 2) := dk_58 4 (dk_at dksX1_laysImage_1 6 rfl rfl)
theorem dX1_laysImage_31 : decode cX1_laysImage 31 = .ok (.aload_n 0, 1) := dk_42 (dk_at dksX1_laysImage_1 8 rfl rfl)
theorem dX1_laysImage_32 : decode cX1_laysImage 32 = .ok (.getfield 59, 3) := dk_180 0 59 (dk_at dksX1_laysImage_1 9 rfl rfl)
theorem dX1_laysImage_35 : decode cX1_laysImage 35 = .ok (.getfield 132, 3) := dk_180 0 132 (dk_at dksX1_laysImage_1 12 rfl rfl)
theorem dX1_laysImage_38 : decode cX1_laysImage 38 = .ok (.aload 4, 2) := dk_25 4 (dk_at dksX1_laysImage_1 15 rfl rfl)
theorem dX1_laysImage_40 : decode cX1_laysImage 40 = .ok (.arraylength, 1) := dk_190 (dk_at dksX1_laysImage_1 17 rfl rfl)
theorem dX1_laysImage_41 : decode cX1_laysImage 41 = .ok (.iadd, 1) := dk_96 (dk_at dksX1_laysImage_1 18 rfl rfl)
theorem dX1_laysImage_42 : decode cX1_laysImage 42 = .ok (.bipush 64, 2) := dk_16 64 (dk_at dksX1_laysImage_1 19 rfl rfl)
theorem dX1_laysImage_44 : decode cX1_laysImage 44 = .ok (.if_icmp .le 5, 3) := dk_164 0 5 (dk_at dksX1_laysImage_1 21 rfl rfl)
theorem dX1_laysImage_47 : decode cX1_laysImage 47 = .ok (.iconst 0, 1) := dk_3 (dk_at dksX1_laysImage_2 0 rfl rfl)
theorem dX1_laysImage_48 : decode cX1_laysImage 48 = .ok (.ireturn, 1) := dk_172 (dk_at dksX1_laysImage_2 1 rfl rfl)
theorem dX1_laysImage_49 : decode cX1_laysImage 49 = .ok (.iconst 0, 1) := dk_3 (dk_at dksX1_laysImage_2 2 rfl rfl)
theorem dX1_laysImage_50 : decode cX1_laysImage 50 = .ok (.istore 5, 2) := dk_54 5 (dk_at dksX1_laysImage_2 3 rfl rfl)
theorem dX1_laysImage_52 : decode cX1_laysImage 52 = .ok (.iload 5, 2) := dk_21 5 (dk_at dksX1_laysImage_2 5 rfl rfl)
theorem dX1_laysImage_54 : decode cX1_laysImage 54 = .ok (.aload 4, 2) := dk_25 4 (dk_at dksX1_laysImage_2 7 rfl rfl)
theorem dX1_laysImage_56 : decode cX1_laysImage 56 = .ok (.arraylength, 1) := dk_190 (dk_at dksX1_laysImage_2 9 rfl rfl)
theorem dX1_laysImage_57 : decode cX1_laysImage 57 = .ok (.if_icmp .ge 21, 3) := dk_162 0 21 (dk_at dksX1_laysImage_2 10 rfl rfl)
theorem dX1_laysImage_60 : decode cX1_laysImage 60 = .ok (.aload_n 0, 1) := dk_42 (dk_at dksX1_laysImage_2 13 rfl rfl)
theorem dX1_laysImage_61 : decode cX1_laysImage 61 = .ok (.getfield 59, 3) := dk_180 0 59 (dk_at dksX1_laysImage_2 14 rfl rfl)
theorem dX1_laysImage_64 : decode cX1_laysImage 64 = .ok (.aload 4, 2) := dk_25 4 (dk_at dksX1_laysImage_2 17 rfl rfl)
theorem dX1_laysImage_66 : decode cX1_laysImage 66 = .ok (.iload 5, 2) := dk_21 5 (dk_at dksX1_laysImage_2 19 rfl rfl)
theorem dX1_laysImage_68 : decode cX1_laysImage 68 = .ok (.baload, 1) := dk_51 (dk_at dksX1_laysImage_2 21 rfl rfl)
theorem dX1_laysImage_69 : decode cX1_laysImage 69 = .ok (.invokevirtual 135, 3) := dk_182 0 135 (dk_at dksX1_laysImage_3 0 rfl rfl)
theorem dX1_laysImage_72 : decode cX1_laysImage 72 = .ok (.iinc 5 1, 3) := dk_132 5 1 (dk_at dksX1_laysImage_3 3 rfl rfl)
theorem dX1_laysImage_75 : decode cX1_laysImage 75 = .ok (.goto (-23), 3) := dk_167 255 233 (dk_at dksX1_laysImage_3 6 rfl rfl)
theorem dX1_laysImage_78 : decode cX1_laysImage 78 = .ok (.iinc 3 1, 3) := dk_132 3 1 (dk_at dksX1_laysImage_3 9 rfl rfl)
theorem dX1_laysImage_81 : decode cX1_laysImage 81 = .ok (.goto (-71), 3) := dk_167 255 185 (dk_at dksX1_laysImage_3 12 rfl rfl)
theorem dX1_laysImage_84 : decode cX1_laysImage 84 = .ok (.iconst 1, 1) := dk_4 (dk_at dksX1_laysImage_3 15 rfl rfl)
theorem dX1_laysImage_85 : decode cX1_laysImage 85 = .ok (.ireturn, 1) := dk_172 (dk_at dksX1_laysImage_3 16 rfl rfl)
abbrev cX1_imaged : ByteArray := prog_1_method_61_code
def yX1_imaged : MethodName := ⟨RX1, "imaged", "(III)I"⟩
def dkwX1_imaged_2 : List UInt8 := [153, 0, 10, 25, 5, 29, 51, 167, 0, 4, 2, 172]
abbrev dktX1_imaged_2 : List UInt8 := dkwX1_imaged_2 ++ []
def dkwX1_imaged_1 : List UInt8 := [29, 2, 160, 0, 9, 25, 5, 190, 167, 0, 26, 29, 133, 9, 25, 5, 190, 4, 100, 133, 184, 0, 128]
abbrev dktX1_imaged_1 : List UInt8 := dkwX1_imaged_1 ++ dktX1_imaged_2
def dkwX1_imaged_0 : List UInt8 := [42, 27, 182, 1, 95, 58, 4, 42, 28, 182, 0, 155, 184, 0, 158, 25, 4, 180, 1, 91, 28, 50, 58, 5]
abbrev dktX1_imaged_0 : List UInt8 := dkwX1_imaged_0 ++ dktX1_imaged_1
theorem dksX1_imaged_0 : cX1_imaged.data.toList.drop 0 = dktX1_imaged_0 := by decide +kernel
theorem dksX1_imaged_1 : cX1_imaged.data.toList.drop 24 = dktX1_imaged_1 := dk_seg dksX1_imaged_0 24 rfl rfl
theorem dksX1_imaged_2 : cX1_imaged.data.toList.drop 47 = dktX1_imaged_2 := dk_seg dksX1_imaged_1 23 rfl rfl
theorem dX1_imaged_0 : decode cX1_imaged 0 = .ok (.aload_n 0, 1) := dk_42 (dk_at dksX1_imaged_0 0 rfl rfl)
theorem dX1_imaged_1 : decode cX1_imaged 1 = .ok (.iload_n 1, 1) := dk_27 (dk_at dksX1_imaged_0 1 rfl rfl)
theorem dX1_imaged_2 : decode cX1_imaged 2 = .ok (.invokevirtual 351, 3) := dk_182 1 95 (dk_at dksX1_imaged_0 2 rfl rfl)
theorem dX1_imaged_5 : decode cX1_imaged 5 = .ok (.astore 4, 2) := dk_58 4 (dk_at dksX1_imaged_0 5 rfl rfl)
theorem dX1_imaged_7 : decode cX1_imaged 7 = .ok (.aload_n 0, 1) := dk_42 (dk_at dksX1_imaged_0 7 rfl rfl)
theorem dX1_imaged_8 : decode cX1_imaged 8 = .ok (.iload_n 2, 1) := dk_28 (dk_at dksX1_imaged_0 8 rfl rfl)
theorem dX1_imaged_9 : decode cX1_imaged 9 = .ok (.invokevirtual 155, 3) := dk_182 0 155 (dk_at dksX1_imaged_0 9 rfl rfl)
theorem dX1_imaged_12 : decode cX1_imaged 12 = .ok (.invokestatic 158, 3) := dk_184 0 158 (dk_at dksX1_imaged_0 12 rfl rfl)
theorem dX1_imaged_15 : decode cX1_imaged 15 = .ok (.aload 4, 2) := dk_25 4 (dk_at dksX1_imaged_0 15 rfl rfl)
theorem dX1_imaged_17 : decode cX1_imaged 17 = .ok (.getfield 347, 3) := dk_180 1 91 (dk_at dksX1_imaged_0 17 rfl rfl)
theorem dX1_imaged_20 : decode cX1_imaged 20 = .ok (.iload_n 2, 1) := dk_28 (dk_at dksX1_imaged_0 20 rfl rfl)
theorem dX1_imaged_21 : decode cX1_imaged 21 = .ok (.aaload, 1) := dk_50 (dk_at dksX1_imaged_0 21 rfl rfl)
theorem dX1_imaged_22 : decode cX1_imaged 22 = .ok (.astore 5, 2) := dk_58 5 (dk_at dksX1_imaged_0 22 rfl rfl)
theorem dX1_imaged_24 : decode cX1_imaged 24 = .ok (.iload_n 3, 1) := dk_29 (dk_at dksX1_imaged_1 0 rfl rfl)
theorem dX1_imaged_25 : decode cX1_imaged 25 = .ok (.iconst (-1), 1) := dk_2 (dk_at dksX1_imaged_1 1 rfl rfl)
theorem dX1_imaged_26 : decode cX1_imaged 26 = .ok (.if_icmp .ne 9, 3) := dk_160 0 9 (dk_at dksX1_imaged_1 2 rfl rfl)
theorem dX1_imaged_29 : decode cX1_imaged 29 = .ok (.aload 5, 2) := dk_25 5 (dk_at dksX1_imaged_1 5 rfl rfl)
theorem dX1_imaged_31 : decode cX1_imaged 31 = .ok (.arraylength, 1) := dk_190 (dk_at dksX1_imaged_1 7 rfl rfl)
theorem dX1_imaged_32 : decode cX1_imaged 32 = .ok (.goto 26, 3) := dk_167 0 26 (dk_at dksX1_imaged_1 8 rfl rfl)
theorem dX1_imaged_35 : decode cX1_imaged 35 = .ok (.iload_n 3, 1) := dk_29 (dk_at dksX1_imaged_1 11 rfl rfl)
theorem dX1_imaged_36 : decode cX1_imaged 36 = .ok (.i2l, 1) := dk_133 (dk_at dksX1_imaged_1 12 rfl rfl)
theorem dX1_imaged_37 : decode cX1_imaged 37 = .ok (.lconst 0, 1) := dk_9 (dk_at dksX1_imaged_1 13 rfl rfl)
theorem dX1_imaged_38 : decode cX1_imaged 38 = .ok (.aload 5, 2) := dk_25 5 (dk_at dksX1_imaged_1 14 rfl rfl)
theorem dX1_imaged_40 : decode cX1_imaged 40 = .ok (.arraylength, 1) := dk_190 (dk_at dksX1_imaged_1 16 rfl rfl)
theorem dX1_imaged_41 : decode cX1_imaged 41 = .ok (.iconst 1, 1) := dk_4 (dk_at dksX1_imaged_1 17 rfl rfl)
theorem dX1_imaged_42 : decode cX1_imaged 42 = .ok (.isub, 1) := dk_100 (dk_at dksX1_imaged_1 18 rfl rfl)
theorem dX1_imaged_43 : decode cX1_imaged 43 = .ok (.i2l, 1) := dk_133 (dk_at dksX1_imaged_1 19 rfl rfl)
theorem dX1_imaged_44 : decode cX1_imaged 44 = .ok (.invokestatic 128, 3) := dk_184 0 128 (dk_at dksX1_imaged_1 20 rfl rfl)
theorem dX1_imaged_47 : decode cX1_imaged 47 = .ok (.ifCond .eq 10, 3) := dk_153 0 10 (dk_at dksX1_imaged_2 0 rfl rfl)
theorem dX1_imaged_50 : decode cX1_imaged 50 = .ok (.aload 5, 2) := dk_25 5 (dk_at dksX1_imaged_2 3 rfl rfl)
theorem dX1_imaged_52 : decode cX1_imaged 52 = .ok (.iload_n 3, 1) := dk_29 (dk_at dksX1_imaged_2 5 rfl rfl)
theorem dX1_imaged_53 : decode cX1_imaged 53 = .ok (.baload, 1) := dk_51 (dk_at dksX1_imaged_2 6 rfl rfl)
theorem dX1_imaged_54 : decode cX1_imaged 54 = .ok (.goto 4, 3) := dk_167 0 4 (dk_at dksX1_imaged_2 7 rfl rfl)
theorem dX1_imaged_57 : decode cX1_imaged 57 = .ok (.iconst (-1), 1) := dk_2 (dk_at dksX1_imaged_2 10 rfl rfl)
theorem dX1_imaged_58 : decode cX1_imaged 58 = .ok (.ireturn, 1) := dk_172 (dk_at dksX1_imaged_2 11 rfl rfl)
abbrev cX1_length : ByteArray := prog_1_method_65_code
def yX1_length : MethodName := ⟨RX1, "length", "(III)J"⟩
def dkwX1_length_0 : List UInt8 := [42, 42, 27, 28, 29, 182, 1, 109, 28, 29, 182, 1, 113, 184, 1, 116, 173]
abbrev dktX1_length_0 : List UInt8 := dkwX1_length_0 ++ []
theorem dksX1_length_0 : cX1_length.data.toList.drop 0 = dktX1_length_0 := by decide +kernel
theorem dX1_length_0 : decode cX1_length 0 = .ok (.aload_n 0, 1) := dk_42 (dk_at dksX1_length_0 0 rfl rfl)
theorem dX1_length_1 : decode cX1_length 1 = .ok (.aload_n 0, 1) := dk_42 (dk_at dksX1_length_0 1 rfl rfl)
theorem dX1_length_2 : decode cX1_length 2 = .ok (.iload_n 1, 1) := dk_27 (dk_at dksX1_length_0 2 rfl rfl)
theorem dX1_length_3 : decode cX1_length 3 = .ok (.iload_n 2, 1) := dk_28 (dk_at dksX1_length_0 3 rfl rfl)
theorem dX1_length_4 : decode cX1_length 4 = .ok (.iload_n 3, 1) := dk_29 (dk_at dksX1_length_0 4 rfl rfl)
theorem dX1_length_5 : decode cX1_length 5 = .ok (.invokevirtual 365, 3) := dk_182 1 109 (dk_at dksX1_length_0 5 rfl rfl)
theorem dX1_length_8 : decode cX1_length 8 = .ok (.iload_n 2, 1) := dk_28 (dk_at dksX1_length_0 8 rfl rfl)
theorem dX1_length_9 : decode cX1_length 9 = .ok (.iload_n 3, 1) := dk_29 (dk_at dksX1_length_0 9 rfl rfl)
theorem dX1_length_10 : decode cX1_length 10 = .ok (.invokevirtual 369, 3) := dk_182 1 113 (dk_at dksX1_length_0 10 rfl rfl)
theorem dX1_length_13 : decode cX1_length 13 = .ok (.invokestatic 372, 3) := dk_184 1 116 (dk_at dksX1_length_0 13 rfl rfl)
theorem dX1_length_16 : decode cX1_length 16 = .ok (.lreturn, 1) := dk_173 (dk_at dksX1_length_0 16 rfl rfl)
abbrev cX1_power : ByteArray := prog_1_method_64_code
def yX1_power : MethodName := ⟨RX1, "power", "(III)LRepeatFree$Mapping;"⟩
def dkwX1_power_1 : List UInt8 := [153, 0, 7, 4, 167, 0, 4, 3, 184, 0, 158, 25, 4, 176]
abbrev dktX1_power_1 : List UInt8 := dkwX1_power_1 ++ []
def dkwX1_power_0 : List UInt8 := [42, 27, 182, 1, 95, 58, 4, 42, 28, 182, 0, 155, 153, 0, 19, 29, 133, 9, 20, 1, 107, 184, 0, 128]
abbrev dktX1_power_0 : List UInt8 := dkwX1_power_0 ++ dktX1_power_1
theorem dksX1_power_0 : cX1_power.data.toList.drop 0 = dktX1_power_0 := by decide +kernel
theorem dksX1_power_1 : cX1_power.data.toList.drop 24 = dktX1_power_1 := dk_seg dksX1_power_0 24 rfl rfl
theorem dX1_power_0 : decode cX1_power 0 = .ok (.aload_n 0, 1) := dk_42 (dk_at dksX1_power_0 0 rfl rfl)
theorem dX1_power_1 : decode cX1_power 1 = .ok (.iload_n 1, 1) := dk_27 (dk_at dksX1_power_0 1 rfl rfl)
theorem dX1_power_2 : decode cX1_power 2 = .ok (.invokevirtual 351, 3) := dk_182 1 95 (dk_at dksX1_power_0 2 rfl rfl)
theorem dX1_power_5 : decode cX1_power 5 = .ok (.astore 4, 2) := dk_58 4 (dk_at dksX1_power_0 5 rfl rfl)
theorem dX1_power_7 : decode cX1_power 7 = .ok (.aload_n 0, 1) := dk_42 (dk_at dksX1_power_0 7 rfl rfl)
theorem dX1_power_8 : decode cX1_power 8 = .ok (.iload_n 2, 1) := dk_28 (dk_at dksX1_power_0 8 rfl rfl)
theorem dX1_power_9 : decode cX1_power 9 = .ok (.invokevirtual 155, 3) := dk_182 0 155 (dk_at dksX1_power_0 9 rfl rfl)
theorem dX1_power_12 : decode cX1_power 12 = .ok (.ifCond .eq 19, 3) := dk_153 0 19 (dk_at dksX1_power_0 12 rfl rfl)
theorem dX1_power_15 : decode cX1_power 15 = .ok (.iload_n 3, 1) := dk_29 (dk_at dksX1_power_0 15 rfl rfl)
theorem dX1_power_16 : decode cX1_power 16 = .ok (.i2l, 1) := dk_133 (dk_at dksX1_power_0 16 rfl rfl)
theorem dX1_power_17 : decode cX1_power 17 = .ok (.lconst 0, 1) := dk_9 (dk_at dksX1_power_0 17 rfl rfl)
theorem dX1_power_18 : decode cX1_power 18 = .ok (.ldc2_w 363, 3) := dk_20 1 107 (dk_at dksX1_power_0 18 rfl rfl)
theorem dX1_power_21 : decode cX1_power 21 = .ok (.invokestatic 128, 3) := dk_184 0 128 (dk_at dksX1_power_0 21 rfl rfl)
theorem dX1_power_24 : decode cX1_power 24 = .ok (.ifCond .eq 7, 3) := dk_153 0 7 (dk_at dksX1_power_1 0 rfl rfl)
theorem dX1_power_27 : decode cX1_power 27 = .ok (.iconst 1, 1) := dk_4 (dk_at dksX1_power_1 3 rfl rfl)
theorem dX1_power_28 : decode cX1_power 28 = .ok (.goto 4, 3) := dk_167 0 4 (dk_at dksX1_power_1 4 rfl rfl)
theorem dX1_power_31 : decode cX1_power 31 = .ok (.iconst 0, 1) := dk_3 (dk_at dksX1_power_1 7 rfl rfl)
theorem dX1_power_32 : decode cX1_power 32 = .ok (.invokestatic 158, 3) := dk_184 0 158 (dk_at dksX1_power_1 8 rfl rfl)
theorem dX1_power_35 : decode cX1_power 35 = .ok (.aload 4, 2) := dk_25 4 (dk_at dksX1_power_1 11 rfl rfl)
theorem dX1_power_37 : decode cX1_power 37 = .ok (.areturn, 1) := dk_176 (dk_at dksX1_power_1 13 rfl rfl)
abbrev cX1_counts : ByteArray := prog_1_method_62_code
def yX1_counts : MethodName := ⟨RX1, "counts", "(LRepeatFree$Mapping;II)[J"⟩
def dkwX1_counts_4 : List UInt8 := [167, 255, 175, 25, 4, 176]
abbrev dktX1_counts_4 : List UInt8 := dkwX1_counts_4 ++ []
def dkwX1_counts_3 : List UInt8 := [105, 97, 80, 132, 9, 1, 167, 255, 228, 132, 7, 1, 167, 255, 199, 25, 6, 58, 4, 132, 5, 1]
abbrev dktX1_counts_3 : List UInt8 := dkwX1_counts_3 ++ dktX1_counts_4
def dkwX1_counts_2 : List UInt8 := [54, 9, 21, 9, 7, 162, 0, 28, 25, 6, 21, 9, 92, 47, 25, 4, 21, 7, 47, 25, 8, 21, 9, 47]
abbrev dktX1_counts_2 : List UInt8 := dkwX1_counts_2 ++ dktX1_counts_3
def dkwX1_counts_1 : List UInt8 := [3, 54, 7, 21, 7, 42, 180, 0, 32, 180, 0, 97, 162, 0, 51, 43, 21, 7, 182, 1, 103, 58, 8, 3]
abbrev dktX1_counts_1 : List UInt8 := dkwX1_counts_1 ++ dktX1_counts_2
def dkwX1_counts_0 : List UInt8 := [7, 188, 11, 58, 4, 25, 4, 28, 10, 80, 3, 54, 5, 21, 5, 29, 162, 0, 81, 7, 188, 11, 58, 6]
abbrev dktX1_counts_0 : List UInt8 := dkwX1_counts_0 ++ dktX1_counts_1
theorem dksX1_counts_0 : cX1_counts.data.toList.drop 0 = dktX1_counts_0 := by decide +kernel
theorem dksX1_counts_1 : cX1_counts.data.toList.drop 24 = dktX1_counts_1 := dk_seg dksX1_counts_0 24 rfl rfl
theorem dksX1_counts_2 : cX1_counts.data.toList.drop 48 = dktX1_counts_2 := dk_seg dksX1_counts_1 24 rfl rfl
theorem dksX1_counts_3 : cX1_counts.data.toList.drop 72 = dktX1_counts_3 := dk_seg dksX1_counts_2 24 rfl rfl
theorem dksX1_counts_4 : cX1_counts.data.toList.drop 94 = dktX1_counts_4 := dk_seg dksX1_counts_3 22 rfl rfl
theorem dX1_counts_0 : decode cX1_counts 0 = .ok (.iconst 4, 1) := dk_7 (dk_at dksX1_counts_0 0 rfl rfl)
theorem dX1_counts_1 : decode cX1_counts 1 = .ok (.newarray .long, 2) := dk_188_11 (dk_at dksX1_counts_0 1 rfl rfl)
theorem dX1_counts_3 : decode cX1_counts 3 = .ok (.astore 4, 2) := dk_58 4 (dk_at dksX1_counts_0 3 rfl rfl)
theorem dX1_counts_5 : decode cX1_counts 5 = .ok (.aload 4, 2) := dk_25 4 (dk_at dksX1_counts_0 5 rfl rfl)
theorem dX1_counts_7 : decode cX1_counts 7 = .ok (.iload_n 2, 1) := dk_28 (dk_at dksX1_counts_0 7 rfl rfl)
theorem dX1_counts_8 : decode cX1_counts 8 = .ok (.lconst 1, 1) := dk_10 (dk_at dksX1_counts_0 8 rfl rfl)
theorem dX1_counts_9 : decode cX1_counts 9 = .ok (.lastore, 1) := dk_80 (dk_at dksX1_counts_0 9 rfl rfl)
theorem dX1_counts_10 : decode cX1_counts 10 = .ok (.iconst 0, 1) := dk_3 (dk_at dksX1_counts_0 10 rfl rfl)
theorem dX1_counts_11 : decode cX1_counts 11 = .ok (.istore 5, 2) := dk_54 5 (dk_at dksX1_counts_0 11 rfl rfl)
theorem dX1_counts_13 : decode cX1_counts 13 = .ok (.iload 5, 2) := dk_21 5 (dk_at dksX1_counts_0 13 rfl rfl)
theorem dX1_counts_15 : decode cX1_counts 15 = .ok (.iload_n 3, 1) := dk_29 (dk_at dksX1_counts_0 15 rfl rfl)
theorem dX1_counts_16 : decode cX1_counts 16 = .ok (.if_icmp .ge 81, 3) := dk_162 0 81 (dk_at dksX1_counts_0 16 rfl rfl)
theorem dX1_counts_19 : decode cX1_counts 19 = .ok (.iconst 4, 1) := dk_7 (dk_at dksX1_counts_0 19 rfl rfl)
theorem dX1_counts_20 : decode cX1_counts 20 = .ok (.newarray .long, 2) := dk_188_11 (dk_at dksX1_counts_0 20 rfl rfl)
theorem dX1_counts_22 : decode cX1_counts 22 = .ok (.astore 6, 2) := dk_58 6 (dk_at dksX1_counts_0 22 rfl rfl)
theorem dX1_counts_24 : decode cX1_counts 24 = .ok (.iconst 0, 1) := dk_3 (dk_at dksX1_counts_1 0 rfl rfl)
theorem dX1_counts_25 : decode cX1_counts 25 = .ok (.istore 7, 2) := dk_54 7 (dk_at dksX1_counts_1 1 rfl rfl)
theorem dX1_counts_27 : decode cX1_counts 27 = .ok (.iload 7, 2) := dk_21 7 (dk_at dksX1_counts_1 3 rfl rfl)
theorem dX1_counts_29 : decode cX1_counts 29 = .ok (.aload_n 0, 1) := dk_42 (dk_at dksX1_counts_1 5 rfl rfl)
theorem dX1_counts_30 : decode cX1_counts 30 = .ok (.getfield 32, 3) := dk_180 0 32 (dk_at dksX1_counts_1 6 rfl rfl)
theorem dX1_counts_33 : decode cX1_counts 33 = .ok (.getfield 97, 3) := dk_180 0 97 (dk_at dksX1_counts_1 9 rfl rfl)
theorem dX1_counts_36 : decode cX1_counts 36 = .ok (.if_icmp .ge 51, 3) := dk_162 0 51 (dk_at dksX1_counts_1 12 rfl rfl)
theorem dX1_counts_39 : decode cX1_counts 39 = .ok (.aload_n 1, 1) := dk_43 (dk_at dksX1_counts_1 15 rfl rfl)
theorem dX1_counts_40 : decode cX1_counts 40 = .ok (.iload 7, 2) := dk_21 7 (dk_at dksX1_counts_1 16 rfl rfl)
theorem dX1_counts_42 : decode cX1_counts 42 = .ok (.invokevirtual 359, 3) := dk_182 1 103 (dk_at dksX1_counts_1 18 rfl rfl)
theorem dX1_counts_45 : decode cX1_counts 45 = .ok (.astore 8, 2) := dk_58 8 (dk_at dksX1_counts_1 21 rfl rfl)
theorem dX1_counts_47 : decode cX1_counts 47 = .ok (.iconst 0, 1) := dk_3 (dk_at dksX1_counts_1 23 rfl rfl)
theorem dX1_counts_48 : decode cX1_counts 48 = .ok (.istore 9, 2) := dk_54 9 (dk_at dksX1_counts_2 0 rfl rfl)
theorem dX1_counts_50 : decode cX1_counts 50 = .ok (.iload 9, 2) := dk_21 9 (dk_at dksX1_counts_2 2 rfl rfl)
theorem dX1_counts_52 : decode cX1_counts 52 = .ok (.iconst 4, 1) := dk_7 (dk_at dksX1_counts_2 4 rfl rfl)
theorem dX1_counts_53 : decode cX1_counts 53 = .ok (.if_icmp .ge 28, 3) := dk_162 0 28 (dk_at dksX1_counts_2 5 rfl rfl)
theorem dX1_counts_56 : decode cX1_counts 56 = .ok (.aload 6, 2) := dk_25 6 (dk_at dksX1_counts_2 8 rfl rfl)
theorem dX1_counts_58 : decode cX1_counts 58 = .ok (.iload 9, 2) := dk_21 9 (dk_at dksX1_counts_2 10 rfl rfl)
theorem dX1_counts_60 : decode cX1_counts 60 = .ok (.dup2, 1) := dk_92 (dk_at dksX1_counts_2 12 rfl rfl)
theorem dX1_counts_61 : decode cX1_counts 61 = .ok (.laload, 1) := dk_47 (dk_at dksX1_counts_2 13 rfl rfl)
theorem dX1_counts_62 : decode cX1_counts 62 = .ok (.aload 4, 2) := dk_25 4 (dk_at dksX1_counts_2 14 rfl rfl)
theorem dX1_counts_64 : decode cX1_counts 64 = .ok (.iload 7, 2) := dk_21 7 (dk_at dksX1_counts_2 16 rfl rfl)
theorem dX1_counts_66 : decode cX1_counts 66 = .ok (.laload, 1) := dk_47 (dk_at dksX1_counts_2 18 rfl rfl)
theorem dX1_counts_67 : decode cX1_counts 67 = .ok (.aload 8, 2) := dk_25 8 (dk_at dksX1_counts_2 19 rfl rfl)
theorem dX1_counts_69 : decode cX1_counts 69 = .ok (.iload 9, 2) := dk_21 9 (dk_at dksX1_counts_2 21 rfl rfl)
theorem dX1_counts_71 : decode cX1_counts 71 = .ok (.laload, 1) := dk_47 (dk_at dksX1_counts_2 23 rfl rfl)
theorem dX1_counts_72 : decode cX1_counts 72 = .ok (.lmul, 1) := dk_105 (dk_at dksX1_counts_3 0 rfl rfl)
theorem dX1_counts_73 : decode cX1_counts 73 = .ok (.ladd, 1) := dk_97 (dk_at dksX1_counts_3 1 rfl rfl)
theorem dX1_counts_74 : decode cX1_counts 74 = .ok (.lastore, 1) := dk_80 (dk_at dksX1_counts_3 2 rfl rfl)
theorem dX1_counts_75 : decode cX1_counts 75 = .ok (.iinc 9 1, 3) := dk_132 9 1 (dk_at dksX1_counts_3 3 rfl rfl)
theorem dX1_counts_78 : decode cX1_counts 78 = .ok (.goto (-28), 3) := dk_167 255 228 (dk_at dksX1_counts_3 6 rfl rfl)
theorem dX1_counts_81 : decode cX1_counts 81 = .ok (.iinc 7 1, 3) := dk_132 7 1 (dk_at dksX1_counts_3 9 rfl rfl)
theorem dX1_counts_84 : decode cX1_counts 84 = .ok (.goto (-57), 3) := dk_167 255 199 (dk_at dksX1_counts_3 12 rfl rfl)
theorem dX1_counts_87 : decode cX1_counts 87 = .ok (.aload 6, 2) := dk_25 6 (dk_at dksX1_counts_3 15 rfl rfl)
theorem dX1_counts_89 : decode cX1_counts 89 = .ok (.astore 4, 2) := dk_58 4 (dk_at dksX1_counts_3 17 rfl rfl)
theorem dX1_counts_91 : decode cX1_counts 91 = .ok (.iinc 5 1, 3) := dk_132 5 1 (dk_at dksX1_counts_3 19 rfl rfl)
theorem dX1_counts_94 : decode cX1_counts 94 = .ok (.goto (-81), 3) := dk_167 255 175 (dk_at dksX1_counts_4 0 rfl rfl)
theorem dX1_counts_97 : decode cX1_counts 97 = .ok (.aload 4, 2) := dk_25 4 (dk_at dksX1_counts_4 3 rfl rfl)
theorem dX1_counts_99 : decode cX1_counts 99 = .ok (.areturn, 1) := dk_176 (dk_at dksX1_counts_4 5 rfl rfl)
abbrev cX1_sum : ByteArray := prog_1_method_63_code
def yX1_sum : MethodName := ⟨RX1, "sum", "([J)J"⟩
def dkwX1_sum_1 : List UInt8 := [31, 22, 6, 97, 64, 132, 5, 1, 167, 255, 235, 31, 173]
abbrev dktX1_sum_1 : List UInt8 := dkwX1_sum_1 ++ []
def dkwX1_sum_0 : List UInt8 := [9, 64, 42, 78, 45, 190, 54, 4, 3, 54, 5, 21, 5, 21, 4, 162, 0, 20, 45, 21, 5, 47, 55, 6]
abbrev dktX1_sum_0 : List UInt8 := dkwX1_sum_0 ++ dktX1_sum_1
theorem dksX1_sum_0 : cX1_sum.data.toList.drop 0 = dktX1_sum_0 := by decide +kernel
theorem dksX1_sum_1 : cX1_sum.data.toList.drop 24 = dktX1_sum_1 := dk_seg dksX1_sum_0 24 rfl rfl
theorem dX1_sum_0 : decode cX1_sum 0 = .ok (.lconst 0, 1) := dk_9 (dk_at dksX1_sum_0 0 rfl rfl)
theorem dX1_sum_1 : decode cX1_sum 1 = .ok (.lstore_n 1, 1) := dk_64 (dk_at dksX1_sum_0 1 rfl rfl)
theorem dX1_sum_2 : decode cX1_sum 2 = .ok (.aload_n 0, 1) := dk_42 (dk_at dksX1_sum_0 2 rfl rfl)
theorem dX1_sum_3 : decode cX1_sum 3 = .ok (.astore_n 3, 1) := dk_78 (dk_at dksX1_sum_0 3 rfl rfl)
theorem dX1_sum_4 : decode cX1_sum 4 = .ok (.aload_n 3, 1) := dk_45 (dk_at dksX1_sum_0 4 rfl rfl)
theorem dX1_sum_5 : decode cX1_sum 5 = .ok (.arraylength, 1) := dk_190 (dk_at dksX1_sum_0 5 rfl rfl)
theorem dX1_sum_6 : decode cX1_sum 6 = .ok (.istore 4, 2) := dk_54 4 (dk_at dksX1_sum_0 6 rfl rfl)
theorem dX1_sum_8 : decode cX1_sum 8 = .ok (.iconst 0, 1) := dk_3 (dk_at dksX1_sum_0 8 rfl rfl)
theorem dX1_sum_9 : decode cX1_sum 9 = .ok (.istore 5, 2) := dk_54 5 (dk_at dksX1_sum_0 9 rfl rfl)
theorem dX1_sum_11 : decode cX1_sum 11 = .ok (.iload 5, 2) := dk_21 5 (dk_at dksX1_sum_0 11 rfl rfl)
theorem dX1_sum_13 : decode cX1_sum 13 = .ok (.iload 4, 2) := dk_21 4 (dk_at dksX1_sum_0 13 rfl rfl)
theorem dX1_sum_15 : decode cX1_sum 15 = .ok (.if_icmp .ge 20, 3) := dk_162 0 20 (dk_at dksX1_sum_0 15 rfl rfl)
theorem dX1_sum_18 : decode cX1_sum 18 = .ok (.aload_n 3, 1) := dk_45 (dk_at dksX1_sum_0 18 rfl rfl)
theorem dX1_sum_19 : decode cX1_sum 19 = .ok (.iload 5, 2) := dk_21 5 (dk_at dksX1_sum_0 19 rfl rfl)
theorem dX1_sum_21 : decode cX1_sum 21 = .ok (.laload, 1) := dk_47 (dk_at dksX1_sum_0 21 rfl rfl)
theorem dX1_sum_22 : decode cX1_sum 22 = .ok (.lstore 6, 2) := dk_55 6 (dk_at dksX1_sum_0 22 rfl rfl)
theorem dX1_sum_24 : decode cX1_sum 24 = .ok (.lload_n 1, 1) := dk_31 (dk_at dksX1_sum_1 0 rfl rfl)
theorem dX1_sum_25 : decode cX1_sum 25 = .ok (.lload 6, 2) := dk_22 6 (dk_at dksX1_sum_1 1 rfl rfl)
theorem dX1_sum_27 : decode cX1_sum 27 = .ok (.ladd, 1) := dk_97 (dk_at dksX1_sum_1 3 rfl rfl)
theorem dX1_sum_28 : decode cX1_sum 28 = .ok (.lstore_n 1, 1) := dk_64 (dk_at dksX1_sum_1 4 rfl rfl)
theorem dX1_sum_29 : decode cX1_sum 29 = .ok (.iinc 5 1, 3) := dk_132 5 1 (dk_at dksX1_sum_1 5 rfl rfl)
theorem dX1_sum_32 : decode cX1_sum 32 = .ok (.goto (-21), 3) := dk_167 255 235 (dk_at dksX1_sum_1 8 rfl rfl)
theorem dX1_sum_35 : decode cX1_sum 35 = .ok (.lload_n 1, 1) := dk_31 (dk_at dksX1_sum_1 11 rfl rfl)
theorem dX1_sum_36 : decode cX1_sum 36 = .ok (.lreturn, 1) := dk_173 (dk_at dksX1_sum_1 12 rfl rfl)
abbrev cX1_power_2 : ByteArray := prog_1_method_66_code
def yX1_power_2 : MethodName := ⟨RX1, "power", "(IIIJ)I"⟩
def dkwX1_power_2_5 : List UInt8 := [167, 255, 220, 25, 11, 21, 12, 51, 54, 7, 132, 10, 255, 167, 255, 172, 21, 7, 172]
abbrev dktX1_power_2_5 : List UInt8 := dkwX1_power_2_5 ++ []
def dkwX1_power_2_4 : List UInt8 := [55, 8, 132, 12, 1, 42, 25, 6, 25, 11, 21, 12, 51, 21, 10, 182, 1, 113, 184, 1, 116, 55, 13]
abbrev dktX1_power_2_4 : List UInt8 := dkwX1_power_2_4 ++ dktX1_power_2_5
def dkwX1_power_2_3 : List UInt8 := [21, 10, 182, 1, 113, 184, 1, 116, 55, 13, 22, 8, 22, 13, 148, 155, 0, 34, 22, 8, 22, 13, 101]
abbrev dktX1_power_2_3 : List UInt8 := dkwX1_power_2_3 ++ dktX1_power_2_4
def dkwX1_power_2_2 : List UInt8 := [155, 0, 85, 25, 6, 180, 1, 91, 21, 7, 50, 58, 11, 3, 54, 12, 42, 25, 6, 25, 11, 3, 51]
abbrev dktX1_power_2_2 : List UInt8 := dkwX1_power_2_2 ++ dktX1_power_2_3
def dkwX1_power_2_1 : List UInt8 := [101, 184, 0, 128, 154, 0, 5, 2, 172, 28, 54, 7, 22, 4, 55, 8, 29, 4, 100, 54, 10, 21, 10]
abbrev dktX1_power_2_1 : List UInt8 := dkwX1_power_2_1 ++ dktX1_power_2_2
def dkwX1_power_2_0 : List UInt8 := [42, 27, 28, 29, 182, 1, 109, 58, 6, 22, 4, 9, 42, 25, 6, 28, 29, 182, 1, 113, 184, 1, 116, 10]
abbrev dktX1_power_2_0 : List UInt8 := dkwX1_power_2_0 ++ dktX1_power_2_1
theorem dksX1_power_2_0 : cX1_power_2.data.toList.drop 0 = dktX1_power_2_0 := by decide +kernel
theorem dksX1_power_2_1 : cX1_power_2.data.toList.drop 24 = dktX1_power_2_1 := dk_seg dksX1_power_2_0 24 rfl rfl
theorem dksX1_power_2_2 : cX1_power_2.data.toList.drop 47 = dktX1_power_2_2 := dk_seg dksX1_power_2_1 23 rfl rfl
theorem dksX1_power_2_3 : cX1_power_2.data.toList.drop 70 = dktX1_power_2_3 := dk_seg dksX1_power_2_2 23 rfl rfl
theorem dksX1_power_2_4 : cX1_power_2.data.toList.drop 93 = dktX1_power_2_4 := dk_seg dksX1_power_2_3 23 rfl rfl
theorem dksX1_power_2_5 : cX1_power_2.data.toList.drop 116 = dktX1_power_2_5 := dk_seg dksX1_power_2_4 23 rfl rfl
theorem dX1_power_2_0 : decode cX1_power_2 0 = .ok (.aload_n 0, 1) := dk_42 (dk_at dksX1_power_2_0 0 rfl rfl)
theorem dX1_power_2_1 : decode cX1_power_2 1 = .ok (.iload_n 1, 1) := dk_27 (dk_at dksX1_power_2_0 1 rfl rfl)
theorem dX1_power_2_2 : decode cX1_power_2 2 = .ok (.iload_n 2, 1) := dk_28 (dk_at dksX1_power_2_0 2 rfl rfl)
theorem dX1_power_2_3 : decode cX1_power_2 3 = .ok (.iload_n 3, 1) := dk_29 (dk_at dksX1_power_2_0 3 rfl rfl)
theorem dX1_power_2_4 : decode cX1_power_2 4 = .ok (.invokevirtual 365, 3) := dk_182 1 109 (dk_at dksX1_power_2_0 4 rfl rfl)
theorem dX1_power_2_7 : decode cX1_power_2 7 = .ok (.astore 6, 2) := dk_58 6 (dk_at dksX1_power_2_0 7 rfl rfl)
theorem dX1_power_2_9 : decode cX1_power_2 9 = .ok (.lload 4, 2) := dk_22 4 (dk_at dksX1_power_2_0 9 rfl rfl)
theorem dX1_power_2_11 : decode cX1_power_2 11 = .ok (.lconst 0, 1) := dk_9 (dk_at dksX1_power_2_0 11 rfl rfl)
theorem dX1_power_2_12 : decode cX1_power_2 12 = .ok (.aload_n 0, 1) := dk_42 (dk_at dksX1_power_2_0 12 rfl rfl)
theorem dX1_power_2_13 : decode cX1_power_2 13 = .ok (.aload 6, 2) := dk_25 6 (dk_at dksX1_power_2_0 13 rfl rfl)
theorem dX1_power_2_15 : decode cX1_power_2 15 = .ok (.iload_n 2, 1) := dk_28 (dk_at dksX1_power_2_0 15 rfl rfl)
theorem dX1_power_2_16 : decode cX1_power_2 16 = .ok (.iload_n 3, 1) := dk_29 (dk_at dksX1_power_2_0 16 rfl rfl)
theorem dX1_power_2_17 : decode cX1_power_2 17 = .ok (.invokevirtual 369, 3) := dk_182 1 113 (dk_at dksX1_power_2_0 17 rfl rfl)
theorem dX1_power_2_20 : decode cX1_power_2 20 = .ok (.invokestatic 372, 3) := dk_184 1 116 (dk_at dksX1_power_2_0 20 rfl rfl)
theorem dX1_power_2_23 : decode cX1_power_2 23 = .ok (.lconst 1, 1) := dk_10 (dk_at dksX1_power_2_0 23 rfl rfl)
theorem dX1_power_2_24 : decode cX1_power_2 24 = .ok (.lsub, 1) := dk_101 (dk_at dksX1_power_2_1 0 rfl rfl)
theorem dX1_power_2_25 : decode cX1_power_2 25 = .ok (.invokestatic 128, 3) := dk_184 0 128 (dk_at dksX1_power_2_1 1 rfl rfl)
theorem dX1_power_2_28 : decode cX1_power_2 28 = .ok (.ifCond .ne 5, 3) := dk_154 0 5 (dk_at dksX1_power_2_1 4 rfl rfl)
theorem dX1_power_2_31 : decode cX1_power_2 31 = .ok (.iconst (-1), 1) := dk_2 (dk_at dksX1_power_2_1 7 rfl rfl)
theorem dX1_power_2_32 : decode cX1_power_2 32 = .ok (.ireturn, 1) := dk_172 (dk_at dksX1_power_2_1 8 rfl rfl)
theorem dX1_power_2_33 : decode cX1_power_2 33 = .ok (.iload_n 2, 1) := dk_28 (dk_at dksX1_power_2_1 9 rfl rfl)
theorem dX1_power_2_34 : decode cX1_power_2 34 = .ok (.istore 7, 2) := dk_54 7 (dk_at dksX1_power_2_1 10 rfl rfl)
theorem dX1_power_2_36 : decode cX1_power_2 36 = .ok (.lload 4, 2) := dk_22 4 (dk_at dksX1_power_2_1 12 rfl rfl)
theorem dX1_power_2_38 : decode cX1_power_2 38 = .ok (.lstore 8, 2) := dk_55 8 (dk_at dksX1_power_2_1 14 rfl rfl)
theorem dX1_power_2_40 : decode cX1_power_2 40 = .ok (.iload_n 3, 1) := dk_29 (dk_at dksX1_power_2_1 16 rfl rfl)
theorem dX1_power_2_41 : decode cX1_power_2 41 = .ok (.iconst 1, 1) := dk_4 (dk_at dksX1_power_2_1 17 rfl rfl)
theorem dX1_power_2_42 : decode cX1_power_2 42 = .ok (.isub, 1) := dk_100 (dk_at dksX1_power_2_1 18 rfl rfl)
theorem dX1_power_2_43 : decode cX1_power_2 43 = .ok (.istore 10, 2) := dk_54 10 (dk_at dksX1_power_2_1 19 rfl rfl)
theorem dX1_power_2_45 : decode cX1_power_2 45 = .ok (.iload 10, 2) := dk_21 10 (dk_at dksX1_power_2_1 21 rfl rfl)
theorem dX1_power_2_47 : decode cX1_power_2 47 = .ok (.ifCond .lt 85, 3) := dk_155 0 85 (dk_at dksX1_power_2_2 0 rfl rfl)
theorem dX1_power_2_50 : decode cX1_power_2 50 = .ok (.aload 6, 2) := dk_25 6 (dk_at dksX1_power_2_2 3 rfl rfl)
theorem dX1_power_2_52 : decode cX1_power_2 52 = .ok (.getfield 347, 3) := dk_180 1 91 (dk_at dksX1_power_2_2 5 rfl rfl)
theorem dX1_power_2_55 : decode cX1_power_2 55 = .ok (.iload 7, 2) := dk_21 7 (dk_at dksX1_power_2_2 8 rfl rfl)
theorem dX1_power_2_57 : decode cX1_power_2 57 = .ok (.aaload, 1) := dk_50 (dk_at dksX1_power_2_2 10 rfl rfl)
theorem dX1_power_2_58 : decode cX1_power_2 58 = .ok (.astore 11, 2) := dk_58 11 (dk_at dksX1_power_2_2 11 rfl rfl)
theorem dX1_power_2_60 : decode cX1_power_2 60 = .ok (.iconst 0, 1) := dk_3 (dk_at dksX1_power_2_2 13 rfl rfl)
theorem dX1_power_2_61 : decode cX1_power_2 61 = .ok (.istore 12, 2) := dk_54 12 (dk_at dksX1_power_2_2 14 rfl rfl)
theorem dX1_power_2_63 : decode cX1_power_2 63 = .ok (.aload_n 0, 1) := dk_42 (dk_at dksX1_power_2_2 16 rfl rfl)
theorem dX1_power_2_64 : decode cX1_power_2 64 = .ok (.aload 6, 2) := dk_25 6 (dk_at dksX1_power_2_2 17 rfl rfl)
theorem dX1_power_2_66 : decode cX1_power_2 66 = .ok (.aload 11, 2) := dk_25 11 (dk_at dksX1_power_2_2 19 rfl rfl)
theorem dX1_power_2_68 : decode cX1_power_2 68 = .ok (.iconst 0, 1) := dk_3 (dk_at dksX1_power_2_2 21 rfl rfl)
theorem dX1_power_2_69 : decode cX1_power_2 69 = .ok (.baload, 1) := dk_51 (dk_at dksX1_power_2_2 22 rfl rfl)
theorem dX1_power_2_70 : decode cX1_power_2 70 = .ok (.iload 10, 2) := dk_21 10 (dk_at dksX1_power_2_3 0 rfl rfl)
theorem dX1_power_2_72 : decode cX1_power_2 72 = .ok (.invokevirtual 369, 3) := dk_182 1 113 (dk_at dksX1_power_2_3 2 rfl rfl)
theorem dX1_power_2_75 : decode cX1_power_2 75 = .ok (.invokestatic 372, 3) := dk_184 1 116 (dk_at dksX1_power_2_3 5 rfl rfl)
theorem dX1_power_2_78 : decode cX1_power_2 78 = .ok (.lstore 13, 2) := dk_55 13 (dk_at dksX1_power_2_3 8 rfl rfl)
theorem dX1_power_2_80 : decode cX1_power_2 80 = .ok (.lload 8, 2) := dk_22 8 (dk_at dksX1_power_2_3 10 rfl rfl)
theorem dX1_power_2_82 : decode cX1_power_2 82 = .ok (.lload 13, 2) := dk_22 13 (dk_at dksX1_power_2_3 12 rfl rfl)
theorem dX1_power_2_84 : decode cX1_power_2 84 = .ok (.lcmp, 1) := dk_148 (dk_at dksX1_power_2_3 14 rfl rfl)
theorem dX1_power_2_85 : decode cX1_power_2 85 = .ok (.ifCond .lt 34, 3) := dk_155 0 34 (dk_at dksX1_power_2_3 15 rfl rfl)
theorem dX1_power_2_88 : decode cX1_power_2 88 = .ok (.lload 8, 2) := dk_22 8 (dk_at dksX1_power_2_3 18 rfl rfl)
theorem dX1_power_2_90 : decode cX1_power_2 90 = .ok (.lload 13, 2) := dk_22 13 (dk_at dksX1_power_2_3 20 rfl rfl)
theorem dX1_power_2_92 : decode cX1_power_2 92 = .ok (.lsub, 1) := dk_101 (dk_at dksX1_power_2_3 22 rfl rfl)
theorem dX1_power_2_93 : decode cX1_power_2 93 = .ok (.lstore 8, 2) := dk_55 8 (dk_at dksX1_power_2_4 0 rfl rfl)
theorem dX1_power_2_95 : decode cX1_power_2 95 = .ok (.iinc 12 1, 3) := dk_132 12 1 (dk_at dksX1_power_2_4 2 rfl rfl)
theorem dX1_power_2_98 : decode cX1_power_2 98 = .ok (.aload_n 0, 1) := dk_42 (dk_at dksX1_power_2_4 5 rfl rfl)
theorem dX1_power_2_99 : decode cX1_power_2 99 = .ok (.aload 6, 2) := dk_25 6 (dk_at dksX1_power_2_4 6 rfl rfl)
theorem dX1_power_2_101 : decode cX1_power_2 101 = .ok (.aload 11, 2) := dk_25 11 (dk_at dksX1_power_2_4 8 rfl rfl)
theorem dX1_power_2_103 : decode cX1_power_2 103 = .ok (.iload 12, 2) := dk_21 12 (dk_at dksX1_power_2_4 10 rfl rfl)
theorem dX1_power_2_105 : decode cX1_power_2 105 = .ok (.baload, 1) := dk_51 (dk_at dksX1_power_2_4 12 rfl rfl)
theorem dX1_power_2_106 : decode cX1_power_2 106 = .ok (.iload 10, 2) := dk_21 10 (dk_at dksX1_power_2_4 13 rfl rfl)
theorem dX1_power_2_108 : decode cX1_power_2 108 = .ok (.invokevirtual 369, 3) := dk_182 1 113 (dk_at dksX1_power_2_4 15 rfl rfl)
theorem dX1_power_2_111 : decode cX1_power_2 111 = .ok (.invokestatic 372, 3) := dk_184 1 116 (dk_at dksX1_power_2_4 18 rfl rfl)
theorem dX1_power_2_114 : decode cX1_power_2 114 = .ok (.lstore 13, 2) := dk_55 13 (dk_at dksX1_power_2_4 21 rfl rfl)
theorem dX1_power_2_116 : decode cX1_power_2 116 = .ok (.goto (-36), 3) := dk_167 255 220 (dk_at dksX1_power_2_5 0 rfl rfl)
theorem dX1_power_2_119 : decode cX1_power_2 119 = .ok (.aload 11, 2) := dk_25 11 (dk_at dksX1_power_2_5 3 rfl rfl)
theorem dX1_power_2_121 : decode cX1_power_2 121 = .ok (.iload 12, 2) := dk_21 12 (dk_at dksX1_power_2_5 5 rfl rfl)
theorem dX1_power_2_123 : decode cX1_power_2 123 = .ok (.baload, 1) := dk_51 (dk_at dksX1_power_2_5 7 rfl rfl)
theorem dX1_power_2_124 : decode cX1_power_2 124 = .ok (.istore 7, 2) := dk_54 7 (dk_at dksX1_power_2_5 8 rfl rfl)
theorem dX1_power_2_126 : decode cX1_power_2 126 = .ok (.iinc 10 (-1), 3) := dk_132 10 255 (dk_at dksX1_power_2_5 10 rfl rfl)
theorem dX1_power_2_129 : decode cX1_power_2 129 = .ok (.goto (-84), 3) := dk_167 255 172 (dk_at dksX1_power_2_5 13 rfl rfl)
theorem dX1_power_2_132 : decode cX1_power_2 132 = .ok (.iload 7, 2) := dk_21 7 (dk_at dksX1_power_2_5 16 rfl rfl)
theorem dX1_power_2_134 : decode cX1_power_2 134 = .ok (.ireturn, 1) := dk_172 (dk_at dksX1_power_2_5 18 rfl rfl)
abbrev cX1_often : ByteArray := prog_1_method_67_code
def yX1_often : MethodName := ⟨RX1, "often", "(IIII)J"⟩
def dkwX1_often_1 : List UInt8 := [182, 1, 113, 21, 4, 47, 173]
abbrev dktX1_often_1 : List UInt8 := dkwX1_often_1 ++ []
def dkwX1_often_0 : List UInt8 := [42, 27, 28, 29, 182, 1, 109, 58, 5, 42, 21, 4, 182, 0, 155, 184, 0, 158, 42, 25, 5, 28, 29]
abbrev dktX1_often_0 : List UInt8 := dkwX1_often_0 ++ dktX1_often_1
theorem dksX1_often_0 : cX1_often.data.toList.drop 0 = dktX1_often_0 := by decide +kernel
theorem dksX1_often_1 : cX1_often.data.toList.drop 23 = dktX1_often_1 := dk_seg dksX1_often_0 23 rfl rfl
theorem dX1_often_0 : decode cX1_often 0 = .ok (.aload_n 0, 1) := dk_42 (dk_at dksX1_often_0 0 rfl rfl)
theorem dX1_often_1 : decode cX1_often 1 = .ok (.iload_n 1, 1) := dk_27 (dk_at dksX1_often_0 1 rfl rfl)
theorem dX1_often_2 : decode cX1_often 2 = .ok (.iload_n 2, 1) := dk_28 (dk_at dksX1_often_0 2 rfl rfl)
theorem dX1_often_3 : decode cX1_often 3 = .ok (.iload_n 3, 1) := dk_29 (dk_at dksX1_often_0 3 rfl rfl)
theorem dX1_often_4 : decode cX1_often 4 = .ok (.invokevirtual 365, 3) := dk_182 1 109 (dk_at dksX1_often_0 4 rfl rfl)
theorem dX1_often_7 : decode cX1_often 7 = .ok (.astore 5, 2) := dk_58 5 (dk_at dksX1_often_0 7 rfl rfl)
theorem dX1_often_9 : decode cX1_often 9 = .ok (.aload_n 0, 1) := dk_42 (dk_at dksX1_often_0 9 rfl rfl)
theorem dX1_often_10 : decode cX1_often 10 = .ok (.iload 4, 2) := dk_21 4 (dk_at dksX1_often_0 10 rfl rfl)
theorem dX1_often_12 : decode cX1_often 12 = .ok (.invokevirtual 155, 3) := dk_182 0 155 (dk_at dksX1_often_0 12 rfl rfl)
theorem dX1_often_15 : decode cX1_often 15 = .ok (.invokestatic 158, 3) := dk_184 0 158 (dk_at dksX1_often_0 15 rfl rfl)
theorem dX1_often_18 : decode cX1_often 18 = .ok (.aload_n 0, 1) := dk_42 (dk_at dksX1_often_0 18 rfl rfl)
theorem dX1_often_19 : decode cX1_often 19 = .ok (.aload 5, 2) := dk_25 5 (dk_at dksX1_often_0 19 rfl rfl)
theorem dX1_often_21 : decode cX1_often 21 = .ok (.iload_n 2, 1) := dk_28 (dk_at dksX1_often_0 21 rfl rfl)
theorem dX1_often_22 : decode cX1_often 22 = .ok (.iload_n 3, 1) := dk_29 (dk_at dksX1_often_0 22 rfl rfl)
theorem dX1_often_23 : decode cX1_often 23 = .ok (.invokevirtual 369, 3) := dk_182 1 113 (dk_at dksX1_often_1 0 rfl rfl)
theorem dX1_often_26 : decode cX1_often 26 = .ok (.iload 4, 2) := dk_21 4 (dk_at dksX1_often_1 3 rfl rfl)
theorem dX1_often_28 : decode cX1_often 28 = .ok (.laload, 1) := dk_47 (dk_at dksX1_often_1 5 rfl rfl)
theorem dX1_often_29 : decode cX1_often 29 = .ok (.lreturn, 1) := dk_173 (dk_at dksX1_often_1 6 rfl rfl)
abbrev cX1_keeps : ByteArray := prog_1_method_71_code
def yX1_keeps : MethodName := ⟨RX1, "keeps", "(II)I"⟩
def dkwX1_keeps_1 : List UInt8 := [167, 0, 4, 3, 172]
abbrev dktX1_keeps_1 : List UInt8 := dkwX1_keeps_1 ++ []
def dkwX1_keeps_0 : List UInt8 := [42, 27, 28, 182, 1, 129, 62, 29, 16, 254, 160, 0, 8, 16, 254, 167, 0, 13, 29, 2, 160, 0, 7, 4]
abbrev dktX1_keeps_0 : List UInt8 := dkwX1_keeps_0 ++ dktX1_keeps_1
theorem dksX1_keeps_0 : cX1_keeps.data.toList.drop 0 = dktX1_keeps_0 := by decide +kernel
theorem dksX1_keeps_1 : cX1_keeps.data.toList.drop 24 = dktX1_keeps_1 := dk_seg dksX1_keeps_0 24 rfl rfl
theorem dX1_keeps_0 : decode cX1_keeps 0 = .ok (.aload_n 0, 1) := dk_42 (dk_at dksX1_keeps_0 0 rfl rfl)
theorem dX1_keeps_1 : decode cX1_keeps 1 = .ok (.iload_n 1, 1) := dk_27 (dk_at dksX1_keeps_0 1 rfl rfl)
theorem dX1_keeps_2 : decode cX1_keeps 2 = .ok (.iload_n 2, 1) := dk_28 (dk_at dksX1_keeps_0 2 rfl rfl)
theorem dX1_keeps_3 : decode cX1_keeps 3 = .ok (.invokevirtual 385, 3) := dk_182 1 129 (dk_at dksX1_keeps_0 3 rfl rfl)
theorem dX1_keeps_6 : decode cX1_keeps 6 = .ok (.istore_n 3, 1) := dk_62 (dk_at dksX1_keeps_0 6 rfl rfl)
theorem dX1_keeps_7 : decode cX1_keeps 7 = .ok (.iload_n 3, 1) := dk_29 (dk_at dksX1_keeps_0 7 rfl rfl)
theorem dX1_keeps_8 : decode cX1_keeps 8 = .ok (.bipush (-2), 2) := dk_16 254 (dk_at dksX1_keeps_0 8 rfl rfl)
theorem dX1_keeps_10 : decode cX1_keeps 10 = .ok (.if_icmp .ne 8, 3) := dk_160 0 8 (dk_at dksX1_keeps_0 10 rfl rfl)
theorem dX1_keeps_13 : decode cX1_keeps 13 = .ok (.bipush (-2), 2) := dk_16 254 (dk_at dksX1_keeps_0 13 rfl rfl)
theorem dX1_keeps_15 : decode cX1_keeps 15 = .ok (.goto 13, 3) := dk_167 0 13 (dk_at dksX1_keeps_0 15 rfl rfl)
theorem dX1_keeps_18 : decode cX1_keeps 18 = .ok (.iload_n 3, 1) := dk_29 (dk_at dksX1_keeps_0 18 rfl rfl)
theorem dX1_keeps_19 : decode cX1_keeps 19 = .ok (.iconst (-1), 1) := dk_2 (dk_at dksX1_keeps_0 19 rfl rfl)
theorem dX1_keeps_20 : decode cX1_keeps 20 = .ok (.if_icmp .ne 7, 3) := dk_160 0 7 (dk_at dksX1_keeps_0 20 rfl rfl)
theorem dX1_keeps_23 : decode cX1_keeps 23 = .ok (.iconst 1, 1) := dk_4 (dk_at dksX1_keeps_0 23 rfl rfl)
theorem dX1_keeps_24 : decode cX1_keeps 24 = .ok (.goto 4, 3) := dk_167 0 4 (dk_at dksX1_keeps_1 0 rfl rfl)
theorem dX1_keeps_27 : decode cX1_keeps 27 = .ok (.iconst 0, 1) := dk_3 (dk_at dksX1_keeps_1 3 rfl rfl)
theorem dX1_keeps_28 : decode cX1_keeps 28 = .ok (.ireturn, 1) := dk_172 (dk_at dksX1_keeps_1 4 rfl rfl)
abbrev cX1_breaks : ByteArray := prog_1_method_70_code
def yX1_breaks : MethodName := ⟨RX1, "breaks", "(II)I"⟩
def dkwX1_breaks_1 : List UInt8 := [172]
abbrev dktX1_breaks_1 : List UInt8 := dkwX1_breaks_1 ++ []
def dkwX1_breaks_0 : List UInt8 := [42, 27, 182, 1, 95, 78, 28, 133, 10, 20, 1, 123, 184, 0, 128, 184, 0, 158, 42, 45, 28, 182, 1, 125]
abbrev dktX1_breaks_0 : List UInt8 := dkwX1_breaks_0 ++ dktX1_breaks_1
theorem dksX1_breaks_0 : cX1_breaks.data.toList.drop 0 = dktX1_breaks_0 := by decide +kernel
theorem dksX1_breaks_1 : cX1_breaks.data.toList.drop 24 = dktX1_breaks_1 := dk_seg dksX1_breaks_0 24 rfl rfl
theorem dX1_breaks_0 : decode cX1_breaks 0 = .ok (.aload_n 0, 1) := dk_42 (dk_at dksX1_breaks_0 0 rfl rfl)
theorem dX1_breaks_1 : decode cX1_breaks 1 = .ok (.iload_n 1, 1) := dk_27 (dk_at dksX1_breaks_0 1 rfl rfl)
theorem dX1_breaks_2 : decode cX1_breaks 2 = .ok (.invokevirtual 351, 3) := dk_182 1 95 (dk_at dksX1_breaks_0 2 rfl rfl)
theorem dX1_breaks_5 : decode cX1_breaks 5 = .ok (.astore_n 3, 1) := dk_78 (dk_at dksX1_breaks_0 5 rfl rfl)
theorem dX1_breaks_6 : decode cX1_breaks 6 = .ok (.iload_n 2, 1) := dk_28 (dk_at dksX1_breaks_0 6 rfl rfl)
theorem dX1_breaks_7 : decode cX1_breaks 7 = .ok (.i2l, 1) := dk_133 (dk_at dksX1_breaks_0 7 rfl rfl)
theorem dX1_breaks_8 : decode cX1_breaks 8 = .ok (.lconst 1, 1) := dk_10 (dk_at dksX1_breaks_0 8 rfl rfl)
theorem dX1_breaks_9 : decode cX1_breaks 9 = .ok (.ldc2_w 379, 3) := dk_20 1 123 (dk_at dksX1_breaks_0 9 rfl rfl)
theorem dX1_breaks_12 : decode cX1_breaks 12 = .ok (.invokestatic 128, 3) := dk_184 0 128 (dk_at dksX1_breaks_0 12 rfl rfl)
theorem dX1_breaks_15 : decode cX1_breaks 15 = .ok (.invokestatic 158, 3) := dk_184 0 158 (dk_at dksX1_breaks_0 15 rfl rfl)
theorem dX1_breaks_18 : decode cX1_breaks 18 = .ok (.aload_n 0, 1) := dk_42 (dk_at dksX1_breaks_0 18 rfl rfl)
theorem dX1_breaks_19 : decode cX1_breaks 19 = .ok (.aload_n 3, 1) := dk_45 (dk_at dksX1_breaks_0 19 rfl rfl)
theorem dX1_breaks_20 : decode cX1_breaks 20 = .ok (.iload_n 2, 1) := dk_28 (dk_at dksX1_breaks_0 20 rfl rfl)
theorem dX1_breaks_21 : decode cX1_breaks 21 = .ok (.invokevirtual 381, 3) := dk_182 1 125 (dk_at dksX1_breaks_0 21 rfl rfl)
theorem dX1_breaks_24 : decode cX1_breaks 24 = .ok (.ireturn, 1) := dk_172 (dk_at dksX1_breaks_1 0 rfl rfl)
abbrev cX1_breaksBy : ByteArray := prog_1_method_68_code
def yX1_breaksBy : MethodName := ⟨RX1, "breaksBy", "(LRepeatFree$Mapping;I)I"⟩
def dkwX1_breaksBy_4 : List UInt8 := [132, 4, 1, 167, 255, 179, 2, 172]
abbrev dktX1_breaksBy_4 : List UInt8 := dkwX1_breaksBy_4 ++ []
def dkwX1_breaksBy_3 : List UInt8 := [172, 45, 21, 4, 3, 182, 1, 45, 54, 5, 167, 255, 211, 45, 180, 1, 34, 153, 0, 6, 16, 254, 172]
abbrev dktX1_breaksBy_3 : List UInt8 := dkwX1_breaksBy_3 ++ dktX1_breaksBy_4
def dkwX1_breaksBy_2 : List UInt8 := [182, 1, 99, 54, 6, 42, 42, 180, 0, 59, 182, 0, 199, 2, 159, 0, 11, 45, 180, 1, 39, 184, 1, 120]
abbrev dktX1_breaksBy_2 : List UInt8 := dkwX1_breaksBy_2 ++ dktX1_breaksBy_3
def dkwX1_breaksBy_1 : List UInt8 := [163, 0, 77, 45, 21, 4, 3, 3, 182, 1, 31, 54, 5, 21, 5, 153, 0, 46, 42, 43, 45, 180, 1, 39]
abbrev dktX1_breaksBy_1 : List UInt8 := dkwX1_breaksBy_1 ++ dktX1_breaksBy_2
def dkwX1_breaksBy_0 : List UInt8 := [187, 1, 26, 89, 42, 187, 0, 42, 89, 183, 0, 44, 183, 1, 28, 78, 4, 54, 4, 21, 4, 28]
abbrev dktX1_breaksBy_0 : List UInt8 := dkwX1_breaksBy_0 ++ dktX1_breaksBy_1
theorem dksX1_breaksBy_0 : cX1_breaksBy.data.toList.drop 0 = dktX1_breaksBy_0 := by decide +kernel
theorem dksX1_breaksBy_1 : cX1_breaksBy.data.toList.drop 22 = dktX1_breaksBy_1 := dk_seg dksX1_breaksBy_0 22 rfl rfl
theorem dksX1_breaksBy_2 : cX1_breaksBy.data.toList.drop 46 = dktX1_breaksBy_2 := dk_seg dksX1_breaksBy_1 24 rfl rfl
theorem dksX1_breaksBy_3 : cX1_breaksBy.data.toList.drop 70 = dktX1_breaksBy_3 := dk_seg dksX1_breaksBy_2 24 rfl rfl
theorem dksX1_breaksBy_4 : cX1_breaksBy.data.toList.drop 93 = dktX1_breaksBy_4 := dk_seg dksX1_breaksBy_3 23 rfl rfl
theorem dX1_breaksBy_0 : decode cX1_breaksBy 0 = .ok (.new 282, 3) := dk_187 1 26 (dk_at dksX1_breaksBy_0 0 rfl rfl)
theorem dX1_breaksBy_3 : decode cX1_breaksBy 3 = .ok (.dup, 1) := dk_89 (dk_at dksX1_breaksBy_0 3 rfl rfl)
theorem dX1_breaksBy_4 : decode cX1_breaksBy 4 = .ok (.aload_n 0, 1) := dk_42 (dk_at dksX1_breaksBy_0 4 rfl rfl)
theorem dX1_breaksBy_5 : decode cX1_breaksBy 5 = .ok (.new 42, 3) := dk_187 0 42 (dk_at dksX1_breaksBy_0 5 rfl rfl)
theorem dX1_breaksBy_8 : decode cX1_breaksBy 8 = .ok (.dup, 1) := dk_89 (dk_at dksX1_breaksBy_0 8 rfl rfl)
theorem dX1_breaksBy_9 : decode cX1_breaksBy 9 = .ok (.invokespecial 44, 3) := dk_183 0 44 (dk_at dksX1_breaksBy_0 9 rfl rfl)
theorem dX1_breaksBy_12 : decode cX1_breaksBy 12 = .ok (.invokespecial 284, 3) := dk_183 1 28 (dk_at dksX1_breaksBy_0 12 rfl rfl)
theorem dX1_breaksBy_15 : decode cX1_breaksBy 15 = .ok (.astore_n 3, 1) := dk_78 (dk_at dksX1_breaksBy_0 15 rfl rfl)
theorem dX1_breaksBy_16 : decode cX1_breaksBy 16 = .ok (.iconst 1, 1) := dk_4 (dk_at dksX1_breaksBy_0 16 rfl rfl)
theorem dX1_breaksBy_17 : decode cX1_breaksBy 17 = .ok (.istore 4, 2) := dk_54 4 (dk_at dksX1_breaksBy_0 17 rfl rfl)
theorem dX1_breaksBy_19 : decode cX1_breaksBy 19 = .ok (.iload 4, 2) := dk_21 4 (dk_at dksX1_breaksBy_0 19 rfl rfl)
theorem dX1_breaksBy_21 : decode cX1_breaksBy 21 = .ok (.iload_n 2, 1) := dk_28 (dk_at dksX1_breaksBy_0 21 rfl rfl)
theorem dX1_breaksBy_22 : decode cX1_breaksBy 22 = .ok (.if_icmp .gt 77, 3) := dk_163 0 77 (dk_at dksX1_breaksBy_1 0 rfl rfl)
theorem dX1_breaksBy_25 : decode cX1_breaksBy 25 = .ok (.aload_n 3, 1) := dk_45 (dk_at dksX1_breaksBy_1 3 rfl rfl)
theorem dX1_breaksBy_26 : decode cX1_breaksBy 26 = .ok (.iload 4, 2) := dk_21 4 (dk_at dksX1_breaksBy_1 4 rfl rfl)
theorem dX1_breaksBy_28 : decode cX1_breaksBy 28 = .ok (.iconst 0, 1) := dk_3 (dk_at dksX1_breaksBy_1 6 rfl rfl)
theorem dX1_breaksBy_29 : decode cX1_breaksBy 29 = .ok (.iconst 0, 1) := dk_3 (dk_at dksX1_breaksBy_1 7 rfl rfl)
theorem dX1_breaksBy_30 : decode cX1_breaksBy 30 = .ok (.invokevirtual 287, 3) := dk_182 1 31 (dk_at dksX1_breaksBy_1 8 rfl rfl)
theorem dX1_breaksBy_33 : decode cX1_breaksBy 33 = .ok (.istore 5, 2) := dk_54 5 (dk_at dksX1_breaksBy_1 11 rfl rfl)
theorem dX1_breaksBy_35 : decode cX1_breaksBy 35 = .ok (.iload 5, 2) := dk_21 5 (dk_at dksX1_breaksBy_1 13 rfl rfl)
theorem dX1_breaksBy_37 : decode cX1_breaksBy 37 = .ok (.ifCond .eq 46, 3) := dk_153 0 46 (dk_at dksX1_breaksBy_1 15 rfl rfl)
theorem dX1_breaksBy_40 : decode cX1_breaksBy 40 = .ok (.aload_n 0, 1) := dk_42 (dk_at dksX1_breaksBy_1 18 rfl rfl)
theorem dX1_breaksBy_41 : decode cX1_breaksBy 41 = .ok (.aload_n 1, 1) := dk_43 (dk_at dksX1_breaksBy_1 19 rfl rfl)
theorem dX1_breaksBy_42 : decode cX1_breaksBy 42 = .ok (.aload_n 3, 1) := dk_45 (dk_at dksX1_breaksBy_1 20 rfl rfl)
theorem dX1_breaksBy_43 : decode cX1_breaksBy 43 = .ok (.getfield 295, 3) := dk_180 1 39 (dk_at dksX1_breaksBy_1 21 rfl rfl)
theorem dX1_breaksBy_46 : decode cX1_breaksBy 46 = .ok (.invokevirtual 355, 3) := dk_182 1 99 (dk_at dksX1_breaksBy_2 0 rfl rfl)
theorem dX1_breaksBy_49 : decode cX1_breaksBy 49 = .ok (.istore 6, 2) := dk_54 6 (dk_at dksX1_breaksBy_2 3 rfl rfl)
theorem dX1_breaksBy_51 : decode cX1_breaksBy 51 = .ok (.aload_n 0, 1) := dk_42 (dk_at dksX1_breaksBy_2 5 rfl rfl)
theorem dX1_breaksBy_52 : decode cX1_breaksBy 52 = .ok (.aload_n 0, 1) := dk_42 (dk_at dksX1_breaksBy_2 6 rfl rfl)
theorem dX1_breaksBy_53 : decode cX1_breaksBy 53 = .ok (.getfield 59, 3) := dk_180 0 59 (dk_at dksX1_breaksBy_2 7 rfl rfl)
theorem dX1_breaksBy_56 : decode cX1_breaksBy 56 = .ok (.invokevirtual 199, 3) := dk_182 0 199 (dk_at dksX1_breaksBy_2 10 rfl rfl)
theorem dX1_breaksBy_59 : decode cX1_breaksBy 59 = .ok (.iconst (-1), 1) := dk_2 (dk_at dksX1_breaksBy_2 13 rfl rfl)
theorem dX1_breaksBy_60 : decode cX1_breaksBy 60 = .ok (.if_icmp .eq 11, 3) := dk_159 0 11 (dk_at dksX1_breaksBy_2 14 rfl rfl)
theorem dX1_breaksBy_63 : decode cX1_breaksBy 63 = .ok (.aload_n 3, 1) := dk_45 (dk_at dksX1_breaksBy_2 17 rfl rfl)
theorem dX1_breaksBy_64 : decode cX1_breaksBy 64 = .ok (.getfield 295, 3) := dk_180 1 39 (dk_at dksX1_breaksBy_2 18 rfl rfl)
theorem dX1_breaksBy_67 : decode cX1_breaksBy 67 = .ok (.invokestatic 376, 3) := dk_184 1 120 (dk_at dksX1_breaksBy_2 21 rfl rfl)
theorem dX1_breaksBy_70 : decode cX1_breaksBy 70 = .ok (.ireturn, 1) := dk_172 (dk_at dksX1_breaksBy_3 0 rfl rfl)
theorem dX1_breaksBy_71 : decode cX1_breaksBy 71 = .ok (.aload_n 3, 1) := dk_45 (dk_at dksX1_breaksBy_3 1 rfl rfl)
theorem dX1_breaksBy_72 : decode cX1_breaksBy 72 = .ok (.iload 4, 2) := dk_21 4 (dk_at dksX1_breaksBy_3 2 rfl rfl)
theorem dX1_breaksBy_74 : decode cX1_breaksBy 74 = .ok (.iconst 0, 1) := dk_3 (dk_at dksX1_breaksBy_3 4 rfl rfl)
theorem dX1_breaksBy_75 : decode cX1_breaksBy 75 = .ok (.invokevirtual 301, 3) := dk_182 1 45 (dk_at dksX1_breaksBy_3 5 rfl rfl)
theorem dX1_breaksBy_78 : decode cX1_breaksBy 78 = .ok (.istore 5, 2) := dk_54 5 (dk_at dksX1_breaksBy_3 8 rfl rfl)
theorem dX1_breaksBy_80 : decode cX1_breaksBy 80 = .ok (.goto (-45), 3) := dk_167 255 211 (dk_at dksX1_breaksBy_3 10 rfl rfl)
theorem dX1_breaksBy_83 : decode cX1_breaksBy 83 = .ok (.aload_n 3, 1) := dk_45 (dk_at dksX1_breaksBy_3 13 rfl rfl)
theorem dX1_breaksBy_84 : decode cX1_breaksBy 84 = .ok (.getfield 290, 3) := dk_180 1 34 (dk_at dksX1_breaksBy_3 14 rfl rfl)
theorem dX1_breaksBy_87 : decode cX1_breaksBy 87 = .ok (.ifCond .eq 6, 3) := dk_153 0 6 (dk_at dksX1_breaksBy_3 17 rfl rfl)
theorem dX1_breaksBy_90 : decode cX1_breaksBy 90 = .ok (.bipush (-2), 2) := dk_16 254 (dk_at dksX1_breaksBy_3 20 rfl rfl)
theorem dX1_breaksBy_92 : decode cX1_breaksBy 92 = .ok (.ireturn, 1) := dk_172 (dk_at dksX1_breaksBy_3 22 rfl rfl)
theorem dX1_breaksBy_93 : decode cX1_breaksBy 93 = .ok (.iinc 4 1, 3) := dk_132 4 1 (dk_at dksX1_breaksBy_4 0 rfl rfl)
theorem dX1_breaksBy_96 : decode cX1_breaksBy 96 = .ok (.goto (-77), 3) := dk_167 255 179 (dk_at dksX1_breaksBy_4 3 rfl rfl)
theorem dX1_breaksBy_99 : decode cX1_breaksBy 99 = .ok (.iconst (-1), 1) := dk_2 (dk_at dksX1_breaksBy_4 6 rfl rfl)
theorem dX1_breaksBy_100 : decode cX1_breaksBy 100 = .ok (.ireturn, 1) := dk_172 (dk_at dksX1_breaksBy_4 7 rfl rfl)
abbrev cX1_figures : ByteArray := prog_1_method_69_code
def yX1_figures : MethodName := ⟨RX1, "figures", "(LRepeatFree$Word;)I"⟩
def dkwX1_figures_1 : List UInt8 := [96, 60, 132, 2, 1, 167, 255, 231, 27, 172]
abbrev dktX1_figures_1 : List UInt8 := dkwX1_figures_1 ++ []
def dkwX1_figures_0 : List UInt8 := [3, 60, 3, 61, 28, 42, 180, 0, 132, 162, 0, 23, 16, 10, 27, 104, 42, 180, 0, 152, 28, 51, 96, 4]
abbrev dktX1_figures_0 : List UInt8 := dkwX1_figures_0 ++ dktX1_figures_1
theorem dksX1_figures_0 : cX1_figures.data.toList.drop 0 = dktX1_figures_0 := by decide +kernel
theorem dksX1_figures_1 : cX1_figures.data.toList.drop 24 = dktX1_figures_1 := dk_seg dksX1_figures_0 24 rfl rfl
theorem dX1_figures_0 : decode cX1_figures 0 = .ok (.iconst 0, 1) := dk_3 (dk_at dksX1_figures_0 0 rfl rfl)
theorem dX1_figures_1 : decode cX1_figures 1 = .ok (.istore_n 1, 1) := dk_60 (dk_at dksX1_figures_0 1 rfl rfl)
theorem dX1_figures_2 : decode cX1_figures 2 = .ok (.iconst 0, 1) := dk_3 (dk_at dksX1_figures_0 2 rfl rfl)
theorem dX1_figures_3 : decode cX1_figures 3 = .ok (.istore_n 2, 1) := dk_61 (dk_at dksX1_figures_0 3 rfl rfl)
theorem dX1_figures_4 : decode cX1_figures 4 = .ok (.iload_n 2, 1) := dk_28 (dk_at dksX1_figures_0 4 rfl rfl)
theorem dX1_figures_5 : decode cX1_figures 5 = .ok (.aload_n 0, 1) := dk_42 (dk_at dksX1_figures_0 5 rfl rfl)
theorem dX1_figures_6 : decode cX1_figures 6 = .ok (.getfield 132, 3) := dk_180 0 132 (dk_at dksX1_figures_0 6 rfl rfl)
theorem dX1_figures_9 : decode cX1_figures 9 = .ok (.if_icmp .ge 23, 3) := dk_162 0 23 (dk_at dksX1_figures_0 9 rfl rfl)
theorem dX1_figures_12 : decode cX1_figures 12 = .ok (.bipush 10, 2) := dk_16 10 (dk_at dksX1_figures_0 12 rfl rfl)
theorem dX1_figures_14 : decode cX1_figures 14 = .ok (.iload_n 1, 1) := dk_27 (dk_at dksX1_figures_0 14 rfl rfl)
theorem dX1_figures_15 : decode cX1_figures 15 = .ok (.imul, 1) := dk_104 (dk_at dksX1_figures_0 15 rfl rfl)
theorem dX1_figures_16 : decode cX1_figures 16 = .ok (.aload_n 0, 1) := dk_42 (dk_at dksX1_figures_0 16 rfl rfl)
theorem dX1_figures_17 : decode cX1_figures 17 = .ok (.getfield 152, 3) := dk_180 0 152 (dk_at dksX1_figures_0 17 rfl rfl)
theorem dX1_figures_20 : decode cX1_figures 20 = .ok (.iload_n 2, 1) := dk_28 (dk_at dksX1_figures_0 20 rfl rfl)
theorem dX1_figures_21 : decode cX1_figures 21 = .ok (.baload, 1) := dk_51 (dk_at dksX1_figures_0 21 rfl rfl)
theorem dX1_figures_22 : decode cX1_figures 22 = .ok (.iadd, 1) := dk_96 (dk_at dksX1_figures_0 22 rfl rfl)
theorem dX1_figures_23 : decode cX1_figures 23 = .ok (.iconst 1, 1) := dk_4 (dk_at dksX1_figures_0 23 rfl rfl)
theorem dX1_figures_24 : decode cX1_figures 24 = .ok (.iadd, 1) := dk_96 (dk_at dksX1_figures_1 0 rfl rfl)
theorem dX1_figures_25 : decode cX1_figures 25 = .ok (.istore_n 1, 1) := dk_60 (dk_at dksX1_figures_1 1 rfl rfl)
theorem dX1_figures_26 : decode cX1_figures 26 = .ok (.iinc 2 1, 3) := dk_132 2 1 (dk_at dksX1_figures_1 2 rfl rfl)
theorem dX1_figures_29 : decode cX1_figures 29 = .ok (.goto (-25), 3) := dk_167 255 231 (dk_at dksX1_figures_1 5 rfl rfl)
theorem dX1_figures_32 : decode cX1_figures 32 = .ok (.iload_n 1, 1) := dk_27 (dk_at dksX1_figures_1 8 rfl rfl)
theorem dX1_figures_33 : decode cX1_figures 33 = .ok (.ireturn, 1) := dk_172 (dk_at dksX1_figures_1 9 rfl rfl)
abbrev cX1_grows : ByteArray := prog_1_method_72_code
def yX1_grows : MethodName := ⟨RX1, "grows", "(I)I"⟩
def dkwX1_grows_2 : List UInt8 := [164, 0, 10, 4, 21, 4, 120, 167, 0, 4, 3, 128, 62, 132, 4, 1, 167, 255, 204, 29, 172]
abbrev dktX1_grows_2 : List UInt8 := dkwX1_grows_2 ++ []
def dkwX1_grows_1 : List UInt8 := [44, 180, 1, 91, 21, 4, 50, 3, 51, 21, 4, 160, 0, 22, 44, 180, 1, 91, 21, 4, 50, 190, 4]
abbrev dktX1_grows_1 : List UInt8 := dkwX1_grows_1 ++ dktX1_grows_2
def dkwX1_grows_0 : List UInt8 := [42, 27, 182, 1, 95, 77, 3, 62, 3, 54, 4, 21, 4, 42, 180, 0, 32, 180, 0, 97, 162, 0, 46, 29]
abbrev dktX1_grows_0 : List UInt8 := dkwX1_grows_0 ++ dktX1_grows_1
theorem dksX1_grows_0 : cX1_grows.data.toList.drop 0 = dktX1_grows_0 := by decide +kernel
theorem dksX1_grows_1 : cX1_grows.data.toList.drop 24 = dktX1_grows_1 := dk_seg dksX1_grows_0 24 rfl rfl
theorem dksX1_grows_2 : cX1_grows.data.toList.drop 47 = dktX1_grows_2 := dk_seg dksX1_grows_1 23 rfl rfl
theorem dX1_grows_0 : decode cX1_grows 0 = .ok (.aload_n 0, 1) := dk_42 (dk_at dksX1_grows_0 0 rfl rfl)
theorem dX1_grows_1 : decode cX1_grows 1 = .ok (.iload_n 1, 1) := dk_27 (dk_at dksX1_grows_0 1 rfl rfl)
theorem dX1_grows_2 : decode cX1_grows 2 = .ok (.invokevirtual 351, 3) := dk_182 1 95 (dk_at dksX1_grows_0 2 rfl rfl)
theorem dX1_grows_5 : decode cX1_grows 5 = .ok (.astore_n 2, 1) := dk_77 (dk_at dksX1_grows_0 5 rfl rfl)
theorem dX1_grows_6 : decode cX1_grows 6 = .ok (.iconst 0, 1) := dk_3 (dk_at dksX1_grows_0 6 rfl rfl)
theorem dX1_grows_7 : decode cX1_grows 7 = .ok (.istore_n 3, 1) := dk_62 (dk_at dksX1_grows_0 7 rfl rfl)
theorem dX1_grows_8 : decode cX1_grows 8 = .ok (.iconst 0, 1) := dk_3 (dk_at dksX1_grows_0 8 rfl rfl)
theorem dX1_grows_9 : decode cX1_grows 9 = .ok (.istore 4, 2) := dk_54 4 (dk_at dksX1_grows_0 9 rfl rfl)
theorem dX1_grows_11 : decode cX1_grows 11 = .ok (.iload 4, 2) := dk_21 4 (dk_at dksX1_grows_0 11 rfl rfl)
theorem dX1_grows_13 : decode cX1_grows 13 = .ok (.aload_n 0, 1) := dk_42 (dk_at dksX1_grows_0 13 rfl rfl)
theorem dX1_grows_14 : decode cX1_grows 14 = .ok (.getfield 32, 3) := dk_180 0 32 (dk_at dksX1_grows_0 14 rfl rfl)
theorem dX1_grows_17 : decode cX1_grows 17 = .ok (.getfield 97, 3) := dk_180 0 97 (dk_at dksX1_grows_0 17 rfl rfl)
theorem dX1_grows_20 : decode cX1_grows 20 = .ok (.if_icmp .ge 46, 3) := dk_162 0 46 (dk_at dksX1_grows_0 20 rfl rfl)
theorem dX1_grows_23 : decode cX1_grows 23 = .ok (.iload_n 3, 1) := dk_29 (dk_at dksX1_grows_0 23 rfl rfl)
theorem dX1_grows_24 : decode cX1_grows 24 = .ok (.aload_n 2, 1) := dk_44 (dk_at dksX1_grows_1 0 rfl rfl)
theorem dX1_grows_25 : decode cX1_grows 25 = .ok (.getfield 347, 3) := dk_180 1 91 (dk_at dksX1_grows_1 1 rfl rfl)
theorem dX1_grows_28 : decode cX1_grows 28 = .ok (.iload 4, 2) := dk_21 4 (dk_at dksX1_grows_1 4 rfl rfl)
theorem dX1_grows_30 : decode cX1_grows 30 = .ok (.aaload, 1) := dk_50 (dk_at dksX1_grows_1 6 rfl rfl)
theorem dX1_grows_31 : decode cX1_grows 31 = .ok (.iconst 0, 1) := dk_3 (dk_at dksX1_grows_1 7 rfl rfl)
theorem dX1_grows_32 : decode cX1_grows 32 = .ok (.baload, 1) := dk_51 (dk_at dksX1_grows_1 8 rfl rfl)
theorem dX1_grows_33 : decode cX1_grows 33 = .ok (.iload 4, 2) := dk_21 4 (dk_at dksX1_grows_1 9 rfl rfl)
theorem dX1_grows_35 : decode cX1_grows 35 = .ok (.if_icmp .ne 22, 3) := dk_160 0 22 (dk_at dksX1_grows_1 11 rfl rfl)
theorem dX1_grows_38 : decode cX1_grows 38 = .ok (.aload_n 2, 1) := dk_44 (dk_at dksX1_grows_1 14 rfl rfl)
theorem dX1_grows_39 : decode cX1_grows 39 = .ok (.getfield 347, 3) := dk_180 1 91 (dk_at dksX1_grows_1 15 rfl rfl)
theorem dX1_grows_42 : decode cX1_grows 42 = .ok (.iload 4, 2) := dk_21 4 (dk_at dksX1_grows_1 18 rfl rfl)
theorem dX1_grows_44 : decode cX1_grows 44 = .ok (.aaload, 1) := dk_50 (dk_at dksX1_grows_1 20 rfl rfl)
theorem dX1_grows_45 : decode cX1_grows 45 = .ok (.arraylength, 1) := dk_190 (dk_at dksX1_grows_1 21 rfl rfl)
theorem dX1_grows_46 : decode cX1_grows 46 = .ok (.iconst 1, 1) := dk_4 (dk_at dksX1_grows_1 22 rfl rfl)
theorem dX1_grows_47 : decode cX1_grows 47 = .ok (.if_icmp .le 10, 3) := dk_164 0 10 (dk_at dksX1_grows_2 0 rfl rfl)
theorem dX1_grows_50 : decode cX1_grows 50 = .ok (.iconst 1, 1) := dk_4 (dk_at dksX1_grows_2 3 rfl rfl)
theorem dX1_grows_51 : decode cX1_grows 51 = .ok (.iload 4, 2) := dk_21 4 (dk_at dksX1_grows_2 4 rfl rfl)
theorem dX1_grows_53 : decode cX1_grows 53 = .ok (.ishl, 1) := dk_120 (dk_at dksX1_grows_2 6 rfl rfl)
theorem dX1_grows_54 : decode cX1_grows 54 = .ok (.goto 4, 3) := dk_167 0 4 (dk_at dksX1_grows_2 7 rfl rfl)
theorem dX1_grows_57 : decode cX1_grows 57 = .ok (.iconst 0, 1) := dk_3 (dk_at dksX1_grows_2 10 rfl rfl)
theorem dX1_grows_58 : decode cX1_grows 58 = .ok (.ior, 1) := dk_128 (dk_at dksX1_grows_2 11 rfl rfl)
theorem dX1_grows_59 : decode cX1_grows 59 = .ok (.istore_n 3, 1) := dk_62 (dk_at dksX1_grows_2 12 rfl rfl)
theorem dX1_grows_60 : decode cX1_grows 60 = .ok (.iinc 4 1, 3) := dk_132 4 1 (dk_at dksX1_grows_2 13 rfl rfl)
theorem dX1_grows_63 : decode cX1_grows 63 = .ok (.goto (-52), 3) := dk_167 255 204 (dk_at dksX1_grows_2 16 rfl rfl)
theorem dX1_grows_66 : decode cX1_grows 66 = .ok (.iload_n 3, 1) := dk_29 (dk_at dksX1_grows_2 19 rfl rfl)
theorem dX1_grows_67 : decode cX1_grows 67 = .ok (.ireturn, 1) := dk_172 (dk_at dksX1_grows_2 20 rfl rfl)
abbrev cX1_uniform : ByteArray := prog_1_method_73_code
def yX1_uniform : MethodName := ⟨RX1, "uniform", "(I)I"⟩
def dkwX1_uniform_2 : List UInt8 := [3, 50, 190, 172]
abbrev dktX1_uniform_2 : List UInt8 := dkwX1_uniform_2 ++ []
def dkwX1_uniform_1 : List UInt8 := [50, 190, 44, 180, 1, 91, 3, 50, 190, 159, 0, 5, 2, 172, 132, 3, 1, 167, 255, 223, 44, 180, 1, 91]
abbrev dktX1_uniform_1 : List UInt8 := dkwX1_uniform_1 ++ dktX1_uniform_2
def dkwX1_uniform_0 : List UInt8 := [42, 27, 182, 1, 95, 77, 4, 62, 29, 42, 180, 0, 32, 180, 0, 97, 162, 0, 28, 44, 180, 1, 91, 29]
abbrev dktX1_uniform_0 : List UInt8 := dkwX1_uniform_0 ++ dktX1_uniform_1
theorem dksX1_uniform_0 : cX1_uniform.data.toList.drop 0 = dktX1_uniform_0 := by decide +kernel
theorem dksX1_uniform_1 : cX1_uniform.data.toList.drop 24 = dktX1_uniform_1 := dk_seg dksX1_uniform_0 24 rfl rfl
theorem dksX1_uniform_2 : cX1_uniform.data.toList.drop 48 = dktX1_uniform_2 := dk_seg dksX1_uniform_1 24 rfl rfl
theorem dX1_uniform_0 : decode cX1_uniform 0 = .ok (.aload_n 0, 1) := dk_42 (dk_at dksX1_uniform_0 0 rfl rfl)
theorem dX1_uniform_1 : decode cX1_uniform 1 = .ok (.iload_n 1, 1) := dk_27 (dk_at dksX1_uniform_0 1 rfl rfl)
theorem dX1_uniform_2 : decode cX1_uniform 2 = .ok (.invokevirtual 351, 3) := dk_182 1 95 (dk_at dksX1_uniform_0 2 rfl rfl)
theorem dX1_uniform_5 : decode cX1_uniform 5 = .ok (.astore_n 2, 1) := dk_77 (dk_at dksX1_uniform_0 5 rfl rfl)
theorem dX1_uniform_6 : decode cX1_uniform 6 = .ok (.iconst 1, 1) := dk_4 (dk_at dksX1_uniform_0 6 rfl rfl)
theorem dX1_uniform_7 : decode cX1_uniform 7 = .ok (.istore_n 3, 1) := dk_62 (dk_at dksX1_uniform_0 7 rfl rfl)
theorem dX1_uniform_8 : decode cX1_uniform 8 = .ok (.iload_n 3, 1) := dk_29 (dk_at dksX1_uniform_0 8 rfl rfl)
theorem dX1_uniform_9 : decode cX1_uniform 9 = .ok (.aload_n 0, 1) := dk_42 (dk_at dksX1_uniform_0 9 rfl rfl)
theorem dX1_uniform_10 : decode cX1_uniform 10 = .ok (.getfield 32, 3) := dk_180 0 32 (dk_at dksX1_uniform_0 10 rfl rfl)
theorem dX1_uniform_13 : decode cX1_uniform 13 = .ok (.getfield 97, 3) := dk_180 0 97 (dk_at dksX1_uniform_0 13 rfl rfl)
theorem dX1_uniform_16 : decode cX1_uniform 16 = .ok (.if_icmp .ge 28, 3) := dk_162 0 28 (dk_at dksX1_uniform_0 16 rfl rfl)
theorem dX1_uniform_19 : decode cX1_uniform 19 = .ok (.aload_n 2, 1) := dk_44 (dk_at dksX1_uniform_0 19 rfl rfl)
theorem dX1_uniform_20 : decode cX1_uniform 20 = .ok (.getfield 347, 3) := dk_180 1 91 (dk_at dksX1_uniform_0 20 rfl rfl)
theorem dX1_uniform_23 : decode cX1_uniform 23 = .ok (.iload_n 3, 1) := dk_29 (dk_at dksX1_uniform_0 23 rfl rfl)
theorem dX1_uniform_24 : decode cX1_uniform 24 = .ok (.aaload, 1) := dk_50 (dk_at dksX1_uniform_1 0 rfl rfl)
theorem dX1_uniform_25 : decode cX1_uniform 25 = .ok (.arraylength, 1) := dk_190 (dk_at dksX1_uniform_1 1 rfl rfl)
theorem dX1_uniform_26 : decode cX1_uniform 26 = .ok (.aload_n 2, 1) := dk_44 (dk_at dksX1_uniform_1 2 rfl rfl)
theorem dX1_uniform_27 : decode cX1_uniform 27 = .ok (.getfield 347, 3) := dk_180 1 91 (dk_at dksX1_uniform_1 3 rfl rfl)
theorem dX1_uniform_30 : decode cX1_uniform 30 = .ok (.iconst 0, 1) := dk_3 (dk_at dksX1_uniform_1 6 rfl rfl)
theorem dX1_uniform_31 : decode cX1_uniform 31 = .ok (.aaload, 1) := dk_50 (dk_at dksX1_uniform_1 7 rfl rfl)
theorem dX1_uniform_32 : decode cX1_uniform 32 = .ok (.arraylength, 1) := dk_190 (dk_at dksX1_uniform_1 8 rfl rfl)
theorem dX1_uniform_33 : decode cX1_uniform 33 = .ok (.if_icmp .eq 5, 3) := dk_159 0 5 (dk_at dksX1_uniform_1 9 rfl rfl)
theorem dX1_uniform_36 : decode cX1_uniform 36 = .ok (.iconst (-1), 1) := dk_2 (dk_at dksX1_uniform_1 12 rfl rfl)
theorem dX1_uniform_37 : decode cX1_uniform 37 = .ok (.ireturn, 1) := dk_172 (dk_at dksX1_uniform_1 13 rfl rfl)
theorem dX1_uniform_38 : decode cX1_uniform 38 = .ok (.iinc 3 1, 3) := dk_132 3 1 (dk_at dksX1_uniform_1 14 rfl rfl)
theorem dX1_uniform_41 : decode cX1_uniform 41 = .ok (.goto (-33), 3) := dk_167 255 223 (dk_at dksX1_uniform_1 17 rfl rfl)
theorem dX1_uniform_44 : decode cX1_uniform 44 = .ok (.aload_n 2, 1) := dk_44 (dk_at dksX1_uniform_1 20 rfl rfl)
theorem dX1_uniform_45 : decode cX1_uniform 45 = .ok (.getfield 347, 3) := dk_180 1 91 (dk_at dksX1_uniform_1 21 rfl rfl)
theorem dX1_uniform_48 : decode cX1_uniform 48 = .ok (.iconst 0, 1) := dk_3 (dk_at dksX1_uniform_2 0 rfl rfl)
theorem dX1_uniform_49 : decode cX1_uniform 49 = .ok (.aaload, 1) := dk_50 (dk_at dksX1_uniform_2 1 rfl rfl)
theorem dX1_uniform_50 : decode cX1_uniform 50 = .ok (.arraylength, 1) := dk_190 (dk_at dksX1_uniform_2 2 rfl rfl)
theorem dX1_uniform_51 : decode cX1_uniform 51 = .ok (.ireturn, 1) := dk_172 (dk_at dksX1_uniform_2 3 rfl rfl)
abbrev cX1_cannot : ByteArray := prog_1_method_90_code
def yX1_cannot : MethodName := ⟨RX1, "cannot", "(I)Z"⟩
def dkwX1_cannot_0 : List UInt8 := [42, 27, 182, 1, 73, 180, 1, 235, 184, 1, 226, 172]
abbrev dktX1_cannot_0 : List UInt8 := dkwX1_cannot_0 ++ []
theorem dksX1_cannot_0 : cX1_cannot.data.toList.drop 0 = dktX1_cannot_0 := by decide +kernel
theorem dX1_cannot_0 : decode cX1_cannot 0 = .ok (.aload_n 0, 1) := dk_42 (dk_at dksX1_cannot_0 0 rfl rfl)
theorem dX1_cannot_1 : decode cX1_cannot 1 = .ok (.iload_n 1, 1) := dk_27 (dk_at dksX1_cannot_0 1 rfl rfl)
theorem dX1_cannot_2 : decode cX1_cannot 2 = .ok (.invokevirtual 329, 3) := dk_182 1 73 (dk_at dksX1_cannot_0 2 rfl rfl)
theorem dX1_cannot_5 : decode cX1_cannot 5 = .ok (.getfield 491, 3) := dk_180 1 235 (dk_at dksX1_cannot_0 5 rfl rfl)
theorem dX1_cannot_8 : decode cX1_cannot 8 = .ok (.invokestatic 482, 3) := dk_184 1 226 (dk_at dksX1_cannot_0 8 rfl rfl)
theorem dX1_cannot_11 : decode cX1_cannot 11 = .ok (.ireturn, 1) := dk_172 (dk_at dksX1_cannot_0 11 rfl rfl)
abbrev cX1_cannot_2 : ByteArray := prog_1_method_87_code
def yX1_cannot_2 : MethodName := ⟨RX1, "cannot", "(Ljava/lang/String;)Z"⟩
def dkwX1_cannot_2_3 : List UInt8 := [172]
abbrev dktX1_cannot_2_3 : List UInt8 := dkwX1_cannot_2_3 ++ []
def dkwX1_cannot_2_2 : List UInt8 := [192, 1, 57, 182, 1, 211, 61, 42, 28, 184, 1, 222, 184, 1, 226, 153, 0, 5, 4, 172, 167, 255, 221, 3]
abbrev dktX1_cannot_2_2 : List UInt8 := dkwX1_cannot_2_2 ++ dktX1_cannot_2_3
def dkwX1_cannot_2_1 : List UInt8 := [184, 1, 218, 182, 0, 104, 76, 43, 185, 0, 110, 1, 0, 153, 0, 32, 43, 185, 0, 116, 1, 0]
abbrev dktX1_cannot_2_1 : List UInt8 := dkwX1_cannot_2_1 ++ dktX1_cannot_2_2
def dkwX1_cannot_2_0 : List UInt8 := [42, 182, 1, 153, 5, 162, 0, 17, 42, 182, 1, 153, 4, 160, 0, 7, 4, 167, 0, 4, 3, 172, 42]
abbrev dktX1_cannot_2_0 : List UInt8 := dkwX1_cannot_2_0 ++ dktX1_cannot_2_1
theorem dksX1_cannot_2_0 : cX1_cannot_2.data.toList.drop 0 = dktX1_cannot_2_0 := by decide +kernel
theorem dksX1_cannot_2_1 : cX1_cannot_2.data.toList.drop 23 = dktX1_cannot_2_1 := dk_seg dksX1_cannot_2_0 23 rfl rfl
theorem dksX1_cannot_2_2 : cX1_cannot_2.data.toList.drop 45 = dktX1_cannot_2_2 := dk_seg dksX1_cannot_2_1 22 rfl rfl
theorem dksX1_cannot_2_3 : cX1_cannot_2.data.toList.drop 69 = dktX1_cannot_2_3 := dk_seg dksX1_cannot_2_2 24 rfl rfl
theorem dX1_cannot_2_0 : decode cX1_cannot_2 0 = .ok (.aload_n 0, 1) := dk_42 (dk_at dksX1_cannot_2_0 0 rfl rfl)
theorem dX1_cannot_2_1 : decode cX1_cannot_2 1 = .ok (.invokevirtual 409, 3) := dk_182 1 153 (dk_at dksX1_cannot_2_0 1 rfl rfl)
theorem dX1_cannot_2_4 : decode cX1_cannot_2 4 = .ok (.iconst 2, 1) := dk_5 (dk_at dksX1_cannot_2_0 4 rfl rfl)
theorem dX1_cannot_2_5 : decode cX1_cannot_2 5 = .ok (.if_icmp .ge 17, 3) := dk_162 0 17 (dk_at dksX1_cannot_2_0 5 rfl rfl)
theorem dX1_cannot_2_8 : decode cX1_cannot_2 8 = .ok (.aload_n 0, 1) := dk_42 (dk_at dksX1_cannot_2_0 8 rfl rfl)
theorem dX1_cannot_2_9 : decode cX1_cannot_2 9 = .ok (.invokevirtual 409, 3) := dk_182 1 153 (dk_at dksX1_cannot_2_0 9 rfl rfl)
theorem dX1_cannot_2_12 : decode cX1_cannot_2 12 = .ok (.iconst 1, 1) := dk_4 (dk_at dksX1_cannot_2_0 12 rfl rfl)
theorem dX1_cannot_2_13 : decode cX1_cannot_2 13 = .ok (.if_icmp .ne 7, 3) := dk_160 0 7 (dk_at dksX1_cannot_2_0 13 rfl rfl)
theorem dX1_cannot_2_16 : decode cX1_cannot_2 16 = .ok (.iconst 1, 1) := dk_4 (dk_at dksX1_cannot_2_0 16 rfl rfl)
theorem dX1_cannot_2_17 : decode cX1_cannot_2 17 = .ok (.goto 4, 3) := dk_167 0 4 (dk_at dksX1_cannot_2_0 17 rfl rfl)
theorem dX1_cannot_2_20 : decode cX1_cannot_2 20 = .ok (.iconst 0, 1) := dk_3 (dk_at dksX1_cannot_2_0 20 rfl rfl)
theorem dX1_cannot_2_21 : decode cX1_cannot_2 21 = .ok (.ireturn, 1) := dk_172 (dk_at dksX1_cannot_2_0 21 rfl rfl)
theorem dX1_cannot_2_22 : decode cX1_cannot_2 22 = .ok (.aload_n 0, 1) := dk_42 (dk_at dksX1_cannot_2_0 22 rfl rfl)
theorem dX1_cannot_2_23 : decode cX1_cannot_2 23 = .ok (.invokestatic 474, 3) := dk_184 1 218 (dk_at dksX1_cannot_2_1 0 rfl rfl)
theorem dX1_cannot_2_26 : decode cX1_cannot_2 26 = .ok (.invokevirtual 104, 3) := dk_182 0 104 (dk_at dksX1_cannot_2_1 3 rfl rfl)
theorem dX1_cannot_2_29 : decode cX1_cannot_2 29 = .ok (.astore_n 1, 1) := dk_76 (dk_at dksX1_cannot_2_1 6 rfl rfl)
theorem dX1_cannot_2_30 : decode cX1_cannot_2 30 = .ok (.aload_n 1, 1) := dk_43 (dk_at dksX1_cannot_2_1 7 rfl rfl)
theorem dX1_cannot_2_31 : decode cX1_cannot_2 31 = .ok (.invokeinterface 110 1, 5) := by decide +kernel
theorem dX1_cannot_2_36 : decode cX1_cannot_2 36 = .ok (.ifCond .eq 32, 3) := dk_153 0 32 (dk_at dksX1_cannot_2_1 13 rfl rfl)
theorem dX1_cannot_2_39 : decode cX1_cannot_2 39 = .ok (.aload_n 1, 1) := dk_43 (dk_at dksX1_cannot_2_1 16 rfl rfl)
theorem dX1_cannot_2_40 : decode cX1_cannot_2 40 = .ok (.invokeinterface 116 1, 5) := by decide +kernel
theorem dX1_cannot_2_45 : decode cX1_cannot_2 45 = .ok (.checkcast 313, 3) := dk_192 1 57 (dk_at dksX1_cannot_2_2 0 rfl rfl)
theorem dX1_cannot_2_48 : decode cX1_cannot_2 48 = .ok (.invokevirtual 467, 3) := dk_182 1 211 (dk_at dksX1_cannot_2_2 3 rfl rfl)
theorem dX1_cannot_2_51 : decode cX1_cannot_2 51 = .ok (.istore_n 2, 1) := dk_61 (dk_at dksX1_cannot_2_2 6 rfl rfl)
theorem dX1_cannot_2_52 : decode cX1_cannot_2 52 = .ok (.aload_n 0, 1) := dk_42 (dk_at dksX1_cannot_2_2 7 rfl rfl)
theorem dX1_cannot_2_53 : decode cX1_cannot_2 53 = .ok (.iload_n 2, 1) := dk_28 (dk_at dksX1_cannot_2_2 8 rfl rfl)
theorem dX1_cannot_2_54 : decode cX1_cannot_2 54 = .ok (.invokestatic 478, 3) := dk_184 1 222 (dk_at dksX1_cannot_2_2 9 rfl rfl)
theorem dX1_cannot_2_57 : decode cX1_cannot_2 57 = .ok (.invokestatic 482, 3) := dk_184 1 226 (dk_at dksX1_cannot_2_2 12 rfl rfl)
theorem dX1_cannot_2_60 : decode cX1_cannot_2 60 = .ok (.ifCond .eq 5, 3) := dk_153 0 5 (dk_at dksX1_cannot_2_2 15 rfl rfl)
theorem dX1_cannot_2_63 : decode cX1_cannot_2 63 = .ok (.iconst 1, 1) := dk_4 (dk_at dksX1_cannot_2_2 18 rfl rfl)
theorem dX1_cannot_2_64 : decode cX1_cannot_2 64 = .ok (.ireturn, 1) := dk_172 (dk_at dksX1_cannot_2_2 19 rfl rfl)
theorem dX1_cannot_2_65 : decode cX1_cannot_2 65 = .ok (.goto (-35), 3) := dk_167 255 221 (dk_at dksX1_cannot_2_2 20 rfl rfl)
theorem dX1_cannot_2_68 : decode cX1_cannot_2 68 = .ok (.iconst 0, 1) := dk_3 (dk_at dksX1_cannot_2_2 23 rfl rfl)
theorem dX1_cannot_2_69 : decode cX1_cannot_2 69 = .ok (.ireturn, 1) := dk_172 (dk_at dksX1_cannot_2_3 0 rfl rfl)
abbrev cX1_loose : ByteArray := prog_1_method_85_code
def yX1_loose : MethodName := ⟨RX1, "loose", "(Ljava/lang/String;)Ljava/util/LinkedList;"⟩
def dkwX1_loose_4 : List UInt8 := [167, 255, 222, 44, 176]
abbrev dktX1_loose_4 : List UInt8 := dkwX1_loose_4 ++ []
def dkwX1_loose_3 : List UInt8 := [185, 0, 116, 1, 0, 192, 1, 57, 182, 1, 211, 184, 1, 214, 154, 255, 231, 45, 185, 0, 248, 1, 0]
abbrev dktX1_loose_3 : List UInt8 := dkwX1_loose_3 ++ dktX1_loose_4
def dkwX1_loose_2 : List UInt8 := [132, 3, 1, 167, 255, 231, 44, 182, 0, 104, 78, 45, 185, 0, 110, 1, 0, 153, 0, 31, 42, 45]
abbrev dktX1_loose_2 : List UInt8 := dkwX1_loose_2 ++ dktX1_loose_3
def dkwX1_loose_1 : List UInt8 := [62, 29, 27, 163, 0, 26, 29, 27, 2, 130, 126, 154, 0, 12, 44, 29, 184, 1, 207, 182, 0, 238, 87]
abbrev dktX1_loose_1 : List UInt8 := dkwX1_loose_1 ++ dktX1_loose_2
def dkwX1_loose_0 : List UInt8 := [187, 0, 36, 89, 19, 1, 200, 42, 183, 1, 202, 182, 1, 205, 60, 187, 0, 105, 89, 183, 0, 220, 77, 4]
abbrev dktX1_loose_0 : List UInt8 := dkwX1_loose_0 ++ dktX1_loose_1
theorem dksX1_loose_0 : cX1_loose.data.toList.drop 0 = dktX1_loose_0 := by decide +kernel
theorem dksX1_loose_1 : cX1_loose.data.toList.drop 24 = dktX1_loose_1 := dk_seg dksX1_loose_0 24 rfl rfl
theorem dksX1_loose_2 : cX1_loose.data.toList.drop 47 = dktX1_loose_2 := dk_seg dksX1_loose_1 23 rfl rfl
theorem dksX1_loose_3 : cX1_loose.data.toList.drop 69 = dktX1_loose_3 := dk_seg dksX1_loose_2 22 rfl rfl
theorem dksX1_loose_4 : cX1_loose.data.toList.drop 92 = dktX1_loose_4 := dk_seg dksX1_loose_3 23 rfl rfl
theorem dX1_loose_0 : decode cX1_loose 0 = .ok (.new 36, 3) := dk_187 0 36 (dk_at dksX1_loose_0 0 rfl rfl)
theorem dX1_loose_3 : decode cX1_loose 3 = .ok (.dup, 1) := dk_89 (dk_at dksX1_loose_0 3 rfl rfl)
theorem dX1_loose_4 : decode cX1_loose 4 = .ok (.ldc_w 456, 3) := dk_19 1 200 (dk_at dksX1_loose_0 4 rfl rfl)
theorem dX1_loose_7 : decode cX1_loose 7 = .ok (.aload_n 0, 1) := dk_42 (dk_at dksX1_loose_0 7 rfl rfl)
theorem dX1_loose_8 : decode cX1_loose 8 = .ok (.invokespecial 458, 3) := dk_183 1 202 (dk_at dksX1_loose_0 8 rfl rfl)
theorem dX1_loose_11 : decode cX1_loose 11 = .ok (.invokevirtual 461, 3) := dk_182 1 205 (dk_at dksX1_loose_0 11 rfl rfl)
theorem dX1_loose_14 : decode cX1_loose 14 = .ok (.istore_n 1, 1) := dk_60 (dk_at dksX1_loose_0 14 rfl rfl)
theorem dX1_loose_15 : decode cX1_loose 15 = .ok (.new 105, 3) := dk_187 0 105 (dk_at dksX1_loose_0 15 rfl rfl)
theorem dX1_loose_18 : decode cX1_loose 18 = .ok (.dup, 1) := dk_89 (dk_at dksX1_loose_0 18 rfl rfl)
theorem dX1_loose_19 : decode cX1_loose 19 = .ok (.invokespecial 220, 3) := dk_183 0 220 (dk_at dksX1_loose_0 19 rfl rfl)
theorem dX1_loose_22 : decode cX1_loose 22 = .ok (.astore_n 2, 1) := dk_77 (dk_at dksX1_loose_0 22 rfl rfl)
theorem dX1_loose_23 : decode cX1_loose 23 = .ok (.iconst 1, 1) := dk_4 (dk_at dksX1_loose_0 23 rfl rfl)
theorem dX1_loose_24 : decode cX1_loose 24 = .ok (.istore_n 3, 1) := dk_62 (dk_at dksX1_loose_1 0 rfl rfl)
theorem dX1_loose_25 : decode cX1_loose 25 = .ok (.iload_n 3, 1) := dk_29 (dk_at dksX1_loose_1 1 rfl rfl)
theorem dX1_loose_26 : decode cX1_loose 26 = .ok (.iload_n 1, 1) := dk_27 (dk_at dksX1_loose_1 2 rfl rfl)
theorem dX1_loose_27 : decode cX1_loose 27 = .ok (.if_icmp .gt 26, 3) := dk_163 0 26 (dk_at dksX1_loose_1 3 rfl rfl)
theorem dX1_loose_30 : decode cX1_loose 30 = .ok (.iload_n 3, 1) := dk_29 (dk_at dksX1_loose_1 6 rfl rfl)
theorem dX1_loose_31 : decode cX1_loose 31 = .ok (.iload_n 1, 1) := dk_27 (dk_at dksX1_loose_1 7 rfl rfl)
theorem dX1_loose_32 : decode cX1_loose 32 = .ok (.iconst (-1), 1) := dk_2 (dk_at dksX1_loose_1 8 rfl rfl)
theorem dX1_loose_33 : decode cX1_loose 33 = .ok (.ixor, 1) := dk_130 (dk_at dksX1_loose_1 9 rfl rfl)
theorem dX1_loose_34 : decode cX1_loose 34 = .ok (.iand, 1) := dk_126 (dk_at dksX1_loose_1 10 rfl rfl)
theorem dX1_loose_35 : decode cX1_loose 35 = .ok (.ifCond .ne 12, 3) := dk_154 0 12 (dk_at dksX1_loose_1 11 rfl rfl)
theorem dX1_loose_38 : decode cX1_loose 38 = .ok (.aload_n 2, 1) := dk_44 (dk_at dksX1_loose_1 14 rfl rfl)
theorem dX1_loose_39 : decode cX1_loose 39 = .ok (.iload_n 3, 1) := dk_29 (dk_at dksX1_loose_1 15 rfl rfl)
theorem dX1_loose_40 : decode cX1_loose 40 = .ok (.invokestatic 463, 3) := dk_184 1 207 (dk_at dksX1_loose_1 16 rfl rfl)
theorem dX1_loose_43 : decode cX1_loose 43 = .ok (.invokevirtual 238, 3) := dk_182 0 238 (dk_at dksX1_loose_1 19 rfl rfl)
theorem dX1_loose_46 : decode cX1_loose 46 = .ok (.pop, 1) := dk_87 (dk_at dksX1_loose_1 22 rfl rfl)
theorem dX1_loose_47 : decode cX1_loose 47 = .ok (.iinc 3 1, 3) := dk_132 3 1 (dk_at dksX1_loose_2 0 rfl rfl)
theorem dX1_loose_50 : decode cX1_loose 50 = .ok (.goto (-25), 3) := dk_167 255 231 (dk_at dksX1_loose_2 3 rfl rfl)
theorem dX1_loose_53 : decode cX1_loose 53 = .ok (.aload_n 2, 1) := dk_44 (dk_at dksX1_loose_2 6 rfl rfl)
theorem dX1_loose_54 : decode cX1_loose 54 = .ok (.invokevirtual 104, 3) := dk_182 0 104 (dk_at dksX1_loose_2 7 rfl rfl)
theorem dX1_loose_57 : decode cX1_loose 57 = .ok (.astore_n 3, 1) := dk_78 (dk_at dksX1_loose_2 10 rfl rfl)
theorem dX1_loose_58 : decode cX1_loose 58 = .ok (.aload_n 3, 1) := dk_45 (dk_at dksX1_loose_2 11 rfl rfl)
theorem dX1_loose_59 : decode cX1_loose 59 = .ok (.invokeinterface 110 1, 5) := by decide +kernel
theorem dX1_loose_64 : decode cX1_loose 64 = .ok (.ifCond .eq 31, 3) := dk_153 0 31 (dk_at dksX1_loose_2 17 rfl rfl)
theorem dX1_loose_67 : decode cX1_loose 67 = .ok (.aload_n 0, 1) := dk_42 (dk_at dksX1_loose_2 20 rfl rfl)
theorem dX1_loose_68 : decode cX1_loose 68 = .ok (.aload_n 3, 1) := dk_45 (dk_at dksX1_loose_2 21 rfl rfl)
theorem dX1_loose_69 : decode cX1_loose 69 = .ok (.invokeinterface 116 1, 5) := by decide +kernel
theorem dX1_loose_74 : decode cX1_loose 74 = .ok (.checkcast 313, 3) := dk_192 1 57 (dk_at dksX1_loose_3 5 rfl rfl)
theorem dX1_loose_77 : decode cX1_loose 77 = .ok (.invokevirtual 467, 3) := dk_182 1 211 (dk_at dksX1_loose_3 8 rfl rfl)
theorem dX1_loose_80 : decode cX1_loose 80 = .ok (.invokestatic 470, 3) := dk_184 1 214 (dk_at dksX1_loose_3 11 rfl rfl)
theorem dX1_loose_83 : decode cX1_loose 83 = .ok (.ifCond .ne (-25), 3) := dk_154 255 231 (dk_at dksX1_loose_3 14 rfl rfl)
theorem dX1_loose_86 : decode cX1_loose 86 = .ok (.aload_n 3, 1) := dk_45 (dk_at dksX1_loose_3 17 rfl rfl)
theorem dX1_loose_87 : decode cX1_loose 87 = .ok (.invokeinterface 248 1, 5) := by decide +kernel
theorem dX1_loose_92 : decode cX1_loose 92 = .ok (.goto (-34), 3) := dk_167 255 222 (dk_at dksX1_loose_4 0 rfl rfl)
theorem dX1_loose_95 : decode cX1_loose 95 = .ok (.aload_n 2, 1) := dk_44 (dk_at dksX1_loose_4 3 rfl rfl)
theorem dX1_loose_96 : decode cX1_loose 96 = .ok (.areturn, 1) := dk_176 (dk_at dksX1_loose_4 4 rfl rfl)
abbrev cX1_isLoose : ByteArray := prog_1_method_84_code
def yX1_isLoose : MethodName := ⟨RX1, "isLoose", "(Ljava/lang/String;I)Z"⟩
def dkwX1_isLoose_6 : List UInt8 := [153, 0, 16, 44, 6, 21, 4, 96, 182, 1, 198, 153, 0, 5, 3, 172, 132, 4, 1, 167, 255, 225, 4, 172]
abbrev dktX1_isLoose_6 : List UInt8 := dkwX1_isLoose_6 ++ []
def dkwX1_isLoose_5 : List UInt8 := [132, 4, 1, 167, 255, 186, 167, 255, 167, 3, 54, 4, 21, 4, 6, 162, 0, 31, 27, 21, 4, 184, 1, 135]
abbrev dktX1_isLoose_5 : List UInt8 := dkwX1_isLoose_5 ++ dktX1_isLoose_6
def dkwX1_isLoose_4 : List UInt8 := [154, 0, 12, 44, 21, 6, 182, 1, 198, 153, 0, 15, 44, 21, 5, 182, 0, 224, 44, 21, 6, 182, 0, 224]
abbrev dktX1_isLoose_4 : List UInt8 := dkwX1_isLoose_4 ++ dktX1_isLoose_5
def dkwX1_isLoose_3 : List UInt8 := [54, 5, 6, 42, 21, 4, 4, 96, 182, 1, 158, 96, 16, 120, 100, 54, 6, 44, 21, 5, 182, 1, 198]
abbrev dktX1_isLoose_3 : List UInt8 := dkwX1_isLoose_3 ++ dktX1_isLoose_4
def dkwX1_isLoose_2 : List UInt8 := [62, 3, 54, 4, 21, 4, 4, 96, 42, 182, 1, 153, 162, 0, 65, 42, 21, 4, 182, 1, 158, 16, 120, 100]
abbrev dktX1_isLoose_2 : List UInt8 := dkwX1_isLoose_2 ++ dktX1_isLoose_3
def dkwX1_isLoose_1 : List UInt8 := [29, 182, 0, 224, 132, 3, 1, 167, 255, 235, 2, 62, 29, 44, 182, 1, 195, 159, 0, 87, 44, 182, 1, 195]
abbrev dktX1_isLoose_1 : List UInt8 := dkwX1_isLoose_1 ++ dktX1_isLoose_2
def dkwX1_isLoose_0 : List UInt8 := [187, 0, 221, 89, 183, 0, 223, 77, 3, 62, 29, 6, 162, 0, 22, 27, 29, 184, 1, 135, 153, 0, 8, 44]
abbrev dktX1_isLoose_0 : List UInt8 := dkwX1_isLoose_0 ++ dktX1_isLoose_1
theorem dksX1_isLoose_0 : cX1_isLoose.data.toList.drop 0 = dktX1_isLoose_0 := by decide +kernel
theorem dksX1_isLoose_1 : cX1_isLoose.data.toList.drop 24 = dktX1_isLoose_1 := dk_seg dksX1_isLoose_0 24 rfl rfl
theorem dksX1_isLoose_2 : cX1_isLoose.data.toList.drop 48 = dktX1_isLoose_2 := dk_seg dksX1_isLoose_1 24 rfl rfl
theorem dksX1_isLoose_3 : cX1_isLoose.data.toList.drop 72 = dktX1_isLoose_3 := dk_seg dksX1_isLoose_2 24 rfl rfl
theorem dksX1_isLoose_4 : cX1_isLoose.data.toList.drop 95 = dktX1_isLoose_4 := dk_seg dksX1_isLoose_3 23 rfl rfl
theorem dksX1_isLoose_5 : cX1_isLoose.data.toList.drop 119 = dktX1_isLoose_5 := dk_seg dksX1_isLoose_4 24 rfl rfl
theorem dksX1_isLoose_6 : cX1_isLoose.data.toList.drop 143 = dktX1_isLoose_6 := dk_seg dksX1_isLoose_5 24 rfl rfl
theorem dX1_isLoose_0 : decode cX1_isLoose 0 = .ok (.new 221, 3) := dk_187 0 221 (dk_at dksX1_isLoose_0 0 rfl rfl)
theorem dX1_isLoose_3 : decode cX1_isLoose 3 = .ok (.dup, 1) := dk_89 (dk_at dksX1_isLoose_0 3 rfl rfl)
theorem dX1_isLoose_4 : decode cX1_isLoose 4 = .ok (.invokespecial 223, 3) := dk_183 0 223 (dk_at dksX1_isLoose_0 4 rfl rfl)
theorem dX1_isLoose_7 : decode cX1_isLoose 7 = .ok (.astore_n 2, 1) := dk_77 (dk_at dksX1_isLoose_0 7 rfl rfl)
theorem dX1_isLoose_8 : decode cX1_isLoose 8 = .ok (.iconst 0, 1) := dk_3 (dk_at dksX1_isLoose_0 8 rfl rfl)
theorem dX1_isLoose_9 : decode cX1_isLoose 9 = .ok (.istore_n 3, 1) := dk_62 (dk_at dksX1_isLoose_0 9 rfl rfl)
theorem dX1_isLoose_10 : decode cX1_isLoose 10 = .ok (.iload_n 3, 1) := dk_29 (dk_at dksX1_isLoose_0 10 rfl rfl)
theorem dX1_isLoose_11 : decode cX1_isLoose 11 = .ok (.iconst 3, 1) := dk_6 (dk_at dksX1_isLoose_0 11 rfl rfl)
theorem dX1_isLoose_12 : decode cX1_isLoose 12 = .ok (.if_icmp .ge 22, 3) := dk_162 0 22 (dk_at dksX1_isLoose_0 12 rfl rfl)
theorem dX1_isLoose_15 : decode cX1_isLoose 15 = .ok (.iload_n 1, 1) := dk_27 (dk_at dksX1_isLoose_0 15 rfl rfl)
theorem dX1_isLoose_16 : decode cX1_isLoose 16 = .ok (.iload_n 3, 1) := dk_29 (dk_at dksX1_isLoose_0 16 rfl rfl)
theorem dX1_isLoose_17 : decode cX1_isLoose 17 = .ok (.invokestatic 391, 3) := dk_184 1 135 (dk_at dksX1_isLoose_0 17 rfl rfl)
theorem dX1_isLoose_20 : decode cX1_isLoose 20 = .ok (.ifCond .eq 8, 3) := dk_153 0 8 (dk_at dksX1_isLoose_0 20 rfl rfl)
theorem dX1_isLoose_23 : decode cX1_isLoose 23 = .ok (.aload_n 2, 1) := dk_44 (dk_at dksX1_isLoose_0 23 rfl rfl)
theorem dX1_isLoose_24 : decode cX1_isLoose 24 = .ok (.iload_n 3, 1) := dk_29 (dk_at dksX1_isLoose_1 0 rfl rfl)
theorem dX1_isLoose_25 : decode cX1_isLoose 25 = .ok (.invokevirtual 224, 3) := dk_182 0 224 (dk_at dksX1_isLoose_1 1 rfl rfl)
theorem dX1_isLoose_28 : decode cX1_isLoose 28 = .ok (.iinc 3 1, 3) := dk_132 3 1 (dk_at dksX1_isLoose_1 4 rfl rfl)
theorem dX1_isLoose_31 : decode cX1_isLoose 31 = .ok (.goto (-21), 3) := dk_167 255 235 (dk_at dksX1_isLoose_1 7 rfl rfl)
theorem dX1_isLoose_34 : decode cX1_isLoose 34 = .ok (.iconst (-1), 1) := dk_2 (dk_at dksX1_isLoose_1 10 rfl rfl)
theorem dX1_isLoose_35 : decode cX1_isLoose 35 = .ok (.istore_n 3, 1) := dk_62 (dk_at dksX1_isLoose_1 11 rfl rfl)
theorem dX1_isLoose_36 : decode cX1_isLoose 36 = .ok (.iload_n 3, 1) := dk_29 (dk_at dksX1_isLoose_1 12 rfl rfl)
theorem dX1_isLoose_37 : decode cX1_isLoose 37 = .ok (.aload_n 2, 1) := dk_44 (dk_at dksX1_isLoose_1 13 rfl rfl)
theorem dX1_isLoose_38 : decode cX1_isLoose 38 = .ok (.invokevirtual 451, 3) := dk_182 1 195 (dk_at dksX1_isLoose_1 14 rfl rfl)
theorem dX1_isLoose_41 : decode cX1_isLoose 41 = .ok (.if_icmp .eq 87, 3) := dk_159 0 87 (dk_at dksX1_isLoose_1 17 rfl rfl)
theorem dX1_isLoose_44 : decode cX1_isLoose 44 = .ok (.aload_n 2, 1) := dk_44 (dk_at dksX1_isLoose_1 20 rfl rfl)
theorem dX1_isLoose_45 : decode cX1_isLoose 45 = .ok (.invokevirtual 451, 3) := dk_182 1 195 (dk_at dksX1_isLoose_1 21 rfl rfl)
theorem dX1_isLoose_48 : decode cX1_isLoose 48 = .ok (.istore_n 3, 1) := dk_62 (dk_at dksX1_isLoose_2 0 rfl rfl)
theorem dX1_isLoose_49 : decode cX1_isLoose 49 = .ok (.iconst 0, 1) := dk_3 (dk_at dksX1_isLoose_2 1 rfl rfl)
theorem dX1_isLoose_50 : decode cX1_isLoose 50 = .ok (.istore 4, 2) := dk_54 4 (dk_at dksX1_isLoose_2 2 rfl rfl)
theorem dX1_isLoose_52 : decode cX1_isLoose 52 = .ok (.iload 4, 2) := dk_21 4 (dk_at dksX1_isLoose_2 4 rfl rfl)
theorem dX1_isLoose_54 : decode cX1_isLoose 54 = .ok (.iconst 1, 1) := dk_4 (dk_at dksX1_isLoose_2 6 rfl rfl)
theorem dX1_isLoose_55 : decode cX1_isLoose 55 = .ok (.iadd, 1) := dk_96 (dk_at dksX1_isLoose_2 7 rfl rfl)
theorem dX1_isLoose_56 : decode cX1_isLoose 56 = .ok (.aload_n 0, 1) := dk_42 (dk_at dksX1_isLoose_2 8 rfl rfl)
theorem dX1_isLoose_57 : decode cX1_isLoose 57 = .ok (.invokevirtual 409, 3) := dk_182 1 153 (dk_at dksX1_isLoose_2 9 rfl rfl)
theorem dX1_isLoose_60 : decode cX1_isLoose 60 = .ok (.if_icmp .ge 65, 3) := dk_162 0 65 (dk_at dksX1_isLoose_2 12 rfl rfl)
theorem dX1_isLoose_63 : decode cX1_isLoose 63 = .ok (.aload_n 0, 1) := dk_42 (dk_at dksX1_isLoose_2 15 rfl rfl)
theorem dX1_isLoose_64 : decode cX1_isLoose 64 = .ok (.iload 4, 2) := dk_21 4 (dk_at dksX1_isLoose_2 16 rfl rfl)
theorem dX1_isLoose_66 : decode cX1_isLoose 66 = .ok (.invokevirtual 414, 3) := dk_182 1 158 (dk_at dksX1_isLoose_2 18 rfl rfl)
theorem dX1_isLoose_69 : decode cX1_isLoose 69 = .ok (.bipush 120, 2) := dk_16 120 (dk_at dksX1_isLoose_2 21 rfl rfl)
theorem dX1_isLoose_71 : decode cX1_isLoose 71 = .ok (.isub, 1) := dk_100 (dk_at dksX1_isLoose_2 23 rfl rfl)
theorem dX1_isLoose_72 : decode cX1_isLoose 72 = .ok (.istore 5, 2) := dk_54 5 (dk_at dksX1_isLoose_3 0 rfl rfl)
theorem dX1_isLoose_74 : decode cX1_isLoose 74 = .ok (.iconst 3, 1) := dk_6 (dk_at dksX1_isLoose_3 2 rfl rfl)
theorem dX1_isLoose_75 : decode cX1_isLoose 75 = .ok (.aload_n 0, 1) := dk_42 (dk_at dksX1_isLoose_3 3 rfl rfl)
theorem dX1_isLoose_76 : decode cX1_isLoose 76 = .ok (.iload 4, 2) := dk_21 4 (dk_at dksX1_isLoose_3 4 rfl rfl)
theorem dX1_isLoose_78 : decode cX1_isLoose 78 = .ok (.iconst 1, 1) := dk_4 (dk_at dksX1_isLoose_3 6 rfl rfl)
theorem dX1_isLoose_79 : decode cX1_isLoose 79 = .ok (.iadd, 1) := dk_96 (dk_at dksX1_isLoose_3 7 rfl rfl)
theorem dX1_isLoose_80 : decode cX1_isLoose 80 = .ok (.invokevirtual 414, 3) := dk_182 1 158 (dk_at dksX1_isLoose_3 8 rfl rfl)
theorem dX1_isLoose_83 : decode cX1_isLoose 83 = .ok (.iadd, 1) := dk_96 (dk_at dksX1_isLoose_3 11 rfl rfl)
theorem dX1_isLoose_84 : decode cX1_isLoose 84 = .ok (.bipush 120, 2) := dk_16 120 (dk_at dksX1_isLoose_3 12 rfl rfl)
theorem dX1_isLoose_86 : decode cX1_isLoose 86 = .ok (.isub, 1) := dk_100 (dk_at dksX1_isLoose_3 14 rfl rfl)
theorem dX1_isLoose_87 : decode cX1_isLoose 87 = .ok (.istore 6, 2) := dk_54 6 (dk_at dksX1_isLoose_3 15 rfl rfl)
theorem dX1_isLoose_89 : decode cX1_isLoose 89 = .ok (.aload_n 2, 1) := dk_44 (dk_at dksX1_isLoose_3 17 rfl rfl)
theorem dX1_isLoose_90 : decode cX1_isLoose 90 = .ok (.iload 5, 2) := dk_21 5 (dk_at dksX1_isLoose_3 18 rfl rfl)
theorem dX1_isLoose_92 : decode cX1_isLoose 92 = .ok (.invokevirtual 454, 3) := dk_182 1 198 (dk_at dksX1_isLoose_3 20 rfl rfl)
theorem dX1_isLoose_95 : decode cX1_isLoose 95 = .ok (.ifCond .ne 12, 3) := dk_154 0 12 (dk_at dksX1_isLoose_4 0 rfl rfl)
theorem dX1_isLoose_98 : decode cX1_isLoose 98 = .ok (.aload_n 2, 1) := dk_44 (dk_at dksX1_isLoose_4 3 rfl rfl)
theorem dX1_isLoose_99 : decode cX1_isLoose 99 = .ok (.iload 6, 2) := dk_21 6 (dk_at dksX1_isLoose_4 4 rfl rfl)
theorem dX1_isLoose_101 : decode cX1_isLoose 101 = .ok (.invokevirtual 454, 3) := dk_182 1 198 (dk_at dksX1_isLoose_4 6 rfl rfl)
theorem dX1_isLoose_104 : decode cX1_isLoose 104 = .ok (.ifCond .eq 15, 3) := dk_153 0 15 (dk_at dksX1_isLoose_4 9 rfl rfl)
theorem dX1_isLoose_107 : decode cX1_isLoose 107 = .ok (.aload_n 2, 1) := dk_44 (dk_at dksX1_isLoose_4 12 rfl rfl)
theorem dX1_isLoose_108 : decode cX1_isLoose 108 = .ok (.iload 5, 2) := dk_21 5 (dk_at dksX1_isLoose_4 13 rfl rfl)
theorem dX1_isLoose_110 : decode cX1_isLoose 110 = .ok (.invokevirtual 224, 3) := dk_182 0 224 (dk_at dksX1_isLoose_4 15 rfl rfl)
theorem dX1_isLoose_113 : decode cX1_isLoose 113 = .ok (.aload_n 2, 1) := dk_44 (dk_at dksX1_isLoose_4 18 rfl rfl)
theorem dX1_isLoose_114 : decode cX1_isLoose 114 = .ok (.iload 6, 2) := dk_21 6 (dk_at dksX1_isLoose_4 19 rfl rfl)
theorem dX1_isLoose_116 : decode cX1_isLoose 116 = .ok (.invokevirtual 224, 3) := dk_182 0 224 (dk_at dksX1_isLoose_4 21 rfl rfl)
theorem dX1_isLoose_119 : decode cX1_isLoose 119 = .ok (.iinc 4 1, 3) := dk_132 4 1 (dk_at dksX1_isLoose_5 0 rfl rfl)
theorem dX1_isLoose_122 : decode cX1_isLoose 122 = .ok (.goto (-70), 3) := dk_167 255 186 (dk_at dksX1_isLoose_5 3 rfl rfl)
theorem dX1_isLoose_125 : decode cX1_isLoose 125 = .ok (.goto (-89), 3) := dk_167 255 167 (dk_at dksX1_isLoose_5 6 rfl rfl)
theorem dX1_isLoose_128 : decode cX1_isLoose 128 = .ok (.iconst 0, 1) := dk_3 (dk_at dksX1_isLoose_5 9 rfl rfl)
theorem dX1_isLoose_129 : decode cX1_isLoose 129 = .ok (.istore 4, 2) := dk_54 4 (dk_at dksX1_isLoose_5 10 rfl rfl)
theorem dX1_isLoose_131 : decode cX1_isLoose 131 = .ok (.iload 4, 2) := dk_21 4 (dk_at dksX1_isLoose_5 12 rfl rfl)
theorem dX1_isLoose_133 : decode cX1_isLoose 133 = .ok (.iconst 3, 1) := dk_6 (dk_at dksX1_isLoose_5 14 rfl rfl)
theorem dX1_isLoose_134 : decode cX1_isLoose 134 = .ok (.if_icmp .ge 31, 3) := dk_162 0 31 (dk_at dksX1_isLoose_5 15 rfl rfl)
theorem dX1_isLoose_137 : decode cX1_isLoose 137 = .ok (.iload_n 1, 1) := dk_27 (dk_at dksX1_isLoose_5 18 rfl rfl)
theorem dX1_isLoose_138 : decode cX1_isLoose 138 = .ok (.iload 4, 2) := dk_21 4 (dk_at dksX1_isLoose_5 19 rfl rfl)
theorem dX1_isLoose_140 : decode cX1_isLoose 140 = .ok (.invokestatic 391, 3) := dk_184 1 135 (dk_at dksX1_isLoose_5 21 rfl rfl)
theorem dX1_isLoose_143 : decode cX1_isLoose 143 = .ok (.ifCond .eq 16, 3) := dk_153 0 16 (dk_at dksX1_isLoose_6 0 rfl rfl)
theorem dX1_isLoose_146 : decode cX1_isLoose 146 = .ok (.aload_n 2, 1) := dk_44 (dk_at dksX1_isLoose_6 3 rfl rfl)
theorem dX1_isLoose_147 : decode cX1_isLoose 147 = .ok (.iconst 3, 1) := dk_6 (dk_at dksX1_isLoose_6 4 rfl rfl)
theorem dX1_isLoose_148 : decode cX1_isLoose 148 = .ok (.iload 4, 2) := dk_21 4 (dk_at dksX1_isLoose_6 5 rfl rfl)
theorem dX1_isLoose_150 : decode cX1_isLoose 150 = .ok (.iadd, 1) := dk_96 (dk_at dksX1_isLoose_6 7 rfl rfl)
theorem dX1_isLoose_151 : decode cX1_isLoose 151 = .ok (.invokevirtual 454, 3) := dk_182 1 198 (dk_at dksX1_isLoose_6 8 rfl rfl)
theorem dX1_isLoose_154 : decode cX1_isLoose 154 = .ok (.ifCond .eq 5, 3) := dk_153 0 5 (dk_at dksX1_isLoose_6 11 rfl rfl)
theorem dX1_isLoose_157 : decode cX1_isLoose 157 = .ok (.iconst 0, 1) := dk_3 (dk_at dksX1_isLoose_6 14 rfl rfl)
theorem dX1_isLoose_158 : decode cX1_isLoose 158 = .ok (.ireturn, 1) := dk_172 (dk_at dksX1_isLoose_6 15 rfl rfl)
theorem dX1_isLoose_159 : decode cX1_isLoose 159 = .ok (.iinc 4 1, 3) := dk_132 4 1 (dk_at dksX1_isLoose_6 16 rfl rfl)
theorem dX1_isLoose_162 : decode cX1_isLoose 162 = .ok (.goto (-31), 3) := dk_167 255 225 (dk_at dksX1_isLoose_6 19 rfl rfl)
theorem dX1_isLoose_165 : decode cX1_isLoose 165 = .ok (.iconst 1, 1) := dk_4 (dk_at dksX1_isLoose_6 22 rfl rfl)
theorem dX1_isLoose_166 : decode cX1_isLoose 166 = .ok (.ireturn, 1) := dk_172 (dk_at dksX1_isLoose_6 23 rfl rfl)
abbrev cX1_without : ByteArray := prog_1_method_86_code
def yX1_without : MethodName := ⟨RX1, "without", "(Ljava/lang/String;I)Ljava/lang/String;"⟩
def dkwX1_without_2 : List UInt8 := [167, 255, 220, 44, 182, 1, 149, 176]
abbrev dktX1_without_2 : List UInt8 := dkwX1_without_2 ++ []
def dkwX1_without_1 : List UInt8 := [16, 120, 100, 184, 1, 135, 154, 0, 13, 44, 42, 29, 182, 1, 158, 182, 1, 145, 87, 132, 3, 1]
abbrev dktX1_without_1 : List UInt8 := dkwX1_without_1 ++ dktX1_without_2
def dkwX1_without_0 : List UInt8 := [187, 1, 142, 89, 183, 1, 144, 77, 3, 62, 29, 42, 182, 1, 153, 162, 0, 34, 27, 42, 29, 182, 1, 158]
abbrev dktX1_without_0 : List UInt8 := dkwX1_without_0 ++ dktX1_without_1
theorem dksX1_without_0 : cX1_without.data.toList.drop 0 = dktX1_without_0 := by decide +kernel
theorem dksX1_without_1 : cX1_without.data.toList.drop 24 = dktX1_without_1 := dk_seg dksX1_without_0 24 rfl rfl
theorem dksX1_without_2 : cX1_without.data.toList.drop 46 = dktX1_without_2 := dk_seg dksX1_without_1 22 rfl rfl
theorem dX1_without_0 : decode cX1_without 0 = .ok (.new 398, 3) := dk_187 1 142 (dk_at dksX1_without_0 0 rfl rfl)
theorem dX1_without_3 : decode cX1_without 3 = .ok (.dup, 1) := dk_89 (dk_at dksX1_without_0 3 rfl rfl)
theorem dX1_without_4 : decode cX1_without 4 = .ok (.invokespecial 400, 3) := dk_183 1 144 (dk_at dksX1_without_0 4 rfl rfl)
theorem dX1_without_7 : decode cX1_without 7 = .ok (.astore_n 2, 1) := dk_77 (dk_at dksX1_without_0 7 rfl rfl)
theorem dX1_without_8 : decode cX1_without 8 = .ok (.iconst 0, 1) := dk_3 (dk_at dksX1_without_0 8 rfl rfl)
theorem dX1_without_9 : decode cX1_without 9 = .ok (.istore_n 3, 1) := dk_62 (dk_at dksX1_without_0 9 rfl rfl)
theorem dX1_without_10 : decode cX1_without 10 = .ok (.iload_n 3, 1) := dk_29 (dk_at dksX1_without_0 10 rfl rfl)
theorem dX1_without_11 : decode cX1_without 11 = .ok (.aload_n 0, 1) := dk_42 (dk_at dksX1_without_0 11 rfl rfl)
theorem dX1_without_12 : decode cX1_without 12 = .ok (.invokevirtual 409, 3) := dk_182 1 153 (dk_at dksX1_without_0 12 rfl rfl)
theorem dX1_without_15 : decode cX1_without 15 = .ok (.if_icmp .ge 34, 3) := dk_162 0 34 (dk_at dksX1_without_0 15 rfl rfl)
theorem dX1_without_18 : decode cX1_without 18 = .ok (.iload_n 1, 1) := dk_27 (dk_at dksX1_without_0 18 rfl rfl)
theorem dX1_without_19 : decode cX1_without 19 = .ok (.aload_n 0, 1) := dk_42 (dk_at dksX1_without_0 19 rfl rfl)
theorem dX1_without_20 : decode cX1_without 20 = .ok (.iload_n 3, 1) := dk_29 (dk_at dksX1_without_0 20 rfl rfl)
theorem dX1_without_21 : decode cX1_without 21 = .ok (.invokevirtual 414, 3) := dk_182 1 158 (dk_at dksX1_without_0 21 rfl rfl)
theorem dX1_without_24 : decode cX1_without 24 = .ok (.bipush 120, 2) := dk_16 120 (dk_at dksX1_without_1 0 rfl rfl)
theorem dX1_without_26 : decode cX1_without 26 = .ok (.isub, 1) := dk_100 (dk_at dksX1_without_1 2 rfl rfl)
theorem dX1_without_27 : decode cX1_without 27 = .ok (.invokestatic 391, 3) := dk_184 1 135 (dk_at dksX1_without_1 3 rfl rfl)
theorem dX1_without_30 : decode cX1_without 30 = .ok (.ifCond .ne 13, 3) := dk_154 0 13 (dk_at dksX1_without_1 6 rfl rfl)
theorem dX1_without_33 : decode cX1_without 33 = .ok (.aload_n 2, 1) := dk_44 (dk_at dksX1_without_1 9 rfl rfl)
theorem dX1_without_34 : decode cX1_without 34 = .ok (.aload_n 0, 1) := dk_42 (dk_at dksX1_without_1 10 rfl rfl)
theorem dX1_without_35 : decode cX1_without 35 = .ok (.iload_n 3, 1) := dk_29 (dk_at dksX1_without_1 11 rfl rfl)
theorem dX1_without_36 : decode cX1_without 36 = .ok (.invokevirtual 414, 3) := dk_182 1 158 (dk_at dksX1_without_1 12 rfl rfl)
theorem dX1_without_39 : decode cX1_without 39 = .ok (.invokevirtual 401, 3) := dk_182 1 145 (dk_at dksX1_without_1 15 rfl rfl)
theorem dX1_without_42 : decode cX1_without 42 = .ok (.pop, 1) := dk_87 (dk_at dksX1_without_1 18 rfl rfl)
theorem dX1_without_43 : decode cX1_without 43 = .ok (.iinc 3 1, 3) := dk_132 3 1 (dk_at dksX1_without_1 19 rfl rfl)
theorem dX1_without_46 : decode cX1_without 46 = .ok (.goto (-36), 3) := dk_167 255 220 (dk_at dksX1_without_2 0 rfl rfl)
theorem dX1_without_49 : decode cX1_without 49 = .ok (.aload_n 2, 1) := dk_44 (dk_at dksX1_without_2 3 rfl rfl)
theorem dX1_without_50 : decode cX1_without 50 = .ok (.invokevirtual 405, 3) := dk_182 1 149 (dk_at dksX1_without_2 4 rfl rfl)
theorem dX1_without_53 : decode cX1_without 53 = .ok (.areturn, 1) := dk_176 (dk_at dksX1_without_2 7 rfl rfl)
abbrev cX1_loose_2 : ByteArray := prog_1_method_91_code
def yX1_loose_2 : MethodName := ⟨RX1, "loose", "(II)I"⟩
def dkwX1_loose_2_2 : List UInt8 := [182, 1, 211, 167, 0, 4, 2, 172]
abbrev dktX1_loose_2_2 : List UInt8 := dkwX1_loose_2_2 ++ []
def dkwX1_loose_2_1 : List UInt8 := [28, 133, 9, 45, 182, 0, 251, 4, 100, 133, 184, 0, 128, 153, 0, 17, 45, 28, 182, 0, 252, 192, 1, 57]
abbrev dktX1_loose_2_1 : List UInt8 := dkwX1_loose_2_1 ++ dktX1_loose_2_2
def dkwX1_loose_2_0 : List UInt8 := [42, 27, 182, 1, 73, 180, 1, 235, 184, 1, 218, 78, 28, 2, 160, 0, 10, 45, 182, 0, 251, 167, 0, 34]
abbrev dktX1_loose_2_0 : List UInt8 := dkwX1_loose_2_0 ++ dktX1_loose_2_1
theorem dksX1_loose_2_0 : cX1_loose_2.data.toList.drop 0 = dktX1_loose_2_0 := by decide +kernel
theorem dksX1_loose_2_1 : cX1_loose_2.data.toList.drop 24 = dktX1_loose_2_1 := dk_seg dksX1_loose_2_0 24 rfl rfl
theorem dksX1_loose_2_2 : cX1_loose_2.data.toList.drop 48 = dktX1_loose_2_2 := dk_seg dksX1_loose_2_1 24 rfl rfl
theorem dX1_loose_2_0 : decode cX1_loose_2 0 = .ok (.aload_n 0, 1) := dk_42 (dk_at dksX1_loose_2_0 0 rfl rfl)
theorem dX1_loose_2_1 : decode cX1_loose_2 1 = .ok (.iload_n 1, 1) := dk_27 (dk_at dksX1_loose_2_0 1 rfl rfl)
theorem dX1_loose_2_2 : decode cX1_loose_2 2 = .ok (.invokevirtual 329, 3) := dk_182 1 73 (dk_at dksX1_loose_2_0 2 rfl rfl)
theorem dX1_loose_2_5 : decode cX1_loose_2 5 = .ok (.getfield 491, 3) := dk_180 1 235 (dk_at dksX1_loose_2_0 5 rfl rfl)
theorem dX1_loose_2_8 : decode cX1_loose_2 8 = .ok (.invokestatic 474, 3) := dk_184 1 218 (dk_at dksX1_loose_2_0 8 rfl rfl)
theorem dX1_loose_2_11 : decode cX1_loose_2 11 = .ok (.astore_n 3, 1) := dk_78 (dk_at dksX1_loose_2_0 11 rfl rfl)
theorem dX1_loose_2_12 : decode cX1_loose_2 12 = .ok (.iload_n 2, 1) := dk_28 (dk_at dksX1_loose_2_0 12 rfl rfl)
theorem dX1_loose_2_13 : decode cX1_loose_2 13 = .ok (.iconst (-1), 1) := dk_2 (dk_at dksX1_loose_2_0 13 rfl rfl)
theorem dX1_loose_2_14 : decode cX1_loose_2 14 = .ok (.if_icmp .ne 10, 3) := dk_160 0 10 (dk_at dksX1_loose_2_0 14 rfl rfl)
theorem dX1_loose_2_17 : decode cX1_loose_2 17 = .ok (.aload_n 3, 1) := dk_45 (dk_at dksX1_loose_2_0 17 rfl rfl)
theorem dX1_loose_2_18 : decode cX1_loose_2 18 = .ok (.invokevirtual 251, 3) := dk_182 0 251 (dk_at dksX1_loose_2_0 18 rfl rfl)
theorem dX1_loose_2_21 : decode cX1_loose_2 21 = .ok (.goto 34, 3) := dk_167 0 34 (dk_at dksX1_loose_2_0 21 rfl rfl)
theorem dX1_loose_2_24 : decode cX1_loose_2 24 = .ok (.iload_n 2, 1) := dk_28 (dk_at dksX1_loose_2_1 0 rfl rfl)
theorem dX1_loose_2_25 : decode cX1_loose_2 25 = .ok (.i2l, 1) := dk_133 (dk_at dksX1_loose_2_1 1 rfl rfl)
theorem dX1_loose_2_26 : decode cX1_loose_2 26 = .ok (.lconst 0, 1) := dk_9 (dk_at dksX1_loose_2_1 2 rfl rfl)
theorem dX1_loose_2_27 : decode cX1_loose_2 27 = .ok (.aload_n 3, 1) := dk_45 (dk_at dksX1_loose_2_1 3 rfl rfl)
theorem dX1_loose_2_28 : decode cX1_loose_2 28 = .ok (.invokevirtual 251, 3) := dk_182 0 251 (dk_at dksX1_loose_2_1 4 rfl rfl)
theorem dX1_loose_2_31 : decode cX1_loose_2 31 = .ok (.iconst 1, 1) := dk_4 (dk_at dksX1_loose_2_1 7 rfl rfl)
theorem dX1_loose_2_32 : decode cX1_loose_2 32 = .ok (.isub, 1) := dk_100 (dk_at dksX1_loose_2_1 8 rfl rfl)
theorem dX1_loose_2_33 : decode cX1_loose_2 33 = .ok (.i2l, 1) := dk_133 (dk_at dksX1_loose_2_1 9 rfl rfl)
theorem dX1_loose_2_34 : decode cX1_loose_2 34 = .ok (.invokestatic 128, 3) := dk_184 0 128 (dk_at dksX1_loose_2_1 10 rfl rfl)
theorem dX1_loose_2_37 : decode cX1_loose_2 37 = .ok (.ifCond .eq 17, 3) := dk_153 0 17 (dk_at dksX1_loose_2_1 13 rfl rfl)
theorem dX1_loose_2_40 : decode cX1_loose_2 40 = .ok (.aload_n 3, 1) := dk_45 (dk_at dksX1_loose_2_1 16 rfl rfl)
theorem dX1_loose_2_41 : decode cX1_loose_2 41 = .ok (.iload_n 2, 1) := dk_28 (dk_at dksX1_loose_2_1 17 rfl rfl)
theorem dX1_loose_2_42 : decode cX1_loose_2 42 = .ok (.invokevirtual 252, 3) := dk_182 0 252 (dk_at dksX1_loose_2_1 18 rfl rfl)
theorem dX1_loose_2_45 : decode cX1_loose_2 45 = .ok (.checkcast 313, 3) := dk_192 1 57 (dk_at dksX1_loose_2_1 21 rfl rfl)
theorem dX1_loose_2_48 : decode cX1_loose_2 48 = .ok (.invokevirtual 467, 3) := dk_182 1 211 (dk_at dksX1_loose_2_2 0 rfl rfl)
theorem dX1_loose_2_51 : decode cX1_loose_2 51 = .ok (.goto 4, 3) := dk_167 0 4 (dk_at dksX1_loose_2_2 3 rfl rfl)
theorem dX1_loose_2_54 : decode cX1_loose_2 54 = .ok (.iconst (-1), 1) := dk_2 (dk_at dksX1_loose_2_2 6 rfl rfl)
theorem dX1_loose_2_55 : decode cX1_loose_2 55 = .ok (.ireturn, 1) := dk_172 (dk_at dksX1_loose_2_2 7 rfl rfl)
abbrev cX1_pattern : ByteArray := prog_1_method_92_code
def yX1_pattern : MethodName := ⟨RX1, "pattern", "(II)I"⟩
def dkwX1_pattern_2 : List UInt8 := [180, 0, 120, 153, 0, 7, 4, 167, 0, 4, 3, 172]
abbrev dktX1_pattern_2 : List UInt8 := dkwX1_pattern_2 ++ []
def dkwX1_pattern_1 : List UInt8 := [180, 1, 235, 182, 1, 153, 167, 0, 27, 28, 4, 160, 0, 10, 45, 182, 1, 205, 167, 0, 15, 45]
abbrev dktX1_pattern_1 : List UInt8 := dkwX1_pattern_1 ++ dktX1_pattern_2
def dkwX1_pattern_0 : List UInt8 := [42, 27, 182, 1, 73, 78, 28, 133, 9, 20, 0, 203, 184, 0, 128, 184, 0, 205, 28, 154, 0, 13, 45]
abbrev dktX1_pattern_0 : List UInt8 := dkwX1_pattern_0 ++ dktX1_pattern_1
theorem dksX1_pattern_0 : cX1_pattern.data.toList.drop 0 = dktX1_pattern_0 := by decide +kernel
theorem dksX1_pattern_1 : cX1_pattern.data.toList.drop 23 = dktX1_pattern_1 := dk_seg dksX1_pattern_0 23 rfl rfl
theorem dksX1_pattern_2 : cX1_pattern.data.toList.drop 45 = dktX1_pattern_2 := dk_seg dksX1_pattern_1 22 rfl rfl
theorem dX1_pattern_0 : decode cX1_pattern 0 = .ok (.aload_n 0, 1) := dk_42 (dk_at dksX1_pattern_0 0 rfl rfl)
theorem dX1_pattern_1 : decode cX1_pattern 1 = .ok (.iload_n 1, 1) := dk_27 (dk_at dksX1_pattern_0 1 rfl rfl)
theorem dX1_pattern_2 : decode cX1_pattern 2 = .ok (.invokevirtual 329, 3) := dk_182 1 73 (dk_at dksX1_pattern_0 2 rfl rfl)
theorem dX1_pattern_5 : decode cX1_pattern 5 = .ok (.astore_n 3, 1) := dk_78 (dk_at dksX1_pattern_0 5 rfl rfl)
theorem dX1_pattern_6 : decode cX1_pattern 6 = .ok (.iload_n 2, 1) := dk_28 (dk_at dksX1_pattern_0 6 rfl rfl)
theorem dX1_pattern_7 : decode cX1_pattern 7 = .ok (.i2l, 1) := dk_133 (dk_at dksX1_pattern_0 7 rfl rfl)
theorem dX1_pattern_8 : decode cX1_pattern 8 = .ok (.lconst 0, 1) := dk_9 (dk_at dksX1_pattern_0 8 rfl rfl)
theorem dX1_pattern_9 : decode cX1_pattern 9 = .ok (.ldc2_w 203, 3) := dk_20 0 203 (dk_at dksX1_pattern_0 9 rfl rfl)
theorem dX1_pattern_12 : decode cX1_pattern 12 = .ok (.invokestatic 128, 3) := dk_184 0 128 (dk_at dksX1_pattern_0 12 rfl rfl)
theorem dX1_pattern_15 : decode cX1_pattern 15 = .ok (.invokestatic 205, 3) := dk_184 0 205 (dk_at dksX1_pattern_0 15 rfl rfl)
theorem dX1_pattern_18 : decode cX1_pattern 18 = .ok (.iload_n 2, 1) := dk_28 (dk_at dksX1_pattern_0 18 rfl rfl)
theorem dX1_pattern_19 : decode cX1_pattern 19 = .ok (.ifCond .ne 13, 3) := dk_154 0 13 (dk_at dksX1_pattern_0 19 rfl rfl)
theorem dX1_pattern_22 : decode cX1_pattern 22 = .ok (.aload_n 3, 1) := dk_45 (dk_at dksX1_pattern_0 22 rfl rfl)
theorem dX1_pattern_23 : decode cX1_pattern 23 = .ok (.getfield 491, 3) := dk_180 1 235 (dk_at dksX1_pattern_1 0 rfl rfl)
theorem dX1_pattern_26 : decode cX1_pattern 26 = .ok (.invokevirtual 409, 3) := dk_182 1 153 (dk_at dksX1_pattern_1 3 rfl rfl)
theorem dX1_pattern_29 : decode cX1_pattern 29 = .ok (.goto 27, 3) := dk_167 0 27 (dk_at dksX1_pattern_1 6 rfl rfl)
theorem dX1_pattern_32 : decode cX1_pattern 32 = .ok (.iload_n 2, 1) := dk_28 (dk_at dksX1_pattern_1 9 rfl rfl)
theorem dX1_pattern_33 : decode cX1_pattern 33 = .ok (.iconst 1, 1) := dk_4 (dk_at dksX1_pattern_1 10 rfl rfl)
theorem dX1_pattern_34 : decode cX1_pattern 34 = .ok (.if_icmp .ne 10, 3) := dk_160 0 10 (dk_at dksX1_pattern_1 11 rfl rfl)
theorem dX1_pattern_37 : decode cX1_pattern 37 = .ok (.aload_n 3, 1) := dk_45 (dk_at dksX1_pattern_1 14 rfl rfl)
theorem dX1_pattern_38 : decode cX1_pattern 38 = .ok (.invokevirtual 461, 3) := dk_182 1 205 (dk_at dksX1_pattern_1 15 rfl rfl)
theorem dX1_pattern_41 : decode cX1_pattern 41 = .ok (.goto 15, 3) := dk_167 0 15 (dk_at dksX1_pattern_1 18 rfl rfl)
theorem dX1_pattern_44 : decode cX1_pattern 44 = .ok (.aload_n 3, 1) := dk_45 (dk_at dksX1_pattern_1 21 rfl rfl)
theorem dX1_pattern_45 : decode cX1_pattern 45 = .ok (.getfield 120, 3) := dk_180 0 120 (dk_at dksX1_pattern_2 0 rfl rfl)
theorem dX1_pattern_48 : decode cX1_pattern 48 = .ok (.ifCond .eq 7, 3) := dk_153 0 7 (dk_at dksX1_pattern_2 3 rfl rfl)
theorem dX1_pattern_51 : decode cX1_pattern 51 = .ok (.iconst 1, 1) := dk_4 (dk_at dksX1_pattern_2 6 rfl rfl)
theorem dX1_pattern_52 : decode cX1_pattern 52 = .ok (.goto 4, 3) := dk_167 0 4 (dk_at dksX1_pattern_2 7 rfl rfl)
theorem dX1_pattern_55 : decode cX1_pattern 55 = .ok (.iconst 0, 1) := dk_3 (dk_at dksX1_pattern_2 10 rfl rfl)
theorem dX1_pattern_56 : decode cX1_pattern 56 = .ok (.ireturn, 1) := dk_172 (dk_at dksX1_pattern_2 11 rfl rfl)
abbrev cX1_stuck : ByteArray := prog_1_method_45_code
def yX1_stuck : MethodName := ⟨RX1, "stuck", "(I)I"⟩
def dkwX1_stuck_3 : List UInt8 := [167, 255, 224, 44, 180, 1, 34, 153, 0, 8, 16, 254, 167, 0, 4, 29, 172]
abbrev dktX1_stuck_3 : List UInt8 := dkwX1_stuck_3 ++ []
def dkwX1_stuck_2 : List UInt8 := [180, 1, 39, 182, 1, 53, 153, 0, 7, 4, 167, 0, 4, 3, 96, 62, 44, 27, 3, 182, 1, 45, 54, 4]
abbrev dktX1_stuck_2 : List UInt8 := dkwX1_stuck_2 ++ dktX1_stuck_3
def dkwX1_stuck_1 : List UInt8 := [183, 1, 28, 77, 3, 62, 44, 27, 3, 3, 182, 1, 31, 54, 4, 21, 4, 153, 0, 33, 29, 42, 44]
abbrev dktX1_stuck_1 : List UInt8 := dkwX1_stuck_1 ++ dktX1_stuck_2
def dkwX1_stuck_0 : List UInt8 := [27, 133, 9, 20, 1, 37, 184, 0, 128, 184, 0, 158, 187, 1, 26, 89, 42, 187, 0, 42, 89, 183, 0, 44]
abbrev dktX1_stuck_0 : List UInt8 := dkwX1_stuck_0 ++ dktX1_stuck_1
theorem dksX1_stuck_0 : cX1_stuck.data.toList.drop 0 = dktX1_stuck_0 := by decide +kernel
theorem dksX1_stuck_1 : cX1_stuck.data.toList.drop 24 = dktX1_stuck_1 := dk_seg dksX1_stuck_0 24 rfl rfl
theorem dksX1_stuck_2 : cX1_stuck.data.toList.drop 47 = dktX1_stuck_2 := dk_seg dksX1_stuck_1 23 rfl rfl
theorem dksX1_stuck_3 : cX1_stuck.data.toList.drop 71 = dktX1_stuck_3 := dk_seg dksX1_stuck_2 24 rfl rfl
theorem dX1_stuck_0 : decode cX1_stuck 0 = .ok (.iload_n 1, 1) := dk_27 (dk_at dksX1_stuck_0 0 rfl rfl)
theorem dX1_stuck_1 : decode cX1_stuck 1 = .ok (.i2l, 1) := dk_133 (dk_at dksX1_stuck_0 1 rfl rfl)
theorem dX1_stuck_2 : decode cX1_stuck 2 = .ok (.lconst 0, 1) := dk_9 (dk_at dksX1_stuck_0 2 rfl rfl)
theorem dX1_stuck_3 : decode cX1_stuck 3 = .ok (.ldc2_w 293, 3) := dk_20 1 37 (dk_at dksX1_stuck_0 3 rfl rfl)
theorem dX1_stuck_6 : decode cX1_stuck 6 = .ok (.invokestatic 128, 3) := dk_184 0 128 (dk_at dksX1_stuck_0 6 rfl rfl)
theorem dX1_stuck_9 : decode cX1_stuck 9 = .ok (.invokestatic 158, 3) := dk_184 0 158 (dk_at dksX1_stuck_0 9 rfl rfl)
theorem dX1_stuck_12 : decode cX1_stuck 12 = .ok (.new 282, 3) := dk_187 1 26 (dk_at dksX1_stuck_0 12 rfl rfl)
theorem dX1_stuck_15 : decode cX1_stuck 15 = .ok (.dup, 1) := dk_89 (dk_at dksX1_stuck_0 15 rfl rfl)
theorem dX1_stuck_16 : decode cX1_stuck 16 = .ok (.aload_n 0, 1) := dk_42 (dk_at dksX1_stuck_0 16 rfl rfl)
theorem dX1_stuck_17 : decode cX1_stuck 17 = .ok (.new 42, 3) := dk_187 0 42 (dk_at dksX1_stuck_0 17 rfl rfl)
theorem dX1_stuck_20 : decode cX1_stuck 20 = .ok (.dup, 1) := dk_89 (dk_at dksX1_stuck_0 20 rfl rfl)
theorem dX1_stuck_21 : decode cX1_stuck 21 = .ok (.invokespecial 44, 3) := dk_183 0 44 (dk_at dksX1_stuck_0 21 rfl rfl)
theorem dX1_stuck_24 : decode cX1_stuck 24 = .ok (.invokespecial 284, 3) := dk_183 1 28 (dk_at dksX1_stuck_1 0 rfl rfl)
theorem dX1_stuck_27 : decode cX1_stuck 27 = .ok (.astore_n 2, 1) := dk_77 (dk_at dksX1_stuck_1 3 rfl rfl)
theorem dX1_stuck_28 : decode cX1_stuck 28 = .ok (.iconst 0, 1) := dk_3 (dk_at dksX1_stuck_1 4 rfl rfl)
theorem dX1_stuck_29 : decode cX1_stuck 29 = .ok (.istore_n 3, 1) := dk_62 (dk_at dksX1_stuck_1 5 rfl rfl)
theorem dX1_stuck_30 : decode cX1_stuck 30 = .ok (.aload_n 2, 1) := dk_44 (dk_at dksX1_stuck_1 6 rfl rfl)
theorem dX1_stuck_31 : decode cX1_stuck 31 = .ok (.iload_n 1, 1) := dk_27 (dk_at dksX1_stuck_1 7 rfl rfl)
theorem dX1_stuck_32 : decode cX1_stuck 32 = .ok (.iconst 0, 1) := dk_3 (dk_at dksX1_stuck_1 8 rfl rfl)
theorem dX1_stuck_33 : decode cX1_stuck 33 = .ok (.iconst 0, 1) := dk_3 (dk_at dksX1_stuck_1 9 rfl rfl)
theorem dX1_stuck_34 : decode cX1_stuck 34 = .ok (.invokevirtual 287, 3) := dk_182 1 31 (dk_at dksX1_stuck_1 10 rfl rfl)
theorem dX1_stuck_37 : decode cX1_stuck 37 = .ok (.istore 4, 2) := dk_54 4 (dk_at dksX1_stuck_1 13 rfl rfl)
theorem dX1_stuck_39 : decode cX1_stuck 39 = .ok (.iload 4, 2) := dk_21 4 (dk_at dksX1_stuck_1 15 rfl rfl)
theorem dX1_stuck_41 : decode cX1_stuck 41 = .ok (.ifCond .eq 33, 3) := dk_153 0 33 (dk_at dksX1_stuck_1 17 rfl rfl)
theorem dX1_stuck_44 : decode cX1_stuck 44 = .ok (.iload_n 3, 1) := dk_29 (dk_at dksX1_stuck_1 20 rfl rfl)
theorem dX1_stuck_45 : decode cX1_stuck 45 = .ok (.aload_n 0, 1) := dk_42 (dk_at dksX1_stuck_1 21 rfl rfl)
theorem dX1_stuck_46 : decode cX1_stuck 46 = .ok (.aload_n 2, 1) := dk_44 (dk_at dksX1_stuck_1 22 rfl rfl)
theorem dX1_stuck_47 : decode cX1_stuck 47 = .ok (.getfield 295, 3) := dk_180 1 39 (dk_at dksX1_stuck_2 0 rfl rfl)
theorem dX1_stuck_50 : decode cX1_stuck 50 = .ok (.invokevirtual 309, 3) := dk_182 1 53 (dk_at dksX1_stuck_2 3 rfl rfl)
theorem dX1_stuck_53 : decode cX1_stuck 53 = .ok (.ifCond .eq 7, 3) := dk_153 0 7 (dk_at dksX1_stuck_2 6 rfl rfl)
theorem dX1_stuck_56 : decode cX1_stuck 56 = .ok (.iconst 1, 1) := dk_4 (dk_at dksX1_stuck_2 9 rfl rfl)
theorem dX1_stuck_57 : decode cX1_stuck 57 = .ok (.goto 4, 3) := dk_167 0 4 (dk_at dksX1_stuck_2 10 rfl rfl)
theorem dX1_stuck_60 : decode cX1_stuck 60 = .ok (.iconst 0, 1) := dk_3 (dk_at dksX1_stuck_2 13 rfl rfl)
theorem dX1_stuck_61 : decode cX1_stuck 61 = .ok (.iadd, 1) := dk_96 (dk_at dksX1_stuck_2 14 rfl rfl)
theorem dX1_stuck_62 : decode cX1_stuck 62 = .ok (.istore_n 3, 1) := dk_62 (dk_at dksX1_stuck_2 15 rfl rfl)
theorem dX1_stuck_63 : decode cX1_stuck 63 = .ok (.aload_n 2, 1) := dk_44 (dk_at dksX1_stuck_2 16 rfl rfl)
theorem dX1_stuck_64 : decode cX1_stuck 64 = .ok (.iload_n 1, 1) := dk_27 (dk_at dksX1_stuck_2 17 rfl rfl)
theorem dX1_stuck_65 : decode cX1_stuck 65 = .ok (.iconst 0, 1) := dk_3 (dk_at dksX1_stuck_2 18 rfl rfl)
theorem dX1_stuck_66 : decode cX1_stuck 66 = .ok (.invokevirtual 301, 3) := dk_182 1 45 (dk_at dksX1_stuck_2 19 rfl rfl)
theorem dX1_stuck_69 : decode cX1_stuck 69 = .ok (.istore 4, 2) := dk_54 4 (dk_at dksX1_stuck_2 22 rfl rfl)
theorem dX1_stuck_71 : decode cX1_stuck 71 = .ok (.goto (-32), 3) := dk_167 255 224 (dk_at dksX1_stuck_3 0 rfl rfl)
theorem dX1_stuck_74 : decode cX1_stuck 74 = .ok (.aload_n 2, 1) := dk_44 (dk_at dksX1_stuck_3 3 rfl rfl)
theorem dX1_stuck_75 : decode cX1_stuck 75 = .ok (.getfield 290, 3) := dk_180 1 34 (dk_at dksX1_stuck_3 4 rfl rfl)
theorem dX1_stuck_78 : decode cX1_stuck 78 = .ok (.ifCond .eq 8, 3) := dk_153 0 8 (dk_at dksX1_stuck_3 7 rfl rfl)
theorem dX1_stuck_81 : decode cX1_stuck 81 = .ok (.bipush (-2), 2) := dk_16 254 (dk_at dksX1_stuck_3 10 rfl rfl)
theorem dX1_stuck_83 : decode cX1_stuck 83 = .ok (.goto 4, 3) := dk_167 0 4 (dk_at dksX1_stuck_3 12 rfl rfl)
theorem dX1_stuck_86 : decode cX1_stuck 86 = .ok (.iload_n 3, 1) := dk_29 (dk_at dksX1_stuck_3 15 rfl rfl)
theorem dX1_stuck_87 : decode cX1_stuck 87 = .ok (.ireturn, 1) := dk_172 (dk_at dksX1_stuck_3 16 rfl rfl)
abbrev cX1_isStuck : ByteArray := prog_1_method_46_code
def yX1_isStuck : MethodName := ⟨RX1, "isStuck", "(LRepeatFree$Word;)Z"⟩
def dkwX1_isStuck_2 : List UInt8 := [167, 255, 213, 28, 172]
abbrev dktX1_isStuck_2 : List UInt8 := dkwX1_isStuck_2 ++ []
def dkwX1_isStuck_1 : List UInt8 := [42, 43, 182, 0, 196, 154, 0, 7, 4, 167, 0, 4, 3, 61, 43, 182, 0, 169, 54, 4, 132, 3, 1]
abbrev dktX1_isStuck_1 : List UInt8 := dkwX1_isStuck_1 ++ dktX1_isStuck_2
def dkwX1_isStuck_0 : List UInt8 := [4, 61, 3, 62, 29, 42, 180, 0, 32, 180, 0, 97, 162, 0, 38, 28, 153, 0, 34, 43, 29, 182, 0, 135]
abbrev dktX1_isStuck_0 : List UInt8 := dkwX1_isStuck_0 ++ dktX1_isStuck_1
theorem dksX1_isStuck_0 : cX1_isStuck.data.toList.drop 0 = dktX1_isStuck_0 := by decide +kernel
theorem dksX1_isStuck_1 : cX1_isStuck.data.toList.drop 24 = dktX1_isStuck_1 := dk_seg dksX1_isStuck_0 24 rfl rfl
theorem dksX1_isStuck_2 : cX1_isStuck.data.toList.drop 47 = dktX1_isStuck_2 := dk_seg dksX1_isStuck_1 23 rfl rfl
theorem dX1_isStuck_0 : decode cX1_isStuck 0 = .ok (.iconst 1, 1) := dk_4 (dk_at dksX1_isStuck_0 0 rfl rfl)
theorem dX1_isStuck_1 : decode cX1_isStuck 1 = .ok (.istore_n 2, 1) := dk_61 (dk_at dksX1_isStuck_0 1 rfl rfl)
theorem dX1_isStuck_2 : decode cX1_isStuck 2 = .ok (.iconst 0, 1) := dk_3 (dk_at dksX1_isStuck_0 2 rfl rfl)
theorem dX1_isStuck_3 : decode cX1_isStuck 3 = .ok (.istore_n 3, 1) := dk_62 (dk_at dksX1_isStuck_0 3 rfl rfl)
theorem dX1_isStuck_4 : decode cX1_isStuck 4 = .ok (.iload_n 3, 1) := dk_29 (dk_at dksX1_isStuck_0 4 rfl rfl)
theorem dX1_isStuck_5 : decode cX1_isStuck 5 = .ok (.aload_n 0, 1) := dk_42 (dk_at dksX1_isStuck_0 5 rfl rfl)
theorem dX1_isStuck_6 : decode cX1_isStuck 6 = .ok (.getfield 32, 3) := dk_180 0 32 (dk_at dksX1_isStuck_0 6 rfl rfl)
theorem dX1_isStuck_9 : decode cX1_isStuck 9 = .ok (.getfield 97, 3) := dk_180 0 97 (dk_at dksX1_isStuck_0 9 rfl rfl)
theorem dX1_isStuck_12 : decode cX1_isStuck 12 = .ok (.if_icmp .ge 38, 3) := dk_162 0 38 (dk_at dksX1_isStuck_0 12 rfl rfl)
theorem dX1_isStuck_15 : decode cX1_isStuck 15 = .ok (.iload_n 2, 1) := dk_28 (dk_at dksX1_isStuck_0 15 rfl rfl)
theorem dX1_isStuck_16 : decode cX1_isStuck 16 = .ok (.ifCond .eq 34, 3) := dk_153 0 34 (dk_at dksX1_isStuck_0 16 rfl rfl)
theorem dX1_isStuck_19 : decode cX1_isStuck 19 = .ok (.aload_n 1, 1) := dk_43 (dk_at dksX1_isStuck_0 19 rfl rfl)
theorem dX1_isStuck_20 : decode cX1_isStuck 20 = .ok (.iload_n 3, 1) := dk_29 (dk_at dksX1_isStuck_0 20 rfl rfl)
theorem dX1_isStuck_21 : decode cX1_isStuck 21 = .ok (.invokevirtual 135, 3) := dk_182 0 135 (dk_at dksX1_isStuck_0 21 rfl rfl)
theorem dX1_isStuck_24 : decode cX1_isStuck 24 = .ok (.aload_n 0, 1) := dk_42 (dk_at dksX1_isStuck_1 0 rfl rfl)
theorem dX1_isStuck_25 : decode cX1_isStuck 25 = .ok (.aload_n 1, 1) := dk_43 (dk_at dksX1_isStuck_1 1 rfl rfl)
theorem dX1_isStuck_26 : decode cX1_isStuck 26 = .ok (.invokevirtual 196, 3) := dk_182 0 196 (dk_at dksX1_isStuck_1 2 rfl rfl)
theorem dX1_isStuck_29 : decode cX1_isStuck 29 = .ok (.ifCond .ne 7, 3) := dk_154 0 7 (dk_at dksX1_isStuck_1 5 rfl rfl)
theorem dX1_isStuck_32 : decode cX1_isStuck 32 = .ok (.iconst 1, 1) := dk_4 (dk_at dksX1_isStuck_1 8 rfl rfl)
theorem dX1_isStuck_33 : decode cX1_isStuck 33 = .ok (.goto 4, 3) := dk_167 0 4 (dk_at dksX1_isStuck_1 9 rfl rfl)
theorem dX1_isStuck_36 : decode cX1_isStuck 36 = .ok (.iconst 0, 1) := dk_3 (dk_at dksX1_isStuck_1 12 rfl rfl)
theorem dX1_isStuck_37 : decode cX1_isStuck 37 = .ok (.istore_n 2, 1) := dk_61 (dk_at dksX1_isStuck_1 13 rfl rfl)
theorem dX1_isStuck_38 : decode cX1_isStuck 38 = .ok (.aload_n 1, 1) := dk_43 (dk_at dksX1_isStuck_1 14 rfl rfl)
theorem dX1_isStuck_39 : decode cX1_isStuck 39 = .ok (.invokevirtual 169, 3) := dk_182 0 169 (dk_at dksX1_isStuck_1 15 rfl rfl)
theorem dX1_isStuck_42 : decode cX1_isStuck 42 = .ok (.istore 4, 2) := dk_54 4 (dk_at dksX1_isStuck_1 18 rfl rfl)
theorem dX1_isStuck_44 : decode cX1_isStuck 44 = .ok (.iinc 3 1, 3) := dk_132 3 1 (dk_at dksX1_isStuck_1 20 rfl rfl)
theorem dX1_isStuck_47 : decode cX1_isStuck 47 = .ok (.goto (-43), 3) := dk_167 255 213 (dk_at dksX1_isStuck_2 0 rfl rfl)
theorem dX1_isStuck_50 : decode cX1_isStuck 50 = .ok (.iload_n 2, 1) := dk_28 (dk_at dksX1_isStuck_2 3 rfl rfl)
theorem dX1_isStuck_51 : decode cX1_isStuck 51 = .ok (.ireturn, 1) := dk_172 (dk_at dksX1_isStuck_2 4 rfl rfl)
abbrev cX1_rank : ByteArray := prog_1_method_48_code
def yX1_rank : MethodName := ⟨RX1, "rank", "()I"⟩
def dkwX1_rank_4 : List UInt8 := [153, 0, 8, 16, 254, 167, 0, 4, 28, 172]
abbrev dktX1_rank_4 : List UInt8 := dkwX1_rank_4 ++ []
def dkwX1_rank_3 : List UInt8 := [132, 2, 1, 43, 42, 180, 0, 45, 180, 0, 132, 3, 182, 1, 45, 62, 167, 255, 222, 43, 180, 1, 34]
abbrev dktX1_rank_3 : List UInt8 := dkwX1_rank_3 ++ dktX1_rank_4
def dkwX1_rank_2 : List UInt8 := [182, 1, 31, 62, 29, 153, 0, 36, 43, 180, 1, 39, 42, 180, 0, 45, 184, 1, 61, 156, 0, 22]
abbrev dktX1_rank_2 : List UInt8 := dkwX1_rank_2 ++ dktX1_rank_3
def dkwX1_rank_1 : List UInt8 := [42, 187, 0, 42, 89, 183, 0, 44, 183, 1, 28, 76, 3, 61, 43, 42, 180, 0, 45, 180, 0, 132, 3, 3]
abbrev dktX1_rank_1 : List UInt8 := dkwX1_rank_1 ++ dktX1_rank_2
def dkwX1_rank_0 : List UInt8 := [42, 180, 0, 45, 180, 0, 132, 16, 40, 163, 0, 7, 4, 167, 0, 4, 3, 184, 0, 162, 187, 1, 26, 89]
abbrev dktX1_rank_0 : List UInt8 := dkwX1_rank_0 ++ dktX1_rank_1
theorem dksX1_rank_0 : cX1_rank.data.toList.drop 0 = dktX1_rank_0 := by decide +kernel
theorem dksX1_rank_1 : cX1_rank.data.toList.drop 24 = dktX1_rank_1 := dk_seg dksX1_rank_0 24 rfl rfl
theorem dksX1_rank_2 : cX1_rank.data.toList.drop 48 = dktX1_rank_2 := dk_seg dksX1_rank_1 24 rfl rfl
theorem dksX1_rank_3 : cX1_rank.data.toList.drop 70 = dktX1_rank_3 := dk_seg dksX1_rank_2 22 rfl rfl
theorem dksX1_rank_4 : cX1_rank.data.toList.drop 93 = dktX1_rank_4 := dk_seg dksX1_rank_3 23 rfl rfl
theorem dX1_rank_0 : decode cX1_rank 0 = .ok (.aload_n 0, 1) := dk_42 (dk_at dksX1_rank_0 0 rfl rfl)
theorem dX1_rank_1 : decode cX1_rank 1 = .ok (.getfield 45, 3) := dk_180 0 45 (dk_at dksX1_rank_0 1 rfl rfl)
theorem dX1_rank_4 : decode cX1_rank 4 = .ok (.getfield 132, 3) := dk_180 0 132 (dk_at dksX1_rank_0 4 rfl rfl)
theorem dX1_rank_7 : decode cX1_rank 7 = .ok (.bipush 40, 2) := dk_16 40 (dk_at dksX1_rank_0 7 rfl rfl)
theorem dX1_rank_9 : decode cX1_rank 9 = .ok (.if_icmp .gt 7, 3) := dk_163 0 7 (dk_at dksX1_rank_0 9 rfl rfl)
theorem dX1_rank_12 : decode cX1_rank 12 = .ok (.iconst 1, 1) := dk_4 (dk_at dksX1_rank_0 12 rfl rfl)
theorem dX1_rank_13 : decode cX1_rank 13 = .ok (.goto 4, 3) := dk_167 0 4 (dk_at dksX1_rank_0 13 rfl rfl)
theorem dX1_rank_16 : decode cX1_rank 16 = .ok (.iconst 0, 1) := dk_3 (dk_at dksX1_rank_0 16 rfl rfl)
theorem dX1_rank_17 : decode cX1_rank 17 = .ok (.invokestatic 162, 3) := dk_184 0 162 (dk_at dksX1_rank_0 17 rfl rfl)
theorem dX1_rank_20 : decode cX1_rank 20 = .ok (.new 282, 3) := dk_187 1 26 (dk_at dksX1_rank_0 20 rfl rfl)
theorem dX1_rank_23 : decode cX1_rank 23 = .ok (.dup, 1) := dk_89 (dk_at dksX1_rank_0 23 rfl rfl)
theorem dX1_rank_24 : decode cX1_rank 24 = .ok (.aload_n 0, 1) := dk_42 (dk_at dksX1_rank_1 0 rfl rfl)
theorem dX1_rank_25 : decode cX1_rank 25 = .ok (.new 42, 3) := dk_187 0 42 (dk_at dksX1_rank_1 1 rfl rfl)
theorem dX1_rank_28 : decode cX1_rank 28 = .ok (.dup, 1) := dk_89 (dk_at dksX1_rank_1 4 rfl rfl)
theorem dX1_rank_29 : decode cX1_rank 29 = .ok (.invokespecial 44, 3) := dk_183 0 44 (dk_at dksX1_rank_1 5 rfl rfl)
theorem dX1_rank_32 : decode cX1_rank 32 = .ok (.invokespecial 284, 3) := dk_183 1 28 (dk_at dksX1_rank_1 8 rfl rfl)
theorem dX1_rank_35 : decode cX1_rank 35 = .ok (.astore_n 1, 1) := dk_76 (dk_at dksX1_rank_1 11 rfl rfl)
theorem dX1_rank_36 : decode cX1_rank 36 = .ok (.iconst 0, 1) := dk_3 (dk_at dksX1_rank_1 12 rfl rfl)
theorem dX1_rank_37 : decode cX1_rank 37 = .ok (.istore_n 2, 1) := dk_61 (dk_at dksX1_rank_1 13 rfl rfl)
theorem dX1_rank_38 : decode cX1_rank 38 = .ok (.aload_n 1, 1) := dk_43 (dk_at dksX1_rank_1 14 rfl rfl)
theorem dX1_rank_39 : decode cX1_rank 39 = .ok (.aload_n 0, 1) := dk_42 (dk_at dksX1_rank_1 15 rfl rfl)
theorem dX1_rank_40 : decode cX1_rank 40 = .ok (.getfield 45, 3) := dk_180 0 45 (dk_at dksX1_rank_1 16 rfl rfl)
theorem dX1_rank_43 : decode cX1_rank 43 = .ok (.getfield 132, 3) := dk_180 0 132 (dk_at dksX1_rank_1 19 rfl rfl)
theorem dX1_rank_46 : decode cX1_rank 46 = .ok (.iconst 0, 1) := dk_3 (dk_at dksX1_rank_1 22 rfl rfl)
theorem dX1_rank_47 : decode cX1_rank 47 = .ok (.iconst 0, 1) := dk_3 (dk_at dksX1_rank_1 23 rfl rfl)
theorem dX1_rank_48 : decode cX1_rank 48 = .ok (.invokevirtual 287, 3) := dk_182 1 31 (dk_at dksX1_rank_2 0 rfl rfl)
theorem dX1_rank_51 : decode cX1_rank 51 = .ok (.istore_n 3, 1) := dk_62 (dk_at dksX1_rank_2 3 rfl rfl)
theorem dX1_rank_52 : decode cX1_rank 52 = .ok (.iload_n 3, 1) := dk_29 (dk_at dksX1_rank_2 4 rfl rfl)
theorem dX1_rank_53 : decode cX1_rank 53 = .ok (.ifCond .eq 36, 3) := dk_153 0 36 (dk_at dksX1_rank_2 5 rfl rfl)
theorem dX1_rank_56 : decode cX1_rank 56 = .ok (.aload_n 1, 1) := dk_43 (dk_at dksX1_rank_2 8 rfl rfl)
theorem dX1_rank_57 : decode cX1_rank 57 = .ok (.getfield 295, 3) := dk_180 1 39 (dk_at dksX1_rank_2 9 rfl rfl)
theorem dX1_rank_60 : decode cX1_rank 60 = .ok (.aload_n 0, 1) := dk_42 (dk_at dksX1_rank_2 12 rfl rfl)
theorem dX1_rank_61 : decode cX1_rank 61 = .ok (.getfield 45, 3) := dk_180 0 45 (dk_at dksX1_rank_2 13 rfl rfl)
theorem dX1_rank_64 : decode cX1_rank 64 = .ok (.invokestatic 317, 3) := dk_184 1 61 (dk_at dksX1_rank_2 16 rfl rfl)
theorem dX1_rank_67 : decode cX1_rank 67 = .ok (.ifCond .ge 22, 3) := dk_156 0 22 (dk_at dksX1_rank_2 19 rfl rfl)
theorem dX1_rank_70 : decode cX1_rank 70 = .ok (.iinc 2 1, 3) := dk_132 2 1 (dk_at dksX1_rank_3 0 rfl rfl)
theorem dX1_rank_73 : decode cX1_rank 73 = .ok (.aload_n 1, 1) := dk_43 (dk_at dksX1_rank_3 3 rfl rfl)
theorem dX1_rank_74 : decode cX1_rank 74 = .ok (.aload_n 0, 1) := dk_42 (dk_at dksX1_rank_3 4 rfl rfl)
theorem dX1_rank_75 : decode cX1_rank 75 = .ok (.getfield 45, 3) := dk_180 0 45 (dk_at dksX1_rank_3 5 rfl rfl)
theorem dX1_rank_78 : decode cX1_rank 78 = .ok (.getfield 132, 3) := dk_180 0 132 (dk_at dksX1_rank_3 8 rfl rfl)
theorem dX1_rank_81 : decode cX1_rank 81 = .ok (.iconst 0, 1) := dk_3 (dk_at dksX1_rank_3 11 rfl rfl)
theorem dX1_rank_82 : decode cX1_rank 82 = .ok (.invokevirtual 301, 3) := dk_182 1 45 (dk_at dksX1_rank_3 12 rfl rfl)
theorem dX1_rank_85 : decode cX1_rank 85 = .ok (.istore_n 3, 1) := dk_62 (dk_at dksX1_rank_3 15 rfl rfl)
theorem dX1_rank_86 : decode cX1_rank 86 = .ok (.goto (-34), 3) := dk_167 255 222 (dk_at dksX1_rank_3 16 rfl rfl)
theorem dX1_rank_89 : decode cX1_rank 89 = .ok (.aload_n 1, 1) := dk_43 (dk_at dksX1_rank_3 19 rfl rfl)
theorem dX1_rank_90 : decode cX1_rank 90 = .ok (.getfield 290, 3) := dk_180 1 34 (dk_at dksX1_rank_3 20 rfl rfl)
theorem dX1_rank_93 : decode cX1_rank 93 = .ok (.ifCond .eq 8, 3) := dk_153 0 8 (dk_at dksX1_rank_4 0 rfl rfl)
theorem dX1_rank_96 : decode cX1_rank 96 = .ok (.bipush (-2), 2) := dk_16 254 (dk_at dksX1_rank_4 3 rfl rfl)
theorem dX1_rank_98 : decode cX1_rank 98 = .ok (.goto 4, 3) := dk_167 0 4 (dk_at dksX1_rank_4 5 rfl rfl)
theorem dX1_rank_101 : decode cX1_rank 101 = .ok (.iload_n 2, 1) := dk_28 (dk_at dksX1_rank_4 8 rfl rfl)
theorem dX1_rank_102 : decode cX1_rank 102 = .ok (.ireturn, 1) := dk_172 (dk_at dksX1_rank_4 9 rfl rfl)
abbrev cX1_order : ByteArray := prog_1_method_47_code
def yX1_order : MethodName := ⟨RX1, "order", "(LRepeatFree$Word;LRepeatFree$Word;)I"⟩
def dkwX1_order_2 : List UInt8 := [180, 0, 152, 28, 51, 43, 180, 0, 152, 28, 51, 184, 1, 56, 172]
abbrev dktX1_order_2 : List UInt8 := dkwX1_order_2 ++ []
def dkwX1_order_1 : List UInt8 := [160, 0, 9, 132, 2, 1, 167, 255, 230, 28, 42, 180, 0, 132, 160, 0, 7, 3, 167, 0, 18, 42]
abbrev dktX1_order_1 : List UInt8 := dkwX1_order_1 ++ dktX1_order_2
def dkwX1_order_0 : List UInt8 := [3, 61, 28, 42, 180, 0, 132, 162, 0, 24, 42, 180, 0, 152, 28, 51, 43, 180, 0, 152, 28, 51]
abbrev dktX1_order_0 : List UInt8 := dkwX1_order_0 ++ dktX1_order_1
theorem dksX1_order_0 : cX1_order.data.toList.drop 0 = dktX1_order_0 := by decide +kernel
theorem dksX1_order_1 : cX1_order.data.toList.drop 22 = dktX1_order_1 := dk_seg dksX1_order_0 22 rfl rfl
theorem dksX1_order_2 : cX1_order.data.toList.drop 44 = dktX1_order_2 := dk_seg dksX1_order_1 22 rfl rfl
theorem dX1_order_0 : decode cX1_order 0 = .ok (.iconst 0, 1) := dk_3 (dk_at dksX1_order_0 0 rfl rfl)
theorem dX1_order_1 : decode cX1_order 1 = .ok (.istore_n 2, 1) := dk_61 (dk_at dksX1_order_0 1 rfl rfl)
theorem dX1_order_2 : decode cX1_order 2 = .ok (.iload_n 2, 1) := dk_28 (dk_at dksX1_order_0 2 rfl rfl)
theorem dX1_order_3 : decode cX1_order 3 = .ok (.aload_n 0, 1) := dk_42 (dk_at dksX1_order_0 3 rfl rfl)
theorem dX1_order_4 : decode cX1_order 4 = .ok (.getfield 132, 3) := dk_180 0 132 (dk_at dksX1_order_0 4 rfl rfl)
theorem dX1_order_7 : decode cX1_order 7 = .ok (.if_icmp .ge 24, 3) := dk_162 0 24 (dk_at dksX1_order_0 7 rfl rfl)
theorem dX1_order_10 : decode cX1_order 10 = .ok (.aload_n 0, 1) := dk_42 (dk_at dksX1_order_0 10 rfl rfl)
theorem dX1_order_11 : decode cX1_order 11 = .ok (.getfield 152, 3) := dk_180 0 152 (dk_at dksX1_order_0 11 rfl rfl)
theorem dX1_order_14 : decode cX1_order 14 = .ok (.iload_n 2, 1) := dk_28 (dk_at dksX1_order_0 14 rfl rfl)
theorem dX1_order_15 : decode cX1_order 15 = .ok (.baload, 1) := dk_51 (dk_at dksX1_order_0 15 rfl rfl)
theorem dX1_order_16 : decode cX1_order 16 = .ok (.aload_n 1, 1) := dk_43 (dk_at dksX1_order_0 16 rfl rfl)
theorem dX1_order_17 : decode cX1_order 17 = .ok (.getfield 152, 3) := dk_180 0 152 (dk_at dksX1_order_0 17 rfl rfl)
theorem dX1_order_20 : decode cX1_order 20 = .ok (.iload_n 2, 1) := dk_28 (dk_at dksX1_order_0 20 rfl rfl)
theorem dX1_order_21 : decode cX1_order 21 = .ok (.baload, 1) := dk_51 (dk_at dksX1_order_0 21 rfl rfl)
theorem dX1_order_22 : decode cX1_order 22 = .ok (.if_icmp .ne 9, 3) := dk_160 0 9 (dk_at dksX1_order_1 0 rfl rfl)
theorem dX1_order_25 : decode cX1_order 25 = .ok (.iinc 2 1, 3) := dk_132 2 1 (dk_at dksX1_order_1 3 rfl rfl)
theorem dX1_order_28 : decode cX1_order 28 = .ok (.goto (-26), 3) := dk_167 255 230 (dk_at dksX1_order_1 6 rfl rfl)
theorem dX1_order_31 : decode cX1_order 31 = .ok (.iload_n 2, 1) := dk_28 (dk_at dksX1_order_1 9 rfl rfl)
theorem dX1_order_32 : decode cX1_order 32 = .ok (.aload_n 0, 1) := dk_42 (dk_at dksX1_order_1 10 rfl rfl)
theorem dX1_order_33 : decode cX1_order 33 = .ok (.getfield 132, 3) := dk_180 0 132 (dk_at dksX1_order_1 11 rfl rfl)
theorem dX1_order_36 : decode cX1_order 36 = .ok (.if_icmp .ne 7, 3) := dk_160 0 7 (dk_at dksX1_order_1 14 rfl rfl)
theorem dX1_order_39 : decode cX1_order 39 = .ok (.iconst 0, 1) := dk_3 (dk_at dksX1_order_1 17 rfl rfl)
theorem dX1_order_40 : decode cX1_order 40 = .ok (.goto 18, 3) := dk_167 0 18 (dk_at dksX1_order_1 18 rfl rfl)
theorem dX1_order_43 : decode cX1_order 43 = .ok (.aload_n 0, 1) := dk_42 (dk_at dksX1_order_1 21 rfl rfl)
theorem dX1_order_44 : decode cX1_order 44 = .ok (.getfield 152, 3) := dk_180 0 152 (dk_at dksX1_order_2 0 rfl rfl)
theorem dX1_order_47 : decode cX1_order 47 = .ok (.iload_n 2, 1) := dk_28 (dk_at dksX1_order_2 3 rfl rfl)
theorem dX1_order_48 : decode cX1_order 48 = .ok (.baload, 1) := dk_51 (dk_at dksX1_order_2 4 rfl rfl)
theorem dX1_order_49 : decode cX1_order 49 = .ok (.aload_n 1, 1) := dk_43 (dk_at dksX1_order_2 5 rfl rfl)
theorem dX1_order_50 : decode cX1_order 50 = .ok (.getfield 152, 3) := dk_180 0 152 (dk_at dksX1_order_2 6 rfl rfl)
theorem dX1_order_53 : decode cX1_order 53 = .ok (.iload_n 2, 1) := dk_28 (dk_at dksX1_order_2 9 rfl rfl)
theorem dX1_order_54 : decode cX1_order 54 = .ok (.baload, 1) := dk_51 (dk_at dksX1_order_2 10 rfl rfl)
theorem dX1_order_55 : decode cX1_order 55 = .ok (.invokestatic 312, 3) := dk_184 1 56 (dk_at dksX1_order_2 11 rfl rfl)
theorem dX1_order_58 : decode cX1_order 58 = .ok (.ireturn, 1) := dk_172 (dk_at dksX1_order_2 14 rfl rfl)
abbrev cX1_nth : ByteArray := prog_1_method_49_code
def yX1_nth : MethodName := ⟨RX1, "nth", "(II)I"⟩
def dkwX1_nth_4 : List UInt8 := [172, 42, 45, 180, 1, 39, 182, 0, 138, 45, 180, 1, 42, 172]
abbrev dktX1_nth_4 : List UInt8 := dkwX1_nth_4 ++ []
def dkwX1_nth_3 : List UInt8 := [132, 5, 255, 167, 255, 235, 21, 4, 154, 0, 17, 45, 180, 1, 34, 153, 0, 8, 16, 254, 167, 0, 4, 2]
abbrev dktX1_nth_3 : List UInt8 := dkwX1_nth_3 ++ dktX1_nth_4
def dkwX1_nth_2 : List UInt8 := [54, 4, 28, 54, 5, 21, 5, 158, 0, 22, 21, 4, 153, 0, 17, 45, 27, 3, 182, 1, 45, 54, 4]
abbrev dktX1_nth_2 : List UInt8 := dkwX1_nth_2 ++ dktX1_nth_3
def dkwX1_nth_1 : List UInt8 := [187, 1, 26, 89, 42, 187, 0, 42, 89, 183, 0, 44, 183, 1, 28, 78, 45, 27, 3, 3, 182, 1, 31]
abbrev dktX1_nth_1 : List UInt8 := dkwX1_nth_1 ++ dktX1_nth_2
def dkwX1_nth_0 : List UInt8 := [27, 133, 10, 20, 1, 37, 184, 0, 128, 153, 0, 11, 28, 155, 0, 7, 4, 167, 0, 4, 3, 184, 0, 158]
abbrev dktX1_nth_0 : List UInt8 := dkwX1_nth_0 ++ dktX1_nth_1
theorem dksX1_nth_0 : cX1_nth.data.toList.drop 0 = dktX1_nth_0 := by decide +kernel
theorem dksX1_nth_1 : cX1_nth.data.toList.drop 24 = dktX1_nth_1 := dk_seg dksX1_nth_0 24 rfl rfl
theorem dksX1_nth_2 : cX1_nth.data.toList.drop 47 = dktX1_nth_2 := dk_seg dksX1_nth_1 23 rfl rfl
theorem dksX1_nth_3 : cX1_nth.data.toList.drop 70 = dktX1_nth_3 := dk_seg dksX1_nth_2 23 rfl rfl
theorem dksX1_nth_4 : cX1_nth.data.toList.drop 94 = dktX1_nth_4 := dk_seg dksX1_nth_3 24 rfl rfl
theorem dX1_nth_0 : decode cX1_nth 0 = .ok (.iload_n 1, 1) := dk_27 (dk_at dksX1_nth_0 0 rfl rfl)
theorem dX1_nth_1 : decode cX1_nth 1 = .ok (.i2l, 1) := dk_133 (dk_at dksX1_nth_0 1 rfl rfl)
theorem dX1_nth_2 : decode cX1_nth 2 = .ok (.lconst 1, 1) := dk_10 (dk_at dksX1_nth_0 2 rfl rfl)
theorem dX1_nth_3 : decode cX1_nth 3 = .ok (.ldc2_w 293, 3) := dk_20 1 37 (dk_at dksX1_nth_0 3 rfl rfl)
theorem dX1_nth_6 : decode cX1_nth 6 = .ok (.invokestatic 128, 3) := dk_184 0 128 (dk_at dksX1_nth_0 6 rfl rfl)
theorem dX1_nth_9 : decode cX1_nth 9 = .ok (.ifCond .eq 11, 3) := dk_153 0 11 (dk_at dksX1_nth_0 9 rfl rfl)
theorem dX1_nth_12 : decode cX1_nth 12 = .ok (.iload_n 2, 1) := dk_28 (dk_at dksX1_nth_0 12 rfl rfl)
theorem dX1_nth_13 : decode cX1_nth 13 = .ok (.ifCond .lt 7, 3) := dk_155 0 7 (dk_at dksX1_nth_0 13 rfl rfl)
theorem dX1_nth_16 : decode cX1_nth 16 = .ok (.iconst 1, 1) := dk_4 (dk_at dksX1_nth_0 16 rfl rfl)
theorem dX1_nth_17 : decode cX1_nth 17 = .ok (.goto 4, 3) := dk_167 0 4 (dk_at dksX1_nth_0 17 rfl rfl)
theorem dX1_nth_20 : decode cX1_nth 20 = .ok (.iconst 0, 1) := dk_3 (dk_at dksX1_nth_0 20 rfl rfl)
theorem dX1_nth_21 : decode cX1_nth 21 = .ok (.invokestatic 158, 3) := dk_184 0 158 (dk_at dksX1_nth_0 21 rfl rfl)
theorem dX1_nth_24 : decode cX1_nth 24 = .ok (.new 282, 3) := dk_187 1 26 (dk_at dksX1_nth_1 0 rfl rfl)
theorem dX1_nth_27 : decode cX1_nth 27 = .ok (.dup, 1) := dk_89 (dk_at dksX1_nth_1 3 rfl rfl)
theorem dX1_nth_28 : decode cX1_nth 28 = .ok (.aload_n 0, 1) := dk_42 (dk_at dksX1_nth_1 4 rfl rfl)
theorem dX1_nth_29 : decode cX1_nth 29 = .ok (.new 42, 3) := dk_187 0 42 (dk_at dksX1_nth_1 5 rfl rfl)
theorem dX1_nth_32 : decode cX1_nth 32 = .ok (.dup, 1) := dk_89 (dk_at dksX1_nth_1 8 rfl rfl)
theorem dX1_nth_33 : decode cX1_nth 33 = .ok (.invokespecial 44, 3) := dk_183 0 44 (dk_at dksX1_nth_1 9 rfl rfl)
theorem dX1_nth_36 : decode cX1_nth 36 = .ok (.invokespecial 284, 3) := dk_183 1 28 (dk_at dksX1_nth_1 12 rfl rfl)
theorem dX1_nth_39 : decode cX1_nth 39 = .ok (.astore_n 3, 1) := dk_78 (dk_at dksX1_nth_1 15 rfl rfl)
theorem dX1_nth_40 : decode cX1_nth 40 = .ok (.aload_n 3, 1) := dk_45 (dk_at dksX1_nth_1 16 rfl rfl)
theorem dX1_nth_41 : decode cX1_nth 41 = .ok (.iload_n 1, 1) := dk_27 (dk_at dksX1_nth_1 17 rfl rfl)
theorem dX1_nth_42 : decode cX1_nth 42 = .ok (.iconst 0, 1) := dk_3 (dk_at dksX1_nth_1 18 rfl rfl)
theorem dX1_nth_43 : decode cX1_nth 43 = .ok (.iconst 0, 1) := dk_3 (dk_at dksX1_nth_1 19 rfl rfl)
theorem dX1_nth_44 : decode cX1_nth 44 = .ok (.invokevirtual 287, 3) := dk_182 1 31 (dk_at dksX1_nth_1 20 rfl rfl)
theorem dX1_nth_47 : decode cX1_nth 47 = .ok (.istore 4, 2) := dk_54 4 (dk_at dksX1_nth_2 0 rfl rfl)
theorem dX1_nth_49 : decode cX1_nth 49 = .ok (.iload_n 2, 1) := dk_28 (dk_at dksX1_nth_2 2 rfl rfl)
theorem dX1_nth_50 : decode cX1_nth 50 = .ok (.istore 5, 2) := dk_54 5 (dk_at dksX1_nth_2 3 rfl rfl)
theorem dX1_nth_52 : decode cX1_nth 52 = .ok (.iload 5, 2) := dk_21 5 (dk_at dksX1_nth_2 5 rfl rfl)
theorem dX1_nth_54 : decode cX1_nth 54 = .ok (.ifCond .le 22, 3) := dk_158 0 22 (dk_at dksX1_nth_2 7 rfl rfl)
theorem dX1_nth_57 : decode cX1_nth 57 = .ok (.iload 4, 2) := dk_21 4 (dk_at dksX1_nth_2 10 rfl rfl)
theorem dX1_nth_59 : decode cX1_nth 59 = .ok (.ifCond .eq 17, 3) := dk_153 0 17 (dk_at dksX1_nth_2 12 rfl rfl)
theorem dX1_nth_62 : decode cX1_nth 62 = .ok (.aload_n 3, 1) := dk_45 (dk_at dksX1_nth_2 15 rfl rfl)
theorem dX1_nth_63 : decode cX1_nth 63 = .ok (.iload_n 1, 1) := dk_27 (dk_at dksX1_nth_2 16 rfl rfl)
theorem dX1_nth_64 : decode cX1_nth 64 = .ok (.iconst 0, 1) := dk_3 (dk_at dksX1_nth_2 17 rfl rfl)
theorem dX1_nth_65 : decode cX1_nth 65 = .ok (.invokevirtual 301, 3) := dk_182 1 45 (dk_at dksX1_nth_2 18 rfl rfl)
theorem dX1_nth_68 : decode cX1_nth 68 = .ok (.istore 4, 2) := dk_54 4 (dk_at dksX1_nth_2 21 rfl rfl)
theorem dX1_nth_70 : decode cX1_nth 70 = .ok (.iinc 5 (-1), 3) := dk_132 5 255 (dk_at dksX1_nth_3 0 rfl rfl)
theorem dX1_nth_73 : decode cX1_nth 73 = .ok (.goto (-21), 3) := dk_167 255 235 (dk_at dksX1_nth_3 3 rfl rfl)
theorem dX1_nth_76 : decode cX1_nth 76 = .ok (.iload 4, 2) := dk_21 4 (dk_at dksX1_nth_3 6 rfl rfl)
theorem dX1_nth_78 : decode cX1_nth 78 = .ok (.ifCond .ne 17, 3) := dk_154 0 17 (dk_at dksX1_nth_3 8 rfl rfl)
theorem dX1_nth_81 : decode cX1_nth 81 = .ok (.aload_n 3, 1) := dk_45 (dk_at dksX1_nth_3 11 rfl rfl)
theorem dX1_nth_82 : decode cX1_nth 82 = .ok (.getfield 290, 3) := dk_180 1 34 (dk_at dksX1_nth_3 12 rfl rfl)
theorem dX1_nth_85 : decode cX1_nth 85 = .ok (.ifCond .eq 8, 3) := dk_153 0 8 (dk_at dksX1_nth_3 15 rfl rfl)
theorem dX1_nth_88 : decode cX1_nth 88 = .ok (.bipush (-2), 2) := dk_16 254 (dk_at dksX1_nth_3 18 rfl rfl)
theorem dX1_nth_90 : decode cX1_nth 90 = .ok (.goto 4, 3) := dk_167 0 4 (dk_at dksX1_nth_3 20 rfl rfl)
theorem dX1_nth_93 : decode cX1_nth 93 = .ok (.iconst (-1), 1) := dk_2 (dk_at dksX1_nth_3 23 rfl rfl)
theorem dX1_nth_94 : decode cX1_nth 94 = .ok (.ireturn, 1) := dk_172 (dk_at dksX1_nth_4 0 rfl rfl)
theorem dX1_nth_95 : decode cX1_nth 95 = .ok (.aload_n 0, 1) := dk_42 (dk_at dksX1_nth_4 1 rfl rfl)
theorem dX1_nth_96 : decode cX1_nth 96 = .ok (.aload_n 3, 1) := dk_45 (dk_at dksX1_nth_4 2 rfl rfl)
theorem dX1_nth_97 : decode cX1_nth 97 = .ok (.getfield 295, 3) := dk_180 1 39 (dk_at dksX1_nth_4 3 rfl rfl)
theorem dX1_nth_100 : decode cX1_nth 100 = .ok (.invokevirtual 138, 3) := dk_182 0 138 (dk_at dksX1_nth_4 6 rfl rfl)
theorem dX1_nth_103 : decode cX1_nth 103 = .ok (.aload_n 3, 1) := dk_45 (dk_at dksX1_nth_4 9 rfl rfl)
theorem dX1_nth_104 : decode cX1_nth 104 = .ok (.getfield 298, 3) := dk_180 1 42 (dk_at dksX1_nth_4 10 rfl rfl)
theorem dX1_nth_107 : decode cX1_nth 107 = .ok (.ireturn, 1) := dk_172 (dk_at dksX1_nth_4 13 rfl rfl)
abbrev cX1_limit : ByteArray := prog_1_method_51_code
def yX1_limit : MethodName := ⟨RX1, "limit", "(III)I"⟩
def dkwX1_limit_4 : List UInt8 := [21, 4, 172]
abbrev dktX1_limit_4 : List UInt8 := dkwX1_limit_4 ++ []
def dkwX1_limit_3 : List UInt8 := [180, 0, 32, 27, 154, 0, 7, 1, 167, 0, 13, 187, 0, 187, 89, 27, 28, 29, 183, 1, 72, 181, 0, 178]
abbrev dktX1_limit_3 : List UInt8 := dkwX1_limit_3 ++ dktX1_limit_4
def dkwX1_limit_2 : List UInt8 := [180, 0, 178, 199, 0, 7, 3, 167, 0, 13, 42, 180, 0, 32, 180, 0, 178, 180, 1, 69, 54, 4, 42]
abbrev dktX1_limit_2 : List UInt8 := dkwX1_limit_2 ++ dktX1_limit_3
def dkwX1_limit_1 : List UInt8 := [29, 133, 10, 20, 1, 67, 184, 0, 128, 153, 0, 7, 4, 167, 0, 4, 3, 184, 0, 158, 42, 180, 0, 32]
abbrev dktX1_limit_1 : List UInt8 := dkwX1_limit_1 ++ dktX1_limit_2
def dkwX1_limit_0 : List UInt8 := [27, 133, 9, 20, 0, 203, 184, 0, 128, 153, 0, 31, 28, 133, 10, 20, 1, 65, 184, 0, 128, 153, 0, 19]
abbrev dktX1_limit_0 : List UInt8 := dkwX1_limit_0 ++ dktX1_limit_1
theorem dksX1_limit_0 : cX1_limit.data.toList.drop 0 = dktX1_limit_0 := by decide +kernel
theorem dksX1_limit_1 : cX1_limit.data.toList.drop 24 = dktX1_limit_1 := dk_seg dksX1_limit_0 24 rfl rfl
theorem dksX1_limit_2 : cX1_limit.data.toList.drop 48 = dktX1_limit_2 := dk_seg dksX1_limit_1 24 rfl rfl
theorem dksX1_limit_3 : cX1_limit.data.toList.drop 71 = dktX1_limit_3 := dk_seg dksX1_limit_2 23 rfl rfl
theorem dksX1_limit_4 : cX1_limit.data.toList.drop 95 = dktX1_limit_4 := dk_seg dksX1_limit_3 24 rfl rfl
theorem dX1_limit_0 : decode cX1_limit 0 = .ok (.iload_n 1, 1) := dk_27 (dk_at dksX1_limit_0 0 rfl rfl)
theorem dX1_limit_1 : decode cX1_limit 1 = .ok (.i2l, 1) := dk_133 (dk_at dksX1_limit_0 1 rfl rfl)
theorem dX1_limit_2 : decode cX1_limit 2 = .ok (.lconst 0, 1) := dk_9 (dk_at dksX1_limit_0 2 rfl rfl)
theorem dX1_limit_3 : decode cX1_limit 3 = .ok (.ldc2_w 203, 3) := dk_20 0 203 (dk_at dksX1_limit_0 3 rfl rfl)
theorem dX1_limit_6 : decode cX1_limit 6 = .ok (.invokestatic 128, 3) := dk_184 0 128 (dk_at dksX1_limit_0 6 rfl rfl)
theorem dX1_limit_9 : decode cX1_limit 9 = .ok (.ifCond .eq 31, 3) := dk_153 0 31 (dk_at dksX1_limit_0 9 rfl rfl)
theorem dX1_limit_12 : decode cX1_limit 12 = .ok (.iload_n 2, 1) := dk_28 (dk_at dksX1_limit_0 12 rfl rfl)
theorem dX1_limit_13 : decode cX1_limit 13 = .ok (.i2l, 1) := dk_133 (dk_at dksX1_limit_0 13 rfl rfl)
theorem dX1_limit_14 : decode cX1_limit 14 = .ok (.lconst 1, 1) := dk_10 (dk_at dksX1_limit_0 14 rfl rfl)
theorem dX1_limit_15 : decode cX1_limit 15 = .ok (.ldc2_w 321, 3) := dk_20 1 65 (dk_at dksX1_limit_0 15 rfl rfl)
theorem dX1_limit_18 : decode cX1_limit 18 = .ok (.invokestatic 128, 3) := dk_184 0 128 (dk_at dksX1_limit_0 18 rfl rfl)
theorem dX1_limit_21 : decode cX1_limit 21 = .ok (.ifCond .eq 19, 3) := dk_153 0 19 (dk_at dksX1_limit_0 21 rfl rfl)
theorem dX1_limit_24 : decode cX1_limit 24 = .ok (.iload_n 3, 1) := dk_29 (dk_at dksX1_limit_1 0 rfl rfl)
theorem dX1_limit_25 : decode cX1_limit 25 = .ok (.i2l, 1) := dk_133 (dk_at dksX1_limit_1 1 rfl rfl)
theorem dX1_limit_26 : decode cX1_limit 26 = .ok (.lconst 1, 1) := dk_10 (dk_at dksX1_limit_1 2 rfl rfl)
theorem dX1_limit_27 : decode cX1_limit 27 = .ok (.ldc2_w 323, 3) := dk_20 1 67 (dk_at dksX1_limit_1 3 rfl rfl)
theorem dX1_limit_30 : decode cX1_limit 30 = .ok (.invokestatic 128, 3) := dk_184 0 128 (dk_at dksX1_limit_1 6 rfl rfl)
theorem dX1_limit_33 : decode cX1_limit 33 = .ok (.ifCond .eq 7, 3) := dk_153 0 7 (dk_at dksX1_limit_1 9 rfl rfl)
theorem dX1_limit_36 : decode cX1_limit 36 = .ok (.iconst 1, 1) := dk_4 (dk_at dksX1_limit_1 12 rfl rfl)
theorem dX1_limit_37 : decode cX1_limit 37 = .ok (.goto 4, 3) := dk_167 0 4 (dk_at dksX1_limit_1 13 rfl rfl)
theorem dX1_limit_40 : decode cX1_limit 40 = .ok (.iconst 0, 1) := dk_3 (dk_at dksX1_limit_1 16 rfl rfl)
theorem dX1_limit_41 : decode cX1_limit 41 = .ok (.invokestatic 158, 3) := dk_184 0 158 (dk_at dksX1_limit_1 17 rfl rfl)
theorem dX1_limit_44 : decode cX1_limit 44 = .ok (.aload_n 0, 1) := dk_42 (dk_at dksX1_limit_1 20 rfl rfl)
theorem dX1_limit_45 : decode cX1_limit 45 = .ok (.getfield 32, 3) := dk_180 0 32 (dk_at dksX1_limit_1 21 rfl rfl)
theorem dX1_limit_48 : decode cX1_limit 48 = .ok (.getfield 178, 3) := dk_180 0 178 (dk_at dksX1_limit_2 0 rfl rfl)
theorem dX1_limit_51 : decode cX1_limit 51 = .ok (.ifnonnull 7, 3) := dk_199 0 7 (dk_at dksX1_limit_2 3 rfl rfl)
theorem dX1_limit_54 : decode cX1_limit 54 = .ok (.iconst 0, 1) := dk_3 (dk_at dksX1_limit_2 6 rfl rfl)
theorem dX1_limit_55 : decode cX1_limit 55 = .ok (.goto 13, 3) := dk_167 0 13 (dk_at dksX1_limit_2 7 rfl rfl)
theorem dX1_limit_58 : decode cX1_limit 58 = .ok (.aload_n 0, 1) := dk_42 (dk_at dksX1_limit_2 10 rfl rfl)
theorem dX1_limit_59 : decode cX1_limit 59 = .ok (.getfield 32, 3) := dk_180 0 32 (dk_at dksX1_limit_2 11 rfl rfl)
theorem dX1_limit_62 : decode cX1_limit 62 = .ok (.getfield 178, 3) := dk_180 0 178 (dk_at dksX1_limit_2 14 rfl rfl)
theorem dX1_limit_65 : decode cX1_limit 65 = .ok (.getfield 325, 3) := dk_180 1 69 (dk_at dksX1_limit_2 17 rfl rfl)
theorem dX1_limit_68 : decode cX1_limit 68 = .ok (.istore 4, 2) := dk_54 4 (dk_at dksX1_limit_2 20 rfl rfl)
theorem dX1_limit_70 : decode cX1_limit 70 = .ok (.aload_n 0, 1) := dk_42 (dk_at dksX1_limit_2 22 rfl rfl)
theorem dX1_limit_71 : decode cX1_limit 71 = .ok (.getfield 32, 3) := dk_180 0 32 (dk_at dksX1_limit_3 0 rfl rfl)
theorem dX1_limit_74 : decode cX1_limit 74 = .ok (.iload_n 1, 1) := dk_27 (dk_at dksX1_limit_3 3 rfl rfl)
theorem dX1_limit_75 : decode cX1_limit 75 = .ok (.ifCond .ne 7, 3) := dk_154 0 7 (dk_at dksX1_limit_3 4 rfl rfl)
theorem dX1_limit_78 : decode cX1_limit 78 = .ok (.aconst_null, 1) := dk_1 (dk_at dksX1_limit_3 7 rfl rfl)
theorem dX1_limit_79 : decode cX1_limit 79 = .ok (.goto 13, 3) := dk_167 0 13 (dk_at dksX1_limit_3 8 rfl rfl)
theorem dX1_limit_82 : decode cX1_limit 82 = .ok (.new 187, 3) := dk_187 0 187 (dk_at dksX1_limit_3 11 rfl rfl)
theorem dX1_limit_85 : decode cX1_limit 85 = .ok (.dup, 1) := dk_89 (dk_at dksX1_limit_3 14 rfl rfl)
theorem dX1_limit_86 : decode cX1_limit 86 = .ok (.iload_n 1, 1) := dk_27 (dk_at dksX1_limit_3 15 rfl rfl)
theorem dX1_limit_87 : decode cX1_limit 87 = .ok (.iload_n 2, 1) := dk_28 (dk_at dksX1_limit_3 16 rfl rfl)
theorem dX1_limit_88 : decode cX1_limit 88 = .ok (.iload_n 3, 1) := dk_29 (dk_at dksX1_limit_3 17 rfl rfl)
theorem dX1_limit_89 : decode cX1_limit 89 = .ok (.invokespecial 328, 3) := dk_183 1 72 (dk_at dksX1_limit_3 18 rfl rfl)
theorem dX1_limit_92 : decode cX1_limit 92 = .ok (.putfield 178, 3) := dk_181 0 178 (dk_at dksX1_limit_3 21 rfl rfl)
theorem dX1_limit_95 : decode cX1_limit 95 = .ok (.iload 4, 2) := dk_21 4 (dk_at dksX1_limit_4 0 rfl rfl)
theorem dX1_limit_97 : decode cX1_limit 97 = .ok (.ireturn, 1) := dk_172 (dk_at dksX1_limit_4 2 rfl rfl)
abbrev cX1_avoid : ByteArray := prog_1_method_52_code
def yX1_avoid : MethodName := ⟨RX1, "avoid", "(IZ)Z"⟩
def dkwX1_avoid_0 : List UInt8 := [42, 27, 182, 1, 73, 78, 45, 180, 0, 120, 54, 4, 45, 28, 181, 0, 120, 42, 182, 0, 91, 21, 4, 172]
abbrev dktX1_avoid_0 : List UInt8 := dkwX1_avoid_0 ++ []
theorem dksX1_avoid_0 : cX1_avoid.data.toList.drop 0 = dktX1_avoid_0 := by decide +kernel
theorem dX1_avoid_0 : decode cX1_avoid 0 = .ok (.aload_n 0, 1) := dk_42 (dk_at dksX1_avoid_0 0 rfl rfl)
theorem dX1_avoid_1 : decode cX1_avoid 1 = .ok (.iload_n 1, 1) := dk_27 (dk_at dksX1_avoid_0 1 rfl rfl)
theorem dX1_avoid_2 : decode cX1_avoid 2 = .ok (.invokevirtual 329, 3) := dk_182 1 73 (dk_at dksX1_avoid_0 2 rfl rfl)
theorem dX1_avoid_5 : decode cX1_avoid 5 = .ok (.astore_n 3, 1) := dk_78 (dk_at dksX1_avoid_0 5 rfl rfl)
theorem dX1_avoid_6 : decode cX1_avoid 6 = .ok (.aload_n 3, 1) := dk_45 (dk_at dksX1_avoid_0 6 rfl rfl)
theorem dX1_avoid_7 : decode cX1_avoid 7 = .ok (.getfield 120, 3) := dk_180 0 120 (dk_at dksX1_avoid_0 7 rfl rfl)
theorem dX1_avoid_10 : decode cX1_avoid 10 = .ok (.istore 4, 2) := dk_54 4 (dk_at dksX1_avoid_0 10 rfl rfl)
theorem dX1_avoid_12 : decode cX1_avoid 12 = .ok (.aload_n 3, 1) := dk_45 (dk_at dksX1_avoid_0 12 rfl rfl)
theorem dX1_avoid_13 : decode cX1_avoid 13 = .ok (.iload_n 2, 1) := dk_28 (dk_at dksX1_avoid_0 13 rfl rfl)
theorem dX1_avoid_14 : decode cX1_avoid 14 = .ok (.putfield 120, 3) := dk_181 0 120 (dk_at dksX1_avoid_0 14 rfl rfl)
theorem dX1_avoid_17 : decode cX1_avoid 17 = .ok (.aload_n 0, 1) := dk_42 (dk_at dksX1_avoid_0 17 rfl rfl)
theorem dX1_avoid_18 : decode cX1_avoid 18 = .ok (.invokevirtual 91, 3) := dk_182 0 91 (dk_at dksX1_avoid_0 18 rfl rfl)
theorem dX1_avoid_21 : decode cX1_avoid 21 = .ok (.iload 4, 2) := dk_21 4 (dk_at dksX1_avoid_0 21 rfl rfl)
theorem dX1_avoid_23 : decode cX1_avoid 23 = .ok (.ireturn, 1) := dk_172 (dk_at dksX1_avoid_0 23 rfl rfl)
abbrev cX1_local : ByteArray := prog_1_method_56_code
def yX1_local : MethodName := ⟨RX1, "local", "(I)I"⟩
def dkwX1_local_1 : List UInt8 := [182, 1, 80, 154, 0, 9, 132, 2, 1, 167, 255, 244, 28, 172]
abbrev dktX1_local_1 : List UInt8 := dkwX1_local_1 ++ []
def dkwX1_local_0 : List UInt8 := [27, 133, 10, 42, 180, 0, 45, 180, 0, 132, 4, 100, 133, 184, 0, 128, 184, 0, 158, 4, 61, 42, 27, 28]
abbrev dktX1_local_0 : List UInt8 := dkwX1_local_0 ++ dktX1_local_1
theorem dksX1_local_0 : cX1_local.data.toList.drop 0 = dktX1_local_0 := by decide +kernel
theorem dksX1_local_1 : cX1_local.data.toList.drop 24 = dktX1_local_1 := dk_seg dksX1_local_0 24 rfl rfl
theorem dX1_local_0 : decode cX1_local 0 = .ok (.iload_n 1, 1) := dk_27 (dk_at dksX1_local_0 0 rfl rfl)
theorem dX1_local_1 : decode cX1_local 1 = .ok (.i2l, 1) := dk_133 (dk_at dksX1_local_0 1 rfl rfl)
theorem dX1_local_2 : decode cX1_local 2 = .ok (.lconst 1, 1) := dk_10 (dk_at dksX1_local_0 2 rfl rfl)
theorem dX1_local_3 : decode cX1_local 3 = .ok (.aload_n 0, 1) := dk_42 (dk_at dksX1_local_0 3 rfl rfl)
theorem dX1_local_4 : decode cX1_local 4 = .ok (.getfield 45, 3) := dk_180 0 45 (dk_at dksX1_local_0 4 rfl rfl)
theorem dX1_local_7 : decode cX1_local 7 = .ok (.getfield 132, 3) := dk_180 0 132 (dk_at dksX1_local_0 7 rfl rfl)
theorem dX1_local_10 : decode cX1_local 10 = .ok (.iconst 1, 1) := dk_4 (dk_at dksX1_local_0 10 rfl rfl)
theorem dX1_local_11 : decode cX1_local 11 = .ok (.isub, 1) := dk_100 (dk_at dksX1_local_0 11 rfl rfl)
theorem dX1_local_12 : decode cX1_local 12 = .ok (.i2l, 1) := dk_133 (dk_at dksX1_local_0 12 rfl rfl)
theorem dX1_local_13 : decode cX1_local 13 = .ok (.invokestatic 128, 3) := dk_184 0 128 (dk_at dksX1_local_0 13 rfl rfl)
theorem dX1_local_16 : decode cX1_local 16 = .ok (.invokestatic 158, 3) := dk_184 0 158 (dk_at dksX1_local_0 16 rfl rfl)
theorem dX1_local_19 : decode cX1_local 19 = .ok (.iconst 1, 1) := dk_4 (dk_at dksX1_local_0 19 rfl rfl)
theorem dX1_local_20 : decode cX1_local 20 = .ok (.istore_n 2, 1) := dk_61 (dk_at dksX1_local_0 20 rfl rfl)
theorem dX1_local_21 : decode cX1_local 21 = .ok (.aload_n 0, 1) := dk_42 (dk_at dksX1_local_0 21 rfl rfl)
theorem dX1_local_22 : decode cX1_local 22 = .ok (.iload_n 1, 1) := dk_27 (dk_at dksX1_local_0 22 rfl rfl)
theorem dX1_local_23 : decode cX1_local 23 = .ok (.iload_n 2, 1) := dk_28 (dk_at dksX1_local_0 23 rfl rfl)
theorem dX1_local_24 : decode cX1_local 24 = .ok (.invokevirtual 336, 3) := dk_182 1 80 (dk_at dksX1_local_1 0 rfl rfl)
theorem dX1_local_27 : decode cX1_local 27 = .ok (.ifCond .ne 9, 3) := dk_154 0 9 (dk_at dksX1_local_1 3 rfl rfl)
theorem dX1_local_30 : decode cX1_local 30 = .ok (.iinc 2 1, 3) := dk_132 2 1 (dk_at dksX1_local_1 6 rfl rfl)
theorem dX1_local_33 : decode cX1_local 33 = .ok (.goto (-12), 3) := dk_167 255 244 (dk_at dksX1_local_1 9 rfl rfl)
theorem dX1_local_36 : decode cX1_local 36 = .ok (.iload_n 2, 1) := dk_28 (dk_at dksX1_local_1 12 rfl rfl)
theorem dX1_local_37 : decode cX1_local 37 = .ok (.ireturn, 1) := dk_172 (dk_at dksX1_local_1 13 rfl rfl)
abbrev cX1_isLocal : ByteArray := prog_1_method_57_code
def yX1_isLocal : MethodName := ⟨RX1, "isLocal", "(II)Z"⟩
def dkwX1_isLocal_2 : List UInt8 := [159, 0, 5, 3, 172, 132, 3, 1, 167, 255, 210, 4, 172]
abbrev dktX1_isLocal_2 : List UInt8 := dkwX1_isLocal_2 ++ []
def dkwX1_isLocal_1 : List UInt8 := [162, 0, 34, 42, 180, 0, 45, 180, 0, 152, 29, 51, 42, 180, 0, 45, 180, 0, 152, 29, 28, 96, 51]
abbrev dktX1_isLocal_1 : List UInt8 := dkwX1_isLocal_1 ++ dktX1_isLocal_2
def dkwX1_isLocal_0 : List UInt8 := [3, 27, 28, 100, 184, 1, 20, 62, 29, 27, 162, 0, 47, 29, 28, 96, 42, 180, 0, 45, 180, 0, 132]
abbrev dktX1_isLocal_0 : List UInt8 := dkwX1_isLocal_0 ++ dktX1_isLocal_1
theorem dksX1_isLocal_0 : cX1_isLocal.data.toList.drop 0 = dktX1_isLocal_0 := by decide +kernel
theorem dksX1_isLocal_1 : cX1_isLocal.data.toList.drop 23 = dktX1_isLocal_1 := dk_seg dksX1_isLocal_0 23 rfl rfl
theorem dksX1_isLocal_2 : cX1_isLocal.data.toList.drop 46 = dktX1_isLocal_2 := dk_seg dksX1_isLocal_1 23 rfl rfl
theorem dX1_isLocal_0 : decode cX1_isLocal 0 = .ok (.iconst 0, 1) := dk_3 (dk_at dksX1_isLocal_0 0 rfl rfl)
theorem dX1_isLocal_1 : decode cX1_isLocal 1 = .ok (.iload_n 1, 1) := dk_27 (dk_at dksX1_isLocal_0 1 rfl rfl)
theorem dX1_isLocal_2 : decode cX1_isLocal 2 = .ok (.iload_n 2, 1) := dk_28 (dk_at dksX1_isLocal_0 2 rfl rfl)
theorem dX1_isLocal_3 : decode cX1_isLocal 3 = .ok (.isub, 1) := dk_100 (dk_at dksX1_isLocal_0 3 rfl rfl)
theorem dX1_isLocal_4 : decode cX1_isLocal 4 = .ok (.invokestatic 276, 3) := dk_184 1 20 (dk_at dksX1_isLocal_0 4 rfl rfl)
theorem dX1_isLocal_7 : decode cX1_isLocal 7 = .ok (.istore_n 3, 1) := dk_62 (dk_at dksX1_isLocal_0 7 rfl rfl)
theorem dX1_isLocal_8 : decode cX1_isLocal 8 = .ok (.iload_n 3, 1) := dk_29 (dk_at dksX1_isLocal_0 8 rfl rfl)
theorem dX1_isLocal_9 : decode cX1_isLocal 9 = .ok (.iload_n 1, 1) := dk_27 (dk_at dksX1_isLocal_0 9 rfl rfl)
theorem dX1_isLocal_10 : decode cX1_isLocal 10 = .ok (.if_icmp .ge 47, 3) := dk_162 0 47 (dk_at dksX1_isLocal_0 10 rfl rfl)
theorem dX1_isLocal_13 : decode cX1_isLocal 13 = .ok (.iload_n 3, 1) := dk_29 (dk_at dksX1_isLocal_0 13 rfl rfl)
theorem dX1_isLocal_14 : decode cX1_isLocal 14 = .ok (.iload_n 2, 1) := dk_28 (dk_at dksX1_isLocal_0 14 rfl rfl)
theorem dX1_isLocal_15 : decode cX1_isLocal 15 = .ok (.iadd, 1) := dk_96 (dk_at dksX1_isLocal_0 15 rfl rfl)
theorem dX1_isLocal_16 : decode cX1_isLocal 16 = .ok (.aload_n 0, 1) := dk_42 (dk_at dksX1_isLocal_0 16 rfl rfl)
theorem dX1_isLocal_17 : decode cX1_isLocal 17 = .ok (.getfield 45, 3) := dk_180 0 45 (dk_at dksX1_isLocal_0 17 rfl rfl)
theorem dX1_isLocal_20 : decode cX1_isLocal 20 = .ok (.getfield 132, 3) := dk_180 0 132 (dk_at dksX1_isLocal_0 20 rfl rfl)
theorem dX1_isLocal_23 : decode cX1_isLocal 23 = .ok (.if_icmp .ge 34, 3) := dk_162 0 34 (dk_at dksX1_isLocal_1 0 rfl rfl)
theorem dX1_isLocal_26 : decode cX1_isLocal 26 = .ok (.aload_n 0, 1) := dk_42 (dk_at dksX1_isLocal_1 3 rfl rfl)
theorem dX1_isLocal_27 : decode cX1_isLocal 27 = .ok (.getfield 45, 3) := dk_180 0 45 (dk_at dksX1_isLocal_1 4 rfl rfl)
theorem dX1_isLocal_30 : decode cX1_isLocal 30 = .ok (.getfield 152, 3) := dk_180 0 152 (dk_at dksX1_isLocal_1 7 rfl rfl)
theorem dX1_isLocal_33 : decode cX1_isLocal 33 = .ok (.iload_n 3, 1) := dk_29 (dk_at dksX1_isLocal_1 10 rfl rfl)
theorem dX1_isLocal_34 : decode cX1_isLocal 34 = .ok (.baload, 1) := dk_51 (dk_at dksX1_isLocal_1 11 rfl rfl)
theorem dX1_isLocal_35 : decode cX1_isLocal 35 = .ok (.aload_n 0, 1) := dk_42 (dk_at dksX1_isLocal_1 12 rfl rfl)
theorem dX1_isLocal_36 : decode cX1_isLocal 36 = .ok (.getfield 45, 3) := dk_180 0 45 (dk_at dksX1_isLocal_1 13 rfl rfl)
theorem dX1_isLocal_39 : decode cX1_isLocal 39 = .ok (.getfield 152, 3) := dk_180 0 152 (dk_at dksX1_isLocal_1 16 rfl rfl)
theorem dX1_isLocal_42 : decode cX1_isLocal 42 = .ok (.iload_n 3, 1) := dk_29 (dk_at dksX1_isLocal_1 19 rfl rfl)
theorem dX1_isLocal_43 : decode cX1_isLocal 43 = .ok (.iload_n 2, 1) := dk_28 (dk_at dksX1_isLocal_1 20 rfl rfl)
theorem dX1_isLocal_44 : decode cX1_isLocal 44 = .ok (.iadd, 1) := dk_96 (dk_at dksX1_isLocal_1 21 rfl rfl)
theorem dX1_isLocal_45 : decode cX1_isLocal 45 = .ok (.baload, 1) := dk_51 (dk_at dksX1_isLocal_1 22 rfl rfl)
theorem dX1_isLocal_46 : decode cX1_isLocal 46 = .ok (.if_icmp .eq 5, 3) := dk_159 0 5 (dk_at dksX1_isLocal_2 0 rfl rfl)
theorem dX1_isLocal_49 : decode cX1_isLocal 49 = .ok (.iconst 0, 1) := dk_3 (dk_at dksX1_isLocal_2 3 rfl rfl)
theorem dX1_isLocal_50 : decode cX1_isLocal 50 = .ok (.ireturn, 1) := dk_172 (dk_at dksX1_isLocal_2 4 rfl rfl)
theorem dX1_isLocal_51 : decode cX1_isLocal 51 = .ok (.iinc 3 1, 3) := dk_132 3 1 (dk_at dksX1_isLocal_2 5 rfl rfl)
theorem dX1_isLocal_54 : decode cX1_isLocal 54 = .ok (.goto (-46), 3) := dk_167 255 210 (dk_at dksX1_isLocal_2 8 rfl rfl)
theorem dX1_isLocal_57 : decode cX1_isLocal 57 = .ok (.iconst 1, 1) := dk_4 (dk_at dksX1_isLocal_2 11 rfl rfl)
theorem dX1_isLocal_58 : decode cX1_isLocal 58 = .ok (.ireturn, 1) := dk_172 (dk_at dksX1_isLocal_2 12 rfl rfl)
abbrev cX1_fill : ByteArray := prog_1_method_74_code
def yX1_fill : MethodName := ⟨RX1, "fill", "(III)I"⟩
def dkwX1_fill_6 : List UInt8 := [25, 5, 182, 0, 138, 42, 42, 180, 0, 45, 182, 0, 199, 172]
abbrev dktX1_fill_6 : List UInt8 := dkwX1_fill_6 ++ []
def dkwX1_fill_5 : List UInt8 := [25, 5, 25, 7, 21, 8, 51, 182, 0, 135, 132, 8, 1, 167, 255, 226, 132, 6, 1, 167, 255, 183, 42]
abbrev dktX1_fill_5 : List UInt8 := dkwX1_fill_5 ++ dktX1_fill_6
def dkwX1_fill_4 : List UInt8 := [4, 167, 0, 4, 3, 54, 8, 21, 8, 25, 7, 190, 162, 0, 28, 25, 5, 180, 0, 132, 29, 162, 0, 19]
abbrev dktX1_fill_4 : List UInt8 := dkwX1_fill_4 ++ dktX1_fill_5
def dkwX1_fill_3 : List UInt8 := [162, 0, 70, 25, 4, 180, 1, 91, 25, 5, 180, 0, 152, 21, 6, 51, 50, 58, 7, 21, 6, 154, 0, 7]
abbrev dktX1_fill_3 : List UInt8 := dkwX1_fill_3 ++ dktX1_fill_4
def dkwX1_fill_2 : List UInt8 := [187, 0, 42, 89, 183, 0, 44, 58, 5, 25, 5, 28, 182, 0, 135, 3, 54, 6, 25, 5, 180, 0, 132, 29]
abbrev dktX1_fill_2 : List UInt8 := dkwX1_fill_2 ++ dktX1_fill_3
def dkwX1_fill_1 : List UInt8 := [153, 0, 7, 4, 167, 0, 4, 3, 184, 0, 158, 42, 27, 182, 1, 132, 28, 184, 1, 135, 184, 0, 162]
abbrev dktX1_fill_1 : List UInt8 := dkwX1_fill_1 ++ dktX1_fill_2
def dkwX1_fill_0 : List UInt8 := [42, 27, 182, 1, 95, 58, 4, 42, 28, 182, 0, 155, 153, 0, 19, 29, 133, 10, 20, 1, 11, 184, 0, 128]
abbrev dktX1_fill_0 : List UInt8 := dkwX1_fill_0 ++ dktX1_fill_1
theorem dksX1_fill_0 : cX1_fill.data.toList.drop 0 = dktX1_fill_0 := by decide +kernel
theorem dksX1_fill_1 : cX1_fill.data.toList.drop 24 = dktX1_fill_1 := dk_seg dksX1_fill_0 24 rfl rfl
theorem dksX1_fill_2 : cX1_fill.data.toList.drop 47 = dktX1_fill_2 := dk_seg dksX1_fill_1 23 rfl rfl
theorem dksX1_fill_3 : cX1_fill.data.toList.drop 71 = dktX1_fill_3 := dk_seg dksX1_fill_2 24 rfl rfl
theorem dksX1_fill_4 : cX1_fill.data.toList.drop 95 = dktX1_fill_4 := dk_seg dksX1_fill_3 24 rfl rfl
theorem dksX1_fill_5 : cX1_fill.data.toList.drop 119 = dktX1_fill_5 := dk_seg dksX1_fill_4 24 rfl rfl
theorem dksX1_fill_6 : cX1_fill.data.toList.drop 142 = dktX1_fill_6 := dk_seg dksX1_fill_5 23 rfl rfl
theorem dX1_fill_0 : decode cX1_fill 0 = .ok (.aload_n 0, 1) := dk_42 (dk_at dksX1_fill_0 0 rfl rfl)
theorem dX1_fill_1 : decode cX1_fill 1 = .ok (.iload_n 1, 1) := dk_27 (dk_at dksX1_fill_0 1 rfl rfl)
theorem dX1_fill_2 : decode cX1_fill 2 = .ok (.invokevirtual 351, 3) := dk_182 1 95 (dk_at dksX1_fill_0 2 rfl rfl)
theorem dX1_fill_5 : decode cX1_fill 5 = .ok (.astore 4, 2) := dk_58 4 (dk_at dksX1_fill_0 5 rfl rfl)
theorem dX1_fill_7 : decode cX1_fill 7 = .ok (.aload_n 0, 1) := dk_42 (dk_at dksX1_fill_0 7 rfl rfl)
theorem dX1_fill_8 : decode cX1_fill 8 = .ok (.iload_n 2, 1) := dk_28 (dk_at dksX1_fill_0 8 rfl rfl)
theorem dX1_fill_9 : decode cX1_fill 9 = .ok (.invokevirtual 155, 3) := dk_182 0 155 (dk_at dksX1_fill_0 9 rfl rfl)
theorem dX1_fill_12 : decode cX1_fill 12 = .ok (.ifCond .eq 19, 3) := dk_153 0 19 (dk_at dksX1_fill_0 12 rfl rfl)
theorem dX1_fill_15 : decode cX1_fill 15 = .ok (.iload_n 3, 1) := dk_29 (dk_at dksX1_fill_0 15 rfl rfl)
theorem dX1_fill_16 : decode cX1_fill 16 = .ok (.i2l, 1) := dk_133 (dk_at dksX1_fill_0 16 rfl rfl)
theorem dX1_fill_17 : decode cX1_fill 17 = .ok (.lconst 1, 1) := dk_10 (dk_at dksX1_fill_0 17 rfl rfl)
theorem dX1_fill_18 : decode cX1_fill 18 = .ok (.ldc2_w 267, 3) := dk_20 1 11 (dk_at dksX1_fill_0 18 rfl rfl)
theorem dX1_fill_21 : decode cX1_fill 21 = .ok (.invokestatic 128, 3) := dk_184 0 128 (dk_at dksX1_fill_0 21 rfl rfl)
theorem dX1_fill_24 : decode cX1_fill 24 = .ok (.ifCond .eq 7, 3) := dk_153 0 7 (dk_at dksX1_fill_1 0 rfl rfl)
theorem dX1_fill_27 : decode cX1_fill 27 = .ok (.iconst 1, 1) := dk_4 (dk_at dksX1_fill_1 3 rfl rfl)
theorem dX1_fill_28 : decode cX1_fill 28 = .ok (.goto 4, 3) := dk_167 0 4 (dk_at dksX1_fill_1 4 rfl rfl)
theorem dX1_fill_31 : decode cX1_fill 31 = .ok (.iconst 0, 1) := dk_3 (dk_at dksX1_fill_1 7 rfl rfl)
theorem dX1_fill_32 : decode cX1_fill 32 = .ok (.invokestatic 158, 3) := dk_184 0 158 (dk_at dksX1_fill_1 8 rfl rfl)
theorem dX1_fill_35 : decode cX1_fill 35 = .ok (.aload_n 0, 1) := dk_42 (dk_at dksX1_fill_1 11 rfl rfl)
theorem dX1_fill_36 : decode cX1_fill 36 = .ok (.iload_n 1, 1) := dk_27 (dk_at dksX1_fill_1 12 rfl rfl)
theorem dX1_fill_37 : decode cX1_fill 37 = .ok (.invokevirtual 388, 3) := dk_182 1 132 (dk_at dksX1_fill_1 13 rfl rfl)
theorem dX1_fill_40 : decode cX1_fill 40 = .ok (.iload_n 2, 1) := dk_28 (dk_at dksX1_fill_1 16 rfl rfl)
theorem dX1_fill_41 : decode cX1_fill 41 = .ok (.invokestatic 391, 3) := dk_184 1 135 (dk_at dksX1_fill_1 17 rfl rfl)
theorem dX1_fill_44 : decode cX1_fill 44 = .ok (.invokestatic 162, 3) := dk_184 0 162 (dk_at dksX1_fill_1 20 rfl rfl)
theorem dX1_fill_47 : decode cX1_fill 47 = .ok (.new 42, 3) := dk_187 0 42 (dk_at dksX1_fill_2 0 rfl rfl)
theorem dX1_fill_50 : decode cX1_fill 50 = .ok (.dup, 1) := dk_89 (dk_at dksX1_fill_2 3 rfl rfl)
theorem dX1_fill_51 : decode cX1_fill 51 = .ok (.invokespecial 44, 3) := dk_183 0 44 (dk_at dksX1_fill_2 4 rfl rfl)
theorem dX1_fill_54 : decode cX1_fill 54 = .ok (.astore 5, 2) := dk_58 5 (dk_at dksX1_fill_2 7 rfl rfl)
theorem dX1_fill_56 : decode cX1_fill 56 = .ok (.aload 5, 2) := dk_25 5 (dk_at dksX1_fill_2 9 rfl rfl)
theorem dX1_fill_58 : decode cX1_fill 58 = .ok (.iload_n 2, 1) := dk_28 (dk_at dksX1_fill_2 11 rfl rfl)
theorem dX1_fill_59 : decode cX1_fill 59 = .ok (.invokevirtual 135, 3) := dk_182 0 135 (dk_at dksX1_fill_2 12 rfl rfl)
theorem dX1_fill_62 : decode cX1_fill 62 = .ok (.iconst 0, 1) := dk_3 (dk_at dksX1_fill_2 15 rfl rfl)
theorem dX1_fill_63 : decode cX1_fill 63 = .ok (.istore 6, 2) := dk_54 6 (dk_at dksX1_fill_2 16 rfl rfl)
theorem dX1_fill_65 : decode cX1_fill 65 = .ok (.aload 5, 2) := dk_25 5 (dk_at dksX1_fill_2 18 rfl rfl)
theorem dX1_fill_67 : decode cX1_fill 67 = .ok (.getfield 132, 3) := dk_180 0 132 (dk_at dksX1_fill_2 20 rfl rfl)
theorem dX1_fill_70 : decode cX1_fill 70 = .ok (.iload_n 3, 1) := dk_29 (dk_at dksX1_fill_2 23 rfl rfl)
theorem dX1_fill_71 : decode cX1_fill 71 = .ok (.if_icmp .ge 70, 3) := dk_162 0 70 (dk_at dksX1_fill_3 0 rfl rfl)
theorem dX1_fill_74 : decode cX1_fill 74 = .ok (.aload 4, 2) := dk_25 4 (dk_at dksX1_fill_3 3 rfl rfl)
theorem dX1_fill_76 : decode cX1_fill 76 = .ok (.getfield 347, 3) := dk_180 1 91 (dk_at dksX1_fill_3 5 rfl rfl)
theorem dX1_fill_79 : decode cX1_fill 79 = .ok (.aload 5, 2) := dk_25 5 (dk_at dksX1_fill_3 8 rfl rfl)
theorem dX1_fill_81 : decode cX1_fill 81 = .ok (.getfield 152, 3) := dk_180 0 152 (dk_at dksX1_fill_3 10 rfl rfl)
theorem dX1_fill_84 : decode cX1_fill 84 = .ok (.iload 6, 2) := dk_21 6 (dk_at dksX1_fill_3 13 rfl rfl)
theorem dX1_fill_86 : decode cX1_fill 86 = .ok (.baload, 1) := dk_51 (dk_at dksX1_fill_3 15 rfl rfl)
theorem dX1_fill_87 : decode cX1_fill 87 = .ok (.aaload, 1) := dk_50 (dk_at dksX1_fill_3 16 rfl rfl)
theorem dX1_fill_88 : decode cX1_fill 88 = .ok (.astore 7, 2) := dk_58 7 (dk_at dksX1_fill_3 17 rfl rfl)
theorem dX1_fill_90 : decode cX1_fill 90 = .ok (.iload 6, 2) := dk_21 6 (dk_at dksX1_fill_3 19 rfl rfl)
theorem dX1_fill_92 : decode cX1_fill 92 = .ok (.ifCond .ne 7, 3) := dk_154 0 7 (dk_at dksX1_fill_3 21 rfl rfl)
theorem dX1_fill_95 : decode cX1_fill 95 = .ok (.iconst 1, 1) := dk_4 (dk_at dksX1_fill_4 0 rfl rfl)
theorem dX1_fill_96 : decode cX1_fill 96 = .ok (.goto 4, 3) := dk_167 0 4 (dk_at dksX1_fill_4 1 rfl rfl)
theorem dX1_fill_99 : decode cX1_fill 99 = .ok (.iconst 0, 1) := dk_3 (dk_at dksX1_fill_4 4 rfl rfl)
theorem dX1_fill_100 : decode cX1_fill 100 = .ok (.istore 8, 2) := dk_54 8 (dk_at dksX1_fill_4 5 rfl rfl)
theorem dX1_fill_102 : decode cX1_fill 102 = .ok (.iload 8, 2) := dk_21 8 (dk_at dksX1_fill_4 7 rfl rfl)
theorem dX1_fill_104 : decode cX1_fill 104 = .ok (.aload 7, 2) := dk_25 7 (dk_at dksX1_fill_4 9 rfl rfl)
theorem dX1_fill_106 : decode cX1_fill 106 = .ok (.arraylength, 1) := dk_190 (dk_at dksX1_fill_4 11 rfl rfl)
theorem dX1_fill_107 : decode cX1_fill 107 = .ok (.if_icmp .ge 28, 3) := dk_162 0 28 (dk_at dksX1_fill_4 12 rfl rfl)
theorem dX1_fill_110 : decode cX1_fill 110 = .ok (.aload 5, 2) := dk_25 5 (dk_at dksX1_fill_4 15 rfl rfl)
theorem dX1_fill_112 : decode cX1_fill 112 = .ok (.getfield 132, 3) := dk_180 0 132 (dk_at dksX1_fill_4 17 rfl rfl)
theorem dX1_fill_115 : decode cX1_fill 115 = .ok (.iload_n 3, 1) := dk_29 (dk_at dksX1_fill_4 20 rfl rfl)
theorem dX1_fill_116 : decode cX1_fill 116 = .ok (.if_icmp .ge 19, 3) := dk_162 0 19 (dk_at dksX1_fill_4 21 rfl rfl)
theorem dX1_fill_119 : decode cX1_fill 119 = .ok (.aload 5, 2) := dk_25 5 (dk_at dksX1_fill_5 0 rfl rfl)
theorem dX1_fill_121 : decode cX1_fill 121 = .ok (.aload 7, 2) := dk_25 7 (dk_at dksX1_fill_5 2 rfl rfl)
theorem dX1_fill_123 : decode cX1_fill 123 = .ok (.iload 8, 2) := dk_21 8 (dk_at dksX1_fill_5 4 rfl rfl)
theorem dX1_fill_125 : decode cX1_fill 125 = .ok (.baload, 1) := dk_51 (dk_at dksX1_fill_5 6 rfl rfl)
theorem dX1_fill_126 : decode cX1_fill 126 = .ok (.invokevirtual 135, 3) := dk_182 0 135 (dk_at dksX1_fill_5 7 rfl rfl)
theorem dX1_fill_129 : decode cX1_fill 129 = .ok (.iinc 8 1, 3) := dk_132 8 1 (dk_at dksX1_fill_5 10 rfl rfl)
theorem dX1_fill_132 : decode cX1_fill 132 = .ok (.goto (-30), 3) := dk_167 255 226 (dk_at dksX1_fill_5 13 rfl rfl)
theorem dX1_fill_135 : decode cX1_fill 135 = .ok (.iinc 6 1, 3) := dk_132 6 1 (dk_at dksX1_fill_5 16 rfl rfl)
theorem dX1_fill_138 : decode cX1_fill 138 = .ok (.goto (-73), 3) := dk_167 255 183 (dk_at dksX1_fill_5 19 rfl rfl)
theorem dX1_fill_141 : decode cX1_fill 141 = .ok (.aload_n 0, 1) := dk_42 (dk_at dksX1_fill_5 22 rfl rfl)
theorem dX1_fill_142 : decode cX1_fill 142 = .ok (.aload 5, 2) := dk_25 5 (dk_at dksX1_fill_6 0 rfl rfl)
theorem dX1_fill_144 : decode cX1_fill 144 = .ok (.invokevirtual 138, 3) := dk_182 0 138 (dk_at dksX1_fill_6 2 rfl rfl)
theorem dX1_fill_147 : decode cX1_fill 147 = .ok (.aload_n 0, 1) := dk_42 (dk_at dksX1_fill_6 5 rfl rfl)
theorem dX1_fill_148 : decode cX1_fill 148 = .ok (.aload_n 0, 1) := dk_42 (dk_at dksX1_fill_6 6 rfl rfl)
theorem dX1_fill_149 : decode cX1_fill 149 = .ok (.getfield 45, 3) := dk_180 0 45 (dk_at dksX1_fill_6 7 rfl rfl)
theorem dX1_fill_152 : decode cX1_fill 152 = .ok (.invokevirtual 199, 3) := dk_182 0 199 (dk_at dksX1_fill_6 10 rfl rfl)
theorem dX1_fill_155 : decode cX1_fill 155 = .ok (.ireturn, 1) := dk_172 (dk_at dksX1_fill_6 13 rfl rfl)
abbrev cX1_sources : ByteArray := prog_1_method_75_code
def yX1_sources : MethodName := ⟨RX1, "sources", "(I)J"⟩
def dkwX1_sources_4 : List UInt8 := [167, 255, 205, 132, 4, 1, 167, 255, 184, 45, 42, 180, 0, 45, 180, 0, 132, 47, 173]
abbrev dktX1_sources_4 : List UInt8 := dkwX1_sources_4 ++ []
def dkwX1_sources_3 : List UInt8 := [21, 4, 44, 180, 1, 91, 21, 5, 50, 190, 96, 92, 47, 45, 21, 4, 47, 97, 80, 132, 5, 1]
abbrev dktX1_sources_3 : List UInt8 := dkwX1_sources_3 ++ dktX1_sources_4
def dkwX1_sources_2 : List UInt8 := [180, 0, 97, 162, 0, 45, 42, 44, 180, 1, 91, 21, 5, 50, 21, 4, 182, 1, 138, 153, 0, 23, 45]
abbrev dktX1_sources_2 : List UInt8 := dkwX1_sources_2 ++ dktX1_sources_3
def dkwX1_sources_1 : List UInt8 := [54, 4, 21, 4, 42, 180, 0, 45, 180, 0, 132, 162, 0, 66, 3, 54, 5, 21, 5, 42, 180, 0, 32]
abbrev dktX1_sources_1 : List UInt8 := dkwX1_sources_1 ++ dktX1_sources_2
def dkwX1_sources_0 : List UInt8 := [42, 27, 182, 1, 95, 77, 42, 180, 0, 45, 180, 0, 132, 4, 96, 188, 11, 78, 45, 3, 10, 80, 3]
abbrev dktX1_sources_0 : List UInt8 := dkwX1_sources_0 ++ dktX1_sources_1
theorem dksX1_sources_0 : cX1_sources.data.toList.drop 0 = dktX1_sources_0 := by decide +kernel
theorem dksX1_sources_1 : cX1_sources.data.toList.drop 23 = dktX1_sources_1 := dk_seg dksX1_sources_0 23 rfl rfl
theorem dksX1_sources_2 : cX1_sources.data.toList.drop 46 = dktX1_sources_2 := dk_seg dksX1_sources_1 23 rfl rfl
theorem dksX1_sources_3 : cX1_sources.data.toList.drop 69 = dktX1_sources_3 := dk_seg dksX1_sources_2 23 rfl rfl
theorem dksX1_sources_4 : cX1_sources.data.toList.drop 91 = dktX1_sources_4 := dk_seg dksX1_sources_3 22 rfl rfl
theorem dX1_sources_0 : decode cX1_sources 0 = .ok (.aload_n 0, 1) := dk_42 (dk_at dksX1_sources_0 0 rfl rfl)
theorem dX1_sources_1 : decode cX1_sources 1 = .ok (.iload_n 1, 1) := dk_27 (dk_at dksX1_sources_0 1 rfl rfl)
theorem dX1_sources_2 : decode cX1_sources 2 = .ok (.invokevirtual 351, 3) := dk_182 1 95 (dk_at dksX1_sources_0 2 rfl rfl)
theorem dX1_sources_5 : decode cX1_sources 5 = .ok (.astore_n 2, 1) := dk_77 (dk_at dksX1_sources_0 5 rfl rfl)
theorem dX1_sources_6 : decode cX1_sources 6 = .ok (.aload_n 0, 1) := dk_42 (dk_at dksX1_sources_0 6 rfl rfl)
theorem dX1_sources_7 : decode cX1_sources 7 = .ok (.getfield 45, 3) := dk_180 0 45 (dk_at dksX1_sources_0 7 rfl rfl)
theorem dX1_sources_10 : decode cX1_sources 10 = .ok (.getfield 132, 3) := dk_180 0 132 (dk_at dksX1_sources_0 10 rfl rfl)
theorem dX1_sources_13 : decode cX1_sources 13 = .ok (.iconst 1, 1) := dk_4 (dk_at dksX1_sources_0 13 rfl rfl)
theorem dX1_sources_14 : decode cX1_sources 14 = .ok (.iadd, 1) := dk_96 (dk_at dksX1_sources_0 14 rfl rfl)
theorem dX1_sources_15 : decode cX1_sources 15 = .ok (.newarray .long, 2) := dk_188_11 (dk_at dksX1_sources_0 15 rfl rfl)
theorem dX1_sources_17 : decode cX1_sources 17 = .ok (.astore_n 3, 1) := dk_78 (dk_at dksX1_sources_0 17 rfl rfl)
theorem dX1_sources_18 : decode cX1_sources 18 = .ok (.aload_n 3, 1) := dk_45 (dk_at dksX1_sources_0 18 rfl rfl)
theorem dX1_sources_19 : decode cX1_sources 19 = .ok (.iconst 0, 1) := dk_3 (dk_at dksX1_sources_0 19 rfl rfl)
theorem dX1_sources_20 : decode cX1_sources 20 = .ok (.lconst 1, 1) := dk_10 (dk_at dksX1_sources_0 20 rfl rfl)
theorem dX1_sources_21 : decode cX1_sources 21 = .ok (.lastore, 1) := dk_80 (dk_at dksX1_sources_0 21 rfl rfl)
theorem dX1_sources_22 : decode cX1_sources 22 = .ok (.iconst 0, 1) := dk_3 (dk_at dksX1_sources_0 22 rfl rfl)
theorem dX1_sources_23 : decode cX1_sources 23 = .ok (.istore 4, 2) := dk_54 4 (dk_at dksX1_sources_1 0 rfl rfl)
theorem dX1_sources_25 : decode cX1_sources 25 = .ok (.iload 4, 2) := dk_21 4 (dk_at dksX1_sources_1 2 rfl rfl)
theorem dX1_sources_27 : decode cX1_sources 27 = .ok (.aload_n 0, 1) := dk_42 (dk_at dksX1_sources_1 4 rfl rfl)
theorem dX1_sources_28 : decode cX1_sources 28 = .ok (.getfield 45, 3) := dk_180 0 45 (dk_at dksX1_sources_1 5 rfl rfl)
theorem dX1_sources_31 : decode cX1_sources 31 = .ok (.getfield 132, 3) := dk_180 0 132 (dk_at dksX1_sources_1 8 rfl rfl)
theorem dX1_sources_34 : decode cX1_sources 34 = .ok (.if_icmp .ge 66, 3) := dk_162 0 66 (dk_at dksX1_sources_1 11 rfl rfl)
theorem dX1_sources_37 : decode cX1_sources 37 = .ok (.iconst 0, 1) := dk_3 (dk_at dksX1_sources_1 14 rfl rfl)
theorem dX1_sources_38 : decode cX1_sources 38 = .ok (.istore 5, 2) := dk_54 5 (dk_at dksX1_sources_1 15 rfl rfl)
theorem dX1_sources_40 : decode cX1_sources 40 = .ok (.iload 5, 2) := dk_21 5 (dk_at dksX1_sources_1 17 rfl rfl)
theorem dX1_sources_42 : decode cX1_sources 42 = .ok (.aload_n 0, 1) := dk_42 (dk_at dksX1_sources_1 19 rfl rfl)
theorem dX1_sources_43 : decode cX1_sources 43 = .ok (.getfield 32, 3) := dk_180 0 32 (dk_at dksX1_sources_1 20 rfl rfl)
theorem dX1_sources_46 : decode cX1_sources 46 = .ok (.getfield 97, 3) := dk_180 0 97 (dk_at dksX1_sources_2 0 rfl rfl)
theorem dX1_sources_49 : decode cX1_sources 49 = .ok (.if_icmp .ge 45, 3) := dk_162 0 45 (dk_at dksX1_sources_2 3 rfl rfl)
theorem dX1_sources_52 : decode cX1_sources 52 = .ok (.aload_n 0, 1) := dk_42 (dk_at dksX1_sources_2 6 rfl rfl)
theorem dX1_sources_53 : decode cX1_sources 53 = .ok (.aload_n 2, 1) := dk_44 (dk_at dksX1_sources_2 7 rfl rfl)
theorem dX1_sources_54 : decode cX1_sources 54 = .ok (.getfield 347, 3) := dk_180 1 91 (dk_at dksX1_sources_2 8 rfl rfl)
theorem dX1_sources_57 : decode cX1_sources 57 = .ok (.iload 5, 2) := dk_21 5 (dk_at dksX1_sources_2 11 rfl rfl)
theorem dX1_sources_59 : decode cX1_sources 59 = .ok (.aaload, 1) := dk_50 (dk_at dksX1_sources_2 13 rfl rfl)
theorem dX1_sources_60 : decode cX1_sources 60 = .ok (.iload 4, 2) := dk_21 4 (dk_at dksX1_sources_2 14 rfl rfl)
theorem dX1_sources_62 : decode cX1_sources 62 = .ok (.invokevirtual 394, 3) := dk_182 1 138 (dk_at dksX1_sources_2 16 rfl rfl)
theorem dX1_sources_65 : decode cX1_sources 65 = .ok (.ifCond .eq 23, 3) := dk_153 0 23 (dk_at dksX1_sources_2 19 rfl rfl)
theorem dX1_sources_68 : decode cX1_sources 68 = .ok (.aload_n 3, 1) := dk_45 (dk_at dksX1_sources_2 22 rfl rfl)
theorem dX1_sources_69 : decode cX1_sources 69 = .ok (.iload 4, 2) := dk_21 4 (dk_at dksX1_sources_3 0 rfl rfl)
theorem dX1_sources_71 : decode cX1_sources 71 = .ok (.aload_n 2, 1) := dk_44 (dk_at dksX1_sources_3 2 rfl rfl)
theorem dX1_sources_72 : decode cX1_sources 72 = .ok (.getfield 347, 3) := dk_180 1 91 (dk_at dksX1_sources_3 3 rfl rfl)
theorem dX1_sources_75 : decode cX1_sources 75 = .ok (.iload 5, 2) := dk_21 5 (dk_at dksX1_sources_3 6 rfl rfl)
theorem dX1_sources_77 : decode cX1_sources 77 = .ok (.aaload, 1) := dk_50 (dk_at dksX1_sources_3 8 rfl rfl)
theorem dX1_sources_78 : decode cX1_sources 78 = .ok (.arraylength, 1) := dk_190 (dk_at dksX1_sources_3 9 rfl rfl)
theorem dX1_sources_79 : decode cX1_sources 79 = .ok (.iadd, 1) := dk_96 (dk_at dksX1_sources_3 10 rfl rfl)
theorem dX1_sources_80 : decode cX1_sources 80 = .ok (.dup2, 1) := dk_92 (dk_at dksX1_sources_3 11 rfl rfl)
theorem dX1_sources_81 : decode cX1_sources 81 = .ok (.laload, 1) := dk_47 (dk_at dksX1_sources_3 12 rfl rfl)
theorem dX1_sources_82 : decode cX1_sources 82 = .ok (.aload_n 3, 1) := dk_45 (dk_at dksX1_sources_3 13 rfl rfl)
theorem dX1_sources_83 : decode cX1_sources 83 = .ok (.iload 4, 2) := dk_21 4 (dk_at dksX1_sources_3 14 rfl rfl)
theorem dX1_sources_85 : decode cX1_sources 85 = .ok (.laload, 1) := dk_47 (dk_at dksX1_sources_3 16 rfl rfl)
theorem dX1_sources_86 : decode cX1_sources 86 = .ok (.ladd, 1) := dk_97 (dk_at dksX1_sources_3 17 rfl rfl)
theorem dX1_sources_87 : decode cX1_sources 87 = .ok (.lastore, 1) := dk_80 (dk_at dksX1_sources_3 18 rfl rfl)
theorem dX1_sources_88 : decode cX1_sources 88 = .ok (.iinc 5 1, 3) := dk_132 5 1 (dk_at dksX1_sources_3 19 rfl rfl)
theorem dX1_sources_91 : decode cX1_sources 91 = .ok (.goto (-51), 3) := dk_167 255 205 (dk_at dksX1_sources_4 0 rfl rfl)
theorem dX1_sources_94 : decode cX1_sources 94 = .ok (.iinc 4 1, 3) := dk_132 4 1 (dk_at dksX1_sources_4 3 rfl rfl)
theorem dX1_sources_97 : decode cX1_sources 97 = .ok (.goto (-72), 3) := dk_167 255 184 (dk_at dksX1_sources_4 6 rfl rfl)
theorem dX1_sources_100 : decode cX1_sources 100 = .ok (.aload_n 3, 1) := dk_45 (dk_at dksX1_sources_4 9 rfl rfl)
theorem dX1_sources_101 : decode cX1_sources 101 = .ok (.aload_n 0, 1) := dk_42 (dk_at dksX1_sources_4 10 rfl rfl)
theorem dX1_sources_102 : decode cX1_sources 102 = .ok (.getfield 45, 3) := dk_180 0 45 (dk_at dksX1_sources_4 11 rfl rfl)
theorem dX1_sources_105 : decode cX1_sources 105 = .ok (.getfield 132, 3) := dk_180 0 132 (dk_at dksX1_sources_4 14 rfl rfl)
theorem dX1_sources_108 : decode cX1_sources 108 = .ok (.laload, 1) := dk_47 (dk_at dksX1_sources_4 17 rfl rfl)
theorem dX1_sources_109 : decode cX1_sources 109 = .ok (.lreturn, 1) := dk_173 (dk_at dksX1_sources_4 18 rfl rfl)
abbrev cX1_stands : ByteArray := prog_1_method_76_code
def yX1_stands : MethodName := ⟨RX1, "stands", "([BI)Z"⟩
def dkwX1_stands_2 : List UInt8 := [167, 255, 228, 4, 172]
abbrev dktX1_stands_2 : List UInt8 := dkwX1_stands_2 ++ []
def dkwX1_stands_1 : List UInt8 := [42, 180, 0, 45, 180, 0, 152, 28, 29, 96, 51, 43, 29, 51, 159, 0, 5, 3, 172, 132, 3, 1]
abbrev dktX1_stands_1 : List UInt8 := dkwX1_stands_1 ++ dktX1_stands_2
def dkwX1_stands_0 : List UInt8 := [28, 43, 190, 96, 42, 180, 0, 45, 180, 0, 132, 164, 0, 5, 3, 172, 3, 62, 29, 43, 190, 162, 0, 28]
abbrev dktX1_stands_0 : List UInt8 := dkwX1_stands_0 ++ dktX1_stands_1
theorem dksX1_stands_0 : cX1_stands.data.toList.drop 0 = dktX1_stands_0 := by decide +kernel
theorem dksX1_stands_1 : cX1_stands.data.toList.drop 24 = dktX1_stands_1 := dk_seg dksX1_stands_0 24 rfl rfl
theorem dksX1_stands_2 : cX1_stands.data.toList.drop 46 = dktX1_stands_2 := dk_seg dksX1_stands_1 22 rfl rfl
theorem dX1_stands_0 : decode cX1_stands 0 = .ok (.iload_n 2, 1) := dk_28 (dk_at dksX1_stands_0 0 rfl rfl)
theorem dX1_stands_1 : decode cX1_stands 1 = .ok (.aload_n 1, 1) := dk_43 (dk_at dksX1_stands_0 1 rfl rfl)
theorem dX1_stands_2 : decode cX1_stands 2 = .ok (.arraylength, 1) := dk_190 (dk_at dksX1_stands_0 2 rfl rfl)
theorem dX1_stands_3 : decode cX1_stands 3 = .ok (.iadd, 1) := dk_96 (dk_at dksX1_stands_0 3 rfl rfl)
theorem dX1_stands_4 : decode cX1_stands 4 = .ok (.aload_n 0, 1) := dk_42 (dk_at dksX1_stands_0 4 rfl rfl)
theorem dX1_stands_5 : decode cX1_stands 5 = .ok (.getfield 45, 3) := dk_180 0 45 (dk_at dksX1_stands_0 5 rfl rfl)
theorem dX1_stands_8 : decode cX1_stands 8 = .ok (.getfield 132, 3) := dk_180 0 132 (dk_at dksX1_stands_0 8 rfl rfl)
theorem dX1_stands_11 : decode cX1_stands 11 = .ok (.if_icmp .le 5, 3) := dk_164 0 5 (dk_at dksX1_stands_0 11 rfl rfl)
theorem dX1_stands_14 : decode cX1_stands 14 = .ok (.iconst 0, 1) := dk_3 (dk_at dksX1_stands_0 14 rfl rfl)
theorem dX1_stands_15 : decode cX1_stands 15 = .ok (.ireturn, 1) := dk_172 (dk_at dksX1_stands_0 15 rfl rfl)
theorem dX1_stands_16 : decode cX1_stands 16 = .ok (.iconst 0, 1) := dk_3 (dk_at dksX1_stands_0 16 rfl rfl)
theorem dX1_stands_17 : decode cX1_stands 17 = .ok (.istore_n 3, 1) := dk_62 (dk_at dksX1_stands_0 17 rfl rfl)
theorem dX1_stands_18 : decode cX1_stands 18 = .ok (.iload_n 3, 1) := dk_29 (dk_at dksX1_stands_0 18 rfl rfl)
theorem dX1_stands_19 : decode cX1_stands 19 = .ok (.aload_n 1, 1) := dk_43 (dk_at dksX1_stands_0 19 rfl rfl)
theorem dX1_stands_20 : decode cX1_stands 20 = .ok (.arraylength, 1) := dk_190 (dk_at dksX1_stands_0 20 rfl rfl)
theorem dX1_stands_21 : decode cX1_stands 21 = .ok (.if_icmp .ge 28, 3) := dk_162 0 28 (dk_at dksX1_stands_0 21 rfl rfl)
theorem dX1_stands_24 : decode cX1_stands 24 = .ok (.aload_n 0, 1) := dk_42 (dk_at dksX1_stands_1 0 rfl rfl)
theorem dX1_stands_25 : decode cX1_stands 25 = .ok (.getfield 45, 3) := dk_180 0 45 (dk_at dksX1_stands_1 1 rfl rfl)
theorem dX1_stands_28 : decode cX1_stands 28 = .ok (.getfield 152, 3) := dk_180 0 152 (dk_at dksX1_stands_1 4 rfl rfl)
theorem dX1_stands_31 : decode cX1_stands 31 = .ok (.iload_n 2, 1) := dk_28 (dk_at dksX1_stands_1 7 rfl rfl)
theorem dX1_stands_32 : decode cX1_stands 32 = .ok (.iload_n 3, 1) := dk_29 (dk_at dksX1_stands_1 8 rfl rfl)
theorem dX1_stands_33 : decode cX1_stands 33 = .ok (.iadd, 1) := dk_96 (dk_at dksX1_stands_1 9 rfl rfl)
theorem dX1_stands_34 : decode cX1_stands 34 = .ok (.baload, 1) := dk_51 (dk_at dksX1_stands_1 10 rfl rfl)
theorem dX1_stands_35 : decode cX1_stands 35 = .ok (.aload_n 1, 1) := dk_43 (dk_at dksX1_stands_1 11 rfl rfl)
theorem dX1_stands_36 : decode cX1_stands 36 = .ok (.iload_n 3, 1) := dk_29 (dk_at dksX1_stands_1 12 rfl rfl)
theorem dX1_stands_37 : decode cX1_stands 37 = .ok (.baload, 1) := dk_51 (dk_at dksX1_stands_1 13 rfl rfl)
theorem dX1_stands_38 : decode cX1_stands 38 = .ok (.if_icmp .eq 5, 3) := dk_159 0 5 (dk_at dksX1_stands_1 14 rfl rfl)
theorem dX1_stands_41 : decode cX1_stands 41 = .ok (.iconst 0, 1) := dk_3 (dk_at dksX1_stands_1 17 rfl rfl)
theorem dX1_stands_42 : decode cX1_stands 42 = .ok (.ireturn, 1) := dk_172 (dk_at dksX1_stands_1 18 rfl rfl)
theorem dX1_stands_43 : decode cX1_stands 43 = .ok (.iinc 3 1, 3) := dk_132 3 1 (dk_at dksX1_stands_1 19 rfl rfl)
theorem dX1_stands_46 : decode cX1_stands 46 = .ok (.goto (-28), 3) := dk_167 255 228 (dk_at dksX1_stands_2 0 rfl rfl)
theorem dX1_stands_49 : decode cX1_stands 49 = .ok (.iconst 1, 1) := dk_4 (dk_at dksX1_stands_2 3 rfl rfl)
theorem dX1_stands_50 : decode cX1_stands 50 = .ok (.ireturn, 1) := dk_172 (dk_at dksX1_stands_2 4 rfl rfl)
abbrev cX1_code : ByteArray := prog_1_method_80_code
def yX1_code : MethodName := ⟨RX1, "code", "(I)Z"⟩
def dkwX1_code_10 : List UInt8 := [167, 255, 162, 4, 172]
abbrev dktX1_code_10 : List UInt8 := dkwX1_code_10 ++ []
def dkwX1_code_9 : List UInt8 := [21, 7, 182, 0, 252, 192, 1, 154, 184, 1, 174, 184, 1, 178, 132, 7, 1, 167, 255, 203, 132, 5, 1]
abbrev dktX1_code_9 : List UInt8 := dkwX1_code_9 ++ dktX1_code_10
def dkwX1_code_8 : List UInt8 := [25, 4, 45, 21, 7, 182, 0, 252, 192, 1, 154, 25, 6, 184, 1, 174, 184, 1, 178, 25, 4, 25, 6, 45]
abbrev dktX1_code_8 : List UInt8 := dkwX1_code_8 ++ dktX1_code_9
def dkwX1_code_7 : List UInt8 := [182, 1, 182, 153, 0, 5, 3, 172, 3, 54, 7, 21, 7, 42, 180, 0, 32, 180, 0, 97, 162, 0, 47]
abbrev dktX1_code_7 : List UInt8 := dkwX1_code_7 ++ dktX1_code_8
def dkwX1_code_6 : List UInt8 := [25, 4, 182, 0, 251, 162, 0, 90, 25, 4, 21, 5, 182, 0, 252, 192, 1, 154, 58, 6, 25, 6]
abbrev dktX1_code_6 : List UInt8 := dkwX1_code_6 ++ dktX1_code_7
def dkwX1_code_5 : List UInt8 := [184, 1, 174, 184, 1, 178, 132, 6, 1, 167, 255, 208, 132, 5, 1, 167, 255, 187, 3, 54, 5, 21, 5]
abbrev dktX1_code_5 : List UInt8 := dkwX1_code_5 ++ dktX1_code_6
def dkwX1_code_4 : List UInt8 := [159, 0, 29, 25, 4, 45, 21, 5, 182, 0, 252, 192, 1, 154, 45, 21, 6, 182, 0, 252, 192, 1, 154]
abbrev dktX1_code_4 : List UInt8 := dkwX1_code_4 ++ dktX1_code_5
def dkwX1_code_3 : List UInt8 := [162, 0, 63, 3, 54, 6, 21, 6, 42, 180, 0, 32, 180, 0, 97, 162, 0, 42, 21, 5, 21, 6]
abbrev dktX1_code_3 : List UInt8 := dkwX1_code_3 ++ dktX1_code_4
def dkwX1_code_2 : List UInt8 := [167, 255, 226, 187, 0, 105, 89, 183, 0, 220, 58, 4, 3, 54, 5, 21, 5, 42, 180, 0, 32, 180, 0, 97]
abbrev dktX1_code_2 : List UInt8 := dkwX1_code_2 ++ dktX1_code_3
def dkwX1_code_1 : List UInt8 := [180, 0, 97, 162, 0, 24, 45, 44, 180, 1, 91, 21, 4, 50, 184, 1, 170, 182, 0, 238, 87, 132, 4, 1]
abbrev dktX1_code_1 : List UInt8 := dkwX1_code_1 ++ dktX1_code_2
def dkwX1_code_0 : List UInt8 := [42, 27, 182, 1, 95, 77, 187, 0, 105, 89, 183, 0, 220, 78, 3, 54, 4, 21, 4, 42, 180, 0, 32]
abbrev dktX1_code_0 : List UInt8 := dkwX1_code_0 ++ dktX1_code_1
theorem dksX1_code_0 : cX1_code.data.toList.drop 0 = dktX1_code_0 := by decide +kernel
theorem dksX1_code_1 : cX1_code.data.toList.drop 23 = dktX1_code_1 := dk_seg dksX1_code_0 23 rfl rfl
theorem dksX1_code_2 : cX1_code.data.toList.drop 47 = dktX1_code_2 := dk_seg dksX1_code_1 24 rfl rfl
theorem dksX1_code_3 : cX1_code.data.toList.drop 71 = dktX1_code_3 := dk_seg dksX1_code_2 24 rfl rfl
theorem dksX1_code_4 : cX1_code.data.toList.drop 93 = dktX1_code_4 := dk_seg dksX1_code_3 22 rfl rfl
theorem dksX1_code_5 : cX1_code.data.toList.drop 116 = dktX1_code_5 := dk_seg dksX1_code_4 23 rfl rfl
theorem dksX1_code_6 : cX1_code.data.toList.drop 139 = dktX1_code_6 := dk_seg dksX1_code_5 23 rfl rfl
theorem dksX1_code_7 : cX1_code.data.toList.drop 161 = dktX1_code_7 := dk_seg dksX1_code_6 22 rfl rfl
theorem dksX1_code_8 : cX1_code.data.toList.drop 184 = dktX1_code_8 := dk_seg dksX1_code_7 23 rfl rfl
theorem dksX1_code_9 : cX1_code.data.toList.drop 208 = dktX1_code_9 := dk_seg dksX1_code_8 24 rfl rfl
theorem dksX1_code_10 : cX1_code.data.toList.drop 231 = dktX1_code_10 := dk_seg dksX1_code_9 23 rfl rfl
theorem dX1_code_0 : decode cX1_code 0 = .ok (.aload_n 0, 1) := dk_42 (dk_at dksX1_code_0 0 rfl rfl)
theorem dX1_code_1 : decode cX1_code 1 = .ok (.iload_n 1, 1) := dk_27 (dk_at dksX1_code_0 1 rfl rfl)
theorem dX1_code_2 : decode cX1_code 2 = .ok (.invokevirtual 351, 3) := dk_182 1 95 (dk_at dksX1_code_0 2 rfl rfl)
theorem dX1_code_5 : decode cX1_code 5 = .ok (.astore_n 2, 1) := dk_77 (dk_at dksX1_code_0 5 rfl rfl)
theorem dX1_code_6 : decode cX1_code 6 = .ok (.new 105, 3) := dk_187 0 105 (dk_at dksX1_code_0 6 rfl rfl)
theorem dX1_code_9 : decode cX1_code 9 = .ok (.dup, 1) := dk_89 (dk_at dksX1_code_0 9 rfl rfl)
theorem dX1_code_10 : decode cX1_code 10 = .ok (.invokespecial 220, 3) := dk_183 0 220 (dk_at dksX1_code_0 10 rfl rfl)
theorem dX1_code_13 : decode cX1_code 13 = .ok (.astore_n 3, 1) := dk_78 (dk_at dksX1_code_0 13 rfl rfl)
theorem dX1_code_14 : decode cX1_code 14 = .ok (.iconst 0, 1) := dk_3 (dk_at dksX1_code_0 14 rfl rfl)
theorem dX1_code_15 : decode cX1_code 15 = .ok (.istore 4, 2) := dk_54 4 (dk_at dksX1_code_0 15 rfl rfl)
theorem dX1_code_17 : decode cX1_code 17 = .ok (.iload 4, 2) := dk_21 4 (dk_at dksX1_code_0 17 rfl rfl)
theorem dX1_code_19 : decode cX1_code 19 = .ok (.aload_n 0, 1) := dk_42 (dk_at dksX1_code_0 19 rfl rfl)
theorem dX1_code_20 : decode cX1_code 20 = .ok (.getfield 32, 3) := dk_180 0 32 (dk_at dksX1_code_0 20 rfl rfl)
theorem dX1_code_23 : decode cX1_code 23 = .ok (.getfield 97, 3) := dk_180 0 97 (dk_at dksX1_code_1 0 rfl rfl)
theorem dX1_code_26 : decode cX1_code 26 = .ok (.if_icmp .ge 24, 3) := dk_162 0 24 (dk_at dksX1_code_1 3 rfl rfl)
theorem dX1_code_29 : decode cX1_code 29 = .ok (.aload_n 3, 1) := dk_45 (dk_at dksX1_code_1 6 rfl rfl)
theorem dX1_code_30 : decode cX1_code 30 = .ok (.aload_n 2, 1) := dk_44 (dk_at dksX1_code_1 7 rfl rfl)
theorem dX1_code_31 : decode cX1_code 31 = .ok (.getfield 347, 3) := dk_180 1 91 (dk_at dksX1_code_1 8 rfl rfl)
theorem dX1_code_34 : decode cX1_code 34 = .ok (.iload 4, 2) := dk_21 4 (dk_at dksX1_code_1 11 rfl rfl)
theorem dX1_code_36 : decode cX1_code 36 = .ok (.aaload, 1) := dk_50 (dk_at dksX1_code_1 13 rfl rfl)
theorem dX1_code_37 : decode cX1_code 37 = .ok (.invokestatic 426, 3) := dk_184 1 170 (dk_at dksX1_code_1 14 rfl rfl)
theorem dX1_code_40 : decode cX1_code 40 = .ok (.invokevirtual 238, 3) := dk_182 0 238 (dk_at dksX1_code_1 17 rfl rfl)
theorem dX1_code_43 : decode cX1_code 43 = .ok (.pop, 1) := dk_87 (dk_at dksX1_code_1 20 rfl rfl)
theorem dX1_code_44 : decode cX1_code 44 = .ok (.iinc 4 1, 3) := dk_132 4 1 (dk_at dksX1_code_1 21 rfl rfl)
theorem dX1_code_47 : decode cX1_code 47 = .ok (.goto (-30), 3) := dk_167 255 226 (dk_at dksX1_code_2 0 rfl rfl)
theorem dX1_code_50 : decode cX1_code 50 = .ok (.new 105, 3) := dk_187 0 105 (dk_at dksX1_code_2 3 rfl rfl)
theorem dX1_code_53 : decode cX1_code 53 = .ok (.dup, 1) := dk_89 (dk_at dksX1_code_2 6 rfl rfl)
theorem dX1_code_54 : decode cX1_code 54 = .ok (.invokespecial 220, 3) := dk_183 0 220 (dk_at dksX1_code_2 7 rfl rfl)
theorem dX1_code_57 : decode cX1_code 57 = .ok (.astore 4, 2) := dk_58 4 (dk_at dksX1_code_2 10 rfl rfl)
theorem dX1_code_59 : decode cX1_code 59 = .ok (.iconst 0, 1) := dk_3 (dk_at dksX1_code_2 12 rfl rfl)
theorem dX1_code_60 : decode cX1_code 60 = .ok (.istore 5, 2) := dk_54 5 (dk_at dksX1_code_2 13 rfl rfl)
theorem dX1_code_62 : decode cX1_code 62 = .ok (.iload 5, 2) := dk_21 5 (dk_at dksX1_code_2 15 rfl rfl)
theorem dX1_code_64 : decode cX1_code 64 = .ok (.aload_n 0, 1) := dk_42 (dk_at dksX1_code_2 17 rfl rfl)
theorem dX1_code_65 : decode cX1_code 65 = .ok (.getfield 32, 3) := dk_180 0 32 (dk_at dksX1_code_2 18 rfl rfl)
theorem dX1_code_68 : decode cX1_code 68 = .ok (.getfield 97, 3) := dk_180 0 97 (dk_at dksX1_code_2 21 rfl rfl)
theorem dX1_code_71 : decode cX1_code 71 = .ok (.if_icmp .ge 63, 3) := dk_162 0 63 (dk_at dksX1_code_3 0 rfl rfl)
theorem dX1_code_74 : decode cX1_code 74 = .ok (.iconst 0, 1) := dk_3 (dk_at dksX1_code_3 3 rfl rfl)
theorem dX1_code_75 : decode cX1_code 75 = .ok (.istore 6, 2) := dk_54 6 (dk_at dksX1_code_3 4 rfl rfl)
theorem dX1_code_77 : decode cX1_code 77 = .ok (.iload 6, 2) := dk_21 6 (dk_at dksX1_code_3 6 rfl rfl)
theorem dX1_code_79 : decode cX1_code 79 = .ok (.aload_n 0, 1) := dk_42 (dk_at dksX1_code_3 8 rfl rfl)
theorem dX1_code_80 : decode cX1_code 80 = .ok (.getfield 32, 3) := dk_180 0 32 (dk_at dksX1_code_3 9 rfl rfl)
theorem dX1_code_83 : decode cX1_code 83 = .ok (.getfield 97, 3) := dk_180 0 97 (dk_at dksX1_code_3 12 rfl rfl)
theorem dX1_code_86 : decode cX1_code 86 = .ok (.if_icmp .ge 42, 3) := dk_162 0 42 (dk_at dksX1_code_3 15 rfl rfl)
theorem dX1_code_89 : decode cX1_code 89 = .ok (.iload 5, 2) := dk_21 5 (dk_at dksX1_code_3 18 rfl rfl)
theorem dX1_code_91 : decode cX1_code 91 = .ok (.iload 6, 2) := dk_21 6 (dk_at dksX1_code_3 20 rfl rfl)
theorem dX1_code_93 : decode cX1_code 93 = .ok (.if_icmp .eq 29, 3) := dk_159 0 29 (dk_at dksX1_code_4 0 rfl rfl)
theorem dX1_code_96 : decode cX1_code 96 = .ok (.aload 4, 2) := dk_25 4 (dk_at dksX1_code_4 3 rfl rfl)
theorem dX1_code_98 : decode cX1_code 98 = .ok (.aload_n 3, 1) := dk_45 (dk_at dksX1_code_4 5 rfl rfl)
theorem dX1_code_99 : decode cX1_code 99 = .ok (.iload 5, 2) := dk_21 5 (dk_at dksX1_code_4 6 rfl rfl)
theorem dX1_code_101 : decode cX1_code 101 = .ok (.invokevirtual 252, 3) := dk_182 0 252 (dk_at dksX1_code_4 8 rfl rfl)
theorem dX1_code_104 : decode cX1_code 104 = .ok (.checkcast 410, 3) := dk_192 1 154 (dk_at dksX1_code_4 11 rfl rfl)
theorem dX1_code_107 : decode cX1_code 107 = .ok (.aload_n 3, 1) := dk_45 (dk_at dksX1_code_4 14 rfl rfl)
theorem dX1_code_108 : decode cX1_code 108 = .ok (.iload 6, 2) := dk_21 6 (dk_at dksX1_code_4 15 rfl rfl)
theorem dX1_code_110 : decode cX1_code 110 = .ok (.invokevirtual 252, 3) := dk_182 0 252 (dk_at dksX1_code_4 17 rfl rfl)
theorem dX1_code_113 : decode cX1_code 113 = .ok (.checkcast 410, 3) := dk_192 1 154 (dk_at dksX1_code_4 20 rfl rfl)
theorem dX1_code_116 : decode cX1_code 116 = .ok (.invokestatic 430, 3) := dk_184 1 174 (dk_at dksX1_code_5 0 rfl rfl)
theorem dX1_code_119 : decode cX1_code 119 = .ok (.invokestatic 434, 3) := dk_184 1 178 (dk_at dksX1_code_5 3 rfl rfl)
theorem dX1_code_122 : decode cX1_code 122 = .ok (.iinc 6 1, 3) := dk_132 6 1 (dk_at dksX1_code_5 6 rfl rfl)
theorem dX1_code_125 : decode cX1_code 125 = .ok (.goto (-48), 3) := dk_167 255 208 (dk_at dksX1_code_5 9 rfl rfl)
theorem dX1_code_128 : decode cX1_code 128 = .ok (.iinc 5 1, 3) := dk_132 5 1 (dk_at dksX1_code_5 12 rfl rfl)
theorem dX1_code_131 : decode cX1_code 131 = .ok (.goto (-69), 3) := dk_167 255 187 (dk_at dksX1_code_5 15 rfl rfl)
theorem dX1_code_134 : decode cX1_code 134 = .ok (.iconst 0, 1) := dk_3 (dk_at dksX1_code_5 18 rfl rfl)
theorem dX1_code_135 : decode cX1_code 135 = .ok (.istore 5, 2) := dk_54 5 (dk_at dksX1_code_5 19 rfl rfl)
theorem dX1_code_137 : decode cX1_code 137 = .ok (.iload 5, 2) := dk_21 5 (dk_at dksX1_code_5 21 rfl rfl)
theorem dX1_code_139 : decode cX1_code 139 = .ok (.aload 4, 2) := dk_25 4 (dk_at dksX1_code_6 0 rfl rfl)
theorem dX1_code_141 : decode cX1_code 141 = .ok (.invokevirtual 251, 3) := dk_182 0 251 (dk_at dksX1_code_6 2 rfl rfl)
theorem dX1_code_144 : decode cX1_code 144 = .ok (.if_icmp .ge 90, 3) := dk_162 0 90 (dk_at dksX1_code_6 5 rfl rfl)
theorem dX1_code_147 : decode cX1_code 147 = .ok (.aload 4, 2) := dk_25 4 (dk_at dksX1_code_6 8 rfl rfl)
theorem dX1_code_149 : decode cX1_code 149 = .ok (.iload 5, 2) := dk_21 5 (dk_at dksX1_code_6 10 rfl rfl)
theorem dX1_code_151 : decode cX1_code 151 = .ok (.invokevirtual 252, 3) := dk_182 0 252 (dk_at dksX1_code_6 12 rfl rfl)
theorem dX1_code_154 : decode cX1_code 154 = .ok (.checkcast 410, 3) := dk_192 1 154 (dk_at dksX1_code_6 15 rfl rfl)
theorem dX1_code_157 : decode cX1_code 157 = .ok (.astore 6, 2) := dk_58 6 (dk_at dksX1_code_6 18 rfl rfl)
theorem dX1_code_159 : decode cX1_code 159 = .ok (.aload 6, 2) := dk_25 6 (dk_at dksX1_code_6 20 rfl rfl)
theorem dX1_code_161 : decode cX1_code 161 = .ok (.invokevirtual 438, 3) := dk_182 1 182 (dk_at dksX1_code_7 0 rfl rfl)
theorem dX1_code_164 : decode cX1_code 164 = .ok (.ifCond .eq 5, 3) := dk_153 0 5 (dk_at dksX1_code_7 3 rfl rfl)
theorem dX1_code_167 : decode cX1_code 167 = .ok (.iconst 0, 1) := dk_3 (dk_at dksX1_code_7 6 rfl rfl)
theorem dX1_code_168 : decode cX1_code 168 = .ok (.ireturn, 1) := dk_172 (dk_at dksX1_code_7 7 rfl rfl)
theorem dX1_code_169 : decode cX1_code 169 = .ok (.iconst 0, 1) := dk_3 (dk_at dksX1_code_7 8 rfl rfl)
theorem dX1_code_170 : decode cX1_code 170 = .ok (.istore 7, 2) := dk_54 7 (dk_at dksX1_code_7 9 rfl rfl)
theorem dX1_code_172 : decode cX1_code 172 = .ok (.iload 7, 2) := dk_21 7 (dk_at dksX1_code_7 11 rfl rfl)
theorem dX1_code_174 : decode cX1_code 174 = .ok (.aload_n 0, 1) := dk_42 (dk_at dksX1_code_7 13 rfl rfl)
theorem dX1_code_175 : decode cX1_code 175 = .ok (.getfield 32, 3) := dk_180 0 32 (dk_at dksX1_code_7 14 rfl rfl)
theorem dX1_code_178 : decode cX1_code 178 = .ok (.getfield 97, 3) := dk_180 0 97 (dk_at dksX1_code_7 17 rfl rfl)
theorem dX1_code_181 : decode cX1_code 181 = .ok (.if_icmp .ge 47, 3) := dk_162 0 47 (dk_at dksX1_code_7 20 rfl rfl)
theorem dX1_code_184 : decode cX1_code 184 = .ok (.aload 4, 2) := dk_25 4 (dk_at dksX1_code_8 0 rfl rfl)
theorem dX1_code_186 : decode cX1_code 186 = .ok (.aload_n 3, 1) := dk_45 (dk_at dksX1_code_8 2 rfl rfl)
theorem dX1_code_187 : decode cX1_code 187 = .ok (.iload 7, 2) := dk_21 7 (dk_at dksX1_code_8 3 rfl rfl)
theorem dX1_code_189 : decode cX1_code 189 = .ok (.invokevirtual 252, 3) := dk_182 0 252 (dk_at dksX1_code_8 5 rfl rfl)
theorem dX1_code_192 : decode cX1_code 192 = .ok (.checkcast 410, 3) := dk_192 1 154 (dk_at dksX1_code_8 8 rfl rfl)
theorem dX1_code_195 : decode cX1_code 195 = .ok (.aload 6, 2) := dk_25 6 (dk_at dksX1_code_8 11 rfl rfl)
theorem dX1_code_197 : decode cX1_code 197 = .ok (.invokestatic 430, 3) := dk_184 1 174 (dk_at dksX1_code_8 13 rfl rfl)
theorem dX1_code_200 : decode cX1_code 200 = .ok (.invokestatic 434, 3) := dk_184 1 178 (dk_at dksX1_code_8 16 rfl rfl)
theorem dX1_code_203 : decode cX1_code 203 = .ok (.aload 4, 2) := dk_25 4 (dk_at dksX1_code_8 19 rfl rfl)
theorem dX1_code_205 : decode cX1_code 205 = .ok (.aload 6, 2) := dk_25 6 (dk_at dksX1_code_8 21 rfl rfl)
theorem dX1_code_207 : decode cX1_code 207 = .ok (.aload_n 3, 1) := dk_45 (dk_at dksX1_code_8 23 rfl rfl)
theorem dX1_code_208 : decode cX1_code 208 = .ok (.iload 7, 2) := dk_21 7 (dk_at dksX1_code_9 0 rfl rfl)
theorem dX1_code_210 : decode cX1_code 210 = .ok (.invokevirtual 252, 3) := dk_182 0 252 (dk_at dksX1_code_9 2 rfl rfl)
theorem dX1_code_213 : decode cX1_code 213 = .ok (.checkcast 410, 3) := dk_192 1 154 (dk_at dksX1_code_9 5 rfl rfl)
theorem dX1_code_216 : decode cX1_code 216 = .ok (.invokestatic 430, 3) := dk_184 1 174 (dk_at dksX1_code_9 8 rfl rfl)
theorem dX1_code_219 : decode cX1_code 219 = .ok (.invokestatic 434, 3) := dk_184 1 178 (dk_at dksX1_code_9 11 rfl rfl)
theorem dX1_code_222 : decode cX1_code 222 = .ok (.iinc 7 1, 3) := dk_132 7 1 (dk_at dksX1_code_9 14 rfl rfl)
theorem dX1_code_225 : decode cX1_code 225 = .ok (.goto (-53), 3) := dk_167 255 203 (dk_at dksX1_code_9 17 rfl rfl)
theorem dX1_code_228 : decode cX1_code 228 = .ok (.iinc 5 1, 3) := dk_132 5 1 (dk_at dksX1_code_9 20 rfl rfl)
theorem dX1_code_231 : decode cX1_code 231 = .ok (.goto (-94), 3) := dk_167 255 162 (dk_at dksX1_code_10 0 rfl rfl)
theorem dX1_code_234 : decode cX1_code 234 = .ok (.iconst 1, 1) := dk_4 (dk_at dksX1_code_10 3 rfl rfl)
theorem dX1_code_235 : decode cX1_code 235 = .ok (.ireturn, 1) := dk_172 (dk_at dksX1_code_10 4 rfl rfl)
abbrev cX1_text : ByteArray := prog_1_method_77_code
def yX1_text : MethodName := ⟨RX1, "text", "([B)Ljava/lang/String;"⟩
def dkwX1_text_2 : List UInt8 := [182, 1, 149, 176]
abbrev dktX1_text_2 : List UInt8 := dkwX1_text_2 ++ []
def dkwX1_text_1 : List UInt8 := [21, 4, 51, 54, 5, 43, 16, 97, 21, 5, 96, 146, 182, 1, 145, 87, 132, 4, 1, 167, 255, 230, 43]
abbrev dktX1_text_1 : List UInt8 := dkwX1_text_1 ++ dktX1_text_2
def dkwX1_text_0 : List UInt8 := [187, 1, 142, 89, 183, 1, 144, 76, 42, 77, 44, 190, 62, 3, 54, 4, 21, 4, 29, 162, 0, 26, 44]
abbrev dktX1_text_0 : List UInt8 := dkwX1_text_0 ++ dktX1_text_1
theorem dksX1_text_0 : cX1_text.data.toList.drop 0 = dktX1_text_0 := by decide +kernel
theorem dksX1_text_1 : cX1_text.data.toList.drop 23 = dktX1_text_1 := dk_seg dksX1_text_0 23 rfl rfl
theorem dksX1_text_2 : cX1_text.data.toList.drop 46 = dktX1_text_2 := dk_seg dksX1_text_1 23 rfl rfl
theorem dX1_text_0 : decode cX1_text 0 = .ok (.new 398, 3) := dk_187 1 142 (dk_at dksX1_text_0 0 rfl rfl)
theorem dX1_text_3 : decode cX1_text 3 = .ok (.dup, 1) := dk_89 (dk_at dksX1_text_0 3 rfl rfl)
theorem dX1_text_4 : decode cX1_text 4 = .ok (.invokespecial 400, 3) := dk_183 1 144 (dk_at dksX1_text_0 4 rfl rfl)
theorem dX1_text_7 : decode cX1_text 7 = .ok (.astore_n 1, 1) := dk_76 (dk_at dksX1_text_0 7 rfl rfl)
theorem dX1_text_8 : decode cX1_text 8 = .ok (.aload_n 0, 1) := dk_42 (dk_at dksX1_text_0 8 rfl rfl)
theorem dX1_text_9 : decode cX1_text 9 = .ok (.astore_n 2, 1) := dk_77 (dk_at dksX1_text_0 9 rfl rfl)
theorem dX1_text_10 : decode cX1_text 10 = .ok (.aload_n 2, 1) := dk_44 (dk_at dksX1_text_0 10 rfl rfl)
theorem dX1_text_11 : decode cX1_text 11 = .ok (.arraylength, 1) := dk_190 (dk_at dksX1_text_0 11 rfl rfl)
theorem dX1_text_12 : decode cX1_text 12 = .ok (.istore_n 3, 1) := dk_62 (dk_at dksX1_text_0 12 rfl rfl)
theorem dX1_text_13 : decode cX1_text 13 = .ok (.iconst 0, 1) := dk_3 (dk_at dksX1_text_0 13 rfl rfl)
theorem dX1_text_14 : decode cX1_text 14 = .ok (.istore 4, 2) := dk_54 4 (dk_at dksX1_text_0 14 rfl rfl)
theorem dX1_text_16 : decode cX1_text 16 = .ok (.iload 4, 2) := dk_21 4 (dk_at dksX1_text_0 16 rfl rfl)
theorem dX1_text_18 : decode cX1_text 18 = .ok (.iload_n 3, 1) := dk_29 (dk_at dksX1_text_0 18 rfl rfl)
theorem dX1_text_19 : decode cX1_text 19 = .ok (.if_icmp .ge 26, 3) := dk_162 0 26 (dk_at dksX1_text_0 19 rfl rfl)
theorem dX1_text_22 : decode cX1_text 22 = .ok (.aload_n 2, 1) := dk_44 (dk_at dksX1_text_0 22 rfl rfl)
theorem dX1_text_23 : decode cX1_text 23 = .ok (.iload 4, 2) := dk_21 4 (dk_at dksX1_text_1 0 rfl rfl)
theorem dX1_text_25 : decode cX1_text 25 = .ok (.baload, 1) := dk_51 (dk_at dksX1_text_1 2 rfl rfl)
theorem dX1_text_26 : decode cX1_text 26 = .ok (.istore 5, 2) := dk_54 5 (dk_at dksX1_text_1 3 rfl rfl)
theorem dX1_text_28 : decode cX1_text 28 = .ok (.aload_n 1, 1) := dk_43 (dk_at dksX1_text_1 5 rfl rfl)
theorem dX1_text_29 : decode cX1_text 29 = .ok (.bipush 97, 2) := dk_16 97 (dk_at dksX1_text_1 6 rfl rfl)
theorem dX1_text_31 : decode cX1_text 31 = .ok (.iload 5, 2) := dk_21 5 (dk_at dksX1_text_1 8 rfl rfl)
theorem dX1_text_33 : decode cX1_text 33 = .ok (.iadd, 1) := dk_96 (dk_at dksX1_text_1 10 rfl rfl)
theorem dX1_text_34 : decode cX1_text 34 = .ok (.i2c, 1) := dk_146 (dk_at dksX1_text_1 11 rfl rfl)
theorem dX1_text_35 : decode cX1_text 35 = .ok (.invokevirtual 401, 3) := dk_182 1 145 (dk_at dksX1_text_1 12 rfl rfl)
theorem dX1_text_38 : decode cX1_text 38 = .ok (.pop, 1) := dk_87 (dk_at dksX1_text_1 15 rfl rfl)
theorem dX1_text_39 : decode cX1_text 39 = .ok (.iinc 4 1, 3) := dk_132 4 1 (dk_at dksX1_text_1 16 rfl rfl)
theorem dX1_text_42 : decode cX1_text 42 = .ok (.goto (-26), 3) := dk_167 255 230 (dk_at dksX1_text_1 19 rfl rfl)
theorem dX1_text_45 : decode cX1_text 45 = .ok (.aload_n 1, 1) := dk_43 (dk_at dksX1_text_1 22 rfl rfl)
theorem dX1_text_46 : decode cX1_text 46 = .ok (.invokevirtual 405, 3) := dk_182 1 149 (dk_at dksX1_text_2 0 rfl rfl)
theorem dX1_text_49 : decode cX1_text 49 = .ok (.areturn, 1) := dk_176 (dk_at dksX1_text_2 3 rfl rfl)
abbrev cX1_rest : ByteArray := prog_1_method_79_code
def yX1_rest : MethodName := ⟨RX1, "rest", "(Ljava/lang/String;Ljava/lang/String;)Ljava/lang/String;"⟩
def dkwX1_rest_0 : List UInt8 := [42, 43, 184, 1, 162, 153, 0, 14, 42, 43, 182, 1, 153, 182, 1, 166, 167, 0, 4, 1, 176]
abbrev dktX1_rest_0 : List UInt8 := dkwX1_rest_0 ++ []
theorem dksX1_rest_0 : cX1_rest.data.toList.drop 0 = dktX1_rest_0 := by decide +kernel
theorem dX1_rest_0 : decode cX1_rest 0 = .ok (.aload_n 0, 1) := dk_42 (dk_at dksX1_rest_0 0 rfl rfl)
theorem dX1_rest_1 : decode cX1_rest 1 = .ok (.aload_n 1, 1) := dk_43 (dk_at dksX1_rest_0 1 rfl rfl)
theorem dX1_rest_2 : decode cX1_rest 2 = .ok (.invokestatic 418, 3) := dk_184 1 162 (dk_at dksX1_rest_0 2 rfl rfl)
theorem dX1_rest_5 : decode cX1_rest 5 = .ok (.ifCond .eq 14, 3) := dk_153 0 14 (dk_at dksX1_rest_0 5 rfl rfl)
theorem dX1_rest_8 : decode cX1_rest 8 = .ok (.aload_n 0, 1) := dk_42 (dk_at dksX1_rest_0 8 rfl rfl)
theorem dX1_rest_9 : decode cX1_rest 9 = .ok (.aload_n 1, 1) := dk_43 (dk_at dksX1_rest_0 9 rfl rfl)
theorem dX1_rest_10 : decode cX1_rest 10 = .ok (.invokevirtual 409, 3) := dk_182 1 153 (dk_at dksX1_rest_0 10 rfl rfl)
theorem dX1_rest_13 : decode cX1_rest 13 = .ok (.invokevirtual 422, 3) := dk_182 1 166 (dk_at dksX1_rest_0 13 rfl rfl)
theorem dX1_rest_16 : decode cX1_rest 16 = .ok (.goto 4, 3) := dk_167 0 4 (dk_at dksX1_rest_0 16 rfl rfl)
theorem dX1_rest_19 : decode cX1_rest 19 = .ok (.aconst_null, 1) := dk_1 (dk_at dksX1_rest_0 19 rfl rfl)
theorem dX1_rest_20 : decode cX1_rest 20 = .ok (.areturn, 1) := dk_176 (dk_at dksX1_rest_0 20 rfl rfl)
abbrev cX1_begins : ByteArray := prog_1_method_78_code
def yX1_begins : MethodName := ⟨RX1, "begins", "(Ljava/lang/String;Ljava/lang/String;)Z"⟩
def dkwX1_begins_2 : List UInt8 := [3, 61, 132, 3, 1, 167, 255, 222, 28, 172]
abbrev dktX1_begins_2 : List UInt8 := dkwX1_begins_2 ++ []
def dkwX1_begins_1 : List UInt8 := [162, 0, 32, 28, 153, 0, 28, 42, 29, 182, 1, 158, 43, 29, 182, 1, 158, 160, 0, 7, 4, 167, 0, 4]
abbrev dktX1_begins_1 : List UInt8 := dkwX1_begins_1 ++ dktX1_begins_2
def dkwX1_begins_0 : List UInt8 := [43, 182, 1, 153, 42, 182, 1, 153, 163, 0, 7, 4, 167, 0, 4, 3, 61, 3, 62, 29, 43, 182, 1, 153]
abbrev dktX1_begins_0 : List UInt8 := dkwX1_begins_0 ++ dktX1_begins_1
theorem dksX1_begins_0 : cX1_begins.data.toList.drop 0 = dktX1_begins_0 := by decide +kernel
theorem dksX1_begins_1 : cX1_begins.data.toList.drop 24 = dktX1_begins_1 := dk_seg dksX1_begins_0 24 rfl rfl
theorem dksX1_begins_2 : cX1_begins.data.toList.drop 48 = dktX1_begins_2 := dk_seg dksX1_begins_1 24 rfl rfl
theorem dX1_begins_0 : decode cX1_begins 0 = .ok (.aload_n 1, 1) := dk_43 (dk_at dksX1_begins_0 0 rfl rfl)
theorem dX1_begins_1 : decode cX1_begins 1 = .ok (.invokevirtual 409, 3) := dk_182 1 153 (dk_at dksX1_begins_0 1 rfl rfl)
theorem dX1_begins_4 : decode cX1_begins 4 = .ok (.aload_n 0, 1) := dk_42 (dk_at dksX1_begins_0 4 rfl rfl)
theorem dX1_begins_5 : decode cX1_begins 5 = .ok (.invokevirtual 409, 3) := dk_182 1 153 (dk_at dksX1_begins_0 5 rfl rfl)
theorem dX1_begins_8 : decode cX1_begins 8 = .ok (.if_icmp .gt 7, 3) := dk_163 0 7 (dk_at dksX1_begins_0 8 rfl rfl)
theorem dX1_begins_11 : decode cX1_begins 11 = .ok (.iconst 1, 1) := dk_4 (dk_at dksX1_begins_0 11 rfl rfl)
theorem dX1_begins_12 : decode cX1_begins 12 = .ok (.goto 4, 3) := dk_167 0 4 (dk_at dksX1_begins_0 12 rfl rfl)
theorem dX1_begins_15 : decode cX1_begins 15 = .ok (.iconst 0, 1) := dk_3 (dk_at dksX1_begins_0 15 rfl rfl)
theorem dX1_begins_16 : decode cX1_begins 16 = .ok (.istore_n 2, 1) := dk_61 (dk_at dksX1_begins_0 16 rfl rfl)
theorem dX1_begins_17 : decode cX1_begins 17 = .ok (.iconst 0, 1) := dk_3 (dk_at dksX1_begins_0 17 rfl rfl)
theorem dX1_begins_18 : decode cX1_begins 18 = .ok (.istore_n 3, 1) := dk_62 (dk_at dksX1_begins_0 18 rfl rfl)
theorem dX1_begins_19 : decode cX1_begins 19 = .ok (.iload_n 3, 1) := dk_29 (dk_at dksX1_begins_0 19 rfl rfl)
theorem dX1_begins_20 : decode cX1_begins 20 = .ok (.aload_n 1, 1) := dk_43 (dk_at dksX1_begins_0 20 rfl rfl)
theorem dX1_begins_21 : decode cX1_begins 21 = .ok (.invokevirtual 409, 3) := dk_182 1 153 (dk_at dksX1_begins_0 21 rfl rfl)
theorem dX1_begins_24 : decode cX1_begins 24 = .ok (.if_icmp .ge 32, 3) := dk_162 0 32 (dk_at dksX1_begins_1 0 rfl rfl)
theorem dX1_begins_27 : decode cX1_begins 27 = .ok (.iload_n 2, 1) := dk_28 (dk_at dksX1_begins_1 3 rfl rfl)
theorem dX1_begins_28 : decode cX1_begins 28 = .ok (.ifCond .eq 28, 3) := dk_153 0 28 (dk_at dksX1_begins_1 4 rfl rfl)
theorem dX1_begins_31 : decode cX1_begins 31 = .ok (.aload_n 0, 1) := dk_42 (dk_at dksX1_begins_1 7 rfl rfl)
theorem dX1_begins_32 : decode cX1_begins 32 = .ok (.iload_n 3, 1) := dk_29 (dk_at dksX1_begins_1 8 rfl rfl)
theorem dX1_begins_33 : decode cX1_begins 33 = .ok (.invokevirtual 414, 3) := dk_182 1 158 (dk_at dksX1_begins_1 9 rfl rfl)
theorem dX1_begins_36 : decode cX1_begins 36 = .ok (.aload_n 1, 1) := dk_43 (dk_at dksX1_begins_1 12 rfl rfl)
theorem dX1_begins_37 : decode cX1_begins 37 = .ok (.iload_n 3, 1) := dk_29 (dk_at dksX1_begins_1 13 rfl rfl)
theorem dX1_begins_38 : decode cX1_begins 38 = .ok (.invokevirtual 414, 3) := dk_182 1 158 (dk_at dksX1_begins_1 14 rfl rfl)
theorem dX1_begins_41 : decode cX1_begins 41 = .ok (.if_icmp .ne 7, 3) := dk_160 0 7 (dk_at dksX1_begins_1 17 rfl rfl)
theorem dX1_begins_44 : decode cX1_begins 44 = .ok (.iconst 1, 1) := dk_4 (dk_at dksX1_begins_1 20 rfl rfl)
theorem dX1_begins_45 : decode cX1_begins 45 = .ok (.goto 4, 3) := dk_167 0 4 (dk_at dksX1_begins_1 21 rfl rfl)
theorem dX1_begins_48 : decode cX1_begins 48 = .ok (.iconst 0, 1) := dk_3 (dk_at dksX1_begins_2 0 rfl rfl)
theorem dX1_begins_49 : decode cX1_begins 49 = .ok (.istore_n 2, 1) := dk_61 (dk_at dksX1_begins_2 1 rfl rfl)
theorem dX1_begins_50 : decode cX1_begins 50 = .ok (.iinc 3 1, 3) := dk_132 3 1 (dk_at dksX1_begins_2 2 rfl rfl)
theorem dX1_begins_53 : decode cX1_begins 53 = .ok (.goto (-34), 3) := dk_167 255 222 (dk_at dksX1_begins_2 5 rfl rfl)
theorem dX1_begins_56 : decode cX1_begins 56 = .ok (.iload_n 2, 1) := dk_28 (dk_at dksX1_begins_2 8 rfl rfl)
theorem dX1_begins_57 : decode cX1_begins 57 = .ok (.ireturn, 1) := dk_172 (dk_at dksX1_begins_2 9 rfl rfl)
abbrev cX1_adds : ByteArray := prog_1_method_81_code
def yX1_adds : MethodName := ⟨RX1, "adds", "(Ljava/util/LinkedList;Ljava/lang/String;)V"⟩
def dkwX1_adds_0 : List UInt8 := [43, 198, 0, 17, 42, 43, 182, 1, 183, 154, 0, 9, 42, 43, 182, 0, 238, 87, 177]
abbrev dktX1_adds_0 : List UInt8 := dkwX1_adds_0 ++ []
theorem dksX1_adds_0 : cX1_adds.data.toList.drop 0 = dktX1_adds_0 := by decide +kernel
theorem dX1_adds_0 : decode cX1_adds 0 = .ok (.aload_n 1, 1) := dk_43 (dk_at dksX1_adds_0 0 rfl rfl)
theorem dX1_adds_1 : decode cX1_adds 1 = .ok (.ifnull 17, 3) := dk_198 0 17 (dk_at dksX1_adds_0 1 rfl rfl)
theorem dX1_adds_4 : decode cX1_adds 4 = .ok (.aload_n 0, 1) := dk_42 (dk_at dksX1_adds_0 4 rfl rfl)
theorem dX1_adds_5 : decode cX1_adds 5 = .ok (.aload_n 1, 1) := dk_43 (dk_at dksX1_adds_0 5 rfl rfl)
theorem dX1_adds_6 : decode cX1_adds 6 = .ok (.invokevirtual 439, 3) := dk_182 1 183 (dk_at dksX1_adds_0 6 rfl rfl)
theorem dX1_adds_9 : decode cX1_adds 9 = .ok (.ifCond .ne 9, 3) := dk_154 0 9 (dk_at dksX1_adds_0 9 rfl rfl)
theorem dX1_adds_12 : decode cX1_adds 12 = .ok (.aload_n 0, 1) := dk_42 (dk_at dksX1_adds_0 12 rfl rfl)
theorem dX1_adds_13 : decode cX1_adds 13 = .ok (.aload_n 1, 1) := dk_43 (dk_at dksX1_adds_0 13 rfl rfl)
theorem dX1_adds_14 : decode cX1_adds 14 = .ok (.invokevirtual 238, 3) := dk_182 0 238 (dk_at dksX1_adds_0 14 rfl rfl)
theorem dX1_adds_17 : decode cX1_adds 17 = .ok (.pop, 1) := dk_87 (dk_at dksX1_adds_0 17 rfl rfl)
theorem dX1_adds_18 : decode cX1_adds 18 = .ok (.return_, 1) := dk_177 (dk_at dksX1_adds_0 18 rfl rfl)
abbrev cX1_whole : ByteArray := prog_1_method_88_code
def yX1_whole : MethodName := ⟨RX1, "whole", "(III)I"⟩
def dkwX1_whole_5 : List UInt8 := [21, 5, 167, 0, 4, 2, 172]
abbrev dktX1_whole_5 : List UInt8 := dkwX1_whole_5 ++ []
def dkwX1_whole_4 : List UInt8 := [28, 160, 0, 8, 25, 7, 29, 46, 172, 132, 5, 1, 132, 8, 1, 167, 255, 182, 28, 2, 160, 0, 8]
abbrev dktX1_whole_4 : List UInt8 := dkwX1_whole_4 ++ dktX1_whole_5
def dkwX1_whole_3 : List UInt8 := [21, 8, 16, 65, 112, 79, 42, 25, 4, 21, 6, 25, 7, 182, 1, 231, 154, 0, 6, 167, 0, 17, 21, 5]
abbrev dktX1_whole_3 : List UInt8 := dkwX1_whole_3 ++ dktX1_whole_4
def dkwX1_whole_2 : List UInt8 := [21, 8, 16, 65, 108, 16, 65, 108, 79, 25, 7, 4, 21, 8, 16, 65, 108, 16, 65, 112, 79, 25, 7, 5]
abbrev dktX1_whole_2 : List UInt8 := dkwX1_whole_2 ++ dktX1_whole_3
def dkwX1_whole_1 : List UInt8 := [182, 1, 205, 54, 6, 6, 188, 10, 58, 7, 3, 54, 8, 21, 8, 19, 1, 230, 162, 0, 72, 25, 7, 3]
abbrev dktX1_whole_1 : List UInt8 := dkwX1_whole_1 ++ dktX1_whole_2
def dkwX1_whole_0 : List UInt8 := [42, 27, 182, 1, 73, 58, 4, 29, 133, 9, 20, 0, 203, 184, 0, 128, 184, 0, 205, 3, 54, 5, 25, 4]
abbrev dktX1_whole_0 : List UInt8 := dkwX1_whole_0 ++ dktX1_whole_1
theorem dksX1_whole_0 : cX1_whole.data.toList.drop 0 = dktX1_whole_0 := by decide +kernel
theorem dksX1_whole_1 : cX1_whole.data.toList.drop 24 = dktX1_whole_1 := dk_seg dksX1_whole_0 24 rfl rfl
theorem dksX1_whole_2 : cX1_whole.data.toList.drop 48 = dktX1_whole_2 := dk_seg dksX1_whole_1 24 rfl rfl
theorem dksX1_whole_3 : cX1_whole.data.toList.drop 72 = dktX1_whole_3 := dk_seg dksX1_whole_2 24 rfl rfl
theorem dksX1_whole_4 : cX1_whole.data.toList.drop 96 = dktX1_whole_4 := dk_seg dksX1_whole_3 24 rfl rfl
theorem dksX1_whole_5 : cX1_whole.data.toList.drop 119 = dktX1_whole_5 := dk_seg dksX1_whole_4 23 rfl rfl
theorem dX1_whole_0 : decode cX1_whole 0 = .ok (.aload_n 0, 1) := dk_42 (dk_at dksX1_whole_0 0 rfl rfl)
theorem dX1_whole_1 : decode cX1_whole 1 = .ok (.iload_n 1, 1) := dk_27 (dk_at dksX1_whole_0 1 rfl rfl)
theorem dX1_whole_2 : decode cX1_whole 2 = .ok (.invokevirtual 329, 3) := dk_182 1 73 (dk_at dksX1_whole_0 2 rfl rfl)
theorem dX1_whole_5 : decode cX1_whole 5 = .ok (.astore 4, 2) := dk_58 4 (dk_at dksX1_whole_0 5 rfl rfl)
theorem dX1_whole_7 : decode cX1_whole 7 = .ok (.iload_n 3, 1) := dk_29 (dk_at dksX1_whole_0 7 rfl rfl)
theorem dX1_whole_8 : decode cX1_whole 8 = .ok (.i2l, 1) := dk_133 (dk_at dksX1_whole_0 8 rfl rfl)
theorem dX1_whole_9 : decode cX1_whole 9 = .ok (.lconst 0, 1) := dk_9 (dk_at dksX1_whole_0 9 rfl rfl)
theorem dX1_whole_10 : decode cX1_whole 10 = .ok (.ldc2_w 203, 3) := dk_20 0 203 (dk_at dksX1_whole_0 10 rfl rfl)
theorem dX1_whole_13 : decode cX1_whole 13 = .ok (.invokestatic 128, 3) := dk_184 0 128 (dk_at dksX1_whole_0 13 rfl rfl)
theorem dX1_whole_16 : decode cX1_whole 16 = .ok (.invokestatic 205, 3) := dk_184 0 205 (dk_at dksX1_whole_0 16 rfl rfl)
theorem dX1_whole_19 : decode cX1_whole 19 = .ok (.iconst 0, 1) := dk_3 (dk_at dksX1_whole_0 19 rfl rfl)
theorem dX1_whole_20 : decode cX1_whole 20 = .ok (.istore 5, 2) := dk_54 5 (dk_at dksX1_whole_0 20 rfl rfl)
theorem dX1_whole_22 : decode cX1_whole 22 = .ok (.aload 4, 2) := dk_25 4 (dk_at dksX1_whole_0 22 rfl rfl)
theorem dX1_whole_24 : decode cX1_whole 24 = .ok (.invokevirtual 461, 3) := dk_182 1 205 (dk_at dksX1_whole_1 0 rfl rfl)
theorem dX1_whole_27 : decode cX1_whole 27 = .ok (.istore 6, 2) := dk_54 6 (dk_at dksX1_whole_1 3 rfl rfl)
theorem dX1_whole_29 : decode cX1_whole 29 = .ok (.iconst 3, 1) := dk_6 (dk_at dksX1_whole_1 5 rfl rfl)
theorem dX1_whole_30 : decode cX1_whole 30 = .ok (.newarray .int, 2) := dk_188_10 (dk_at dksX1_whole_1 6 rfl rfl)
theorem dX1_whole_32 : decode cX1_whole 32 = .ok (.astore 7, 2) := dk_58 7 (dk_at dksX1_whole_1 8 rfl rfl)
theorem dX1_whole_34 : decode cX1_whole 34 = .ok (.iconst 0, 1) := dk_3 (dk_at dksX1_whole_1 10 rfl rfl)
theorem dX1_whole_35 : decode cX1_whole 35 = .ok (.istore 8, 2) := dk_54 8 (dk_at dksX1_whole_1 11 rfl rfl)
theorem dX1_whole_37 : decode cX1_whole 37 = .ok (.iload 8, 2) := dk_21 8 (dk_at dksX1_whole_1 13 rfl rfl)
theorem dX1_whole_39 : decode cX1_whole 39 = .ok (.ldc_w 486, 3) := dk_19 1 230 (dk_at dksX1_whole_1 15 rfl rfl)
theorem dX1_whole_42 : decode cX1_whole 42 = .ok (.if_icmp .ge 72, 3) := dk_162 0 72 (dk_at dksX1_whole_1 18 rfl rfl)
theorem dX1_whole_45 : decode cX1_whole 45 = .ok (.aload 7, 2) := dk_25 7 (dk_at dksX1_whole_1 21 rfl rfl)
theorem dX1_whole_47 : decode cX1_whole 47 = .ok (.iconst 0, 1) := dk_3 (dk_at dksX1_whole_1 23 rfl rfl)
theorem dX1_whole_48 : decode cX1_whole 48 = .ok (.iload 8, 2) := dk_21 8 (dk_at dksX1_whole_2 0 rfl rfl)
theorem dX1_whole_50 : decode cX1_whole 50 = .ok (.bipush 65, 2) := dk_16 65 (dk_at dksX1_whole_2 2 rfl rfl)
theorem dX1_whole_52 : decode cX1_whole 52 = .ok (.idiv, 1) := dk_108 (dk_at dksX1_whole_2 4 rfl rfl)
theorem dX1_whole_53 : decode cX1_whole 53 = .ok (.bipush 65, 2) := dk_16 65 (dk_at dksX1_whole_2 5 rfl rfl)
theorem dX1_whole_55 : decode cX1_whole 55 = .ok (.idiv, 1) := dk_108 (dk_at dksX1_whole_2 7 rfl rfl)
theorem dX1_whole_56 : decode cX1_whole 56 = .ok (.iastore, 1) := dk_79 (dk_at dksX1_whole_2 8 rfl rfl)
theorem dX1_whole_57 : decode cX1_whole 57 = .ok (.aload 7, 2) := dk_25 7 (dk_at dksX1_whole_2 9 rfl rfl)
theorem dX1_whole_59 : decode cX1_whole 59 = .ok (.iconst 1, 1) := dk_4 (dk_at dksX1_whole_2 11 rfl rfl)
theorem dX1_whole_60 : decode cX1_whole 60 = .ok (.iload 8, 2) := dk_21 8 (dk_at dksX1_whole_2 12 rfl rfl)
theorem dX1_whole_62 : decode cX1_whole 62 = .ok (.bipush 65, 2) := dk_16 65 (dk_at dksX1_whole_2 14 rfl rfl)
theorem dX1_whole_64 : decode cX1_whole 64 = .ok (.idiv, 1) := dk_108 (dk_at dksX1_whole_2 16 rfl rfl)
theorem dX1_whole_65 : decode cX1_whole 65 = .ok (.bipush 65, 2) := dk_16 65 (dk_at dksX1_whole_2 17 rfl rfl)
theorem dX1_whole_67 : decode cX1_whole 67 = .ok (.irem, 1) := dk_112 (dk_at dksX1_whole_2 19 rfl rfl)
theorem dX1_whole_68 : decode cX1_whole 68 = .ok (.iastore, 1) := dk_79 (dk_at dksX1_whole_2 20 rfl rfl)
theorem dX1_whole_69 : decode cX1_whole 69 = .ok (.aload 7, 2) := dk_25 7 (dk_at dksX1_whole_2 21 rfl rfl)
theorem dX1_whole_71 : decode cX1_whole 71 = .ok (.iconst 2, 1) := dk_5 (dk_at dksX1_whole_2 23 rfl rfl)
theorem dX1_whole_72 : decode cX1_whole 72 = .ok (.iload 8, 2) := dk_21 8 (dk_at dksX1_whole_3 0 rfl rfl)
theorem dX1_whole_74 : decode cX1_whole 74 = .ok (.bipush 65, 2) := dk_16 65 (dk_at dksX1_whole_3 2 rfl rfl)
theorem dX1_whole_76 : decode cX1_whole 76 = .ok (.irem, 1) := dk_112 (dk_at dksX1_whole_3 4 rfl rfl)
theorem dX1_whole_77 : decode cX1_whole 77 = .ok (.iastore, 1) := dk_79 (dk_at dksX1_whole_3 5 rfl rfl)
theorem dX1_whole_78 : decode cX1_whole 78 = .ok (.aload_n 0, 1) := dk_42 (dk_at dksX1_whole_3 6 rfl rfl)
theorem dX1_whole_79 : decode cX1_whole 79 = .ok (.aload 4, 2) := dk_25 4 (dk_at dksX1_whole_3 7 rfl rfl)
theorem dX1_whole_81 : decode cX1_whole 81 = .ok (.iload 6, 2) := dk_21 6 (dk_at dksX1_whole_3 9 rfl rfl)
theorem dX1_whole_83 : decode cX1_whole 83 = .ok (.aload 7, 2) := dk_25 7 (dk_at dksX1_whole_3 11 rfl rfl)
theorem dX1_whole_85 : decode cX1_whole 85 = .ok (.invokevirtual 487, 3) := dk_182 1 231 (dk_at dksX1_whole_3 13 rfl rfl)
theorem dX1_whole_88 : decode cX1_whole 88 = .ok (.ifCond .ne 6, 3) := dk_154 0 6 (dk_at dksX1_whole_3 16 rfl rfl)
theorem dX1_whole_91 : decode cX1_whole 91 = .ok (.goto 17, 3) := dk_167 0 17 (dk_at dksX1_whole_3 19 rfl rfl)
theorem dX1_whole_94 : decode cX1_whole 94 = .ok (.iload 5, 2) := dk_21 5 (dk_at dksX1_whole_3 22 rfl rfl)
theorem dX1_whole_96 : decode cX1_whole 96 = .ok (.iload_n 2, 1) := dk_28 (dk_at dksX1_whole_4 0 rfl rfl)
theorem dX1_whole_97 : decode cX1_whole 97 = .ok (.if_icmp .ne 8, 3) := dk_160 0 8 (dk_at dksX1_whole_4 1 rfl rfl)
theorem dX1_whole_100 : decode cX1_whole 100 = .ok (.aload 7, 2) := dk_25 7 (dk_at dksX1_whole_4 4 rfl rfl)
theorem dX1_whole_102 : decode cX1_whole 102 = .ok (.iload_n 3, 1) := dk_29 (dk_at dksX1_whole_4 6 rfl rfl)
theorem dX1_whole_103 : decode cX1_whole 103 = .ok (.iaload, 1) := dk_46 (dk_at dksX1_whole_4 7 rfl rfl)
theorem dX1_whole_104 : decode cX1_whole 104 = .ok (.ireturn, 1) := dk_172 (dk_at dksX1_whole_4 8 rfl rfl)
theorem dX1_whole_105 : decode cX1_whole 105 = .ok (.iinc 5 1, 3) := dk_132 5 1 (dk_at dksX1_whole_4 9 rfl rfl)
theorem dX1_whole_108 : decode cX1_whole 108 = .ok (.iinc 8 1, 3) := dk_132 8 1 (dk_at dksX1_whole_4 12 rfl rfl)
theorem dX1_whole_111 : decode cX1_whole 111 = .ok (.goto (-74), 3) := dk_167 255 182 (dk_at dksX1_whole_4 15 rfl rfl)
theorem dX1_whole_114 : decode cX1_whole 114 = .ok (.iload_n 2, 1) := dk_28 (dk_at dksX1_whole_4 18 rfl rfl)
theorem dX1_whole_115 : decode cX1_whole 115 = .ok (.iconst (-1), 1) := dk_2 (dk_at dksX1_whole_4 19 rfl rfl)
theorem dX1_whole_116 : decode cX1_whole 116 = .ok (.if_icmp .ne 8, 3) := dk_160 0 8 (dk_at dksX1_whole_4 20 rfl rfl)
theorem dX1_whole_119 : decode cX1_whole 119 = .ok (.iload 5, 2) := dk_21 5 (dk_at dksX1_whole_5 0 rfl rfl)
theorem dX1_whole_121 : decode cX1_whole 121 = .ok (.goto 4, 3) := dk_167 0 4 (dk_at dksX1_whole_5 2 rfl rfl)
theorem dX1_whole_124 : decode cX1_whole 124 = .ok (.iconst (-1), 1) := dk_2 (dk_at dksX1_whole_5 5 rfl rfl)
theorem dX1_whole_125 : decode cX1_whole 125 = .ok (.ireturn, 1) := dk_172 (dk_at dksX1_whole_5 6 rfl rfl)
abbrev cX1_isAll : ByteArray := prog_1_method_89_code
def yX1_isAll : MethodName := ⟨RX1, "isAll", "(LRepeatFree$Pattern;I[I)Z"⟩
def dkwX1_isAll_4 : List UInt8 := [180, 0, 45, 3, 45, 182, 1, 239, 153, 0, 7, 4, 167, 0, 4, 3, 172]
abbrev dktX1_isAll_4 : List UInt8 := dkwX1_isAll_4 ++ []
def dkwX1_isAll_3 : List UInt8 := [46, 96, 54, 4, 132, 5, 1, 167, 255, 222, 21, 4, 42, 180, 0, 45, 180, 0, 132, 160, 0, 20, 43, 42]
abbrev dktX1_isAll_3 : List UInt8 := dkwX1_isAll_3 ++ dktX1_isAll_4
def dkwX1_isAll_2 : List UInt8 := [180, 1, 235, 182, 1, 153, 162, 0, 28, 21, 4, 45, 43, 180, 1, 235, 21, 5, 182, 1, 158, 16, 120, 100]
abbrev dktX1_isAll_2 : List UInt8 := dkwX1_isAll_2 ++ dktX1_isAll_3
def dkwX1_isAll_1 : List UInt8 := [28, 21, 5, 184, 1, 135, 159, 0, 5, 3, 172, 132, 5, 1, 167, 255, 224, 3, 54, 5, 21, 5, 43]
abbrev dktX1_isAll_1 : List UInt8 := dkwX1_isAll_1 ++ dktX1_isAll_2
def dkwX1_isAll_0 : List UInt8 := [3, 54, 4, 3, 54, 5, 21, 5, 6, 162, 0, 32, 45, 21, 5, 46, 158, 0, 7, 4, 167, 0, 4, 3]
abbrev dktX1_isAll_0 : List UInt8 := dkwX1_isAll_0 ++ dktX1_isAll_1
theorem dksX1_isAll_0 : cX1_isAll.data.toList.drop 0 = dktX1_isAll_0 := by decide +kernel
theorem dksX1_isAll_1 : cX1_isAll.data.toList.drop 24 = dktX1_isAll_1 := dk_seg dksX1_isAll_0 24 rfl rfl
theorem dksX1_isAll_2 : cX1_isAll.data.toList.drop 47 = dktX1_isAll_2 := dk_seg dksX1_isAll_1 23 rfl rfl
theorem dksX1_isAll_3 : cX1_isAll.data.toList.drop 71 = dktX1_isAll_3 := dk_seg dksX1_isAll_2 24 rfl rfl
theorem dksX1_isAll_4 : cX1_isAll.data.toList.drop 95 = dktX1_isAll_4 := dk_seg dksX1_isAll_3 24 rfl rfl
theorem dX1_isAll_0 : decode cX1_isAll 0 = .ok (.iconst 0, 1) := dk_3 (dk_at dksX1_isAll_0 0 rfl rfl)
theorem dX1_isAll_1 : decode cX1_isAll 1 = .ok (.istore 4, 2) := dk_54 4 (dk_at dksX1_isAll_0 1 rfl rfl)
theorem dX1_isAll_3 : decode cX1_isAll 3 = .ok (.iconst 0, 1) := dk_3 (dk_at dksX1_isAll_0 3 rfl rfl)
theorem dX1_isAll_4 : decode cX1_isAll 4 = .ok (.istore 5, 2) := dk_54 5 (dk_at dksX1_isAll_0 4 rfl rfl)
theorem dX1_isAll_6 : decode cX1_isAll 6 = .ok (.iload 5, 2) := dk_21 5 (dk_at dksX1_isAll_0 6 rfl rfl)
theorem dX1_isAll_8 : decode cX1_isAll 8 = .ok (.iconst 3, 1) := dk_6 (dk_at dksX1_isAll_0 8 rfl rfl)
theorem dX1_isAll_9 : decode cX1_isAll 9 = .ok (.if_icmp .ge 32, 3) := dk_162 0 32 (dk_at dksX1_isAll_0 9 rfl rfl)
theorem dX1_isAll_12 : decode cX1_isAll 12 = .ok (.aload_n 3, 1) := dk_45 (dk_at dksX1_isAll_0 12 rfl rfl)
theorem dX1_isAll_13 : decode cX1_isAll 13 = .ok (.iload 5, 2) := dk_21 5 (dk_at dksX1_isAll_0 13 rfl rfl)
theorem dX1_isAll_15 : decode cX1_isAll 15 = .ok (.iaload, 1) := dk_46 (dk_at dksX1_isAll_0 15 rfl rfl)
theorem dX1_isAll_16 : decode cX1_isAll 16 = .ok (.ifCond .le 7, 3) := dk_158 0 7 (dk_at dksX1_isAll_0 16 rfl rfl)
theorem dX1_isAll_19 : decode cX1_isAll 19 = .ok (.iconst 1, 1) := dk_4 (dk_at dksX1_isAll_0 19 rfl rfl)
theorem dX1_isAll_20 : decode cX1_isAll 20 = .ok (.goto 4, 3) := dk_167 0 4 (dk_at dksX1_isAll_0 20 rfl rfl)
theorem dX1_isAll_23 : decode cX1_isAll 23 = .ok (.iconst 0, 1) := dk_3 (dk_at dksX1_isAll_0 23 rfl rfl)
theorem dX1_isAll_24 : decode cX1_isAll 24 = .ok (.iload_n 2, 1) := dk_28 (dk_at dksX1_isAll_1 0 rfl rfl)
theorem dX1_isAll_25 : decode cX1_isAll 25 = .ok (.iload 5, 2) := dk_21 5 (dk_at dksX1_isAll_1 1 rfl rfl)
theorem dX1_isAll_27 : decode cX1_isAll 27 = .ok (.invokestatic 391, 3) := dk_184 1 135 (dk_at dksX1_isAll_1 3 rfl rfl)
theorem dX1_isAll_30 : decode cX1_isAll 30 = .ok (.if_icmp .eq 5, 3) := dk_159 0 5 (dk_at dksX1_isAll_1 6 rfl rfl)
theorem dX1_isAll_33 : decode cX1_isAll 33 = .ok (.iconst 0, 1) := dk_3 (dk_at dksX1_isAll_1 9 rfl rfl)
theorem dX1_isAll_34 : decode cX1_isAll 34 = .ok (.ireturn, 1) := dk_172 (dk_at dksX1_isAll_1 10 rfl rfl)
theorem dX1_isAll_35 : decode cX1_isAll 35 = .ok (.iinc 5 1, 3) := dk_132 5 1 (dk_at dksX1_isAll_1 11 rfl rfl)
theorem dX1_isAll_38 : decode cX1_isAll 38 = .ok (.goto (-32), 3) := dk_167 255 224 (dk_at dksX1_isAll_1 14 rfl rfl)
theorem dX1_isAll_41 : decode cX1_isAll 41 = .ok (.iconst 0, 1) := dk_3 (dk_at dksX1_isAll_1 17 rfl rfl)
theorem dX1_isAll_42 : decode cX1_isAll 42 = .ok (.istore 5, 2) := dk_54 5 (dk_at dksX1_isAll_1 18 rfl rfl)
theorem dX1_isAll_44 : decode cX1_isAll 44 = .ok (.iload 5, 2) := dk_21 5 (dk_at dksX1_isAll_1 20 rfl rfl)
theorem dX1_isAll_46 : decode cX1_isAll 46 = .ok (.aload_n 1, 1) := dk_43 (dk_at dksX1_isAll_1 22 rfl rfl)
theorem dX1_isAll_47 : decode cX1_isAll 47 = .ok (.getfield 491, 3) := dk_180 1 235 (dk_at dksX1_isAll_2 0 rfl rfl)
theorem dX1_isAll_50 : decode cX1_isAll 50 = .ok (.invokevirtual 409, 3) := dk_182 1 153 (dk_at dksX1_isAll_2 3 rfl rfl)
theorem dX1_isAll_53 : decode cX1_isAll 53 = .ok (.if_icmp .ge 28, 3) := dk_162 0 28 (dk_at dksX1_isAll_2 6 rfl rfl)
theorem dX1_isAll_56 : decode cX1_isAll 56 = .ok (.iload 4, 2) := dk_21 4 (dk_at dksX1_isAll_2 9 rfl rfl)
theorem dX1_isAll_58 : decode cX1_isAll 58 = .ok (.aload_n 3, 1) := dk_45 (dk_at dksX1_isAll_2 11 rfl rfl)
theorem dX1_isAll_59 : decode cX1_isAll 59 = .ok (.aload_n 1, 1) := dk_43 (dk_at dksX1_isAll_2 12 rfl rfl)
theorem dX1_isAll_60 : decode cX1_isAll 60 = .ok (.getfield 491, 3) := dk_180 1 235 (dk_at dksX1_isAll_2 13 rfl rfl)
theorem dX1_isAll_63 : decode cX1_isAll 63 = .ok (.iload 5, 2) := dk_21 5 (dk_at dksX1_isAll_2 16 rfl rfl)
theorem dX1_isAll_65 : decode cX1_isAll 65 = .ok (.invokevirtual 414, 3) := dk_182 1 158 (dk_at dksX1_isAll_2 18 rfl rfl)
theorem dX1_isAll_68 : decode cX1_isAll 68 = .ok (.bipush 120, 2) := dk_16 120 (dk_at dksX1_isAll_2 21 rfl rfl)
theorem dX1_isAll_70 : decode cX1_isAll 70 = .ok (.isub, 1) := dk_100 (dk_at dksX1_isAll_2 23 rfl rfl)
theorem dX1_isAll_71 : decode cX1_isAll 71 = .ok (.iaload, 1) := dk_46 (dk_at dksX1_isAll_3 0 rfl rfl)
theorem dX1_isAll_72 : decode cX1_isAll 72 = .ok (.iadd, 1) := dk_96 (dk_at dksX1_isAll_3 1 rfl rfl)
theorem dX1_isAll_73 : decode cX1_isAll 73 = .ok (.istore 4, 2) := dk_54 4 (dk_at dksX1_isAll_3 2 rfl rfl)
theorem dX1_isAll_75 : decode cX1_isAll 75 = .ok (.iinc 5 1, 3) := dk_132 5 1 (dk_at dksX1_isAll_3 4 rfl rfl)
theorem dX1_isAll_78 : decode cX1_isAll 78 = .ok (.goto (-34), 3) := dk_167 255 222 (dk_at dksX1_isAll_3 7 rfl rfl)
theorem dX1_isAll_81 : decode cX1_isAll 81 = .ok (.iload 4, 2) := dk_21 4 (dk_at dksX1_isAll_3 10 rfl rfl)
theorem dX1_isAll_83 : decode cX1_isAll 83 = .ok (.aload_n 0, 1) := dk_42 (dk_at dksX1_isAll_3 12 rfl rfl)
theorem dX1_isAll_84 : decode cX1_isAll 84 = .ok (.getfield 45, 3) := dk_180 0 45 (dk_at dksX1_isAll_3 13 rfl rfl)
theorem dX1_isAll_87 : decode cX1_isAll 87 = .ok (.getfield 132, 3) := dk_180 0 132 (dk_at dksX1_isAll_3 16 rfl rfl)
theorem dX1_isAll_90 : decode cX1_isAll 90 = .ok (.if_icmp .ne 20, 3) := dk_160 0 20 (dk_at dksX1_isAll_3 19 rfl rfl)
theorem dX1_isAll_93 : decode cX1_isAll 93 = .ok (.aload_n 1, 1) := dk_43 (dk_at dksX1_isAll_3 22 rfl rfl)
theorem dX1_isAll_94 : decode cX1_isAll 94 = .ok (.aload_n 0, 1) := dk_42 (dk_at dksX1_isAll_3 23 rfl rfl)
theorem dX1_isAll_95 : decode cX1_isAll 95 = .ok (.getfield 45, 3) := dk_180 0 45 (dk_at dksX1_isAll_4 0 rfl rfl)
theorem dX1_isAll_98 : decode cX1_isAll 98 = .ok (.iconst 0, 1) := dk_3 (dk_at dksX1_isAll_4 3 rfl rfl)
theorem dX1_isAll_99 : decode cX1_isAll 99 = .ok (.aload_n 3, 1) := dk_45 (dk_at dksX1_isAll_4 4 rfl rfl)
theorem dX1_isAll_100 : decode cX1_isAll 100 = .ok (.invokevirtual 495, 3) := dk_182 1 239 (dk_at dksX1_isAll_4 5 rfl rfl)
theorem dX1_isAll_103 : decode cX1_isAll 103 = .ok (.ifCond .eq 7, 3) := dk_153 0 7 (dk_at dksX1_isAll_4 8 rfl rfl)
theorem dX1_isAll_106 : decode cX1_isAll 106 = .ok (.iconst 1, 1) := dk_4 (dk_at dksX1_isAll_4 11 rfl rfl)
theorem dX1_isAll_107 : decode cX1_isAll 107 = .ok (.goto 4, 3) := dk_167 0 4 (dk_at dksX1_isAll_4 12 rfl rfl)
theorem dX1_isAll_110 : decode cX1_isAll 110 = .ok (.iconst 0, 1) := dk_3 (dk_at dksX1_isAll_4 15 rfl rfl)
theorem dX1_isAll_111 : decode cX1_isAll 111 = .ok (.ireturn, 1) := dk_172 (dk_at dksX1_isAll_4 16 rfl rfl)
theorem q116 : (Jvm.Cond.initialized "RepeatFree") ∈ lw_all := lw_g (lw_at lw_m1 1 rfl) rfl
theorem q169 : (Jvm.Cond.instantiable "RepeatFree" (9 : Nat)) ∈ lw_all := lw_g (lw_at lw_m1 54 rfl) rfl
theorem q171 : (Jvm.Cond.instanceMethod ({ cls := "RepeatFree", name := "<init>", desc := "()V" } : Jvm.MethodName)) ∈ lw_all := lw_g (lw_at lw_m1 56 rfl) rfl
theorem q172 : (Jvm.Cond.code ({ cls := "RepeatFree", name := "<init>", desc := "()V" } : Jvm.MethodName) prog_1_method_7_code (1 : Nat) (Option.none : Option Jvm.ClassFile.FieldType)) ∈ lw_all := lw_g (lw_at lw_m1 57 rfl) rfl
theorem q173 : (Jvm.Cond.methodLink "RepeatFree" (16 : Nat) ({ cls := "java/lang/Object", name := "<init>", desc := "()V" } : Jvm.MethodName)) ∈ lw_all := lw_g (lw_at lw_m1 58 rfl) rfl
theorem q176 : (Jvm.Cond.classLink "RepeatFree" (29 : Nat) "RepeatFree$Told") ∈ lw_all := lw_g (lw_at lw_m1 61 rfl) rfl
theorem q178 : (Jvm.Cond.methodLinkNest "RepeatFree" (31 : Nat) ({ cls := "RepeatFree$Told", name := "<init>", desc := "()V" } : Jvm.MethodName) "RepeatFree") ∈ lw_tbl := lw_at lw_m1 63 rfl
theorem q218 : (Jvm.Cond.fieldLinkNest "RepeatFree" (339 : Nat) "RepeatFree$Told" "maps" "Ljava/util/LinkedList;" "RepeatFree") ∈ lw_tbl := lw_at lw_m1 103 rfl
theorem q221 : (Jvm.Cond.fieldLinkNest "RepeatFree" (100 : Nat) "RepeatFree$Told" "patterns" "Ljava/util/LinkedList;" "RepeatFree") ∈ lw_tbl := lw_at lw_m1 106 rfl
theorem q225 : (Jvm.Cond.fieldLinkNest "RepeatFree" (97 : Nat) "RepeatFree$Told" "letters" "I" "RepeatFree") ∈ lw_tbl := lw_at lw_m1 110 rfl
theorem q227 : (Jvm.Cond.fieldLinkNest "RepeatFree" (178 : Nat) "RepeatFree$Told" "limit" "LRepeatFree$Limit;" "RepeatFree") ∈ lw_tbl := lw_at lw_m1 112 rfl
theorem q237 : (Jvm.Cond.classLink "RepeatFree" (36 : Nat) "RepeatFree$Pattern") ∈ lw_all := lw_g (lw_at lw_m1 122 rfl) rfl
theorem q239 : (Jvm.Cond.classLink "RepeatFree" (42 : Nat) "RepeatFree$Word") ∈ lw_all := lw_g (lw_at lw_m1 124 rfl) rfl
theorem q241 : (Jvm.Cond.methodLinkNest "RepeatFree" (44 : Nat) ({ cls := "RepeatFree$Word", name := "<init>", desc := "()V" } : Jvm.MethodName) "RepeatFree") ∈ lw_tbl := lw_at lw_m1 126 rfl
theorem q246 : (Jvm.Cond.fieldLinkNest "RepeatFree" (152 : Nat) "RepeatFree$Word" "at" "[B" "RepeatFree") ∈ lw_tbl := lw_at lw_m1 131 rfl
theorem q250 : (Jvm.Cond.fieldLinkNest "RepeatFree" (132 : Nat) "RepeatFree$Word" "many" "I" "RepeatFree") ∈ lw_tbl := lw_at lw_m1 135 rfl
theorem q256 : (Jvm.Cond.classLink "RepeatFree" (49 : Nat) "java/util/ArrayDeque") ∈ lw_all := lw_g (lw_at lw_m1 141 rfl) rfl
theorem q258 : (Jvm.Cond.methodLink "RepeatFree" (51 : Nat) ({ cls := "java/util/ArrayDeque", name := "<init>", desc := "()V" } : Jvm.MethodName)) ∈ lw_all := lw_g (lw_at lw_m1 143 rfl) rfl
theorem q274 : (Jvm.Cond.fieldLink "RepeatFree" (21 : Nat) "RepeatFree" "tape" "[B") ∈ lw_all := lw_g (lw_at lw_m1 159 rfl) rfl
theorem q275 : (Jvm.Cond.fieldLink "RepeatFree" (62 : Nat) "RepeatFree" "taped" "I") ∈ lw_all := lw_g (lw_at lw_m1 160 rfl) rfl
theorem q276 : (Jvm.Cond.fieldLink "RepeatFree" (25 : Nat) "RepeatFree" "wrongAt" "I") ∈ lw_all := lw_g (lw_at lw_m1 161 rfl) rfl
theorem q278 : (Jvm.Cond.fieldLink "RepeatFree" (32 : Nat) "RepeatFree" "told" "LRepeatFree$Told;") ∈ lw_all := lw_g (lw_at lw_m1 163 rfl) rfl
theorem q279 : (Jvm.Cond.fieldLink "RepeatFree" (38 : Nat) "RepeatFree" "avoided" "[LRepeatFree$Pattern;") ∈ lw_all := lw_g (lw_at lw_m1 164 rfl) rfl
theorem q280 : (Jvm.Cond.fieldLink "RepeatFree" (45 : Nat) "RepeatFree" "word" "LRepeatFree$Word;") ∈ lw_all := lw_g (lw_at lw_m1 165 rfl) rfl
theorem q281 : (Jvm.Cond.fieldLink "RepeatFree" (52 : Nat) "RepeatFree" "past" "Ljava/util/ArrayDeque;") ∈ lw_all := lw_g (lw_at lw_m1 166 rfl) rfl
theorem q282 : (Jvm.Cond.fieldLink "RepeatFree" (56 : Nat) "RepeatFree" "judged" "LRepeatFree$Word;") ∈ lw_all := lw_g (lw_at lw_m1 167 rfl) rfl
theorem q283 : (Jvm.Cond.fieldLink "RepeatFree" (59 : Nat) "RepeatFree" "imaged" "LRepeatFree$Word;") ∈ lw_all := lw_g (lw_at lw_m1 168 rfl) rfl
theorem q284 : (Jvm.Cond.laysFinal "RepeatFree" "RepeatFree" "tape" "[B") ∈ lw_all := lw_g (lw_at lw_m1 169 rfl) rfl
theorem q285 : (Jvm.Cond.soleField "RepeatFree" "tape") ∈ lw_all := lw_g (lw_at lw_m1 170 rfl) rfl
theorem q286 : (Jvm.Cond.lays "RepeatFree" "RepeatFree" "taped" "I") ∈ lw_all := lw_g (lw_at lw_m1 171 rfl) rfl
theorem q287 : (Jvm.Cond.soleField "RepeatFree" "taped") ∈ lw_all := lw_g (lw_at lw_m1 172 rfl) rfl
theorem q288 : (Jvm.Cond.lays "RepeatFree" "RepeatFree" "wrongAt" "I") ∈ lw_all := lw_g (lw_at lw_m1 173 rfl) rfl
theorem q289 : (Jvm.Cond.soleField "RepeatFree" "wrongAt") ∈ lw_all := lw_g (lw_at lw_m1 174 rfl) rfl
theorem q290 : (Jvm.Cond.lays "RepeatFree" "RepeatFree" "told" "LRepeatFree$Told;") ∈ lw_all := lw_g (lw_at lw_m1 175 rfl) rfl
theorem q291 : (Jvm.Cond.soleField "RepeatFree" "told") ∈ lw_all := lw_g (lw_at lw_m1 176 rfl) rfl
theorem q292 : (Jvm.Cond.lays "RepeatFree" "RepeatFree" "avoided" "[LRepeatFree$Pattern;") ∈ lw_all := lw_g (lw_at lw_m1 177 rfl) rfl
theorem q293 : (Jvm.Cond.soleField "RepeatFree" "avoided") ∈ lw_all := lw_g (lw_at lw_m1 178 rfl) rfl
theorem q294 : (Jvm.Cond.lays "RepeatFree" "RepeatFree" "word" "LRepeatFree$Word;") ∈ lw_all := lw_g (lw_at lw_m1 179 rfl) rfl
theorem q295 : (Jvm.Cond.soleField "RepeatFree" "word") ∈ lw_all := lw_g (lw_at lw_m1 180 rfl) rfl
theorem q296 : (Jvm.Cond.laysFinal "RepeatFree" "RepeatFree" "past" "Ljava/util/ArrayDeque;") ∈ lw_all := lw_g (lw_at lw_m1 181 rfl) rfl
theorem q297 : (Jvm.Cond.soleField "RepeatFree" "past") ∈ lw_all := lw_g (lw_at lw_m1 182 rfl) rfl
theorem q298 : (Jvm.Cond.laysFinal "RepeatFree" "RepeatFree" "judged" "LRepeatFree$Word;") ∈ lw_all := lw_g (lw_at lw_m1 183 rfl) rfl
theorem q299 : (Jvm.Cond.soleField "RepeatFree" "judged") ∈ lw_all := lw_g (lw_at lw_m1 184 rfl) rfl
theorem q300 : (Jvm.Cond.laysFinal "RepeatFree" "RepeatFree" "imaged" "LRepeatFree$Word;") ∈ lw_all := lw_g (lw_at lw_m1 185 rfl) rfl
theorem q301 : (Jvm.Cond.soleField "RepeatFree" "imaged") ∈ lw_all := lw_g (lw_at lw_m1 186 rfl) rfl
theorem q302 : (Jvm.Cond.superclass "RepeatFree" "java/lang/Object") ∈ lw_all := lw_g (lw_at lw_m1 187 rfl) rfl
theorem q304 : (Jvm.Cond.instanceMethod ({ cls := "RepeatFree", name := "feed", desc := "(IIIII)I" } : Jvm.MethodName)) ∈ lw_all := lw_g (lw_at lw_m1 189 rfl) rfl
theorem q305 : (Jvm.Cond.selects "RepeatFree" ({ cls := "RepeatFree", name := "feed", desc := "(IIIII)I" } : Jvm.MethodName) ({ cls := "RepeatFree", name := "feed", desc := "(IIIII)I" } : Jvm.MethodName)) ∈ lw_all := lw_g (lw_at lw_m1 190 rfl) rfl
theorem q306 : (Jvm.Cond.code ({ cls := "RepeatFree", name := "feed", desc := "(IIIII)I" } : Jvm.MethodName) prog_1_method_8_code (6 : Nat) (Option.some Jvm.ClassFile.FieldType.int)) ∈ lw_all := lw_g (lw_at lw_m1 191 rfl) rfl
theorem q307 : (Jvm.Cond.methodLink "RepeatFree" (65 : Nat) ({ cls := "RepeatFree", name := "lays", desc := "(I)V" } : Jvm.MethodName)) ∈ lw_all := lw_g (lw_at lw_m1 192 rfl) rfl
theorem q308 : (Jvm.Cond.privateMethod ({ cls := "RepeatFree", name := "lays", desc := "(I)V" } : Jvm.MethodName)) ∈ lw_tbl := lw_at lw_m1 193 rfl
theorem q309 : (Jvm.Cond.instanceMethod ({ cls := "RepeatFree", name := "lays", desc := "(I)V" } : Jvm.MethodName)) ∈ lw_all := lw_g (lw_at lw_m1 194 rfl) rfl
theorem q310 : (Jvm.Cond.code ({ cls := "RepeatFree", name := "lays", desc := "(I)V" } : Jvm.MethodName) prog_1_method_9_code (3 : Nat) (Option.none : Option Jvm.ClassFile.FieldType)) ∈ lw_all := lw_g (lw_at lw_m1 195 rfl) rfl
theorem q312 : (Jvm.Cond.instanceMethod ({ cls := "RepeatFree", name := "end", desc := "(I)Z" } : Jvm.MethodName)) ∈ lw_all := lw_g (lw_at lw_m1 197 rfl) rfl
theorem q313 : (Jvm.Cond.selects "RepeatFree" ({ cls := "RepeatFree", name := "end", desc := "(I)Z" } : Jvm.MethodName) ({ cls := "RepeatFree", name := "end", desc := "(I)Z" } : Jvm.MethodName)) ∈ lw_all := lw_g (lw_at lw_m1 198 rfl) rfl
theorem q314 : (Jvm.Cond.code ({ cls := "RepeatFree", name := "end", desc := "(I)Z" } : Jvm.MethodName) prog_1_method_10_code (2 : Nat) (Option.some Jvm.ClassFile.FieldType.boolean)) ∈ lw_all := lw_g (lw_at lw_m1 199 rfl) rfl
theorem q316 : (Jvm.Cond.instanceMethod ({ cls := "RepeatFree", name := "fault", desc := "()I" } : Jvm.MethodName)) ∈ lw_all := lw_g (lw_at lw_m1 201 rfl) rfl
theorem q317 : (Jvm.Cond.selects "RepeatFree" ({ cls := "RepeatFree", name := "fault", desc := "()I" } : Jvm.MethodName) ({ cls := "RepeatFree", name := "fault", desc := "()I" } : Jvm.MethodName)) ∈ lw_all := lw_g (lw_at lw_m1 202 rfl) rfl
theorem q318 : (Jvm.Cond.code ({ cls := "RepeatFree", name := "fault", desc := "()I" } : Jvm.MethodName) prog_1_method_18_code (1 : Nat) (Option.some Jvm.ClassFile.FieldType.int)) ∈ lw_all := lw_g (lw_at lw_m1 203 rfl) rfl
theorem q320 : (Jvm.Cond.instanceMethod ({ cls := "RepeatFree", name := "letter", desc := "(I)I" } : Jvm.MethodName)) ∈ lw_all := lw_g (lw_at lw_m1 205 rfl) rfl
theorem q321 : (Jvm.Cond.selects "RepeatFree" ({ cls := "RepeatFree", name := "letter", desc := "(I)I" } : Jvm.MethodName) ({ cls := "RepeatFree", name := "letter", desc := "(I)I" } : Jvm.MethodName)) ∈ lw_all := lw_g (lw_at lw_m1 206 rfl) rfl
theorem q322 : (Jvm.Cond.code ({ cls := "RepeatFree", name := "letter", desc := "(I)I" } : Jvm.MethodName) prog_1_method_19_code (2 : Nat) (Option.some Jvm.ClassFile.FieldType.int)) ∈ lw_all := lw_g (lw_at lw_m1 207 rfl) rfl
theorem q323 : (Jvm.Cond.methodLink "RepeatFree" (128 : Nat) ({ cls := "RepeatFree", name := "isIn", desc := "(JJJ)Z" } : Jvm.MethodName)) ∈ lw_all := lw_g (lw_at lw_m1 208 rfl) rfl
theorem q324 : (Jvm.Cond.static ({ cls := "RepeatFree", name := "isIn", desc := "(JJJ)Z" } : Jvm.MethodName)) ∈ lw_all := lw_g (lw_at lw_m1 209 rfl) rfl
theorem q325 : (Jvm.Cond.code ({ cls := "RepeatFree", name := "isIn", desc := "(JJJ)Z" } : Jvm.MethodName) prog_1_method_1_code (6 : Nat) (Option.some Jvm.ClassFile.FieldType.boolean)) ∈ lw_all := lw_g (lw_at lw_m1 210 rfl) rfl
theorem q327 : (Jvm.Cond.instanceMethod ({ cls := "RepeatFree", name := "undo", desc := "()I" } : Jvm.MethodName)) ∈ lw_all := lw_g (lw_at lw_m1 212 rfl) rfl
theorem q328 : (Jvm.Cond.selects "RepeatFree" ({ cls := "RepeatFree", name := "undo", desc := "()I" } : Jvm.MethodName) ({ cls := "RepeatFree", name := "undo", desc := "()I" } : Jvm.MethodName)) ∈ lw_all := lw_g (lw_at lw_m1 213 rfl) rfl
theorem q329 : (Jvm.Cond.code ({ cls := "RepeatFree", name := "undo", desc := "()I" } : Jvm.MethodName) prog_1_method_23_code (1 : Nat) (Option.some Jvm.ClassFile.FieldType.int)) ∈ lw_all := lw_g (lw_at lw_m1 214 rfl) rfl
theorem q330 : (Jvm.Cond.methodLink "RepeatFree" (172 : Nat) ({ cls := "java/util/ArrayDeque", name := "isEmpty", desc := "()Z" } : Jvm.MethodName)) ∈ lw_all := lw_g (lw_at lw_m1 215 rfl) rfl
theorem q334 : (Jvm.Cond.methodLink "RepeatFree" (175 : Nat) ({ cls := "java/util/ArrayDeque", name := "removeLast", desc := "()Ljava/lang/Object;" } : Jvm.MethodName)) ∈ lw_all := lw_g (lw_at lw_m1 219 rfl) rfl
theorem q416 : (Jvm.Cond.methodLink "RepeatFree" (146 : Nat) ({ cls := "java/util/ArrayDeque", name := "size", desc := "()I" } : Jvm.MethodName)) ∈ lw_all := lw_g (lw_at lw_m2 61 rfl) rfl
theorem q424 : (Jvm.Cond.instanceMethod ({ cls := "RepeatFree", name := "free", desc := "()Z" } : Jvm.MethodName)) ∈ lw_all := lw_g (lw_at lw_m2 69 rfl) rfl
theorem q425 : (Jvm.Cond.selects "RepeatFree" ({ cls := "RepeatFree", name := "free", desc := "()Z" } : Jvm.MethodName) ({ cls := "RepeatFree", name := "free", desc := "()Z" } : Jvm.MethodName)) ∈ lw_all := lw_g (lw_at lw_m2 70 rfl) rfl
theorem q426 : (Jvm.Cond.code ({ cls := "RepeatFree", name := "free", desc := "()Z" } : Jvm.MethodName) prog_1_method_26_code (1 : Nat) (Option.some Jvm.ClassFile.FieldType.boolean)) ∈ lw_all := lw_g (lw_at lw_m2 71 rfl) rfl
theorem q427 : (Jvm.Cond.methodLink "RepeatFree" (199 : Nat) ({ cls := "RepeatFree", name := "endsOf", desc := "(LRepeatFree$Word;)I" } : Jvm.MethodName)) ∈ lw_all := lw_g (lw_at lw_m2 72 rfl) rfl
theorem q428 : (Jvm.Cond.privateMethod ({ cls := "RepeatFree", name := "endsOf", desc := "(LRepeatFree$Word;)I" } : Jvm.MethodName)) ∈ lw_tbl := lw_at lw_m2 73 rfl
theorem q429 : (Jvm.Cond.instanceMethod ({ cls := "RepeatFree", name := "endsOf", desc := "(LRepeatFree$Word;)I" } : Jvm.MethodName)) ∈ lw_all := lw_g (lw_at lw_m2 74 rfl) rfl
theorem q430 : (Jvm.Cond.code ({ cls := "RepeatFree", name := "endsOf", desc := "(LRepeatFree$Word;)I" } : Jvm.MethodName) prog_1_method_25_code (3 : Nat) (Option.some Jvm.ClassFile.FieldType.int)) ∈ lw_all := lw_g (lw_at lw_m2 75 rfl) rfl
theorem q431 : (Jvm.Cond.methodLink "RepeatFree" (135 : Nat) ({ cls := "RepeatFree$Word", name := "comes", desc := "(I)V" } : Jvm.MethodName)) ∈ lw_all := lw_g (lw_at lw_m2 76 rfl) rfl
theorem q435 : (Jvm.Cond.methodLink "RepeatFree" (196 : Nat) ({ cls := "RepeatFree", name := "isFreeAtEnd", desc := "(LRepeatFree$Word;)Z" } : Jvm.MethodName)) ∈ lw_all := lw_g (lw_at lw_m2 80 rfl) rfl
theorem q436 : (Jvm.Cond.privateMethod ({ cls := "RepeatFree", name := "isFreeAtEnd", desc := "(LRepeatFree$Word;)Z" } : Jvm.MethodName)) ∈ lw_tbl := lw_at lw_m2 81 rfl
theorem q437 : (Jvm.Cond.instanceMethod ({ cls := "RepeatFree", name := "isFreeAtEnd", desc := "(LRepeatFree$Word;)Z" } : Jvm.MethodName)) ∈ lw_all := lw_g (lw_at lw_m2 82 rfl) rfl
theorem q438 : (Jvm.Cond.code ({ cls := "RepeatFree", name := "isFreeAtEnd", desc := "(LRepeatFree$Word;)Z" } : Jvm.MethodName) prog_1_method_24_code (3 : Nat) (Option.some Jvm.ClassFile.FieldType.boolean)) ∈ lw_all := lw_g (lw_at lw_m2 83 rfl) rfl
theorem q439 : (Jvm.Cond.methodLink "RepeatFree" (182 : Nat) ({ cls := "RepeatFree$Word", name := "endBy", desc := "(I)I" } : Jvm.MethodName)) ∈ lw_all := lw_g (lw_at lw_m2 84 rfl) rfl
theorem q443 : (Jvm.Cond.methodLink "RepeatFree" (186 : Nat) ({ cls := "RepeatFree$Limit", name := "isBeyond", desc := "(II)Z" } : Jvm.MethodName)) ∈ lw_all := lw_g (lw_at lw_m2 88 rfl) rfl
theorem q447 : (Jvm.Cond.methodLink "RepeatFree" (192 : Nat) ({ cls := "RepeatFree$Pattern", name := "isAtEnd", desc := "(LRepeatFree$Word;)Z" } : Jvm.MethodName)) ∈ lw_all := lw_g (lw_at lw_m2 92 rfl) rfl
theorem q513 : (Jvm.Cond.instanceMethod ({ cls := "RepeatFree", name := "ends", desc := "()I" } : Jvm.MethodName)) ∈ lw_all := lw_g (lw_at lw_m2 158 rfl) rfl
theorem q514 : (Jvm.Cond.selects "RepeatFree" ({ cls := "RepeatFree", name := "ends", desc := "()I" } : Jvm.MethodName) ({ cls := "RepeatFree", name := "ends", desc := "()I" } : Jvm.MethodName)) ∈ lw_all := lw_g (lw_at lw_m2 159 rfl) rfl
theorem q515 : (Jvm.Cond.code ({ cls := "RepeatFree", name := "ends", desc := "()I" } : Jvm.MethodName) prog_1_method_27_code (1 : Nat) (Option.some Jvm.ClassFile.FieldType.int)) ∈ lw_all := lw_g (lw_at lw_m2 160 rfl) rfl
theorem q517 : (Jvm.Cond.instanceMethod ({ cls := "RepeatFree", name := "period", desc := "()I" } : Jvm.MethodName)) ∈ lw_all := lw_g (lw_at lw_m2 162 rfl) rfl
theorem q518 : (Jvm.Cond.selects "RepeatFree" ({ cls := "RepeatFree", name := "period", desc := "()I" } : Jvm.MethodName) ({ cls := "RepeatFree", name := "period", desc := "()I" } : Jvm.MethodName)) ∈ lw_all := lw_g (lw_at lw_m2 163 rfl) rfl
theorem q519 : (Jvm.Cond.code ({ cls := "RepeatFree", name := "period", desc := "()I" } : Jvm.MethodName) prog_1_method_30_code (1 : Nat) (Option.some Jvm.ClassFile.FieldType.int)) ∈ lw_all := lw_g (lw_at lw_m2 164 rfl) rfl
theorem q520 : (Jvm.Cond.methodLink "RepeatFree" (217 : Nat) ({ cls := "RepeatFree", name := "leastPeriod", desc := "(II)I" } : Jvm.MethodName)) ∈ lw_all := lw_g (lw_at lw_m2 165 rfl) rfl
theorem q521 : (Jvm.Cond.privateMethod ({ cls := "RepeatFree", name := "leastPeriod", desc := "(II)I" } : Jvm.MethodName)) ∈ lw_tbl := lw_at lw_m2 166 rfl
theorem q522 : (Jvm.Cond.instanceMethod ({ cls := "RepeatFree", name := "leastPeriod", desc := "(II)I" } : Jvm.MethodName)) ∈ lw_all := lw_g (lw_at lw_m2 167 rfl) rfl
theorem q523 : (Jvm.Cond.code ({ cls := "RepeatFree", name := "leastPeriod", desc := "(II)I" } : Jvm.MethodName) prog_1_method_29_code (4 : Nat) (Option.some Jvm.ClassFile.FieldType.int)) ∈ lw_all := lw_g (lw_at lw_m2 168 rfl) rfl
theorem q524 : (Jvm.Cond.methodLink "RepeatFree" (208 : Nat) ({ cls := "RepeatFree$Word", name := "alike", desc := "(II)I" } : Jvm.MethodName)) ∈ lw_all := lw_g (lw_at lw_m2 169 rfl) rfl
theorem q528 : (Jvm.Cond.methodLink "RepeatFree" (212 : Nat) ({ cls := "java/lang/Math", name := "min", desc := "(II)I" } : Jvm.MethodName)) ∈ lw_all := lw_g (lw_at lw_m2 173 rfl) rfl
theorem q532 : (Jvm.Cond.instanceMethod ({ cls := "RepeatFree", name := "border", desc := "(I)I" } : Jvm.MethodName)) ∈ lw_all := lw_g (lw_at lw_m2 177 rfl) rfl
theorem q533 : (Jvm.Cond.selects "RepeatFree" ({ cls := "RepeatFree", name := "border", desc := "(I)I" } : Jvm.MethodName) ({ cls := "RepeatFree", name := "border", desc := "(I)I" } : Jvm.MethodName)) ∈ lw_all := lw_g (lw_at lw_m2 178 rfl) rfl
theorem q534 : (Jvm.Cond.code ({ cls := "RepeatFree", name := "border", desc := "(I)I" } : Jvm.MethodName) prog_1_method_31_code (4 : Nat) (Option.some Jvm.ClassFile.FieldType.int)) ∈ lw_all := lw_g (lw_at lw_m2 179 rfl) rfl
theorem q536 : (Jvm.Cond.instanceMethod ({ cls := "RepeatFree", name := "mirror", desc := "()I" } : Jvm.MethodName)) ∈ lw_all := lw_g (lw_at lw_m2 181 rfl) rfl
theorem q537 : (Jvm.Cond.selects "RepeatFree" ({ cls := "RepeatFree", name := "mirror", desc := "()I" } : Jvm.MethodName) ({ cls := "RepeatFree", name := "mirror", desc := "()I" } : Jvm.MethodName)) ∈ lw_all := lw_g (lw_at lw_m2 182 rfl) rfl
theorem q538 : (Jvm.Cond.code ({ cls := "RepeatFree", name := "mirror", desc := "()I" } : Jvm.MethodName) prog_1_method_36_code (3 : Nat) (Option.some Jvm.ClassFile.FieldType.int)) ∈ lw_all := lw_g (lw_at lw_m2 183 rfl) rfl
theorem q539 : (Jvm.Cond.methodLink "RepeatFree" (273 : Nat) ({ cls := "RepeatFree", name := "around", desc := "(II)I" } : Jvm.MethodName)) ∈ lw_all := lw_g (lw_at lw_m2 184 rfl) rfl
theorem q540 : (Jvm.Cond.privateMethod ({ cls := "RepeatFree", name := "around", desc := "(II)I" } : Jvm.MethodName)) ∈ lw_tbl := lw_at lw_m2 185 rfl
theorem q541 : (Jvm.Cond.instanceMethod ({ cls := "RepeatFree", name := "around", desc := "(II)I" } : Jvm.MethodName)) ∈ lw_all := lw_g (lw_at lw_m2 186 rfl) rfl
theorem q542 : (Jvm.Cond.code ({ cls := "RepeatFree", name := "around", desc := "(II)I" } : Jvm.MethodName) prog_1_method_35_code (5 : Nat) (Option.some Jvm.ClassFile.FieldType.int)) ∈ lw_all := lw_g (lw_at lw_m2 187 rfl) rfl
theorem q543 : (Jvm.Cond.methodLink "RepeatFree" (276 : Nat) ({ cls := "java/lang/Math", name := "max", desc := "(II)I" } : Jvm.MethodName)) ∈ lw_all := lw_g (lw_at lw_m2 188 rfl) rfl
theorem q547 : (Jvm.Cond.instanceMethod ({ cls := "RepeatFree", name := "goes", desc := "()I" } : Jvm.MethodName)) ∈ lw_all := lw_g (lw_at lw_m2 192 rfl) rfl
theorem q548 : (Jvm.Cond.selects "RepeatFree" ({ cls := "RepeatFree", name := "goes", desc := "()I" } : Jvm.MethodName) ({ cls := "RepeatFree", name := "goes", desc := "()I" } : Jvm.MethodName)) ∈ lw_all := lw_g (lw_at lw_m2 193 rfl) rfl
theorem q549 : (Jvm.Cond.code ({ cls := "RepeatFree", name := "goes", desc := "()I" } : Jvm.MethodName) prog_1_method_37_code (5 : Nat) (Option.some Jvm.ClassFile.FieldType.int)) ∈ lw_all := lw_g (lw_at lw_m2 194 rfl) rfl
theorem q550 : (Jvm.Cond.methodLink "RepeatFree" (279 : Nat) ({ cls := "RepeatFree", name := "free", desc := "()Z" } : Jvm.MethodName)) ∈ lw_all := lw_g (lw_at lw_m2 195 rfl) rfl
theorem q551 : (Jvm.Cond.methodLink "RepeatFree" (165 : Nat) ({ cls := "RepeatFree$Word", name := "same", desc := "()LRepeatFree$Word;" } : Jvm.MethodName)) ∈ lw_all := lw_g (lw_at lw_m2 196 rfl) rfl
theorem q560 : (Jvm.Cond.methodLink "RepeatFree" (169 : Nat) ({ cls := "RepeatFree$Word", name := "goes", desc := "()I" } : Jvm.MethodName)) ∈ lw_all := lw_g (lw_at lw_m2 205 rfl) rfl
theorem q565 : (Jvm.Cond.instanceMethod ({ cls := "RepeatFree", name := "further", desc := "()I" } : Jvm.MethodName)) ∈ lw_all := lw_g (lw_at lw_m2 210 rfl) rfl
theorem q566 : (Jvm.Cond.selects "RepeatFree" ({ cls := "RepeatFree", name := "further", desc := "()I" } : Jvm.MethodName) ({ cls := "RepeatFree", name := "further", desc := "()I" } : Jvm.MethodName)) ∈ lw_all := lw_g (lw_at lw_m2 211 rfl) rfl
theorem q567 : (Jvm.Cond.code ({ cls := "RepeatFree", name := "further", desc := "()I" } : Jvm.MethodName) prog_1_method_38_code (4 : Nat) (Option.some Jvm.ClassFile.FieldType.int)) ∈ lw_all := lw_g (lw_at lw_m2 212 rfl) rfl
theorem q568 : (Jvm.Cond.classLink "RepeatFree" (282 : Nat) "RepeatFree$Search") ∈ lw_all := lw_g (lw_at lw_m2 213 rfl) rfl
theorem q570 : (Jvm.Cond.methodLink "RepeatFree" (284 : Nat) ({ cls := "RepeatFree$Search", name := "<init>", desc := "(LRepeatFree;LRepeatFree$Word;)V" } : Jvm.MethodName)) ∈ lw_all := lw_g (lw_at lw_m2 215 rfl) rfl
theorem q575 : (Jvm.Cond.fieldLinkNest "RepeatFree" (295 : Nat) "RepeatFree$Search" "its" "LRepeatFree$Word;" "RepeatFree") ∈ lw_tbl := lw_at lw_m2 220 rfl
theorem q577 : (Jvm.Cond.fieldLinkNest "RepeatFree" (298 : Nat) "RepeatFree$Search" "tries" "I" "RepeatFree") ∈ lw_tbl := lw_at lw_m2 222 rfl
theorem q579 : (Jvm.Cond.fieldLinkNest "RepeatFree" (290 : Nat) "RepeatFree$Search" "isCut" "Z" "RepeatFree") ∈ lw_tbl := lw_at lw_m2 224 rfl
theorem q590 : (Jvm.Cond.methodLink "RepeatFree" (287 : Nat) ({ cls := "RepeatFree$Search", name := "finds", desc := "(III)Z" } : Jvm.MethodName)) ∈ lw_all := lw_g (lw_at lw_m2 235 rfl) rfl
theorem q598 : (Jvm.Cond.instanceMethod ({ cls := "RepeatFree", name := "longest", desc := "()I" } : Jvm.MethodName)) ∈ lw_all := lw_g (lw_at lw_m3 3 rfl) rfl
theorem q599 : (Jvm.Cond.selects "RepeatFree" ({ cls := "RepeatFree", name := "longest", desc := "()I" } : Jvm.MethodName) ({ cls := "RepeatFree", name := "longest", desc := "()I" } : Jvm.MethodName)) ∈ lw_all := lw_g (lw_at lw_m3 4 rfl) rfl
theorem q600 : (Jvm.Cond.code ({ cls := "RepeatFree", name := "longest", desc := "()I" } : Jvm.MethodName) prog_1_method_43_code (3 : Nat) (Option.some Jvm.ClassFile.FieldType.int)) ∈ lw_all := lw_g (lw_at lw_m3 5 rfl) rfl
theorem q602 : (Jvm.Cond.instanceMethod ({ cls := "RepeatFree", name := "ahead", desc := "()I" } : Jvm.MethodName)) ∈ lw_all := lw_g (lw_at lw_m3 7 rfl) rfl
theorem q603 : (Jvm.Cond.selects "RepeatFree" ({ cls := "RepeatFree", name := "ahead", desc := "()I" } : Jvm.MethodName) ({ cls := "RepeatFree", name := "ahead", desc := "()I" } : Jvm.MethodName)) ∈ lw_all := lw_g (lw_at lw_m3 8 rfl) rfl
theorem q604 : (Jvm.Cond.code ({ cls := "RepeatFree", name := "ahead", desc := "()I" } : Jvm.MethodName) prog_1_method_50_code (4 : Nat) (Option.some Jvm.ClassFile.FieldType.int)) ∈ lw_all := lw_g (lw_at lw_m3 9 rfl) rfl
theorem q606 : (Jvm.Cond.instanceMethod ({ cls := "RepeatFree", name := "lyndon", desc := "(I)I" } : Jvm.MethodName)) ∈ lw_all := lw_g (lw_at lw_m3 11 rfl) rfl
theorem q607 : (Jvm.Cond.selects "RepeatFree" ({ cls := "RepeatFree", name := "lyndon", desc := "(I)I" } : Jvm.MethodName) ({ cls := "RepeatFree", name := "lyndon", desc := "(I)I" } : Jvm.MethodName)) ∈ lw_all := lw_g (lw_at lw_m3 12 rfl) rfl
theorem q608 : (Jvm.Cond.code ({ cls := "RepeatFree", name := "lyndon", desc := "(I)I" } : Jvm.MethodName) prog_1_method_53_code (6 : Nat) (Option.some Jvm.ClassFile.FieldType.int)) ∈ lw_all := lw_g (lw_at lw_m3 13 rfl) rfl
theorem q610 : (Jvm.Cond.instanceMethod ({ cls := "RepeatFree", name := "turned", desc := "()I" } : Jvm.MethodName)) ∈ lw_all := lw_g (lw_at lw_m3 15 rfl) rfl
theorem q611 : (Jvm.Cond.selects "RepeatFree" ({ cls := "RepeatFree", name := "turned", desc := "()I" } : Jvm.MethodName) ({ cls := "RepeatFree", name := "turned", desc := "()I" } : Jvm.MethodName)) ∈ lw_all := lw_g (lw_at lw_m3 16 rfl) rfl
theorem q612 : (Jvm.Cond.code ({ cls := "RepeatFree", name := "turned", desc := "()I" } : Jvm.MethodName) prog_1_method_54_code (3 : Nat) (Option.some Jvm.ClassFile.FieldType.int)) ∈ lw_all := lw_g (lw_at lw_m3 17 rfl) rfl
theorem q613 : (Jvm.Cond.methodLink "RepeatFree" (333 : Nat) ({ cls := "RepeatFree", name := "isLess", desc := "(II)Z" } : Jvm.MethodName)) ∈ lw_all := lw_g (lw_at lw_m3 18 rfl) rfl
theorem q614 : (Jvm.Cond.privateMethod ({ cls := "RepeatFree", name := "isLess", desc := "(II)Z" } : Jvm.MethodName)) ∈ lw_tbl := lw_at lw_m3 19 rfl
theorem q615 : (Jvm.Cond.instanceMethod ({ cls := "RepeatFree", name := "isLess", desc := "(II)Z" } : Jvm.MethodName)) ∈ lw_all := lw_g (lw_at lw_m3 20 rfl) rfl
theorem q616 : (Jvm.Cond.code ({ cls := "RepeatFree", name := "isLess", desc := "(II)Z" } : Jvm.MethodName) prog_1_method_55_code (5 : Nat) (Option.some Jvm.ClassFile.FieldType.boolean)) ∈ lw_all := lw_g (lw_at lw_m3 21 rfl) rfl
theorem q618 : (Jvm.Cond.instanceMethod ({ cls := "RepeatFree", name := "count", desc := "(I)I" } : Jvm.MethodName)) ∈ lw_all := lw_g (lw_at lw_m3 23 rfl) rfl
theorem q619 : (Jvm.Cond.selects "RepeatFree" ({ cls := "RepeatFree", name := "count", desc := "(I)I" } : Jvm.MethodName) ({ cls := "RepeatFree", name := "count", desc := "(I)I" } : Jvm.MethodName)) ∈ lw_all := lw_g (lw_at lw_m3 24 rfl) rfl
theorem q620 : (Jvm.Cond.code ({ cls := "RepeatFree", name := "count", desc := "(I)I" } : Jvm.MethodName) prog_1_method_93_code (3 : Nat) (Option.some Jvm.ClassFile.FieldType.int)) ∈ lw_all := lw_g (lw_at lw_m3 25 rfl) rfl
theorem q621 : (Jvm.Cond.methodLink "RepeatFree" (251 : Nat) ({ cls := "java/util/LinkedList", name := "size", desc := "()I" } : Jvm.MethodName)) ∈ lw_all := lw_g (lw_at lw_m3 26 rfl) rfl
theorem q630 : (Jvm.Cond.instanceMethod ({ cls := "RepeatFree", name := "read", desc := "()I" } : Jvm.MethodName)) ∈ lw_all := lw_g (lw_at lw_m3 35 rfl) rfl
theorem q631 : (Jvm.Cond.selects "RepeatFree" ({ cls := "RepeatFree", name := "read", desc := "()I" } : Jvm.MethodName) ({ cls := "RepeatFree", name := "read", desc := "()I" } : Jvm.MethodName)) ∈ lw_all := lw_g (lw_at lw_m3 36 rfl) rfl
theorem q632 : (Jvm.Cond.codeWith ({ cls := "RepeatFree", name := "read", desc := "()I" } : Jvm.MethodName) prog_1_method_13_code (3 : Nat) (Option.some Jvm.ClassFile.FieldType.int) [((5 : Nat), (24 : Nat), (27 : Nat), (82 : Nat))]) ∈ lw_all := lw_g (lw_at lw_m3 37 rfl) rfl
theorem q633 : (Jvm.Cond.classLink "RepeatFree" (82 : Nat) "RepeatFree$Wrong") ∈ lw_all := lw_g (lw_at lw_m3 38 rfl) rfl
theorem q634 : (Jvm.Cond.methodLink "RepeatFree" (69 : Nat) ({ cls := "RepeatFree", name := "took", desc := "()I" } : Jvm.MethodName)) ∈ lw_all := lw_g (lw_at lw_m3 39 rfl) rfl
theorem q635 : (Jvm.Cond.privateMethod ({ cls := "RepeatFree", name := "took", desc := "()I" } : Jvm.MethodName)) ∈ lw_tbl := lw_at lw_m3 40 rfl
theorem q636 : (Jvm.Cond.instanceMethod ({ cls := "RepeatFree", name := "took", desc := "()I" } : Jvm.MethodName)) ∈ lw_all := lw_g (lw_at lw_m3 41 rfl) rfl
theorem q637 : (Jvm.Cond.code ({ cls := "RepeatFree", name := "took", desc := "()I" } : Jvm.MethodName) prog_1_method_11_code (2 : Nat) (Option.some Jvm.ClassFile.FieldType.int)) ∈ lw_all := lw_g (lw_at lw_m3 42 rfl) rfl
theorem q638 : (Jvm.Cond.classLink "RepeatFree" (73 : Nat) "RepeatFree$Reader") ∈ lw_all := lw_g (lw_at lw_m3 43 rfl) rfl
theorem q640 : (Jvm.Cond.methodLink "RepeatFree" (75 : Nat) ({ cls := "RepeatFree$Reader", name := "<init>", desc := "([BI)V" } : Jvm.MethodName)) ∈ lw_all := lw_g (lw_at lw_m3 45 rfl) rfl
theorem q664 : (Jvm.Cond.selects "RepeatFree" ({ cls := "java/lang/Object", name := "getClass", desc := "()Ljava/lang/Class;" } : Jvm.MethodName) ({ cls := "java/lang/Object", name := "getClass", desc := "()Ljava/lang/Class;" } : Jvm.MethodName)) ∈ lw_all := lw_g (lw_at lw_m3 69 rfl) rfl
theorem q756 : (Jvm.Cond.methodLink "RepeatFree" (78 : Nat) ({ cls := "RepeatFree$Reader", name := "whole", desc := "()LRepeatFree$Told;" } : Jvm.MethodName)) ∈ lw_all := lw_g (lw_at lw_m3 161 rfl) rfl
theorem q1053 : (Jvm.Cond.fieldLinkNest "RepeatFree" (84 : Nat) "RepeatFree$Wrong" "place" "I" "RepeatFree") ∈ lw_tbl := lw_at lw_m4 218 rfl
theorem q1141 : (Jvm.Cond.fieldLinkNest "RepeatFree" (325 : Nat) "RepeatFree$Limit" "kind" "I" "RepeatFree") ∈ lw_tbl := lw_at lw_m5 66 rfl
theorem q1143 : (Jvm.Cond.fieldLinkNest "RepeatFree" (499 : Nat) "RepeatFree$Limit" "above" "I" "RepeatFree") ∈ lw_tbl := lw_at lw_m5 68 rfl
theorem q1145 : (Jvm.Cond.fieldLinkNest "RepeatFree" (502 : Nat) "RepeatFree$Limit" "below" "I" "RepeatFree") ∈ lw_tbl := lw_at lw_m5 70 rfl
theorem q1183 : (Jvm.Cond.selects "RepeatFree" ({ cls := "java/lang/Object", name := "equals", desc := "(Ljava/lang/Object;)Z" } : Jvm.MethodName) ({ cls := "java/lang/Object", name := "equals", desc := "(Ljava/lang/Object;)Z" } : Jvm.MethodName)) ∈ lw_all := lw_g (lw_at lw_m5 108 rfl) rfl
theorem q1445 : (Jvm.Cond.fieldLinkNest "RepeatFree" (347 : Nat) "RepeatFree$Mapping" "images" "[[B" "RepeatFree") ∈ lw_tbl := lw_at lw_m6 130 rfl
theorem q1495 : (Jvm.Cond.fieldLinkNest "RepeatFree" (491 : Nat) "RepeatFree$Pattern" "shape" "Ljava/lang/String;" "RepeatFree") ∈ lw_tbl := lw_at lw_m6 180 rfl
theorem q1497 : (Jvm.Cond.fieldLinkNest "RepeatFree" (120 : Nat) "RepeatFree$Pattern" "isAvoided" "Z" "RepeatFree") ∈ lw_tbl := lw_at lw_m6 182 rfl
theorem q1515 : (Jvm.Cond.methodLink "RepeatFree" (87 : Nat) ({ cls := "RepeatFree", name := "isWrong", desc := "(I)Ljava/lang/IllegalArgumentException;" } : Jvm.MethodName)) ∈ lw_all := lw_g (lw_at lw_m6 200 rfl) rfl
theorem q1516 : (Jvm.Cond.privateMethod ({ cls := "RepeatFree", name := "isWrong", desc := "(I)Ljava/lang/IllegalArgumentException;" } : Jvm.MethodName)) ∈ lw_tbl := lw_at lw_m6 201 rfl
theorem q1517 : (Jvm.Cond.instanceMethod ({ cls := "RepeatFree", name := "isWrong", desc := "(I)Ljava/lang/IllegalArgumentException;" } : Jvm.MethodName)) ∈ lw_all := lw_g (lw_at lw_m6 202 rfl) rfl
theorem q1518 : (Jvm.Cond.code ({ cls := "RepeatFree", name := "isWrong", desc := "(I)Ljava/lang/IllegalArgumentException;" } : Jvm.MethodName) prog_1_method_12_code (2 : Nat) (Option.some (Jvm.ClassFile.FieldType.object "java/lang/IllegalArgumentException"))) ∈ lw_all := lw_g (lw_at lw_m6 203 rfl) rfl
theorem q1519 : (Jvm.Cond.classLink "RepeatFree" (1 : Nat) "java/lang/IllegalArgumentException") ∈ lw_all := lw_g (lw_at lw_m6 204 rfl) rfl
theorem q1520 : (Jvm.Cond.methodLink "RepeatFree" (3 : Nat) ({ cls := "java/lang/IllegalArgumentException", name := "<init>", desc := "()V" } : Jvm.MethodName)) ∈ lw_all := lw_g (lw_at lw_m6 205 rfl) rfl
theorem q1524 : (Jvm.Cond.methodLink "RepeatFree" (91 : Nat) ({ cls := "RepeatFree", name := "laysAvoided", desc := "()V" } : Jvm.MethodName)) ∈ lw_all := lw_g (lw_at lw_m6 209 rfl) rfl
theorem q1525 : (Jvm.Cond.privateMethod ({ cls := "RepeatFree", name := "laysAvoided", desc := "()V" } : Jvm.MethodName)) ∈ lw_tbl := lw_at lw_m6 210 rfl
theorem q1526 : (Jvm.Cond.instanceMethod ({ cls := "RepeatFree", name := "laysAvoided", desc := "()V" } : Jvm.MethodName)) ∈ lw_all := lw_g (lw_at lw_m6 211 rfl) rfl
theorem q1527 : (Jvm.Cond.code ({ cls := "RepeatFree", name := "laysAvoided", desc := "()V" } : Jvm.MethodName) prog_1_method_14_code (4 : Nat) (Option.none : Option Jvm.ClassFile.FieldType)) ∈ lw_all := lw_g (lw_at lw_m6 212 rfl) rfl
theorem q1528 : (Jvm.Cond.methodLink "RepeatFree" (104 : Nat) ({ cls := "java/util/LinkedList", name := "iterator", desc := "()Ljava/util/Iterator;" } : Jvm.MethodName)) ∈ lw_all := lw_g (lw_at lw_m6 213 rfl) rfl
theorem q1529 : (Jvm.Cond.interfaceEntry "RepeatFree" (110 : Nat)) ∈ lw_tbl := lw_at lw_m6 214 rfl
theorem q1530 : (Jvm.Cond.methodLink "RepeatFree" (110 : Nat) ({ cls := "java/util/Iterator", name := "hasNext", desc := "()Z" } : Jvm.MethodName)) ∈ lw_all := lw_g (lw_at lw_m6 215 rfl) rfl
theorem q1531 : (Jvm.Cond.interfaceEntry "RepeatFree" (116 : Nat)) ∈ lw_tbl := lw_at lw_m6 216 rfl
theorem q1532 : (Jvm.Cond.methodLink "RepeatFree" (116 : Nat) ({ cls := "java/util/Iterator", name := "next", desc := "()Ljava/lang/Object;" } : Jvm.MethodName)) ∈ lw_all := lw_g (lw_at lw_m6 217 rfl) rfl
theorem q1533 : (Jvm.Cond.methodLink "RepeatFree" (94 : Nat) ({ cls := "java/util/ArrayDeque", name := "clear", desc := "()V" } : Jvm.MethodName)) ∈ lw_all := lw_g (lw_at lw_m6 218 rfl) rfl
theorem q1544 : (Jvm.Cond.instanceMethod ({ cls := "RepeatFree", name := "word", desc := "()I" } : Jvm.MethodName)) ∈ lw_all := lw_g (lw_at lw_m6 229 rfl) rfl
theorem q1545 : (Jvm.Cond.selects "RepeatFree" ({ cls := "RepeatFree", name := "word", desc := "()I" } : Jvm.MethodName) ({ cls := "RepeatFree", name := "word", desc := "()I" } : Jvm.MethodName)) ∈ lw_all := lw_g (lw_at lw_m6 230 rfl) rfl
theorem q1546 : (Jvm.Cond.code ({ cls := "RepeatFree", name := "word", desc := "()I" } : Jvm.MethodName) prog_1_method_16_code (4 : Nat) (Option.some Jvm.ClassFile.FieldType.int)) ∈ lw_all := lw_g (lw_at lw_m6 231 rfl) rfl
theorem q1547 : (Jvm.Cond.methodLink "RepeatFree" (124 : Nat) ({ cls := "RepeatFree", name := "isBlank", desc := "(I)Z" } : Jvm.MethodName)) ∈ lw_all := lw_g (lw_at lw_m6 232 rfl) rfl
theorem q1548 : (Jvm.Cond.static ({ cls := "RepeatFree", name := "isBlank", desc := "(I)Z" } : Jvm.MethodName)) ∈ lw_all := lw_g (lw_at lw_m6 233 rfl) rfl
theorem q1549 : (Jvm.Cond.code ({ cls := "RepeatFree", name := "isBlank", desc := "(I)Z" } : Jvm.MethodName) prog_1_method_15_code (1 : Nat) (Option.some Jvm.ClassFile.FieldType.boolean)) ∈ lw_all := lw_g (lw_at lw_m6 234 rfl) rfl
theorem q1550 : (Jvm.Cond.methodLink "RepeatFree" (138 : Nat) ({ cls := "RepeatFree", name := "becomes", desc := "(LRepeatFree$Word;)V" } : Jvm.MethodName)) ∈ lw_all := lw_g (lw_at lw_m6 235 rfl) rfl
theorem q1551 : (Jvm.Cond.privateMethod ({ cls := "RepeatFree", name := "becomes", desc := "(LRepeatFree$Word;)V" } : Jvm.MethodName)) ∈ lw_tbl := lw_at lw_m6 236 rfl
theorem q1552 : (Jvm.Cond.instanceMethod ({ cls := "RepeatFree", name := "becomes", desc := "(LRepeatFree$Word;)V" } : Jvm.MethodName)) ∈ lw_all := lw_g (lw_at lw_m6 237 rfl) rfl
theorem q1553 : (Jvm.Cond.code ({ cls := "RepeatFree", name := "becomes", desc := "(LRepeatFree$Word;)V" } : Jvm.MethodName) prog_1_method_17_code (2 : Nat) (Option.none : Option Jvm.ClassFile.FieldType)) ∈ lw_all := lw_g (lw_at lw_m6 238 rfl) rfl
theorem q1554 : (Jvm.Cond.methodLink "RepeatFree" (142 : Nat) ({ cls := "java/util/ArrayDeque", name := "addLast", desc := "(Ljava/lang/Object;)V" } : Jvm.MethodName)) ∈ lw_all := lw_g (lw_at lw_m6 239 rfl) rfl
theorem q1597 : (Jvm.Cond.methodLink "RepeatFree" (149 : Nat) ({ cls := "java/util/ArrayDeque", name := "removeFirst", desc := "()Ljava/lang/Object;" } : Jvm.MethodName)) ∈ lw_all := lw_g (lw_at lw_m7 42 rfl) rfl
theorem q1610 : (Jvm.Cond.instanceMethod ({ cls := "RepeatFree", name := "push", desc := "(I)I" } : Jvm.MethodName)) ∈ lw_all := lw_g (lw_at lw_m7 55 rfl) rfl
theorem q1611 : (Jvm.Cond.selects "RepeatFree" ({ cls := "RepeatFree", name := "push", desc := "(I)I" } : Jvm.MethodName) ({ cls := "RepeatFree", name := "push", desc := "(I)I" } : Jvm.MethodName)) ∈ lw_all := lw_g (lw_at lw_m7 56 rfl) rfl
theorem q1612 : (Jvm.Cond.code ({ cls := "RepeatFree", name := "push", desc := "(I)I" } : Jvm.MethodName) prog_1_method_21_code (2 : Nat) (Option.some Jvm.ClassFile.FieldType.int)) ∈ lw_all := lw_g (lw_at lw_m7 57 rfl) rfl
theorem q1613 : (Jvm.Cond.methodLink "RepeatFree" (155 : Nat) ({ cls := "RepeatFree", name := "isLetter", desc := "(I)Z" } : Jvm.MethodName)) ∈ lw_all := lw_g (lw_at lw_m7 58 rfl) rfl
theorem q1614 : (Jvm.Cond.privateMethod ({ cls := "RepeatFree", name := "isLetter", desc := "(I)Z" } : Jvm.MethodName)) ∈ lw_tbl := lw_at lw_m7 59 rfl
theorem q1615 : (Jvm.Cond.instanceMethod ({ cls := "RepeatFree", name := "isLetter", desc := "(I)Z" } : Jvm.MethodName)) ∈ lw_all := lw_g (lw_at lw_m7 60 rfl) rfl
theorem q1616 : (Jvm.Cond.code ({ cls := "RepeatFree", name := "isLetter", desc := "(I)Z" } : Jvm.MethodName) prog_1_method_20_code (2 : Nat) (Option.some Jvm.ClassFile.FieldType.boolean)) ∈ lw_all := lw_g (lw_at lw_m7 61 rfl) rfl
theorem q1617 : (Jvm.Cond.methodLink "RepeatFree" (158 : Nat) ({ cls := "RepeatFree", name := "must", desc := "(Z)V" } : Jvm.MethodName)) ∈ lw_all := lw_g (lw_at lw_m7 62 rfl) rfl
theorem q1618 : (Jvm.Cond.static ({ cls := "RepeatFree", name := "must", desc := "(Z)V" } : Jvm.MethodName)) ∈ lw_all := lw_g (lw_at lw_m7 63 rfl) rfl
theorem q1619 : (Jvm.Cond.code ({ cls := "RepeatFree", name := "must", desc := "(Z)V" } : Jvm.MethodName) prog_1_method_3_code (1 : Nat) (Option.none : Option Jvm.ClassFile.FieldType)) ∈ lw_all := lw_g (lw_at lw_m7 64 rfl) rfl
theorem q1620 : (Jvm.Cond.methodLink "RepeatFree" (162 : Nat) ({ cls := "RepeatFree", name := "can", desc := "(Z)V" } : Jvm.MethodName)) ∈ lw_all := lw_g (lw_at lw_m7 65 rfl) rfl
theorem q1621 : (Jvm.Cond.static ({ cls := "RepeatFree", name := "can", desc := "(Z)V" } : Jvm.MethodName)) ∈ lw_all := lw_g (lw_at lw_m7 66 rfl) rfl
theorem q1622 : (Jvm.Cond.code ({ cls := "RepeatFree", name := "can", desc := "(Z)V" } : Jvm.MethodName) prog_1_method_4_code (1 : Nat) (Option.none : Option Jvm.ClassFile.FieldType)) ∈ lw_all := lw_g (lw_at lw_m7 67 rfl) rfl
theorem q1623 : (Jvm.Cond.classLink "RepeatFree" (7 : Nat) "java/lang/IllegalStateException") ∈ lw_all := lw_g (lw_at lw_m7 68 rfl) rfl
theorem q1624 : (Jvm.Cond.methodLink "RepeatFree" (9 : Nat) ({ cls := "java/lang/IllegalStateException", name := "<init>", desc := "()V" } : Jvm.MethodName)) ∈ lw_all := lw_g (lw_at lw_m7 69 rfl) rfl
theorem q1632 : (Jvm.Cond.instanceMethod ({ cls := "RepeatFree", name := "pop", desc := "()I" } : Jvm.MethodName)) ∈ lw_all := lw_g (lw_at lw_m7 77 rfl) rfl
theorem q1633 : (Jvm.Cond.selects "RepeatFree" ({ cls := "RepeatFree", name := "pop", desc := "()I" } : Jvm.MethodName) ({ cls := "RepeatFree", name := "pop", desc := "()I" } : Jvm.MethodName)) ∈ lw_all := lw_g (lw_at lw_m7 78 rfl) rfl
theorem q1634 : (Jvm.Cond.code ({ cls := "RepeatFree", name := "pop", desc := "()I" } : Jvm.MethodName) prog_1_method_22_code (1 : Nat) (Option.some Jvm.ClassFile.FieldType.int)) ∈ lw_all := lw_g (lw_at lw_m7 79 rfl) rfl
theorem q1640 : (Jvm.Cond.instanceMethod ({ cls := "RepeatFree", name := "greatest", desc := "(I)I" } : Jvm.MethodName)) ∈ lw_all := lw_g (lw_at lw_m7 85 rfl) rfl
theorem q1641 : (Jvm.Cond.selects "RepeatFree" ({ cls := "RepeatFree", name := "greatest", desc := "(I)I" } : Jvm.MethodName) ({ cls := "RepeatFree", name := "greatest", desc := "(I)I" } : Jvm.MethodName)) ∈ lw_all := lw_g (lw_at lw_m7 86 rfl) rfl
theorem q1642 : (Jvm.Cond.code ({ cls := "RepeatFree", name := "greatest", desc := "(I)I" } : Jvm.MethodName) prog_1_method_28_code (9 : Nat) (Option.some Jvm.ClassFile.FieldType.int)) ∈ lw_all := lw_g (lw_at lw_m7 87 rfl) rfl
theorem q1643 : (Jvm.Cond.constantLong "RepeatFree" (203 : Nat) (2 : Int64)) ∈ lw_all := lw_g (lw_at lw_m7 88 rfl) rfl
theorem q1644 : (Jvm.Cond.methodLink "RepeatFree" (205 : Nat) ({ cls := "RepeatFree", name := "thereIs", desc := "(Z)V" } : Jvm.MethodName)) ∈ lw_all := lw_g (lw_at lw_m7 89 rfl) rfl
theorem q1645 : (Jvm.Cond.static ({ cls := "RepeatFree", name := "thereIs", desc := "(Z)V" } : Jvm.MethodName)) ∈ lw_all := lw_g (lw_at lw_m7 90 rfl) rfl
theorem q1646 : (Jvm.Cond.code ({ cls := "RepeatFree", name := "thereIs", desc := "(Z)V" } : Jvm.MethodName) prog_1_method_6_code (1 : Nat) (Option.none : Option Jvm.ClassFile.FieldType)) ∈ lw_all := lw_g (lw_at lw_m7 91 rfl) rfl
theorem q1647 : (Jvm.Cond.classLink "RepeatFree" (13 : Nat) "java/util/NoSuchElementException") ∈ lw_all := lw_g (lw_at lw_m7 92 rfl) rfl
theorem q1648 : (Jvm.Cond.methodLink "RepeatFree" (15 : Nat) ({ cls := "java/util/NoSuchElementException", name := "<init>", desc := "()V" } : Jvm.MethodName)) ∈ lw_all := lw_g (lw_at lw_m7 93 rfl) rfl
theorem q1653 : (Jvm.Cond.instanceMethod ({ cls := "RepeatFree", name := "run", desc := "(II)I" } : Jvm.MethodName)) ∈ lw_all := lw_g (lw_at lw_m7 98 rfl) rfl
theorem q1654 : (Jvm.Cond.selects "RepeatFree" ({ cls := "RepeatFree", name := "run", desc := "(II)I" } : Jvm.MethodName) ({ cls := "RepeatFree", name := "run", desc := "(II)I" } : Jvm.MethodName)) ∈ lw_all := lw_g (lw_at lw_m7 99 rfl) rfl
theorem q1655 : (Jvm.Cond.code ({ cls := "RepeatFree", name := "run", desc := "(II)I" } : Jvm.MethodName) prog_1_method_33_code (5 : Nat) (Option.some Jvm.ClassFile.FieldType.int)) ∈ lw_all := lw_g (lw_at lw_m7 100 rfl) rfl
theorem q1656 : (Jvm.Cond.methodLink "RepeatFree" (263 : Nat) ({ cls := "RepeatFree", name := "runs", desc := "()Ljava/util/LinkedList;" } : Jvm.MethodName)) ∈ lw_all := lw_g (lw_at lw_m7 101 rfl) rfl
theorem q1657 : (Jvm.Cond.privateMethod ({ cls := "RepeatFree", name := "runs", desc := "()Ljava/util/LinkedList;" } : Jvm.MethodName)) ∈ lw_tbl := lw_at lw_m7 102 rfl
theorem q1658 : (Jvm.Cond.instanceMethod ({ cls := "RepeatFree", name := "runs", desc := "()Ljava/util/LinkedList;" } : Jvm.MethodName)) ∈ lw_all := lw_g (lw_at lw_m7 103 rfl) rfl
theorem q1659 : (Jvm.Cond.code ({ cls := "RepeatFree", name := "runs", desc := "()Ljava/util/LinkedList;" } : Jvm.MethodName) prog_1_method_32_code (6 : Nat) (Option.some (Jvm.ClassFile.FieldType.object "java/util/LinkedList"))) ∈ lw_all := lw_g (lw_at lw_m7 104 rfl) rfl
theorem q1660 : (Jvm.Cond.classLink "RepeatFree" (105 : Nat) "java/util/LinkedList") ∈ lw_all := lw_g (lw_at lw_m7 105 rfl) rfl
theorem q1661 : (Jvm.Cond.methodLink "RepeatFree" (220 : Nat) ({ cls := "java/util/LinkedList", name := "<init>", desc := "()V" } : Jvm.MethodName)) ∈ lw_all := lw_g (lw_at lw_m7 106 rfl) rfl
theorem q1662 : (Jvm.Cond.classLink "RepeatFree" (221 : Nat) "java/util/BitSet") ∈ lw_all := lw_g (lw_at lw_m7 107 rfl) rfl
theorem q1664 : (Jvm.Cond.methodLink "RepeatFree" (223 : Nat) ({ cls := "java/util/BitSet", name := "<init>", desc := "()V" } : Jvm.MethodName)) ∈ lw_all := lw_g (lw_at lw_m7 109 rfl) rfl
theorem q1686 : (Jvm.Cond.methodLink "RepeatFree" (224 : Nat) ({ cls := "java/util/BitSet", name := "set", desc := "(I)V" } : Jvm.MethodName)) ∈ lw_all := lw_g (lw_at lw_m7 131 rfl) rfl
theorem q1721 : (Jvm.Cond.methodLink "RepeatFree" (227 : Nat) ({ cls := "java/util/BitSet", name := "nextSetBit", desc := "(I)I" } : Jvm.MethodName)) ∈ lw_all := lw_g (lw_at lw_m7 166 rfl) rfl
theorem q1734 : (Jvm.Cond.methodLink "RepeatFree" (230 : Nat) ({ cls := "java/util/BitSet", name := "nextClearBit", desc := "(I)I" } : Jvm.MethodName)) ∈ lw_all := lw_g (lw_at lw_m7 179 rfl) rfl
theorem q1738 : (Jvm.Cond.classLink "RepeatFree" (233 : Nat) "RepeatFree$Run") ∈ lw_all := lw_g (lw_at lw_m7 183 rfl) rfl
theorem q1740 : (Jvm.Cond.methodLink "RepeatFree" (235 : Nat) ({ cls := "RepeatFree$Run", name := "<init>", desc := "(III)V" } : Jvm.MethodName)) ∈ lw_all := lw_g (lw_at lw_m7 185 rfl) rfl
theorem q1745 : (Jvm.Cond.fieldLinkNest "RepeatFree" (242 : Nat) "RepeatFree$Run" "place" "I" "RepeatFree") ∈ lw_tbl := lw_at lw_m7 190 rfl
theorem q1747 : (Jvm.Cond.fieldLinkNest "RepeatFree" (243 : Nat) "RepeatFree$Run" "size" "I" "RepeatFree") ∈ lw_tbl := lw_at lw_m7 192 rfl
theorem q1749 : (Jvm.Cond.fieldLinkNest "RepeatFree" (245 : Nat) "RepeatFree$Run" "period" "I" "RepeatFree") ∈ lw_tbl := lw_at lw_m7 194 rfl
theorem q1757 : (Jvm.Cond.methodLink "RepeatFree" (238 : Nat) ({ cls := "java/util/LinkedList", name := "add", desc := "(Ljava/lang/Object;)Z" } : Jvm.MethodName)) ∈ lw_all := lw_g (lw_at lw_m7 202 rfl) rfl
theorem q1758 : (Jvm.Cond.interfaceEntry "RepeatFree" (248 : Nat)) ∈ lw_tbl := lw_at lw_m7 203 rfl
theorem q1759 : (Jvm.Cond.methodLink "RepeatFree" (248 : Nat) ({ cls := "java/util/Iterator", name := "remove", desc := "()V" } : Jvm.MethodName)) ∈ lw_all := lw_g (lw_at lw_m7 204 rfl) rfl
theorem q1803 : (Jvm.Cond.methodLink "RepeatFree" (252 : Nat) ({ cls := "java/util/LinkedList", name := "get", desc := "(I)Ljava/lang/Object;" } : Jvm.MethodName)) ∈ lw_all := lw_g (lw_at lw_m8 8 rfl) rfl
theorem q1804 : (Jvm.Cond.methodLink "RepeatFree" (256 : Nat) ({ cls := "RepeatFree$Run", name := "compareTo", desc := "(LRepeatFree$Run;)I" } : Jvm.MethodName)) ∈ lw_all := lw_g (lw_at lw_m8 9 rfl) rfl
theorem q1811 : (Jvm.Cond.methodLink "RepeatFree" (260 : Nat) ({ cls := "java/util/LinkedList", name := "add", desc := "(ILjava/lang/Object;)V" } : Jvm.MethodName)) ∈ lw_all := lw_g (lw_at lw_m8 16 rfl) rfl
theorem q1823 : (Jvm.Cond.instanceMethod ({ cls := "RepeatFree", name := "factors", desc := "(I)I" } : Jvm.MethodName)) ∈ lw_all := lw_g (lw_at lw_m8 28 rfl) rfl
theorem q1824 : (Jvm.Cond.selects "RepeatFree" ({ cls := "RepeatFree", name := "factors", desc := "(I)I" } : Jvm.MethodName) ({ cls := "RepeatFree", name := "factors", desc := "(I)I" } : Jvm.MethodName)) ∈ lw_all := lw_g (lw_at lw_m8 29 rfl) rfl
theorem q1825 : (Jvm.Cond.code ({ cls := "RepeatFree", name := "factors", desc := "(I)I" } : Jvm.MethodName) prog_1_method_34_code (6 : Nat) (Option.some Jvm.ClassFile.FieldType.int)) ∈ lw_all := lw_g (lw_at lw_m8 30 rfl) rfl
theorem q1826 : (Jvm.Cond.constantLong "RepeatFree" (267 : Nat) (64 : Int64)) ∈ lw_all := lw_g (lw_at lw_m8 31 rfl) rfl
theorem q1827 : (Jvm.Cond.methodLink "RepeatFree" (269 : Nat) ({ cls := "RepeatFree$Word", name := "isSame", desc := "(III)Z" } : Jvm.MethodName)) ∈ lw_all := lw_g (lw_at lw_m8 32 rfl) rfl
theorem q1848 : (Jvm.Cond.instanceMethod ({ cls := "RepeatFree", name := "met", desc := "(II)I" } : Jvm.MethodName)) ∈ lw_all := lw_g (lw_at lw_m8 53 rfl) rfl
theorem q1849 : (Jvm.Cond.selects "RepeatFree" ({ cls := "RepeatFree", name := "met", desc := "(II)I" } : Jvm.MethodName) ({ cls := "RepeatFree", name := "met", desc := "(II)I" } : Jvm.MethodName)) ∈ lw_all := lw_g (lw_at lw_m8 54 rfl) rfl
theorem q1850 : (Jvm.Cond.code ({ cls := "RepeatFree", name := "met", desc := "(II)I" } : Jvm.MethodName) prog_1_method_83_code (5 : Nat) (Option.some Jvm.ClassFile.FieldType.int)) ∈ lw_all := lw_g (lw_at lw_m8 55 rfl) rfl
theorem q1851 : (Jvm.Cond.methodLink "RepeatFree" (329 : Nat) ({ cls := "RepeatFree", name := "patternAt", desc := "(I)LRepeatFree$Pattern;" } : Jvm.MethodName)) ∈ lw_all := lw_g (lw_at lw_m8 56 rfl) rfl
theorem q1852 : (Jvm.Cond.privateMethod ({ cls := "RepeatFree", name := "patternAt", desc := "(I)LRepeatFree$Pattern;" } : Jvm.MethodName)) ∈ lw_tbl := lw_at lw_m8 57 rfl
theorem q1853 : (Jvm.Cond.instanceMethod ({ cls := "RepeatFree", name := "patternAt", desc := "(I)LRepeatFree$Pattern;" } : Jvm.MethodName)) ∈ lw_all := lw_g (lw_at lw_m8 58 rfl) rfl
theorem q1854 : (Jvm.Cond.code ({ cls := "RepeatFree", name := "patternAt", desc := "(I)LRepeatFree$Pattern;" } : Jvm.MethodName) prog_1_method_82_code (2 : Nat) (Option.some (Jvm.ClassFile.FieldType.object "RepeatFree$Pattern"))) ∈ lw_all := lw_g (lw_at lw_m8 59 rfl) rfl
theorem q1855 : (Jvm.Cond.methodLink "RepeatFree" (342 : Nat) ({ cls := "RepeatFree", name := "mustBe", desc := "(Z)V" } : Jvm.MethodName)) ∈ lw_all := lw_g (lw_at lw_m8 60 rfl) rfl
theorem q1856 : (Jvm.Cond.static ({ cls := "RepeatFree", name := "mustBe", desc := "(Z)V" } : Jvm.MethodName)) ∈ lw_all := lw_g (lw_at lw_m8 61 rfl) rfl
theorem q1857 : (Jvm.Cond.code ({ cls := "RepeatFree", name := "mustBe", desc := "(Z)V" } : Jvm.MethodName) prog_1_method_5_code (1 : Nat) (Option.none : Option Jvm.ClassFile.FieldType)) ∈ lw_all := lw_g (lw_at lw_m8 62 rfl) rfl
theorem q1858 : (Jvm.Cond.classLink "RepeatFree" (10 : Nat) "java/lang/IndexOutOfBoundsException") ∈ lw_all := lw_g (lw_at lw_m8 63 rfl) rfl
theorem q1859 : (Jvm.Cond.methodLink "RepeatFree" (12 : Nat) ({ cls := "java/lang/IndexOutOfBoundsException", name := "<init>", desc := "()V" } : Jvm.MethodName)) ∈ lw_all := lw_g (lw_at lw_m8 64 rfl) rfl
theorem q1863 : (Jvm.Cond.constantLong "RepeatFree" (442 : Nat) (3 : Int64)) ∈ lw_all := lw_g (lw_at lw_m8 68 rfl) rfl
theorem q1864 : (Jvm.Cond.methodLink "RepeatFree" (444 : Nat) ({ cls := "RepeatFree$Pattern", name := "firstIn", desc := "(LRepeatFree$Word;)I" } : Jvm.MethodName)) ∈ lw_all := lw_g (lw_at lw_m8 69 rfl) rfl
theorem q1868 : (Jvm.Cond.methodLink "RepeatFree" (447 : Nat) ({ cls := "RepeatFree$Pattern", name := "sizesIn", desc := "(LRepeatFree$Word;I)[I" } : Jvm.MethodName)) ∈ lw_all := lw_g (lw_at lw_m8 73 rfl) rfl
theorem q1877 : (Jvm.Cond.static ({ cls := "RepeatFree", name := "has", desc := "(II)Z" } : Jvm.MethodName)) ∈ lw_all := lw_g (lw_at lw_m8 82 rfl) rfl
theorem q1878 : (Jvm.Cond.code ({ cls := "RepeatFree", name := "has", desc := "(II)Z" } : Jvm.MethodName) prog_1_method_2_code (2 : Nat) (Option.some Jvm.ClassFile.FieldType.boolean)) ∈ lw_all := lw_g (lw_at lw_m8 83 rfl) rfl
theorem q1887 : (Jvm.Cond.instanceMethod ({ cls := "RepeatFree", name := "first", desc := "(I)I" } : Jvm.MethodName)) ∈ lw_all := lw_g (lw_at lw_m8 92 rfl) rfl
theorem q1888 : (Jvm.Cond.selects "RepeatFree" ({ cls := "RepeatFree", name := "first", desc := "(I)I" } : Jvm.MethodName) ({ cls := "RepeatFree", name := "first", desc := "(I)I" } : Jvm.MethodName)) ∈ lw_all := lw_g (lw_at lw_m8 93 rfl) rfl
theorem q1889 : (Jvm.Cond.code ({ cls := "RepeatFree", name := "first", desc := "(I)I" } : Jvm.MethodName) prog_1_method_39_code (3 : Nat) (Option.some Jvm.ClassFile.FieldType.int)) ∈ lw_all := lw_g (lw_at lw_m8 94 rfl) rfl
theorem q1890 : (Jvm.Cond.constantLong "RepeatFree" (293 : Nat) (40 : Int64)) ∈ lw_all := lw_g (lw_at lw_m8 95 rfl) rfl
theorem q1895 : (Jvm.Cond.instanceMethod ({ cls := "RepeatFree", name := "next", desc := "()I" } : Jvm.MethodName)) ∈ lw_all := lw_g (lw_at lw_m8 100 rfl) rfl
theorem q1896 : (Jvm.Cond.selects "RepeatFree" ({ cls := "RepeatFree", name := "next", desc := "()I" } : Jvm.MethodName) ({ cls := "RepeatFree", name := "next", desc := "()I" } : Jvm.MethodName)) ∈ lw_all := lw_g (lw_at lw_m8 101 rfl) rfl
theorem q1897 : (Jvm.Cond.code ({ cls := "RepeatFree", name := "next", desc := "()I" } : Jvm.MethodName) prog_1_method_40_code (7 : Nat) (Option.some Jvm.ClassFile.FieldType.int)) ∈ lw_all := lw_g (lw_at lw_m8 102 rfl) rfl
theorem q1902 : (Jvm.Cond.instanceMethod ({ cls := "RepeatFree", name := "many", desc := "(I)I" } : Jvm.MethodName)) ∈ lw_all := lw_g (lw_at lw_m8 107 rfl) rfl
theorem q1903 : (Jvm.Cond.selects "RepeatFree" ({ cls := "RepeatFree", name := "many", desc := "(I)I" } : Jvm.MethodName) ({ cls := "RepeatFree", name := "many", desc := "(I)I" } : Jvm.MethodName)) ∈ lw_all := lw_g (lw_at lw_m8 108 rfl) rfl
theorem q1904 : (Jvm.Cond.code ({ cls := "RepeatFree", name := "many", desc := "(I)I" } : Jvm.MethodName) prog_1_method_42_code (2 : Nat) (Option.some Jvm.ClassFile.FieldType.int)) ∈ lw_all := lw_g (lw_at lw_m8 109 rfl) rfl
theorem q1905 : (Jvm.Cond.methodLink "RepeatFree" (304 : Nat) ({ cls := "RepeatFree", name := "howMany", desc := "(I)I" } : Jvm.MethodName)) ∈ lw_all := lw_g (lw_at lw_m8 110 rfl) rfl
theorem q1906 : (Jvm.Cond.privateMethod ({ cls := "RepeatFree", name := "howMany", desc := "(I)I" } : Jvm.MethodName)) ∈ lw_tbl := lw_at lw_m8 111 rfl
theorem q1907 : (Jvm.Cond.instanceMethod ({ cls := "RepeatFree", name := "howMany", desc := "(I)I" } : Jvm.MethodName)) ∈ lw_all := lw_g (lw_at lw_m8 112 rfl) rfl
theorem q1908 : (Jvm.Cond.code ({ cls := "RepeatFree", name := "howMany", desc := "(I)I" } : Jvm.MethodName) prog_1_method_41_code (5 : Nat) (Option.some Jvm.ClassFile.FieldType.int)) ∈ lw_all := lw_g (lw_at lw_m8 113 rfl) rfl
theorem q1909 : (Jvm.Cond.methodLink "RepeatFree" (301 : Nat) ({ cls := "RepeatFree$Search", name := "findsNext", desc := "(II)Z" } : Jvm.MethodName)) ∈ lw_all := lw_g (lw_at lw_m8 114 rfl) rfl
theorem q1918 : (Jvm.Cond.instanceMethod ({ cls := "RepeatFree", name := "growth", desc := "(I)I" } : Jvm.MethodName)) ∈ lw_all := lw_g (lw_at lw_m8 123 rfl) rfl
theorem q1919 : (Jvm.Cond.selects "RepeatFree" ({ cls := "RepeatFree", name := "growth", desc := "(I)I" } : Jvm.MethodName) ({ cls := "RepeatFree", name := "growth", desc := "(I)I" } : Jvm.MethodName)) ∈ lw_all := lw_g (lw_at lw_m8 124 rfl) rfl
theorem q1920 : (Jvm.Cond.code ({ cls := "RepeatFree", name := "growth", desc := "(I)I" } : Jvm.MethodName) prog_1_method_44_code (4 : Nat) (Option.some Jvm.ClassFile.FieldType.int)) ∈ lw_all := lw_g (lw_at lw_m8 125 rfl) rfl
theorem q1921 : (Jvm.Cond.constantLong "RepeatFree" (307 : Nat) (39 : Int64)) ∈ lw_all := lw_g (lw_at lw_m8 126 rfl) rfl
theorem q1926 : (Jvm.Cond.instanceMethod ({ cls := "RepeatFree", name := "image", desc := "(I)I" } : Jvm.MethodName)) ∈ lw_all := lw_g (lw_at lw_m8 131 rfl) rfl
theorem q1927 : (Jvm.Cond.selects "RepeatFree" ({ cls := "RepeatFree", name := "image", desc := "(I)I" } : Jvm.MethodName) ({ cls := "RepeatFree", name := "image", desc := "(I)I" } : Jvm.MethodName)) ∈ lw_all := lw_g (lw_at lw_m8 132 rfl) rfl
theorem q1928 : (Jvm.Cond.code ({ cls := "RepeatFree", name := "image", desc := "(I)I" } : Jvm.MethodName) prog_1_method_60_code (3 : Nat) (Option.some Jvm.ClassFile.FieldType.int)) ∈ lw_all := lw_g (lw_at lw_m8 133 rfl) rfl
theorem q1929 : (Jvm.Cond.methodLink "RepeatFree" (351 : Nat) ({ cls := "RepeatFree", name := "mapAt", desc := "(I)LRepeatFree$Mapping;" } : Jvm.MethodName)) ∈ lw_all := lw_g (lw_at lw_m8 134 rfl) rfl
theorem q1930 : (Jvm.Cond.privateMethod ({ cls := "RepeatFree", name := "mapAt", desc := "(I)LRepeatFree$Mapping;" } : Jvm.MethodName)) ∈ lw_tbl := lw_at lw_m8 135 rfl
theorem q1931 : (Jvm.Cond.instanceMethod ({ cls := "RepeatFree", name := "mapAt", desc := "(I)LRepeatFree$Mapping;" } : Jvm.MethodName)) ∈ lw_all := lw_g (lw_at lw_m8 136 rfl) rfl
theorem q1932 : (Jvm.Cond.code ({ cls := "RepeatFree", name := "mapAt", desc := "(I)LRepeatFree$Mapping;" } : Jvm.MethodName) prog_1_method_58_code (2 : Nat) (Option.some (Jvm.ClassFile.FieldType.object "RepeatFree$Mapping"))) ∈ lw_all := lw_g (lw_at lw_m8 137 rfl) rfl
theorem q1933 : (Jvm.Cond.classLink "RepeatFree" (345 : Nat) "RepeatFree$Mapping") ∈ lw_all := lw_g (lw_at lw_m8 138 rfl) rfl
theorem q1934 : (Jvm.Cond.methodLink "RepeatFree" (355 : Nat) ({ cls := "RepeatFree", name := "laysImage", desc := "(LRepeatFree$Mapping;LRepeatFree$Word;)Z" } : Jvm.MethodName)) ∈ lw_all := lw_g (lw_at lw_m8 139 rfl) rfl
theorem q1935 : (Jvm.Cond.privateMethod ({ cls := "RepeatFree", name := "laysImage", desc := "(LRepeatFree$Mapping;LRepeatFree$Word;)Z" } : Jvm.MethodName)) ∈ lw_tbl := lw_at lw_m8 140 rfl
theorem q1936 : (Jvm.Cond.instanceMethod ({ cls := "RepeatFree", name := "laysImage", desc := "(LRepeatFree$Mapping;LRepeatFree$Word;)Z" } : Jvm.MethodName)) ∈ lw_all := lw_g (lw_at lw_m8 141 rfl) rfl
theorem q1937 : (Jvm.Cond.code ({ cls := "RepeatFree", name := "laysImage", desc := "(LRepeatFree$Mapping;LRepeatFree$Word;)Z" } : Jvm.MethodName) prog_1_method_59_code (6 : Nat) (Option.some Jvm.ClassFile.FieldType.boolean)) ∈ lw_all := lw_g (lw_at lw_m8 142 rfl) rfl
theorem q1942 : (Jvm.Cond.instanceMethod ({ cls := "RepeatFree", name := "imaged", desc := "(III)I" } : Jvm.MethodName)) ∈ lw_all := lw_g (lw_at lw_m8 147 rfl) rfl
theorem q1943 : (Jvm.Cond.selects "RepeatFree" ({ cls := "RepeatFree", name := "imaged", desc := "(III)I" } : Jvm.MethodName) ({ cls := "RepeatFree", name := "imaged", desc := "(III)I" } : Jvm.MethodName)) ∈ lw_all := lw_g (lw_at lw_m8 148 rfl) rfl
theorem q1944 : (Jvm.Cond.code ({ cls := "RepeatFree", name := "imaged", desc := "(III)I" } : Jvm.MethodName) prog_1_method_61_code (6 : Nat) (Option.some Jvm.ClassFile.FieldType.int)) ∈ lw_all := lw_g (lw_at lw_m8 149 rfl) rfl
theorem q1949 : (Jvm.Cond.instanceMethod ({ cls := "RepeatFree", name := "length", desc := "(III)J" } : Jvm.MethodName)) ∈ lw_all := lw_g (lw_at lw_m8 154 rfl) rfl
theorem q1950 : (Jvm.Cond.selects "RepeatFree" ({ cls := "RepeatFree", name := "length", desc := "(III)J" } : Jvm.MethodName) ({ cls := "RepeatFree", name := "length", desc := "(III)J" } : Jvm.MethodName)) ∈ lw_all := lw_g (lw_at lw_m8 155 rfl) rfl
theorem q1951 : (Jvm.Cond.code ({ cls := "RepeatFree", name := "length", desc := "(III)J" } : Jvm.MethodName) prog_1_method_65_code (4 : Nat) (Option.some Jvm.ClassFile.FieldType.long)) ∈ lw_all := lw_g (lw_at lw_m8 156 rfl) rfl
theorem q1952 : (Jvm.Cond.methodLink "RepeatFree" (365 : Nat) ({ cls := "RepeatFree", name := "power", desc := "(III)LRepeatFree$Mapping;" } : Jvm.MethodName)) ∈ lw_all := lw_g (lw_at lw_m8 157 rfl) rfl
theorem q1953 : (Jvm.Cond.privateMethod ({ cls := "RepeatFree", name := "power", desc := "(III)LRepeatFree$Mapping;" } : Jvm.MethodName)) ∈ lw_tbl := lw_at lw_m8 158 rfl
theorem q1954 : (Jvm.Cond.instanceMethod ({ cls := "RepeatFree", name := "power", desc := "(III)LRepeatFree$Mapping;" } : Jvm.MethodName)) ∈ lw_all := lw_g (lw_at lw_m8 159 rfl) rfl
theorem q1955 : (Jvm.Cond.code ({ cls := "RepeatFree", name := "power", desc := "(III)LRepeatFree$Mapping;" } : Jvm.MethodName) prog_1_method_64_code (5 : Nat) (Option.some (Jvm.ClassFile.FieldType.object "RepeatFree$Mapping"))) ∈ lw_all := lw_g (lw_at lw_m8 160 rfl) rfl
theorem q1956 : (Jvm.Cond.constantLong "RepeatFree" (363 : Nat) (12 : Int64)) ∈ lw_all := lw_g (lw_at lw_m8 161 rfl) rfl
theorem q1957 : (Jvm.Cond.methodLink "RepeatFree" (369 : Nat) ({ cls := "RepeatFree", name := "counts", desc := "(LRepeatFree$Mapping;II)[J" } : Jvm.MethodName)) ∈ lw_all := lw_g (lw_at lw_m8 162 rfl) rfl
theorem q1958 : (Jvm.Cond.privateMethod ({ cls := "RepeatFree", name := "counts", desc := "(LRepeatFree$Mapping;II)[J" } : Jvm.MethodName)) ∈ lw_tbl := lw_at lw_m8 163 rfl
theorem q1959 : (Jvm.Cond.instanceMethod ({ cls := "RepeatFree", name := "counts", desc := "(LRepeatFree$Mapping;II)[J" } : Jvm.MethodName)) ∈ lw_all := lw_g (lw_at lw_m8 164 rfl) rfl
theorem q1960 : (Jvm.Cond.code ({ cls := "RepeatFree", name := "counts", desc := "(LRepeatFree$Mapping;II)[J" } : Jvm.MethodName) prog_1_method_62_code (10 : Nat) (Option.some (Jvm.ClassFile.FieldType.array Jvm.ClassFile.FieldType.long))) ∈ lw_all := lw_g (lw_at lw_m8 165 rfl) rfl
theorem q1961 : (Jvm.Cond.methodLink "RepeatFree" (359 : Nat) ({ cls := "RepeatFree$Mapping", name := "counts", desc := "(I)[J" } : Jvm.MethodName)) ∈ lw_all := lw_g (lw_at lw_m8 166 rfl) rfl
theorem q1965 : (Jvm.Cond.methodLink "RepeatFree" (372 : Nat) ({ cls := "RepeatFree", name := "sum", desc := "([J)J" } : Jvm.MethodName)) ∈ lw_all := lw_g (lw_at lw_m8 170 rfl) rfl
theorem q1966 : (Jvm.Cond.static ({ cls := "RepeatFree", name := "sum", desc := "([J)J" } : Jvm.MethodName)) ∈ lw_all := lw_g (lw_at lw_m8 171 rfl) rfl
theorem q1967 : (Jvm.Cond.code ({ cls := "RepeatFree", name := "sum", desc := "([J)J" } : Jvm.MethodName) prog_1_method_63_code (8 : Nat) (Option.some Jvm.ClassFile.FieldType.long)) ∈ lw_all := lw_g (lw_at lw_m8 172 rfl) rfl
theorem q1972 : (Jvm.Cond.instanceMethod ({ cls := "RepeatFree", name := "power", desc := "(IIIJ)I" } : Jvm.MethodName)) ∈ lw_all := lw_g (lw_at lw_m8 177 rfl) rfl
theorem q1973 : (Jvm.Cond.selects "RepeatFree" ({ cls := "RepeatFree", name := "power", desc := "(IIIJ)I" } : Jvm.MethodName) ({ cls := "RepeatFree", name := "power", desc := "(IIIJ)I" } : Jvm.MethodName)) ∈ lw_all := lw_g (lw_at lw_m8 178 rfl) rfl
theorem q1974 : (Jvm.Cond.code ({ cls := "RepeatFree", name := "power", desc := "(IIIJ)I" } : Jvm.MethodName) prog_1_method_66_code (15 : Nat) (Option.some Jvm.ClassFile.FieldType.int)) ∈ lw_all := lw_g (lw_at lw_m8 179 rfl) rfl
theorem q1979 : (Jvm.Cond.instanceMethod ({ cls := "RepeatFree", name := "often", desc := "(IIII)J" } : Jvm.MethodName)) ∈ lw_all := lw_g (lw_at lw_m8 184 rfl) rfl
theorem q1980 : (Jvm.Cond.selects "RepeatFree" ({ cls := "RepeatFree", name := "often", desc := "(IIII)J" } : Jvm.MethodName) ({ cls := "RepeatFree", name := "often", desc := "(IIII)J" } : Jvm.MethodName)) ∈ lw_all := lw_g (lw_at lw_m8 185 rfl) rfl
theorem q1981 : (Jvm.Cond.code ({ cls := "RepeatFree", name := "often", desc := "(IIII)J" } : Jvm.MethodName) prog_1_method_67_code (6 : Nat) (Option.some Jvm.ClassFile.FieldType.long)) ∈ lw_all := lw_g (lw_at lw_m8 186 rfl) rfl
theorem q1986 : (Jvm.Cond.instanceMethod ({ cls := "RepeatFree", name := "keeps", desc := "(II)I" } : Jvm.MethodName)) ∈ lw_all := lw_g (lw_at lw_m8 191 rfl) rfl
theorem q1987 : (Jvm.Cond.selects "RepeatFree" ({ cls := "RepeatFree", name := "keeps", desc := "(II)I" } : Jvm.MethodName) ({ cls := "RepeatFree", name := "keeps", desc := "(II)I" } : Jvm.MethodName)) ∈ lw_all := lw_g (lw_at lw_m8 192 rfl) rfl
theorem q1988 : (Jvm.Cond.code ({ cls := "RepeatFree", name := "keeps", desc := "(II)I" } : Jvm.MethodName) prog_1_method_71_code (4 : Nat) (Option.some Jvm.ClassFile.FieldType.int)) ∈ lw_all := lw_g (lw_at lw_m8 193 rfl) rfl
theorem q1989 : (Jvm.Cond.methodLink "RepeatFree" (385 : Nat) ({ cls := "RepeatFree", name := "breaks", desc := "(II)I" } : Jvm.MethodName)) ∈ lw_all := lw_g (lw_at lw_m8 194 rfl) rfl
theorem q1990 : (Jvm.Cond.instanceMethod ({ cls := "RepeatFree", name := "breaks", desc := "(II)I" } : Jvm.MethodName)) ∈ lw_all := lw_g (lw_at lw_m8 195 rfl) rfl
theorem q1991 : (Jvm.Cond.selects "RepeatFree" ({ cls := "RepeatFree", name := "breaks", desc := "(II)I" } : Jvm.MethodName) ({ cls := "RepeatFree", name := "breaks", desc := "(II)I" } : Jvm.MethodName)) ∈ lw_all := lw_g (lw_at lw_m8 196 rfl) rfl
theorem q1992 : (Jvm.Cond.code ({ cls := "RepeatFree", name := "breaks", desc := "(II)I" } : Jvm.MethodName) prog_1_method_70_code (4 : Nat) (Option.some Jvm.ClassFile.FieldType.int)) ∈ lw_all := lw_g (lw_at lw_m8 197 rfl) rfl
theorem q1993 : (Jvm.Cond.constantLong "RepeatFree" (379 : Nat) (6 : Int64)) ∈ lw_all := lw_g (lw_at lw_m8 198 rfl) rfl
theorem q1994 : (Jvm.Cond.methodLink "RepeatFree" (381 : Nat) ({ cls := "RepeatFree", name := "breaksBy", desc := "(LRepeatFree$Mapping;I)I" } : Jvm.MethodName)) ∈ lw_all := lw_g (lw_at lw_m8 199 rfl) rfl
theorem q1995 : (Jvm.Cond.privateMethod ({ cls := "RepeatFree", name := "breaksBy", desc := "(LRepeatFree$Mapping;I)I" } : Jvm.MethodName)) ∈ lw_tbl := lw_at lw_m8 200 rfl
theorem q1996 : (Jvm.Cond.instanceMethod ({ cls := "RepeatFree", name := "breaksBy", desc := "(LRepeatFree$Mapping;I)I" } : Jvm.MethodName)) ∈ lw_all := lw_g (lw_at lw_m8 201 rfl) rfl
theorem q1997 : (Jvm.Cond.code ({ cls := "RepeatFree", name := "breaksBy", desc := "(LRepeatFree$Mapping;I)I" } : Jvm.MethodName) prog_1_method_68_code (7 : Nat) (Option.some Jvm.ClassFile.FieldType.int)) ∈ lw_all := lw_g (lw_at lw_m8 202 rfl) rfl
theorem q1998 : (Jvm.Cond.methodLink "RepeatFree" (376 : Nat) ({ cls := "RepeatFree", name := "figures", desc := "(LRepeatFree$Word;)I" } : Jvm.MethodName)) ∈ lw_all := lw_g (lw_at lw_m8 203 rfl) rfl
theorem q1999 : (Jvm.Cond.static ({ cls := "RepeatFree", name := "figures", desc := "(LRepeatFree$Word;)I" } : Jvm.MethodName)) ∈ lw_all := lw_g (lw_at lw_m8 204 rfl) rfl
theorem q2000 : (Jvm.Cond.code ({ cls := "RepeatFree", name := "figures", desc := "(LRepeatFree$Word;)I" } : Jvm.MethodName) prog_1_method_69_code (3 : Nat) (Option.some Jvm.ClassFile.FieldType.int)) ∈ lw_all := lw_g (lw_at lw_m8 205 rfl) rfl
theorem q2009 : (Jvm.Cond.instanceMethod ({ cls := "RepeatFree", name := "grows", desc := "(I)I" } : Jvm.MethodName)) ∈ lw_all := lw_g (lw_at lw_m8 214 rfl) rfl
theorem q2010 : (Jvm.Cond.selects "RepeatFree" ({ cls := "RepeatFree", name := "grows", desc := "(I)I" } : Jvm.MethodName) ({ cls := "RepeatFree", name := "grows", desc := "(I)I" } : Jvm.MethodName)) ∈ lw_all := lw_g (lw_at lw_m8 215 rfl) rfl
theorem q2011 : (Jvm.Cond.code ({ cls := "RepeatFree", name := "grows", desc := "(I)I" } : Jvm.MethodName) prog_1_method_72_code (5 : Nat) (Option.some Jvm.ClassFile.FieldType.int)) ∈ lw_all := lw_g (lw_at lw_m8 216 rfl) rfl
theorem q2016 : (Jvm.Cond.instanceMethod ({ cls := "RepeatFree", name := "uniform", desc := "(I)I" } : Jvm.MethodName)) ∈ lw_all := lw_g (lw_at lw_m8 221 rfl) rfl
theorem q2017 : (Jvm.Cond.selects "RepeatFree" ({ cls := "RepeatFree", name := "uniform", desc := "(I)I" } : Jvm.MethodName) ({ cls := "RepeatFree", name := "uniform", desc := "(I)I" } : Jvm.MethodName)) ∈ lw_all := lw_g (lw_at lw_m8 222 rfl) rfl
theorem q2018 : (Jvm.Cond.code ({ cls := "RepeatFree", name := "uniform", desc := "(I)I" } : Jvm.MethodName) prog_1_method_73_code (4 : Nat) (Option.some Jvm.ClassFile.FieldType.int)) ∈ lw_all := lw_g (lw_at lw_m8 223 rfl) rfl
theorem q2023 : (Jvm.Cond.instanceMethod ({ cls := "RepeatFree", name := "cannot", desc := "(I)Z" } : Jvm.MethodName)) ∈ lw_all := lw_g (lw_at lw_m8 228 rfl) rfl
theorem q2024 : (Jvm.Cond.selects "RepeatFree" ({ cls := "RepeatFree", name := "cannot", desc := "(I)Z" } : Jvm.MethodName) ({ cls := "RepeatFree", name := "cannot", desc := "(I)Z" } : Jvm.MethodName)) ∈ lw_all := lw_g (lw_at lw_m8 229 rfl) rfl
theorem q2025 : (Jvm.Cond.code ({ cls := "RepeatFree", name := "cannot", desc := "(I)Z" } : Jvm.MethodName) prog_1_method_90_code (2 : Nat) (Option.some Jvm.ClassFile.FieldType.boolean)) ∈ lw_all := lw_g (lw_at lw_m8 230 rfl) rfl
theorem q2026 : (Jvm.Cond.methodLink "RepeatFree" (482 : Nat) ({ cls := "RepeatFree", name := "cannot", desc := "(Ljava/lang/String;)Z" } : Jvm.MethodName)) ∈ lw_all := lw_g (lw_at lw_m8 231 rfl) rfl
theorem q2027 : (Jvm.Cond.static ({ cls := "RepeatFree", name := "cannot", desc := "(Ljava/lang/String;)Z" } : Jvm.MethodName)) ∈ lw_all := lw_g (lw_at lw_m8 232 rfl) rfl
theorem q2028 : (Jvm.Cond.code ({ cls := "RepeatFree", name := "cannot", desc := "(Ljava/lang/String;)Z" } : Jvm.MethodName) prog_1_method_87_code (3 : Nat) (Option.some Jvm.ClassFile.FieldType.boolean)) ∈ lw_all := lw_g (lw_at lw_m8 233 rfl) rfl
theorem q2029 : (Jvm.Cond.methodLink "RepeatFree" (409 : Nat) ({ cls := "java/lang/String", name := "length", desc := "()I" } : Jvm.MethodName)) ∈ lw_all := lw_g (lw_at lw_m8 234 rfl) rfl
theorem q2030 : (Jvm.Cond.methodLink "RepeatFree" (474 : Nat) ({ cls := "RepeatFree", name := "loose", desc := "(Ljava/lang/String;)Ljava/util/LinkedList;" } : Jvm.MethodName)) ∈ lw_all := lw_g (lw_at lw_m8 235 rfl) rfl
theorem q2031 : (Jvm.Cond.static ({ cls := "RepeatFree", name := "loose", desc := "(Ljava/lang/String;)Ljava/util/LinkedList;" } : Jvm.MethodName)) ∈ lw_all := lw_g (lw_at lw_m8 236 rfl) rfl
theorem q2032 : (Jvm.Cond.code ({ cls := "RepeatFree", name := "loose", desc := "(Ljava/lang/String;)Ljava/util/LinkedList;" } : Jvm.MethodName) prog_1_method_85_code (4 : Nat) (Option.some (Jvm.ClassFile.FieldType.object "java/util/LinkedList"))) ∈ lw_all := lw_g (lw_at lw_m8 237 rfl) rfl
theorem q2033 : (Jvm.Cond.stringRef "RepeatFree" (456 : Nat) "") ∈ lw_tbl := lw_at lw_m8 238 rfl
theorem q2034 : (Jvm.Cond.methodLink "RepeatFree" (458 : Nat) ({ cls := "RepeatFree$Pattern", name := "<init>", desc := "(Ljava/lang/String;Ljava/lang/String;)V" } : Jvm.MethodName)) ∈ lw_all := lw_g (lw_at lw_m8 239 rfl) rfl
theorem q2035 : (Jvm.Cond.methodLink "RepeatFree" (461 : Nat) ({ cls := "RepeatFree$Pattern", name := "letters", desc := "()I" } : Jvm.MethodName)) ∈ lw_all := lw_g (lw_at lw_m9 0 rfl) rfl
theorem q2036 : (Jvm.Cond.methodLink "RepeatFree" (463 : Nat) ({ cls := "java/lang/Integer", name := "valueOf", desc := "(I)Ljava/lang/Integer;" } : Jvm.MethodName)) ∈ lw_all := lw_g (lw_at lw_m9 1 rfl) rfl
theorem q2055 : (Jvm.Cond.classLink "RepeatFree" (313 : Nat) "java/lang/Integer") ∈ lw_all := lw_g (lw_at lw_m9 20 rfl) rfl
theorem q2056 : (Jvm.Cond.methodLink "RepeatFree" (467 : Nat) ({ cls := "java/lang/Integer", name := "intValue", desc := "()I" } : Jvm.MethodName)) ∈ lw_all := lw_g (lw_at lw_m9 21 rfl) rfl
theorem q2057 : (Jvm.Cond.methodLink "RepeatFree" (470 : Nat) ({ cls := "RepeatFree", name := "isLoose", desc := "(Ljava/lang/String;I)Z" } : Jvm.MethodName)) ∈ lw_all := lw_g (lw_at lw_m9 22 rfl) rfl
theorem q2058 : (Jvm.Cond.static ({ cls := "RepeatFree", name := "isLoose", desc := "(Ljava/lang/String;I)Z" } : Jvm.MethodName)) ∈ lw_all := lw_g (lw_at lw_m9 23 rfl) rfl
theorem q2059 : (Jvm.Cond.code ({ cls := "RepeatFree", name := "isLoose", desc := "(Ljava/lang/String;I)Z" } : Jvm.MethodName) prog_1_method_84_code (7 : Nat) (Option.some Jvm.ClassFile.FieldType.boolean)) ∈ lw_all := lw_g (lw_at lw_m9 24 rfl) rfl
theorem q2060 : (Jvm.Cond.methodLink "RepeatFree" (391 : Nat) ({ cls := "RepeatFree", name := "has", desc := "(II)Z" } : Jvm.MethodName)) ∈ lw_all := lw_g (lw_at lw_m9 25 rfl) rfl
theorem q2061 : (Jvm.Cond.methodLink "RepeatFree" (451 : Nat) ({ cls := "java/util/BitSet", name := "cardinality", desc := "()I" } : Jvm.MethodName)) ∈ lw_all := lw_g (lw_at lw_m9 26 rfl) rfl
theorem q2071 : (Jvm.Cond.methodLink "RepeatFree" (414 : Nat) ({ cls := "java/lang/String", name := "charAt", desc := "(I)C" } : Jvm.MethodName)) ∈ lw_all := lw_g (lw_at lw_m9 36 rfl) rfl
theorem q2072 : (Jvm.Cond.methodLink "RepeatFree" (454 : Nat) ({ cls := "java/util/BitSet", name := "get", desc := "(I)Z" } : Jvm.MethodName)) ∈ lw_all := lw_g (lw_at lw_m9 37 rfl) rfl
theorem q2076 : (Jvm.Cond.methodLink "RepeatFree" (478 : Nat) ({ cls := "RepeatFree", name := "without", desc := "(Ljava/lang/String;I)Ljava/lang/String;" } : Jvm.MethodName)) ∈ lw_all := lw_g (lw_at lw_m9 41 rfl) rfl
theorem q2077 : (Jvm.Cond.static ({ cls := "RepeatFree", name := "without", desc := "(Ljava/lang/String;I)Ljava/lang/String;" } : Jvm.MethodName)) ∈ lw_all := lw_g (lw_at lw_m9 42 rfl) rfl
theorem q2078 : (Jvm.Cond.code ({ cls := "RepeatFree", name := "without", desc := "(Ljava/lang/String;I)Ljava/lang/String;" } : Jvm.MethodName) prog_1_method_86_code (4 : Nat) (Option.some (Jvm.ClassFile.FieldType.object "java/lang/String"))) ∈ lw_all := lw_g (lw_at lw_m9 43 rfl) rfl
theorem q2079 : (Jvm.Cond.classLink "RepeatFree" (398 : Nat) "java/lang/StringBuilder") ∈ lw_all := lw_g (lw_at lw_m9 44 rfl) rfl
theorem q2080 : (Jvm.Cond.methodLink "RepeatFree" (400 : Nat) ({ cls := "java/lang/StringBuilder", name := "<init>", desc := "()V" } : Jvm.MethodName)) ∈ lw_all := lw_g (lw_at lw_m9 45 rfl) rfl
theorem q2081 : (Jvm.Cond.methodLink "RepeatFree" (401 : Nat) ({ cls := "java/lang/StringBuilder", name := "append", desc := "(C)Ljava/lang/StringBuilder;" } : Jvm.MethodName)) ∈ lw_all := lw_g (lw_at lw_m9 46 rfl) rfl
theorem q2082 : (Jvm.Cond.methodLink "RepeatFree" (405 : Nat) ({ cls := "java/lang/StringBuilder", name := "toString", desc := "()Ljava/lang/String;" } : Jvm.MethodName)) ∈ lw_all := lw_g (lw_at lw_m9 47 rfl) rfl
theorem q2087 : (Jvm.Cond.instanceMethod ({ cls := "RepeatFree", name := "loose", desc := "(II)I" } : Jvm.MethodName)) ∈ lw_all := lw_g (lw_at lw_m9 52 rfl) rfl
theorem q2088 : (Jvm.Cond.selects "RepeatFree" ({ cls := "RepeatFree", name := "loose", desc := "(II)I" } : Jvm.MethodName) ({ cls := "RepeatFree", name := "loose", desc := "(II)I" } : Jvm.MethodName)) ∈ lw_all := lw_g (lw_at lw_m9 53 rfl) rfl
theorem q2089 : (Jvm.Cond.code ({ cls := "RepeatFree", name := "loose", desc := "(II)I" } : Jvm.MethodName) prog_1_method_91_code (4 : Nat) (Option.some Jvm.ClassFile.FieldType.int)) ∈ lw_all := lw_g (lw_at lw_m9 54 rfl) rfl
theorem q2094 : (Jvm.Cond.instanceMethod ({ cls := "RepeatFree", name := "pattern", desc := "(II)I" } : Jvm.MethodName)) ∈ lw_all := lw_g (lw_at lw_m9 59 rfl) rfl
theorem q2095 : (Jvm.Cond.selects "RepeatFree" ({ cls := "RepeatFree", name := "pattern", desc := "(II)I" } : Jvm.MethodName) ({ cls := "RepeatFree", name := "pattern", desc := "(II)I" } : Jvm.MethodName)) ∈ lw_all := lw_g (lw_at lw_m9 60 rfl) rfl
theorem q2096 : (Jvm.Cond.code ({ cls := "RepeatFree", name := "pattern", desc := "(II)I" } : Jvm.MethodName) prog_1_method_92_code (4 : Nat) (Option.some Jvm.ClassFile.FieldType.int)) ∈ lw_all := lw_g (lw_at lw_m9 61 rfl) rfl
theorem q2101 : (Jvm.Cond.instanceMethod ({ cls := "RepeatFree", name := "stuck", desc := "(I)I" } : Jvm.MethodName)) ∈ lw_all := lw_g (lw_at lw_m9 66 rfl) rfl
theorem q2102 : (Jvm.Cond.selects "RepeatFree" ({ cls := "RepeatFree", name := "stuck", desc := "(I)I" } : Jvm.MethodName) ({ cls := "RepeatFree", name := "stuck", desc := "(I)I" } : Jvm.MethodName)) ∈ lw_all := lw_g (lw_at lw_m9 67 rfl) rfl
theorem q2103 : (Jvm.Cond.code ({ cls := "RepeatFree", name := "stuck", desc := "(I)I" } : Jvm.MethodName) prog_1_method_45_code (5 : Nat) (Option.some Jvm.ClassFile.FieldType.int)) ∈ lw_all := lw_g (lw_at lw_m9 68 rfl) rfl
theorem q2104 : (Jvm.Cond.methodLink "RepeatFree" (309 : Nat) ({ cls := "RepeatFree", name := "isStuck", desc := "(LRepeatFree$Word;)Z" } : Jvm.MethodName)) ∈ lw_all := lw_g (lw_at lw_m9 69 rfl) rfl
theorem q2105 : (Jvm.Cond.privateMethod ({ cls := "RepeatFree", name := "isStuck", desc := "(LRepeatFree$Word;)Z" } : Jvm.MethodName)) ∈ lw_tbl := lw_at lw_m9 70 rfl
theorem q2106 : (Jvm.Cond.instanceMethod ({ cls := "RepeatFree", name := "isStuck", desc := "(LRepeatFree$Word;)Z" } : Jvm.MethodName)) ∈ lw_all := lw_g (lw_at lw_m9 71 rfl) rfl
theorem q2107 : (Jvm.Cond.code ({ cls := "RepeatFree", name := "isStuck", desc := "(LRepeatFree$Word;)Z" } : Jvm.MethodName) prog_1_method_46_code (5 : Nat) (Option.some Jvm.ClassFile.FieldType.boolean)) ∈ lw_all := lw_g (lw_at lw_m9 72 rfl) rfl
theorem q2112 : (Jvm.Cond.instanceMethod ({ cls := "RepeatFree", name := "rank", desc := "()I" } : Jvm.MethodName)) ∈ lw_all := lw_g (lw_at lw_m9 77 rfl) rfl
theorem q2113 : (Jvm.Cond.selects "RepeatFree" ({ cls := "RepeatFree", name := "rank", desc := "()I" } : Jvm.MethodName) ({ cls := "RepeatFree", name := "rank", desc := "()I" } : Jvm.MethodName)) ∈ lw_all := lw_g (lw_at lw_m9 78 rfl) rfl
theorem q2114 : (Jvm.Cond.code ({ cls := "RepeatFree", name := "rank", desc := "()I" } : Jvm.MethodName) prog_1_method_48_code (4 : Nat) (Option.some Jvm.ClassFile.FieldType.int)) ∈ lw_all := lw_g (lw_at lw_m9 79 rfl) rfl
theorem q2115 : (Jvm.Cond.methodLink "RepeatFree" (317 : Nat) ({ cls := "RepeatFree", name := "order", desc := "(LRepeatFree$Word;LRepeatFree$Word;)I" } : Jvm.MethodName)) ∈ lw_all := lw_g (lw_at lw_m9 80 rfl) rfl
theorem q2116 : (Jvm.Cond.static ({ cls := "RepeatFree", name := "order", desc := "(LRepeatFree$Word;LRepeatFree$Word;)I" } : Jvm.MethodName)) ∈ lw_all := lw_g (lw_at lw_m9 81 rfl) rfl
theorem q2117 : (Jvm.Cond.code ({ cls := "RepeatFree", name := "order", desc := "(LRepeatFree$Word;LRepeatFree$Word;)I" } : Jvm.MethodName) prog_1_method_47_code (3 : Nat) (Option.some Jvm.ClassFile.FieldType.int)) ∈ lw_all := lw_g (lw_at lw_m9 82 rfl) rfl
theorem q2118 : (Jvm.Cond.methodLink "RepeatFree" (312 : Nat) ({ cls := "java/lang/Integer", name := "compare", desc := "(II)I" } : Jvm.MethodName)) ∈ lw_all := lw_g (lw_at lw_m9 83 rfl) rfl
theorem q2123 : (Jvm.Cond.instanceMethod ({ cls := "RepeatFree", name := "nth", desc := "(II)I" } : Jvm.MethodName)) ∈ lw_all := lw_g (lw_at lw_m9 88 rfl) rfl
theorem q2124 : (Jvm.Cond.selects "RepeatFree" ({ cls := "RepeatFree", name := "nth", desc := "(II)I" } : Jvm.MethodName) ({ cls := "RepeatFree", name := "nth", desc := "(II)I" } : Jvm.MethodName)) ∈ lw_all := lw_g (lw_at lw_m9 89 rfl) rfl
theorem q2125 : (Jvm.Cond.code ({ cls := "RepeatFree", name := "nth", desc := "(II)I" } : Jvm.MethodName) prog_1_method_49_code (6 : Nat) (Option.some Jvm.ClassFile.FieldType.int)) ∈ lw_all := lw_g (lw_at lw_m9 90 rfl) rfl
theorem q2130 : (Jvm.Cond.instanceMethod ({ cls := "RepeatFree", name := "limit", desc := "(III)I" } : Jvm.MethodName)) ∈ lw_all := lw_g (lw_at lw_m9 95 rfl) rfl
theorem q2131 : (Jvm.Cond.selects "RepeatFree" ({ cls := "RepeatFree", name := "limit", desc := "(III)I" } : Jvm.MethodName) ({ cls := "RepeatFree", name := "limit", desc := "(III)I" } : Jvm.MethodName)) ∈ lw_all := lw_g (lw_at lw_m9 96 rfl) rfl
theorem q2132 : (Jvm.Cond.code ({ cls := "RepeatFree", name := "limit", desc := "(III)I" } : Jvm.MethodName) prog_1_method_51_code (5 : Nat) (Option.some Jvm.ClassFile.FieldType.int)) ∈ lw_all := lw_g (lw_at lw_m9 97 rfl) rfl
theorem q2133 : (Jvm.Cond.constantLong "RepeatFree" (321 : Nat) (99 : Int64)) ∈ lw_all := lw_g (lw_at lw_m9 98 rfl) rfl
theorem q2134 : (Jvm.Cond.constantLong "RepeatFree" (323 : Nat) (9 : Int64)) ∈ lw_all := lw_g (lw_at lw_m9 99 rfl) rfl
theorem q2135 : (Jvm.Cond.classLink "RepeatFree" (187 : Nat) "RepeatFree$Limit") ∈ lw_all := lw_g (lw_at lw_m9 100 rfl) rfl
theorem q2136 : (Jvm.Cond.methodLink "RepeatFree" (328 : Nat) ({ cls := "RepeatFree$Limit", name := "<init>", desc := "(III)V" } : Jvm.MethodName)) ∈ lw_all := lw_g (lw_at lw_m9 101 rfl) rfl
theorem q2141 : (Jvm.Cond.instanceMethod ({ cls := "RepeatFree", name := "avoid", desc := "(IZ)Z" } : Jvm.MethodName)) ∈ lw_all := lw_g (lw_at lw_m9 106 rfl) rfl
theorem q2142 : (Jvm.Cond.selects "RepeatFree" ({ cls := "RepeatFree", name := "avoid", desc := "(IZ)Z" } : Jvm.MethodName) ({ cls := "RepeatFree", name := "avoid", desc := "(IZ)Z" } : Jvm.MethodName)) ∈ lw_all := lw_g (lw_at lw_m9 107 rfl) rfl
theorem q2143 : (Jvm.Cond.code ({ cls := "RepeatFree", name := "avoid", desc := "(IZ)Z" } : Jvm.MethodName) prog_1_method_52_code (5 : Nat) (Option.some Jvm.ClassFile.FieldType.boolean)) ∈ lw_all := lw_g (lw_at lw_m9 108 rfl) rfl
theorem q2148 : (Jvm.Cond.instanceMethod ({ cls := "RepeatFree", name := "local", desc := "(I)I" } : Jvm.MethodName)) ∈ lw_all := lw_g (lw_at lw_m9 113 rfl) rfl
theorem q2149 : (Jvm.Cond.selects "RepeatFree" ({ cls := "RepeatFree", name := "local", desc := "(I)I" } : Jvm.MethodName) ({ cls := "RepeatFree", name := "local", desc := "(I)I" } : Jvm.MethodName)) ∈ lw_all := lw_g (lw_at lw_m9 114 rfl) rfl
theorem q2150 : (Jvm.Cond.code ({ cls := "RepeatFree", name := "local", desc := "(I)I" } : Jvm.MethodName) prog_1_method_56_code (3 : Nat) (Option.some Jvm.ClassFile.FieldType.int)) ∈ lw_all := lw_g (lw_at lw_m9 115 rfl) rfl
theorem q2151 : (Jvm.Cond.methodLink "RepeatFree" (336 : Nat) ({ cls := "RepeatFree", name := "isLocal", desc := "(II)Z" } : Jvm.MethodName)) ∈ lw_all := lw_g (lw_at lw_m9 116 rfl) rfl
theorem q2152 : (Jvm.Cond.privateMethod ({ cls := "RepeatFree", name := "isLocal", desc := "(II)Z" } : Jvm.MethodName)) ∈ lw_tbl := lw_at lw_m9 117 rfl
theorem q2153 : (Jvm.Cond.instanceMethod ({ cls := "RepeatFree", name := "isLocal", desc := "(II)Z" } : Jvm.MethodName)) ∈ lw_all := lw_g (lw_at lw_m9 118 rfl) rfl
theorem q2154 : (Jvm.Cond.code ({ cls := "RepeatFree", name := "isLocal", desc := "(II)Z" } : Jvm.MethodName) prog_1_method_57_code (4 : Nat) (Option.some Jvm.ClassFile.FieldType.boolean)) ∈ lw_all := lw_g (lw_at lw_m9 119 rfl) rfl
theorem q2159 : (Jvm.Cond.instanceMethod ({ cls := "RepeatFree", name := "fill", desc := "(III)I" } : Jvm.MethodName)) ∈ lw_all := lw_g (lw_at lw_m9 124 rfl) rfl
theorem q2160 : (Jvm.Cond.selects "RepeatFree" ({ cls := "RepeatFree", name := "fill", desc := "(III)I" } : Jvm.MethodName) ({ cls := "RepeatFree", name := "fill", desc := "(III)I" } : Jvm.MethodName)) ∈ lw_all := lw_g (lw_at lw_m9 125 rfl) rfl
theorem q2161 : (Jvm.Cond.code ({ cls := "RepeatFree", name := "fill", desc := "(III)I" } : Jvm.MethodName) prog_1_method_74_code (9 : Nat) (Option.some Jvm.ClassFile.FieldType.int)) ∈ lw_all := lw_g (lw_at lw_m9 126 rfl) rfl
theorem q2162 : (Jvm.Cond.methodLink "RepeatFree" (388 : Nat) ({ cls := "RepeatFree", name := "grows", desc := "(I)I" } : Jvm.MethodName)) ∈ lw_all := lw_g (lw_at lw_m9 127 rfl) rfl
theorem q2167 : (Jvm.Cond.instanceMethod ({ cls := "RepeatFree", name := "sources", desc := "(I)J" } : Jvm.MethodName)) ∈ lw_all := lw_g (lw_at lw_m9 132 rfl) rfl
theorem q2168 : (Jvm.Cond.selects "RepeatFree" ({ cls := "RepeatFree", name := "sources", desc := "(I)J" } : Jvm.MethodName) ({ cls := "RepeatFree", name := "sources", desc := "(I)J" } : Jvm.MethodName)) ∈ lw_all := lw_g (lw_at lw_m9 133 rfl) rfl
theorem q2169 : (Jvm.Cond.code ({ cls := "RepeatFree", name := "sources", desc := "(I)J" } : Jvm.MethodName) prog_1_method_75_code (6 : Nat) (Option.some Jvm.ClassFile.FieldType.long)) ∈ lw_all := lw_g (lw_at lw_m9 134 rfl) rfl
theorem q2170 : (Jvm.Cond.methodLink "RepeatFree" (394 : Nat) ({ cls := "RepeatFree", name := "stands", desc := "([BI)Z" } : Jvm.MethodName)) ∈ lw_all := lw_g (lw_at lw_m9 135 rfl) rfl
theorem q2171 : (Jvm.Cond.privateMethod ({ cls := "RepeatFree", name := "stands", desc := "([BI)Z" } : Jvm.MethodName)) ∈ lw_tbl := lw_at lw_m9 136 rfl
theorem q2172 : (Jvm.Cond.instanceMethod ({ cls := "RepeatFree", name := "stands", desc := "([BI)Z" } : Jvm.MethodName)) ∈ lw_all := lw_g (lw_at lw_m9 137 rfl) rfl
theorem q2173 : (Jvm.Cond.code ({ cls := "RepeatFree", name := "stands", desc := "([BI)Z" } : Jvm.MethodName) prog_1_method_76_code (4 : Nat) (Option.some Jvm.ClassFile.FieldType.boolean)) ∈ lw_all := lw_g (lw_at lw_m9 138 rfl) rfl
theorem q2178 : (Jvm.Cond.instanceMethod ({ cls := "RepeatFree", name := "code", desc := "(I)Z" } : Jvm.MethodName)) ∈ lw_all := lw_g (lw_at lw_m9 143 rfl) rfl
theorem q2179 : (Jvm.Cond.selects "RepeatFree" ({ cls := "RepeatFree", name := "code", desc := "(I)Z" } : Jvm.MethodName) ({ cls := "RepeatFree", name := "code", desc := "(I)Z" } : Jvm.MethodName)) ∈ lw_all := lw_g (lw_at lw_m9 144 rfl) rfl
theorem q2180 : (Jvm.Cond.code ({ cls := "RepeatFree", name := "code", desc := "(I)Z" } : Jvm.MethodName) prog_1_method_80_code (8 : Nat) (Option.some Jvm.ClassFile.FieldType.boolean)) ∈ lw_all := lw_g (lw_at lw_m9 145 rfl) rfl
theorem q2181 : (Jvm.Cond.methodLink "RepeatFree" (426 : Nat) ({ cls := "RepeatFree", name := "text", desc := "([B)Ljava/lang/String;" } : Jvm.MethodName)) ∈ lw_all := lw_g (lw_at lw_m9 146 rfl) rfl
theorem q2182 : (Jvm.Cond.static ({ cls := "RepeatFree", name := "text", desc := "([B)Ljava/lang/String;" } : Jvm.MethodName)) ∈ lw_all := lw_g (lw_at lw_m9 147 rfl) rfl
theorem q2183 : (Jvm.Cond.code ({ cls := "RepeatFree", name := "text", desc := "([B)Ljava/lang/String;" } : Jvm.MethodName) prog_1_method_77_code (6 : Nat) (Option.some (Jvm.ClassFile.FieldType.object "java/lang/String"))) ∈ lw_all := lw_g (lw_at lw_m9 148 rfl) rfl
theorem q2184 : (Jvm.Cond.classLink "RepeatFree" (410 : Nat) "java/lang/String") ∈ lw_all := lw_g (lw_at lw_m9 149 rfl) rfl
theorem q2185 : (Jvm.Cond.methodLink "RepeatFree" (430 : Nat) ({ cls := "RepeatFree", name := "rest", desc := "(Ljava/lang/String;Ljava/lang/String;)Ljava/lang/String;" } : Jvm.MethodName)) ∈ lw_all := lw_g (lw_at lw_m9 150 rfl) rfl
theorem q2186 : (Jvm.Cond.static ({ cls := "RepeatFree", name := "rest", desc := "(Ljava/lang/String;Ljava/lang/String;)Ljava/lang/String;" } : Jvm.MethodName)) ∈ lw_all := lw_g (lw_at lw_m9 151 rfl) rfl
theorem q2187 : (Jvm.Cond.code ({ cls := "RepeatFree", name := "rest", desc := "(Ljava/lang/String;Ljava/lang/String;)Ljava/lang/String;" } : Jvm.MethodName) prog_1_method_79_code (2 : Nat) (Option.some (Jvm.ClassFile.FieldType.object "java/lang/String"))) ∈ lw_all := lw_g (lw_at lw_m9 152 rfl) rfl
theorem q2188 : (Jvm.Cond.methodLink "RepeatFree" (418 : Nat) ({ cls := "RepeatFree", name := "begins", desc := "(Ljava/lang/String;Ljava/lang/String;)Z" } : Jvm.MethodName)) ∈ lw_all := lw_g (lw_at lw_m9 153 rfl) rfl
theorem q2189 : (Jvm.Cond.static ({ cls := "RepeatFree", name := "begins", desc := "(Ljava/lang/String;Ljava/lang/String;)Z" } : Jvm.MethodName)) ∈ lw_all := lw_g (lw_at lw_m9 154 rfl) rfl
theorem q2190 : (Jvm.Cond.code ({ cls := "RepeatFree", name := "begins", desc := "(Ljava/lang/String;Ljava/lang/String;)Z" } : Jvm.MethodName) prog_1_method_78_code (4 : Nat) (Option.some Jvm.ClassFile.FieldType.boolean)) ∈ lw_all := lw_g (lw_at lw_m9 155 rfl) rfl
theorem q2191 : (Jvm.Cond.methodLink "RepeatFree" (422 : Nat) ({ cls := "java/lang/String", name := "substring", desc := "(I)Ljava/lang/String;" } : Jvm.MethodName)) ∈ lw_all := lw_g (lw_at lw_m9 156 rfl) rfl
theorem q2219 : (Jvm.Cond.methodLink "RepeatFree" (434 : Nat) ({ cls := "RepeatFree", name := "adds", desc := "(Ljava/util/LinkedList;Ljava/lang/String;)V" } : Jvm.MethodName)) ∈ lw_all := lw_g (lw_at lw_m9 184 rfl) rfl
theorem q2220 : (Jvm.Cond.static ({ cls := "RepeatFree", name := "adds", desc := "(Ljava/util/LinkedList;Ljava/lang/String;)V" } : Jvm.MethodName)) ∈ lw_all := lw_g (lw_at lw_m9 185 rfl) rfl
theorem q2221 : (Jvm.Cond.code ({ cls := "RepeatFree", name := "adds", desc := "(Ljava/util/LinkedList;Ljava/lang/String;)V" } : Jvm.MethodName) prog_1_method_81_code (2 : Nat) (Option.none : Option Jvm.ClassFile.FieldType)) ∈ lw_all := lw_g (lw_at lw_m9 186 rfl) rfl
theorem q2222 : (Jvm.Cond.methodLink "RepeatFree" (439 : Nat) ({ cls := "java/util/LinkedList", name := "contains", desc := "(Ljava/lang/Object;)Z" } : Jvm.MethodName)) ∈ lw_all := lw_g (lw_at lw_m9 187 rfl) rfl
theorem q2223 : (Jvm.Cond.methodLink "RepeatFree" (438 : Nat) ({ cls := "java/lang/String", name := "isEmpty", desc := "()Z" } : Jvm.MethodName)) ∈ lw_all := lw_g (lw_at lw_m9 188 rfl) rfl
theorem q2231 : (Jvm.Cond.instanceMethod ({ cls := "RepeatFree", name := "whole", desc := "(III)I" } : Jvm.MethodName)) ∈ lw_all := lw_g (lw_at lw_m9 196 rfl) rfl
theorem q2232 : (Jvm.Cond.selects "RepeatFree" ({ cls := "RepeatFree", name := "whole", desc := "(III)I" } : Jvm.MethodName) ({ cls := "RepeatFree", name := "whole", desc := "(III)I" } : Jvm.MethodName)) ∈ lw_all := lw_g (lw_at lw_m9 197 rfl) rfl
theorem q2233 : (Jvm.Cond.code ({ cls := "RepeatFree", name := "whole", desc := "(III)I" } : Jvm.MethodName) prog_1_method_88_code (9 : Nat) (Option.some Jvm.ClassFile.FieldType.int)) ∈ lw_all := lw_g (lw_at lw_m9 198 rfl) rfl
theorem q2234 : (Jvm.Cond.constant "RepeatFree" (486 : Nat) (274625 : Int32)) ∈ lw_all := lw_g (lw_at lw_m9 199 rfl) rfl
theorem q2235 : (Jvm.Cond.methodLink "RepeatFree" (487 : Nat) ({ cls := "RepeatFree", name := "isAll", desc := "(LRepeatFree$Pattern;I[I)Z" } : Jvm.MethodName)) ∈ lw_all := lw_g (lw_at lw_m9 200 rfl) rfl
theorem q2236 : (Jvm.Cond.privateMethod ({ cls := "RepeatFree", name := "isAll", desc := "(LRepeatFree$Pattern;I[I)Z" } : Jvm.MethodName)) ∈ lw_tbl := lw_at lw_m9 201 rfl
theorem q2237 : (Jvm.Cond.instanceMethod ({ cls := "RepeatFree", name := "isAll", desc := "(LRepeatFree$Pattern;I[I)Z" } : Jvm.MethodName)) ∈ lw_all := lw_g (lw_at lw_m9 202 rfl) rfl
theorem q2238 : (Jvm.Cond.code ({ cls := "RepeatFree", name := "isAll", desc := "(LRepeatFree$Pattern;I[I)Z" } : Jvm.MethodName) prog_1_method_89_code (6 : Nat) (Option.some Jvm.ClassFile.FieldType.boolean)) ∈ lw_all := lw_g (lw_at lw_m9 203 rfl) rfl
theorem q2239 : (Jvm.Cond.methodLinkNest "RepeatFree" (495 : Nat) ({ cls := "RepeatFree$Pattern", name := "fitsBy", desc := "(LRepeatFree$Word;I[I)Z" } : Jvm.MethodName) "RepeatFree") ∈ lw_tbl := lw_at lw_m9 204 rfl
theorem q2853 : (Jvm.Cond.castable "RepeatFree" "java/lang/Object") ∈ lw_tbl := lw_at lw_m12 98 rfl
theorem in_X1 : ∀ w ∈ wsX10, w ∈ lw_all := lw_in wsX10 [284, 286, 288, 290, 292, 294, 296, 298, 300] (by decide +kernel) (by decide +kernel)
