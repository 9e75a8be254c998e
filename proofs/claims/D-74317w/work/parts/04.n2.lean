/-! RepeatFreeModel -/
set_option maxRecDepth 100000
def RX4 : String := "RepeatFreeModel"
def TX4 : u_T := fun k => match k with
  | 0 => ("RepeatFreeModel", "thrown", "I", false)
  | 1 => ("RepeatFreeModel", "tape", "[B", true)
  | 2 => ("RepeatFreeModel", "taped", "I", false)
  | 3 => ("RepeatFreeModel", "five", "[I", true)
  | 4 => ("RepeatFreeModel", "point", "I", false)
  | 5 => ("RepeatFreeModel", "begin", "I", false)
  | 6 => ("RepeatFreeModel", "size", "I", false)
  | 7 => ("RepeatFreeModel", "faultAt", "I", false)
  | 8 => ("RepeatFreeModel", "fault", "I", false)
  | 9 => ("RepeatFreeModel", "told", "[I", true)
  | 10 => ("RepeatFreeModel", "draft", "[I", true)
  | 11 => ("RepeatFreeModel", "hasLimit", "Z", false)
  | 12 => ("RepeatFreeModel", "word", "[I", true)
  | 13 => ("RepeatFreeModel", "given", "[I", true)
  | 14 => ("RepeatFreeModel", "many", "I", false)
  | 15 => ("RepeatFreeModel", "acts", "I", false)
  | 16 => ("RepeatFreeModel", "past", "[I", true)
  | 17 => ("RepeatFreeModel", "sizes", "[I", true)
  | 18 => ("RepeatFreeModel", "begun", "[I", true)
  | 19 => ("RepeatFreeModel", "row", "[I", true)
  | 20 => ("RepeatFreeModel", "tries", "I", false)
  | 21 => ("RepeatFreeModel", "foundMany", "I", false)
  | 22 => ("RepeatFreeModel", "isCut", "Z", false)
  | 23 => ("RepeatFreeModel", "wanted", "I", false)
  | 24 => ("RepeatFreeModel", "mapNow", "I", false)
  | 25 => ("RepeatFreeModel", "isFound", "Z", false)
  | 26 => ("RepeatFreeModel", "imaged", "[I", true)
  | 27 => ("RepeatFreeModel", "counts", "[J", true)
  | 28 => ("RepeatFreeModel", "sums", "[J", true)
  | 29 => ("RepeatFreeModel", "hangs", "[Z", true)
  | 30 => ("RepeatFreeModel", "isNoCode", "Z", false)
  | _ => ("RepeatFreeModel", "joined", "[I", true)
def tyX4 : Nat → FieldType := fun k => match k with
  | 0 => .int
  | 1 => .array .byte
  | 2 => .int
  | 3 => .array .int
  | 4 => .int
  | 5 => .int
  | 6 => .int
  | 7 => .int
  | 8 => .int
  | 9 => .array .int
  | 10 => .array .int
  | 11 => .boolean
  | 12 => .array .int
  | 13 => .array .int
  | 14 => .int
  | 15 => .int
  | 16 => .array .int
  | 17 => .array .int
  | 18 => .array .int
  | 19 => .array .int
  | 20 => .int
  | 21 => .int
  | 22 => .boolean
  | 23 => .int
  | 24 => .int
  | 25 => .boolean
  | 26 => .array .int
  | 27 => .array .long
  | 28 => .array .long
  | 29 => .array .boolean
  | 30 => .boolean
  | _ => .array .int
abbrev wsX40 : List Cond := u_ws RX4 TX4 32
set_option maxRecDepth 100000 in
theorem nmX4 : ∀ a, a < 32 → ∀ b, b < 32 → a ≠ b → (TX4 a).2.1 ≠ (TX4 b).2.1 := by decide +kernel
set_option maxRecDepth 100000 in
theorem tyX4_ok : ∀ k, k < 32 → parseFieldDescriptor (TX4 k).2.2.1 = some (tyX4 k) := by decide +kernel
abbrev cX4_thrown : ByteArray := prog_13_method_1_code
def yX4_thrown : MethodName := ⟨RX4, "thrown", "()I"⟩
theorem dX4_thrown_0 : decode cX4_thrown 0 = .ok (.aload_n 0, 1) := by decide +kernel
theorem dX4_thrown_1 : decode cX4_thrown 1 = .ok (.getfield 3, 3) := by decide +kernel
theorem dX4_thrown_4 : decode cX4_thrown 4 = .ok (.ireturn, 1) := by decide +kernel
abbrev cX4_feed : ByteArray := prog_13_method_4_code
def yX4_feed : MethodName := ⟨RX4, "feed", "(IIIII)I"⟩
def dkwX4_feed_5 : List UInt8 := [180, 0, 7, 172]
abbrev dktX4_feed_5 : List UInt8 := dkwX4_feed_5 ++ []
def dkwX4_feed_4 : List UInt8 := [100, 122, 145, 84, 132, 6, 1, 167, 255, 213, 42, 89, 180, 0, 7, 16, 20, 96, 181, 0, 7, 42]
abbrev dktX4_feed_4 : List UInt8 := dkwX4_feed_4 ++ dktX4_feed_5
def dkwX4_feed_3 : List UInt8 := [180, 0, 7, 21, 6, 96, 42, 180, 0, 10, 21, 6, 7, 108, 46, 16, 24, 16, 8, 21, 6, 7, 112, 104]
abbrev dktX4_feed_3 : List UInt8 := dkwX4_feed_3 ++ dktX4_feed_4
def dkwX4_feed_2 : List UInt8 := [79, 42, 180, 0, 10, 7, 21, 5, 79, 3, 54, 6, 21, 6, 16, 20, 162, 0, 42, 42, 180, 0, 14, 42]
abbrev dktX4_feed_2 : List UInt8 := dkwX4_feed_2 ++ dktX4_feed_3
def dkwX4_feed_1 : List UInt8 := [3, 27, 79, 42, 180, 0, 10, 4, 28, 79, 42, 180, 0, 10, 5, 29, 79, 42, 180, 0, 10, 6, 21, 4]
abbrev dktX4_feed_1 : List UInt8 := dkwX4_feed_1 ++ dktX4_feed_2
def dkwX4_feed_0 : List UInt8 := [42, 3, 181, 0, 3, 42, 180, 0, 7, 16, 20, 96, 17, 1, 144, 164, 0, 5, 2, 172, 42, 180, 0, 10]
abbrev dktX4_feed_0 : List UInt8 := dkwX4_feed_0 ++ dktX4_feed_1
theorem dksX4_feed_0 : cX4_feed.data.toList.drop 0 = dktX4_feed_0 := by decide +kernel
theorem dksX4_feed_1 : cX4_feed.data.toList.drop 24 = dktX4_feed_1 := dk_seg dksX4_feed_0 24 rfl rfl
theorem dksX4_feed_2 : cX4_feed.data.toList.drop 48 = dktX4_feed_2 := dk_seg dksX4_feed_1 24 rfl rfl
theorem dksX4_feed_3 : cX4_feed.data.toList.drop 72 = dktX4_feed_3 := dk_seg dksX4_feed_2 24 rfl rfl
theorem dksX4_feed_4 : cX4_feed.data.toList.drop 96 = dktX4_feed_4 := dk_seg dksX4_feed_3 24 rfl rfl
theorem dksX4_feed_5 : cX4_feed.data.toList.drop 118 = dktX4_feed_5 := dk_seg dksX4_feed_4 22 rfl rfl
theorem dX4_feed_0 : decode cX4_feed 0 = .ok (.aload_n 0, 1) := dk_42 (dk_at dksX4_feed_0 0 rfl rfl)
theorem dX4_feed_1 : decode cX4_feed 1 = .ok (.iconst 0, 1) := dk_3 (dk_at dksX4_feed_0 1 rfl rfl)
theorem dX4_feed_2 : decode cX4_feed 2 = .ok (.putfield 3, 3) := dk_181 0 3 (dk_at dksX4_feed_0 2 rfl rfl)
theorem dX4_feed_5 : decode cX4_feed 5 = .ok (.aload_n 0, 1) := dk_42 (dk_at dksX4_feed_0 5 rfl rfl)
theorem dX4_feed_6 : decode cX4_feed 6 = .ok (.getfield 7, 3) := dk_180 0 7 (dk_at dksX4_feed_0 6 rfl rfl)
theorem dX4_feed_9 : decode cX4_feed 9 = .ok (.bipush 20, 2) := dk_16 20 (dk_at dksX4_feed_0 9 rfl rfl)
theorem dX4_feed_11 : decode cX4_feed 11 = .ok (.iadd, 1) := dk_96 (dk_at dksX4_feed_0 11 rfl rfl)
theorem dX4_feed_12 : decode cX4_feed 12 = .ok (.sipush 400, 3) := dk_17 1 144 (dk_at dksX4_feed_0 12 rfl rfl)
theorem dX4_feed_15 : decode cX4_feed 15 = .ok (.if_icmp .le 5, 3) := dk_164 0 5 (dk_at dksX4_feed_0 15 rfl rfl)
theorem dX4_feed_18 : decode cX4_feed 18 = .ok (.iconst (-1), 1) := dk_2 (dk_at dksX4_feed_0 18 rfl rfl)
theorem dX4_feed_19 : decode cX4_feed 19 = .ok (.ireturn, 1) := dk_172 (dk_at dksX4_feed_0 19 rfl rfl)
theorem dX4_feed_20 : decode cX4_feed 20 = .ok (.aload_n 0, 1) := dk_42 (dk_at dksX4_feed_0 20 rfl rfl)
theorem dX4_feed_21 : decode cX4_feed 21 = .ok (.getfield 10, 3) := dk_180 0 10 (dk_at dksX4_feed_0 21 rfl rfl)
theorem dX4_feed_24 : decode cX4_feed 24 = .ok (.iconst 0, 1) := dk_3 (dk_at dksX4_feed_1 0 rfl rfl)
theorem dX4_feed_25 : decode cX4_feed 25 = .ok (.iload_n 1, 1) := dk_27 (dk_at dksX4_feed_1 1 rfl rfl)
theorem dX4_feed_26 : decode cX4_feed 26 = .ok (.iastore, 1) := dk_79 (dk_at dksX4_feed_1 2 rfl rfl)
theorem dX4_feed_27 : decode cX4_feed 27 = .ok (.aload_n 0, 1) := dk_42 (dk_at dksX4_feed_1 3 rfl rfl)
theorem dX4_feed_28 : decode cX4_feed 28 = .ok (.getfield 10, 3) := dk_180 0 10 (dk_at dksX4_feed_1 4 rfl rfl)
theorem dX4_feed_31 : decode cX4_feed 31 = .ok (.iconst 1, 1) := dk_4 (dk_at dksX4_feed_1 7 rfl rfl)
theorem dX4_feed_32 : decode cX4_feed 32 = .ok (.iload_n 2, 1) := dk_28 (dk_at dksX4_feed_1 8 rfl rfl)
theorem dX4_feed_33 : decode cX4_feed 33 = .ok (.iastore, 1) := dk_79 (dk_at dksX4_feed_1 9 rfl rfl)
theorem dX4_feed_34 : decode cX4_feed 34 = .ok (.aload_n 0, 1) := dk_42 (dk_at dksX4_feed_1 10 rfl rfl)
theorem dX4_feed_35 : decode cX4_feed 35 = .ok (.getfield 10, 3) := dk_180 0 10 (dk_at dksX4_feed_1 11 rfl rfl)
theorem dX4_feed_38 : decode cX4_feed 38 = .ok (.iconst 2, 1) := dk_5 (dk_at dksX4_feed_1 14 rfl rfl)
theorem dX4_feed_39 : decode cX4_feed 39 = .ok (.iload_n 3, 1) := dk_29 (dk_at dksX4_feed_1 15 rfl rfl)
theorem dX4_feed_40 : decode cX4_feed 40 = .ok (.iastore, 1) := dk_79 (dk_at dksX4_feed_1 16 rfl rfl)
theorem dX4_feed_41 : decode cX4_feed 41 = .ok (.aload_n 0, 1) := dk_42 (dk_at dksX4_feed_1 17 rfl rfl)
theorem dX4_feed_42 : decode cX4_feed 42 = .ok (.getfield 10, 3) := dk_180 0 10 (dk_at dksX4_feed_1 18 rfl rfl)
theorem dX4_feed_45 : decode cX4_feed 45 = .ok (.iconst 3, 1) := dk_6 (dk_at dksX4_feed_1 21 rfl rfl)
theorem dX4_feed_46 : decode cX4_feed 46 = .ok (.iload 4, 2) := dk_21 4 (dk_at dksX4_feed_1 22 rfl rfl)
theorem dX4_feed_48 : decode cX4_feed 48 = .ok (.iastore, 1) := dk_79 (dk_at dksX4_feed_2 0 rfl rfl)
theorem dX4_feed_49 : decode cX4_feed 49 = .ok (.aload_n 0, 1) := dk_42 (dk_at dksX4_feed_2 1 rfl rfl)
theorem dX4_feed_50 : decode cX4_feed 50 = .ok (.getfield 10, 3) := dk_180 0 10 (dk_at dksX4_feed_2 2 rfl rfl)
theorem dX4_feed_53 : decode cX4_feed 53 = .ok (.iconst 4, 1) := dk_7 (dk_at dksX4_feed_2 5 rfl rfl)
theorem dX4_feed_54 : decode cX4_feed 54 = .ok (.iload 5, 2) := dk_21 5 (dk_at dksX4_feed_2 6 rfl rfl)
theorem dX4_feed_56 : decode cX4_feed 56 = .ok (.iastore, 1) := dk_79 (dk_at dksX4_feed_2 8 rfl rfl)
theorem dX4_feed_57 : decode cX4_feed 57 = .ok (.iconst 0, 1) := dk_3 (dk_at dksX4_feed_2 9 rfl rfl)
theorem dX4_feed_58 : decode cX4_feed 58 = .ok (.istore 6, 2) := dk_54 6 (dk_at dksX4_feed_2 10 rfl rfl)
theorem dX4_feed_60 : decode cX4_feed 60 = .ok (.iload 6, 2) := dk_21 6 (dk_at dksX4_feed_2 12 rfl rfl)
theorem dX4_feed_62 : decode cX4_feed 62 = .ok (.bipush 20, 2) := dk_16 20 (dk_at dksX4_feed_2 14 rfl rfl)
theorem dX4_feed_64 : decode cX4_feed 64 = .ok (.if_icmp .ge 42, 3) := dk_162 0 42 (dk_at dksX4_feed_2 16 rfl rfl)
theorem dX4_feed_67 : decode cX4_feed 67 = .ok (.aload_n 0, 1) := dk_42 (dk_at dksX4_feed_2 19 rfl rfl)
theorem dX4_feed_68 : decode cX4_feed 68 = .ok (.getfield 14, 3) := dk_180 0 14 (dk_at dksX4_feed_2 20 rfl rfl)
theorem dX4_feed_71 : decode cX4_feed 71 = .ok (.aload_n 0, 1) := dk_42 (dk_at dksX4_feed_2 23 rfl rfl)
theorem dX4_feed_72 : decode cX4_feed 72 = .ok (.getfield 7, 3) := dk_180 0 7 (dk_at dksX4_feed_3 0 rfl rfl)
theorem dX4_feed_75 : decode cX4_feed 75 = .ok (.iload 6, 2) := dk_21 6 (dk_at dksX4_feed_3 3 rfl rfl)
theorem dX4_feed_77 : decode cX4_feed 77 = .ok (.iadd, 1) := dk_96 (dk_at dksX4_feed_3 5 rfl rfl)
theorem dX4_feed_78 : decode cX4_feed 78 = .ok (.aload_n 0, 1) := dk_42 (dk_at dksX4_feed_3 6 rfl rfl)
theorem dX4_feed_79 : decode cX4_feed 79 = .ok (.getfield 10, 3) := dk_180 0 10 (dk_at dksX4_feed_3 7 rfl rfl)
theorem dX4_feed_82 : decode cX4_feed 82 = .ok (.iload 6, 2) := dk_21 6 (dk_at dksX4_feed_3 10 rfl rfl)
theorem dX4_feed_84 : decode cX4_feed 84 = .ok (.iconst 4, 1) := dk_7 (dk_at dksX4_feed_3 12 rfl rfl)
theorem dX4_feed_85 : decode cX4_feed 85 = .ok (.idiv, 1) := dk_108 (dk_at dksX4_feed_3 13 rfl rfl)
theorem dX4_feed_86 : decode cX4_feed 86 = .ok (.iaload, 1) := dk_46 (dk_at dksX4_feed_3 14 rfl rfl)
theorem dX4_feed_87 : decode cX4_feed 87 = .ok (.bipush 24, 2) := dk_16 24 (dk_at dksX4_feed_3 15 rfl rfl)
theorem dX4_feed_89 : decode cX4_feed 89 = .ok (.bipush 8, 2) := dk_16 8 (dk_at dksX4_feed_3 17 rfl rfl)
theorem dX4_feed_91 : decode cX4_feed 91 = .ok (.iload 6, 2) := dk_21 6 (dk_at dksX4_feed_3 19 rfl rfl)
theorem dX4_feed_93 : decode cX4_feed 93 = .ok (.iconst 4, 1) := dk_7 (dk_at dksX4_feed_3 21 rfl rfl)
theorem dX4_feed_94 : decode cX4_feed 94 = .ok (.irem, 1) := dk_112 (dk_at dksX4_feed_3 22 rfl rfl)
theorem dX4_feed_95 : decode cX4_feed 95 = .ok (.imul, 1) := dk_104 (dk_at dksX4_feed_3 23 rfl rfl)
theorem dX4_feed_96 : decode cX4_feed 96 = .ok (.isub, 1) := dk_100 (dk_at dksX4_feed_4 0 rfl rfl)
theorem dX4_feed_97 : decode cX4_feed 97 = .ok (.ishr, 1) := dk_122 (dk_at dksX4_feed_4 1 rfl rfl)
theorem dX4_feed_98 : decode cX4_feed 98 = .ok (.i2b, 1) := dk_145 (dk_at dksX4_feed_4 2 rfl rfl)
theorem dX4_feed_99 : decode cX4_feed 99 = .ok (.bastore, 1) := dk_84 (dk_at dksX4_feed_4 3 rfl rfl)
theorem dX4_feed_100 : decode cX4_feed 100 = .ok (.iinc 6 1, 3) := dk_132 6 1 (dk_at dksX4_feed_4 4 rfl rfl)
theorem dX4_feed_103 : decode cX4_feed 103 = .ok (.goto (-43), 3) := dk_167 255 213 (dk_at dksX4_feed_4 7 rfl rfl)
theorem dX4_feed_106 : decode cX4_feed 106 = .ok (.aload_n 0, 1) := dk_42 (dk_at dksX4_feed_4 10 rfl rfl)
theorem dX4_feed_107 : decode cX4_feed 107 = .ok (.dup, 1) := dk_89 (dk_at dksX4_feed_4 11 rfl rfl)
theorem dX4_feed_108 : decode cX4_feed 108 = .ok (.getfield 7, 3) := dk_180 0 7 (dk_at dksX4_feed_4 12 rfl rfl)
theorem dX4_feed_111 : decode cX4_feed 111 = .ok (.bipush 20, 2) := dk_16 20 (dk_at dksX4_feed_4 15 rfl rfl)
theorem dX4_feed_113 : decode cX4_feed 113 = .ok (.iadd, 1) := dk_96 (dk_at dksX4_feed_4 17 rfl rfl)
theorem dX4_feed_114 : decode cX4_feed 114 = .ok (.putfield 7, 3) := dk_181 0 7 (dk_at dksX4_feed_4 18 rfl rfl)
theorem dX4_feed_117 : decode cX4_feed 117 = .ok (.aload_n 0, 1) := dk_42 (dk_at dksX4_feed_4 21 rfl rfl)
theorem dX4_feed_118 : decode cX4_feed 118 = .ok (.getfield 7, 3) := dk_180 0 7 (dk_at dksX4_feed_5 0 rfl rfl)
theorem dX4_feed_121 : decode cX4_feed 121 = .ok (.ireturn, 1) := dk_172 (dk_at dksX4_feed_5 3 rfl rfl)
abbrev cX4_end : ByteArray := prog_13_method_5_code
def yX4_end : MethodName := ⟨RX4, "end", "(I)Z"⟩
def dkwX4_end_1 : List UInt8 := [4, 172]
abbrev dktX4_end_1 : List UInt8 := dkwX4_end_1 ++ []
def dkwX4_end_0 : List UInt8 := [42, 3, 181, 0, 3, 27, 155, 0, 11, 27, 42, 180, 0, 7, 164, 0, 5, 3, 172, 42, 27, 181, 0, 7]
abbrev dktX4_end_0 : List UInt8 := dkwX4_end_0 ++ dktX4_end_1
theorem dksX4_end_0 : cX4_end.data.toList.drop 0 = dktX4_end_0 := by decide +kernel
theorem dksX4_end_1 : cX4_end.data.toList.drop 24 = dktX4_end_1 := dk_seg dksX4_end_0 24 rfl rfl
theorem dX4_end_0 : decode cX4_end 0 = .ok (.aload_n 0, 1) := dk_42 (dk_at dksX4_end_0 0 rfl rfl)
theorem dX4_end_1 : decode cX4_end 1 = .ok (.iconst 0, 1) := dk_3 (dk_at dksX4_end_0 1 rfl rfl)
theorem dX4_end_2 : decode cX4_end 2 = .ok (.putfield 3, 3) := dk_181 0 3 (dk_at dksX4_end_0 2 rfl rfl)
theorem dX4_end_5 : decode cX4_end 5 = .ok (.iload_n 1, 1) := dk_27 (dk_at dksX4_end_0 5 rfl rfl)
theorem dX4_end_6 : decode cX4_end 6 = .ok (.ifCond .lt 11, 3) := dk_155 0 11 (dk_at dksX4_end_0 6 rfl rfl)
theorem dX4_end_9 : decode cX4_end 9 = .ok (.iload_n 1, 1) := dk_27 (dk_at dksX4_end_0 9 rfl rfl)
theorem dX4_end_10 : decode cX4_end 10 = .ok (.aload_n 0, 1) := dk_42 (dk_at dksX4_end_0 10 rfl rfl)
theorem dX4_end_11 : decode cX4_end 11 = .ok (.getfield 7, 3) := dk_180 0 7 (dk_at dksX4_end_0 11 rfl rfl)
theorem dX4_end_14 : decode cX4_end 14 = .ok (.if_icmp .le 5, 3) := dk_164 0 5 (dk_at dksX4_end_0 14 rfl rfl)
theorem dX4_end_17 : decode cX4_end 17 = .ok (.iconst 0, 1) := dk_3 (dk_at dksX4_end_0 17 rfl rfl)
theorem dX4_end_18 : decode cX4_end 18 = .ok (.ireturn, 1) := dk_172 (dk_at dksX4_end_0 18 rfl rfl)
theorem dX4_end_19 : decode cX4_end 19 = .ok (.aload_n 0, 1) := dk_42 (dk_at dksX4_end_0 19 rfl rfl)
theorem dX4_end_20 : decode cX4_end 20 = .ok (.iload_n 1, 1) := dk_27 (dk_at dksX4_end_0 20 rfl rfl)
theorem dX4_end_21 : decode cX4_end 21 = .ok (.putfield 7, 3) := dk_181 0 7 (dk_at dksX4_end_0 21 rfl rfl)
theorem dX4_end_24 : decode cX4_end 24 = .ok (.iconst 1, 1) := dk_4 (dk_at dksX4_end_1 0 rfl rfl)
theorem dX4_end_25 : decode cX4_end 25 = .ok (.ireturn, 1) := dk_172 (dk_at dksX4_end_1 1 rfl rfl)
abbrev cX4_fault : ByteArray := prog_13_method_18_code
def yX4_fault : MethodName := ⟨RX4, "fault", "()I"⟩
def dkwX4_fault_0 : List UInt8 := [42, 3, 181, 0, 3, 42, 180, 0, 69, 172]
abbrev dktX4_fault_0 : List UInt8 := dkwX4_fault_0 ++ []
theorem dksX4_fault_0 : cX4_fault.data.toList.drop 0 = dktX4_fault_0 := by decide +kernel
theorem dX4_fault_0 : decode cX4_fault 0 = .ok (.aload_n 0, 1) := dk_42 (dk_at dksX4_fault_0 0 rfl rfl)
theorem dX4_fault_1 : decode cX4_fault 1 = .ok (.iconst 0, 1) := dk_3 (dk_at dksX4_fault_0 1 rfl rfl)
theorem dX4_fault_2 : decode cX4_fault 2 = .ok (.putfield 3, 3) := dk_181 0 3 (dk_at dksX4_fault_0 2 rfl rfl)
theorem dX4_fault_5 : decode cX4_fault 5 = .ok (.aload_n 0, 1) := dk_42 (dk_at dksX4_fault_0 5 rfl rfl)
theorem dX4_fault_6 : decode cX4_fault 6 = .ok (.getfield 69, 3) := dk_180 0 69 (dk_at dksX4_fault_0 6 rfl rfl)
theorem dX4_fault_9 : decode cX4_fault 9 = .ok (.ireturn, 1) := dk_172 (dk_at dksX4_fault_0 9 rfl rfl)
abbrev cX4_init : ByteArray := prog_13_method_19_code
def yX4_init : MethodName := ⟨RX4, "<init>", "()V"⟩
def dkwX4_init_5 : List UInt8 := [16, 24, 188, 4, 181, 0, 111, 42, 16, 6, 188, 10, 181, 0, 115, 42, 180, 0, 77, 3, 5, 79, 177]
abbrev dktX4_init_5 : List UInt8 := dkwX4_init_5 ++ []
def dkwX4_init_4 : List UInt8 := [188, 10, 181, 0, 101, 42, 17, 0, 208, 188, 11, 181, 0, 104, 42, 16, 65, 188, 11, 181, 0, 108, 42]
abbrev dktX4_init_4 : List UInt8 := dkwX4_init_4 ++ dktX4_init_5
def dkwX4_init_3 : List UInt8 := [188, 10, 181, 0, 92, 42, 6, 188, 10, 181, 0, 95, 42, 16, 72, 188, 10, 181, 0, 98, 42, 17, 1, 128]
abbrev dktX4_init_3 : List UInt8 := dkwX4_init_3 ++ dktX4_init_4
def dkwX4_init_2 : List UInt8 := [188, 10, 181, 0, 83, 42, 16, 64, 188, 10, 181, 0, 86, 42, 17, 2, 138, 188, 10, 181, 0, 89, 42, 6]
abbrev dktX4_init_2 : List UInt8 := dkwX4_init_2 ++ dktX4_init_3
def dkwX4_init_1 : List UInt8 := [181, 0, 69, 42, 17, 0, 198, 188, 10, 181, 0, 77, 42, 17, 0, 198, 188, 10, 181, 0, 80, 42, 16, 64]
abbrev dktX4_init_1 : List UInt8 := dkwX4_init_1 ++ dktX4_init_2
def dkwX4_init_0 : List UInt8 := [42, 183, 0, 72, 42, 17, 1, 144, 188, 8, 181, 0, 14, 42, 8, 188, 10, 181, 0, 10, 42, 2]
abbrev dktX4_init_0 : List UInt8 := dkwX4_init_0 ++ dktX4_init_1
theorem dksX4_init_0 : cX4_init.data.toList.drop 0 = dktX4_init_0 := by decide +kernel
theorem dksX4_init_1 : cX4_init.data.toList.drop 22 = dktX4_init_1 := dk_seg dksX4_init_0 22 rfl rfl
theorem dksX4_init_2 : cX4_init.data.toList.drop 46 = dktX4_init_2 := dk_seg dksX4_init_1 24 rfl rfl
theorem dksX4_init_3 : cX4_init.data.toList.drop 70 = dktX4_init_3 := dk_seg dksX4_init_2 24 rfl rfl
theorem dksX4_init_4 : cX4_init.data.toList.drop 94 = dktX4_init_4 := dk_seg dksX4_init_3 24 rfl rfl
theorem dksX4_init_5 : cX4_init.data.toList.drop 117 = dktX4_init_5 := dk_seg dksX4_init_4 23 rfl rfl
theorem dX4_init_0 : decode cX4_init 0 = .ok (.aload_n 0, 1) := dk_42 (dk_at dksX4_init_0 0 rfl rfl)
theorem dX4_init_1 : decode cX4_init 1 = .ok (.invokespecial 72, 3) := dk_183 0 72 (dk_at dksX4_init_0 1 rfl rfl)
theorem dX4_init_4 : decode cX4_init 4 = .ok (.aload_n 0, 1) := dk_42 (dk_at dksX4_init_0 4 rfl rfl)
theorem dX4_init_5 : decode cX4_init 5 = .ok (.sipush 400, 3) := dk_17 1 144 (dk_at dksX4_init_0 5 rfl rfl)
theorem dX4_init_8 : decode cX4_init 8 = .ok (.newarray .byte, 2) := dk_188_8 (dk_at dksX4_init_0 8 rfl rfl)
theorem dX4_init_10 : decode cX4_init 10 = .ok (.putfield 14, 3) := dk_181 0 14 (dk_at dksX4_init_0 10 rfl rfl)
theorem dX4_init_13 : decode cX4_init 13 = .ok (.aload_n 0, 1) := dk_42 (dk_at dksX4_init_0 13 rfl rfl)
theorem dX4_init_14 : decode cX4_init 14 = .ok (.iconst 5, 1) := dk_8 (dk_at dksX4_init_0 14 rfl rfl)
theorem dX4_init_15 : decode cX4_init 15 = .ok (.newarray .int, 2) := dk_188_10 (dk_at dksX4_init_0 15 rfl rfl)
theorem dX4_init_17 : decode cX4_init 17 = .ok (.putfield 10, 3) := dk_181 0 10 (dk_at dksX4_init_0 17 rfl rfl)
theorem dX4_init_20 : decode cX4_init 20 = .ok (.aload_n 0, 1) := dk_42 (dk_at dksX4_init_0 20 rfl rfl)
theorem dX4_init_21 : decode cX4_init 21 = .ok (.iconst (-1), 1) := dk_2 (dk_at dksX4_init_0 21 rfl rfl)
theorem dX4_init_22 : decode cX4_init 22 = .ok (.putfield 69, 3) := dk_181 0 69 (dk_at dksX4_init_1 0 rfl rfl)
theorem dX4_init_25 : decode cX4_init 25 = .ok (.aload_n 0, 1) := dk_42 (dk_at dksX4_init_1 3 rfl rfl)
theorem dX4_init_26 : decode cX4_init 26 = .ok (.sipush 198, 3) := dk_17 0 198 (dk_at dksX4_init_1 4 rfl rfl)
theorem dX4_init_29 : decode cX4_init 29 = .ok (.newarray .int, 2) := dk_188_10 (dk_at dksX4_init_1 7 rfl rfl)
theorem dX4_init_31 : decode cX4_init 31 = .ok (.putfield 77, 3) := dk_181 0 77 (dk_at dksX4_init_1 9 rfl rfl)
theorem dX4_init_34 : decode cX4_init 34 = .ok (.aload_n 0, 1) := dk_42 (dk_at dksX4_init_1 12 rfl rfl)
theorem dX4_init_35 : decode cX4_init 35 = .ok (.sipush 198, 3) := dk_17 0 198 (dk_at dksX4_init_1 13 rfl rfl)
theorem dX4_init_38 : decode cX4_init 38 = .ok (.newarray .int, 2) := dk_188_10 (dk_at dksX4_init_1 16 rfl rfl)
theorem dX4_init_40 : decode cX4_init 40 = .ok (.putfield 80, 3) := dk_181 0 80 (dk_at dksX4_init_1 18 rfl rfl)
theorem dX4_init_43 : decode cX4_init 43 = .ok (.aload_n 0, 1) := dk_42 (dk_at dksX4_init_1 21 rfl rfl)
theorem dX4_init_44 : decode cX4_init 44 = .ok (.bipush 64, 2) := dk_16 64 (dk_at dksX4_init_1 22 rfl rfl)
theorem dX4_init_46 : decode cX4_init 46 = .ok (.newarray .int, 2) := dk_188_10 (dk_at dksX4_init_2 0 rfl rfl)
theorem dX4_init_48 : decode cX4_init 48 = .ok (.putfield 83, 3) := dk_181 0 83 (dk_at dksX4_init_2 2 rfl rfl)
theorem dX4_init_51 : decode cX4_init 51 = .ok (.aload_n 0, 1) := dk_42 (dk_at dksX4_init_2 5 rfl rfl)
theorem dX4_init_52 : decode cX4_init 52 = .ok (.bipush 64, 2) := dk_16 64 (dk_at dksX4_init_2 6 rfl rfl)
theorem dX4_init_54 : decode cX4_init 54 = .ok (.newarray .int, 2) := dk_188_10 (dk_at dksX4_init_2 8 rfl rfl)
theorem dX4_init_56 : decode cX4_init 56 = .ok (.putfield 86, 3) := dk_181 0 86 (dk_at dksX4_init_2 10 rfl rfl)
theorem dX4_init_59 : decode cX4_init 59 = .ok (.aload_n 0, 1) := dk_42 (dk_at dksX4_init_2 13 rfl rfl)
theorem dX4_init_60 : decode cX4_init 60 = .ok (.sipush 650, 3) := dk_17 2 138 (dk_at dksX4_init_2 14 rfl rfl)
theorem dX4_init_63 : decode cX4_init 63 = .ok (.newarray .int, 2) := dk_188_10 (dk_at dksX4_init_2 17 rfl rfl)
theorem dX4_init_65 : decode cX4_init 65 = .ok (.putfield 89, 3) := dk_181 0 89 (dk_at dksX4_init_2 19 rfl rfl)
theorem dX4_init_68 : decode cX4_init 68 = .ok (.aload_n 0, 1) := dk_42 (dk_at dksX4_init_2 22 rfl rfl)
theorem dX4_init_69 : decode cX4_init 69 = .ok (.iconst 3, 1) := dk_6 (dk_at dksX4_init_2 23 rfl rfl)
theorem dX4_init_70 : decode cX4_init 70 = .ok (.newarray .int, 2) := dk_188_10 (dk_at dksX4_init_3 0 rfl rfl)
theorem dX4_init_72 : decode cX4_init 72 = .ok (.putfield 92, 3) := dk_181 0 92 (dk_at dksX4_init_3 2 rfl rfl)
theorem dX4_init_75 : decode cX4_init 75 = .ok (.aload_n 0, 1) := dk_42 (dk_at dksX4_init_3 5 rfl rfl)
theorem dX4_init_76 : decode cX4_init 76 = .ok (.iconst 3, 1) := dk_6 (dk_at dksX4_init_3 6 rfl rfl)
theorem dX4_init_77 : decode cX4_init 77 = .ok (.newarray .int, 2) := dk_188_10 (dk_at dksX4_init_3 7 rfl rfl)
theorem dX4_init_79 : decode cX4_init 79 = .ok (.putfield 95, 3) := dk_181 0 95 (dk_at dksX4_init_3 9 rfl rfl)
theorem dX4_init_82 : decode cX4_init 82 = .ok (.aload_n 0, 1) := dk_42 (dk_at dksX4_init_3 12 rfl rfl)
theorem dX4_init_83 : decode cX4_init 83 = .ok (.bipush 72, 2) := dk_16 72 (dk_at dksX4_init_3 13 rfl rfl)
theorem dX4_init_85 : decode cX4_init 85 = .ok (.newarray .int, 2) := dk_188_10 (dk_at dksX4_init_3 15 rfl rfl)
theorem dX4_init_87 : decode cX4_init 87 = .ok (.putfield 98, 3) := dk_181 0 98 (dk_at dksX4_init_3 17 rfl rfl)
theorem dX4_init_90 : decode cX4_init 90 = .ok (.aload_n 0, 1) := dk_42 (dk_at dksX4_init_3 20 rfl rfl)
theorem dX4_init_91 : decode cX4_init 91 = .ok (.sipush 384, 3) := dk_17 1 128 (dk_at dksX4_init_3 21 rfl rfl)
theorem dX4_init_94 : decode cX4_init 94 = .ok (.newarray .int, 2) := dk_188_10 (dk_at dksX4_init_4 0 rfl rfl)
theorem dX4_init_96 : decode cX4_init 96 = .ok (.putfield 101, 3) := dk_181 0 101 (dk_at dksX4_init_4 2 rfl rfl)
theorem dX4_init_99 : decode cX4_init 99 = .ok (.aload_n 0, 1) := dk_42 (dk_at dksX4_init_4 5 rfl rfl)
theorem dX4_init_100 : decode cX4_init 100 = .ok (.sipush 208, 3) := dk_17 0 208 (dk_at dksX4_init_4 6 rfl rfl)
theorem dX4_init_103 : decode cX4_init 103 = .ok (.newarray .long, 2) := dk_188_11 (dk_at dksX4_init_4 9 rfl rfl)
theorem dX4_init_105 : decode cX4_init 105 = .ok (.putfield 104, 3) := dk_181 0 104 (dk_at dksX4_init_4 11 rfl rfl)
theorem dX4_init_108 : decode cX4_init 108 = .ok (.aload_n 0, 1) := dk_42 (dk_at dksX4_init_4 14 rfl rfl)
theorem dX4_init_109 : decode cX4_init 109 = .ok (.bipush 65, 2) := dk_16 65 (dk_at dksX4_init_4 15 rfl rfl)
theorem dX4_init_111 : decode cX4_init 111 = .ok (.newarray .long, 2) := dk_188_11 (dk_at dksX4_init_4 17 rfl rfl)
theorem dX4_init_113 : decode cX4_init 113 = .ok (.putfield 108, 3) := dk_181 0 108 (dk_at dksX4_init_4 19 rfl rfl)
theorem dX4_init_116 : decode cX4_init 116 = .ok (.aload_n 0, 1) := dk_42 (dk_at dksX4_init_4 22 rfl rfl)
theorem dX4_init_117 : decode cX4_init 117 = .ok (.bipush 24, 2) := dk_16 24 (dk_at dksX4_init_5 0 rfl rfl)
theorem dX4_init_119 : decode cX4_init 119 = .ok (.newarray .boolean, 2) := dk_188_4 (dk_at dksX4_init_5 2 rfl rfl)
theorem dX4_init_121 : decode cX4_init 121 = .ok (.putfield 111, 3) := dk_181 0 111 (dk_at dksX4_init_5 4 rfl rfl)
theorem dX4_init_124 : decode cX4_init 124 = .ok (.aload_n 0, 1) := dk_42 (dk_at dksX4_init_5 7 rfl rfl)
theorem dX4_init_125 : decode cX4_init 125 = .ok (.bipush 6, 2) := dk_16 6 (dk_at dksX4_init_5 8 rfl rfl)
theorem dX4_init_127 : decode cX4_init 127 = .ok (.newarray .int, 2) := dk_188_10 (dk_at dksX4_init_5 10 rfl rfl)
theorem dX4_init_129 : decode cX4_init 129 = .ok (.putfield 115, 3) := dk_181 0 115 (dk_at dksX4_init_5 12 rfl rfl)
theorem dX4_init_132 : decode cX4_init 132 = .ok (.aload_n 0, 1) := dk_42 (dk_at dksX4_init_5 15 rfl rfl)
theorem dX4_init_133 : decode cX4_init 133 = .ok (.getfield 77, 3) := dk_180 0 77 (dk_at dksX4_init_5 16 rfl rfl)
theorem dX4_init_136 : decode cX4_init 136 = .ok (.iconst 0, 1) := dk_3 (dk_at dksX4_init_5 19 rfl rfl)
theorem dX4_init_137 : decode cX4_init 137 = .ok (.iconst 2, 1) := dk_5 (dk_at dksX4_init_5 20 rfl rfl)
theorem dX4_init_138 : decode cX4_init 138 = .ok (.iastore, 1) := dk_79 (dk_at dksX4_init_5 21 rfl rfl)
theorem dX4_init_139 : decode cX4_init 139 = .ok (.return_, 1) := dk_177 (dk_at dksX4_init_5 22 rfl rfl)
abbrev cX4_read : ByteArray := prog_13_method_28_code
def yX4_read : MethodName := ⟨RX4, "read", "()I"⟩
def dkwX4_read_6 : List UInt8 := [181, 0, 184, 42, 3, 181, 0, 187, 42, 180, 0, 77, 3, 46, 172]
abbrev dktX4_read_6 : List UInt8 := dkwX4_read_6 ++ []
def dkwX4_read_5 : List UInt8 := [162, 0, 21, 42, 180, 0, 77, 27, 42, 180, 0, 80, 27, 46, 79, 132, 1, 1, 167, 255, 234, 42, 3]
abbrev dktX4_read_5 : List UInt8 := dkwX4_read_5 ++ dktX4_read_6
def dkwX4_read_4 : List UInt8 := [181, 0, 69, 42, 42, 182, 0, 38, 4, 182, 0, 180, 153, 0, 5, 3, 172, 3, 60, 27, 17, 0, 198]
abbrev dktX4_read_4 : List UInt8 := dkwX4_read_4 ++ dktX4_read_5
def dkwX4_read_3 : List UInt8 := [182, 0, 38, 154, 0, 16, 42, 180, 0, 80, 3, 46, 154, 0, 7, 42, 182, 0, 42, 42, 42, 180, 0, 24]
abbrev dktX4_read_3 : List UInt8 := dkwX4_read_3 ++ dktX4_read_4
def dkwX4_read_2 : List UInt8 := [180, 0, 21, 42, 180, 0, 18, 162, 0, 14, 42, 182, 0, 177, 42, 182, 0, 34, 167, 255, 230, 42]
abbrev dktX4_read_2 : List UInt8 := dkwX4_read_2 ++ dktX4_read_3
def dkwX4_read_1 : List UInt8 := [79, 132, 1, 1, 167, 255, 239, 42, 3, 181, 0, 141, 42, 182, 0, 34, 42, 182, 0, 38, 154, 0, 25, 42]
abbrev dktX4_read_1 : List UInt8 := dkwX4_read_1 ++ dktX4_read_2
def dkwX4_read_0 : List UInt8 := [42, 3, 181, 0, 3, 42, 182, 0, 174, 3, 60, 27, 17, 0, 198, 162, 0, 16, 42, 180, 0, 80, 27, 3]
abbrev dktX4_read_0 : List UInt8 := dkwX4_read_0 ++ dktX4_read_1
theorem dksX4_read_0 : cX4_read.data.toList.drop 0 = dktX4_read_0 := by decide +kernel
theorem dksX4_read_1 : cX4_read.data.toList.drop 24 = dktX4_read_1 := dk_seg dksX4_read_0 24 rfl rfl
theorem dksX4_read_2 : cX4_read.data.toList.drop 48 = dktX4_read_2 := dk_seg dksX4_read_1 24 rfl rfl
theorem dksX4_read_3 : cX4_read.data.toList.drop 70 = dktX4_read_3 := dk_seg dksX4_read_2 22 rfl rfl
theorem dksX4_read_4 : cX4_read.data.toList.drop 94 = dktX4_read_4 := dk_seg dksX4_read_3 24 rfl rfl
theorem dksX4_read_5 : cX4_read.data.toList.drop 117 = dktX4_read_5 := dk_seg dksX4_read_4 23 rfl rfl
theorem dksX4_read_6 : cX4_read.data.toList.drop 140 = dktX4_read_6 := dk_seg dksX4_read_5 23 rfl rfl
theorem dX4_read_0 : decode cX4_read 0 = .ok (.aload_n 0, 1) := dk_42 (dk_at dksX4_read_0 0 rfl rfl)
theorem dX4_read_1 : decode cX4_read 1 = .ok (.iconst 0, 1) := dk_3 (dk_at dksX4_read_0 1 rfl rfl)
theorem dX4_read_2 : decode cX4_read 2 = .ok (.putfield 3, 3) := dk_181 0 3 (dk_at dksX4_read_0 2 rfl rfl)
theorem dX4_read_5 : decode cX4_read 5 = .ok (.aload_n 0, 1) := dk_42 (dk_at dksX4_read_0 5 rfl rfl)
theorem dX4_read_6 : decode cX4_read 6 = .ok (.invokevirtual 174, 3) := dk_182 0 174 (dk_at dksX4_read_0 6 rfl rfl)
theorem dX4_read_9 : decode cX4_read 9 = .ok (.iconst 0, 1) := dk_3 (dk_at dksX4_read_0 9 rfl rfl)
theorem dX4_read_10 : decode cX4_read 10 = .ok (.istore_n 1, 1) := dk_60 (dk_at dksX4_read_0 10 rfl rfl)
theorem dX4_read_11 : decode cX4_read 11 = .ok (.iload_n 1, 1) := dk_27 (dk_at dksX4_read_0 11 rfl rfl)
theorem dX4_read_12 : decode cX4_read 12 = .ok (.sipush 198, 3) := dk_17 0 198 (dk_at dksX4_read_0 12 rfl rfl)
theorem dX4_read_15 : decode cX4_read 15 = .ok (.if_icmp .ge 16, 3) := dk_162 0 16 (dk_at dksX4_read_0 15 rfl rfl)
theorem dX4_read_18 : decode cX4_read 18 = .ok (.aload_n 0, 1) := dk_42 (dk_at dksX4_read_0 18 rfl rfl)
theorem dX4_read_19 : decode cX4_read 19 = .ok (.getfield 80, 3) := dk_180 0 80 (dk_at dksX4_read_0 19 rfl rfl)
theorem dX4_read_22 : decode cX4_read 22 = .ok (.iload_n 1, 1) := dk_27 (dk_at dksX4_read_0 22 rfl rfl)
theorem dX4_read_23 : decode cX4_read 23 = .ok (.iconst 0, 1) := dk_3 (dk_at dksX4_read_0 23 rfl rfl)
theorem dX4_read_24 : decode cX4_read 24 = .ok (.iastore, 1) := dk_79 (dk_at dksX4_read_1 0 rfl rfl)
theorem dX4_read_25 : decode cX4_read 25 = .ok (.iinc 1 1, 3) := dk_132 1 1 (dk_at dksX4_read_1 1 rfl rfl)
theorem dX4_read_28 : decode cX4_read 28 = .ok (.goto (-17), 3) := dk_167 255 239 (dk_at dksX4_read_1 4 rfl rfl)
theorem dX4_read_31 : decode cX4_read 31 = .ok (.aload_n 0, 1) := dk_42 (dk_at dksX4_read_1 7 rfl rfl)
theorem dX4_read_32 : decode cX4_read 32 = .ok (.iconst 0, 1) := dk_3 (dk_at dksX4_read_1 8 rfl rfl)
theorem dX4_read_33 : decode cX4_read 33 = .ok (.putfield 141, 3) := dk_181 0 141 (dk_at dksX4_read_1 9 rfl rfl)
theorem dX4_read_36 : decode cX4_read 36 = .ok (.aload_n 0, 1) := dk_42 (dk_at dksX4_read_1 12 rfl rfl)
theorem dX4_read_37 : decode cX4_read 37 = .ok (.invokevirtual 34, 3) := dk_182 0 34 (dk_at dksX4_read_1 13 rfl rfl)
theorem dX4_read_40 : decode cX4_read 40 = .ok (.aload_n 0, 1) := dk_42 (dk_at dksX4_read_1 16 rfl rfl)
theorem dX4_read_41 : decode cX4_read 41 = .ok (.invokevirtual 38, 3) := dk_182 0 38 (dk_at dksX4_read_1 17 rfl rfl)
theorem dX4_read_44 : decode cX4_read 44 = .ok (.ifCond .ne 25, 3) := dk_154 0 25 (dk_at dksX4_read_1 20 rfl rfl)
theorem dX4_read_47 : decode cX4_read 47 = .ok (.aload_n 0, 1) := dk_42 (dk_at dksX4_read_1 23 rfl rfl)
theorem dX4_read_48 : decode cX4_read 48 = .ok (.getfield 21, 3) := dk_180 0 21 (dk_at dksX4_read_2 0 rfl rfl)
theorem dX4_read_51 : decode cX4_read 51 = .ok (.aload_n 0, 1) := dk_42 (dk_at dksX4_read_2 3 rfl rfl)
theorem dX4_read_52 : decode cX4_read 52 = .ok (.getfield 18, 3) := dk_180 0 18 (dk_at dksX4_read_2 4 rfl rfl)
theorem dX4_read_55 : decode cX4_read 55 = .ok (.if_icmp .ge 14, 3) := dk_162 0 14 (dk_at dksX4_read_2 7 rfl rfl)
theorem dX4_read_58 : decode cX4_read 58 = .ok (.aload_n 0, 1) := dk_42 (dk_at dksX4_read_2 10 rfl rfl)
theorem dX4_read_59 : decode cX4_read 59 = .ok (.invokevirtual 177, 3) := dk_182 0 177 (dk_at dksX4_read_2 11 rfl rfl)
theorem dX4_read_62 : decode cX4_read 62 = .ok (.aload_n 0, 1) := dk_42 (dk_at dksX4_read_2 14 rfl rfl)
theorem dX4_read_63 : decode cX4_read 63 = .ok (.invokevirtual 34, 3) := dk_182 0 34 (dk_at dksX4_read_2 15 rfl rfl)
theorem dX4_read_66 : decode cX4_read 66 = .ok (.goto (-26), 3) := dk_167 255 230 (dk_at dksX4_read_2 18 rfl rfl)
theorem dX4_read_69 : decode cX4_read 69 = .ok (.aload_n 0, 1) := dk_42 (dk_at dksX4_read_2 21 rfl rfl)
theorem dX4_read_70 : decode cX4_read 70 = .ok (.invokevirtual 38, 3) := dk_182 0 38 (dk_at dksX4_read_3 0 rfl rfl)
theorem dX4_read_73 : decode cX4_read 73 = .ok (.ifCond .ne 16, 3) := dk_154 0 16 (dk_at dksX4_read_3 3 rfl rfl)
theorem dX4_read_76 : decode cX4_read 76 = .ok (.aload_n 0, 1) := dk_42 (dk_at dksX4_read_3 6 rfl rfl)
theorem dX4_read_77 : decode cX4_read 77 = .ok (.getfield 80, 3) := dk_180 0 80 (dk_at dksX4_read_3 7 rfl rfl)
theorem dX4_read_80 : decode cX4_read 80 = .ok (.iconst 0, 1) := dk_3 (dk_at dksX4_read_3 10 rfl rfl)
theorem dX4_read_81 : decode cX4_read 81 = .ok (.iaload, 1) := dk_46 (dk_at dksX4_read_3 11 rfl rfl)
theorem dX4_read_82 : decode cX4_read 82 = .ok (.ifCond .ne 7, 3) := dk_154 0 7 (dk_at dksX4_read_3 12 rfl rfl)
theorem dX4_read_85 : decode cX4_read 85 = .ok (.aload_n 0, 1) := dk_42 (dk_at dksX4_read_3 15 rfl rfl)
theorem dX4_read_86 : decode cX4_read 86 = .ok (.invokevirtual 42, 3) := dk_182 0 42 (dk_at dksX4_read_3 16 rfl rfl)
theorem dX4_read_89 : decode cX4_read 89 = .ok (.aload_n 0, 1) := dk_42 (dk_at dksX4_read_3 19 rfl rfl)
theorem dX4_read_90 : decode cX4_read 90 = .ok (.aload_n 0, 1) := dk_42 (dk_at dksX4_read_3 20 rfl rfl)
theorem dX4_read_91 : decode cX4_read 91 = .ok (.getfield 24, 3) := dk_180 0 24 (dk_at dksX4_read_3 21 rfl rfl)
theorem dX4_read_94 : decode cX4_read 94 = .ok (.putfield 69, 3) := dk_181 0 69 (dk_at dksX4_read_4 0 rfl rfl)
theorem dX4_read_97 : decode cX4_read 97 = .ok (.aload_n 0, 1) := dk_42 (dk_at dksX4_read_4 3 rfl rfl)
theorem dX4_read_98 : decode cX4_read 98 = .ok (.aload_n 0, 1) := dk_42 (dk_at dksX4_read_4 4 rfl rfl)
theorem dX4_read_99 : decode cX4_read 99 = .ok (.invokevirtual 38, 3) := dk_182 0 38 (dk_at dksX4_read_4 5 rfl rfl)
theorem dX4_read_102 : decode cX4_read 102 = .ok (.iconst 1, 1) := dk_4 (dk_at dksX4_read_4 8 rfl rfl)
theorem dX4_read_103 : decode cX4_read 103 = .ok (.invokevirtual 180, 3) := dk_182 0 180 (dk_at dksX4_read_4 9 rfl rfl)
theorem dX4_read_106 : decode cX4_read 106 = .ok (.ifCond .eq 5, 3) := dk_153 0 5 (dk_at dksX4_read_4 12 rfl rfl)
theorem dX4_read_109 : decode cX4_read 109 = .ok (.iconst 0, 1) := dk_3 (dk_at dksX4_read_4 15 rfl rfl)
theorem dX4_read_110 : decode cX4_read 110 = .ok (.ireturn, 1) := dk_172 (dk_at dksX4_read_4 16 rfl rfl)
theorem dX4_read_111 : decode cX4_read 111 = .ok (.iconst 0, 1) := dk_3 (dk_at dksX4_read_4 17 rfl rfl)
theorem dX4_read_112 : decode cX4_read 112 = .ok (.istore_n 1, 1) := dk_60 (dk_at dksX4_read_4 18 rfl rfl)
theorem dX4_read_113 : decode cX4_read 113 = .ok (.iload_n 1, 1) := dk_27 (dk_at dksX4_read_4 19 rfl rfl)
theorem dX4_read_114 : decode cX4_read 114 = .ok (.sipush 198, 3) := dk_17 0 198 (dk_at dksX4_read_4 20 rfl rfl)
theorem dX4_read_117 : decode cX4_read 117 = .ok (.if_icmp .ge 21, 3) := dk_162 0 21 (dk_at dksX4_read_5 0 rfl rfl)
theorem dX4_read_120 : decode cX4_read 120 = .ok (.aload_n 0, 1) := dk_42 (dk_at dksX4_read_5 3 rfl rfl)
theorem dX4_read_121 : decode cX4_read 121 = .ok (.getfield 77, 3) := dk_180 0 77 (dk_at dksX4_read_5 4 rfl rfl)
theorem dX4_read_124 : decode cX4_read 124 = .ok (.iload_n 1, 1) := dk_27 (dk_at dksX4_read_5 7 rfl rfl)
theorem dX4_read_125 : decode cX4_read 125 = .ok (.aload_n 0, 1) := dk_42 (dk_at dksX4_read_5 8 rfl rfl)
theorem dX4_read_126 : decode cX4_read 126 = .ok (.getfield 80, 3) := dk_180 0 80 (dk_at dksX4_read_5 9 rfl rfl)
theorem dX4_read_129 : decode cX4_read 129 = .ok (.iload_n 1, 1) := dk_27 (dk_at dksX4_read_5 12 rfl rfl)
theorem dX4_read_130 : decode cX4_read 130 = .ok (.iaload, 1) := dk_46 (dk_at dksX4_read_5 13 rfl rfl)
theorem dX4_read_131 : decode cX4_read 131 = .ok (.iastore, 1) := dk_79 (dk_at dksX4_read_5 14 rfl rfl)
theorem dX4_read_132 : decode cX4_read 132 = .ok (.iinc 1 1, 3) := dk_132 1 1 (dk_at dksX4_read_5 15 rfl rfl)
theorem dX4_read_135 : decode cX4_read 135 = .ok (.goto (-22), 3) := dk_167 255 234 (dk_at dksX4_read_5 18 rfl rfl)
theorem dX4_read_138 : decode cX4_read 138 = .ok (.aload_n 0, 1) := dk_42 (dk_at dksX4_read_5 21 rfl rfl)
theorem dX4_read_139 : decode cX4_read 139 = .ok (.iconst 0, 1) := dk_3 (dk_at dksX4_read_5 22 rfl rfl)
theorem dX4_read_140 : decode cX4_read 140 = .ok (.putfield 184, 3) := dk_181 0 184 (dk_at dksX4_read_6 0 rfl rfl)
theorem dX4_read_143 : decode cX4_read 143 = .ok (.aload_n 0, 1) := dk_42 (dk_at dksX4_read_6 3 rfl rfl)
theorem dX4_read_144 : decode cX4_read 144 = .ok (.iconst 0, 1) := dk_3 (dk_at dksX4_read_6 4 rfl rfl)
theorem dX4_read_145 : decode cX4_read 145 = .ok (.putfield 187, 3) := dk_181 0 187 (dk_at dksX4_read_6 5 rfl rfl)
theorem dX4_read_148 : decode cX4_read 148 = .ok (.aload_n 0, 1) := dk_42 (dk_at dksX4_read_6 8 rfl rfl)
theorem dX4_read_149 : decode cX4_read 149 = .ok (.getfield 77, 3) := dk_180 0 77 (dk_at dksX4_read_6 9 rfl rfl)
theorem dX4_read_152 : decode cX4_read 152 = .ok (.iconst 0, 1) := dk_3 (dk_at dksX4_read_6 12 rfl rfl)
theorem dX4_read_153 : decode cX4_read 153 = .ok (.iaload, 1) := dk_46 (dk_at dksX4_read_6 13 rfl rfl)
theorem dX4_read_154 : decode cX4_read 154 = .ok (.ireturn, 1) := dk_172 (dk_at dksX4_read_6 14 rfl rfl)
abbrev cX4_begins : ByteArray := prog_13_method_6_code
def yX4_begins : MethodName := ⟨RX4, "begins", "()V"⟩
def dkwX4_begins_0 : List UInt8 := [42, 42, 180, 0, 7, 181, 0, 18, 42, 3, 181, 0, 7, 42, 3, 181, 0, 21, 42, 2, 181, 0, 24, 177]
abbrev dktX4_begins_0 : List UInt8 := dkwX4_begins_0 ++ []
theorem dksX4_begins_0 : cX4_begins.data.toList.drop 0 = dktX4_begins_0 := by decide +kernel
theorem dX4_begins_0 : decode cX4_begins 0 = .ok (.aload_n 0, 1) := dk_42 (dk_at dksX4_begins_0 0 rfl rfl)
theorem dX4_begins_1 : decode cX4_begins 1 = .ok (.aload_n 0, 1) := dk_42 (dk_at dksX4_begins_0 1 rfl rfl)
theorem dX4_begins_2 : decode cX4_begins 2 = .ok (.getfield 7, 3) := dk_180 0 7 (dk_at dksX4_begins_0 2 rfl rfl)
theorem dX4_begins_5 : decode cX4_begins 5 = .ok (.putfield 18, 3) := dk_181 0 18 (dk_at dksX4_begins_0 5 rfl rfl)
theorem dX4_begins_8 : decode cX4_begins 8 = .ok (.aload_n 0, 1) := dk_42 (dk_at dksX4_begins_0 8 rfl rfl)
theorem dX4_begins_9 : decode cX4_begins 9 = .ok (.iconst 0, 1) := dk_3 (dk_at dksX4_begins_0 9 rfl rfl)
theorem dX4_begins_10 : decode cX4_begins 10 = .ok (.putfield 7, 3) := dk_181 0 7 (dk_at dksX4_begins_0 10 rfl rfl)
theorem dX4_begins_13 : decode cX4_begins 13 = .ok (.aload_n 0, 1) := dk_42 (dk_at dksX4_begins_0 13 rfl rfl)
theorem dX4_begins_14 : decode cX4_begins 14 = .ok (.iconst 0, 1) := dk_3 (dk_at dksX4_begins_0 14 rfl rfl)
theorem dX4_begins_15 : decode cX4_begins 15 = .ok (.putfield 21, 3) := dk_181 0 21 (dk_at dksX4_begins_0 15 rfl rfl)
theorem dX4_begins_18 : decode cX4_begins 18 = .ok (.aload_n 0, 1) := dk_42 (dk_at dksX4_begins_0 18 rfl rfl)
theorem dX4_begins_19 : decode cX4_begins 19 = .ok (.iconst (-1), 1) := dk_2 (dk_at dksX4_begins_0 19 rfl rfl)
theorem dX4_begins_20 : decode cX4_begins 20 = .ok (.putfield 24, 3) := dk_181 0 24 (dk_at dksX4_begins_0 20 rfl rfl)
theorem dX4_begins_23 : decode cX4_begins 23 = .ok (.return_, 1) := dk_177 (dk_at dksX4_begins_0 23 rfl rfl)
abbrev cX4_blanks : ByteArray := prog_13_method_9_code
def yX4_blanks : MethodName := ⟨RX4, "blanks", "()V"⟩
def dkwX4_blanks_1 : List UInt8 := [180, 0, 21, 4, 96, 181, 0, 21, 167, 255, 224, 42, 42, 180, 0, 21, 181, 0, 31, 177]
abbrev dktX4_blanks_1 : List UInt8 := dkwX4_blanks_1 ++ []
def dkwX4_blanks_0 : List UInt8 := [42, 16, 9, 16, 10, 182, 0, 27, 154, 0, 14, 42, 16, 32, 16, 32, 182, 0, 27, 153, 0, 16, 42, 89]
abbrev dktX4_blanks_0 : List UInt8 := dkwX4_blanks_0 ++ dktX4_blanks_1
theorem dksX4_blanks_0 : cX4_blanks.data.toList.drop 0 = dktX4_blanks_0 := by decide +kernel
theorem dksX4_blanks_1 : cX4_blanks.data.toList.drop 24 = dktX4_blanks_1 := dk_seg dksX4_blanks_0 24 rfl rfl
theorem dX4_blanks_0 : decode cX4_blanks 0 = .ok (.aload_n 0, 1) := dk_42 (dk_at dksX4_blanks_0 0 rfl rfl)
theorem dX4_blanks_1 : decode cX4_blanks 1 = .ok (.bipush 9, 2) := dk_16 9 (dk_at dksX4_blanks_0 1 rfl rfl)
theorem dX4_blanks_3 : decode cX4_blanks 3 = .ok (.bipush 10, 2) := dk_16 10 (dk_at dksX4_blanks_0 3 rfl rfl)
theorem dX4_blanks_5 : decode cX4_blanks 5 = .ok (.invokevirtual 27, 3) := dk_182 0 27 (dk_at dksX4_blanks_0 5 rfl rfl)
theorem dX4_blanks_8 : decode cX4_blanks 8 = .ok (.ifCond .ne 14, 3) := dk_154 0 14 (dk_at dksX4_blanks_0 8 rfl rfl)
theorem dX4_blanks_11 : decode cX4_blanks 11 = .ok (.aload_n 0, 1) := dk_42 (dk_at dksX4_blanks_0 11 rfl rfl)
theorem dX4_blanks_12 : decode cX4_blanks 12 = .ok (.bipush 32, 2) := dk_16 32 (dk_at dksX4_blanks_0 12 rfl rfl)
theorem dX4_blanks_14 : decode cX4_blanks 14 = .ok (.bipush 32, 2) := dk_16 32 (dk_at dksX4_blanks_0 14 rfl rfl)
theorem dX4_blanks_16 : decode cX4_blanks 16 = .ok (.invokevirtual 27, 3) := dk_182 0 27 (dk_at dksX4_blanks_0 16 rfl rfl)
theorem dX4_blanks_19 : decode cX4_blanks 19 = .ok (.ifCond .eq 16, 3) := dk_153 0 16 (dk_at dksX4_blanks_0 19 rfl rfl)
theorem dX4_blanks_22 : decode cX4_blanks 22 = .ok (.aload_n 0, 1) := dk_42 (dk_at dksX4_blanks_0 22 rfl rfl)
theorem dX4_blanks_23 : decode cX4_blanks 23 = .ok (.dup, 1) := dk_89 (dk_at dksX4_blanks_0 23 rfl rfl)
theorem dX4_blanks_24 : decode cX4_blanks 24 = .ok (.getfield 21, 3) := dk_180 0 21 (dk_at dksX4_blanks_1 0 rfl rfl)
theorem dX4_blanks_27 : decode cX4_blanks 27 = .ok (.iconst 1, 1) := dk_4 (dk_at dksX4_blanks_1 3 rfl rfl)
theorem dX4_blanks_28 : decode cX4_blanks 28 = .ok (.iadd, 1) := dk_96 (dk_at dksX4_blanks_1 4 rfl rfl)
theorem dX4_blanks_29 : decode cX4_blanks 29 = .ok (.putfield 21, 3) := dk_181 0 21 (dk_at dksX4_blanks_1 5 rfl rfl)
theorem dX4_blanks_32 : decode cX4_blanks 32 = .ok (.goto (-32), 3) := dk_167 255 224 (dk_at dksX4_blanks_1 8 rfl rfl)
theorem dX4_blanks_35 : decode cX4_blanks 35 = .ok (.aload_n 0, 1) := dk_42 (dk_at dksX4_blanks_1 11 rfl rfl)
theorem dX4_blanks_36 : decode cX4_blanks 36 = .ok (.aload_n 0, 1) := dk_42 (dk_at dksX4_blanks_1 12 rfl rfl)
theorem dX4_blanks_37 : decode cX4_blanks 37 = .ok (.getfield 21, 3) := dk_180 0 21 (dk_at dksX4_blanks_1 13 rfl rfl)
theorem dX4_blanks_40 : decode cX4_blanks 40 = .ok (.putfield 31, 3) := dk_181 0 31 (dk_at dksX4_blanks_1 16 rfl rfl)
theorem dX4_blanks_43 : decode cX4_blanks 43 = .ok (.return_, 1) := dk_177 (dk_at dksX4_blanks_1 19 rfl rfl)
abbrev cX4_isAt : ByteArray := prog_13_method_8_code
def yX4_isAt : MethodName := ⟨RX4, "isAt", "(II)Z"⟩
def dkwX4_isAt_1 : List UInt8 := [42, 180, 0, 14, 42, 180, 0, 21, 51, 28, 163, 0, 7, 4, 167, 0, 4, 3, 172]
abbrev dktX4_isAt_1 : List UInt8 := dkwX4_isAt_1 ++ []
def dkwX4_isAt_0 : List UInt8 := [42, 180, 0, 21, 42, 180, 0, 18, 162, 0, 33, 42, 180, 0, 14, 42, 180, 0, 21, 51, 27, 161, 0, 20]
abbrev dktX4_isAt_0 : List UInt8 := dkwX4_isAt_0 ++ dktX4_isAt_1
theorem dksX4_isAt_0 : cX4_isAt.data.toList.drop 0 = dktX4_isAt_0 := by decide +kernel
theorem dksX4_isAt_1 : cX4_isAt.data.toList.drop 24 = dktX4_isAt_1 := dk_seg dksX4_isAt_0 24 rfl rfl
theorem dX4_isAt_0 : decode cX4_isAt 0 = .ok (.aload_n 0, 1) := dk_42 (dk_at dksX4_isAt_0 0 rfl rfl)
theorem dX4_isAt_1 : decode cX4_isAt 1 = .ok (.getfield 21, 3) := dk_180 0 21 (dk_at dksX4_isAt_0 1 rfl rfl)
theorem dX4_isAt_4 : decode cX4_isAt 4 = .ok (.aload_n 0, 1) := dk_42 (dk_at dksX4_isAt_0 4 rfl rfl)
theorem dX4_isAt_5 : decode cX4_isAt 5 = .ok (.getfield 18, 3) := dk_180 0 18 (dk_at dksX4_isAt_0 5 rfl rfl)
theorem dX4_isAt_8 : decode cX4_isAt 8 = .ok (.if_icmp .ge 33, 3) := dk_162 0 33 (dk_at dksX4_isAt_0 8 rfl rfl)
theorem dX4_isAt_11 : decode cX4_isAt 11 = .ok (.aload_n 0, 1) := dk_42 (dk_at dksX4_isAt_0 11 rfl rfl)
theorem dX4_isAt_12 : decode cX4_isAt 12 = .ok (.getfield 14, 3) := dk_180 0 14 (dk_at dksX4_isAt_0 12 rfl rfl)
theorem dX4_isAt_15 : decode cX4_isAt 15 = .ok (.aload_n 0, 1) := dk_42 (dk_at dksX4_isAt_0 15 rfl rfl)
theorem dX4_isAt_16 : decode cX4_isAt 16 = .ok (.getfield 21, 3) := dk_180 0 21 (dk_at dksX4_isAt_0 16 rfl rfl)
theorem dX4_isAt_19 : decode cX4_isAt 19 = .ok (.baload, 1) := dk_51 (dk_at dksX4_isAt_0 19 rfl rfl)
theorem dX4_isAt_20 : decode cX4_isAt 20 = .ok (.iload_n 1, 1) := dk_27 (dk_at dksX4_isAt_0 20 rfl rfl)
theorem dX4_isAt_21 : decode cX4_isAt 21 = .ok (.if_icmp .lt 20, 3) := dk_161 0 20 (dk_at dksX4_isAt_0 21 rfl rfl)
theorem dX4_isAt_24 : decode cX4_isAt 24 = .ok (.aload_n 0, 1) := dk_42 (dk_at dksX4_isAt_1 0 rfl rfl)
theorem dX4_isAt_25 : decode cX4_isAt 25 = .ok (.getfield 14, 3) := dk_180 0 14 (dk_at dksX4_isAt_1 1 rfl rfl)
theorem dX4_isAt_28 : decode cX4_isAt 28 = .ok (.aload_n 0, 1) := dk_42 (dk_at dksX4_isAt_1 4 rfl rfl)
theorem dX4_isAt_29 : decode cX4_isAt 29 = .ok (.getfield 21, 3) := dk_180 0 21 (dk_at dksX4_isAt_1 5 rfl rfl)
theorem dX4_isAt_32 : decode cX4_isAt 32 = .ok (.baload, 1) := dk_51 (dk_at dksX4_isAt_1 8 rfl rfl)
theorem dX4_isAt_33 : decode cX4_isAt 33 = .ok (.iload_n 2, 1) := dk_28 (dk_at dksX4_isAt_1 9 rfl rfl)
theorem dX4_isAt_34 : decode cX4_isAt 34 = .ok (.if_icmp .gt 7, 3) := dk_163 0 7 (dk_at dksX4_isAt_1 10 rfl rfl)
theorem dX4_isAt_37 : decode cX4_isAt 37 = .ok (.iconst 1, 1) := dk_4 (dk_at dksX4_isAt_1 13 rfl rfl)
theorem dX4_isAt_38 : decode cX4_isAt 38 = .ok (.goto 4, 3) := dk_167 0 4 (dk_at dksX4_isAt_1 14 rfl rfl)
theorem dX4_isAt_41 : decode cX4_isAt 41 = .ok (.iconst 0, 1) := dk_3 (dk_at dksX4_isAt_1 17 rfl rfl)
theorem dX4_isAt_42 : decode cX4_isAt 42 = .ok (.ireturn, 1) := dk_172 (dk_at dksX4_isAt_1 18 rfl rfl)
abbrev cX4_hasFailed : ByteArray := prog_13_method_7_code
def yX4_hasFailed : MethodName := ⟨RX4, "hasFailed", "()Z"⟩
def dkwX4_hasFailed_0 : List UInt8 := [42, 180, 0, 24, 2, 159, 0, 7, 4, 167, 0, 4, 3, 172]
abbrev dktX4_hasFailed_0 : List UInt8 := dkwX4_hasFailed_0 ++ []
theorem dksX4_hasFailed_0 : cX4_hasFailed.data.toList.drop 0 = dktX4_hasFailed_0 := by decide +kernel
theorem dX4_hasFailed_0 : decode cX4_hasFailed 0 = .ok (.aload_n 0, 1) := dk_42 (dk_at dksX4_hasFailed_0 0 rfl rfl)
theorem dX4_hasFailed_1 : decode cX4_hasFailed 1 = .ok (.getfield 24, 3) := dk_180 0 24 (dk_at dksX4_hasFailed_0 1 rfl rfl)
theorem dX4_hasFailed_4 : decode cX4_hasFailed 4 = .ok (.iconst (-1), 1) := dk_2 (dk_at dksX4_hasFailed_0 4 rfl rfl)
theorem dX4_hasFailed_5 : decode cX4_hasFailed 5 = .ok (.if_icmp .eq 7, 3) := dk_159 0 7 (dk_at dksX4_hasFailed_0 5 rfl rfl)
theorem dX4_hasFailed_8 : decode cX4_hasFailed 8 = .ok (.iconst 1, 1) := dk_4 (dk_at dksX4_hasFailed_0 8 rfl rfl)
theorem dX4_hasFailed_9 : decode cX4_hasFailed 9 = .ok (.goto 4, 3) := dk_167 0 4 (dk_at dksX4_hasFailed_0 9 rfl rfl)
theorem dX4_hasFailed_12 : decode cX4_hasFailed 12 = .ok (.iconst 0, 1) := dk_3 (dk_at dksX4_hasFailed_0 12 rfl rfl)
theorem dX4_hasFailed_13 : decode cX4_hasFailed 13 = .ok (.ireturn, 1) := dk_172 (dk_at dksX4_hasFailed_0 13 rfl rfl)
abbrev cX4_line : ByteArray := prog_13_method_27_code
def yX4_line : MethodName := ⟨RX4, "line", "()V"⟩
def dkwX4_line_5 : List UInt8 := [153, 0, 10, 42, 182, 0, 168, 167, 0, 7, 42, 182, 0, 42, 42, 16, 59, 182, 0, 171, 177]
abbrev dktX4_line_5 : List UInt8 := dkwX4_line_5 ++ []
def dkwX4_line_4 : List UInt8 := [182, 0, 58, 153, 0, 10, 42, 182, 0, 165, 167, 0, 27, 27, 153, 0, 19, 42, 18, 132, 182, 0, 58]
abbrev dktX4_line_4 : List UInt8 := dkwX4_line_4 ++ dktX4_line_5
def dkwX4_line_3 : List UInt8 := [18, 128, 182, 0, 58, 153, 0, 10, 42, 182, 0, 162, 167, 0, 47, 27, 153, 0, 19, 42, 18, 130]
abbrev dktX4_line_3 : List UInt8 := dkwX4_line_3 ++ dktX4_line_4
def dkwX4_line_2 : List UInt8 := [153, 0, 19, 42, 18, 120, 182, 0, 58, 153, 0, 10, 42, 182, 0, 159, 167, 0, 67, 27, 153, 0, 19, 42]
abbrev dktX4_line_2 : List UInt8 := dkwX4_line_2 ++ dktX4_line_3
def dkwX4_line_1 : List UInt8 := [18, 118, 182, 0, 62, 153, 0, 18, 42, 180, 0, 80, 3, 42, 5, 7, 182, 0, 149, 79, 167, 0, 87, 27]
abbrev dktX4_line_1 : List UInt8 := dkwX4_line_1 ++ dktX4_line_2
def dkwX4_line_0 : List UInt8 := [42, 182, 0, 34, 42, 180, 0, 80, 3, 46, 158, 0, 7, 4, 167, 0, 4, 3, 60, 27, 154, 0, 27, 42]
abbrev dktX4_line_0 : List UInt8 := dkwX4_line_0 ++ dktX4_line_1
theorem dksX4_line_0 : cX4_line.data.toList.drop 0 = dktX4_line_0 := by decide +kernel
theorem dksX4_line_1 : cX4_line.data.toList.drop 24 = dktX4_line_1 := dk_seg dksX4_line_0 24 rfl rfl
theorem dksX4_line_2 : cX4_line.data.toList.drop 48 = dktX4_line_2 := dk_seg dksX4_line_1 24 rfl rfl
theorem dksX4_line_3 : cX4_line.data.toList.drop 72 = dktX4_line_3 := dk_seg dksX4_line_2 24 rfl rfl
theorem dksX4_line_4 : cX4_line.data.toList.drop 94 = dktX4_line_4 := dk_seg dksX4_line_3 22 rfl rfl
theorem dksX4_line_5 : cX4_line.data.toList.drop 117 = dktX4_line_5 := dk_seg dksX4_line_4 23 rfl rfl
theorem dX4_line_0 : decode cX4_line 0 = .ok (.aload_n 0, 1) := dk_42 (dk_at dksX4_line_0 0 rfl rfl)
theorem dX4_line_1 : decode cX4_line 1 = .ok (.invokevirtual 34, 3) := dk_182 0 34 (dk_at dksX4_line_0 1 rfl rfl)
theorem dX4_line_4 : decode cX4_line 4 = .ok (.aload_n 0, 1) := dk_42 (dk_at dksX4_line_0 4 rfl rfl)
theorem dX4_line_5 : decode cX4_line 5 = .ok (.getfield 80, 3) := dk_180 0 80 (dk_at dksX4_line_0 5 rfl rfl)
theorem dX4_line_8 : decode cX4_line 8 = .ok (.iconst 0, 1) := dk_3 (dk_at dksX4_line_0 8 rfl rfl)
theorem dX4_line_9 : decode cX4_line 9 = .ok (.iaload, 1) := dk_46 (dk_at dksX4_line_0 9 rfl rfl)
theorem dX4_line_10 : decode cX4_line 10 = .ok (.ifCond .le 7, 3) := dk_158 0 7 (dk_at dksX4_line_0 10 rfl rfl)
theorem dX4_line_13 : decode cX4_line 13 = .ok (.iconst 1, 1) := dk_4 (dk_at dksX4_line_0 13 rfl rfl)
theorem dX4_line_14 : decode cX4_line 14 = .ok (.goto 4, 3) := dk_167 0 4 (dk_at dksX4_line_0 14 rfl rfl)
theorem dX4_line_17 : decode cX4_line 17 = .ok (.iconst 0, 1) := dk_3 (dk_at dksX4_line_0 17 rfl rfl)
theorem dX4_line_18 : decode cX4_line 18 = .ok (.istore_n 1, 1) := dk_60 (dk_at dksX4_line_0 18 rfl rfl)
theorem dX4_line_19 : decode cX4_line 19 = .ok (.iload_n 1, 1) := dk_27 (dk_at dksX4_line_0 19 rfl rfl)
theorem dX4_line_20 : decode cX4_line 20 = .ok (.ifCond .ne 27, 3) := dk_154 0 27 (dk_at dksX4_line_0 20 rfl rfl)
theorem dX4_line_23 : decode cX4_line 23 = .ok (.aload_n 0, 1) := dk_42 (dk_at dksX4_line_0 23 rfl rfl)
theorem dX4_line_24 : decode cX4_line 24 = .ok (.ldc 118, 2) := dk_18 118 (dk_at dksX4_line_1 0 rfl rfl)
theorem dX4_line_26 : decode cX4_line 26 = .ok (.invokevirtual 62, 3) := dk_182 0 62 (dk_at dksX4_line_1 2 rfl rfl)
theorem dX4_line_29 : decode cX4_line 29 = .ok (.ifCond .eq 18, 3) := dk_153 0 18 (dk_at dksX4_line_1 5 rfl rfl)
theorem dX4_line_32 : decode cX4_line 32 = .ok (.aload_n 0, 1) := dk_42 (dk_at dksX4_line_1 8 rfl rfl)
theorem dX4_line_33 : decode cX4_line 33 = .ok (.getfield 80, 3) := dk_180 0 80 (dk_at dksX4_line_1 9 rfl rfl)
theorem dX4_line_36 : decode cX4_line 36 = .ok (.iconst 0, 1) := dk_3 (dk_at dksX4_line_1 12 rfl rfl)
theorem dX4_line_37 : decode cX4_line 37 = .ok (.aload_n 0, 1) := dk_42 (dk_at dksX4_line_1 13 rfl rfl)
theorem dX4_line_38 : decode cX4_line 38 = .ok (.iconst 2, 1) := dk_5 (dk_at dksX4_line_1 14 rfl rfl)
theorem dX4_line_39 : decode cX4_line 39 = .ok (.iconst 4, 1) := dk_7 (dk_at dksX4_line_1 15 rfl rfl)
theorem dX4_line_40 : decode cX4_line 40 = .ok (.invokevirtual 149, 3) := dk_182 0 149 (dk_at dksX4_line_1 16 rfl rfl)
theorem dX4_line_43 : decode cX4_line 43 = .ok (.iastore, 1) := dk_79 (dk_at dksX4_line_1 19 rfl rfl)
theorem dX4_line_44 : decode cX4_line 44 = .ok (.goto 87, 3) := dk_167 0 87 (dk_at dksX4_line_1 20 rfl rfl)
theorem dX4_line_47 : decode cX4_line 47 = .ok (.iload_n 1, 1) := dk_27 (dk_at dksX4_line_1 23 rfl rfl)
theorem dX4_line_48 : decode cX4_line 48 = .ok (.ifCond .eq 19, 3) := dk_153 0 19 (dk_at dksX4_line_2 0 rfl rfl)
theorem dX4_line_51 : decode cX4_line 51 = .ok (.aload_n 0, 1) := dk_42 (dk_at dksX4_line_2 3 rfl rfl)
theorem dX4_line_52 : decode cX4_line 52 = .ok (.ldc 120, 2) := dk_18 120 (dk_at dksX4_line_2 4 rfl rfl)
theorem dX4_line_54 : decode cX4_line 54 = .ok (.invokevirtual 58, 3) := dk_182 0 58 (dk_at dksX4_line_2 6 rfl rfl)
theorem dX4_line_57 : decode cX4_line 57 = .ok (.ifCond .eq 10, 3) := dk_153 0 10 (dk_at dksX4_line_2 9 rfl rfl)
theorem dX4_line_60 : decode cX4_line 60 = .ok (.aload_n 0, 1) := dk_42 (dk_at dksX4_line_2 12 rfl rfl)
theorem dX4_line_61 : decode cX4_line 61 = .ok (.invokevirtual 159, 3) := dk_182 0 159 (dk_at dksX4_line_2 13 rfl rfl)
theorem dX4_line_64 : decode cX4_line 64 = .ok (.goto 67, 3) := dk_167 0 67 (dk_at dksX4_line_2 16 rfl rfl)
theorem dX4_line_67 : decode cX4_line 67 = .ok (.iload_n 1, 1) := dk_27 (dk_at dksX4_line_2 19 rfl rfl)
theorem dX4_line_68 : decode cX4_line 68 = .ok (.ifCond .eq 19, 3) := dk_153 0 19 (dk_at dksX4_line_2 20 rfl rfl)
theorem dX4_line_71 : decode cX4_line 71 = .ok (.aload_n 0, 1) := dk_42 (dk_at dksX4_line_2 23 rfl rfl)
theorem dX4_line_72 : decode cX4_line 72 = .ok (.ldc 128, 2) := dk_18 128 (dk_at dksX4_line_3 0 rfl rfl)
theorem dX4_line_74 : decode cX4_line 74 = .ok (.invokevirtual 58, 3) := dk_182 0 58 (dk_at dksX4_line_3 2 rfl rfl)
theorem dX4_line_77 : decode cX4_line 77 = .ok (.ifCond .eq 10, 3) := dk_153 0 10 (dk_at dksX4_line_3 5 rfl rfl)
theorem dX4_line_80 : decode cX4_line 80 = .ok (.aload_n 0, 1) := dk_42 (dk_at dksX4_line_3 8 rfl rfl)
theorem dX4_line_81 : decode cX4_line 81 = .ok (.invokevirtual 162, 3) := dk_182 0 162 (dk_at dksX4_line_3 9 rfl rfl)
theorem dX4_line_84 : decode cX4_line 84 = .ok (.goto 47, 3) := dk_167 0 47 (dk_at dksX4_line_3 12 rfl rfl)
theorem dX4_line_87 : decode cX4_line 87 = .ok (.iload_n 1, 1) := dk_27 (dk_at dksX4_line_3 15 rfl rfl)
theorem dX4_line_88 : decode cX4_line 88 = .ok (.ifCond .eq 19, 3) := dk_153 0 19 (dk_at dksX4_line_3 16 rfl rfl)
theorem dX4_line_91 : decode cX4_line 91 = .ok (.aload_n 0, 1) := dk_42 (dk_at dksX4_line_3 19 rfl rfl)
theorem dX4_line_92 : decode cX4_line 92 = .ok (.ldc 130, 2) := dk_18 130 (dk_at dksX4_line_3 20 rfl rfl)
theorem dX4_line_94 : decode cX4_line 94 = .ok (.invokevirtual 58, 3) := dk_182 0 58 (dk_at dksX4_line_4 0 rfl rfl)
theorem dX4_line_97 : decode cX4_line 97 = .ok (.ifCond .eq 10, 3) := dk_153 0 10 (dk_at dksX4_line_4 3 rfl rfl)
theorem dX4_line_100 : decode cX4_line 100 = .ok (.aload_n 0, 1) := dk_42 (dk_at dksX4_line_4 6 rfl rfl)
theorem dX4_line_101 : decode cX4_line 101 = .ok (.invokevirtual 165, 3) := dk_182 0 165 (dk_at dksX4_line_4 7 rfl rfl)
theorem dX4_line_104 : decode cX4_line 104 = .ok (.goto 27, 3) := dk_167 0 27 (dk_at dksX4_line_4 10 rfl rfl)
theorem dX4_line_107 : decode cX4_line 107 = .ok (.iload_n 1, 1) := dk_27 (dk_at dksX4_line_4 13 rfl rfl)
theorem dX4_line_108 : decode cX4_line 108 = .ok (.ifCond .eq 19, 3) := dk_153 0 19 (dk_at dksX4_line_4 14 rfl rfl)
theorem dX4_line_111 : decode cX4_line 111 = .ok (.aload_n 0, 1) := dk_42 (dk_at dksX4_line_4 17 rfl rfl)
theorem dX4_line_112 : decode cX4_line 112 = .ok (.ldc 132, 2) := dk_18 132 (dk_at dksX4_line_4 18 rfl rfl)
theorem dX4_line_114 : decode cX4_line 114 = .ok (.invokevirtual 58, 3) := dk_182 0 58 (dk_at dksX4_line_4 20 rfl rfl)
theorem dX4_line_117 : decode cX4_line 117 = .ok (.ifCond .eq 10, 3) := dk_153 0 10 (dk_at dksX4_line_5 0 rfl rfl)
theorem dX4_line_120 : decode cX4_line 120 = .ok (.aload_n 0, 1) := dk_42 (dk_at dksX4_line_5 3 rfl rfl)
theorem dX4_line_121 : decode cX4_line 121 = .ok (.invokevirtual 168, 3) := dk_182 0 168 (dk_at dksX4_line_5 4 rfl rfl)
theorem dX4_line_124 : decode cX4_line 124 = .ok (.goto 7, 3) := dk_167 0 7 (dk_at dksX4_line_5 7 rfl rfl)
theorem dX4_line_127 : decode cX4_line 127 = .ok (.aload_n 0, 1) := dk_42 (dk_at dksX4_line_5 10 rfl rfl)
theorem dX4_line_128 : decode cX4_line 128 = .ok (.invokevirtual 42, 3) := dk_182 0 42 (dk_at dksX4_line_5 11 rfl rfl)
theorem dX4_line_131 : decode cX4_line 131 = .ok (.aload_n 0, 1) := dk_42 (dk_at dksX4_line_5 14 rfl rfl)
theorem dX4_line_132 : decode cX4_line 132 = .ok (.bipush 59, 2) := dk_16 59 (dk_at dksX4_line_5 15 rfl rfl)
theorem dX4_line_134 : decode cX4_line 134 = .ok (.invokevirtual 171, 3) := dk_182 0 171 (dk_at dksX4_line_5 17 rfl rfl)
theorem dX4_line_137 : decode cX4_line 137 = .ok (.return_, 1) := dk_177 (dk_at dksX4_line_5 20 rfl rfl)
abbrev cX4_takesWord : ByteArray := prog_13_method_14_code
def yX4_takesWord : MethodName := ⟨RX4, "takesWord", "(Ljava/lang/String;)Z"⟩
def dkwX4_takesWord_1 : List UInt8 := [172]
abbrev dktX4_takesWord_1 : List UInt8 := dkwX4_takesWord_1 ++ []
def dkwX4_takesWord_0 : List UInt8 := [42, 43, 182, 0, 58, 61, 28, 153, 0, 16, 42, 89, 180, 0, 21, 43, 182, 0, 49, 96, 181, 0, 21, 28]
abbrev dktX4_takesWord_0 : List UInt8 := dkwX4_takesWord_0 ++ dktX4_takesWord_1
theorem dksX4_takesWord_0 : cX4_takesWord.data.toList.drop 0 = dktX4_takesWord_0 := by decide +kernel
theorem dksX4_takesWord_1 : cX4_takesWord.data.toList.drop 24 = dktX4_takesWord_1 := dk_seg dksX4_takesWord_0 24 rfl rfl
theorem dX4_takesWord_0 : decode cX4_takesWord 0 = .ok (.aload_n 0, 1) := dk_42 (dk_at dksX4_takesWord_0 0 rfl rfl)
theorem dX4_takesWord_1 : decode cX4_takesWord 1 = .ok (.aload_n 1, 1) := dk_43 (dk_at dksX4_takesWord_0 1 rfl rfl)
theorem dX4_takesWord_2 : decode cX4_takesWord 2 = .ok (.invokevirtual 58, 3) := dk_182 0 58 (dk_at dksX4_takesWord_0 2 rfl rfl)
theorem dX4_takesWord_5 : decode cX4_takesWord 5 = .ok (.istore_n 2, 1) := dk_61 (dk_at dksX4_takesWord_0 5 rfl rfl)
theorem dX4_takesWord_6 : decode cX4_takesWord 6 = .ok (.iload_n 2, 1) := dk_28 (dk_at dksX4_takesWord_0 6 rfl rfl)
theorem dX4_takesWord_7 : decode cX4_takesWord 7 = .ok (.ifCond .eq 16, 3) := dk_153 0 16 (dk_at dksX4_takesWord_0 7 rfl rfl)
theorem dX4_takesWord_10 : decode cX4_takesWord 10 = .ok (.aload_n 0, 1) := dk_42 (dk_at dksX4_takesWord_0 10 rfl rfl)
theorem dX4_takesWord_11 : decode cX4_takesWord 11 = .ok (.dup, 1) := dk_89 (dk_at dksX4_takesWord_0 11 rfl rfl)
theorem dX4_takesWord_12 : decode cX4_takesWord 12 = .ok (.getfield 21, 3) := dk_180 0 21 (dk_at dksX4_takesWord_0 12 rfl rfl)
theorem dX4_takesWord_15 : decode cX4_takesWord 15 = .ok (.aload_n 1, 1) := dk_43 (dk_at dksX4_takesWord_0 15 rfl rfl)
theorem dX4_takesWord_16 : decode cX4_takesWord 16 = .ok (.invokevirtual 49, 3) := dk_182 0 49 (dk_at dksX4_takesWord_0 16 rfl rfl)
theorem dX4_takesWord_19 : decode cX4_takesWord 19 = .ok (.iadd, 1) := dk_96 (dk_at dksX4_takesWord_0 19 rfl rfl)
theorem dX4_takesWord_20 : decode cX4_takesWord 20 = .ok (.putfield 21, 3) := dk_181 0 21 (dk_at dksX4_takesWord_0 20 rfl rfl)
theorem dX4_takesWord_23 : decode cX4_takesWord 23 = .ok (.iload_n 2, 1) := dk_28 (dk_at dksX4_takesWord_0 23 rfl rfl)
theorem dX4_takesWord_24 : decode cX4_takesWord 24 = .ok (.ireturn, 1) := dk_172 (dk_at dksX4_takesWord_1 0 rfl rfl)
abbrev cX4_isWord : ByteArray := prog_13_method_13_code
def yX4_isWord : MethodName := ⟨RX4, "isWord", "(Ljava/lang/String;)Z"⟩
def dkwX4_isWord_2 : List UInt8 := [51, 43, 29, 182, 0, 54, 160, 0, 7, 4, 167, 0, 4, 3, 61, 132, 3, 1, 167, 255, 216, 28, 172]
abbrev dktX4_isWord_2 : List UInt8 := dkwX4_isWord_2 ++ []
def dkwX4_isWord_1 : List UInt8 := [3, 62, 28, 153, 0, 42, 29, 43, 182, 0, 49, 162, 0, 34, 42, 180, 0, 14, 42, 180, 0, 21, 29, 96]
abbrev dktX4_isWord_1 : List UInt8 := dkwX4_isWord_1 ++ dktX4_isWord_2
def dkwX4_isWord_0 : List UInt8 := [42, 182, 0, 38, 154, 0, 18, 42, 182, 0, 45, 43, 182, 0, 49, 160, 0, 7, 4, 167, 0, 4, 3, 61]
abbrev dktX4_isWord_0 : List UInt8 := dkwX4_isWord_0 ++ dktX4_isWord_1
theorem dksX4_isWord_0 : cX4_isWord.data.toList.drop 0 = dktX4_isWord_0 := by decide +kernel
theorem dksX4_isWord_1 : cX4_isWord.data.toList.drop 24 = dktX4_isWord_1 := dk_seg dksX4_isWord_0 24 rfl rfl
theorem dksX4_isWord_2 : cX4_isWord.data.toList.drop 48 = dktX4_isWord_2 := dk_seg dksX4_isWord_1 24 rfl rfl
theorem dX4_isWord_0 : decode cX4_isWord 0 = .ok (.aload_n 0, 1) := dk_42 (dk_at dksX4_isWord_0 0 rfl rfl)
theorem dX4_isWord_1 : decode cX4_isWord 1 = .ok (.invokevirtual 38, 3) := dk_182 0 38 (dk_at dksX4_isWord_0 1 rfl rfl)
theorem dX4_isWord_4 : decode cX4_isWord 4 = .ok (.ifCond .ne 18, 3) := dk_154 0 18 (dk_at dksX4_isWord_0 4 rfl rfl)
theorem dX4_isWord_7 : decode cX4_isWord 7 = .ok (.aload_n 0, 1) := dk_42 (dk_at dksX4_isWord_0 7 rfl rfl)
theorem dX4_isWord_8 : decode cX4_isWord 8 = .ok (.invokevirtual 45, 3) := dk_182 0 45 (dk_at dksX4_isWord_0 8 rfl rfl)
theorem dX4_isWord_11 : decode cX4_isWord 11 = .ok (.aload_n 1, 1) := dk_43 (dk_at dksX4_isWord_0 11 rfl rfl)
theorem dX4_isWord_12 : decode cX4_isWord 12 = .ok (.invokevirtual 49, 3) := dk_182 0 49 (dk_at dksX4_isWord_0 12 rfl rfl)
theorem dX4_isWord_15 : decode cX4_isWord 15 = .ok (.if_icmp .ne 7, 3) := dk_160 0 7 (dk_at dksX4_isWord_0 15 rfl rfl)
theorem dX4_isWord_18 : decode cX4_isWord 18 = .ok (.iconst 1, 1) := dk_4 (dk_at dksX4_isWord_0 18 rfl rfl)
theorem dX4_isWord_19 : decode cX4_isWord 19 = .ok (.goto 4, 3) := dk_167 0 4 (dk_at dksX4_isWord_0 19 rfl rfl)
theorem dX4_isWord_22 : decode cX4_isWord 22 = .ok (.iconst 0, 1) := dk_3 (dk_at dksX4_isWord_0 22 rfl rfl)
theorem dX4_isWord_23 : decode cX4_isWord 23 = .ok (.istore_n 2, 1) := dk_61 (dk_at dksX4_isWord_0 23 rfl rfl)
theorem dX4_isWord_24 : decode cX4_isWord 24 = .ok (.iconst 0, 1) := dk_3 (dk_at dksX4_isWord_1 0 rfl rfl)
theorem dX4_isWord_25 : decode cX4_isWord 25 = .ok (.istore_n 3, 1) := dk_62 (dk_at dksX4_isWord_1 1 rfl rfl)
theorem dX4_isWord_26 : decode cX4_isWord 26 = .ok (.iload_n 2, 1) := dk_28 (dk_at dksX4_isWord_1 2 rfl rfl)
theorem dX4_isWord_27 : decode cX4_isWord 27 = .ok (.ifCond .eq 42, 3) := dk_153 0 42 (dk_at dksX4_isWord_1 3 rfl rfl)
theorem dX4_isWord_30 : decode cX4_isWord 30 = .ok (.iload_n 3, 1) := dk_29 (dk_at dksX4_isWord_1 6 rfl rfl)
theorem dX4_isWord_31 : decode cX4_isWord 31 = .ok (.aload_n 1, 1) := dk_43 (dk_at dksX4_isWord_1 7 rfl rfl)
theorem dX4_isWord_32 : decode cX4_isWord 32 = .ok (.invokevirtual 49, 3) := dk_182 0 49 (dk_at dksX4_isWord_1 8 rfl rfl)
theorem dX4_isWord_35 : decode cX4_isWord 35 = .ok (.if_icmp .ge 34, 3) := dk_162 0 34 (dk_at dksX4_isWord_1 11 rfl rfl)
theorem dX4_isWord_38 : decode cX4_isWord 38 = .ok (.aload_n 0, 1) := dk_42 (dk_at dksX4_isWord_1 14 rfl rfl)
theorem dX4_isWord_39 : decode cX4_isWord 39 = .ok (.getfield 14, 3) := dk_180 0 14 (dk_at dksX4_isWord_1 15 rfl rfl)
theorem dX4_isWord_42 : decode cX4_isWord 42 = .ok (.aload_n 0, 1) := dk_42 (dk_at dksX4_isWord_1 18 rfl rfl)
theorem dX4_isWord_43 : decode cX4_isWord 43 = .ok (.getfield 21, 3) := dk_180 0 21 (dk_at dksX4_isWord_1 19 rfl rfl)
theorem dX4_isWord_46 : decode cX4_isWord 46 = .ok (.iload_n 3, 1) := dk_29 (dk_at dksX4_isWord_1 22 rfl rfl)
theorem dX4_isWord_47 : decode cX4_isWord 47 = .ok (.iadd, 1) := dk_96 (dk_at dksX4_isWord_1 23 rfl rfl)
theorem dX4_isWord_48 : decode cX4_isWord 48 = .ok (.baload, 1) := dk_51 (dk_at dksX4_isWord_2 0 rfl rfl)
theorem dX4_isWord_49 : decode cX4_isWord 49 = .ok (.aload_n 1, 1) := dk_43 (dk_at dksX4_isWord_2 1 rfl rfl)
theorem dX4_isWord_50 : decode cX4_isWord 50 = .ok (.iload_n 3, 1) := dk_29 (dk_at dksX4_isWord_2 2 rfl rfl)
theorem dX4_isWord_51 : decode cX4_isWord 51 = .ok (.invokevirtual 54, 3) := dk_182 0 54 (dk_at dksX4_isWord_2 3 rfl rfl)
theorem dX4_isWord_54 : decode cX4_isWord 54 = .ok (.if_icmp .ne 7, 3) := dk_160 0 7 (dk_at dksX4_isWord_2 6 rfl rfl)
theorem dX4_isWord_57 : decode cX4_isWord 57 = .ok (.iconst 1, 1) := dk_4 (dk_at dksX4_isWord_2 9 rfl rfl)
theorem dX4_isWord_58 : decode cX4_isWord 58 = .ok (.goto 4, 3) := dk_167 0 4 (dk_at dksX4_isWord_2 10 rfl rfl)
theorem dX4_isWord_61 : decode cX4_isWord 61 = .ok (.iconst 0, 1) := dk_3 (dk_at dksX4_isWord_2 13 rfl rfl)
theorem dX4_isWord_62 : decode cX4_isWord 62 = .ok (.istore_n 2, 1) := dk_61 (dk_at dksX4_isWord_2 14 rfl rfl)
theorem dX4_isWord_63 : decode cX4_isWord 63 = .ok (.iinc 3 1, 3) := dk_132 3 1 (dk_at dksX4_isWord_2 15 rfl rfl)
theorem dX4_isWord_66 : decode cX4_isWord 66 = .ok (.goto (-40), 3) := dk_167 255 216 (dk_at dksX4_isWord_2 18 rfl rfl)
theorem dX4_isWord_69 : decode cX4_isWord 69 = .ok (.iload_n 2, 1) := dk_28 (dk_at dksX4_isWord_2 21 rfl rfl)
theorem dX4_isWord_70 : decode cX4_isWord 70 = .ok (.ireturn, 1) := dk_172 (dk_at dksX4_isWord_2 22 rfl rfl)
abbrev cX4_wordMany : ByteArray := prog_13_method_12_code
def yX4_wordMany : MethodName := ⟨RX4, "wordMany", "()I"⟩
def dkwX4_wordMany_2 : List UInt8 := [180, 0, 21, 100, 172]
abbrev dktX4_wordMany_2 : List UInt8 := dkwX4_wordMany_2 ++ []
def dkwX4_wordMany_1 : List UInt8 := [16, 97, 161, 0, 20, 42, 180, 0, 14, 27, 51, 16, 122, 163, 0, 9, 132, 1, 1, 167, 255, 223, 27, 42]
abbrev dktX4_wordMany_1 : List UInt8 := dkwX4_wordMany_1 ++ dktX4_wordMany_2
def dkwX4_wordMany_0 : List UInt8 := [42, 182, 0, 34, 42, 180, 0, 21, 60, 27, 42, 180, 0, 18, 162, 0, 31, 42, 180, 0, 14, 27, 51]
abbrev dktX4_wordMany_0 : List UInt8 := dkwX4_wordMany_0 ++ dktX4_wordMany_1
theorem dksX4_wordMany_0 : cX4_wordMany.data.toList.drop 0 = dktX4_wordMany_0 := by decide +kernel
theorem dksX4_wordMany_1 : cX4_wordMany.data.toList.drop 23 = dktX4_wordMany_1 := dk_seg dksX4_wordMany_0 23 rfl rfl
theorem dksX4_wordMany_2 : cX4_wordMany.data.toList.drop 47 = dktX4_wordMany_2 := dk_seg dksX4_wordMany_1 24 rfl rfl
theorem dX4_wordMany_0 : decode cX4_wordMany 0 = .ok (.aload_n 0, 1) := dk_42 (dk_at dksX4_wordMany_0 0 rfl rfl)
theorem dX4_wordMany_1 : decode cX4_wordMany 1 = .ok (.invokevirtual 34, 3) := dk_182 0 34 (dk_at dksX4_wordMany_0 1 rfl rfl)
theorem dX4_wordMany_4 : decode cX4_wordMany 4 = .ok (.aload_n 0, 1) := dk_42 (dk_at dksX4_wordMany_0 4 rfl rfl)
theorem dX4_wordMany_5 : decode cX4_wordMany 5 = .ok (.getfield 21, 3) := dk_180 0 21 (dk_at dksX4_wordMany_0 5 rfl rfl)
theorem dX4_wordMany_8 : decode cX4_wordMany 8 = .ok (.istore_n 1, 1) := dk_60 (dk_at dksX4_wordMany_0 8 rfl rfl)
theorem dX4_wordMany_9 : decode cX4_wordMany 9 = .ok (.iload_n 1, 1) := dk_27 (dk_at dksX4_wordMany_0 9 rfl rfl)
theorem dX4_wordMany_10 : decode cX4_wordMany 10 = .ok (.aload_n 0, 1) := dk_42 (dk_at dksX4_wordMany_0 10 rfl rfl)
theorem dX4_wordMany_11 : decode cX4_wordMany 11 = .ok (.getfield 18, 3) := dk_180 0 18 (dk_at dksX4_wordMany_0 11 rfl rfl)
theorem dX4_wordMany_14 : decode cX4_wordMany 14 = .ok (.if_icmp .ge 31, 3) := dk_162 0 31 (dk_at dksX4_wordMany_0 14 rfl rfl)
theorem dX4_wordMany_17 : decode cX4_wordMany 17 = .ok (.aload_n 0, 1) := dk_42 (dk_at dksX4_wordMany_0 17 rfl rfl)
theorem dX4_wordMany_18 : decode cX4_wordMany 18 = .ok (.getfield 14, 3) := dk_180 0 14 (dk_at dksX4_wordMany_0 18 rfl rfl)
theorem dX4_wordMany_21 : decode cX4_wordMany 21 = .ok (.iload_n 1, 1) := dk_27 (dk_at dksX4_wordMany_0 21 rfl rfl)
theorem dX4_wordMany_22 : decode cX4_wordMany 22 = .ok (.baload, 1) := dk_51 (dk_at dksX4_wordMany_0 22 rfl rfl)
theorem dX4_wordMany_23 : decode cX4_wordMany 23 = .ok (.bipush 97, 2) := dk_16 97 (dk_at dksX4_wordMany_1 0 rfl rfl)
theorem dX4_wordMany_25 : decode cX4_wordMany 25 = .ok (.if_icmp .lt 20, 3) := dk_161 0 20 (dk_at dksX4_wordMany_1 2 rfl rfl)
theorem dX4_wordMany_28 : decode cX4_wordMany 28 = .ok (.aload_n 0, 1) := dk_42 (dk_at dksX4_wordMany_1 5 rfl rfl)
theorem dX4_wordMany_29 : decode cX4_wordMany 29 = .ok (.getfield 14, 3) := dk_180 0 14 (dk_at dksX4_wordMany_1 6 rfl rfl)
theorem dX4_wordMany_32 : decode cX4_wordMany 32 = .ok (.iload_n 1, 1) := dk_27 (dk_at dksX4_wordMany_1 9 rfl rfl)
theorem dX4_wordMany_33 : decode cX4_wordMany 33 = .ok (.baload, 1) := dk_51 (dk_at dksX4_wordMany_1 10 rfl rfl)
theorem dX4_wordMany_34 : decode cX4_wordMany 34 = .ok (.bipush 122, 2) := dk_16 122 (dk_at dksX4_wordMany_1 11 rfl rfl)
theorem dX4_wordMany_36 : decode cX4_wordMany 36 = .ok (.if_icmp .gt 9, 3) := dk_163 0 9 (dk_at dksX4_wordMany_1 13 rfl rfl)
theorem dX4_wordMany_39 : decode cX4_wordMany 39 = .ok (.iinc 1 1, 3) := dk_132 1 1 (dk_at dksX4_wordMany_1 16 rfl rfl)
theorem dX4_wordMany_42 : decode cX4_wordMany 42 = .ok (.goto (-33), 3) := dk_167 255 223 (dk_at dksX4_wordMany_1 19 rfl rfl)
theorem dX4_wordMany_45 : decode cX4_wordMany 45 = .ok (.iload_n 1, 1) := dk_27 (dk_at dksX4_wordMany_1 22 rfl rfl)
theorem dX4_wordMany_46 : decode cX4_wordMany 46 = .ok (.aload_n 0, 1) := dk_42 (dk_at dksX4_wordMany_1 23 rfl rfl)
theorem dX4_wordMany_47 : decode cX4_wordMany 47 = .ok (.getfield 21, 3) := dk_180 0 21 (dk_at dksX4_wordMany_2 0 rfl rfl)
theorem dX4_wordMany_50 : decode cX4_wordMany 50 = .ok (.isub, 1) := dk_100 (dk_at dksX4_wordMany_2 3 rfl rfl)
theorem dX4_wordMany_51 : decode cX4_wordMany 51 = .ok (.ireturn, 1) := dk_172 (dk_at dksX4_wordMany_2 4 rfl rfl)
abbrev cX4_number : ByteArray := prog_13_method_16_code
def yX4_number : MethodName := ⟨RX4, "number", "(II)I"⟩
def dkwX4_number_4 : List UInt8 := [184, 0, 65, 154, 0, 7, 42, 182, 0, 42, 29, 172]
abbrev dktX4_number_4 : List UInt8 := dkwX4_number_4 ++ []
def dkwX4_number_3 : List UInt8 := [180, 0, 21, 42, 180, 0, 31, 100, 54, 4, 21, 4, 153, 0, 18, 21, 4, 5, 163, 0, 12, 29, 27, 28]
abbrev dktX4_number_3 : List UInt8 := dkwX4_number_3 ++ dktX4_number_4
def dkwX4_number_2 : List UInt8 := [42, 180, 0, 21, 51, 96, 16, 48, 100, 62, 42, 89, 180, 0, 21, 4, 96, 181, 0, 21, 167, 255, 204, 42]
abbrev dktX4_number_2 : List UInt8 := dkwX4_number_2 ++ dktX4_number_3
def dkwX4_number_1 : List UInt8 := [153, 0, 47, 42, 180, 0, 21, 42, 180, 0, 31, 100, 5, 162, 0, 21, 16, 10, 29, 104, 42, 180, 0, 14]
abbrev dktX4_number_1 : List UInt8 := dkwX4_number_1 ++ dktX4_number_2
def dkwX4_number_0 : List UInt8 := [42, 182, 0, 38, 153, 0, 5, 27, 172, 42, 182, 0, 34, 3, 62, 42, 16, 48, 16, 57, 182, 0, 27]
abbrev dktX4_number_0 : List UInt8 := dkwX4_number_0 ++ dktX4_number_1
theorem dksX4_number_0 : cX4_number.data.toList.drop 0 = dktX4_number_0 := by decide +kernel
theorem dksX4_number_1 : cX4_number.data.toList.drop 23 = dktX4_number_1 := dk_seg dksX4_number_0 23 rfl rfl
theorem dksX4_number_2 : cX4_number.data.toList.drop 47 = dktX4_number_2 := dk_seg dksX4_number_1 24 rfl rfl
theorem dksX4_number_3 : cX4_number.data.toList.drop 71 = dktX4_number_3 := dk_seg dksX4_number_2 24 rfl rfl
theorem dksX4_number_4 : cX4_number.data.toList.drop 95 = dktX4_number_4 := dk_seg dksX4_number_3 24 rfl rfl
theorem dX4_number_0 : decode cX4_number 0 = .ok (.aload_n 0, 1) := dk_42 (dk_at dksX4_number_0 0 rfl rfl)
theorem dX4_number_1 : decode cX4_number 1 = .ok (.invokevirtual 38, 3) := dk_182 0 38 (dk_at dksX4_number_0 1 rfl rfl)
theorem dX4_number_4 : decode cX4_number 4 = .ok (.ifCond .eq 5, 3) := dk_153 0 5 (dk_at dksX4_number_0 4 rfl rfl)
theorem dX4_number_7 : decode cX4_number 7 = .ok (.iload_n 1, 1) := dk_27 (dk_at dksX4_number_0 7 rfl rfl)
theorem dX4_number_8 : decode cX4_number 8 = .ok (.ireturn, 1) := dk_172 (dk_at dksX4_number_0 8 rfl rfl)
theorem dX4_number_9 : decode cX4_number 9 = .ok (.aload_n 0, 1) := dk_42 (dk_at dksX4_number_0 9 rfl rfl)
theorem dX4_number_10 : decode cX4_number 10 = .ok (.invokevirtual 34, 3) := dk_182 0 34 (dk_at dksX4_number_0 10 rfl rfl)
theorem dX4_number_13 : decode cX4_number 13 = .ok (.iconst 0, 1) := dk_3 (dk_at dksX4_number_0 13 rfl rfl)
theorem dX4_number_14 : decode cX4_number 14 = .ok (.istore_n 3, 1) := dk_62 (dk_at dksX4_number_0 14 rfl rfl)
theorem dX4_number_15 : decode cX4_number 15 = .ok (.aload_n 0, 1) := dk_42 (dk_at dksX4_number_0 15 rfl rfl)
theorem dX4_number_16 : decode cX4_number 16 = .ok (.bipush 48, 2) := dk_16 48 (dk_at dksX4_number_0 16 rfl rfl)
theorem dX4_number_18 : decode cX4_number 18 = .ok (.bipush 57, 2) := dk_16 57 (dk_at dksX4_number_0 18 rfl rfl)
theorem dX4_number_20 : decode cX4_number 20 = .ok (.invokevirtual 27, 3) := dk_182 0 27 (dk_at dksX4_number_0 20 rfl rfl)
theorem dX4_number_23 : decode cX4_number 23 = .ok (.ifCond .eq 47, 3) := dk_153 0 47 (dk_at dksX4_number_1 0 rfl rfl)
theorem dX4_number_26 : decode cX4_number 26 = .ok (.aload_n 0, 1) := dk_42 (dk_at dksX4_number_1 3 rfl rfl)
theorem dX4_number_27 : decode cX4_number 27 = .ok (.getfield 21, 3) := dk_180 0 21 (dk_at dksX4_number_1 4 rfl rfl)
theorem dX4_number_30 : decode cX4_number 30 = .ok (.aload_n 0, 1) := dk_42 (dk_at dksX4_number_1 7 rfl rfl)
theorem dX4_number_31 : decode cX4_number 31 = .ok (.getfield 31, 3) := dk_180 0 31 (dk_at dksX4_number_1 8 rfl rfl)
theorem dX4_number_34 : decode cX4_number 34 = .ok (.isub, 1) := dk_100 (dk_at dksX4_number_1 11 rfl rfl)
theorem dX4_number_35 : decode cX4_number 35 = .ok (.iconst 2, 1) := dk_5 (dk_at dksX4_number_1 12 rfl rfl)
theorem dX4_number_36 : decode cX4_number 36 = .ok (.if_icmp .ge 21, 3) := dk_162 0 21 (dk_at dksX4_number_1 13 rfl rfl)
theorem dX4_number_39 : decode cX4_number 39 = .ok (.bipush 10, 2) := dk_16 10 (dk_at dksX4_number_1 16 rfl rfl)
theorem dX4_number_41 : decode cX4_number 41 = .ok (.iload_n 3, 1) := dk_29 (dk_at dksX4_number_1 18 rfl rfl)
theorem dX4_number_42 : decode cX4_number 42 = .ok (.imul, 1) := dk_104 (dk_at dksX4_number_1 19 rfl rfl)
theorem dX4_number_43 : decode cX4_number 43 = .ok (.aload_n 0, 1) := dk_42 (dk_at dksX4_number_1 20 rfl rfl)
theorem dX4_number_44 : decode cX4_number 44 = .ok (.getfield 14, 3) := dk_180 0 14 (dk_at dksX4_number_1 21 rfl rfl)
theorem dX4_number_47 : decode cX4_number 47 = .ok (.aload_n 0, 1) := dk_42 (dk_at dksX4_number_2 0 rfl rfl)
theorem dX4_number_48 : decode cX4_number 48 = .ok (.getfield 21, 3) := dk_180 0 21 (dk_at dksX4_number_2 1 rfl rfl)
theorem dX4_number_51 : decode cX4_number 51 = .ok (.baload, 1) := dk_51 (dk_at dksX4_number_2 4 rfl rfl)
theorem dX4_number_52 : decode cX4_number 52 = .ok (.iadd, 1) := dk_96 (dk_at dksX4_number_2 5 rfl rfl)
theorem dX4_number_53 : decode cX4_number 53 = .ok (.bipush 48, 2) := dk_16 48 (dk_at dksX4_number_2 6 rfl rfl)
theorem dX4_number_55 : decode cX4_number 55 = .ok (.isub, 1) := dk_100 (dk_at dksX4_number_2 8 rfl rfl)
theorem dX4_number_56 : decode cX4_number 56 = .ok (.istore_n 3, 1) := dk_62 (dk_at dksX4_number_2 9 rfl rfl)
theorem dX4_number_57 : decode cX4_number 57 = .ok (.aload_n 0, 1) := dk_42 (dk_at dksX4_number_2 10 rfl rfl)
theorem dX4_number_58 : decode cX4_number 58 = .ok (.dup, 1) := dk_89 (dk_at dksX4_number_2 11 rfl rfl)
theorem dX4_number_59 : decode cX4_number 59 = .ok (.getfield 21, 3) := dk_180 0 21 (dk_at dksX4_number_2 12 rfl rfl)
theorem dX4_number_62 : decode cX4_number 62 = .ok (.iconst 1, 1) := dk_4 (dk_at dksX4_number_2 15 rfl rfl)
theorem dX4_number_63 : decode cX4_number 63 = .ok (.iadd, 1) := dk_96 (dk_at dksX4_number_2 16 rfl rfl)
theorem dX4_number_64 : decode cX4_number 64 = .ok (.putfield 21, 3) := dk_181 0 21 (dk_at dksX4_number_2 17 rfl rfl)
theorem dX4_number_67 : decode cX4_number 67 = .ok (.goto (-52), 3) := dk_167 255 204 (dk_at dksX4_number_2 20 rfl rfl)
theorem dX4_number_70 : decode cX4_number 70 = .ok (.aload_n 0, 1) := dk_42 (dk_at dksX4_number_2 23 rfl rfl)
theorem dX4_number_71 : decode cX4_number 71 = .ok (.getfield 21, 3) := dk_180 0 21 (dk_at dksX4_number_3 0 rfl rfl)
theorem dX4_number_74 : decode cX4_number 74 = .ok (.aload_n 0, 1) := dk_42 (dk_at dksX4_number_3 3 rfl rfl)
theorem dX4_number_75 : decode cX4_number 75 = .ok (.getfield 31, 3) := dk_180 0 31 (dk_at dksX4_number_3 4 rfl rfl)
theorem dX4_number_78 : decode cX4_number 78 = .ok (.isub, 1) := dk_100 (dk_at dksX4_number_3 7 rfl rfl)
theorem dX4_number_79 : decode cX4_number 79 = .ok (.istore 4, 2) := dk_54 4 (dk_at dksX4_number_3 8 rfl rfl)
theorem dX4_number_81 : decode cX4_number 81 = .ok (.iload 4, 2) := dk_21 4 (dk_at dksX4_number_3 10 rfl rfl)
theorem dX4_number_83 : decode cX4_number 83 = .ok (.ifCond .eq 18, 3) := dk_153 0 18 (dk_at dksX4_number_3 12 rfl rfl)
theorem dX4_number_86 : decode cX4_number 86 = .ok (.iload 4, 2) := dk_21 4 (dk_at dksX4_number_3 15 rfl rfl)
theorem dX4_number_88 : decode cX4_number 88 = .ok (.iconst 2, 1) := dk_5 (dk_at dksX4_number_3 17 rfl rfl)
theorem dX4_number_89 : decode cX4_number 89 = .ok (.if_icmp .gt 12, 3) := dk_163 0 12 (dk_at dksX4_number_3 18 rfl rfl)
theorem dX4_number_92 : decode cX4_number 92 = .ok (.iload_n 3, 1) := dk_29 (dk_at dksX4_number_3 21 rfl rfl)
theorem dX4_number_93 : decode cX4_number 93 = .ok (.iload_n 1, 1) := dk_27 (dk_at dksX4_number_3 22 rfl rfl)
theorem dX4_number_94 : decode cX4_number 94 = .ok (.iload_n 2, 1) := dk_28 (dk_at dksX4_number_3 23 rfl rfl)
theorem dX4_number_95 : decode cX4_number 95 = .ok (.invokestatic 65, 3) := dk_184 0 65 (dk_at dksX4_number_4 0 rfl rfl)
theorem dX4_number_98 : decode cX4_number 98 = .ok (.ifCond .ne 7, 3) := dk_154 0 7 (dk_at dksX4_number_4 3 rfl rfl)
theorem dX4_number_101 : decode cX4_number 101 = .ok (.aload_n 0, 1) := dk_42 (dk_at dksX4_number_4 6 rfl rfl)
theorem dX4_number_102 : decode cX4_number 102 = .ok (.invokevirtual 42, 3) := dk_182 0 42 (dk_at dksX4_number_4 7 rfl rfl)
theorem dX4_number_105 : decode cX4_number 105 = .ok (.iload_n 3, 1) := dk_29 (dk_at dksX4_number_4 10 rfl rfl)
theorem dX4_number_106 : decode cX4_number 106 = .ok (.ireturn, 1) := dk_172 (dk_at dksX4_number_4 11 rfl rfl)
abbrev cX4_in : ByteArray := prog_13_method_3_code
def yX4_in : MethodName := ⟨RX4, "in", "(III)Z"⟩
def dkwX4_in_0 : List UInt8 := [26, 27, 161, 0, 12, 26, 28, 163, 0, 7, 4, 167, 0, 4, 3, 172]
abbrev dktX4_in_0 : List UInt8 := dkwX4_in_0 ++ []
theorem dksX4_in_0 : cX4_in.data.toList.drop 0 = dktX4_in_0 := by decide +kernel
theorem dX4_in_0 : decode cX4_in 0 = .ok (.iload_n 0, 1) := dk_26 (dk_at dksX4_in_0 0 rfl rfl)
theorem dX4_in_1 : decode cX4_in 1 = .ok (.iload_n 1, 1) := dk_27 (dk_at dksX4_in_0 1 rfl rfl)
theorem dX4_in_2 : decode cX4_in 2 = .ok (.if_icmp .lt 12, 3) := dk_161 0 12 (dk_at dksX4_in_0 2 rfl rfl)
theorem dX4_in_5 : decode cX4_in 5 = .ok (.iload_n 0, 1) := dk_26 (dk_at dksX4_in_0 5 rfl rfl)
theorem dX4_in_6 : decode cX4_in 6 = .ok (.iload_n 2, 1) := dk_28 (dk_at dksX4_in_0 6 rfl rfl)
theorem dX4_in_7 : decode cX4_in 7 = .ok (.if_icmp .gt 7, 3) := dk_163 0 7 (dk_at dksX4_in_0 7 rfl rfl)
theorem dX4_in_10 : decode cX4_in 10 = .ok (.iconst 1, 1) := dk_4 (dk_at dksX4_in_0 10 rfl rfl)
theorem dX4_in_11 : decode cX4_in 11 = .ok (.goto 4, 3) := dk_167 0 4 (dk_at dksX4_in_0 11 rfl rfl)
theorem dX4_in_14 : decode cX4_in 14 = .ok (.iconst 0, 1) := dk_3 (dk_at dksX4_in_0 14 rfl rfl)
theorem dX4_in_15 : decode cX4_in 15 = .ok (.ireturn, 1) := dk_172 (dk_at dksX4_in_0 15 rfl rfl)
abbrev cX4_fails : ByteArray := prog_13_method_10_code
def yX4_fails : MethodName := ⟨RX4, "fails", "()V"⟩
def dkwX4_fails_0 : List UInt8 := [42, 180, 0, 24, 2, 160, 0, 11, 42, 42, 180, 0, 31, 181, 0, 24, 177]
abbrev dktX4_fails_0 : List UInt8 := dkwX4_fails_0 ++ []
theorem dksX4_fails_0 : cX4_fails.data.toList.drop 0 = dktX4_fails_0 := by decide +kernel
theorem dX4_fails_0 : decode cX4_fails 0 = .ok (.aload_n 0, 1) := dk_42 (dk_at dksX4_fails_0 0 rfl rfl)
theorem dX4_fails_1 : decode cX4_fails 1 = .ok (.getfield 24, 3) := dk_180 0 24 (dk_at dksX4_fails_0 1 rfl rfl)
theorem dX4_fails_4 : decode cX4_fails 4 = .ok (.iconst (-1), 1) := dk_2 (dk_at dksX4_fails_0 4 rfl rfl)
theorem dX4_fails_5 : decode cX4_fails 5 = .ok (.if_icmp .ne 11, 3) := dk_160 0 11 (dk_at dksX4_fails_0 5 rfl rfl)
theorem dX4_fails_8 : decode cX4_fails 8 = .ok (.aload_n 0, 1) := dk_42 (dk_at dksX4_fails_0 8 rfl rfl)
theorem dX4_fails_9 : decode cX4_fails 9 = .ok (.aload_n 0, 1) := dk_42 (dk_at dksX4_fails_0 9 rfl rfl)
theorem dX4_fails_10 : decode cX4_fails 10 = .ok (.getfield 31, 3) := dk_180 0 31 (dk_at dksX4_fails_0 10 rfl rfl)
theorem dX4_fails_13 : decode cX4_fails 13 = .ok (.putfield 24, 3) := dk_181 0 24 (dk_at dksX4_fails_0 13 rfl rfl)
theorem dX4_fails_16 : decode cX4_fails 16 = .ok (.return_, 1) := dk_177 (dk_at dksX4_fails_0 16 rfl rfl)
abbrev cX4_limitLine : ByteArray := prog_13_method_23_code
def yX4_limitLine : MethodName := ⟨RX4, "limitLine", "()V"⟩
def dkwX4_limitLine_3 : List UInt8 := [18, 126, 182, 0, 145, 42, 180, 0, 80, 6, 42, 4, 16, 9, 182, 0, 149, 79, 177]
abbrev dktX4_limitLine_3 : List UInt8 := dkwX4_limitLine_3 ++ []
def dkwX4_limitLine_2 : List UInt8 := [153, 0, 7, 4, 167, 0, 4, 5, 79, 42, 180, 0, 80, 5, 42, 4, 16, 99, 182, 0, 149, 79, 42]
abbrev dktX4_limitLine_2 : List UInt8 := dkwX4_limitLine_2 ++ dktX4_limitLine_3
def dkwX4_limitLine_1 : List UInt8 := [18, 122, 182, 0, 62, 60, 27, 154, 0, 9, 42, 18, 124, 182, 0, 145, 42, 180, 0, 80, 4, 27]
abbrev dktX4_limitLine_1 : List UInt8 := dkwX4_limitLine_1 ++ dktX4_limitLine_2
def dkwX4_limitLine_0 : List UInt8 := [42, 180, 0, 141, 153, 0, 8, 42, 182, 0, 42, 177, 42, 4, 181, 0, 141, 42, 18, 120, 182, 0, 145, 42]
abbrev dktX4_limitLine_0 : List UInt8 := dkwX4_limitLine_0 ++ dktX4_limitLine_1
theorem dksX4_limitLine_0 : cX4_limitLine.data.toList.drop 0 = dktX4_limitLine_0 := by decide +kernel
theorem dksX4_limitLine_1 : cX4_limitLine.data.toList.drop 24 = dktX4_limitLine_1 := dk_seg dksX4_limitLine_0 24 rfl rfl
theorem dksX4_limitLine_2 : cX4_limitLine.data.toList.drop 46 = dktX4_limitLine_2 := dk_seg dksX4_limitLine_1 22 rfl rfl
theorem dksX4_limitLine_3 : cX4_limitLine.data.toList.drop 69 = dktX4_limitLine_3 := dk_seg dksX4_limitLine_2 23 rfl rfl
theorem dX4_limitLine_0 : decode cX4_limitLine 0 = .ok (.aload_n 0, 1) := dk_42 (dk_at dksX4_limitLine_0 0 rfl rfl)
theorem dX4_limitLine_1 : decode cX4_limitLine 1 = .ok (.getfield 141, 3) := dk_180 0 141 (dk_at dksX4_limitLine_0 1 rfl rfl)
theorem dX4_limitLine_4 : decode cX4_limitLine 4 = .ok (.ifCond .eq 8, 3) := dk_153 0 8 (dk_at dksX4_limitLine_0 4 rfl rfl)
theorem dX4_limitLine_7 : decode cX4_limitLine 7 = .ok (.aload_n 0, 1) := dk_42 (dk_at dksX4_limitLine_0 7 rfl rfl)
theorem dX4_limitLine_8 : decode cX4_limitLine 8 = .ok (.invokevirtual 42, 3) := dk_182 0 42 (dk_at dksX4_limitLine_0 8 rfl rfl)
theorem dX4_limitLine_11 : decode cX4_limitLine 11 = .ok (.return_, 1) := dk_177 (dk_at dksX4_limitLine_0 11 rfl rfl)
theorem dX4_limitLine_12 : decode cX4_limitLine 12 = .ok (.aload_n 0, 1) := dk_42 (dk_at dksX4_limitLine_0 12 rfl rfl)
theorem dX4_limitLine_13 : decode cX4_limitLine 13 = .ok (.iconst 1, 1) := dk_4 (dk_at dksX4_limitLine_0 13 rfl rfl)
theorem dX4_limitLine_14 : decode cX4_limitLine 14 = .ok (.putfield 141, 3) := dk_181 0 141 (dk_at dksX4_limitLine_0 14 rfl rfl)
theorem dX4_limitLine_17 : decode cX4_limitLine 17 = .ok (.aload_n 0, 1) := dk_42 (dk_at dksX4_limitLine_0 17 rfl rfl)
theorem dX4_limitLine_18 : decode cX4_limitLine 18 = .ok (.ldc 120, 2) := dk_18 120 (dk_at dksX4_limitLine_0 18 rfl rfl)
theorem dX4_limitLine_20 : decode cX4_limitLine 20 = .ok (.invokevirtual 145, 3) := dk_182 0 145 (dk_at dksX4_limitLine_0 20 rfl rfl)
theorem dX4_limitLine_23 : decode cX4_limitLine 23 = .ok (.aload_n 0, 1) := dk_42 (dk_at dksX4_limitLine_0 23 rfl rfl)
theorem dX4_limitLine_24 : decode cX4_limitLine 24 = .ok (.ldc 122, 2) := dk_18 122 (dk_at dksX4_limitLine_1 0 rfl rfl)
theorem dX4_limitLine_26 : decode cX4_limitLine 26 = .ok (.invokevirtual 62, 3) := dk_182 0 62 (dk_at dksX4_limitLine_1 2 rfl rfl)
theorem dX4_limitLine_29 : decode cX4_limitLine 29 = .ok (.istore_n 1, 1) := dk_60 (dk_at dksX4_limitLine_1 5 rfl rfl)
theorem dX4_limitLine_30 : decode cX4_limitLine 30 = .ok (.iload_n 1, 1) := dk_27 (dk_at dksX4_limitLine_1 6 rfl rfl)
theorem dX4_limitLine_31 : decode cX4_limitLine 31 = .ok (.ifCond .ne 9, 3) := dk_154 0 9 (dk_at dksX4_limitLine_1 7 rfl rfl)
theorem dX4_limitLine_34 : decode cX4_limitLine 34 = .ok (.aload_n 0, 1) := dk_42 (dk_at dksX4_limitLine_1 10 rfl rfl)
theorem dX4_limitLine_35 : decode cX4_limitLine 35 = .ok (.ldc 124, 2) := dk_18 124 (dk_at dksX4_limitLine_1 11 rfl rfl)
theorem dX4_limitLine_37 : decode cX4_limitLine 37 = .ok (.invokevirtual 145, 3) := dk_182 0 145 (dk_at dksX4_limitLine_1 13 rfl rfl)
theorem dX4_limitLine_40 : decode cX4_limitLine 40 = .ok (.aload_n 0, 1) := dk_42 (dk_at dksX4_limitLine_1 16 rfl rfl)
theorem dX4_limitLine_41 : decode cX4_limitLine 41 = .ok (.getfield 80, 3) := dk_180 0 80 (dk_at dksX4_limitLine_1 17 rfl rfl)
theorem dX4_limitLine_44 : decode cX4_limitLine 44 = .ok (.iconst 1, 1) := dk_4 (dk_at dksX4_limitLine_1 20 rfl rfl)
theorem dX4_limitLine_45 : decode cX4_limitLine 45 = .ok (.iload_n 1, 1) := dk_27 (dk_at dksX4_limitLine_1 21 rfl rfl)
theorem dX4_limitLine_46 : decode cX4_limitLine 46 = .ok (.ifCond .eq 7, 3) := dk_153 0 7 (dk_at dksX4_limitLine_2 0 rfl rfl)
theorem dX4_limitLine_49 : decode cX4_limitLine 49 = .ok (.iconst 1, 1) := dk_4 (dk_at dksX4_limitLine_2 3 rfl rfl)
theorem dX4_limitLine_50 : decode cX4_limitLine 50 = .ok (.goto 4, 3) := dk_167 0 4 (dk_at dksX4_limitLine_2 4 rfl rfl)
theorem dX4_limitLine_53 : decode cX4_limitLine 53 = .ok (.iconst 2, 1) := dk_5 (dk_at dksX4_limitLine_2 7 rfl rfl)
theorem dX4_limitLine_54 : decode cX4_limitLine 54 = .ok (.iastore, 1) := dk_79 (dk_at dksX4_limitLine_2 8 rfl rfl)
theorem dX4_limitLine_55 : decode cX4_limitLine 55 = .ok (.aload_n 0, 1) := dk_42 (dk_at dksX4_limitLine_2 9 rfl rfl)
theorem dX4_limitLine_56 : decode cX4_limitLine 56 = .ok (.getfield 80, 3) := dk_180 0 80 (dk_at dksX4_limitLine_2 10 rfl rfl)
theorem dX4_limitLine_59 : decode cX4_limitLine 59 = .ok (.iconst 2, 1) := dk_5 (dk_at dksX4_limitLine_2 13 rfl rfl)
theorem dX4_limitLine_60 : decode cX4_limitLine 60 = .ok (.aload_n 0, 1) := dk_42 (dk_at dksX4_limitLine_2 14 rfl rfl)
theorem dX4_limitLine_61 : decode cX4_limitLine 61 = .ok (.iconst 1, 1) := dk_4 (dk_at dksX4_limitLine_2 15 rfl rfl)
theorem dX4_limitLine_62 : decode cX4_limitLine 62 = .ok (.bipush 99, 2) := dk_16 99 (dk_at dksX4_limitLine_2 16 rfl rfl)
theorem dX4_limitLine_64 : decode cX4_limitLine 64 = .ok (.invokevirtual 149, 3) := dk_182 0 149 (dk_at dksX4_limitLine_2 18 rfl rfl)
theorem dX4_limitLine_67 : decode cX4_limitLine 67 = .ok (.iastore, 1) := dk_79 (dk_at dksX4_limitLine_2 21 rfl rfl)
theorem dX4_limitLine_68 : decode cX4_limitLine 68 = .ok (.aload_n 0, 1) := dk_42 (dk_at dksX4_limitLine_2 22 rfl rfl)
theorem dX4_limitLine_69 : decode cX4_limitLine 69 = .ok (.ldc 126, 2) := dk_18 126 (dk_at dksX4_limitLine_3 0 rfl rfl)
theorem dX4_limitLine_71 : decode cX4_limitLine 71 = .ok (.invokevirtual 145, 3) := dk_182 0 145 (dk_at dksX4_limitLine_3 2 rfl rfl)
theorem dX4_limitLine_74 : decode cX4_limitLine 74 = .ok (.aload_n 0, 1) := dk_42 (dk_at dksX4_limitLine_3 5 rfl rfl)
theorem dX4_limitLine_75 : decode cX4_limitLine 75 = .ok (.getfield 80, 3) := dk_180 0 80 (dk_at dksX4_limitLine_3 6 rfl rfl)
theorem dX4_limitLine_78 : decode cX4_limitLine 78 = .ok (.iconst 3, 1) := dk_6 (dk_at dksX4_limitLine_3 9 rfl rfl)
theorem dX4_limitLine_79 : decode cX4_limitLine 79 = .ok (.aload_n 0, 1) := dk_42 (dk_at dksX4_limitLine_3 10 rfl rfl)
theorem dX4_limitLine_80 : decode cX4_limitLine 80 = .ok (.iconst 1, 1) := dk_4 (dk_at dksX4_limitLine_3 11 rfl rfl)
theorem dX4_limitLine_81 : decode cX4_limitLine 81 = .ok (.bipush 9, 2) := dk_16 9 (dk_at dksX4_limitLine_3 12 rfl rfl)
theorem dX4_limitLine_83 : decode cX4_limitLine 83 = .ok (.invokevirtual 149, 3) := dk_182 0 149 (dk_at dksX4_limitLine_3 14 rfl rfl)
theorem dX4_limitLine_86 : decode cX4_limitLine 86 = .ok (.iastore, 1) := dk_79 (dk_at dksX4_limitLine_3 17 rfl rfl)
theorem dX4_limitLine_87 : decode cX4_limitLine 87 = .ok (.return_, 1) := dk_177 (dk_at dksX4_limitLine_3 18 rfl rfl)
abbrev cX4_asksWord : ByteArray := prog_13_method_15_code
def yX4_asksWord : MethodName := ⟨RX4, "asksWord", "(Ljava/lang/String;)V"⟩
def dkwX4_asksWord_0 : List UInt8 := [42, 182, 0, 38, 154, 0, 15, 42, 43, 182, 0, 62, 154, 0, 7, 42, 182, 0, 42, 177]
abbrev dktX4_asksWord_0 : List UInt8 := dkwX4_asksWord_0 ++ []
theorem dksX4_asksWord_0 : cX4_asksWord.data.toList.drop 0 = dktX4_asksWord_0 := by decide +kernel
theorem dX4_asksWord_0 : decode cX4_asksWord 0 = .ok (.aload_n 0, 1) := dk_42 (dk_at dksX4_asksWord_0 0 rfl rfl)
theorem dX4_asksWord_1 : decode cX4_asksWord 1 = .ok (.invokevirtual 38, 3) := dk_182 0 38 (dk_at dksX4_asksWord_0 1 rfl rfl)
theorem dX4_asksWord_4 : decode cX4_asksWord 4 = .ok (.ifCond .ne 15, 3) := dk_154 0 15 (dk_at dksX4_asksWord_0 4 rfl rfl)
theorem dX4_asksWord_7 : decode cX4_asksWord 7 = .ok (.aload_n 0, 1) := dk_42 (dk_at dksX4_asksWord_0 7 rfl rfl)
theorem dX4_asksWord_8 : decode cX4_asksWord 8 = .ok (.aload_n 1, 1) := dk_43 (dk_at dksX4_asksWord_0 8 rfl rfl)
theorem dX4_asksWord_9 : decode cX4_asksWord 9 = .ok (.invokevirtual 62, 3) := dk_182 0 62 (dk_at dksX4_asksWord_0 9 rfl rfl)
theorem dX4_asksWord_12 : decode cX4_asksWord 12 = .ok (.ifCond .ne 7, 3) := dk_154 0 7 (dk_at dksX4_asksWord_0 12 rfl rfl)
theorem dX4_asksWord_15 : decode cX4_asksWord 15 = .ok (.aload_n 0, 1) := dk_42 (dk_at dksX4_asksWord_0 15 rfl rfl)
theorem dX4_asksWord_16 : decode cX4_asksWord 16 = .ok (.invokevirtual 42, 3) := dk_182 0 42 (dk_at dksX4_asksWord_0 16 rfl rfl)
theorem dX4_asksWord_19 : decode cX4_asksWord 19 = .ok (.return_, 1) := dk_177 (dk_at dksX4_asksWord_0 19 rfl rfl)
abbrev cX4_mapLine : ByteArray := prog_13_method_24_code
def yX4_mapLine : MethodName := ⟨RX4, "mapLine", "()V"⟩
def dkwX4_mapLine_5 : List UInt8 := [104, 96, 182, 0, 156, 79, 132, 2, 1, 167, 255, 157, 42, 180, 0, 80, 7, 92, 46, 4, 96, 79, 177]
abbrev dktX4_mapLine_5 : List UInt8 := dkwX4_mapLine_5 ++ []
def dkwX4_mapLine_4 : List UInt8 := [28, 96, 42, 16, 97, 42, 180, 0, 80, 3, 46, 42, 180, 0, 80, 16, 70, 16, 6, 7, 27, 104, 28, 96]
abbrev dktX4_mapLine_4 : List UInt8 := dkwX4_mapLine_4 ++ dktX4_mapLine_5
def dkwX4_mapLine_3 : List UInt8 := [182, 0, 42, 177, 42, 89, 180, 0, 21, 4, 96, 181, 0, 21, 42, 180, 0, 80, 16, 54, 7, 27, 104, 96]
abbrev dktX4_mapLine_3 : List UInt8 := dkwX4_mapLine_3 ++ dktX4_mapLine_4
def dkwX4_mapLine_2 : List UInt8 := [182, 0, 45, 4, 160, 0, 19, 42, 180, 0, 14, 42, 180, 0, 21, 51, 16, 97, 28, 96, 159, 0, 8, 42]
abbrev dktX4_mapLine_2 : List UInt8 := dkwX4_mapLine_2 ++ dktX4_mapLine_3
def dkwX4_mapLine_1 : List UInt8 := [27, 182, 0, 152, 3, 61, 28, 42, 180, 0, 80, 3, 46, 162, 0, 95, 42, 182, 0, 38, 154, 0, 88, 42]
abbrev dktX4_mapLine_1 : List UInt8 := dkwX4_mapLine_1 ++ dktX4_mapLine_2
def dkwX4_mapLine_0 : List UInt8 := [42, 180, 0, 80, 7, 46, 60, 27, 7, 160, 0, 8, 42, 182, 0, 42, 177, 42, 18, 128, 182, 0, 145, 42]
abbrev dktX4_mapLine_0 : List UInt8 := dkwX4_mapLine_0 ++ dktX4_mapLine_1
theorem dksX4_mapLine_0 : cX4_mapLine.data.toList.drop 0 = dktX4_mapLine_0 := by decide +kernel
theorem dksX4_mapLine_1 : cX4_mapLine.data.toList.drop 24 = dktX4_mapLine_1 := dk_seg dksX4_mapLine_0 24 rfl rfl
theorem dksX4_mapLine_2 : cX4_mapLine.data.toList.drop 48 = dktX4_mapLine_2 := dk_seg dksX4_mapLine_1 24 rfl rfl
theorem dksX4_mapLine_3 : cX4_mapLine.data.toList.drop 72 = dktX4_mapLine_3 := dk_seg dksX4_mapLine_2 24 rfl rfl
theorem dksX4_mapLine_4 : cX4_mapLine.data.toList.drop 96 = dktX4_mapLine_4 := dk_seg dksX4_mapLine_3 24 rfl rfl
theorem dksX4_mapLine_5 : cX4_mapLine.data.toList.drop 120 = dktX4_mapLine_5 := dk_seg dksX4_mapLine_4 24 rfl rfl
theorem dX4_mapLine_0 : decode cX4_mapLine 0 = .ok (.aload_n 0, 1) := dk_42 (dk_at dksX4_mapLine_0 0 rfl rfl)
theorem dX4_mapLine_1 : decode cX4_mapLine 1 = .ok (.getfield 80, 3) := dk_180 0 80 (dk_at dksX4_mapLine_0 1 rfl rfl)
theorem dX4_mapLine_4 : decode cX4_mapLine 4 = .ok (.iconst 4, 1) := dk_7 (dk_at dksX4_mapLine_0 4 rfl rfl)
theorem dX4_mapLine_5 : decode cX4_mapLine 5 = .ok (.iaload, 1) := dk_46 (dk_at dksX4_mapLine_0 5 rfl rfl)
theorem dX4_mapLine_6 : decode cX4_mapLine 6 = .ok (.istore_n 1, 1) := dk_60 (dk_at dksX4_mapLine_0 6 rfl rfl)
theorem dX4_mapLine_7 : decode cX4_mapLine 7 = .ok (.iload_n 1, 1) := dk_27 (dk_at dksX4_mapLine_0 7 rfl rfl)
theorem dX4_mapLine_8 : decode cX4_mapLine 8 = .ok (.iconst 4, 1) := dk_7 (dk_at dksX4_mapLine_0 8 rfl rfl)
theorem dX4_mapLine_9 : decode cX4_mapLine 9 = .ok (.if_icmp .ne 8, 3) := dk_160 0 8 (dk_at dksX4_mapLine_0 9 rfl rfl)
theorem dX4_mapLine_12 : decode cX4_mapLine 12 = .ok (.aload_n 0, 1) := dk_42 (dk_at dksX4_mapLine_0 12 rfl rfl)
theorem dX4_mapLine_13 : decode cX4_mapLine 13 = .ok (.invokevirtual 42, 3) := dk_182 0 42 (dk_at dksX4_mapLine_0 13 rfl rfl)
theorem dX4_mapLine_16 : decode cX4_mapLine 16 = .ok (.return_, 1) := dk_177 (dk_at dksX4_mapLine_0 16 rfl rfl)
theorem dX4_mapLine_17 : decode cX4_mapLine 17 = .ok (.aload_n 0, 1) := dk_42 (dk_at dksX4_mapLine_0 17 rfl rfl)
theorem dX4_mapLine_18 : decode cX4_mapLine 18 = .ok (.ldc 128, 2) := dk_18 128 (dk_at dksX4_mapLine_0 18 rfl rfl)
theorem dX4_mapLine_20 : decode cX4_mapLine 20 = .ok (.invokevirtual 145, 3) := dk_182 0 145 (dk_at dksX4_mapLine_0 20 rfl rfl)
theorem dX4_mapLine_23 : decode cX4_mapLine 23 = .ok (.aload_n 0, 1) := dk_42 (dk_at dksX4_mapLine_0 23 rfl rfl)
theorem dX4_mapLine_24 : decode cX4_mapLine 24 = .ok (.iload_n 1, 1) := dk_27 (dk_at dksX4_mapLine_1 0 rfl rfl)
theorem dX4_mapLine_25 : decode cX4_mapLine 25 = .ok (.invokevirtual 152, 3) := dk_182 0 152 (dk_at dksX4_mapLine_1 1 rfl rfl)
theorem dX4_mapLine_28 : decode cX4_mapLine 28 = .ok (.iconst 0, 1) := dk_3 (dk_at dksX4_mapLine_1 4 rfl rfl)
theorem dX4_mapLine_29 : decode cX4_mapLine 29 = .ok (.istore_n 2, 1) := dk_61 (dk_at dksX4_mapLine_1 5 rfl rfl)
theorem dX4_mapLine_30 : decode cX4_mapLine 30 = .ok (.iload_n 2, 1) := dk_28 (dk_at dksX4_mapLine_1 6 rfl rfl)
theorem dX4_mapLine_31 : decode cX4_mapLine 31 = .ok (.aload_n 0, 1) := dk_42 (dk_at dksX4_mapLine_1 7 rfl rfl)
theorem dX4_mapLine_32 : decode cX4_mapLine 32 = .ok (.getfield 80, 3) := dk_180 0 80 (dk_at dksX4_mapLine_1 8 rfl rfl)
theorem dX4_mapLine_35 : decode cX4_mapLine 35 = .ok (.iconst 0, 1) := dk_3 (dk_at dksX4_mapLine_1 11 rfl rfl)
theorem dX4_mapLine_36 : decode cX4_mapLine 36 = .ok (.iaload, 1) := dk_46 (dk_at dksX4_mapLine_1 12 rfl rfl)
theorem dX4_mapLine_37 : decode cX4_mapLine 37 = .ok (.if_icmp .ge 95, 3) := dk_162 0 95 (dk_at dksX4_mapLine_1 13 rfl rfl)
theorem dX4_mapLine_40 : decode cX4_mapLine 40 = .ok (.aload_n 0, 1) := dk_42 (dk_at dksX4_mapLine_1 16 rfl rfl)
theorem dX4_mapLine_41 : decode cX4_mapLine 41 = .ok (.invokevirtual 38, 3) := dk_182 0 38 (dk_at dksX4_mapLine_1 17 rfl rfl)
theorem dX4_mapLine_44 : decode cX4_mapLine 44 = .ok (.ifCond .ne 88, 3) := dk_154 0 88 (dk_at dksX4_mapLine_1 20 rfl rfl)
theorem dX4_mapLine_47 : decode cX4_mapLine 47 = .ok (.aload_n 0, 1) := dk_42 (dk_at dksX4_mapLine_1 23 rfl rfl)
theorem dX4_mapLine_48 : decode cX4_mapLine 48 = .ok (.invokevirtual 45, 3) := dk_182 0 45 (dk_at dksX4_mapLine_2 0 rfl rfl)
theorem dX4_mapLine_51 : decode cX4_mapLine 51 = .ok (.iconst 1, 1) := dk_4 (dk_at dksX4_mapLine_2 3 rfl rfl)
theorem dX4_mapLine_52 : decode cX4_mapLine 52 = .ok (.if_icmp .ne 19, 3) := dk_160 0 19 (dk_at dksX4_mapLine_2 4 rfl rfl)
theorem dX4_mapLine_55 : decode cX4_mapLine 55 = .ok (.aload_n 0, 1) := dk_42 (dk_at dksX4_mapLine_2 7 rfl rfl)
theorem dX4_mapLine_56 : decode cX4_mapLine 56 = .ok (.getfield 14, 3) := dk_180 0 14 (dk_at dksX4_mapLine_2 8 rfl rfl)
theorem dX4_mapLine_59 : decode cX4_mapLine 59 = .ok (.aload_n 0, 1) := dk_42 (dk_at dksX4_mapLine_2 11 rfl rfl)
theorem dX4_mapLine_60 : decode cX4_mapLine 60 = .ok (.getfield 21, 3) := dk_180 0 21 (dk_at dksX4_mapLine_2 12 rfl rfl)
theorem dX4_mapLine_63 : decode cX4_mapLine 63 = .ok (.baload, 1) := dk_51 (dk_at dksX4_mapLine_2 15 rfl rfl)
theorem dX4_mapLine_64 : decode cX4_mapLine 64 = .ok (.bipush 97, 2) := dk_16 97 (dk_at dksX4_mapLine_2 16 rfl rfl)
theorem dX4_mapLine_66 : decode cX4_mapLine 66 = .ok (.iload_n 2, 1) := dk_28 (dk_at dksX4_mapLine_2 18 rfl rfl)
theorem dX4_mapLine_67 : decode cX4_mapLine 67 = .ok (.iadd, 1) := dk_96 (dk_at dksX4_mapLine_2 19 rfl rfl)
theorem dX4_mapLine_68 : decode cX4_mapLine 68 = .ok (.if_icmp .eq 8, 3) := dk_159 0 8 (dk_at dksX4_mapLine_2 20 rfl rfl)
theorem dX4_mapLine_71 : decode cX4_mapLine 71 = .ok (.aload_n 0, 1) := dk_42 (dk_at dksX4_mapLine_2 23 rfl rfl)
theorem dX4_mapLine_72 : decode cX4_mapLine 72 = .ok (.invokevirtual 42, 3) := dk_182 0 42 (dk_at dksX4_mapLine_3 0 rfl rfl)
theorem dX4_mapLine_75 : decode cX4_mapLine 75 = .ok (.return_, 1) := dk_177 (dk_at dksX4_mapLine_3 3 rfl rfl)
theorem dX4_mapLine_76 : decode cX4_mapLine 76 = .ok (.aload_n 0, 1) := dk_42 (dk_at dksX4_mapLine_3 4 rfl rfl)
theorem dX4_mapLine_77 : decode cX4_mapLine 77 = .ok (.dup, 1) := dk_89 (dk_at dksX4_mapLine_3 5 rfl rfl)
theorem dX4_mapLine_78 : decode cX4_mapLine 78 = .ok (.getfield 21, 3) := dk_180 0 21 (dk_at dksX4_mapLine_3 6 rfl rfl)
theorem dX4_mapLine_81 : decode cX4_mapLine 81 = .ok (.iconst 1, 1) := dk_4 (dk_at dksX4_mapLine_3 9 rfl rfl)
theorem dX4_mapLine_82 : decode cX4_mapLine 82 = .ok (.iadd, 1) := dk_96 (dk_at dksX4_mapLine_3 10 rfl rfl)
theorem dX4_mapLine_83 : decode cX4_mapLine 83 = .ok (.putfield 21, 3) := dk_181 0 21 (dk_at dksX4_mapLine_3 11 rfl rfl)
theorem dX4_mapLine_86 : decode cX4_mapLine 86 = .ok (.aload_n 0, 1) := dk_42 (dk_at dksX4_mapLine_3 14 rfl rfl)
theorem dX4_mapLine_87 : decode cX4_mapLine 87 = .ok (.getfield 80, 3) := dk_180 0 80 (dk_at dksX4_mapLine_3 15 rfl rfl)
theorem dX4_mapLine_90 : decode cX4_mapLine 90 = .ok (.bipush 54, 2) := dk_16 54 (dk_at dksX4_mapLine_3 18 rfl rfl)
theorem dX4_mapLine_92 : decode cX4_mapLine 92 = .ok (.iconst 4, 1) := dk_7 (dk_at dksX4_mapLine_3 20 rfl rfl)
theorem dX4_mapLine_93 : decode cX4_mapLine 93 = .ok (.iload_n 1, 1) := dk_27 (dk_at dksX4_mapLine_3 21 rfl rfl)
theorem dX4_mapLine_94 : decode cX4_mapLine 94 = .ok (.imul, 1) := dk_104 (dk_at dksX4_mapLine_3 22 rfl rfl)
theorem dX4_mapLine_95 : decode cX4_mapLine 95 = .ok (.iadd, 1) := dk_96 (dk_at dksX4_mapLine_3 23 rfl rfl)
theorem dX4_mapLine_96 : decode cX4_mapLine 96 = .ok (.iload_n 2, 1) := dk_28 (dk_at dksX4_mapLine_4 0 rfl rfl)
theorem dX4_mapLine_97 : decode cX4_mapLine 97 = .ok (.iadd, 1) := dk_96 (dk_at dksX4_mapLine_4 1 rfl rfl)
theorem dX4_mapLine_98 : decode cX4_mapLine 98 = .ok (.aload_n 0, 1) := dk_42 (dk_at dksX4_mapLine_4 2 rfl rfl)
theorem dX4_mapLine_99 : decode cX4_mapLine 99 = .ok (.bipush 97, 2) := dk_16 97 (dk_at dksX4_mapLine_4 3 rfl rfl)
theorem dX4_mapLine_101 : decode cX4_mapLine 101 = .ok (.aload_n 0, 1) := dk_42 (dk_at dksX4_mapLine_4 5 rfl rfl)
theorem dX4_mapLine_102 : decode cX4_mapLine 102 = .ok (.getfield 80, 3) := dk_180 0 80 (dk_at dksX4_mapLine_4 6 rfl rfl)
theorem dX4_mapLine_105 : decode cX4_mapLine 105 = .ok (.iconst 0, 1) := dk_3 (dk_at dksX4_mapLine_4 9 rfl rfl)
theorem dX4_mapLine_106 : decode cX4_mapLine 106 = .ok (.iaload, 1) := dk_46 (dk_at dksX4_mapLine_4 10 rfl rfl)
theorem dX4_mapLine_107 : decode cX4_mapLine 107 = .ok (.aload_n 0, 1) := dk_42 (dk_at dksX4_mapLine_4 11 rfl rfl)
theorem dX4_mapLine_108 : decode cX4_mapLine 108 = .ok (.getfield 80, 3) := dk_180 0 80 (dk_at dksX4_mapLine_4 12 rfl rfl)
theorem dX4_mapLine_111 : decode cX4_mapLine 111 = .ok (.bipush 70, 2) := dk_16 70 (dk_at dksX4_mapLine_4 15 rfl rfl)
theorem dX4_mapLine_113 : decode cX4_mapLine 113 = .ok (.bipush 6, 2) := dk_16 6 (dk_at dksX4_mapLine_4 17 rfl rfl)
theorem dX4_mapLine_115 : decode cX4_mapLine 115 = .ok (.iconst 4, 1) := dk_7 (dk_at dksX4_mapLine_4 19 rfl rfl)
theorem dX4_mapLine_116 : decode cX4_mapLine 116 = .ok (.iload_n 1, 1) := dk_27 (dk_at dksX4_mapLine_4 20 rfl rfl)
theorem dX4_mapLine_117 : decode cX4_mapLine 117 = .ok (.imul, 1) := dk_104 (dk_at dksX4_mapLine_4 21 rfl rfl)
theorem dX4_mapLine_118 : decode cX4_mapLine 118 = .ok (.iload_n 2, 1) := dk_28 (dk_at dksX4_mapLine_4 22 rfl rfl)
theorem dX4_mapLine_119 : decode cX4_mapLine 119 = .ok (.iadd, 1) := dk_96 (dk_at dksX4_mapLine_4 23 rfl rfl)
theorem dX4_mapLine_120 : decode cX4_mapLine 120 = .ok (.imul, 1) := dk_104 (dk_at dksX4_mapLine_5 0 rfl rfl)
theorem dX4_mapLine_121 : decode cX4_mapLine 121 = .ok (.iadd, 1) := dk_96 (dk_at dksX4_mapLine_5 1 rfl rfl)
theorem dX4_mapLine_122 : decode cX4_mapLine 122 = .ok (.invokevirtual 156, 3) := dk_182 0 156 (dk_at dksX4_mapLine_5 2 rfl rfl)
theorem dX4_mapLine_125 : decode cX4_mapLine 125 = .ok (.iastore, 1) := dk_79 (dk_at dksX4_mapLine_5 5 rfl rfl)
theorem dX4_mapLine_126 : decode cX4_mapLine 126 = .ok (.iinc 2 1, 3) := dk_132 2 1 (dk_at dksX4_mapLine_5 6 rfl rfl)
theorem dX4_mapLine_129 : decode cX4_mapLine 129 = .ok (.goto (-99), 3) := dk_167 255 157 (dk_at dksX4_mapLine_5 9 rfl rfl)
theorem dX4_mapLine_132 : decode cX4_mapLine 132 = .ok (.aload_n 0, 1) := dk_42 (dk_at dksX4_mapLine_5 12 rfl rfl)
theorem dX4_mapLine_133 : decode cX4_mapLine 133 = .ok (.getfield 80, 3) := dk_180 0 80 (dk_at dksX4_mapLine_5 13 rfl rfl)
theorem dX4_mapLine_136 : decode cX4_mapLine 136 = .ok (.iconst 4, 1) := dk_7 (dk_at dksX4_mapLine_5 16 rfl rfl)
theorem dX4_mapLine_137 : decode cX4_mapLine 137 = .ok (.dup2, 1) := dk_92 (dk_at dksX4_mapLine_5 17 rfl rfl)
theorem dX4_mapLine_138 : decode cX4_mapLine 138 = .ok (.iaload, 1) := dk_46 (dk_at dksX4_mapLine_5 18 rfl rfl)
theorem dX4_mapLine_139 : decode cX4_mapLine 139 = .ok (.iconst 1, 1) := dk_4 (dk_at dksX4_mapLine_5 19 rfl rfl)
theorem dX4_mapLine_140 : decode cX4_mapLine 140 = .ok (.iadd, 1) := dk_96 (dk_at dksX4_mapLine_5 20 rfl rfl)
theorem dX4_mapLine_141 : decode cX4_mapLine 141 = .ok (.iastore, 1) := dk_79 (dk_at dksX4_mapLine_5 21 rfl rfl)
theorem dX4_mapLine_142 : decode cX4_mapLine 142 = .ok (.return_, 1) := dk_177 (dk_at dksX4_mapLine_5 22 rfl rfl)
abbrev cX4_freshName : ByteArray := prog_13_method_22_code
def yX4_freshName : MethodName := ⟨RX4, "freshName", "(I)V"⟩
def dkwX4_freshName_4 : List UInt8 := [167, 0, 4, 3, 79, 132, 3, 1, 167, 255, 213, 42, 89, 180, 0, 21, 28, 96, 181, 0, 21, 177]
abbrev dktX4_freshName_4 : List UInt8 := dkwX4_freshName_4 ++ []
def dkwX4_freshName_3 : List UInt8 := [16, 6, 27, 104, 96, 29, 96, 29, 28, 162, 0, 17, 42, 180, 0, 14, 42, 180, 0, 21, 29, 96, 51]
abbrev dktX4_freshName_3 : List UInt8 := dkwX4_freshName_3 ++ dktX4_freshName_4
def dkwX4_freshName_2 : List UInt8 := [182, 0, 42, 177, 42, 182, 0, 45, 61, 3, 62, 29, 16, 6, 162, 0, 43, 42, 180, 0, 80, 16, 6]
abbrev dktX4_freshName_2 : List UInt8 := dkwX4_freshName_2 ++ dktX4_freshName_3
def dkwX4_freshName_1 : List UInt8 := [182, 0, 137, 2, 160, 0, 18, 42, 7, 42, 180, 0, 80, 8, 46, 182, 0, 137, 2, 159, 0, 8, 42]
abbrev dktX4_freshName_1 : List UInt8 := dkwX4_freshName_1 ++ dktX4_freshName_2
def dkwX4_freshName_0 : List UInt8 := [42, 182, 0, 38, 153, 0, 4, 177, 42, 182, 0, 134, 153, 0, 33, 42, 3, 42, 180, 0, 80, 7, 46]
abbrev dktX4_freshName_0 : List UInt8 := dkwX4_freshName_0 ++ dktX4_freshName_1
theorem dksX4_freshName_0 : cX4_freshName.data.toList.drop 0 = dktX4_freshName_0 := by decide +kernel
theorem dksX4_freshName_1 : cX4_freshName.data.toList.drop 23 = dktX4_freshName_1 := dk_seg dksX4_freshName_0 23 rfl rfl
theorem dksX4_freshName_2 : cX4_freshName.data.toList.drop 46 = dktX4_freshName_2 := dk_seg dksX4_freshName_1 23 rfl rfl
theorem dksX4_freshName_3 : cX4_freshName.data.toList.drop 69 = dktX4_freshName_3 := dk_seg dksX4_freshName_2 23 rfl rfl
theorem dksX4_freshName_4 : cX4_freshName.data.toList.drop 92 = dktX4_freshName_4 := dk_seg dksX4_freshName_3 23 rfl rfl
theorem dX4_freshName_0 : decode cX4_freshName 0 = .ok (.aload_n 0, 1) := dk_42 (dk_at dksX4_freshName_0 0 rfl rfl)
theorem dX4_freshName_1 : decode cX4_freshName 1 = .ok (.invokevirtual 38, 3) := dk_182 0 38 (dk_at dksX4_freshName_0 1 rfl rfl)
theorem dX4_freshName_4 : decode cX4_freshName 4 = .ok (.ifCond .eq 4, 3) := dk_153 0 4 (dk_at dksX4_freshName_0 4 rfl rfl)
theorem dX4_freshName_7 : decode cX4_freshName 7 = .ok (.return_, 1) := dk_177 (dk_at dksX4_freshName_0 7 rfl rfl)
theorem dX4_freshName_8 : decode cX4_freshName 8 = .ok (.aload_n 0, 1) := dk_42 (dk_at dksX4_freshName_0 8 rfl rfl)
theorem dX4_freshName_9 : decode cX4_freshName 9 = .ok (.invokevirtual 134, 3) := dk_182 0 134 (dk_at dksX4_freshName_0 9 rfl rfl)
theorem dX4_freshName_12 : decode cX4_freshName 12 = .ok (.ifCond .eq 33, 3) := dk_153 0 33 (dk_at dksX4_freshName_0 12 rfl rfl)
theorem dX4_freshName_15 : decode cX4_freshName 15 = .ok (.aload_n 0, 1) := dk_42 (dk_at dksX4_freshName_0 15 rfl rfl)
theorem dX4_freshName_16 : decode cX4_freshName 16 = .ok (.iconst 0, 1) := dk_3 (dk_at dksX4_freshName_0 16 rfl rfl)
theorem dX4_freshName_17 : decode cX4_freshName 17 = .ok (.aload_n 0, 1) := dk_42 (dk_at dksX4_freshName_0 17 rfl rfl)
theorem dX4_freshName_18 : decode cX4_freshName 18 = .ok (.getfield 80, 3) := dk_180 0 80 (dk_at dksX4_freshName_0 18 rfl rfl)
theorem dX4_freshName_21 : decode cX4_freshName 21 = .ok (.iconst 4, 1) := dk_7 (dk_at dksX4_freshName_0 21 rfl rfl)
theorem dX4_freshName_22 : decode cX4_freshName 22 = .ok (.iaload, 1) := dk_46 (dk_at dksX4_freshName_0 22 rfl rfl)
theorem dX4_freshName_23 : decode cX4_freshName 23 = .ok (.invokevirtual 137, 3) := dk_182 0 137 (dk_at dksX4_freshName_1 0 rfl rfl)
theorem dX4_freshName_26 : decode cX4_freshName 26 = .ok (.iconst (-1), 1) := dk_2 (dk_at dksX4_freshName_1 3 rfl rfl)
theorem dX4_freshName_27 : decode cX4_freshName 27 = .ok (.if_icmp .ne 18, 3) := dk_160 0 18 (dk_at dksX4_freshName_1 4 rfl rfl)
theorem dX4_freshName_30 : decode cX4_freshName 30 = .ok (.aload_n 0, 1) := dk_42 (dk_at dksX4_freshName_1 7 rfl rfl)
theorem dX4_freshName_31 : decode cX4_freshName 31 = .ok (.iconst 4, 1) := dk_7 (dk_at dksX4_freshName_1 8 rfl rfl)
theorem dX4_freshName_32 : decode cX4_freshName 32 = .ok (.aload_n 0, 1) := dk_42 (dk_at dksX4_freshName_1 9 rfl rfl)
theorem dX4_freshName_33 : decode cX4_freshName 33 = .ok (.getfield 80, 3) := dk_180 0 80 (dk_at dksX4_freshName_1 10 rfl rfl)
theorem dX4_freshName_36 : decode cX4_freshName 36 = .ok (.iconst 5, 1) := dk_8 (dk_at dksX4_freshName_1 13 rfl rfl)
theorem dX4_freshName_37 : decode cX4_freshName 37 = .ok (.iaload, 1) := dk_46 (dk_at dksX4_freshName_1 14 rfl rfl)
theorem dX4_freshName_38 : decode cX4_freshName 38 = .ok (.invokevirtual 137, 3) := dk_182 0 137 (dk_at dksX4_freshName_1 15 rfl rfl)
theorem dX4_freshName_41 : decode cX4_freshName 41 = .ok (.iconst (-1), 1) := dk_2 (dk_at dksX4_freshName_1 18 rfl rfl)
theorem dX4_freshName_42 : decode cX4_freshName 42 = .ok (.if_icmp .eq 8, 3) := dk_159 0 8 (dk_at dksX4_freshName_1 19 rfl rfl)
theorem dX4_freshName_45 : decode cX4_freshName 45 = .ok (.aload_n 0, 1) := dk_42 (dk_at dksX4_freshName_1 22 rfl rfl)
theorem dX4_freshName_46 : decode cX4_freshName 46 = .ok (.invokevirtual 42, 3) := dk_182 0 42 (dk_at dksX4_freshName_2 0 rfl rfl)
theorem dX4_freshName_49 : decode cX4_freshName 49 = .ok (.return_, 1) := dk_177 (dk_at dksX4_freshName_2 3 rfl rfl)
theorem dX4_freshName_50 : decode cX4_freshName 50 = .ok (.aload_n 0, 1) := dk_42 (dk_at dksX4_freshName_2 4 rfl rfl)
theorem dX4_freshName_51 : decode cX4_freshName 51 = .ok (.invokevirtual 45, 3) := dk_182 0 45 (dk_at dksX4_freshName_2 5 rfl rfl)
theorem dX4_freshName_54 : decode cX4_freshName 54 = .ok (.istore_n 2, 1) := dk_61 (dk_at dksX4_freshName_2 8 rfl rfl)
theorem dX4_freshName_55 : decode cX4_freshName 55 = .ok (.iconst 0, 1) := dk_3 (dk_at dksX4_freshName_2 9 rfl rfl)
theorem dX4_freshName_56 : decode cX4_freshName 56 = .ok (.istore_n 3, 1) := dk_62 (dk_at dksX4_freshName_2 10 rfl rfl)
theorem dX4_freshName_57 : decode cX4_freshName 57 = .ok (.iload_n 3, 1) := dk_29 (dk_at dksX4_freshName_2 11 rfl rfl)
theorem dX4_freshName_58 : decode cX4_freshName 58 = .ok (.bipush 6, 2) := dk_16 6 (dk_at dksX4_freshName_2 12 rfl rfl)
theorem dX4_freshName_60 : decode cX4_freshName 60 = .ok (.if_icmp .ge 43, 3) := dk_162 0 43 (dk_at dksX4_freshName_2 14 rfl rfl)
theorem dX4_freshName_63 : decode cX4_freshName 63 = .ok (.aload_n 0, 1) := dk_42 (dk_at dksX4_freshName_2 17 rfl rfl)
theorem dX4_freshName_64 : decode cX4_freshName 64 = .ok (.getfield 80, 3) := dk_180 0 80 (dk_at dksX4_freshName_2 18 rfl rfl)
theorem dX4_freshName_67 : decode cX4_freshName 67 = .ok (.bipush 6, 2) := dk_16 6 (dk_at dksX4_freshName_2 21 rfl rfl)
theorem dX4_freshName_69 : decode cX4_freshName 69 = .ok (.bipush 6, 2) := dk_16 6 (dk_at dksX4_freshName_3 0 rfl rfl)
theorem dX4_freshName_71 : decode cX4_freshName 71 = .ok (.iload_n 1, 1) := dk_27 (dk_at dksX4_freshName_3 2 rfl rfl)
theorem dX4_freshName_72 : decode cX4_freshName 72 = .ok (.imul, 1) := dk_104 (dk_at dksX4_freshName_3 3 rfl rfl)
theorem dX4_freshName_73 : decode cX4_freshName 73 = .ok (.iadd, 1) := dk_96 (dk_at dksX4_freshName_3 4 rfl rfl)
theorem dX4_freshName_74 : decode cX4_freshName 74 = .ok (.iload_n 3, 1) := dk_29 (dk_at dksX4_freshName_3 5 rfl rfl)
theorem dX4_freshName_75 : decode cX4_freshName 75 = .ok (.iadd, 1) := dk_96 (dk_at dksX4_freshName_3 6 rfl rfl)
theorem dX4_freshName_76 : decode cX4_freshName 76 = .ok (.iload_n 3, 1) := dk_29 (dk_at dksX4_freshName_3 7 rfl rfl)
theorem dX4_freshName_77 : decode cX4_freshName 77 = .ok (.iload_n 2, 1) := dk_28 (dk_at dksX4_freshName_3 8 rfl rfl)
theorem dX4_freshName_78 : decode cX4_freshName 78 = .ok (.if_icmp .ge 17, 3) := dk_162 0 17 (dk_at dksX4_freshName_3 9 rfl rfl)
theorem dX4_freshName_81 : decode cX4_freshName 81 = .ok (.aload_n 0, 1) := dk_42 (dk_at dksX4_freshName_3 12 rfl rfl)
theorem dX4_freshName_82 : decode cX4_freshName 82 = .ok (.getfield 14, 3) := dk_180 0 14 (dk_at dksX4_freshName_3 13 rfl rfl)
theorem dX4_freshName_85 : decode cX4_freshName 85 = .ok (.aload_n 0, 1) := dk_42 (dk_at dksX4_freshName_3 16 rfl rfl)
theorem dX4_freshName_86 : decode cX4_freshName 86 = .ok (.getfield 21, 3) := dk_180 0 21 (dk_at dksX4_freshName_3 17 rfl rfl)
theorem dX4_freshName_89 : decode cX4_freshName 89 = .ok (.iload_n 3, 1) := dk_29 (dk_at dksX4_freshName_3 20 rfl rfl)
theorem dX4_freshName_90 : decode cX4_freshName 90 = .ok (.iadd, 1) := dk_96 (dk_at dksX4_freshName_3 21 rfl rfl)
theorem dX4_freshName_91 : decode cX4_freshName 91 = .ok (.baload, 1) := dk_51 (dk_at dksX4_freshName_3 22 rfl rfl)
theorem dX4_freshName_92 : decode cX4_freshName 92 = .ok (.goto 4, 3) := dk_167 0 4 (dk_at dksX4_freshName_4 0 rfl rfl)
theorem dX4_freshName_95 : decode cX4_freshName 95 = .ok (.iconst 0, 1) := dk_3 (dk_at dksX4_freshName_4 3 rfl rfl)
theorem dX4_freshName_96 : decode cX4_freshName 96 = .ok (.iastore, 1) := dk_79 (dk_at dksX4_freshName_4 4 rfl rfl)
theorem dX4_freshName_97 : decode cX4_freshName 97 = .ok (.iinc 3 1, 3) := dk_132 3 1 (dk_at dksX4_freshName_4 5 rfl rfl)
theorem dX4_freshName_100 : decode cX4_freshName 100 = .ok (.goto (-43), 3) := dk_167 255 213 (dk_at dksX4_freshName_4 8 rfl rfl)
theorem dX4_freshName_103 : decode cX4_freshName 103 = .ok (.aload_n 0, 1) := dk_42 (dk_at dksX4_freshName_4 11 rfl rfl)
theorem dX4_freshName_104 : decode cX4_freshName 104 = .ok (.dup, 1) := dk_89 (dk_at dksX4_freshName_4 12 rfl rfl)
theorem dX4_freshName_105 : decode cX4_freshName 105 = .ok (.getfield 21, 3) := dk_180 0 21 (dk_at dksX4_freshName_4 13 rfl rfl)
theorem dX4_freshName_108 : decode cX4_freshName 108 = .ok (.iload_n 2, 1) := dk_28 (dk_at dksX4_freshName_4 16 rfl rfl)
theorem dX4_freshName_109 : decode cX4_freshName 109 = .ok (.iadd, 1) := dk_96 (dk_at dksX4_freshName_4 17 rfl rfl)
theorem dX4_freshName_110 : decode cX4_freshName 110 = .ok (.putfield 21, 3) := dk_181 0 21 (dk_at dksX4_freshName_4 18 rfl rfl)
theorem dX4_freshName_113 : decode cX4_freshName 113 = .ok (.return_, 1) := dk_177 (dk_at dksX4_freshName_4 21 rfl rfl)
abbrev cX4_isName : ByteArray := prog_13_method_20_code
def yX4_isName : MethodName := ⟨RX4, "isName", "()Z"⟩
def dkwX4_isName_4 : List UInt8 := [4, 167, 0, 4, 3, 172]
abbrev dktX4_isName_4 : List UInt8 := dkwX4_isName_4 ++ []
def dkwX4_isName_3 : List UInt8 := [182, 0, 58, 154, 0, 25, 42, 18, 130, 182, 0, 58, 154, 0, 16, 42, 18, 132, 182, 0, 58, 154, 0, 7]
abbrev dktX4_isName_3 : List UInt8 := dkwX4_isName_3 ++ dktX4_isName_4
def dkwX4_isName_2 : List UInt8 := [154, 0, 52, 42, 18, 124, 182, 0, 58, 154, 0, 43, 42, 18, 126, 182, 0, 58, 154, 0, 34, 42, 18, 128]
abbrev dktX4_isName_2 : List UInt8 := dkwX4_isName_2 ++ dktX4_isName_3
def dkwX4_isName_1 : List UInt8 := [18, 118, 182, 0, 58, 154, 0, 70, 42, 18, 120, 182, 0, 58, 154, 0, 61, 42, 18, 122, 182, 0, 58]
abbrev dktX4_isName_1 : List UInt8 := dkwX4_isName_1 ++ dktX4_isName_2
def dkwX4_isName_0 : List UInt8 := [42, 182, 0, 45, 60, 42, 182, 0, 38, 154, 0, 89, 27, 4, 16, 6, 184, 0, 65, 153, 0, 79, 42]
abbrev dktX4_isName_0 : List UInt8 := dkwX4_isName_0 ++ dktX4_isName_1
theorem dksX4_isName_0 : cX4_isName.data.toList.drop 0 = dktX4_isName_0 := by decide +kernel
theorem dksX4_isName_1 : cX4_isName.data.toList.drop 23 = dktX4_isName_1 := dk_seg dksX4_isName_0 23 rfl rfl
theorem dksX4_isName_2 : cX4_isName.data.toList.drop 46 = dktX4_isName_2 := dk_seg dksX4_isName_1 23 rfl rfl
theorem dksX4_isName_3 : cX4_isName.data.toList.drop 70 = dktX4_isName_3 := dk_seg dksX4_isName_2 24 rfl rfl
theorem dksX4_isName_4 : cX4_isName.data.toList.drop 94 = dktX4_isName_4 := dk_seg dksX4_isName_3 24 rfl rfl
theorem dX4_isName_0 : decode cX4_isName 0 = .ok (.aload_n 0, 1) := dk_42 (dk_at dksX4_isName_0 0 rfl rfl)
theorem dX4_isName_1 : decode cX4_isName 1 = .ok (.invokevirtual 45, 3) := dk_182 0 45 (dk_at dksX4_isName_0 1 rfl rfl)
theorem dX4_isName_4 : decode cX4_isName 4 = .ok (.istore_n 1, 1) := dk_60 (dk_at dksX4_isName_0 4 rfl rfl)
theorem dX4_isName_5 : decode cX4_isName 5 = .ok (.aload_n 0, 1) := dk_42 (dk_at dksX4_isName_0 5 rfl rfl)
theorem dX4_isName_6 : decode cX4_isName 6 = .ok (.invokevirtual 38, 3) := dk_182 0 38 (dk_at dksX4_isName_0 6 rfl rfl)
theorem dX4_isName_9 : decode cX4_isName 9 = .ok (.ifCond .ne 89, 3) := dk_154 0 89 (dk_at dksX4_isName_0 9 rfl rfl)
theorem dX4_isName_12 : decode cX4_isName 12 = .ok (.iload_n 1, 1) := dk_27 (dk_at dksX4_isName_0 12 rfl rfl)
theorem dX4_isName_13 : decode cX4_isName 13 = .ok (.iconst 1, 1) := dk_4 (dk_at dksX4_isName_0 13 rfl rfl)
theorem dX4_isName_14 : decode cX4_isName 14 = .ok (.bipush 6, 2) := dk_16 6 (dk_at dksX4_isName_0 14 rfl rfl)
theorem dX4_isName_16 : decode cX4_isName 16 = .ok (.invokestatic 65, 3) := dk_184 0 65 (dk_at dksX4_isName_0 16 rfl rfl)
theorem dX4_isName_19 : decode cX4_isName 19 = .ok (.ifCond .eq 79, 3) := dk_153 0 79 (dk_at dksX4_isName_0 19 rfl rfl)
theorem dX4_isName_22 : decode cX4_isName 22 = .ok (.aload_n 0, 1) := dk_42 (dk_at dksX4_isName_0 22 rfl rfl)
theorem dX4_isName_23 : decode cX4_isName 23 = .ok (.ldc 118, 2) := dk_18 118 (dk_at dksX4_isName_1 0 rfl rfl)
theorem dX4_isName_25 : decode cX4_isName 25 = .ok (.invokevirtual 58, 3) := dk_182 0 58 (dk_at dksX4_isName_1 2 rfl rfl)
theorem dX4_isName_28 : decode cX4_isName 28 = .ok (.ifCond .ne 70, 3) := dk_154 0 70 (dk_at dksX4_isName_1 5 rfl rfl)
theorem dX4_isName_31 : decode cX4_isName 31 = .ok (.aload_n 0, 1) := dk_42 (dk_at dksX4_isName_1 8 rfl rfl)
theorem dX4_isName_32 : decode cX4_isName 32 = .ok (.ldc 120, 2) := dk_18 120 (dk_at dksX4_isName_1 9 rfl rfl)
theorem dX4_isName_34 : decode cX4_isName 34 = .ok (.invokevirtual 58, 3) := dk_182 0 58 (dk_at dksX4_isName_1 11 rfl rfl)
theorem dX4_isName_37 : decode cX4_isName 37 = .ok (.ifCond .ne 61, 3) := dk_154 0 61 (dk_at dksX4_isName_1 14 rfl rfl)
theorem dX4_isName_40 : decode cX4_isName 40 = .ok (.aload_n 0, 1) := dk_42 (dk_at dksX4_isName_1 17 rfl rfl)
theorem dX4_isName_41 : decode cX4_isName 41 = .ok (.ldc 122, 2) := dk_18 122 (dk_at dksX4_isName_1 18 rfl rfl)
theorem dX4_isName_43 : decode cX4_isName 43 = .ok (.invokevirtual 58, 3) := dk_182 0 58 (dk_at dksX4_isName_1 20 rfl rfl)
theorem dX4_isName_46 : decode cX4_isName 46 = .ok (.ifCond .ne 52, 3) := dk_154 0 52 (dk_at dksX4_isName_2 0 rfl rfl)
theorem dX4_isName_49 : decode cX4_isName 49 = .ok (.aload_n 0, 1) := dk_42 (dk_at dksX4_isName_2 3 rfl rfl)
theorem dX4_isName_50 : decode cX4_isName 50 = .ok (.ldc 124, 2) := dk_18 124 (dk_at dksX4_isName_2 4 rfl rfl)
theorem dX4_isName_52 : decode cX4_isName 52 = .ok (.invokevirtual 58, 3) := dk_182 0 58 (dk_at dksX4_isName_2 6 rfl rfl)
theorem dX4_isName_55 : decode cX4_isName 55 = .ok (.ifCond .ne 43, 3) := dk_154 0 43 (dk_at dksX4_isName_2 9 rfl rfl)
theorem dX4_isName_58 : decode cX4_isName 58 = .ok (.aload_n 0, 1) := dk_42 (dk_at dksX4_isName_2 12 rfl rfl)
theorem dX4_isName_59 : decode cX4_isName 59 = .ok (.ldc 126, 2) := dk_18 126 (dk_at dksX4_isName_2 13 rfl rfl)
theorem dX4_isName_61 : decode cX4_isName 61 = .ok (.invokevirtual 58, 3) := dk_182 0 58 (dk_at dksX4_isName_2 15 rfl rfl)
theorem dX4_isName_64 : decode cX4_isName 64 = .ok (.ifCond .ne 34, 3) := dk_154 0 34 (dk_at dksX4_isName_2 18 rfl rfl)
theorem dX4_isName_67 : decode cX4_isName 67 = .ok (.aload_n 0, 1) := dk_42 (dk_at dksX4_isName_2 21 rfl rfl)
theorem dX4_isName_68 : decode cX4_isName 68 = .ok (.ldc 128, 2) := dk_18 128 (dk_at dksX4_isName_2 22 rfl rfl)
theorem dX4_isName_70 : decode cX4_isName 70 = .ok (.invokevirtual 58, 3) := dk_182 0 58 (dk_at dksX4_isName_3 0 rfl rfl)
theorem dX4_isName_73 : decode cX4_isName 73 = .ok (.ifCond .ne 25, 3) := dk_154 0 25 (dk_at dksX4_isName_3 3 rfl rfl)
theorem dX4_isName_76 : decode cX4_isName 76 = .ok (.aload_n 0, 1) := dk_42 (dk_at dksX4_isName_3 6 rfl rfl)
theorem dX4_isName_77 : decode cX4_isName 77 = .ok (.ldc 130, 2) := dk_18 130 (dk_at dksX4_isName_3 7 rfl rfl)
theorem dX4_isName_79 : decode cX4_isName 79 = .ok (.invokevirtual 58, 3) := dk_182 0 58 (dk_at dksX4_isName_3 9 rfl rfl)
theorem dX4_isName_82 : decode cX4_isName 82 = .ok (.ifCond .ne 16, 3) := dk_154 0 16 (dk_at dksX4_isName_3 12 rfl rfl)
theorem dX4_isName_85 : decode cX4_isName 85 = .ok (.aload_n 0, 1) := dk_42 (dk_at dksX4_isName_3 15 rfl rfl)
theorem dX4_isName_86 : decode cX4_isName 86 = .ok (.ldc 132, 2) := dk_18 132 (dk_at dksX4_isName_3 16 rfl rfl)
theorem dX4_isName_88 : decode cX4_isName 88 = .ok (.invokevirtual 58, 3) := dk_182 0 58 (dk_at dksX4_isName_3 18 rfl rfl)
theorem dX4_isName_91 : decode cX4_isName 91 = .ok (.ifCond .ne 7, 3) := dk_154 0 7 (dk_at dksX4_isName_3 21 rfl rfl)
theorem dX4_isName_94 : decode cX4_isName 94 = .ok (.iconst 1, 1) := dk_4 (dk_at dksX4_isName_4 0 rfl rfl)
theorem dX4_isName_95 : decode cX4_isName 95 = .ok (.goto 4, 3) := dk_167 0 4 (dk_at dksX4_isName_4 1 rfl rfl)
theorem dX4_isName_98 : decode cX4_isName 98 = .ok (.iconst 0, 1) := dk_3 (dk_at dksX4_isName_4 4 rfl rfl)
theorem dX4_isName_99 : decode cX4_isName 99 = .ok (.ireturn, 1) := dk_172 (dk_at dksX4_isName_4 5 rfl rfl)
abbrev cX4_named : ByteArray := prog_13_method_21_code
def yX4_named : MethodName := ⟨RX4, "named", "(II)I"⟩
def dkwX4_named_4 : List UInt8 := [132, 4, 1, 167, 255, 165, 2, 172]
abbrev dktX4_named_4 : List UInt8 := dkwX4_named_4 ++ []
def dkwX4_named_3 : List UInt8 := [160, 0, 7, 4, 167, 0, 4, 3, 54, 5, 132, 6, 1, 167, 255, 191, 21, 5, 153, 0, 6, 21, 4, 172]
abbrev dktX4_named_3 : List UInt8 := dkwX4_named_3 ++ dktX4_named_4
def dkwX4_named_2 : List UInt8 := [96, 46, 21, 6, 29, 162, 0, 18, 42, 180, 0, 14, 42, 180, 0, 21, 21, 6, 96, 51, 167, 0, 4, 3]
abbrev dktX4_named_2 : List UInt8 := dkwX4_named_2 ++ dktX4_named_3
def dkwX4_named_1 : List UInt8 := [162, 0, 64, 21, 5, 153, 0, 50, 42, 180, 0, 80, 16, 6, 16, 6, 27, 21, 4, 96, 104, 96, 21, 6]
abbrev dktX4_named_1 : List UInt8 := dkwX4_named_1 ++ dktX4_named_2
def dkwX4_named_0 : List UInt8 := [42, 182, 0, 45, 62, 3, 54, 4, 21, 4, 28, 162, 0, 91, 4, 54, 5, 3, 54, 6, 21, 6, 16, 6]
abbrev dktX4_named_0 : List UInt8 := dkwX4_named_0 ++ dktX4_named_1
theorem dksX4_named_0 : cX4_named.data.toList.drop 0 = dktX4_named_0 := by decide +kernel
theorem dksX4_named_1 : cX4_named.data.toList.drop 24 = dktX4_named_1 := dk_seg dksX4_named_0 24 rfl rfl
theorem dksX4_named_2 : cX4_named.data.toList.drop 48 = dktX4_named_2 := dk_seg dksX4_named_1 24 rfl rfl
theorem dksX4_named_3 : cX4_named.data.toList.drop 72 = dktX4_named_3 := dk_seg dksX4_named_2 24 rfl rfl
theorem dksX4_named_4 : cX4_named.data.toList.drop 96 = dktX4_named_4 := dk_seg dksX4_named_3 24 rfl rfl
theorem dX4_named_0 : decode cX4_named 0 = .ok (.aload_n 0, 1) := dk_42 (dk_at dksX4_named_0 0 rfl rfl)
theorem dX4_named_1 : decode cX4_named 1 = .ok (.invokevirtual 45, 3) := dk_182 0 45 (dk_at dksX4_named_0 1 rfl rfl)
theorem dX4_named_4 : decode cX4_named 4 = .ok (.istore_n 3, 1) := dk_62 (dk_at dksX4_named_0 4 rfl rfl)
theorem dX4_named_5 : decode cX4_named 5 = .ok (.iconst 0, 1) := dk_3 (dk_at dksX4_named_0 5 rfl rfl)
theorem dX4_named_6 : decode cX4_named 6 = .ok (.istore 4, 2) := dk_54 4 (dk_at dksX4_named_0 6 rfl rfl)
theorem dX4_named_8 : decode cX4_named 8 = .ok (.iload 4, 2) := dk_21 4 (dk_at dksX4_named_0 8 rfl rfl)
theorem dX4_named_10 : decode cX4_named 10 = .ok (.iload_n 2, 1) := dk_28 (dk_at dksX4_named_0 10 rfl rfl)
theorem dX4_named_11 : decode cX4_named 11 = .ok (.if_icmp .ge 91, 3) := dk_162 0 91 (dk_at dksX4_named_0 11 rfl rfl)
theorem dX4_named_14 : decode cX4_named 14 = .ok (.iconst 1, 1) := dk_4 (dk_at dksX4_named_0 14 rfl rfl)
theorem dX4_named_15 : decode cX4_named 15 = .ok (.istore 5, 2) := dk_54 5 (dk_at dksX4_named_0 15 rfl rfl)
theorem dX4_named_17 : decode cX4_named 17 = .ok (.iconst 0, 1) := dk_3 (dk_at dksX4_named_0 17 rfl rfl)
theorem dX4_named_18 : decode cX4_named 18 = .ok (.istore 6, 2) := dk_54 6 (dk_at dksX4_named_0 18 rfl rfl)
theorem dX4_named_20 : decode cX4_named 20 = .ok (.iload 6, 2) := dk_21 6 (dk_at dksX4_named_0 20 rfl rfl)
theorem dX4_named_22 : decode cX4_named 22 = .ok (.bipush 6, 2) := dk_16 6 (dk_at dksX4_named_0 22 rfl rfl)
theorem dX4_named_24 : decode cX4_named 24 = .ok (.if_icmp .ge 64, 3) := dk_162 0 64 (dk_at dksX4_named_1 0 rfl rfl)
theorem dX4_named_27 : decode cX4_named 27 = .ok (.iload 5, 2) := dk_21 5 (dk_at dksX4_named_1 3 rfl rfl)
theorem dX4_named_29 : decode cX4_named 29 = .ok (.ifCond .eq 50, 3) := dk_153 0 50 (dk_at dksX4_named_1 5 rfl rfl)
theorem dX4_named_32 : decode cX4_named 32 = .ok (.aload_n 0, 1) := dk_42 (dk_at dksX4_named_1 8 rfl rfl)
theorem dX4_named_33 : decode cX4_named 33 = .ok (.getfield 80, 3) := dk_180 0 80 (dk_at dksX4_named_1 9 rfl rfl)
theorem dX4_named_36 : decode cX4_named 36 = .ok (.bipush 6, 2) := dk_16 6 (dk_at dksX4_named_1 12 rfl rfl)
theorem dX4_named_38 : decode cX4_named 38 = .ok (.bipush 6, 2) := dk_16 6 (dk_at dksX4_named_1 14 rfl rfl)
theorem dX4_named_40 : decode cX4_named 40 = .ok (.iload_n 1, 1) := dk_27 (dk_at dksX4_named_1 16 rfl rfl)
theorem dX4_named_41 : decode cX4_named 41 = .ok (.iload 4, 2) := dk_21 4 (dk_at dksX4_named_1 17 rfl rfl)
theorem dX4_named_43 : decode cX4_named 43 = .ok (.iadd, 1) := dk_96 (dk_at dksX4_named_1 19 rfl rfl)
theorem dX4_named_44 : decode cX4_named 44 = .ok (.imul, 1) := dk_104 (dk_at dksX4_named_1 20 rfl rfl)
theorem dX4_named_45 : decode cX4_named 45 = .ok (.iadd, 1) := dk_96 (dk_at dksX4_named_1 21 rfl rfl)
theorem dX4_named_46 : decode cX4_named 46 = .ok (.iload 6, 2) := dk_21 6 (dk_at dksX4_named_1 22 rfl rfl)
theorem dX4_named_48 : decode cX4_named 48 = .ok (.iadd, 1) := dk_96 (dk_at dksX4_named_2 0 rfl rfl)
theorem dX4_named_49 : decode cX4_named 49 = .ok (.iaload, 1) := dk_46 (dk_at dksX4_named_2 1 rfl rfl)
theorem dX4_named_50 : decode cX4_named 50 = .ok (.iload 6, 2) := dk_21 6 (dk_at dksX4_named_2 2 rfl rfl)
theorem dX4_named_52 : decode cX4_named 52 = .ok (.iload_n 3, 1) := dk_29 (dk_at dksX4_named_2 4 rfl rfl)
theorem dX4_named_53 : decode cX4_named 53 = .ok (.if_icmp .ge 18, 3) := dk_162 0 18 (dk_at dksX4_named_2 5 rfl rfl)
theorem dX4_named_56 : decode cX4_named 56 = .ok (.aload_n 0, 1) := dk_42 (dk_at dksX4_named_2 8 rfl rfl)
theorem dX4_named_57 : decode cX4_named 57 = .ok (.getfield 14, 3) := dk_180 0 14 (dk_at dksX4_named_2 9 rfl rfl)
theorem dX4_named_60 : decode cX4_named 60 = .ok (.aload_n 0, 1) := dk_42 (dk_at dksX4_named_2 12 rfl rfl)
theorem dX4_named_61 : decode cX4_named 61 = .ok (.getfield 21, 3) := dk_180 0 21 (dk_at dksX4_named_2 13 rfl rfl)
theorem dX4_named_64 : decode cX4_named 64 = .ok (.iload 6, 2) := dk_21 6 (dk_at dksX4_named_2 16 rfl rfl)
theorem dX4_named_66 : decode cX4_named 66 = .ok (.iadd, 1) := dk_96 (dk_at dksX4_named_2 18 rfl rfl)
theorem dX4_named_67 : decode cX4_named 67 = .ok (.baload, 1) := dk_51 (dk_at dksX4_named_2 19 rfl rfl)
theorem dX4_named_68 : decode cX4_named 68 = .ok (.goto 4, 3) := dk_167 0 4 (dk_at dksX4_named_2 20 rfl rfl)
theorem dX4_named_71 : decode cX4_named 71 = .ok (.iconst 0, 1) := dk_3 (dk_at dksX4_named_2 23 rfl rfl)
theorem dX4_named_72 : decode cX4_named 72 = .ok (.if_icmp .ne 7, 3) := dk_160 0 7 (dk_at dksX4_named_3 0 rfl rfl)
theorem dX4_named_75 : decode cX4_named 75 = .ok (.iconst 1, 1) := dk_4 (dk_at dksX4_named_3 3 rfl rfl)
theorem dX4_named_76 : decode cX4_named 76 = .ok (.goto 4, 3) := dk_167 0 4 (dk_at dksX4_named_3 4 rfl rfl)
theorem dX4_named_79 : decode cX4_named 79 = .ok (.iconst 0, 1) := dk_3 (dk_at dksX4_named_3 7 rfl rfl)
theorem dX4_named_80 : decode cX4_named 80 = .ok (.istore 5, 2) := dk_54 5 (dk_at dksX4_named_3 8 rfl rfl)
theorem dX4_named_82 : decode cX4_named 82 = .ok (.iinc 6 1, 3) := dk_132 6 1 (dk_at dksX4_named_3 10 rfl rfl)
theorem dX4_named_85 : decode cX4_named 85 = .ok (.goto (-65), 3) := dk_167 255 191 (dk_at dksX4_named_3 13 rfl rfl)
theorem dX4_named_88 : decode cX4_named 88 = .ok (.iload 5, 2) := dk_21 5 (dk_at dksX4_named_3 16 rfl rfl)
theorem dX4_named_90 : decode cX4_named 90 = .ok (.ifCond .eq 6, 3) := dk_153 0 6 (dk_at dksX4_named_3 18 rfl rfl)
theorem dX4_named_93 : decode cX4_named 93 = .ok (.iload 4, 2) := dk_21 4 (dk_at dksX4_named_3 21 rfl rfl)
theorem dX4_named_95 : decode cX4_named 95 = .ok (.ireturn, 1) := dk_172 (dk_at dksX4_named_3 23 rfl rfl)
theorem dX4_named_96 : decode cX4_named 96 = .ok (.iinc 4 1, 3) := dk_132 4 1 (dk_at dksX4_named_4 0 rfl rfl)
theorem dX4_named_99 : decode cX4_named 99 = .ok (.goto (-91), 3) := dk_167 255 165 (dk_at dksX4_named_4 3 rfl rfl)
theorem dX4_named_102 : decode cX4_named 102 = .ok (.iconst (-1), 1) := dk_2 (dk_at dksX4_named_4 6 rfl rfl)
theorem dX4_named_103 : decode cX4_named 103 = .ok (.ireturn, 1) := dk_172 (dk_at dksX4_named_4 7 rfl rfl)
abbrev cX4_letters : ByteArray := prog_13_method_17_code
def yX4_letters : MethodName := ⟨RX4, "letters", "(II[II)I"⟩
def dkwX4_letters_5 : List UInt8 := [42, 89, 180, 0, 21, 21, 5, 96, 181, 0, 21, 21, 5, 172]
abbrev dktX4_letters_5 : List UInt8 := dkwX4_letters_5 ++ []
def dkwX4_letters_4 : List UInt8 := [21, 7, 96, 42, 180, 0, 14, 42, 180, 0, 21, 21, 7, 96, 51, 27, 100, 79, 132, 7, 1, 167, 255, 225]
abbrev dktX4_letters_4 : List UInt8 := dkwX4_letters_4 ++ dktX4_letters_5
def dkwX4_letters_3 : List UInt8 := [21, 6, 154, 0, 9, 42, 182, 0, 42, 3, 172, 3, 54, 7, 21, 7, 21, 5, 162, 0, 30, 45, 21, 4]
abbrev dktX4_letters_3 : List UInt8 := dkwX4_letters_3 ++ dktX4_letters_4
def dkwX4_letters_2 : List UInt8 := [180, 0, 21, 21, 7, 96, 51, 27, 27, 28, 96, 4, 100, 184, 0, 65, 54, 6, 132, 7, 1, 167, 255, 218]
abbrev dktX4_letters_2 : List UInt8 := dkwX4_letters_2 ++ dktX4_letters_3
def dkwX4_letters_1 : List UInt8 := [54, 6, 3, 54, 7, 21, 6, 153, 0, 39, 21, 7, 21, 5, 162, 0, 32, 42, 180, 0, 14, 42]
abbrev dktX4_letters_1 : List UInt8 := dkwX4_letters_1 ++ dktX4_letters_2
def dkwX4_letters_0 : List UInt8 := [42, 182, 0, 45, 54, 5, 42, 182, 0, 38, 153, 0, 5, 3, 172, 21, 5, 4, 16, 6, 184, 0, 65]
abbrev dktX4_letters_0 : List UInt8 := dkwX4_letters_0 ++ dktX4_letters_1
theorem dksX4_letters_0 : cX4_letters.data.toList.drop 0 = dktX4_letters_0 := by decide +kernel
theorem dksX4_letters_1 : cX4_letters.data.toList.drop 23 = dktX4_letters_1 := dk_seg dksX4_letters_0 23 rfl rfl
theorem dksX4_letters_2 : cX4_letters.data.toList.drop 45 = dktX4_letters_2 := dk_seg dksX4_letters_1 22 rfl rfl
theorem dksX4_letters_3 : cX4_letters.data.toList.drop 69 = dktX4_letters_3 := dk_seg dksX4_letters_2 24 rfl rfl
theorem dksX4_letters_4 : cX4_letters.data.toList.drop 93 = dktX4_letters_4 := dk_seg dksX4_letters_3 24 rfl rfl
theorem dksX4_letters_5 : cX4_letters.data.toList.drop 117 = dktX4_letters_5 := dk_seg dksX4_letters_4 24 rfl rfl
theorem dX4_letters_0 : decode cX4_letters 0 = .ok (.aload_n 0, 1) := dk_42 (dk_at dksX4_letters_0 0 rfl rfl)
theorem dX4_letters_1 : decode cX4_letters 1 = .ok (.invokevirtual 45, 3) := dk_182 0 45 (dk_at dksX4_letters_0 1 rfl rfl)
theorem dX4_letters_4 : decode cX4_letters 4 = .ok (.istore 5, 2) := dk_54 5 (dk_at dksX4_letters_0 4 rfl rfl)
theorem dX4_letters_6 : decode cX4_letters 6 = .ok (.aload_n 0, 1) := dk_42 (dk_at dksX4_letters_0 6 rfl rfl)
theorem dX4_letters_7 : decode cX4_letters 7 = .ok (.invokevirtual 38, 3) := dk_182 0 38 (dk_at dksX4_letters_0 7 rfl rfl)
theorem dX4_letters_10 : decode cX4_letters 10 = .ok (.ifCond .eq 5, 3) := dk_153 0 5 (dk_at dksX4_letters_0 10 rfl rfl)
theorem dX4_letters_13 : decode cX4_letters 13 = .ok (.iconst 0, 1) := dk_3 (dk_at dksX4_letters_0 13 rfl rfl)
theorem dX4_letters_14 : decode cX4_letters 14 = .ok (.ireturn, 1) := dk_172 (dk_at dksX4_letters_0 14 rfl rfl)
theorem dX4_letters_15 : decode cX4_letters 15 = .ok (.iload 5, 2) := dk_21 5 (dk_at dksX4_letters_0 15 rfl rfl)
theorem dX4_letters_17 : decode cX4_letters 17 = .ok (.iconst 1, 1) := dk_4 (dk_at dksX4_letters_0 17 rfl rfl)
theorem dX4_letters_18 : decode cX4_letters 18 = .ok (.bipush 6, 2) := dk_16 6 (dk_at dksX4_letters_0 18 rfl rfl)
theorem dX4_letters_20 : decode cX4_letters 20 = .ok (.invokestatic 65, 3) := dk_184 0 65 (dk_at dksX4_letters_0 20 rfl rfl)
theorem dX4_letters_23 : decode cX4_letters 23 = .ok (.istore 6, 2) := dk_54 6 (dk_at dksX4_letters_1 0 rfl rfl)
theorem dX4_letters_25 : decode cX4_letters 25 = .ok (.iconst 0, 1) := dk_3 (dk_at dksX4_letters_1 2 rfl rfl)
theorem dX4_letters_26 : decode cX4_letters 26 = .ok (.istore 7, 2) := dk_54 7 (dk_at dksX4_letters_1 3 rfl rfl)
theorem dX4_letters_28 : decode cX4_letters 28 = .ok (.iload 6, 2) := dk_21 6 (dk_at dksX4_letters_1 5 rfl rfl)
theorem dX4_letters_30 : decode cX4_letters 30 = .ok (.ifCond .eq 39, 3) := dk_153 0 39 (dk_at dksX4_letters_1 7 rfl rfl)
theorem dX4_letters_33 : decode cX4_letters 33 = .ok (.iload 7, 2) := dk_21 7 (dk_at dksX4_letters_1 10 rfl rfl)
theorem dX4_letters_35 : decode cX4_letters 35 = .ok (.iload 5, 2) := dk_21 5 (dk_at dksX4_letters_1 12 rfl rfl)
theorem dX4_letters_37 : decode cX4_letters 37 = .ok (.if_icmp .ge 32, 3) := dk_162 0 32 (dk_at dksX4_letters_1 14 rfl rfl)
theorem dX4_letters_40 : decode cX4_letters 40 = .ok (.aload_n 0, 1) := dk_42 (dk_at dksX4_letters_1 17 rfl rfl)
theorem dX4_letters_41 : decode cX4_letters 41 = .ok (.getfield 14, 3) := dk_180 0 14 (dk_at dksX4_letters_1 18 rfl rfl)
theorem dX4_letters_44 : decode cX4_letters 44 = .ok (.aload_n 0, 1) := dk_42 (dk_at dksX4_letters_1 21 rfl rfl)
theorem dX4_letters_45 : decode cX4_letters 45 = .ok (.getfield 21, 3) := dk_180 0 21 (dk_at dksX4_letters_2 0 rfl rfl)
theorem dX4_letters_48 : decode cX4_letters 48 = .ok (.iload 7, 2) := dk_21 7 (dk_at dksX4_letters_2 3 rfl rfl)
theorem dX4_letters_50 : decode cX4_letters 50 = .ok (.iadd, 1) := dk_96 (dk_at dksX4_letters_2 5 rfl rfl)
theorem dX4_letters_51 : decode cX4_letters 51 = .ok (.baload, 1) := dk_51 (dk_at dksX4_letters_2 6 rfl rfl)
theorem dX4_letters_52 : decode cX4_letters 52 = .ok (.iload_n 1, 1) := dk_27 (dk_at dksX4_letters_2 7 rfl rfl)
theorem dX4_letters_53 : decode cX4_letters 53 = .ok (.iload_n 1, 1) := dk_27 (dk_at dksX4_letters_2 8 rfl rfl)
theorem dX4_letters_54 : decode cX4_letters 54 = .ok (.iload_n 2, 1) := dk_28 (dk_at dksX4_letters_2 9 rfl rfl)
theorem dX4_letters_55 : decode cX4_letters 55 = .ok (.iadd, 1) := dk_96 (dk_at dksX4_letters_2 10 rfl rfl)
theorem dX4_letters_56 : decode cX4_letters 56 = .ok (.iconst 1, 1) := dk_4 (dk_at dksX4_letters_2 11 rfl rfl)
theorem dX4_letters_57 : decode cX4_letters 57 = .ok (.isub, 1) := dk_100 (dk_at dksX4_letters_2 12 rfl rfl)
theorem dX4_letters_58 : decode cX4_letters 58 = .ok (.invokestatic 65, 3) := dk_184 0 65 (dk_at dksX4_letters_2 13 rfl rfl)
theorem dX4_letters_61 : decode cX4_letters 61 = .ok (.istore 6, 2) := dk_54 6 (dk_at dksX4_letters_2 16 rfl rfl)
theorem dX4_letters_63 : decode cX4_letters 63 = .ok (.iinc 7 1, 3) := dk_132 7 1 (dk_at dksX4_letters_2 18 rfl rfl)
theorem dX4_letters_66 : decode cX4_letters 66 = .ok (.goto (-38), 3) := dk_167 255 218 (dk_at dksX4_letters_2 21 rfl rfl)
theorem dX4_letters_69 : decode cX4_letters 69 = .ok (.iload 6, 2) := dk_21 6 (dk_at dksX4_letters_3 0 rfl rfl)
theorem dX4_letters_71 : decode cX4_letters 71 = .ok (.ifCond .ne 9, 3) := dk_154 0 9 (dk_at dksX4_letters_3 2 rfl rfl)
theorem dX4_letters_74 : decode cX4_letters 74 = .ok (.aload_n 0, 1) := dk_42 (dk_at dksX4_letters_3 5 rfl rfl)
theorem dX4_letters_75 : decode cX4_letters 75 = .ok (.invokevirtual 42, 3) := dk_182 0 42 (dk_at dksX4_letters_3 6 rfl rfl)
theorem dX4_letters_78 : decode cX4_letters 78 = .ok (.iconst 0, 1) := dk_3 (dk_at dksX4_letters_3 9 rfl rfl)
theorem dX4_letters_79 : decode cX4_letters 79 = .ok (.ireturn, 1) := dk_172 (dk_at dksX4_letters_3 10 rfl rfl)
theorem dX4_letters_80 : decode cX4_letters 80 = .ok (.iconst 0, 1) := dk_3 (dk_at dksX4_letters_3 11 rfl rfl)
theorem dX4_letters_81 : decode cX4_letters 81 = .ok (.istore 7, 2) := dk_54 7 (dk_at dksX4_letters_3 12 rfl rfl)
theorem dX4_letters_83 : decode cX4_letters 83 = .ok (.iload 7, 2) := dk_21 7 (dk_at dksX4_letters_3 14 rfl rfl)
theorem dX4_letters_85 : decode cX4_letters 85 = .ok (.iload 5, 2) := dk_21 5 (dk_at dksX4_letters_3 16 rfl rfl)
theorem dX4_letters_87 : decode cX4_letters 87 = .ok (.if_icmp .ge 30, 3) := dk_162 0 30 (dk_at dksX4_letters_3 18 rfl rfl)
theorem dX4_letters_90 : decode cX4_letters 90 = .ok (.aload_n 3, 1) := dk_45 (dk_at dksX4_letters_3 21 rfl rfl)
theorem dX4_letters_91 : decode cX4_letters 91 = .ok (.iload 4, 2) := dk_21 4 (dk_at dksX4_letters_3 22 rfl rfl)
theorem dX4_letters_93 : decode cX4_letters 93 = .ok (.iload 7, 2) := dk_21 7 (dk_at dksX4_letters_4 0 rfl rfl)
theorem dX4_letters_95 : decode cX4_letters 95 = .ok (.iadd, 1) := dk_96 (dk_at dksX4_letters_4 2 rfl rfl)
theorem dX4_letters_96 : decode cX4_letters 96 = .ok (.aload_n 0, 1) := dk_42 (dk_at dksX4_letters_4 3 rfl rfl)
theorem dX4_letters_97 : decode cX4_letters 97 = .ok (.getfield 14, 3) := dk_180 0 14 (dk_at dksX4_letters_4 4 rfl rfl)
theorem dX4_letters_100 : decode cX4_letters 100 = .ok (.aload_n 0, 1) := dk_42 (dk_at dksX4_letters_4 7 rfl rfl)
theorem dX4_letters_101 : decode cX4_letters 101 = .ok (.getfield 21, 3) := dk_180 0 21 (dk_at dksX4_letters_4 8 rfl rfl)
theorem dX4_letters_104 : decode cX4_letters 104 = .ok (.iload 7, 2) := dk_21 7 (dk_at dksX4_letters_4 11 rfl rfl)
theorem dX4_letters_106 : decode cX4_letters 106 = .ok (.iadd, 1) := dk_96 (dk_at dksX4_letters_4 13 rfl rfl)
theorem dX4_letters_107 : decode cX4_letters 107 = .ok (.baload, 1) := dk_51 (dk_at dksX4_letters_4 14 rfl rfl)
theorem dX4_letters_108 : decode cX4_letters 108 = .ok (.iload_n 1, 1) := dk_27 (dk_at dksX4_letters_4 15 rfl rfl)
theorem dX4_letters_109 : decode cX4_letters 109 = .ok (.isub, 1) := dk_100 (dk_at dksX4_letters_4 16 rfl rfl)
theorem dX4_letters_110 : decode cX4_letters 110 = .ok (.iastore, 1) := dk_79 (dk_at dksX4_letters_4 17 rfl rfl)
theorem dX4_letters_111 : decode cX4_letters 111 = .ok (.iinc 7 1, 3) := dk_132 7 1 (dk_at dksX4_letters_4 18 rfl rfl)
theorem dX4_letters_114 : decode cX4_letters 114 = .ok (.goto (-31), 3) := dk_167 255 225 (dk_at dksX4_letters_4 21 rfl rfl)
theorem dX4_letters_117 : decode cX4_letters 117 = .ok (.aload_n 0, 1) := dk_42 (dk_at dksX4_letters_5 0 rfl rfl)
theorem dX4_letters_118 : decode cX4_letters 118 = .ok (.dup, 1) := dk_89 (dk_at dksX4_letters_5 1 rfl rfl)
theorem dX4_letters_119 : decode cX4_letters 119 = .ok (.getfield 21, 3) := dk_180 0 21 (dk_at dksX4_letters_5 2 rfl rfl)
theorem dX4_letters_122 : decode cX4_letters 122 = .ok (.iload 5, 2) := dk_21 5 (dk_at dksX4_letters_5 5 rfl rfl)
theorem dX4_letters_124 : decode cX4_letters 124 = .ok (.iadd, 1) := dk_96 (dk_at dksX4_letters_5 7 rfl rfl)
theorem dX4_letters_125 : decode cX4_letters 125 = .ok (.putfield 21, 3) := dk_181 0 21 (dk_at dksX4_letters_5 8 rfl rfl)
theorem dX4_letters_128 : decode cX4_letters 128 = .ok (.iload 5, 2) := dk_21 5 (dk_at dksX4_letters_5 11 rfl rfl)
theorem dX4_letters_130 : decode cX4_letters 130 = .ok (.ireturn, 1) := dk_172 (dk_at dksX4_letters_5 13 rfl rfl)
abbrev cX4_patternLine : ByteArray := prog_13_method_25_code
def yX4_patternLine : MethodName := ⟨RX4, "patternLine", "()V"⟩
def dkwX4_patternLine_2 : List UInt8 := [17, 0, 170, 16, 6, 27, 104, 96, 182, 0, 156, 79, 42, 180, 0, 80, 8, 92, 46, 4, 96, 79, 177]
abbrev dktX4_patternLine_2 : List UInt8 := dkwX4_patternLine_2 ++ []
def dkwX4_patternLine_1 : List UInt8 := [7, 27, 96, 182, 0, 152, 42, 180, 0, 80, 17, 0, 166, 27, 96, 42, 16, 120, 6, 42, 180, 0, 80]
abbrev dktX4_patternLine_1 : List UInt8 := dkwX4_patternLine_1 ++ dktX4_patternLine_2
def dkwX4_patternLine_0 : List UInt8 := [42, 180, 0, 80, 8, 46, 60, 27, 7, 160, 0, 8, 42, 182, 0, 42, 177, 42, 18, 130, 182, 0, 145, 42]
abbrev dktX4_patternLine_0 : List UInt8 := dkwX4_patternLine_0 ++ dktX4_patternLine_1
theorem dksX4_patternLine_0 : cX4_patternLine.data.toList.drop 0 = dktX4_patternLine_0 := by decide +kernel
theorem dksX4_patternLine_1 : cX4_patternLine.data.toList.drop 24 = dktX4_patternLine_1 := dk_seg dksX4_patternLine_0 24 rfl rfl
theorem dksX4_patternLine_2 : cX4_patternLine.data.toList.drop 47 = dktX4_patternLine_2 := dk_seg dksX4_patternLine_1 23 rfl rfl
theorem dX4_patternLine_0 : decode cX4_patternLine 0 = .ok (.aload_n 0, 1) := dk_42 (dk_at dksX4_patternLine_0 0 rfl rfl)
theorem dX4_patternLine_1 : decode cX4_patternLine 1 = .ok (.getfield 80, 3) := dk_180 0 80 (dk_at dksX4_patternLine_0 1 rfl rfl)
theorem dX4_patternLine_4 : decode cX4_patternLine 4 = .ok (.iconst 5, 1) := dk_8 (dk_at dksX4_patternLine_0 4 rfl rfl)
theorem dX4_patternLine_5 : decode cX4_patternLine 5 = .ok (.iaload, 1) := dk_46 (dk_at dksX4_patternLine_0 5 rfl rfl)
theorem dX4_patternLine_6 : decode cX4_patternLine 6 = .ok (.istore_n 1, 1) := dk_60 (dk_at dksX4_patternLine_0 6 rfl rfl)
theorem dX4_patternLine_7 : decode cX4_patternLine 7 = .ok (.iload_n 1, 1) := dk_27 (dk_at dksX4_patternLine_0 7 rfl rfl)
theorem dX4_patternLine_8 : decode cX4_patternLine 8 = .ok (.iconst 4, 1) := dk_7 (dk_at dksX4_patternLine_0 8 rfl rfl)
theorem dX4_patternLine_9 : decode cX4_patternLine 9 = .ok (.if_icmp .ne 8, 3) := dk_160 0 8 (dk_at dksX4_patternLine_0 9 rfl rfl)
theorem dX4_patternLine_12 : decode cX4_patternLine 12 = .ok (.aload_n 0, 1) := dk_42 (dk_at dksX4_patternLine_0 12 rfl rfl)
theorem dX4_patternLine_13 : decode cX4_patternLine 13 = .ok (.invokevirtual 42, 3) := dk_182 0 42 (dk_at dksX4_patternLine_0 13 rfl rfl)
theorem dX4_patternLine_16 : decode cX4_patternLine 16 = .ok (.return_, 1) := dk_177 (dk_at dksX4_patternLine_0 16 rfl rfl)
theorem dX4_patternLine_17 : decode cX4_patternLine 17 = .ok (.aload_n 0, 1) := dk_42 (dk_at dksX4_patternLine_0 17 rfl rfl)
theorem dX4_patternLine_18 : decode cX4_patternLine 18 = .ok (.ldc 130, 2) := dk_18 130 (dk_at dksX4_patternLine_0 18 rfl rfl)
theorem dX4_patternLine_20 : decode cX4_patternLine 20 = .ok (.invokevirtual 145, 3) := dk_182 0 145 (dk_at dksX4_patternLine_0 20 rfl rfl)
theorem dX4_patternLine_23 : decode cX4_patternLine 23 = .ok (.aload_n 0, 1) := dk_42 (dk_at dksX4_patternLine_0 23 rfl rfl)
theorem dX4_patternLine_24 : decode cX4_patternLine 24 = .ok (.iconst 4, 1) := dk_7 (dk_at dksX4_patternLine_1 0 rfl rfl)
theorem dX4_patternLine_25 : decode cX4_patternLine 25 = .ok (.iload_n 1, 1) := dk_27 (dk_at dksX4_patternLine_1 1 rfl rfl)
theorem dX4_patternLine_26 : decode cX4_patternLine 26 = .ok (.iadd, 1) := dk_96 (dk_at dksX4_patternLine_1 2 rfl rfl)
theorem dX4_patternLine_27 : decode cX4_patternLine 27 = .ok (.invokevirtual 152, 3) := dk_182 0 152 (dk_at dksX4_patternLine_1 3 rfl rfl)
theorem dX4_patternLine_30 : decode cX4_patternLine 30 = .ok (.aload_n 0, 1) := dk_42 (dk_at dksX4_patternLine_1 6 rfl rfl)
theorem dX4_patternLine_31 : decode cX4_patternLine 31 = .ok (.getfield 80, 3) := dk_180 0 80 (dk_at dksX4_patternLine_1 7 rfl rfl)
theorem dX4_patternLine_34 : decode cX4_patternLine 34 = .ok (.sipush 166, 3) := dk_17 0 166 (dk_at dksX4_patternLine_1 10 rfl rfl)
theorem dX4_patternLine_37 : decode cX4_patternLine 37 = .ok (.iload_n 1, 1) := dk_27 (dk_at dksX4_patternLine_1 13 rfl rfl)
theorem dX4_patternLine_38 : decode cX4_patternLine 38 = .ok (.iadd, 1) := dk_96 (dk_at dksX4_patternLine_1 14 rfl rfl)
theorem dX4_patternLine_39 : decode cX4_patternLine 39 = .ok (.aload_n 0, 1) := dk_42 (dk_at dksX4_patternLine_1 15 rfl rfl)
theorem dX4_patternLine_40 : decode cX4_patternLine 40 = .ok (.bipush 120, 2) := dk_16 120 (dk_at dksX4_patternLine_1 16 rfl rfl)
theorem dX4_patternLine_42 : decode cX4_patternLine 42 = .ok (.iconst 3, 1) := dk_6 (dk_at dksX4_patternLine_1 18 rfl rfl)
theorem dX4_patternLine_43 : decode cX4_patternLine 43 = .ok (.aload_n 0, 1) := dk_42 (dk_at dksX4_patternLine_1 19 rfl rfl)
theorem dX4_patternLine_44 : decode cX4_patternLine 44 = .ok (.getfield 80, 3) := dk_180 0 80 (dk_at dksX4_patternLine_1 20 rfl rfl)
theorem dX4_patternLine_47 : decode cX4_patternLine 47 = .ok (.sipush 170, 3) := dk_17 0 170 (dk_at dksX4_patternLine_2 0 rfl rfl)
theorem dX4_patternLine_50 : decode cX4_patternLine 50 = .ok (.bipush 6, 2) := dk_16 6 (dk_at dksX4_patternLine_2 3 rfl rfl)
theorem dX4_patternLine_52 : decode cX4_patternLine 52 = .ok (.iload_n 1, 1) := dk_27 (dk_at dksX4_patternLine_2 5 rfl rfl)
theorem dX4_patternLine_53 : decode cX4_patternLine 53 = .ok (.imul, 1) := dk_104 (dk_at dksX4_patternLine_2 6 rfl rfl)
theorem dX4_patternLine_54 : decode cX4_patternLine 54 = .ok (.iadd, 1) := dk_96 (dk_at dksX4_patternLine_2 7 rfl rfl)
theorem dX4_patternLine_55 : decode cX4_patternLine 55 = .ok (.invokevirtual 156, 3) := dk_182 0 156 (dk_at dksX4_patternLine_2 8 rfl rfl)
theorem dX4_patternLine_58 : decode cX4_patternLine 58 = .ok (.iastore, 1) := dk_79 (dk_at dksX4_patternLine_2 11 rfl rfl)
theorem dX4_patternLine_59 : decode cX4_patternLine 59 = .ok (.aload_n 0, 1) := dk_42 (dk_at dksX4_patternLine_2 12 rfl rfl)
theorem dX4_patternLine_60 : decode cX4_patternLine 60 = .ok (.getfield 80, 3) := dk_180 0 80 (dk_at dksX4_patternLine_2 13 rfl rfl)
theorem dX4_patternLine_63 : decode cX4_patternLine 63 = .ok (.iconst 5, 1) := dk_8 (dk_at dksX4_patternLine_2 16 rfl rfl)
theorem dX4_patternLine_64 : decode cX4_patternLine 64 = .ok (.dup2, 1) := dk_92 (dk_at dksX4_patternLine_2 17 rfl rfl)
theorem dX4_patternLine_65 : decode cX4_patternLine 65 = .ok (.iaload, 1) := dk_46 (dk_at dksX4_patternLine_2 18 rfl rfl)
theorem dX4_patternLine_66 : decode cX4_patternLine 66 = .ok (.iconst 1, 1) := dk_4 (dk_at dksX4_patternLine_2 19 rfl rfl)
theorem dX4_patternLine_67 : decode cX4_patternLine 67 = .ok (.iadd, 1) := dk_96 (dk_at dksX4_patternLine_2 20 rfl rfl)
theorem dX4_patternLine_68 : decode cX4_patternLine 68 = .ok (.iastore, 1) := dk_79 (dk_at dksX4_patternLine_2 21 rfl rfl)
theorem dX4_patternLine_69 : decode cX4_patternLine 69 = .ok (.return_, 1) := dk_177 (dk_at dksX4_patternLine_2 22 rfl rfl)
abbrev cX4_avoidLine : ByteArray := prog_13_method_26_code
def yX4_avoidLine : MethodName := ⟨RX4, "avoidLine", "()V"⟩
def dkwX4_avoidLine_3 : List UInt8 := [42, 182, 0, 45, 96, 181, 0, 21, 42, 180, 0, 80, 17, 0, 194, 27, 96, 4, 79, 177]
abbrev dktX4_avoidLine_3 : List UInt8 := dkwX4_avoidLine_3 ++ []
def dkwX4_avoidLine_2 : List UInt8 := [42, 180, 0, 80, 17, 0, 194, 27, 96, 46, 4, 160, 0, 8, 42, 182, 0, 42, 177, 42, 89, 180, 0, 21]
abbrev dktX4_avoidLine_2 : List UInt8 := dkwX4_avoidLine_2 ++ dktX4_avoidLine_3
def dkwX4_avoidLine_1 : List UInt8 := [153, 0, 17, 42, 7, 42, 180, 0, 80, 8, 46, 182, 0, 137, 167, 0, 4, 2, 60, 27, 2, 159, 0, 17]
abbrev dktX4_avoidLine_1 : List UInt8 := dkwX4_avoidLine_1 ++ dktX4_avoidLine_2
def dkwX4_avoidLine_0 : List UInt8 := [42, 18, 132, 182, 0, 145, 42, 182, 0, 34, 42, 182, 0, 38, 153, 0, 4, 177, 42, 182, 0, 134]
abbrev dktX4_avoidLine_0 : List UInt8 := dkwX4_avoidLine_0 ++ dktX4_avoidLine_1
theorem dksX4_avoidLine_0 : cX4_avoidLine.data.toList.drop 0 = dktX4_avoidLine_0 := by decide +kernel
theorem dksX4_avoidLine_1 : cX4_avoidLine.data.toList.drop 22 = dktX4_avoidLine_1 := dk_seg dksX4_avoidLine_0 22 rfl rfl
theorem dksX4_avoidLine_2 : cX4_avoidLine.data.toList.drop 46 = dktX4_avoidLine_2 := dk_seg dksX4_avoidLine_1 24 rfl rfl
theorem dksX4_avoidLine_3 : cX4_avoidLine.data.toList.drop 70 = dktX4_avoidLine_3 := dk_seg dksX4_avoidLine_2 24 rfl rfl
theorem dX4_avoidLine_0 : decode cX4_avoidLine 0 = .ok (.aload_n 0, 1) := dk_42 (dk_at dksX4_avoidLine_0 0 rfl rfl)
theorem dX4_avoidLine_1 : decode cX4_avoidLine 1 = .ok (.ldc 132, 2) := dk_18 132 (dk_at dksX4_avoidLine_0 1 rfl rfl)
theorem dX4_avoidLine_3 : decode cX4_avoidLine 3 = .ok (.invokevirtual 145, 3) := dk_182 0 145 (dk_at dksX4_avoidLine_0 3 rfl rfl)
theorem dX4_avoidLine_6 : decode cX4_avoidLine 6 = .ok (.aload_n 0, 1) := dk_42 (dk_at dksX4_avoidLine_0 6 rfl rfl)
theorem dX4_avoidLine_7 : decode cX4_avoidLine 7 = .ok (.invokevirtual 34, 3) := dk_182 0 34 (dk_at dksX4_avoidLine_0 7 rfl rfl)
theorem dX4_avoidLine_10 : decode cX4_avoidLine 10 = .ok (.aload_n 0, 1) := dk_42 (dk_at dksX4_avoidLine_0 10 rfl rfl)
theorem dX4_avoidLine_11 : decode cX4_avoidLine 11 = .ok (.invokevirtual 38, 3) := dk_182 0 38 (dk_at dksX4_avoidLine_0 11 rfl rfl)
theorem dX4_avoidLine_14 : decode cX4_avoidLine 14 = .ok (.ifCond .eq 4, 3) := dk_153 0 4 (dk_at dksX4_avoidLine_0 14 rfl rfl)
theorem dX4_avoidLine_17 : decode cX4_avoidLine 17 = .ok (.return_, 1) := dk_177 (dk_at dksX4_avoidLine_0 17 rfl rfl)
theorem dX4_avoidLine_18 : decode cX4_avoidLine 18 = .ok (.aload_n 0, 1) := dk_42 (dk_at dksX4_avoidLine_0 18 rfl rfl)
theorem dX4_avoidLine_19 : decode cX4_avoidLine 19 = .ok (.invokevirtual 134, 3) := dk_182 0 134 (dk_at dksX4_avoidLine_0 19 rfl rfl)
theorem dX4_avoidLine_22 : decode cX4_avoidLine 22 = .ok (.ifCond .eq 17, 3) := dk_153 0 17 (dk_at dksX4_avoidLine_1 0 rfl rfl)
theorem dX4_avoidLine_25 : decode cX4_avoidLine 25 = .ok (.aload_n 0, 1) := dk_42 (dk_at dksX4_avoidLine_1 3 rfl rfl)
theorem dX4_avoidLine_26 : decode cX4_avoidLine 26 = .ok (.iconst 4, 1) := dk_7 (dk_at dksX4_avoidLine_1 4 rfl rfl)
theorem dX4_avoidLine_27 : decode cX4_avoidLine 27 = .ok (.aload_n 0, 1) := dk_42 (dk_at dksX4_avoidLine_1 5 rfl rfl)
theorem dX4_avoidLine_28 : decode cX4_avoidLine 28 = .ok (.getfield 80, 3) := dk_180 0 80 (dk_at dksX4_avoidLine_1 6 rfl rfl)
theorem dX4_avoidLine_31 : decode cX4_avoidLine 31 = .ok (.iconst 5, 1) := dk_8 (dk_at dksX4_avoidLine_1 9 rfl rfl)
theorem dX4_avoidLine_32 : decode cX4_avoidLine 32 = .ok (.iaload, 1) := dk_46 (dk_at dksX4_avoidLine_1 10 rfl rfl)
theorem dX4_avoidLine_33 : decode cX4_avoidLine 33 = .ok (.invokevirtual 137, 3) := dk_182 0 137 (dk_at dksX4_avoidLine_1 11 rfl rfl)
theorem dX4_avoidLine_36 : decode cX4_avoidLine 36 = .ok (.goto 4, 3) := dk_167 0 4 (dk_at dksX4_avoidLine_1 14 rfl rfl)
theorem dX4_avoidLine_39 : decode cX4_avoidLine 39 = .ok (.iconst (-1), 1) := dk_2 (dk_at dksX4_avoidLine_1 17 rfl rfl)
theorem dX4_avoidLine_40 : decode cX4_avoidLine 40 = .ok (.istore_n 1, 1) := dk_60 (dk_at dksX4_avoidLine_1 18 rfl rfl)
theorem dX4_avoidLine_41 : decode cX4_avoidLine 41 = .ok (.iload_n 1, 1) := dk_27 (dk_at dksX4_avoidLine_1 19 rfl rfl)
theorem dX4_avoidLine_42 : decode cX4_avoidLine 42 = .ok (.iconst (-1), 1) := dk_2 (dk_at dksX4_avoidLine_1 20 rfl rfl)
theorem dX4_avoidLine_43 : decode cX4_avoidLine 43 = .ok (.if_icmp .eq 17, 3) := dk_159 0 17 (dk_at dksX4_avoidLine_1 21 rfl rfl)
theorem dX4_avoidLine_46 : decode cX4_avoidLine 46 = .ok (.aload_n 0, 1) := dk_42 (dk_at dksX4_avoidLine_2 0 rfl rfl)
theorem dX4_avoidLine_47 : decode cX4_avoidLine 47 = .ok (.getfield 80, 3) := dk_180 0 80 (dk_at dksX4_avoidLine_2 1 rfl rfl)
theorem dX4_avoidLine_50 : decode cX4_avoidLine 50 = .ok (.sipush 194, 3) := dk_17 0 194 (dk_at dksX4_avoidLine_2 4 rfl rfl)
theorem dX4_avoidLine_53 : decode cX4_avoidLine 53 = .ok (.iload_n 1, 1) := dk_27 (dk_at dksX4_avoidLine_2 7 rfl rfl)
theorem dX4_avoidLine_54 : decode cX4_avoidLine 54 = .ok (.iadd, 1) := dk_96 (dk_at dksX4_avoidLine_2 8 rfl rfl)
theorem dX4_avoidLine_55 : decode cX4_avoidLine 55 = .ok (.iaload, 1) := dk_46 (dk_at dksX4_avoidLine_2 9 rfl rfl)
theorem dX4_avoidLine_56 : decode cX4_avoidLine 56 = .ok (.iconst 1, 1) := dk_4 (dk_at dksX4_avoidLine_2 10 rfl rfl)
theorem dX4_avoidLine_57 : decode cX4_avoidLine 57 = .ok (.if_icmp .ne 8, 3) := dk_160 0 8 (dk_at dksX4_avoidLine_2 11 rfl rfl)
theorem dX4_avoidLine_60 : decode cX4_avoidLine 60 = .ok (.aload_n 0, 1) := dk_42 (dk_at dksX4_avoidLine_2 14 rfl rfl)
theorem dX4_avoidLine_61 : decode cX4_avoidLine 61 = .ok (.invokevirtual 42, 3) := dk_182 0 42 (dk_at dksX4_avoidLine_2 15 rfl rfl)
theorem dX4_avoidLine_64 : decode cX4_avoidLine 64 = .ok (.return_, 1) := dk_177 (dk_at dksX4_avoidLine_2 18 rfl rfl)
theorem dX4_avoidLine_65 : decode cX4_avoidLine 65 = .ok (.aload_n 0, 1) := dk_42 (dk_at dksX4_avoidLine_2 19 rfl rfl)
theorem dX4_avoidLine_66 : decode cX4_avoidLine 66 = .ok (.dup, 1) := dk_89 (dk_at dksX4_avoidLine_2 20 rfl rfl)
theorem dX4_avoidLine_67 : decode cX4_avoidLine 67 = .ok (.getfield 21, 3) := dk_180 0 21 (dk_at dksX4_avoidLine_2 21 rfl rfl)
theorem dX4_avoidLine_70 : decode cX4_avoidLine 70 = .ok (.aload_n 0, 1) := dk_42 (dk_at dksX4_avoidLine_3 0 rfl rfl)
theorem dX4_avoidLine_71 : decode cX4_avoidLine 71 = .ok (.invokevirtual 45, 3) := dk_182 0 45 (dk_at dksX4_avoidLine_3 1 rfl rfl)
theorem dX4_avoidLine_74 : decode cX4_avoidLine 74 = .ok (.iadd, 1) := dk_96 (dk_at dksX4_avoidLine_3 4 rfl rfl)
theorem dX4_avoidLine_75 : decode cX4_avoidLine 75 = .ok (.putfield 21, 3) := dk_181 0 21 (dk_at dksX4_avoidLine_3 5 rfl rfl)
theorem dX4_avoidLine_78 : decode cX4_avoidLine 78 = .ok (.aload_n 0, 1) := dk_42 (dk_at dksX4_avoidLine_3 8 rfl rfl)
theorem dX4_avoidLine_79 : decode cX4_avoidLine 79 = .ok (.getfield 80, 3) := dk_180 0 80 (dk_at dksX4_avoidLine_3 9 rfl rfl)
theorem dX4_avoidLine_82 : decode cX4_avoidLine 82 = .ok (.sipush 194, 3) := dk_17 0 194 (dk_at dksX4_avoidLine_3 12 rfl rfl)
theorem dX4_avoidLine_85 : decode cX4_avoidLine 85 = .ok (.iload_n 1, 1) := dk_27 (dk_at dksX4_avoidLine_3 15 rfl rfl)
theorem dX4_avoidLine_86 : decode cX4_avoidLine 86 = .ok (.iadd, 1) := dk_96 (dk_at dksX4_avoidLine_3 16 rfl rfl)
theorem dX4_avoidLine_87 : decode cX4_avoidLine 87 = .ok (.iconst 1, 1) := dk_4 (dk_at dksX4_avoidLine_3 17 rfl rfl)
theorem dX4_avoidLine_88 : decode cX4_avoidLine 88 = .ok (.iastore, 1) := dk_79 (dk_at dksX4_avoidLine_3 18 rfl rfl)
theorem dX4_avoidLine_89 : decode cX4_avoidLine 89 = .ok (.return_, 1) := dk_177 (dk_at dksX4_avoidLine_3 19 rfl rfl)
abbrev cX4_asksSign : ByteArray := prog_13_method_11_code
def yX4_asksSign : MethodName := ⟨RX4, "asksSign", "(I)V"⟩
def dkwX4_asksSign_1 : List UInt8 := [180, 0, 21, 4, 96, 181, 0, 21, 167, 0, 7, 42, 182, 0, 42, 177]
abbrev dktX4_asksSign_1 : List UInt8 := dkwX4_asksSign_1 ++ []
def dkwX4_asksSign_0 : List UInt8 := [42, 182, 0, 34, 42, 182, 0, 38, 153, 0, 4, 177, 42, 27, 27, 182, 0, 27, 153, 0, 16, 42, 89]
abbrev dktX4_asksSign_0 : List UInt8 := dkwX4_asksSign_0 ++ dktX4_asksSign_1
theorem dksX4_asksSign_0 : cX4_asksSign.data.toList.drop 0 = dktX4_asksSign_0 := by decide +kernel
theorem dksX4_asksSign_1 : cX4_asksSign.data.toList.drop 23 = dktX4_asksSign_1 := dk_seg dksX4_asksSign_0 23 rfl rfl
theorem dX4_asksSign_0 : decode cX4_asksSign 0 = .ok (.aload_n 0, 1) := dk_42 (dk_at dksX4_asksSign_0 0 rfl rfl)
theorem dX4_asksSign_1 : decode cX4_asksSign 1 = .ok (.invokevirtual 34, 3) := dk_182 0 34 (dk_at dksX4_asksSign_0 1 rfl rfl)
theorem dX4_asksSign_4 : decode cX4_asksSign 4 = .ok (.aload_n 0, 1) := dk_42 (dk_at dksX4_asksSign_0 4 rfl rfl)
theorem dX4_asksSign_5 : decode cX4_asksSign 5 = .ok (.invokevirtual 38, 3) := dk_182 0 38 (dk_at dksX4_asksSign_0 5 rfl rfl)
theorem dX4_asksSign_8 : decode cX4_asksSign 8 = .ok (.ifCond .eq 4, 3) := dk_153 0 4 (dk_at dksX4_asksSign_0 8 rfl rfl)
theorem dX4_asksSign_11 : decode cX4_asksSign 11 = .ok (.return_, 1) := dk_177 (dk_at dksX4_asksSign_0 11 rfl rfl)
theorem dX4_asksSign_12 : decode cX4_asksSign 12 = .ok (.aload_n 0, 1) := dk_42 (dk_at dksX4_asksSign_0 12 rfl rfl)
theorem dX4_asksSign_13 : decode cX4_asksSign 13 = .ok (.iload_n 1, 1) := dk_27 (dk_at dksX4_asksSign_0 13 rfl rfl)
theorem dX4_asksSign_14 : decode cX4_asksSign 14 = .ok (.iload_n 1, 1) := dk_27 (dk_at dksX4_asksSign_0 14 rfl rfl)
theorem dX4_asksSign_15 : decode cX4_asksSign 15 = .ok (.invokevirtual 27, 3) := dk_182 0 27 (dk_at dksX4_asksSign_0 15 rfl rfl)
theorem dX4_asksSign_18 : decode cX4_asksSign 18 = .ok (.ifCond .eq 16, 3) := dk_153 0 16 (dk_at dksX4_asksSign_0 18 rfl rfl)
theorem dX4_asksSign_21 : decode cX4_asksSign 21 = .ok (.aload_n 0, 1) := dk_42 (dk_at dksX4_asksSign_0 21 rfl rfl)
theorem dX4_asksSign_22 : decode cX4_asksSign 22 = .ok (.dup, 1) := dk_89 (dk_at dksX4_asksSign_0 22 rfl rfl)
theorem dX4_asksSign_23 : decode cX4_asksSign 23 = .ok (.getfield 21, 3) := dk_180 0 21 (dk_at dksX4_asksSign_1 0 rfl rfl)
theorem dX4_asksSign_26 : decode cX4_asksSign 26 = .ok (.iconst 1, 1) := dk_4 (dk_at dksX4_asksSign_1 3 rfl rfl)
theorem dX4_asksSign_27 : decode cX4_asksSign 27 = .ok (.iadd, 1) := dk_96 (dk_at dksX4_asksSign_1 4 rfl rfl)
theorem dX4_asksSign_28 : decode cX4_asksSign 28 = .ok (.putfield 21, 3) := dk_181 0 21 (dk_at dksX4_asksSign_1 5 rfl rfl)
theorem dX4_asksSign_31 : decode cX4_asksSign 31 = .ok (.goto 7, 3) := dk_167 0 7 (dk_at dksX4_asksSign_1 8 rfl rfl)
theorem dX4_asksSign_34 : decode cX4_asksSign 34 = .ok (.aload_n 0, 1) := dk_42 (dk_at dksX4_asksSign_1 11 rfl rfl)
theorem dX4_asksSign_35 : decode cX4_asksSign 35 = .ok (.invokevirtual 42, 3) := dk_182 0 42 (dk_at dksX4_asksSign_1 12 rfl rfl)
theorem dX4_asksSign_38 : decode cX4_asksSign 38 = .ok (.return_, 1) := dk_177 (dk_at dksX4_asksSign_1 15 rfl rfl)
abbrev cX4_throwsIf : ByteArray := prog_13_method_2_code
def yX4_throwsIf : MethodName := ⟨RX4, "throwsIf", "(ZI)Z"⟩
def dkwX4_throwsIf_0 : List UInt8 := [27, 153, 0, 8, 42, 28, 181, 0, 3, 27, 172]
abbrev dktX4_throwsIf_0 : List UInt8 := dkwX4_throwsIf_0 ++ []
theorem dksX4_throwsIf_0 : cX4_throwsIf.data.toList.drop 0 = dktX4_throwsIf_0 := by decide +kernel
theorem dX4_throwsIf_0 : decode cX4_throwsIf 0 = .ok (.iload_n 1, 1) := dk_27 (dk_at dksX4_throwsIf_0 0 rfl rfl)
theorem dX4_throwsIf_1 : decode cX4_throwsIf 1 = .ok (.ifCond .eq 8, 3) := dk_153 0 8 (dk_at dksX4_throwsIf_0 1 rfl rfl)
theorem dX4_throwsIf_4 : decode cX4_throwsIf 4 = .ok (.aload_n 0, 1) := dk_42 (dk_at dksX4_throwsIf_0 4 rfl rfl)
theorem dX4_throwsIf_5 : decode cX4_throwsIf 5 = .ok (.iload_n 2, 1) := dk_28 (dk_at dksX4_throwsIf_0 5 rfl rfl)
theorem dX4_throwsIf_6 : decode cX4_throwsIf 6 = .ok (.putfield 3, 3) := dk_181 0 3 (dk_at dksX4_throwsIf_0 6 rfl rfl)
theorem dX4_throwsIf_9 : decode cX4_throwsIf 9 = .ok (.iload_n 1, 1) := dk_27 (dk_at dksX4_throwsIf_0 9 rfl rfl)
theorem dX4_throwsIf_10 : decode cX4_throwsIf 10 = .ok (.ireturn, 1) := dk_172 (dk_at dksX4_throwsIf_0 10 rfl rfl)
abbrev cX4_undo : ByteArray := prog_13_method_31_code
def yX4_undo : MethodName := ⟨RX4, "undo", "()I"⟩
def dkwX4_undo_3 : List UInt8 := [132, 2, 1, 167, 255, 229, 42, 180, 0, 187, 172]
abbrev dktX4_undo_3 : List UInt8 := dkwX4_undo_3 ++ []
def dkwX4_undo_2 : List UInt8 := [180, 0, 184, 162, 0, 25, 42, 180, 0, 83, 28, 42, 180, 0, 89, 27, 4, 96, 28, 96, 46, 79]
abbrev dktX4_undo_2 : List UInt8 := dkwX4_undo_2 ++ dktX4_undo_3
def dkwX4_undo_1 : List UInt8 := [16, 65, 42, 180, 0, 187, 104, 60, 42, 42, 180, 0, 89, 27, 46, 181, 0, 184, 3, 61, 28, 42]
abbrev dktX4_undo_1 : List UInt8 := dkwX4_undo_1 ++ dktX4_undo_2
def dkwX4_undo_0 : List UInt8 := [42, 3, 181, 0, 3, 42, 180, 0, 187, 154, 0, 5, 2, 172, 42, 89, 180, 0, 187, 4, 100, 181, 0, 187]
abbrev dktX4_undo_0 : List UInt8 := dkwX4_undo_0 ++ dktX4_undo_1
theorem dksX4_undo_0 : cX4_undo.data.toList.drop 0 = dktX4_undo_0 := by decide +kernel
theorem dksX4_undo_1 : cX4_undo.data.toList.drop 24 = dktX4_undo_1 := dk_seg dksX4_undo_0 24 rfl rfl
theorem dksX4_undo_2 : cX4_undo.data.toList.drop 46 = dktX4_undo_2 := dk_seg dksX4_undo_1 22 rfl rfl
theorem dksX4_undo_3 : cX4_undo.data.toList.drop 68 = dktX4_undo_3 := dk_seg dksX4_undo_2 22 rfl rfl
theorem dX4_undo_0 : decode cX4_undo 0 = .ok (.aload_n 0, 1) := dk_42 (dk_at dksX4_undo_0 0 rfl rfl)
theorem dX4_undo_1 : decode cX4_undo 1 = .ok (.iconst 0, 1) := dk_3 (dk_at dksX4_undo_0 1 rfl rfl)
theorem dX4_undo_2 : decode cX4_undo 2 = .ok (.putfield 3, 3) := dk_181 0 3 (dk_at dksX4_undo_0 2 rfl rfl)
theorem dX4_undo_5 : decode cX4_undo 5 = .ok (.aload_n 0, 1) := dk_42 (dk_at dksX4_undo_0 5 rfl rfl)
theorem dX4_undo_6 : decode cX4_undo 6 = .ok (.getfield 187, 3) := dk_180 0 187 (dk_at dksX4_undo_0 6 rfl rfl)
theorem dX4_undo_9 : decode cX4_undo 9 = .ok (.ifCond .ne 5, 3) := dk_154 0 5 (dk_at dksX4_undo_0 9 rfl rfl)
theorem dX4_undo_12 : decode cX4_undo 12 = .ok (.iconst (-1), 1) := dk_2 (dk_at dksX4_undo_0 12 rfl rfl)
theorem dX4_undo_13 : decode cX4_undo 13 = .ok (.ireturn, 1) := dk_172 (dk_at dksX4_undo_0 13 rfl rfl)
theorem dX4_undo_14 : decode cX4_undo 14 = .ok (.aload_n 0, 1) := dk_42 (dk_at dksX4_undo_0 14 rfl rfl)
theorem dX4_undo_15 : decode cX4_undo 15 = .ok (.dup, 1) := dk_89 (dk_at dksX4_undo_0 15 rfl rfl)
theorem dX4_undo_16 : decode cX4_undo 16 = .ok (.getfield 187, 3) := dk_180 0 187 (dk_at dksX4_undo_0 16 rfl rfl)
theorem dX4_undo_19 : decode cX4_undo 19 = .ok (.iconst 1, 1) := dk_4 (dk_at dksX4_undo_0 19 rfl rfl)
theorem dX4_undo_20 : decode cX4_undo 20 = .ok (.isub, 1) := dk_100 (dk_at dksX4_undo_0 20 rfl rfl)
theorem dX4_undo_21 : decode cX4_undo 21 = .ok (.putfield 187, 3) := dk_181 0 187 (dk_at dksX4_undo_0 21 rfl rfl)
theorem dX4_undo_24 : decode cX4_undo 24 = .ok (.bipush 65, 2) := dk_16 65 (dk_at dksX4_undo_1 0 rfl rfl)
theorem dX4_undo_26 : decode cX4_undo 26 = .ok (.aload_n 0, 1) := dk_42 (dk_at dksX4_undo_1 2 rfl rfl)
theorem dX4_undo_27 : decode cX4_undo 27 = .ok (.getfield 187, 3) := dk_180 0 187 (dk_at dksX4_undo_1 3 rfl rfl)
theorem dX4_undo_30 : decode cX4_undo 30 = .ok (.imul, 1) := dk_104 (dk_at dksX4_undo_1 6 rfl rfl)
theorem dX4_undo_31 : decode cX4_undo 31 = .ok (.istore_n 1, 1) := dk_60 (dk_at dksX4_undo_1 7 rfl rfl)
theorem dX4_undo_32 : decode cX4_undo 32 = .ok (.aload_n 0, 1) := dk_42 (dk_at dksX4_undo_1 8 rfl rfl)
theorem dX4_undo_33 : decode cX4_undo 33 = .ok (.aload_n 0, 1) := dk_42 (dk_at dksX4_undo_1 9 rfl rfl)
theorem dX4_undo_34 : decode cX4_undo 34 = .ok (.getfield 89, 3) := dk_180 0 89 (dk_at dksX4_undo_1 10 rfl rfl)
theorem dX4_undo_37 : decode cX4_undo 37 = .ok (.iload_n 1, 1) := dk_27 (dk_at dksX4_undo_1 13 rfl rfl)
theorem dX4_undo_38 : decode cX4_undo 38 = .ok (.iaload, 1) := dk_46 (dk_at dksX4_undo_1 14 rfl rfl)
theorem dX4_undo_39 : decode cX4_undo 39 = .ok (.putfield 184, 3) := dk_181 0 184 (dk_at dksX4_undo_1 15 rfl rfl)
theorem dX4_undo_42 : decode cX4_undo 42 = .ok (.iconst 0, 1) := dk_3 (dk_at dksX4_undo_1 18 rfl rfl)
theorem dX4_undo_43 : decode cX4_undo 43 = .ok (.istore_n 2, 1) := dk_61 (dk_at dksX4_undo_1 19 rfl rfl)
theorem dX4_undo_44 : decode cX4_undo 44 = .ok (.iload_n 2, 1) := dk_28 (dk_at dksX4_undo_1 20 rfl rfl)
theorem dX4_undo_45 : decode cX4_undo 45 = .ok (.aload_n 0, 1) := dk_42 (dk_at dksX4_undo_1 21 rfl rfl)
theorem dX4_undo_46 : decode cX4_undo 46 = .ok (.getfield 184, 3) := dk_180 0 184 (dk_at dksX4_undo_2 0 rfl rfl)
theorem dX4_undo_49 : decode cX4_undo 49 = .ok (.if_icmp .ge 25, 3) := dk_162 0 25 (dk_at dksX4_undo_2 3 rfl rfl)
theorem dX4_undo_52 : decode cX4_undo 52 = .ok (.aload_n 0, 1) := dk_42 (dk_at dksX4_undo_2 6 rfl rfl)
theorem dX4_undo_53 : decode cX4_undo 53 = .ok (.getfield 83, 3) := dk_180 0 83 (dk_at dksX4_undo_2 7 rfl rfl)
theorem dX4_undo_56 : decode cX4_undo 56 = .ok (.iload_n 2, 1) := dk_28 (dk_at dksX4_undo_2 10 rfl rfl)
theorem dX4_undo_57 : decode cX4_undo 57 = .ok (.aload_n 0, 1) := dk_42 (dk_at dksX4_undo_2 11 rfl rfl)
theorem dX4_undo_58 : decode cX4_undo 58 = .ok (.getfield 89, 3) := dk_180 0 89 (dk_at dksX4_undo_2 12 rfl rfl)
theorem dX4_undo_61 : decode cX4_undo 61 = .ok (.iload_n 1, 1) := dk_27 (dk_at dksX4_undo_2 15 rfl rfl)
theorem dX4_undo_62 : decode cX4_undo 62 = .ok (.iconst 1, 1) := dk_4 (dk_at dksX4_undo_2 16 rfl rfl)
theorem dX4_undo_63 : decode cX4_undo 63 = .ok (.iadd, 1) := dk_96 (dk_at dksX4_undo_2 17 rfl rfl)
theorem dX4_undo_64 : decode cX4_undo 64 = .ok (.iload_n 2, 1) := dk_28 (dk_at dksX4_undo_2 18 rfl rfl)
theorem dX4_undo_65 : decode cX4_undo 65 = .ok (.iadd, 1) := dk_96 (dk_at dksX4_undo_2 19 rfl rfl)
theorem dX4_undo_66 : decode cX4_undo 66 = .ok (.iaload, 1) := dk_46 (dk_at dksX4_undo_2 20 rfl rfl)
theorem dX4_undo_67 : decode cX4_undo 67 = .ok (.iastore, 1) := dk_79 (dk_at dksX4_undo_2 21 rfl rfl)
theorem dX4_undo_68 : decode cX4_undo 68 = .ok (.iinc 2 1, 3) := dk_132 2 1 (dk_at dksX4_undo_3 0 rfl rfl)
theorem dX4_undo_71 : decode cX4_undo 71 = .ok (.goto (-27), 3) := dk_167 255 229 (dk_at dksX4_undo_3 3 rfl rfl)
theorem dX4_undo_74 : decode cX4_undo 74 = .ok (.aload_n 0, 1) := dk_42 (dk_at dksX4_undo_3 6 rfl rfl)
theorem dX4_undo_75 : decode cX4_undo 75 = .ok (.getfield 187, 3) := dk_180 0 187 (dk_at dksX4_undo_3 7 rfl rfl)
theorem dX4_undo_78 : decode cX4_undo 78 = .ok (.ireturn, 1) := dk_172 (dk_at dksX4_undo_3 10 rfl rfl)
abbrev cX4_word : ByteArray := prog_13_method_32_code
def yX4_word : MethodName := ⟨RX4, "word", "()I"⟩
def dkwX4_word_5 : List UInt8 := [172, 42, 27, 182, 0, 193, 42, 180, 0, 184, 172]
abbrev dktX4_word_5 : List UInt8 := dkwX4_word_5 ++ []
def dkwX4_word_4 : List UInt8 := [182, 0, 42, 42, 42, 180, 0, 24, 181, 0, 69, 42, 42, 182, 0, 38, 4, 182, 0, 180, 153, 0, 5, 3]
abbrev dktX4_word_4 : List UInt8 := dkwX4_word_4 ++ dktX4_word_5
def dkwX4_word_3 : List UInt8 := [181, 0, 21, 167, 255, 199, 42, 182, 0, 34, 42, 180, 0, 21, 42, 180, 0, 18, 162, 0, 7, 42]
abbrev dktX4_word_3 : List UInt8 := dkwX4_word_3 ++ dktX4_word_4
def dkwX4_word_2 : List UInt8 := [180, 0, 14, 42, 180, 0, 21, 51, 16, 97, 100, 79, 132, 1, 1, 42, 89, 180, 0, 21, 4, 96]
abbrev dktX4_word_2 : List UInt8 := dkwX4_word_2 ++ dktX4_word_3
def dkwX4_word_1 : List UInt8 := [3, 46, 96, 4, 100, 182, 0, 27, 153, 0, 43, 27, 16, 64, 162, 0, 37, 42, 180, 0, 86, 27, 42]
abbrev dktX4_word_1 : List UInt8 := dkwX4_word_1 ++ dktX4_word_2
def dkwX4_word_0 : List UInt8 := [42, 3, 181, 0, 3, 42, 182, 0, 174, 42, 182, 0, 34, 3, 60, 42, 16, 97, 16, 97, 42, 180, 0, 77]
abbrev dktX4_word_0 : List UInt8 := dkwX4_word_0 ++ dktX4_word_1
theorem dksX4_word_0 : cX4_word.data.toList.drop 0 = dktX4_word_0 := by decide +kernel
theorem dksX4_word_1 : cX4_word.data.toList.drop 24 = dktX4_word_1 := dk_seg dksX4_word_0 24 rfl rfl
theorem dksX4_word_2 : cX4_word.data.toList.drop 47 = dktX4_word_2 := dk_seg dksX4_word_1 23 rfl rfl
theorem dksX4_word_3 : cX4_word.data.toList.drop 69 = dktX4_word_3 := dk_seg dksX4_word_2 22 rfl rfl
theorem dksX4_word_4 : cX4_word.data.toList.drop 91 = dktX4_word_4 := dk_seg dksX4_word_3 22 rfl rfl
theorem dksX4_word_5 : cX4_word.data.toList.drop 115 = dktX4_word_5 := dk_seg dksX4_word_4 24 rfl rfl
theorem dX4_word_0 : decode cX4_word 0 = .ok (.aload_n 0, 1) := dk_42 (dk_at dksX4_word_0 0 rfl rfl)
theorem dX4_word_1 : decode cX4_word 1 = .ok (.iconst 0, 1) := dk_3 (dk_at dksX4_word_0 1 rfl rfl)
theorem dX4_word_2 : decode cX4_word 2 = .ok (.putfield 3, 3) := dk_181 0 3 (dk_at dksX4_word_0 2 rfl rfl)
theorem dX4_word_5 : decode cX4_word 5 = .ok (.aload_n 0, 1) := dk_42 (dk_at dksX4_word_0 5 rfl rfl)
theorem dX4_word_6 : decode cX4_word 6 = .ok (.invokevirtual 174, 3) := dk_182 0 174 (dk_at dksX4_word_0 6 rfl rfl)
theorem dX4_word_9 : decode cX4_word 9 = .ok (.aload_n 0, 1) := dk_42 (dk_at dksX4_word_0 9 rfl rfl)
theorem dX4_word_10 : decode cX4_word 10 = .ok (.invokevirtual 34, 3) := dk_182 0 34 (dk_at dksX4_word_0 10 rfl rfl)
theorem dX4_word_13 : decode cX4_word 13 = .ok (.iconst 0, 1) := dk_3 (dk_at dksX4_word_0 13 rfl rfl)
theorem dX4_word_14 : decode cX4_word 14 = .ok (.istore_n 1, 1) := dk_60 (dk_at dksX4_word_0 14 rfl rfl)
theorem dX4_word_15 : decode cX4_word 15 = .ok (.aload_n 0, 1) := dk_42 (dk_at dksX4_word_0 15 rfl rfl)
theorem dX4_word_16 : decode cX4_word 16 = .ok (.bipush 97, 2) := dk_16 97 (dk_at dksX4_word_0 16 rfl rfl)
theorem dX4_word_18 : decode cX4_word 18 = .ok (.bipush 97, 2) := dk_16 97 (dk_at dksX4_word_0 18 rfl rfl)
theorem dX4_word_20 : decode cX4_word 20 = .ok (.aload_n 0, 1) := dk_42 (dk_at dksX4_word_0 20 rfl rfl)
theorem dX4_word_21 : decode cX4_word 21 = .ok (.getfield 77, 3) := dk_180 0 77 (dk_at dksX4_word_0 21 rfl rfl)
theorem dX4_word_24 : decode cX4_word 24 = .ok (.iconst 0, 1) := dk_3 (dk_at dksX4_word_1 0 rfl rfl)
theorem dX4_word_25 : decode cX4_word 25 = .ok (.iaload, 1) := dk_46 (dk_at dksX4_word_1 1 rfl rfl)
theorem dX4_word_26 : decode cX4_word 26 = .ok (.iadd, 1) := dk_96 (dk_at dksX4_word_1 2 rfl rfl)
theorem dX4_word_27 : decode cX4_word 27 = .ok (.iconst 1, 1) := dk_4 (dk_at dksX4_word_1 3 rfl rfl)
theorem dX4_word_28 : decode cX4_word 28 = .ok (.isub, 1) := dk_100 (dk_at dksX4_word_1 4 rfl rfl)
theorem dX4_word_29 : decode cX4_word 29 = .ok (.invokevirtual 27, 3) := dk_182 0 27 (dk_at dksX4_word_1 5 rfl rfl)
theorem dX4_word_32 : decode cX4_word 32 = .ok (.ifCond .eq 43, 3) := dk_153 0 43 (dk_at dksX4_word_1 8 rfl rfl)
theorem dX4_word_35 : decode cX4_word 35 = .ok (.iload_n 1, 1) := dk_27 (dk_at dksX4_word_1 11 rfl rfl)
theorem dX4_word_36 : decode cX4_word 36 = .ok (.bipush 64, 2) := dk_16 64 (dk_at dksX4_word_1 12 rfl rfl)
theorem dX4_word_38 : decode cX4_word 38 = .ok (.if_icmp .ge 37, 3) := dk_162 0 37 (dk_at dksX4_word_1 14 rfl rfl)
theorem dX4_word_41 : decode cX4_word 41 = .ok (.aload_n 0, 1) := dk_42 (dk_at dksX4_word_1 17 rfl rfl)
theorem dX4_word_42 : decode cX4_word 42 = .ok (.getfield 86, 3) := dk_180 0 86 (dk_at dksX4_word_1 18 rfl rfl)
theorem dX4_word_45 : decode cX4_word 45 = .ok (.iload_n 1, 1) := dk_27 (dk_at dksX4_word_1 21 rfl rfl)
theorem dX4_word_46 : decode cX4_word 46 = .ok (.aload_n 0, 1) := dk_42 (dk_at dksX4_word_1 22 rfl rfl)
theorem dX4_word_47 : decode cX4_word 47 = .ok (.getfield 14, 3) := dk_180 0 14 (dk_at dksX4_word_2 0 rfl rfl)
theorem dX4_word_50 : decode cX4_word 50 = .ok (.aload_n 0, 1) := dk_42 (dk_at dksX4_word_2 3 rfl rfl)
theorem dX4_word_51 : decode cX4_word 51 = .ok (.getfield 21, 3) := dk_180 0 21 (dk_at dksX4_word_2 4 rfl rfl)
theorem dX4_word_54 : decode cX4_word 54 = .ok (.baload, 1) := dk_51 (dk_at dksX4_word_2 7 rfl rfl)
theorem dX4_word_55 : decode cX4_word 55 = .ok (.bipush 97, 2) := dk_16 97 (dk_at dksX4_word_2 8 rfl rfl)
theorem dX4_word_57 : decode cX4_word 57 = .ok (.isub, 1) := dk_100 (dk_at dksX4_word_2 10 rfl rfl)
theorem dX4_word_58 : decode cX4_word 58 = .ok (.iastore, 1) := dk_79 (dk_at dksX4_word_2 11 rfl rfl)
theorem dX4_word_59 : decode cX4_word 59 = .ok (.iinc 1 1, 3) := dk_132 1 1 (dk_at dksX4_word_2 12 rfl rfl)
theorem dX4_word_62 : decode cX4_word 62 = .ok (.aload_n 0, 1) := dk_42 (dk_at dksX4_word_2 15 rfl rfl)
theorem dX4_word_63 : decode cX4_word 63 = .ok (.dup, 1) := dk_89 (dk_at dksX4_word_2 16 rfl rfl)
theorem dX4_word_64 : decode cX4_word 64 = .ok (.getfield 21, 3) := dk_180 0 21 (dk_at dksX4_word_2 17 rfl rfl)
theorem dX4_word_67 : decode cX4_word 67 = .ok (.iconst 1, 1) := dk_4 (dk_at dksX4_word_2 20 rfl rfl)
theorem dX4_word_68 : decode cX4_word 68 = .ok (.iadd, 1) := dk_96 (dk_at dksX4_word_2 21 rfl rfl)
theorem dX4_word_69 : decode cX4_word 69 = .ok (.putfield 21, 3) := dk_181 0 21 (dk_at dksX4_word_3 0 rfl rfl)
theorem dX4_word_72 : decode cX4_word 72 = .ok (.goto (-57), 3) := dk_167 255 199 (dk_at dksX4_word_3 3 rfl rfl)
theorem dX4_word_75 : decode cX4_word 75 = .ok (.aload_n 0, 1) := dk_42 (dk_at dksX4_word_3 6 rfl rfl)
theorem dX4_word_76 : decode cX4_word 76 = .ok (.invokevirtual 34, 3) := dk_182 0 34 (dk_at dksX4_word_3 7 rfl rfl)
theorem dX4_word_79 : decode cX4_word 79 = .ok (.aload_n 0, 1) := dk_42 (dk_at dksX4_word_3 10 rfl rfl)
theorem dX4_word_80 : decode cX4_word 80 = .ok (.getfield 21, 3) := dk_180 0 21 (dk_at dksX4_word_3 11 rfl rfl)
theorem dX4_word_83 : decode cX4_word 83 = .ok (.aload_n 0, 1) := dk_42 (dk_at dksX4_word_3 14 rfl rfl)
theorem dX4_word_84 : decode cX4_word 84 = .ok (.getfield 18, 3) := dk_180 0 18 (dk_at dksX4_word_3 15 rfl rfl)
theorem dX4_word_87 : decode cX4_word 87 = .ok (.if_icmp .ge 7, 3) := dk_162 0 7 (dk_at dksX4_word_3 18 rfl rfl)
theorem dX4_word_90 : decode cX4_word 90 = .ok (.aload_n 0, 1) := dk_42 (dk_at dksX4_word_3 21 rfl rfl)
theorem dX4_word_91 : decode cX4_word 91 = .ok (.invokevirtual 42, 3) := dk_182 0 42 (dk_at dksX4_word_4 0 rfl rfl)
theorem dX4_word_94 : decode cX4_word 94 = .ok (.aload_n 0, 1) := dk_42 (dk_at dksX4_word_4 3 rfl rfl)
theorem dX4_word_95 : decode cX4_word 95 = .ok (.aload_n 0, 1) := dk_42 (dk_at dksX4_word_4 4 rfl rfl)
theorem dX4_word_96 : decode cX4_word 96 = .ok (.getfield 24, 3) := dk_180 0 24 (dk_at dksX4_word_4 5 rfl rfl)
theorem dX4_word_99 : decode cX4_word 99 = .ok (.putfield 69, 3) := dk_181 0 69 (dk_at dksX4_word_4 8 rfl rfl)
theorem dX4_word_102 : decode cX4_word 102 = .ok (.aload_n 0, 1) := dk_42 (dk_at dksX4_word_4 11 rfl rfl)
theorem dX4_word_103 : decode cX4_word 103 = .ok (.aload_n 0, 1) := dk_42 (dk_at dksX4_word_4 12 rfl rfl)
theorem dX4_word_104 : decode cX4_word 104 = .ok (.invokevirtual 38, 3) := dk_182 0 38 (dk_at dksX4_word_4 13 rfl rfl)
theorem dX4_word_107 : decode cX4_word 107 = .ok (.iconst 1, 1) := dk_4 (dk_at dksX4_word_4 16 rfl rfl)
theorem dX4_word_108 : decode cX4_word 108 = .ok (.invokevirtual 180, 3) := dk_182 0 180 (dk_at dksX4_word_4 17 rfl rfl)
theorem dX4_word_111 : decode cX4_word 111 = .ok (.ifCond .eq 5, 3) := dk_153 0 5 (dk_at dksX4_word_4 20 rfl rfl)
theorem dX4_word_114 : decode cX4_word 114 = .ok (.iconst 0, 1) := dk_3 (dk_at dksX4_word_4 23 rfl rfl)
theorem dX4_word_115 : decode cX4_word 115 = .ok (.ireturn, 1) := dk_172 (dk_at dksX4_word_5 0 rfl rfl)
theorem dX4_word_116 : decode cX4_word 116 = .ok (.aload_n 0, 1) := dk_42 (dk_at dksX4_word_5 1 rfl rfl)
theorem dX4_word_117 : decode cX4_word 117 = .ok (.iload_n 1, 1) := dk_27 (dk_at dksX4_word_5 2 rfl rfl)
theorem dX4_word_118 : decode cX4_word 118 = .ok (.invokevirtual 193, 3) := dk_182 0 193 (dk_at dksX4_word_5 3 rfl rfl)
theorem dX4_word_121 : decode cX4_word 121 = .ok (.aload_n 0, 1) := dk_42 (dk_at dksX4_word_5 6 rfl rfl)
theorem dX4_word_122 : decode cX4_word 122 = .ok (.getfield 184, 3) := dk_180 0 184 (dk_at dksX4_word_5 7 rfl rfl)
theorem dX4_word_125 : decode cX4_word 125 = .ok (.ireturn, 1) := dk_172 (dk_at dksX4_word_5 10 rfl rfl)
abbrev cX4_becomes : ByteArray := prog_13_method_30_code
def yX4_becomes : MethodName := ⟨RX4, "becomes", "(I)V"⟩
def dkwX4_becomes_1 : List UInt8 := [180, 0, 86, 28, 46, 79, 132, 2, 1, 167, 255, 236, 177]
abbrev dktX4_becomes_1 : List UInt8 := dkwX4_becomes_1 ++ []
def dkwX4_becomes_0 : List UInt8 := [42, 182, 0, 190, 42, 27, 181, 0, 184, 3, 61, 28, 27, 162, 0, 21, 42, 180, 0, 83, 28, 42]
abbrev dktX4_becomes_0 : List UInt8 := dkwX4_becomes_0 ++ dktX4_becomes_1
theorem dksX4_becomes_0 : cX4_becomes.data.toList.drop 0 = dktX4_becomes_0 := by decide +kernel
theorem dksX4_becomes_1 : cX4_becomes.data.toList.drop 22 = dktX4_becomes_1 := dk_seg dksX4_becomes_0 22 rfl rfl
theorem dX4_becomes_0 : decode cX4_becomes 0 = .ok (.aload_n 0, 1) := dk_42 (dk_at dksX4_becomes_0 0 rfl rfl)
theorem dX4_becomes_1 : decode cX4_becomes 1 = .ok (.invokevirtual 190, 3) := dk_182 0 190 (dk_at dksX4_becomes_0 1 rfl rfl)
theorem dX4_becomes_4 : decode cX4_becomes 4 = .ok (.aload_n 0, 1) := dk_42 (dk_at dksX4_becomes_0 4 rfl rfl)
theorem dX4_becomes_5 : decode cX4_becomes 5 = .ok (.iload_n 1, 1) := dk_27 (dk_at dksX4_becomes_0 5 rfl rfl)
theorem dX4_becomes_6 : decode cX4_becomes 6 = .ok (.putfield 184, 3) := dk_181 0 184 (dk_at dksX4_becomes_0 6 rfl rfl)
theorem dX4_becomes_9 : decode cX4_becomes 9 = .ok (.iconst 0, 1) := dk_3 (dk_at dksX4_becomes_0 9 rfl rfl)
theorem dX4_becomes_10 : decode cX4_becomes 10 = .ok (.istore_n 2, 1) := dk_61 (dk_at dksX4_becomes_0 10 rfl rfl)
theorem dX4_becomes_11 : decode cX4_becomes 11 = .ok (.iload_n 2, 1) := dk_28 (dk_at dksX4_becomes_0 11 rfl rfl)
theorem dX4_becomes_12 : decode cX4_becomes 12 = .ok (.iload_n 1, 1) := dk_27 (dk_at dksX4_becomes_0 12 rfl rfl)
theorem dX4_becomes_13 : decode cX4_becomes 13 = .ok (.if_icmp .ge 21, 3) := dk_162 0 21 (dk_at dksX4_becomes_0 13 rfl rfl)
theorem dX4_becomes_16 : decode cX4_becomes 16 = .ok (.aload_n 0, 1) := dk_42 (dk_at dksX4_becomes_0 16 rfl rfl)
theorem dX4_becomes_17 : decode cX4_becomes 17 = .ok (.getfield 83, 3) := dk_180 0 83 (dk_at dksX4_becomes_0 17 rfl rfl)
theorem dX4_becomes_20 : decode cX4_becomes 20 = .ok (.iload_n 2, 1) := dk_28 (dk_at dksX4_becomes_0 20 rfl rfl)
theorem dX4_becomes_21 : decode cX4_becomes 21 = .ok (.aload_n 0, 1) := dk_42 (dk_at dksX4_becomes_0 21 rfl rfl)
theorem dX4_becomes_22 : decode cX4_becomes 22 = .ok (.getfield 86, 3) := dk_180 0 86 (dk_at dksX4_becomes_1 0 rfl rfl)
theorem dX4_becomes_25 : decode cX4_becomes 25 = .ok (.iload_n 2, 1) := dk_28 (dk_at dksX4_becomes_1 3 rfl rfl)
theorem dX4_becomes_26 : decode cX4_becomes 26 = .ok (.iaload, 1) := dk_46 (dk_at dksX4_becomes_1 4 rfl rfl)
theorem dX4_becomes_27 : decode cX4_becomes 27 = .ok (.iastore, 1) := dk_79 (dk_at dksX4_becomes_1 5 rfl rfl)
theorem dX4_becomes_28 : decode cX4_becomes 28 = .ok (.iinc 2 1, 3) := dk_132 2 1 (dk_at dksX4_becomes_1 6 rfl rfl)
theorem dX4_becomes_31 : decode cX4_becomes 31 = .ok (.goto (-20), 3) := dk_167 255 236 (dk_at dksX4_becomes_1 9 rfl rfl)
theorem dX4_becomes_34 : decode cX4_becomes 34 = .ok (.return_, 1) := dk_177 (dk_at dksX4_becomes_1 12 rfl rfl)
abbrev cX4_laysAside : ByteArray := prog_13_method_29_code
def yX4_laysAside : MethodName := ⟨RX4, "laysAside", "()V"⟩
def dkwX4_laysAside_4 : List UInt8 := [28, 46, 79, 132, 2, 1, 167, 255, 224, 42, 89, 180, 0, 187, 4, 96, 181, 0, 187, 177]
abbrev dktX4_laysAside_4 : List UInt8 := dkwX4_laysAside_4 ++ []
def dkwX4_laysAside_3 : List UInt8 := [180, 0, 184, 162, 0, 30, 42, 180, 0, 89, 27, 42, 180, 0, 187, 104, 4, 96, 28, 96, 42, 180, 0, 83]
abbrev dktX4_laysAside_3 : List UInt8 := dkwX4_laysAside_3 ++ dktX4_laysAside_4
def dkwX4_laysAside_2 : List UInt8 := [4, 100, 181, 0, 187, 42, 180, 0, 89, 27, 42, 180, 0, 187, 104, 42, 180, 0, 184, 79, 3, 61, 28, 42]
abbrev dktX4_laysAside_2 : List UInt8 := dkwX4_laysAside_2 ++ dktX4_laysAside_3
def dkwX4_laysAside_1 : List UInt8 := [180, 0, 89, 28, 27, 100, 42, 180, 0, 89, 28, 46, 79, 132, 2, 1, 167, 255, 231, 42, 89, 180, 0, 187]
abbrev dktX4_laysAside_1 : List UInt8 := dkwX4_laysAside_1 ++ dktX4_laysAside_2
def dkwX4_laysAside_0 : List UInt8 := [16, 65, 60, 42, 180, 0, 187, 16, 10, 160, 0, 43, 27, 61, 28, 16, 10, 27, 104, 162, 0, 23, 42]
abbrev dktX4_laysAside_0 : List UInt8 := dkwX4_laysAside_0 ++ dktX4_laysAside_1
theorem dksX4_laysAside_0 : cX4_laysAside.data.toList.drop 0 = dktX4_laysAside_0 := by decide +kernel
theorem dksX4_laysAside_1 : cX4_laysAside.data.toList.drop 23 = dktX4_laysAside_1 := dk_seg dksX4_laysAside_0 23 rfl rfl
theorem dksX4_laysAside_2 : cX4_laysAside.data.toList.drop 47 = dktX4_laysAside_2 := dk_seg dksX4_laysAside_1 24 rfl rfl
theorem dksX4_laysAside_3 : cX4_laysAside.data.toList.drop 71 = dktX4_laysAside_3 := dk_seg dksX4_laysAside_2 24 rfl rfl
theorem dksX4_laysAside_4 : cX4_laysAside.data.toList.drop 95 = dktX4_laysAside_4 := dk_seg dksX4_laysAside_3 24 rfl rfl
theorem dX4_laysAside_0 : decode cX4_laysAside 0 = .ok (.bipush 65, 2) := dk_16 65 (dk_at dksX4_laysAside_0 0 rfl rfl)
theorem dX4_laysAside_2 : decode cX4_laysAside 2 = .ok (.istore_n 1, 1) := dk_60 (dk_at dksX4_laysAside_0 2 rfl rfl)
theorem dX4_laysAside_3 : decode cX4_laysAside 3 = .ok (.aload_n 0, 1) := dk_42 (dk_at dksX4_laysAside_0 3 rfl rfl)
theorem dX4_laysAside_4 : decode cX4_laysAside 4 = .ok (.getfield 187, 3) := dk_180 0 187 (dk_at dksX4_laysAside_0 4 rfl rfl)
theorem dX4_laysAside_7 : decode cX4_laysAside 7 = .ok (.bipush 10, 2) := dk_16 10 (dk_at dksX4_laysAside_0 7 rfl rfl)
theorem dX4_laysAside_9 : decode cX4_laysAside 9 = .ok (.if_icmp .ne 43, 3) := dk_160 0 43 (dk_at dksX4_laysAside_0 9 rfl rfl)
theorem dX4_laysAside_12 : decode cX4_laysAside 12 = .ok (.iload_n 1, 1) := dk_27 (dk_at dksX4_laysAside_0 12 rfl rfl)
theorem dX4_laysAside_13 : decode cX4_laysAside 13 = .ok (.istore_n 2, 1) := dk_61 (dk_at dksX4_laysAside_0 13 rfl rfl)
theorem dX4_laysAside_14 : decode cX4_laysAside 14 = .ok (.iload_n 2, 1) := dk_28 (dk_at dksX4_laysAside_0 14 rfl rfl)
theorem dX4_laysAside_15 : decode cX4_laysAside 15 = .ok (.bipush 10, 2) := dk_16 10 (dk_at dksX4_laysAside_0 15 rfl rfl)
theorem dX4_laysAside_17 : decode cX4_laysAside 17 = .ok (.iload_n 1, 1) := dk_27 (dk_at dksX4_laysAside_0 17 rfl rfl)
theorem dX4_laysAside_18 : decode cX4_laysAside 18 = .ok (.imul, 1) := dk_104 (dk_at dksX4_laysAside_0 18 rfl rfl)
theorem dX4_laysAside_19 : decode cX4_laysAside 19 = .ok (.if_icmp .ge 23, 3) := dk_162 0 23 (dk_at dksX4_laysAside_0 19 rfl rfl)
theorem dX4_laysAside_22 : decode cX4_laysAside 22 = .ok (.aload_n 0, 1) := dk_42 (dk_at dksX4_laysAside_0 22 rfl rfl)
theorem dX4_laysAside_23 : decode cX4_laysAside 23 = .ok (.getfield 89, 3) := dk_180 0 89 (dk_at dksX4_laysAside_1 0 rfl rfl)
theorem dX4_laysAside_26 : decode cX4_laysAside 26 = .ok (.iload_n 2, 1) := dk_28 (dk_at dksX4_laysAside_1 3 rfl rfl)
theorem dX4_laysAside_27 : decode cX4_laysAside 27 = .ok (.iload_n 1, 1) := dk_27 (dk_at dksX4_laysAside_1 4 rfl rfl)
theorem dX4_laysAside_28 : decode cX4_laysAside 28 = .ok (.isub, 1) := dk_100 (dk_at dksX4_laysAside_1 5 rfl rfl)
theorem dX4_laysAside_29 : decode cX4_laysAside 29 = .ok (.aload_n 0, 1) := dk_42 (dk_at dksX4_laysAside_1 6 rfl rfl)
theorem dX4_laysAside_30 : decode cX4_laysAside 30 = .ok (.getfield 89, 3) := dk_180 0 89 (dk_at dksX4_laysAside_1 7 rfl rfl)
theorem dX4_laysAside_33 : decode cX4_laysAside 33 = .ok (.iload_n 2, 1) := dk_28 (dk_at dksX4_laysAside_1 10 rfl rfl)
theorem dX4_laysAside_34 : decode cX4_laysAside 34 = .ok (.iaload, 1) := dk_46 (dk_at dksX4_laysAside_1 11 rfl rfl)
theorem dX4_laysAside_35 : decode cX4_laysAside 35 = .ok (.iastore, 1) := dk_79 (dk_at dksX4_laysAside_1 12 rfl rfl)
theorem dX4_laysAside_36 : decode cX4_laysAside 36 = .ok (.iinc 2 1, 3) := dk_132 2 1 (dk_at dksX4_laysAside_1 13 rfl rfl)
theorem dX4_laysAside_39 : decode cX4_laysAside 39 = .ok (.goto (-25), 3) := dk_167 255 231 (dk_at dksX4_laysAside_1 16 rfl rfl)
theorem dX4_laysAside_42 : decode cX4_laysAside 42 = .ok (.aload_n 0, 1) := dk_42 (dk_at dksX4_laysAside_1 19 rfl rfl)
theorem dX4_laysAside_43 : decode cX4_laysAside 43 = .ok (.dup, 1) := dk_89 (dk_at dksX4_laysAside_1 20 rfl rfl)
theorem dX4_laysAside_44 : decode cX4_laysAside 44 = .ok (.getfield 187, 3) := dk_180 0 187 (dk_at dksX4_laysAside_1 21 rfl rfl)
theorem dX4_laysAside_47 : decode cX4_laysAside 47 = .ok (.iconst 1, 1) := dk_4 (dk_at dksX4_laysAside_2 0 rfl rfl)
theorem dX4_laysAside_48 : decode cX4_laysAside 48 = .ok (.isub, 1) := dk_100 (dk_at dksX4_laysAside_2 1 rfl rfl)
theorem dX4_laysAside_49 : decode cX4_laysAside 49 = .ok (.putfield 187, 3) := dk_181 0 187 (dk_at dksX4_laysAside_2 2 rfl rfl)
theorem dX4_laysAside_52 : decode cX4_laysAside 52 = .ok (.aload_n 0, 1) := dk_42 (dk_at dksX4_laysAside_2 5 rfl rfl)
theorem dX4_laysAside_53 : decode cX4_laysAside 53 = .ok (.getfield 89, 3) := dk_180 0 89 (dk_at dksX4_laysAside_2 6 rfl rfl)
theorem dX4_laysAside_56 : decode cX4_laysAside 56 = .ok (.iload_n 1, 1) := dk_27 (dk_at dksX4_laysAside_2 9 rfl rfl)
theorem dX4_laysAside_57 : decode cX4_laysAside 57 = .ok (.aload_n 0, 1) := dk_42 (dk_at dksX4_laysAside_2 10 rfl rfl)
theorem dX4_laysAside_58 : decode cX4_laysAside 58 = .ok (.getfield 187, 3) := dk_180 0 187 (dk_at dksX4_laysAside_2 11 rfl rfl)
theorem dX4_laysAside_61 : decode cX4_laysAside 61 = .ok (.imul, 1) := dk_104 (dk_at dksX4_laysAside_2 14 rfl rfl)
theorem dX4_laysAside_62 : decode cX4_laysAside 62 = .ok (.aload_n 0, 1) := dk_42 (dk_at dksX4_laysAside_2 15 rfl rfl)
theorem dX4_laysAside_63 : decode cX4_laysAside 63 = .ok (.getfield 184, 3) := dk_180 0 184 (dk_at dksX4_laysAside_2 16 rfl rfl)
theorem dX4_laysAside_66 : decode cX4_laysAside 66 = .ok (.iastore, 1) := dk_79 (dk_at dksX4_laysAside_2 19 rfl rfl)
theorem dX4_laysAside_67 : decode cX4_laysAside 67 = .ok (.iconst 0, 1) := dk_3 (dk_at dksX4_laysAside_2 20 rfl rfl)
theorem dX4_laysAside_68 : decode cX4_laysAside 68 = .ok (.istore_n 2, 1) := dk_61 (dk_at dksX4_laysAside_2 21 rfl rfl)
theorem dX4_laysAside_69 : decode cX4_laysAside 69 = .ok (.iload_n 2, 1) := dk_28 (dk_at dksX4_laysAside_2 22 rfl rfl)
theorem dX4_laysAside_70 : decode cX4_laysAside 70 = .ok (.aload_n 0, 1) := dk_42 (dk_at dksX4_laysAside_2 23 rfl rfl)
theorem dX4_laysAside_71 : decode cX4_laysAside 71 = .ok (.getfield 184, 3) := dk_180 0 184 (dk_at dksX4_laysAside_3 0 rfl rfl)
theorem dX4_laysAside_74 : decode cX4_laysAside 74 = .ok (.if_icmp .ge 30, 3) := dk_162 0 30 (dk_at dksX4_laysAside_3 3 rfl rfl)
theorem dX4_laysAside_77 : decode cX4_laysAside 77 = .ok (.aload_n 0, 1) := dk_42 (dk_at dksX4_laysAside_3 6 rfl rfl)
theorem dX4_laysAside_78 : decode cX4_laysAside 78 = .ok (.getfield 89, 3) := dk_180 0 89 (dk_at dksX4_laysAside_3 7 rfl rfl)
theorem dX4_laysAside_81 : decode cX4_laysAside 81 = .ok (.iload_n 1, 1) := dk_27 (dk_at dksX4_laysAside_3 10 rfl rfl)
theorem dX4_laysAside_82 : decode cX4_laysAside 82 = .ok (.aload_n 0, 1) := dk_42 (dk_at dksX4_laysAside_3 11 rfl rfl)
theorem dX4_laysAside_83 : decode cX4_laysAside 83 = .ok (.getfield 187, 3) := dk_180 0 187 (dk_at dksX4_laysAside_3 12 rfl rfl)
theorem dX4_laysAside_86 : decode cX4_laysAside 86 = .ok (.imul, 1) := dk_104 (dk_at dksX4_laysAside_3 15 rfl rfl)
theorem dX4_laysAside_87 : decode cX4_laysAside 87 = .ok (.iconst 1, 1) := dk_4 (dk_at dksX4_laysAside_3 16 rfl rfl)
theorem dX4_laysAside_88 : decode cX4_laysAside 88 = .ok (.iadd, 1) := dk_96 (dk_at dksX4_laysAside_3 17 rfl rfl)
theorem dX4_laysAside_89 : decode cX4_laysAside 89 = .ok (.iload_n 2, 1) := dk_28 (dk_at dksX4_laysAside_3 18 rfl rfl)
theorem dX4_laysAside_90 : decode cX4_laysAside 90 = .ok (.iadd, 1) := dk_96 (dk_at dksX4_laysAside_3 19 rfl rfl)
theorem dX4_laysAside_91 : decode cX4_laysAside 91 = .ok (.aload_n 0, 1) := dk_42 (dk_at dksX4_laysAside_3 20 rfl rfl)
theorem dX4_laysAside_92 : decode cX4_laysAside 92 = .ok (.getfield 83, 3) := dk_180 0 83 (dk_at dksX4_laysAside_3 21 rfl rfl)
theorem dX4_laysAside_95 : decode cX4_laysAside 95 = .ok (.iload_n 2, 1) := dk_28 (dk_at dksX4_laysAside_4 0 rfl rfl)
theorem dX4_laysAside_96 : decode cX4_laysAside 96 = .ok (.iaload, 1) := dk_46 (dk_at dksX4_laysAside_4 1 rfl rfl)
theorem dX4_laysAside_97 : decode cX4_laysAside 97 = .ok (.iastore, 1) := dk_79 (dk_at dksX4_laysAside_4 2 rfl rfl)
theorem dX4_laysAside_98 : decode cX4_laysAside 98 = .ok (.iinc 2 1, 3) := dk_132 2 1 (dk_at dksX4_laysAside_4 3 rfl rfl)
theorem dX4_laysAside_101 : decode cX4_laysAside 101 = .ok (.goto (-32), 3) := dk_167 255 224 (dk_at dksX4_laysAside_4 6 rfl rfl)
theorem dX4_laysAside_104 : decode cX4_laysAside 104 = .ok (.aload_n 0, 1) := dk_42 (dk_at dksX4_laysAside_4 9 rfl rfl)
theorem dX4_laysAside_105 : decode cX4_laysAside 105 = .ok (.dup, 1) := dk_89 (dk_at dksX4_laysAside_4 10 rfl rfl)
theorem dX4_laysAside_106 : decode cX4_laysAside 106 = .ok (.getfield 187, 3) := dk_180 0 187 (dk_at dksX4_laysAside_4 11 rfl rfl)
theorem dX4_laysAside_109 : decode cX4_laysAside 109 = .ok (.iconst 1, 1) := dk_4 (dk_at dksX4_laysAside_4 14 rfl rfl)
theorem dX4_laysAside_110 : decode cX4_laysAside 110 = .ok (.iadd, 1) := dk_96 (dk_at dksX4_laysAside_4 15 rfl rfl)
theorem dX4_laysAside_111 : decode cX4_laysAside 111 = .ok (.putfield 187, 3) := dk_181 0 187 (dk_at dksX4_laysAside_4 16 rfl rfl)
theorem dX4_laysAside_114 : decode cX4_laysAside 114 = .ok (.return_, 1) := dk_177 (dk_at dksX4_laysAside_4 19 rfl rfl)
abbrev cX4_letter : ByteArray := prog_13_method_33_code
def yX4_letter : MethodName := ⟨RX4, "letter", "(I)I"⟩
def dkwX4_letter_1 : List UInt8 := [46, 167, 0, 4, 2, 172]
abbrev dktX4_letter_1 : List UInt8 := dkwX4_letter_1 ++ []
def dkwX4_letter_0 : List UInt8 := [42, 3, 181, 0, 3, 27, 3, 42, 180, 0, 184, 4, 100, 184, 0, 65, 153, 0, 12, 42, 180, 0, 83, 27]
abbrev dktX4_letter_0 : List UInt8 := dkwX4_letter_0 ++ dktX4_letter_1
theorem dksX4_letter_0 : cX4_letter.data.toList.drop 0 = dktX4_letter_0 := by decide +kernel
theorem dksX4_letter_1 : cX4_letter.data.toList.drop 24 = dktX4_letter_1 := dk_seg dksX4_letter_0 24 rfl rfl
theorem dX4_letter_0 : decode cX4_letter 0 = .ok (.aload_n 0, 1) := dk_42 (dk_at dksX4_letter_0 0 rfl rfl)
theorem dX4_letter_1 : decode cX4_letter 1 = .ok (.iconst 0, 1) := dk_3 (dk_at dksX4_letter_0 1 rfl rfl)
theorem dX4_letter_2 : decode cX4_letter 2 = .ok (.putfield 3, 3) := dk_181 0 3 (dk_at dksX4_letter_0 2 rfl rfl)
theorem dX4_letter_5 : decode cX4_letter 5 = .ok (.iload_n 1, 1) := dk_27 (dk_at dksX4_letter_0 5 rfl rfl)
theorem dX4_letter_6 : decode cX4_letter 6 = .ok (.iconst 0, 1) := dk_3 (dk_at dksX4_letter_0 6 rfl rfl)
theorem dX4_letter_7 : decode cX4_letter 7 = .ok (.aload_n 0, 1) := dk_42 (dk_at dksX4_letter_0 7 rfl rfl)
theorem dX4_letter_8 : decode cX4_letter 8 = .ok (.getfield 184, 3) := dk_180 0 184 (dk_at dksX4_letter_0 8 rfl rfl)
theorem dX4_letter_11 : decode cX4_letter 11 = .ok (.iconst 1, 1) := dk_4 (dk_at dksX4_letter_0 11 rfl rfl)
theorem dX4_letter_12 : decode cX4_letter 12 = .ok (.isub, 1) := dk_100 (dk_at dksX4_letter_0 12 rfl rfl)
theorem dX4_letter_13 : decode cX4_letter 13 = .ok (.invokestatic 65, 3) := dk_184 0 65 (dk_at dksX4_letter_0 13 rfl rfl)
theorem dX4_letter_16 : decode cX4_letter 16 = .ok (.ifCond .eq 12, 3) := dk_153 0 12 (dk_at dksX4_letter_0 16 rfl rfl)
theorem dX4_letter_19 : decode cX4_letter 19 = .ok (.aload_n 0, 1) := dk_42 (dk_at dksX4_letter_0 19 rfl rfl)
theorem dX4_letter_20 : decode cX4_letter 20 = .ok (.getfield 83, 3) := dk_180 0 83 (dk_at dksX4_letter_0 20 rfl rfl)
theorem dX4_letter_23 : decode cX4_letter 23 = .ok (.iload_n 1, 1) := dk_27 (dk_at dksX4_letter_0 23 rfl rfl)
theorem dX4_letter_24 : decode cX4_letter 24 = .ok (.iaload, 1) := dk_46 (dk_at dksX4_letter_1 0 rfl rfl)
theorem dX4_letter_25 : decode cX4_letter 25 = .ok (.goto 4, 3) := dk_167 0 4 (dk_at dksX4_letter_1 1 rfl rfl)
theorem dX4_letter_28 : decode cX4_letter 28 = .ok (.iconst (-1), 1) := dk_2 (dk_at dksX4_letter_1 4 rfl rfl)
theorem dX4_letter_29 : decode cX4_letter 29 = .ok (.ireturn, 1) := dk_172 (dk_at dksX4_letter_1 5 rfl rfl)
abbrev cX4_push : ByteArray := prog_13_method_35_code
def yX4_push : MethodName := ⟨RX4, "push", "(I)I"⟩
def dkwX4_push_2 : List UInt8 := [180, 0, 184, 27, 79, 42, 89, 180, 0, 184, 4, 96, 181, 0, 184, 42, 180, 0, 184, 172]
abbrev dktX4_push_2 : List UInt8 := dkwX4_push_2 ++ []
def dkwX4_push_1 : List UInt8 := [4, 167, 0, 4, 3, 5, 182, 0, 180, 153, 0, 5, 3, 172, 42, 182, 0, 190, 42, 180, 0, 83, 42]
abbrev dktX4_push_1 : List UInt8 := dkwX4_push_1 ++ dktX4_push_2
def dkwX4_push_0 : List UInt8 := [42, 3, 181, 0, 3, 42, 27, 4, 182, 0, 196, 154, 0, 25, 42, 42, 180, 0, 184, 16, 64, 160, 0, 7]
abbrev dktX4_push_0 : List UInt8 := dkwX4_push_0 ++ dktX4_push_1
theorem dksX4_push_0 : cX4_push.data.toList.drop 0 = dktX4_push_0 := by decide +kernel
theorem dksX4_push_1 : cX4_push.data.toList.drop 24 = dktX4_push_1 := dk_seg dksX4_push_0 24 rfl rfl
theorem dksX4_push_2 : cX4_push.data.toList.drop 47 = dktX4_push_2 := dk_seg dksX4_push_1 23 rfl rfl
theorem dX4_push_0 : decode cX4_push 0 = .ok (.aload_n 0, 1) := dk_42 (dk_at dksX4_push_0 0 rfl rfl)
theorem dX4_push_1 : decode cX4_push 1 = .ok (.iconst 0, 1) := dk_3 (dk_at dksX4_push_0 1 rfl rfl)
theorem dX4_push_2 : decode cX4_push 2 = .ok (.putfield 3, 3) := dk_181 0 3 (dk_at dksX4_push_0 2 rfl rfl)
theorem dX4_push_5 : decode cX4_push 5 = .ok (.aload_n 0, 1) := dk_42 (dk_at dksX4_push_0 5 rfl rfl)
theorem dX4_push_6 : decode cX4_push 6 = .ok (.iload_n 1, 1) := dk_27 (dk_at dksX4_push_0 6 rfl rfl)
theorem dX4_push_7 : decode cX4_push 7 = .ok (.iconst 1, 1) := dk_4 (dk_at dksX4_push_0 7 rfl rfl)
theorem dX4_push_8 : decode cX4_push 8 = .ok (.invokevirtual 196, 3) := dk_182 0 196 (dk_at dksX4_push_0 8 rfl rfl)
theorem dX4_push_11 : decode cX4_push 11 = .ok (.ifCond .ne 25, 3) := dk_154 0 25 (dk_at dksX4_push_0 11 rfl rfl)
theorem dX4_push_14 : decode cX4_push 14 = .ok (.aload_n 0, 1) := dk_42 (dk_at dksX4_push_0 14 rfl rfl)
theorem dX4_push_15 : decode cX4_push 15 = .ok (.aload_n 0, 1) := dk_42 (dk_at dksX4_push_0 15 rfl rfl)
theorem dX4_push_16 : decode cX4_push 16 = .ok (.getfield 184, 3) := dk_180 0 184 (dk_at dksX4_push_0 16 rfl rfl)
theorem dX4_push_19 : decode cX4_push 19 = .ok (.bipush 64, 2) := dk_16 64 (dk_at dksX4_push_0 19 rfl rfl)
theorem dX4_push_21 : decode cX4_push 21 = .ok (.if_icmp .ne 7, 3) := dk_160 0 7 (dk_at dksX4_push_0 21 rfl rfl)
theorem dX4_push_24 : decode cX4_push 24 = .ok (.iconst 1, 1) := dk_4 (dk_at dksX4_push_1 0 rfl rfl)
theorem dX4_push_25 : decode cX4_push 25 = .ok (.goto 4, 3) := dk_167 0 4 (dk_at dksX4_push_1 1 rfl rfl)
theorem dX4_push_28 : decode cX4_push 28 = .ok (.iconst 0, 1) := dk_3 (dk_at dksX4_push_1 4 rfl rfl)
theorem dX4_push_29 : decode cX4_push 29 = .ok (.iconst 2, 1) := dk_5 (dk_at dksX4_push_1 5 rfl rfl)
theorem dX4_push_30 : decode cX4_push 30 = .ok (.invokevirtual 180, 3) := dk_182 0 180 (dk_at dksX4_push_1 6 rfl rfl)
theorem dX4_push_33 : decode cX4_push 33 = .ok (.ifCond .eq 5, 3) := dk_153 0 5 (dk_at dksX4_push_1 9 rfl rfl)
theorem dX4_push_36 : decode cX4_push 36 = .ok (.iconst 0, 1) := dk_3 (dk_at dksX4_push_1 12 rfl rfl)
theorem dX4_push_37 : decode cX4_push 37 = .ok (.ireturn, 1) := dk_172 (dk_at dksX4_push_1 13 rfl rfl)
theorem dX4_push_38 : decode cX4_push 38 = .ok (.aload_n 0, 1) := dk_42 (dk_at dksX4_push_1 14 rfl rfl)
theorem dX4_push_39 : decode cX4_push 39 = .ok (.invokevirtual 190, 3) := dk_182 0 190 (dk_at dksX4_push_1 15 rfl rfl)
theorem dX4_push_42 : decode cX4_push 42 = .ok (.aload_n 0, 1) := dk_42 (dk_at dksX4_push_1 18 rfl rfl)
theorem dX4_push_43 : decode cX4_push 43 = .ok (.getfield 83, 3) := dk_180 0 83 (dk_at dksX4_push_1 19 rfl rfl)
theorem dX4_push_46 : decode cX4_push 46 = .ok (.aload_n 0, 1) := dk_42 (dk_at dksX4_push_1 22 rfl rfl)
theorem dX4_push_47 : decode cX4_push 47 = .ok (.getfield 184, 3) := dk_180 0 184 (dk_at dksX4_push_2 0 rfl rfl)
theorem dX4_push_50 : decode cX4_push 50 = .ok (.iload_n 1, 1) := dk_27 (dk_at dksX4_push_2 3 rfl rfl)
theorem dX4_push_51 : decode cX4_push 51 = .ok (.iastore, 1) := dk_79 (dk_at dksX4_push_2 4 rfl rfl)
theorem dX4_push_52 : decode cX4_push 52 = .ok (.aload_n 0, 1) := dk_42 (dk_at dksX4_push_2 5 rfl rfl)
theorem dX4_push_53 : decode cX4_push 53 = .ok (.dup, 1) := dk_89 (dk_at dksX4_push_2 6 rfl rfl)
theorem dX4_push_54 : decode cX4_push 54 = .ok (.getfield 184, 3) := dk_180 0 184 (dk_at dksX4_push_2 7 rfl rfl)
theorem dX4_push_57 : decode cX4_push 57 = .ok (.iconst 1, 1) := dk_4 (dk_at dksX4_push_2 10 rfl rfl)
theorem dX4_push_58 : decode cX4_push 58 = .ok (.iadd, 1) := dk_96 (dk_at dksX4_push_2 11 rfl rfl)
theorem dX4_push_59 : decode cX4_push 59 = .ok (.putfield 184, 3) := dk_181 0 184 (dk_at dksX4_push_2 12 rfl rfl)
theorem dX4_push_62 : decode cX4_push 62 = .ok (.aload_n 0, 1) := dk_42 (dk_at dksX4_push_2 15 rfl rfl)
theorem dX4_push_63 : decode cX4_push 63 = .ok (.getfield 184, 3) := dk_180 0 184 (dk_at dksX4_push_2 16 rfl rfl)
theorem dX4_push_66 : decode cX4_push 66 = .ok (.ireturn, 1) := dk_172 (dk_at dksX4_push_2 19 rfl rfl)
abbrev cX4_noLetter : ByteArray := prog_13_method_34_code
def yX4_noLetter : MethodName := ⟨RX4, "noLetter", "(II)Z"⟩
def dkwX4_noLetter_1 : List UInt8 := [182, 0, 180, 172]
abbrev dktX4_noLetter_1 : List UInt8 := dkwX4_noLetter_1 ++ []
def dkwX4_noLetter_0 : List UInt8 := [42, 27, 3, 42, 180, 0, 77, 3, 46, 4, 100, 184, 0, 65, 154, 0, 7, 4, 167, 0, 4, 3, 28]
abbrev dktX4_noLetter_0 : List UInt8 := dkwX4_noLetter_0 ++ dktX4_noLetter_1
theorem dksX4_noLetter_0 : cX4_noLetter.data.toList.drop 0 = dktX4_noLetter_0 := by decide +kernel
theorem dksX4_noLetter_1 : cX4_noLetter.data.toList.drop 23 = dktX4_noLetter_1 := dk_seg dksX4_noLetter_0 23 rfl rfl
theorem dX4_noLetter_0 : decode cX4_noLetter 0 = .ok (.aload_n 0, 1) := dk_42 (dk_at dksX4_noLetter_0 0 rfl rfl)
theorem dX4_noLetter_1 : decode cX4_noLetter 1 = .ok (.iload_n 1, 1) := dk_27 (dk_at dksX4_noLetter_0 1 rfl rfl)
theorem dX4_noLetter_2 : decode cX4_noLetter 2 = .ok (.iconst 0, 1) := dk_3 (dk_at dksX4_noLetter_0 2 rfl rfl)
theorem dX4_noLetter_3 : decode cX4_noLetter 3 = .ok (.aload_n 0, 1) := dk_42 (dk_at dksX4_noLetter_0 3 rfl rfl)
theorem dX4_noLetter_4 : decode cX4_noLetter 4 = .ok (.getfield 77, 3) := dk_180 0 77 (dk_at dksX4_noLetter_0 4 rfl rfl)
theorem dX4_noLetter_7 : decode cX4_noLetter 7 = .ok (.iconst 0, 1) := dk_3 (dk_at dksX4_noLetter_0 7 rfl rfl)
theorem dX4_noLetter_8 : decode cX4_noLetter 8 = .ok (.iaload, 1) := dk_46 (dk_at dksX4_noLetter_0 8 rfl rfl)
theorem dX4_noLetter_9 : decode cX4_noLetter 9 = .ok (.iconst 1, 1) := dk_4 (dk_at dksX4_noLetter_0 9 rfl rfl)
theorem dX4_noLetter_10 : decode cX4_noLetter 10 = .ok (.isub, 1) := dk_100 (dk_at dksX4_noLetter_0 10 rfl rfl)
theorem dX4_noLetter_11 : decode cX4_noLetter 11 = .ok (.invokestatic 65, 3) := dk_184 0 65 (dk_at dksX4_noLetter_0 11 rfl rfl)
theorem dX4_noLetter_14 : decode cX4_noLetter 14 = .ok (.ifCond .ne 7, 3) := dk_154 0 7 (dk_at dksX4_noLetter_0 14 rfl rfl)
theorem dX4_noLetter_17 : decode cX4_noLetter 17 = .ok (.iconst 1, 1) := dk_4 (dk_at dksX4_noLetter_0 17 rfl rfl)
theorem dX4_noLetter_18 : decode cX4_noLetter 18 = .ok (.goto 4, 3) := dk_167 0 4 (dk_at dksX4_noLetter_0 18 rfl rfl)
theorem dX4_noLetter_21 : decode cX4_noLetter 21 = .ok (.iconst 0, 1) := dk_3 (dk_at dksX4_noLetter_0 21 rfl rfl)
theorem dX4_noLetter_22 : decode cX4_noLetter 22 = .ok (.iload_n 2, 1) := dk_28 (dk_at dksX4_noLetter_0 22 rfl rfl)
theorem dX4_noLetter_23 : decode cX4_noLetter 23 = .ok (.invokevirtual 180, 3) := dk_182 0 180 (dk_at dksX4_noLetter_1 0 rfl rfl)
theorem dX4_noLetter_26 : decode cX4_noLetter 26 = .ok (.ireturn, 1) := dk_172 (dk_at dksX4_noLetter_1 3 rfl rfl)
abbrev cX4_pop : ByteArray := prog_13_method_36_code
def yX4_pop : MethodName := ⟨RX4, "pop", "()I"⟩
def dkwX4_pop_2 : List UInt8 := [180, 0, 184, 46, 172]
abbrev dktX4_pop_2 : List UInt8 := dkwX4_pop_2 ++ []
def dkwX4_pop_1 : List UInt8 := [153, 0, 5, 3, 172, 42, 182, 0, 190, 42, 89, 180, 0, 184, 4, 100, 181, 0, 184, 42, 180, 0, 83, 42]
abbrev dktX4_pop_1 : List UInt8 := dkwX4_pop_1 ++ dktX4_pop_2
def dkwX4_pop_0 : List UInt8 := [42, 3, 181, 0, 3, 42, 42, 180, 0, 184, 154, 0, 7, 4, 167, 0, 4, 3, 4, 182, 0, 180]
abbrev dktX4_pop_0 : List UInt8 := dkwX4_pop_0 ++ dktX4_pop_1
theorem dksX4_pop_0 : cX4_pop.data.toList.drop 0 = dktX4_pop_0 := by decide +kernel
theorem dksX4_pop_1 : cX4_pop.data.toList.drop 22 = dktX4_pop_1 := dk_seg dksX4_pop_0 22 rfl rfl
theorem dksX4_pop_2 : cX4_pop.data.toList.drop 46 = dktX4_pop_2 := dk_seg dksX4_pop_1 24 rfl rfl
theorem dX4_pop_0 : decode cX4_pop 0 = .ok (.aload_n 0, 1) := dk_42 (dk_at dksX4_pop_0 0 rfl rfl)
theorem dX4_pop_1 : decode cX4_pop 1 = .ok (.iconst 0, 1) := dk_3 (dk_at dksX4_pop_0 1 rfl rfl)
theorem dX4_pop_2 : decode cX4_pop 2 = .ok (.putfield 3, 3) := dk_181 0 3 (dk_at dksX4_pop_0 2 rfl rfl)
theorem dX4_pop_5 : decode cX4_pop 5 = .ok (.aload_n 0, 1) := dk_42 (dk_at dksX4_pop_0 5 rfl rfl)
theorem dX4_pop_6 : decode cX4_pop 6 = .ok (.aload_n 0, 1) := dk_42 (dk_at dksX4_pop_0 6 rfl rfl)
theorem dX4_pop_7 : decode cX4_pop 7 = .ok (.getfield 184, 3) := dk_180 0 184 (dk_at dksX4_pop_0 7 rfl rfl)
theorem dX4_pop_10 : decode cX4_pop 10 = .ok (.ifCond .ne 7, 3) := dk_154 0 7 (dk_at dksX4_pop_0 10 rfl rfl)
theorem dX4_pop_13 : decode cX4_pop 13 = .ok (.iconst 1, 1) := dk_4 (dk_at dksX4_pop_0 13 rfl rfl)
theorem dX4_pop_14 : decode cX4_pop 14 = .ok (.goto 4, 3) := dk_167 0 4 (dk_at dksX4_pop_0 14 rfl rfl)
theorem dX4_pop_17 : decode cX4_pop 17 = .ok (.iconst 0, 1) := dk_3 (dk_at dksX4_pop_0 17 rfl rfl)
theorem dX4_pop_18 : decode cX4_pop 18 = .ok (.iconst 1, 1) := dk_4 (dk_at dksX4_pop_0 18 rfl rfl)
theorem dX4_pop_19 : decode cX4_pop 19 = .ok (.invokevirtual 180, 3) := dk_182 0 180 (dk_at dksX4_pop_0 19 rfl rfl)
theorem dX4_pop_22 : decode cX4_pop 22 = .ok (.ifCond .eq 5, 3) := dk_153 0 5 (dk_at dksX4_pop_1 0 rfl rfl)
theorem dX4_pop_25 : decode cX4_pop 25 = .ok (.iconst 0, 1) := dk_3 (dk_at dksX4_pop_1 3 rfl rfl)
theorem dX4_pop_26 : decode cX4_pop 26 = .ok (.ireturn, 1) := dk_172 (dk_at dksX4_pop_1 4 rfl rfl)
theorem dX4_pop_27 : decode cX4_pop 27 = .ok (.aload_n 0, 1) := dk_42 (dk_at dksX4_pop_1 5 rfl rfl)
theorem dX4_pop_28 : decode cX4_pop 28 = .ok (.invokevirtual 190, 3) := dk_182 0 190 (dk_at dksX4_pop_1 6 rfl rfl)
theorem dX4_pop_31 : decode cX4_pop 31 = .ok (.aload_n 0, 1) := dk_42 (dk_at dksX4_pop_1 9 rfl rfl)
theorem dX4_pop_32 : decode cX4_pop 32 = .ok (.dup, 1) := dk_89 (dk_at dksX4_pop_1 10 rfl rfl)
theorem dX4_pop_33 : decode cX4_pop 33 = .ok (.getfield 184, 3) := dk_180 0 184 (dk_at dksX4_pop_1 11 rfl rfl)
theorem dX4_pop_36 : decode cX4_pop 36 = .ok (.iconst 1, 1) := dk_4 (dk_at dksX4_pop_1 14 rfl rfl)
theorem dX4_pop_37 : decode cX4_pop 37 = .ok (.isub, 1) := dk_100 (dk_at dksX4_pop_1 15 rfl rfl)
theorem dX4_pop_38 : decode cX4_pop 38 = .ok (.putfield 184, 3) := dk_181 0 184 (dk_at dksX4_pop_1 16 rfl rfl)
theorem dX4_pop_41 : decode cX4_pop 41 = .ok (.aload_n 0, 1) := dk_42 (dk_at dksX4_pop_1 19 rfl rfl)
theorem dX4_pop_42 : decode cX4_pop 42 = .ok (.getfield 83, 3) := dk_180 0 83 (dk_at dksX4_pop_1 20 rfl rfl)
theorem dX4_pop_45 : decode cX4_pop 45 = .ok (.aload_n 0, 1) := dk_42 (dk_at dksX4_pop_1 23 rfl rfl)
theorem dX4_pop_46 : decode cX4_pop 46 = .ok (.getfield 184, 3) := dk_180 0 184 (dk_at dksX4_pop_2 0 rfl rfl)
theorem dX4_pop_49 : decode cX4_pop 49 = .ok (.iaload, 1) := dk_46 (dk_at dksX4_pop_2 3 rfl rfl)
theorem dX4_pop_50 : decode cX4_pop 50 = .ok (.ireturn, 1) := dk_172 (dk_at dksX4_pop_2 4 rfl rfl)
abbrev cX4_free : ByteArray := prog_13_method_49_code
def yX4_free : MethodName := ⟨RX4, "free", "()Z"⟩
def dkwX4_free_0 : List UInt8 := [42, 3, 181, 0, 3, 42, 182, 0, 236, 172]
abbrev dktX4_free_0 : List UInt8 := dkwX4_free_0 ++ []
theorem dksX4_free_0 : cX4_free.data.toList.drop 0 = dktX4_free_0 := by decide +kernel
theorem dX4_free_0 : decode cX4_free 0 = .ok (.aload_n 0, 1) := dk_42 (dk_at dksX4_free_0 0 rfl rfl)
theorem dX4_free_1 : decode cX4_free 1 = .ok (.iconst 0, 1) := dk_3 (dk_at dksX4_free_0 1 rfl rfl)
theorem dX4_free_2 : decode cX4_free 2 = .ok (.putfield 3, 3) := dk_181 0 3 (dk_at dksX4_free_0 2 rfl rfl)
theorem dX4_free_5 : decode cX4_free 5 = .ok (.aload_n 0, 1) := dk_42 (dk_at dksX4_free_0 5 rfl rfl)
theorem dX4_free_6 : decode cX4_free 6 = .ok (.invokevirtual 236, 3) := dk_182 0 236 (dk_at dksX4_free_0 6 rfl rfl)
theorem dX4_free_9 : decode cX4_free 9 = .ok (.ireturn, 1) := dk_172 (dk_at dksX4_free_0 9 rfl rfl)
abbrev cX4_isFree : ByteArray := prog_13_method_48_code
def yX4_isFree : MethodName := ⟨RX4, "isFree", "()Z"⟩
def dkwX4_isFree_1 : List UInt8 := [172]
abbrev dktX4_isFree_1 : List UInt8 := dkwX4_isFree_1 ++ []
def dkwX4_isFree_0 : List UInt8 := [42, 42, 180, 0, 83, 42, 180, 0, 184, 182, 0, 232, 42, 180, 0, 184, 160, 0, 7, 4, 167, 0, 4, 3]
abbrev dktX4_isFree_0 : List UInt8 := dkwX4_isFree_0 ++ dktX4_isFree_1
theorem dksX4_isFree_0 : cX4_isFree.data.toList.drop 0 = dktX4_isFree_0 := by decide +kernel
theorem dksX4_isFree_1 : cX4_isFree.data.toList.drop 24 = dktX4_isFree_1 := dk_seg dksX4_isFree_0 24 rfl rfl
theorem dX4_isFree_0 : decode cX4_isFree 0 = .ok (.aload_n 0, 1) := dk_42 (dk_at dksX4_isFree_0 0 rfl rfl)
theorem dX4_isFree_1 : decode cX4_isFree 1 = .ok (.aload_n 0, 1) := dk_42 (dk_at dksX4_isFree_0 1 rfl rfl)
theorem dX4_isFree_2 : decode cX4_isFree 2 = .ok (.getfield 83, 3) := dk_180 0 83 (dk_at dksX4_isFree_0 2 rfl rfl)
theorem dX4_isFree_5 : decode cX4_isFree 5 = .ok (.aload_n 0, 1) := dk_42 (dk_at dksX4_isFree_0 5 rfl rfl)
theorem dX4_isFree_6 : decode cX4_isFree 6 = .ok (.getfield 184, 3) := dk_180 0 184 (dk_at dksX4_isFree_0 6 rfl rfl)
theorem dX4_isFree_9 : decode cX4_isFree 9 = .ok (.invokevirtual 232, 3) := dk_182 0 232 (dk_at dksX4_isFree_0 9 rfl rfl)
theorem dX4_isFree_12 : decode cX4_isFree 12 = .ok (.aload_n 0, 1) := dk_42 (dk_at dksX4_isFree_0 12 rfl rfl)
theorem dX4_isFree_13 : decode cX4_isFree 13 = .ok (.getfield 184, 3) := dk_180 0 184 (dk_at dksX4_isFree_0 13 rfl rfl)
theorem dX4_isFree_16 : decode cX4_isFree 16 = .ok (.if_icmp .ne 7, 3) := dk_160 0 7 (dk_at dksX4_isFree_0 16 rfl rfl)
theorem dX4_isFree_19 : decode cX4_isFree 19 = .ok (.iconst 1, 1) := dk_4 (dk_at dksX4_isFree_0 19 rfl rfl)
theorem dX4_isFree_20 : decode cX4_isFree 20 = .ok (.goto 4, 3) := dk_167 0 4 (dk_at dksX4_isFree_0 20 rfl rfl)
theorem dX4_isFree_23 : decode cX4_isFree 23 = .ok (.iconst 0, 1) := dk_3 (dk_at dksX4_isFree_0 23 rfl rfl)
theorem dX4_isFree_24 : decode cX4_isFree 24 = .ok (.ireturn, 1) := dk_172 (dk_at dksX4_isFree_1 0 rfl rfl)
abbrev cX4_freeOf : ByteArray := prog_13_method_47_code
def yX4_freeOf : MethodName := ⟨RX4, "freeOf", "([II)I"⟩
def dkwX4_freeOf_1 : List UInt8 := [29, 172]
abbrev dktX4_freeOf_1 : List UInt8 := dkwX4_freeOf_1 ++ []
def dkwX4_freeOf_0 : List UInt8 := [3, 62, 29, 28, 162, 0, 20, 42, 43, 29, 4, 96, 182, 0, 229, 153, 0, 9, 132, 3, 1, 167, 255, 237]
abbrev dktX4_freeOf_0 : List UInt8 := dkwX4_freeOf_0 ++ dktX4_freeOf_1
theorem dksX4_freeOf_0 : cX4_freeOf.data.toList.drop 0 = dktX4_freeOf_0 := by decide +kernel
theorem dksX4_freeOf_1 : cX4_freeOf.data.toList.drop 24 = dktX4_freeOf_1 := dk_seg dksX4_freeOf_0 24 rfl rfl
theorem dX4_freeOf_0 : decode cX4_freeOf 0 = .ok (.iconst 0, 1) := dk_3 (dk_at dksX4_freeOf_0 0 rfl rfl)
theorem dX4_freeOf_1 : decode cX4_freeOf 1 = .ok (.istore_n 3, 1) := dk_62 (dk_at dksX4_freeOf_0 1 rfl rfl)
theorem dX4_freeOf_2 : decode cX4_freeOf 2 = .ok (.iload_n 3, 1) := dk_29 (dk_at dksX4_freeOf_0 2 rfl rfl)
theorem dX4_freeOf_3 : decode cX4_freeOf 3 = .ok (.iload_n 2, 1) := dk_28 (dk_at dksX4_freeOf_0 3 rfl rfl)
theorem dX4_freeOf_4 : decode cX4_freeOf 4 = .ok (.if_icmp .ge 20, 3) := dk_162 0 20 (dk_at dksX4_freeOf_0 4 rfl rfl)
theorem dX4_freeOf_7 : decode cX4_freeOf 7 = .ok (.aload_n 0, 1) := dk_42 (dk_at dksX4_freeOf_0 7 rfl rfl)
theorem dX4_freeOf_8 : decode cX4_freeOf 8 = .ok (.aload_n 1, 1) := dk_43 (dk_at dksX4_freeOf_0 8 rfl rfl)
theorem dX4_freeOf_9 : decode cX4_freeOf 9 = .ok (.iload_n 3, 1) := dk_29 (dk_at dksX4_freeOf_0 9 rfl rfl)
theorem dX4_freeOf_10 : decode cX4_freeOf 10 = .ok (.iconst 1, 1) := dk_4 (dk_at dksX4_freeOf_0 10 rfl rfl)
theorem dX4_freeOf_11 : decode cX4_freeOf 11 = .ok (.iadd, 1) := dk_96 (dk_at dksX4_freeOf_0 11 rfl rfl)
theorem dX4_freeOf_12 : decode cX4_freeOf 12 = .ok (.invokevirtual 229, 3) := dk_182 0 229 (dk_at dksX4_freeOf_0 12 rfl rfl)
theorem dX4_freeOf_15 : decode cX4_freeOf 15 = .ok (.ifCond .eq 9, 3) := dk_153 0 9 (dk_at dksX4_freeOf_0 15 rfl rfl)
theorem dX4_freeOf_18 : decode cX4_freeOf 18 = .ok (.iinc 3 1, 3) := dk_132 3 1 (dk_at dksX4_freeOf_0 18 rfl rfl)
theorem dX4_freeOf_21 : decode cX4_freeOf 21 = .ok (.goto (-19), 3) := dk_167 255 237 (dk_at dksX4_freeOf_0 21 rfl rfl)
theorem dX4_freeOf_24 : decode cX4_freeOf 24 = .ok (.iload_n 3, 1) := dk_29 (dk_at dksX4_freeOf_1 0 rfl rfl)
theorem dX4_freeOf_25 : decode cX4_freeOf 25 = .ok (.ireturn, 1) := dk_172 (dk_at dksX4_freeOf_1 1 rfl rfl)
abbrev cX4_goesOn : ByteArray := prog_13_method_46_code
def yX4_goesOn : MethodName := ⟨RX4, "goesOn", "([II)Z"⟩
def dkwX4_goesOn_2 : List UInt8 := [172, 132, 3, 1, 167, 255, 217, 4, 172]
abbrev dktX4_goesOn_2 : List UInt8 := dkwX4_goesOn_2 ++ []
def dkwX4_goesOn_1 : List UInt8 := [180, 0, 77, 17, 0, 194, 29, 96, 46, 4, 160, 0, 15, 42, 43, 28, 29, 182, 0, 226, 153, 0, 5, 3]
abbrev dktX4_goesOn_1 : List UInt8 := dkwX4_goesOn_1 ++ dktX4_goesOn_2
def dkwX4_goesOn_0 : List UInt8 := [42, 43, 28, 182, 0, 222, 153, 0, 5, 3, 172, 3, 62, 29, 42, 180, 0, 77, 8, 46, 162, 0, 35, 42]
abbrev dktX4_goesOn_0 : List UInt8 := dkwX4_goesOn_0 ++ dktX4_goesOn_1
theorem dksX4_goesOn_0 : cX4_goesOn.data.toList.drop 0 = dktX4_goesOn_0 := by decide +kernel
theorem dksX4_goesOn_1 : cX4_goesOn.data.toList.drop 24 = dktX4_goesOn_1 := dk_seg dksX4_goesOn_0 24 rfl rfl
theorem dksX4_goesOn_2 : cX4_goesOn.data.toList.drop 48 = dktX4_goesOn_2 := dk_seg dksX4_goesOn_1 24 rfl rfl
theorem dX4_goesOn_0 : decode cX4_goesOn 0 = .ok (.aload_n 0, 1) := dk_42 (dk_at dksX4_goesOn_0 0 rfl rfl)
theorem dX4_goesOn_1 : decode cX4_goesOn 1 = .ok (.aload_n 1, 1) := dk_43 (dk_at dksX4_goesOn_0 1 rfl rfl)
theorem dX4_goesOn_2 : decode cX4_goesOn 2 = .ok (.iload_n 2, 1) := dk_28 (dk_at dksX4_goesOn_0 2 rfl rfl)
theorem dX4_goesOn_3 : decode cX4_goesOn 3 = .ok (.invokevirtual 222, 3) := dk_182 0 222 (dk_at dksX4_goesOn_0 3 rfl rfl)
theorem dX4_goesOn_6 : decode cX4_goesOn 6 = .ok (.ifCond .eq 5, 3) := dk_153 0 5 (dk_at dksX4_goesOn_0 6 rfl rfl)
theorem dX4_goesOn_9 : decode cX4_goesOn 9 = .ok (.iconst 0, 1) := dk_3 (dk_at dksX4_goesOn_0 9 rfl rfl)
theorem dX4_goesOn_10 : decode cX4_goesOn 10 = .ok (.ireturn, 1) := dk_172 (dk_at dksX4_goesOn_0 10 rfl rfl)
theorem dX4_goesOn_11 : decode cX4_goesOn 11 = .ok (.iconst 0, 1) := dk_3 (dk_at dksX4_goesOn_0 11 rfl rfl)
theorem dX4_goesOn_12 : decode cX4_goesOn 12 = .ok (.istore_n 3, 1) := dk_62 (dk_at dksX4_goesOn_0 12 rfl rfl)
theorem dX4_goesOn_13 : decode cX4_goesOn 13 = .ok (.iload_n 3, 1) := dk_29 (dk_at dksX4_goesOn_0 13 rfl rfl)
theorem dX4_goesOn_14 : decode cX4_goesOn 14 = .ok (.aload_n 0, 1) := dk_42 (dk_at dksX4_goesOn_0 14 rfl rfl)
theorem dX4_goesOn_15 : decode cX4_goesOn 15 = .ok (.getfield 77, 3) := dk_180 0 77 (dk_at dksX4_goesOn_0 15 rfl rfl)
theorem dX4_goesOn_18 : decode cX4_goesOn 18 = .ok (.iconst 5, 1) := dk_8 (dk_at dksX4_goesOn_0 18 rfl rfl)
theorem dX4_goesOn_19 : decode cX4_goesOn 19 = .ok (.iaload, 1) := dk_46 (dk_at dksX4_goesOn_0 19 rfl rfl)
theorem dX4_goesOn_20 : decode cX4_goesOn 20 = .ok (.if_icmp .ge 35, 3) := dk_162 0 35 (dk_at dksX4_goesOn_0 20 rfl rfl)
theorem dX4_goesOn_23 : decode cX4_goesOn 23 = .ok (.aload_n 0, 1) := dk_42 (dk_at dksX4_goesOn_0 23 rfl rfl)
theorem dX4_goesOn_24 : decode cX4_goesOn 24 = .ok (.getfield 77, 3) := dk_180 0 77 (dk_at dksX4_goesOn_1 0 rfl rfl)
theorem dX4_goesOn_27 : decode cX4_goesOn 27 = .ok (.sipush 194, 3) := dk_17 0 194 (dk_at dksX4_goesOn_1 3 rfl rfl)
theorem dX4_goesOn_30 : decode cX4_goesOn 30 = .ok (.iload_n 3, 1) := dk_29 (dk_at dksX4_goesOn_1 6 rfl rfl)
theorem dX4_goesOn_31 : decode cX4_goesOn 31 = .ok (.iadd, 1) := dk_96 (dk_at dksX4_goesOn_1 7 rfl rfl)
theorem dX4_goesOn_32 : decode cX4_goesOn 32 = .ok (.iaload, 1) := dk_46 (dk_at dksX4_goesOn_1 8 rfl rfl)
theorem dX4_goesOn_33 : decode cX4_goesOn 33 = .ok (.iconst 1, 1) := dk_4 (dk_at dksX4_goesOn_1 9 rfl rfl)
theorem dX4_goesOn_34 : decode cX4_goesOn 34 = .ok (.if_icmp .ne 15, 3) := dk_160 0 15 (dk_at dksX4_goesOn_1 10 rfl rfl)
theorem dX4_goesOn_37 : decode cX4_goesOn 37 = .ok (.aload_n 0, 1) := dk_42 (dk_at dksX4_goesOn_1 13 rfl rfl)
theorem dX4_goesOn_38 : decode cX4_goesOn 38 = .ok (.aload_n 1, 1) := dk_43 (dk_at dksX4_goesOn_1 14 rfl rfl)
theorem dX4_goesOn_39 : decode cX4_goesOn 39 = .ok (.iload_n 2, 1) := dk_28 (dk_at dksX4_goesOn_1 15 rfl rfl)
theorem dX4_goesOn_40 : decode cX4_goesOn 40 = .ok (.iload_n 3, 1) := dk_29 (dk_at dksX4_goesOn_1 16 rfl rfl)
theorem dX4_goesOn_41 : decode cX4_goesOn 41 = .ok (.invokevirtual 226, 3) := dk_182 0 226 (dk_at dksX4_goesOn_1 17 rfl rfl)
theorem dX4_goesOn_44 : decode cX4_goesOn 44 = .ok (.ifCond .eq 5, 3) := dk_153 0 5 (dk_at dksX4_goesOn_1 20 rfl rfl)
theorem dX4_goesOn_47 : decode cX4_goesOn 47 = .ok (.iconst 0, 1) := dk_3 (dk_at dksX4_goesOn_1 23 rfl rfl)
theorem dX4_goesOn_48 : decode cX4_goesOn 48 = .ok (.ireturn, 1) := dk_172 (dk_at dksX4_goesOn_2 0 rfl rfl)
theorem dX4_goesOn_49 : decode cX4_goesOn 49 = .ok (.iinc 3 1, 3) := dk_132 3 1 (dk_at dksX4_goesOn_2 1 rfl rfl)
theorem dX4_goesOn_52 : decode cX4_goesOn 52 = .ok (.goto (-39), 3) := dk_167 255 217 (dk_at dksX4_goesOn_2 4 rfl rfl)
theorem dX4_goesOn_55 : decode cX4_goesOn 55 = .ok (.iconst 1, 1) := dk_4 (dk_at dksX4_goesOn_2 7 rfl rfl)
theorem dX4_goesOn_56 : decode cX4_goesOn 56 = .ok (.ireturn, 1) := dk_172 (dk_at dksX4_goesOn_2 8 rfl rfl)
abbrev cX4_isRepeated : ByteArray := prog_13_method_38_code
def yX4_isRepeated : MethodName := ⟨RX4, "isRepeated", "([II)Z"⟩
def dkwX4_isRepeated_3 : List UInt8 := [3, 172]
abbrev dktX4_isRepeated_3 : List UInt8 := dkwX4_isRepeated_3 ++ []
def dkwX4_isRepeated_2 : List UInt8 := [132, 4, 1, 167, 255, 226, 42, 21, 4, 29, 182, 0, 199, 153, 0, 5, 4, 172, 132, 3, 1, 167, 255, 191]
abbrev dktX4_isRepeated_2 : List UInt8 := dkwX4_isRepeated_2 ++ dktX4_isRepeated_3
def dkwX4_isRepeated_1 : List UInt8 := [162, 0, 30, 43, 28, 4, 100, 21, 4, 100, 46, 43, 28, 4, 100, 21, 4, 100, 29, 96, 46, 160, 0, 9]
abbrev dktX4_isRepeated_1 : List UInt8 := dkwX4_isRepeated_1 ++ dktX4_isRepeated_2
def dkwX4_isRepeated_0 : List UInt8 := [4, 62, 29, 28, 163, 0, 66, 42, 180, 0, 77, 4, 46, 158, 0, 57, 29, 54, 4, 21, 4, 28]
abbrev dktX4_isRepeated_0 : List UInt8 := dkwX4_isRepeated_0 ++ dktX4_isRepeated_1
theorem dksX4_isRepeated_0 : cX4_isRepeated.data.toList.drop 0 = dktX4_isRepeated_0 := by decide +kernel
theorem dksX4_isRepeated_1 : cX4_isRepeated.data.toList.drop 22 = dktX4_isRepeated_1 := dk_seg dksX4_isRepeated_0 22 rfl rfl
theorem dksX4_isRepeated_2 : cX4_isRepeated.data.toList.drop 46 = dktX4_isRepeated_2 := dk_seg dksX4_isRepeated_1 24 rfl rfl
theorem dksX4_isRepeated_3 : cX4_isRepeated.data.toList.drop 70 = dktX4_isRepeated_3 := dk_seg dksX4_isRepeated_2 24 rfl rfl
theorem dX4_isRepeated_0 : decode cX4_isRepeated 0 = .ok (.iconst 1, 1) := dk_4 (dk_at dksX4_isRepeated_0 0 rfl rfl)
theorem dX4_isRepeated_1 : decode cX4_isRepeated 1 = .ok (.istore_n 3, 1) := dk_62 (dk_at dksX4_isRepeated_0 1 rfl rfl)
theorem dX4_isRepeated_2 : decode cX4_isRepeated 2 = .ok (.iload_n 3, 1) := dk_29 (dk_at dksX4_isRepeated_0 2 rfl rfl)
theorem dX4_isRepeated_3 : decode cX4_isRepeated 3 = .ok (.iload_n 2, 1) := dk_28 (dk_at dksX4_isRepeated_0 3 rfl rfl)
theorem dX4_isRepeated_4 : decode cX4_isRepeated 4 = .ok (.if_icmp .gt 66, 3) := dk_163 0 66 (dk_at dksX4_isRepeated_0 4 rfl rfl)
theorem dX4_isRepeated_7 : decode cX4_isRepeated 7 = .ok (.aload_n 0, 1) := dk_42 (dk_at dksX4_isRepeated_0 7 rfl rfl)
theorem dX4_isRepeated_8 : decode cX4_isRepeated 8 = .ok (.getfield 77, 3) := dk_180 0 77 (dk_at dksX4_isRepeated_0 8 rfl rfl)
theorem dX4_isRepeated_11 : decode cX4_isRepeated 11 = .ok (.iconst 1, 1) := dk_4 (dk_at dksX4_isRepeated_0 11 rfl rfl)
theorem dX4_isRepeated_12 : decode cX4_isRepeated 12 = .ok (.iaload, 1) := dk_46 (dk_at dksX4_isRepeated_0 12 rfl rfl)
theorem dX4_isRepeated_13 : decode cX4_isRepeated 13 = .ok (.ifCond .le 57, 3) := dk_158 0 57 (dk_at dksX4_isRepeated_0 13 rfl rfl)
theorem dX4_isRepeated_16 : decode cX4_isRepeated 16 = .ok (.iload_n 3, 1) := dk_29 (dk_at dksX4_isRepeated_0 16 rfl rfl)
theorem dX4_isRepeated_17 : decode cX4_isRepeated 17 = .ok (.istore 4, 2) := dk_54 4 (dk_at dksX4_isRepeated_0 17 rfl rfl)
theorem dX4_isRepeated_19 : decode cX4_isRepeated 19 = .ok (.iload 4, 2) := dk_21 4 (dk_at dksX4_isRepeated_0 19 rfl rfl)
theorem dX4_isRepeated_21 : decode cX4_isRepeated 21 = .ok (.iload_n 2, 1) := dk_28 (dk_at dksX4_isRepeated_0 21 rfl rfl)
theorem dX4_isRepeated_22 : decode cX4_isRepeated 22 = .ok (.if_icmp .ge 30, 3) := dk_162 0 30 (dk_at dksX4_isRepeated_1 0 rfl rfl)
theorem dX4_isRepeated_25 : decode cX4_isRepeated 25 = .ok (.aload_n 1, 1) := dk_43 (dk_at dksX4_isRepeated_1 3 rfl rfl)
theorem dX4_isRepeated_26 : decode cX4_isRepeated 26 = .ok (.iload_n 2, 1) := dk_28 (dk_at dksX4_isRepeated_1 4 rfl rfl)
theorem dX4_isRepeated_27 : decode cX4_isRepeated 27 = .ok (.iconst 1, 1) := dk_4 (dk_at dksX4_isRepeated_1 5 rfl rfl)
theorem dX4_isRepeated_28 : decode cX4_isRepeated 28 = .ok (.isub, 1) := dk_100 (dk_at dksX4_isRepeated_1 6 rfl rfl)
theorem dX4_isRepeated_29 : decode cX4_isRepeated 29 = .ok (.iload 4, 2) := dk_21 4 (dk_at dksX4_isRepeated_1 7 rfl rfl)
theorem dX4_isRepeated_31 : decode cX4_isRepeated 31 = .ok (.isub, 1) := dk_100 (dk_at dksX4_isRepeated_1 9 rfl rfl)
theorem dX4_isRepeated_32 : decode cX4_isRepeated 32 = .ok (.iaload, 1) := dk_46 (dk_at dksX4_isRepeated_1 10 rfl rfl)
theorem dX4_isRepeated_33 : decode cX4_isRepeated 33 = .ok (.aload_n 1, 1) := dk_43 (dk_at dksX4_isRepeated_1 11 rfl rfl)
theorem dX4_isRepeated_34 : decode cX4_isRepeated 34 = .ok (.iload_n 2, 1) := dk_28 (dk_at dksX4_isRepeated_1 12 rfl rfl)
theorem dX4_isRepeated_35 : decode cX4_isRepeated 35 = .ok (.iconst 1, 1) := dk_4 (dk_at dksX4_isRepeated_1 13 rfl rfl)
theorem dX4_isRepeated_36 : decode cX4_isRepeated 36 = .ok (.isub, 1) := dk_100 (dk_at dksX4_isRepeated_1 14 rfl rfl)
theorem dX4_isRepeated_37 : decode cX4_isRepeated 37 = .ok (.iload 4, 2) := dk_21 4 (dk_at dksX4_isRepeated_1 15 rfl rfl)
theorem dX4_isRepeated_39 : decode cX4_isRepeated 39 = .ok (.isub, 1) := dk_100 (dk_at dksX4_isRepeated_1 17 rfl rfl)
theorem dX4_isRepeated_40 : decode cX4_isRepeated 40 = .ok (.iload_n 3, 1) := dk_29 (dk_at dksX4_isRepeated_1 18 rfl rfl)
theorem dX4_isRepeated_41 : decode cX4_isRepeated 41 = .ok (.iadd, 1) := dk_96 (dk_at dksX4_isRepeated_1 19 rfl rfl)
theorem dX4_isRepeated_42 : decode cX4_isRepeated 42 = .ok (.iaload, 1) := dk_46 (dk_at dksX4_isRepeated_1 20 rfl rfl)
theorem dX4_isRepeated_43 : decode cX4_isRepeated 43 = .ok (.if_icmp .ne 9, 3) := dk_160 0 9 (dk_at dksX4_isRepeated_1 21 rfl rfl)
theorem dX4_isRepeated_46 : decode cX4_isRepeated 46 = .ok (.iinc 4 1, 3) := dk_132 4 1 (dk_at dksX4_isRepeated_2 0 rfl rfl)
theorem dX4_isRepeated_49 : decode cX4_isRepeated 49 = .ok (.goto (-30), 3) := dk_167 255 226 (dk_at dksX4_isRepeated_2 3 rfl rfl)
theorem dX4_isRepeated_52 : decode cX4_isRepeated 52 = .ok (.aload_n 0, 1) := dk_42 (dk_at dksX4_isRepeated_2 6 rfl rfl)
theorem dX4_isRepeated_53 : decode cX4_isRepeated 53 = .ok (.iload 4, 2) := dk_21 4 (dk_at dksX4_isRepeated_2 7 rfl rfl)
theorem dX4_isRepeated_55 : decode cX4_isRepeated 55 = .ok (.iload_n 3, 1) := dk_29 (dk_at dksX4_isRepeated_2 9 rfl rfl)
theorem dX4_isRepeated_56 : decode cX4_isRepeated 56 = .ok (.invokevirtual 199, 3) := dk_182 0 199 (dk_at dksX4_isRepeated_2 10 rfl rfl)
theorem dX4_isRepeated_59 : decode cX4_isRepeated 59 = .ok (.ifCond .eq 5, 3) := dk_153 0 5 (dk_at dksX4_isRepeated_2 13 rfl rfl)
theorem dX4_isRepeated_62 : decode cX4_isRepeated 62 = .ok (.iconst 1, 1) := dk_4 (dk_at dksX4_isRepeated_2 16 rfl rfl)
theorem dX4_isRepeated_63 : decode cX4_isRepeated 63 = .ok (.ireturn, 1) := dk_172 (dk_at dksX4_isRepeated_2 17 rfl rfl)
theorem dX4_isRepeated_64 : decode cX4_isRepeated 64 = .ok (.iinc 3 1, 3) := dk_132 3 1 (dk_at dksX4_isRepeated_2 18 rfl rfl)
theorem dX4_isRepeated_67 : decode cX4_isRepeated 67 = .ok (.goto (-65), 3) := dk_167 255 191 (dk_at dksX4_isRepeated_2 21 rfl rfl)
theorem dX4_isRepeated_70 : decode cX4_isRepeated 70 = .ok (.iconst 0, 1) := dk_3 (dk_at dksX4_isRepeated_3 0 rfl rfl)
theorem dX4_isRepeated_71 : decode cX4_isRepeated 71 = .ok (.ireturn, 1) := dk_172 (dk_at dksX4_isRepeated_3 1 rfl rfl)
abbrev cX4_isBeyond : ByteArray := prog_13_method_37_code
def yX4_isBeyond : MethodName := ⟨RX4, "isBeyond", "(II)Z"⟩
def dkwX4_isBeyond_2 : List UInt8 := [160, 0, 11, 29, 158, 0, 7, 4, 167, 0, 4, 3, 172]
abbrev dktX4_isBeyond_2 : List UInt8 := dkwX4_isBeyond_2 ++ []
def dkwX4_isBeyond_1 : List UInt8 := [4, 160, 0, 15, 29, 155, 0, 7, 4, 167, 0, 26, 3, 167, 0, 22, 42, 180, 0, 77, 4, 46, 5]
abbrev dktX4_isBeyond_1 : List UInt8 := dkwX4_isBeyond_1 ++ dktX4_isBeyond_2
def dkwX4_isBeyond_0 : List UInt8 := [27, 42, 180, 0, 77, 6, 46, 104, 42, 180, 0, 77, 5, 46, 28, 104, 100, 62, 42, 180, 0, 77, 4, 46]
abbrev dktX4_isBeyond_0 : List UInt8 := dkwX4_isBeyond_0 ++ dktX4_isBeyond_1
theorem dksX4_isBeyond_0 : cX4_isBeyond.data.toList.drop 0 = dktX4_isBeyond_0 := by decide +kernel
theorem dksX4_isBeyond_1 : cX4_isBeyond.data.toList.drop 24 = dktX4_isBeyond_1 := dk_seg dksX4_isBeyond_0 24 rfl rfl
theorem dksX4_isBeyond_2 : cX4_isBeyond.data.toList.drop 47 = dktX4_isBeyond_2 := dk_seg dksX4_isBeyond_1 23 rfl rfl
theorem dX4_isBeyond_0 : decode cX4_isBeyond 0 = .ok (.iload_n 1, 1) := dk_27 (dk_at dksX4_isBeyond_0 0 rfl rfl)
theorem dX4_isBeyond_1 : decode cX4_isBeyond 1 = .ok (.aload_n 0, 1) := dk_42 (dk_at dksX4_isBeyond_0 1 rfl rfl)
theorem dX4_isBeyond_2 : decode cX4_isBeyond 2 = .ok (.getfield 77, 3) := dk_180 0 77 (dk_at dksX4_isBeyond_0 2 rfl rfl)
theorem dX4_isBeyond_5 : decode cX4_isBeyond 5 = .ok (.iconst 3, 1) := dk_6 (dk_at dksX4_isBeyond_0 5 rfl rfl)
theorem dX4_isBeyond_6 : decode cX4_isBeyond 6 = .ok (.iaload, 1) := dk_46 (dk_at dksX4_isBeyond_0 6 rfl rfl)
theorem dX4_isBeyond_7 : decode cX4_isBeyond 7 = .ok (.imul, 1) := dk_104 (dk_at dksX4_isBeyond_0 7 rfl rfl)
theorem dX4_isBeyond_8 : decode cX4_isBeyond 8 = .ok (.aload_n 0, 1) := dk_42 (dk_at dksX4_isBeyond_0 8 rfl rfl)
theorem dX4_isBeyond_9 : decode cX4_isBeyond 9 = .ok (.getfield 77, 3) := dk_180 0 77 (dk_at dksX4_isBeyond_0 9 rfl rfl)
theorem dX4_isBeyond_12 : decode cX4_isBeyond 12 = .ok (.iconst 2, 1) := dk_5 (dk_at dksX4_isBeyond_0 12 rfl rfl)
theorem dX4_isBeyond_13 : decode cX4_isBeyond 13 = .ok (.iaload, 1) := dk_46 (dk_at dksX4_isBeyond_0 13 rfl rfl)
theorem dX4_isBeyond_14 : decode cX4_isBeyond 14 = .ok (.iload_n 2, 1) := dk_28 (dk_at dksX4_isBeyond_0 14 rfl rfl)
theorem dX4_isBeyond_15 : decode cX4_isBeyond 15 = .ok (.imul, 1) := dk_104 (dk_at dksX4_isBeyond_0 15 rfl rfl)
theorem dX4_isBeyond_16 : decode cX4_isBeyond 16 = .ok (.isub, 1) := dk_100 (dk_at dksX4_isBeyond_0 16 rfl rfl)
theorem dX4_isBeyond_17 : decode cX4_isBeyond 17 = .ok (.istore_n 3, 1) := dk_62 (dk_at dksX4_isBeyond_0 17 rfl rfl)
theorem dX4_isBeyond_18 : decode cX4_isBeyond 18 = .ok (.aload_n 0, 1) := dk_42 (dk_at dksX4_isBeyond_0 18 rfl rfl)
theorem dX4_isBeyond_19 : decode cX4_isBeyond 19 = .ok (.getfield 77, 3) := dk_180 0 77 (dk_at dksX4_isBeyond_0 19 rfl rfl)
theorem dX4_isBeyond_22 : decode cX4_isBeyond 22 = .ok (.iconst 1, 1) := dk_4 (dk_at dksX4_isBeyond_0 22 rfl rfl)
theorem dX4_isBeyond_23 : decode cX4_isBeyond 23 = .ok (.iaload, 1) := dk_46 (dk_at dksX4_isBeyond_0 23 rfl rfl)
theorem dX4_isBeyond_24 : decode cX4_isBeyond 24 = .ok (.iconst 1, 1) := dk_4 (dk_at dksX4_isBeyond_1 0 rfl rfl)
theorem dX4_isBeyond_25 : decode cX4_isBeyond 25 = .ok (.if_icmp .ne 15, 3) := dk_160 0 15 (dk_at dksX4_isBeyond_1 1 rfl rfl)
theorem dX4_isBeyond_28 : decode cX4_isBeyond 28 = .ok (.iload_n 3, 1) := dk_29 (dk_at dksX4_isBeyond_1 4 rfl rfl)
theorem dX4_isBeyond_29 : decode cX4_isBeyond 29 = .ok (.ifCond .lt 7, 3) := dk_155 0 7 (dk_at dksX4_isBeyond_1 5 rfl rfl)
theorem dX4_isBeyond_32 : decode cX4_isBeyond 32 = .ok (.iconst 1, 1) := dk_4 (dk_at dksX4_isBeyond_1 8 rfl rfl)
theorem dX4_isBeyond_33 : decode cX4_isBeyond 33 = .ok (.goto 26, 3) := dk_167 0 26 (dk_at dksX4_isBeyond_1 9 rfl rfl)
theorem dX4_isBeyond_36 : decode cX4_isBeyond 36 = .ok (.iconst 0, 1) := dk_3 (dk_at dksX4_isBeyond_1 12 rfl rfl)
theorem dX4_isBeyond_37 : decode cX4_isBeyond 37 = .ok (.goto 22, 3) := dk_167 0 22 (dk_at dksX4_isBeyond_1 13 rfl rfl)
theorem dX4_isBeyond_40 : decode cX4_isBeyond 40 = .ok (.aload_n 0, 1) := dk_42 (dk_at dksX4_isBeyond_1 16 rfl rfl)
theorem dX4_isBeyond_41 : decode cX4_isBeyond 41 = .ok (.getfield 77, 3) := dk_180 0 77 (dk_at dksX4_isBeyond_1 17 rfl rfl)
theorem dX4_isBeyond_44 : decode cX4_isBeyond 44 = .ok (.iconst 1, 1) := dk_4 (dk_at dksX4_isBeyond_1 20 rfl rfl)
theorem dX4_isBeyond_45 : decode cX4_isBeyond 45 = .ok (.iaload, 1) := dk_46 (dk_at dksX4_isBeyond_1 21 rfl rfl)
theorem dX4_isBeyond_46 : decode cX4_isBeyond 46 = .ok (.iconst 2, 1) := dk_5 (dk_at dksX4_isBeyond_1 22 rfl rfl)
theorem dX4_isBeyond_47 : decode cX4_isBeyond 47 = .ok (.if_icmp .ne 11, 3) := dk_160 0 11 (dk_at dksX4_isBeyond_2 0 rfl rfl)
theorem dX4_isBeyond_50 : decode cX4_isBeyond 50 = .ok (.iload_n 3, 1) := dk_29 (dk_at dksX4_isBeyond_2 3 rfl rfl)
theorem dX4_isBeyond_51 : decode cX4_isBeyond 51 = .ok (.ifCond .le 7, 3) := dk_158 0 7 (dk_at dksX4_isBeyond_2 4 rfl rfl)
theorem dX4_isBeyond_54 : decode cX4_isBeyond 54 = .ok (.iconst 1, 1) := dk_4 (dk_at dksX4_isBeyond_2 7 rfl rfl)
theorem dX4_isBeyond_55 : decode cX4_isBeyond 55 = .ok (.goto 4, 3) := dk_167 0 4 (dk_at dksX4_isBeyond_2 8 rfl rfl)
theorem dX4_isBeyond_58 : decode cX4_isBeyond 58 = .ok (.iconst 0, 1) := dk_3 (dk_at dksX4_isBeyond_2 11 rfl rfl)
theorem dX4_isBeyond_59 : decode cX4_isBeyond 59 = .ok (.ireturn, 1) := dk_172 (dk_at dksX4_isBeyond_2 12 rfl rfl)
abbrev cX4_endsBy : ByteArray := prog_13_method_45_code
def yX4_endsBy : MethodName := ⟨RX4, "endsBy", "([III)Z"⟩
def dkwX4_endsBy_1 : List UInt8 := [182, 0, 215, 153, 0, 5, 4, 172, 42, 29, 28, 182, 0, 219, 54, 4, 167, 255, 225, 3, 172]
abbrev dktX4_endsBy_1 : List UInt8 := dkwX4_endsBy_1 ++ []
def dkwX4_endsBy_0 : List UInt8 := [42, 29, 28, 182, 0, 212, 54, 4, 21, 4, 153, 0, 32, 42, 43, 28, 42, 29, 182, 0, 208, 100, 29]
abbrev dktX4_endsBy_0 : List UInt8 := dkwX4_endsBy_0 ++ dktX4_endsBy_1
theorem dksX4_endsBy_0 : cX4_endsBy.data.toList.drop 0 = dktX4_endsBy_0 := by decide +kernel
theorem dksX4_endsBy_1 : cX4_endsBy.data.toList.drop 23 = dktX4_endsBy_1 := dk_seg dksX4_endsBy_0 23 rfl rfl
theorem dX4_endsBy_0 : decode cX4_endsBy 0 = .ok (.aload_n 0, 1) := dk_42 (dk_at dksX4_endsBy_0 0 rfl rfl)
theorem dX4_endsBy_1 : decode cX4_endsBy 1 = .ok (.iload_n 3, 1) := dk_29 (dk_at dksX4_endsBy_0 1 rfl rfl)
theorem dX4_endsBy_2 : decode cX4_endsBy 2 = .ok (.iload_n 2, 1) := dk_28 (dk_at dksX4_endsBy_0 2 rfl rfl)
theorem dX4_endsBy_3 : decode cX4_endsBy 3 = .ok (.invokevirtual 212, 3) := dk_182 0 212 (dk_at dksX4_endsBy_0 3 rfl rfl)
theorem dX4_endsBy_6 : decode cX4_endsBy 6 = .ok (.istore 4, 2) := dk_54 4 (dk_at dksX4_endsBy_0 6 rfl rfl)
theorem dX4_endsBy_8 : decode cX4_endsBy 8 = .ok (.iload 4, 2) := dk_21 4 (dk_at dksX4_endsBy_0 8 rfl rfl)
theorem dX4_endsBy_10 : decode cX4_endsBy 10 = .ok (.ifCond .eq 32, 3) := dk_153 0 32 (dk_at dksX4_endsBy_0 10 rfl rfl)
theorem dX4_endsBy_13 : decode cX4_endsBy 13 = .ok (.aload_n 0, 1) := dk_42 (dk_at dksX4_endsBy_0 13 rfl rfl)
theorem dX4_endsBy_14 : decode cX4_endsBy 14 = .ok (.aload_n 1, 1) := dk_43 (dk_at dksX4_endsBy_0 14 rfl rfl)
theorem dX4_endsBy_15 : decode cX4_endsBy 15 = .ok (.iload_n 2, 1) := dk_28 (dk_at dksX4_endsBy_0 15 rfl rfl)
theorem dX4_endsBy_16 : decode cX4_endsBy 16 = .ok (.aload_n 0, 1) := dk_42 (dk_at dksX4_endsBy_0 16 rfl rfl)
theorem dX4_endsBy_17 : decode cX4_endsBy 17 = .ok (.iload_n 3, 1) := dk_29 (dk_at dksX4_endsBy_0 17 rfl rfl)
theorem dX4_endsBy_18 : decode cX4_endsBy 18 = .ok (.invokevirtual 208, 3) := dk_182 0 208 (dk_at dksX4_endsBy_0 18 rfl rfl)
theorem dX4_endsBy_21 : decode cX4_endsBy 21 = .ok (.isub, 1) := dk_100 (dk_at dksX4_endsBy_0 21 rfl rfl)
theorem dX4_endsBy_22 : decode cX4_endsBy 22 = .ok (.iload_n 3, 1) := dk_29 (dk_at dksX4_endsBy_0 22 rfl rfl)
theorem dX4_endsBy_23 : decode cX4_endsBy 23 = .ok (.invokevirtual 215, 3) := dk_182 0 215 (dk_at dksX4_endsBy_1 0 rfl rfl)
theorem dX4_endsBy_26 : decode cX4_endsBy 26 = .ok (.ifCond .eq 5, 3) := dk_153 0 5 (dk_at dksX4_endsBy_1 3 rfl rfl)
theorem dX4_endsBy_29 : decode cX4_endsBy 29 = .ok (.iconst 1, 1) := dk_4 (dk_at dksX4_endsBy_1 6 rfl rfl)
theorem dX4_endsBy_30 : decode cX4_endsBy 30 = .ok (.ireturn, 1) := dk_172 (dk_at dksX4_endsBy_1 7 rfl rfl)
theorem dX4_endsBy_31 : decode cX4_endsBy 31 = .ok (.aload_n 0, 1) := dk_42 (dk_at dksX4_endsBy_1 8 rfl rfl)
theorem dX4_endsBy_32 : decode cX4_endsBy 32 = .ok (.iload_n 3, 1) := dk_29 (dk_at dksX4_endsBy_1 9 rfl rfl)
theorem dX4_endsBy_33 : decode cX4_endsBy 33 = .ok (.iload_n 2, 1) := dk_28 (dk_at dksX4_endsBy_1 10 rfl rfl)
theorem dX4_endsBy_34 : decode cX4_endsBy 34 = .ok (.invokevirtual 219, 3) := dk_182 0 219 (dk_at dksX4_endsBy_1 11 rfl rfl)
theorem dX4_endsBy_37 : decode cX4_endsBy 37 = .ok (.istore 4, 2) := dk_54 4 (dk_at dksX4_endsBy_1 14 rfl rfl)
theorem dX4_endsBy_39 : decode cX4_endsBy 39 = .ok (.goto (-31), 3) := dk_167 255 225 (dk_at dksX4_endsBy_1 16 rfl rfl)
theorem dX4_endsBy_42 : decode cX4_endsBy 42 = .ok (.iconst 0, 1) := dk_3 (dk_at dksX4_endsBy_1 19 rfl rfl)
theorem dX4_endsBy_43 : decode cX4_endsBy 43 = .ok (.ireturn, 1) := dk_172 (dk_at dksX4_endsBy_1 20 rfl rfl)
abbrev cX4_firstSizes : ByteArray := prog_13_method_44_code
def yX4_firstSizes : MethodName := ⟨RX4, "firstSizes", "(II)Z"⟩
def dkwX4_firstSizes_2 : List UInt8 := [3, 172]
abbrev dktX4_firstSizes_2 : List UInt8 := dkwX4_firstSizes_2 ++ []
def dkwX4_firstSizes_1 : List UInt8 := [167, 0, 4, 3, 79, 132, 3, 1, 167, 255, 228, 42, 27, 182, 0, 208, 28, 163, 0, 7, 4, 167, 0, 4]
abbrev dktX4_firstSizes_1 : List UInt8 := dkwX4_firstSizes_1 ++ dktX4_firstSizes_2
def dkwX4_firstSizes_0 : List UInt8 := [3, 62, 29, 6, 162, 0, 29, 42, 180, 0, 92, 29, 42, 27, 29, 182, 0, 205, 153, 0, 7, 4]
abbrev dktX4_firstSizes_0 : List UInt8 := dkwX4_firstSizes_0 ++ dktX4_firstSizes_1
theorem dksX4_firstSizes_0 : cX4_firstSizes.data.toList.drop 0 = dktX4_firstSizes_0 := by decide +kernel
theorem dksX4_firstSizes_1 : cX4_firstSizes.data.toList.drop 22 = dktX4_firstSizes_1 := dk_seg dksX4_firstSizes_0 22 rfl rfl
theorem dksX4_firstSizes_2 : cX4_firstSizes.data.toList.drop 46 = dktX4_firstSizes_2 := dk_seg dksX4_firstSizes_1 24 rfl rfl
theorem dX4_firstSizes_0 : decode cX4_firstSizes 0 = .ok (.iconst 0, 1) := dk_3 (dk_at dksX4_firstSizes_0 0 rfl rfl)
theorem dX4_firstSizes_1 : decode cX4_firstSizes 1 = .ok (.istore_n 3, 1) := dk_62 (dk_at dksX4_firstSizes_0 1 rfl rfl)
theorem dX4_firstSizes_2 : decode cX4_firstSizes 2 = .ok (.iload_n 3, 1) := dk_29 (dk_at dksX4_firstSizes_0 2 rfl rfl)
theorem dX4_firstSizes_3 : decode cX4_firstSizes 3 = .ok (.iconst 3, 1) := dk_6 (dk_at dksX4_firstSizes_0 3 rfl rfl)
theorem dX4_firstSizes_4 : decode cX4_firstSizes 4 = .ok (.if_icmp .ge 29, 3) := dk_162 0 29 (dk_at dksX4_firstSizes_0 4 rfl rfl)
theorem dX4_firstSizes_7 : decode cX4_firstSizes 7 = .ok (.aload_n 0, 1) := dk_42 (dk_at dksX4_firstSizes_0 7 rfl rfl)
theorem dX4_firstSizes_8 : decode cX4_firstSizes 8 = .ok (.getfield 92, 3) := dk_180 0 92 (dk_at dksX4_firstSizes_0 8 rfl rfl)
theorem dX4_firstSizes_11 : decode cX4_firstSizes 11 = .ok (.iload_n 3, 1) := dk_29 (dk_at dksX4_firstSizes_0 11 rfl rfl)
theorem dX4_firstSizes_12 : decode cX4_firstSizes 12 = .ok (.aload_n 0, 1) := dk_42 (dk_at dksX4_firstSizes_0 12 rfl rfl)
theorem dX4_firstSizes_13 : decode cX4_firstSizes 13 = .ok (.iload_n 1, 1) := dk_27 (dk_at dksX4_firstSizes_0 13 rfl rfl)
theorem dX4_firstSizes_14 : decode cX4_firstSizes 14 = .ok (.iload_n 3, 1) := dk_29 (dk_at dksX4_firstSizes_0 14 rfl rfl)
theorem dX4_firstSizes_15 : decode cX4_firstSizes 15 = .ok (.invokevirtual 205, 3) := dk_182 0 205 (dk_at dksX4_firstSizes_0 15 rfl rfl)
theorem dX4_firstSizes_18 : decode cX4_firstSizes 18 = .ok (.ifCond .eq 7, 3) := dk_153 0 7 (dk_at dksX4_firstSizes_0 18 rfl rfl)
theorem dX4_firstSizes_21 : decode cX4_firstSizes 21 = .ok (.iconst 1, 1) := dk_4 (dk_at dksX4_firstSizes_0 21 rfl rfl)
theorem dX4_firstSizes_22 : decode cX4_firstSizes 22 = .ok (.goto 4, 3) := dk_167 0 4 (dk_at dksX4_firstSizes_1 0 rfl rfl)
theorem dX4_firstSizes_25 : decode cX4_firstSizes 25 = .ok (.iconst 0, 1) := dk_3 (dk_at dksX4_firstSizes_1 3 rfl rfl)
theorem dX4_firstSizes_26 : decode cX4_firstSizes 26 = .ok (.iastore, 1) := dk_79 (dk_at dksX4_firstSizes_1 4 rfl rfl)
theorem dX4_firstSizes_27 : decode cX4_firstSizes 27 = .ok (.iinc 3 1, 3) := dk_132 3 1 (dk_at dksX4_firstSizes_1 5 rfl rfl)
theorem dX4_firstSizes_30 : decode cX4_firstSizes 30 = .ok (.goto (-28), 3) := dk_167 255 228 (dk_at dksX4_firstSizes_1 8 rfl rfl)
theorem dX4_firstSizes_33 : decode cX4_firstSizes 33 = .ok (.aload_n 0, 1) := dk_42 (dk_at dksX4_firstSizes_1 11 rfl rfl)
theorem dX4_firstSizes_34 : decode cX4_firstSizes 34 = .ok (.iload_n 1, 1) := dk_27 (dk_at dksX4_firstSizes_1 12 rfl rfl)
theorem dX4_firstSizes_35 : decode cX4_firstSizes 35 = .ok (.invokevirtual 208, 3) := dk_182 0 208 (dk_at dksX4_firstSizes_1 13 rfl rfl)
theorem dX4_firstSizes_38 : decode cX4_firstSizes 38 = .ok (.iload_n 2, 1) := dk_28 (dk_at dksX4_firstSizes_1 16 rfl rfl)
theorem dX4_firstSizes_39 : decode cX4_firstSizes 39 = .ok (.if_icmp .gt 7, 3) := dk_163 0 7 (dk_at dksX4_firstSizes_1 17 rfl rfl)
theorem dX4_firstSizes_42 : decode cX4_firstSizes 42 = .ok (.iconst 1, 1) := dk_4 (dk_at dksX4_firstSizes_1 20 rfl rfl)
theorem dX4_firstSizes_43 : decode cX4_firstSizes 43 = .ok (.goto 4, 3) := dk_167 0 4 (dk_at dksX4_firstSizes_1 21 rfl rfl)
theorem dX4_firstSizes_46 : decode cX4_firstSizes 46 = .ok (.iconst 0, 1) := dk_3 (dk_at dksX4_firstSizes_2 0 rfl rfl)
theorem dX4_firstSizes_47 : decode cX4_firstSizes 47 = .ok (.ireturn, 1) := dk_172 (dk_at dksX4_firstSizes_2 1 rfl rfl)
abbrev cX4_hasLetter : ByteArray := prog_13_method_40_code
def yX4_hasLetter : MethodName := ⟨RX4, "hasLetter", "(II)Z"⟩
def dkwX4_hasLetter_1 : List UInt8 := [160, 0, 5, 4, 172, 132, 3, 1, 167, 255, 227, 3, 172]
abbrev dktX4_hasLetter_1 : List UInt8 := dkwX4_hasLetter_1 ++ []
def dkwX4_hasLetter_0 : List UInt8 := [3, 62, 29, 42, 180, 0, 77, 17, 0, 166, 27, 96, 46, 162, 0, 21, 42, 27, 29, 182, 0, 202, 28]
abbrev dktX4_hasLetter_0 : List UInt8 := dkwX4_hasLetter_0 ++ dktX4_hasLetter_1
theorem dksX4_hasLetter_0 : cX4_hasLetter.data.toList.drop 0 = dktX4_hasLetter_0 := by decide +kernel
theorem dksX4_hasLetter_1 : cX4_hasLetter.data.toList.drop 23 = dktX4_hasLetter_1 := dk_seg dksX4_hasLetter_0 23 rfl rfl
theorem dX4_hasLetter_0 : decode cX4_hasLetter 0 = .ok (.iconst 0, 1) := dk_3 (dk_at dksX4_hasLetter_0 0 rfl rfl)
theorem dX4_hasLetter_1 : decode cX4_hasLetter 1 = .ok (.istore_n 3, 1) := dk_62 (dk_at dksX4_hasLetter_0 1 rfl rfl)
theorem dX4_hasLetter_2 : decode cX4_hasLetter 2 = .ok (.iload_n 3, 1) := dk_29 (dk_at dksX4_hasLetter_0 2 rfl rfl)
theorem dX4_hasLetter_3 : decode cX4_hasLetter 3 = .ok (.aload_n 0, 1) := dk_42 (dk_at dksX4_hasLetter_0 3 rfl rfl)
theorem dX4_hasLetter_4 : decode cX4_hasLetter 4 = .ok (.getfield 77, 3) := dk_180 0 77 (dk_at dksX4_hasLetter_0 4 rfl rfl)
theorem dX4_hasLetter_7 : decode cX4_hasLetter 7 = .ok (.sipush 166, 3) := dk_17 0 166 (dk_at dksX4_hasLetter_0 7 rfl rfl)
theorem dX4_hasLetter_10 : decode cX4_hasLetter 10 = .ok (.iload_n 1, 1) := dk_27 (dk_at dksX4_hasLetter_0 10 rfl rfl)
theorem dX4_hasLetter_11 : decode cX4_hasLetter 11 = .ok (.iadd, 1) := dk_96 (dk_at dksX4_hasLetter_0 11 rfl rfl)
theorem dX4_hasLetter_12 : decode cX4_hasLetter 12 = .ok (.iaload, 1) := dk_46 (dk_at dksX4_hasLetter_0 12 rfl rfl)
theorem dX4_hasLetter_13 : decode cX4_hasLetter 13 = .ok (.if_icmp .ge 21, 3) := dk_162 0 21 (dk_at dksX4_hasLetter_0 13 rfl rfl)
theorem dX4_hasLetter_16 : decode cX4_hasLetter 16 = .ok (.aload_n 0, 1) := dk_42 (dk_at dksX4_hasLetter_0 16 rfl rfl)
theorem dX4_hasLetter_17 : decode cX4_hasLetter 17 = .ok (.iload_n 1, 1) := dk_27 (dk_at dksX4_hasLetter_0 17 rfl rfl)
theorem dX4_hasLetter_18 : decode cX4_hasLetter 18 = .ok (.iload_n 3, 1) := dk_29 (dk_at dksX4_hasLetter_0 18 rfl rfl)
theorem dX4_hasLetter_19 : decode cX4_hasLetter 19 = .ok (.invokevirtual 202, 3) := dk_182 0 202 (dk_at dksX4_hasLetter_0 19 rfl rfl)
theorem dX4_hasLetter_22 : decode cX4_hasLetter 22 = .ok (.iload_n 2, 1) := dk_28 (dk_at dksX4_hasLetter_0 22 rfl rfl)
theorem dX4_hasLetter_23 : decode cX4_hasLetter 23 = .ok (.if_icmp .ne 5, 3) := dk_160 0 5 (dk_at dksX4_hasLetter_1 0 rfl rfl)
theorem dX4_hasLetter_26 : decode cX4_hasLetter 26 = .ok (.iconst 1, 1) := dk_4 (dk_at dksX4_hasLetter_1 3 rfl rfl)
theorem dX4_hasLetter_27 : decode cX4_hasLetter 27 = .ok (.ireturn, 1) := dk_172 (dk_at dksX4_hasLetter_1 4 rfl rfl)
theorem dX4_hasLetter_28 : decode cX4_hasLetter 28 = .ok (.iinc 3 1, 3) := dk_132 3 1 (dk_at dksX4_hasLetter_1 5 rfl rfl)
theorem dX4_hasLetter_31 : decode cX4_hasLetter 31 = .ok (.goto (-29), 3) := dk_167 255 227 (dk_at dksX4_hasLetter_1 8 rfl rfl)
theorem dX4_hasLetter_34 : decode cX4_hasLetter 34 = .ok (.iconst 0, 1) := dk_3 (dk_at dksX4_hasLetter_1 11 rfl rfl)
theorem dX4_hasLetter_35 : decode cX4_hasLetter 35 = .ok (.ireturn, 1) := dk_172 (dk_at dksX4_hasLetter_1 12 rfl rfl)
abbrev cX4_letterOf : ByteArray := prog_13_method_39_code
def yX4_letterOf : MethodName := ⟨RX4, "letterOf", "(II)I"⟩
def dkwX4_letterOf_0 : List UInt8 := [42, 180, 0, 77, 17, 0, 170, 16, 6, 27, 104, 96, 28, 96, 46, 172]
abbrev dktX4_letterOf_0 : List UInt8 := dkwX4_letterOf_0 ++ []
theorem dksX4_letterOf_0 : cX4_letterOf.data.toList.drop 0 = dktX4_letterOf_0 := by decide +kernel
theorem dX4_letterOf_0 : decode cX4_letterOf 0 = .ok (.aload_n 0, 1) := dk_42 (dk_at dksX4_letterOf_0 0 rfl rfl)
theorem dX4_letterOf_1 : decode cX4_letterOf 1 = .ok (.getfield 77, 3) := dk_180 0 77 (dk_at dksX4_letterOf_0 1 rfl rfl)
theorem dX4_letterOf_4 : decode cX4_letterOf 4 = .ok (.sipush 170, 3) := dk_17 0 170 (dk_at dksX4_letterOf_0 4 rfl rfl)
theorem dX4_letterOf_7 : decode cX4_letterOf 7 = .ok (.bipush 6, 2) := dk_16 6 (dk_at dksX4_letterOf_0 7 rfl rfl)
theorem dX4_letterOf_9 : decode cX4_letterOf 9 = .ok (.iload_n 1, 1) := dk_27 (dk_at dksX4_letterOf_0 9 rfl rfl)
theorem dX4_letterOf_10 : decode cX4_letterOf 10 = .ok (.imul, 1) := dk_104 (dk_at dksX4_letterOf_0 10 rfl rfl)
theorem dX4_letterOf_11 : decode cX4_letterOf 11 = .ok (.iadd, 1) := dk_96 (dk_at dksX4_letterOf_0 11 rfl rfl)
theorem dX4_letterOf_12 : decode cX4_letterOf 12 = .ok (.iload_n 2, 1) := dk_28 (dk_at dksX4_letterOf_0 12 rfl rfl)
theorem dX4_letterOf_13 : decode cX4_letterOf 13 = .ok (.iadd, 1) := dk_96 (dk_at dksX4_letterOf_0 13 rfl rfl)
theorem dX4_letterOf_14 : decode cX4_letterOf 14 = .ok (.iaload, 1) := dk_46 (dk_at dksX4_letterOf_0 14 rfl rfl)
theorem dX4_letterOf_15 : decode cX4_letterOf 15 = .ok (.ireturn, 1) := dk_172 (dk_at dksX4_letterOf_0 15 rfl rfl)
abbrev cX4_longBy : ByteArray := prog_13_method_41_code
def yX4_longBy : MethodName := ⟨RX4, "longBy", "(I)I"⟩
def dkwX4_longBy_1 : List UInt8 := [27, 29, 182, 0, 202, 46, 96, 61, 132, 3, 1, 167, 255, 225, 28, 172]
abbrev dktX4_longBy_1 : List UInt8 := dkwX4_longBy_1 ++ []
def dkwX4_longBy_0 : List UInt8 := [3, 61, 3, 62, 29, 42, 180, 0, 77, 17, 0, 166, 27, 96, 46, 162, 0, 23, 28, 42, 180, 0, 92, 42]
abbrev dktX4_longBy_0 : List UInt8 := dkwX4_longBy_0 ++ dktX4_longBy_1
theorem dksX4_longBy_0 : cX4_longBy.data.toList.drop 0 = dktX4_longBy_0 := by decide +kernel
theorem dksX4_longBy_1 : cX4_longBy.data.toList.drop 24 = dktX4_longBy_1 := dk_seg dksX4_longBy_0 24 rfl rfl
theorem dX4_longBy_0 : decode cX4_longBy 0 = .ok (.iconst 0, 1) := dk_3 (dk_at dksX4_longBy_0 0 rfl rfl)
theorem dX4_longBy_1 : decode cX4_longBy 1 = .ok (.istore_n 2, 1) := dk_61 (dk_at dksX4_longBy_0 1 rfl rfl)
theorem dX4_longBy_2 : decode cX4_longBy 2 = .ok (.iconst 0, 1) := dk_3 (dk_at dksX4_longBy_0 2 rfl rfl)
theorem dX4_longBy_3 : decode cX4_longBy 3 = .ok (.istore_n 3, 1) := dk_62 (dk_at dksX4_longBy_0 3 rfl rfl)
theorem dX4_longBy_4 : decode cX4_longBy 4 = .ok (.iload_n 3, 1) := dk_29 (dk_at dksX4_longBy_0 4 rfl rfl)
theorem dX4_longBy_5 : decode cX4_longBy 5 = .ok (.aload_n 0, 1) := dk_42 (dk_at dksX4_longBy_0 5 rfl rfl)
theorem dX4_longBy_6 : decode cX4_longBy 6 = .ok (.getfield 77, 3) := dk_180 0 77 (dk_at dksX4_longBy_0 6 rfl rfl)
theorem dX4_longBy_9 : decode cX4_longBy 9 = .ok (.sipush 166, 3) := dk_17 0 166 (dk_at dksX4_longBy_0 9 rfl rfl)
theorem dX4_longBy_12 : decode cX4_longBy 12 = .ok (.iload_n 1, 1) := dk_27 (dk_at dksX4_longBy_0 12 rfl rfl)
theorem dX4_longBy_13 : decode cX4_longBy 13 = .ok (.iadd, 1) := dk_96 (dk_at dksX4_longBy_0 13 rfl rfl)
theorem dX4_longBy_14 : decode cX4_longBy 14 = .ok (.iaload, 1) := dk_46 (dk_at dksX4_longBy_0 14 rfl rfl)
theorem dX4_longBy_15 : decode cX4_longBy 15 = .ok (.if_icmp .ge 23, 3) := dk_162 0 23 (dk_at dksX4_longBy_0 15 rfl rfl)
theorem dX4_longBy_18 : decode cX4_longBy 18 = .ok (.iload_n 2, 1) := dk_28 (dk_at dksX4_longBy_0 18 rfl rfl)
theorem dX4_longBy_19 : decode cX4_longBy 19 = .ok (.aload_n 0, 1) := dk_42 (dk_at dksX4_longBy_0 19 rfl rfl)
theorem dX4_longBy_20 : decode cX4_longBy 20 = .ok (.getfield 92, 3) := dk_180 0 92 (dk_at dksX4_longBy_0 20 rfl rfl)
theorem dX4_longBy_23 : decode cX4_longBy 23 = .ok (.aload_n 0, 1) := dk_42 (dk_at dksX4_longBy_0 23 rfl rfl)
theorem dX4_longBy_24 : decode cX4_longBy 24 = .ok (.iload_n 1, 1) := dk_27 (dk_at dksX4_longBy_1 0 rfl rfl)
theorem dX4_longBy_25 : decode cX4_longBy 25 = .ok (.iload_n 3, 1) := dk_29 (dk_at dksX4_longBy_1 1 rfl rfl)
theorem dX4_longBy_26 : decode cX4_longBy 26 = .ok (.invokevirtual 202, 3) := dk_182 0 202 (dk_at dksX4_longBy_1 2 rfl rfl)
theorem dX4_longBy_29 : decode cX4_longBy 29 = .ok (.iaload, 1) := dk_46 (dk_at dksX4_longBy_1 5 rfl rfl)
theorem dX4_longBy_30 : decode cX4_longBy 30 = .ok (.iadd, 1) := dk_96 (dk_at dksX4_longBy_1 6 rfl rfl)
theorem dX4_longBy_31 : decode cX4_longBy 31 = .ok (.istore_n 2, 1) := dk_61 (dk_at dksX4_longBy_1 7 rfl rfl)
theorem dX4_longBy_32 : decode cX4_longBy 32 = .ok (.iinc 3 1, 3) := dk_132 3 1 (dk_at dksX4_longBy_1 8 rfl rfl)
theorem dX4_longBy_35 : decode cX4_longBy 35 = .ok (.goto (-31), 3) := dk_167 255 225 (dk_at dksX4_longBy_1 11 rfl rfl)
theorem dX4_longBy_38 : decode cX4_longBy 38 = .ok (.iload_n 2, 1) := dk_28 (dk_at dksX4_longBy_1 14 rfl rfl)
theorem dX4_longBy_39 : decode cX4_longBy 39 = .ok (.ireturn, 1) := dk_172 (dk_at dksX4_longBy_1 15 rfl rfl)
abbrev cX4_fitsAt : ByteArray := prog_13_method_42_code
def yX4_fitsAt : MethodName := ⟨RX4, "fitsAt", "([III)Z"⟩
def dkwX4_fitsAt_5 : List UInt8 := [167, 255, 217, 21, 4, 42, 180, 0, 92, 21, 6, 46, 96, 54, 4, 132, 5, 1, 167, 255, 152, 4, 172]
abbrev dktX4_fitsAt_5 : List UInt8 := dkwX4_fitsAt_5 ++ []
def dkwX4_fitsAt_4 : List UInt8 := [21, 6, 46, 21, 7, 96, 46, 43, 21, 4, 21, 7, 96, 46, 159, 0, 5, 3, 172, 132, 7, 1]
abbrev dktX4_fitsAt_4 : List UInt8 := dkwX4_fitsAt_4 ++ dktX4_fitsAt_5
def dkwX4_fitsAt_3 : List UInt8 := [21, 4, 79, 3, 54, 7, 21, 7, 42, 180, 0, 92, 21, 6, 46, 162, 0, 33, 43, 42, 180, 0, 95]
abbrev dktX4_fitsAt_3 : List UInt8 := dkwX4_fitsAt_3 ++ dktX4_fitsAt_4
def dkwX4_fitsAt_2 : List UInt8 := [21, 5, 182, 0, 202, 54, 6, 42, 180, 0, 95, 21, 6, 46, 2, 160, 0, 12, 42, 180, 0, 95, 21, 6]
abbrev dktX4_fitsAt_2 : List UInt8 := dkwX4_fitsAt_2 ++ dktX4_fitsAt_3
def dkwX4_fitsAt_1 : List UInt8 := [167, 255, 239, 3, 54, 5, 21, 5, 42, 180, 0, 77, 17, 0, 166, 29, 96, 46, 162, 0, 95, 42, 29]
abbrev dktX4_fitsAt_1 : List UInt8 := dkwX4_fitsAt_1 ++ dktX4_fitsAt_2
def dkwX4_fitsAt_0 : List UInt8 := [28, 54, 4, 3, 54, 5, 21, 5, 6, 162, 0, 17, 42, 180, 0, 95, 21, 5, 2, 79, 132, 5, 1]
abbrev dktX4_fitsAt_0 : List UInt8 := dkwX4_fitsAt_0 ++ dktX4_fitsAt_1
theorem dksX4_fitsAt_0 : cX4_fitsAt.data.toList.drop 0 = dktX4_fitsAt_0 := by decide +kernel
theorem dksX4_fitsAt_1 : cX4_fitsAt.data.toList.drop 23 = dktX4_fitsAt_1 := dk_seg dksX4_fitsAt_0 23 rfl rfl
theorem dksX4_fitsAt_2 : cX4_fitsAt.data.toList.drop 46 = dktX4_fitsAt_2 := dk_seg dksX4_fitsAt_1 23 rfl rfl
theorem dksX4_fitsAt_3 : cX4_fitsAt.data.toList.drop 70 = dktX4_fitsAt_3 := dk_seg dksX4_fitsAt_2 24 rfl rfl
theorem dksX4_fitsAt_4 : cX4_fitsAt.data.toList.drop 93 = dktX4_fitsAt_4 := dk_seg dksX4_fitsAt_3 23 rfl rfl
theorem dksX4_fitsAt_5 : cX4_fitsAt.data.toList.drop 115 = dktX4_fitsAt_5 := dk_seg dksX4_fitsAt_4 22 rfl rfl
theorem dX4_fitsAt_0 : decode cX4_fitsAt 0 = .ok (.iload_n 2, 1) := dk_28 (dk_at dksX4_fitsAt_0 0 rfl rfl)
theorem dX4_fitsAt_1 : decode cX4_fitsAt 1 = .ok (.istore 4, 2) := dk_54 4 (dk_at dksX4_fitsAt_0 1 rfl rfl)
theorem dX4_fitsAt_3 : decode cX4_fitsAt 3 = .ok (.iconst 0, 1) := dk_3 (dk_at dksX4_fitsAt_0 3 rfl rfl)
theorem dX4_fitsAt_4 : decode cX4_fitsAt 4 = .ok (.istore 5, 2) := dk_54 5 (dk_at dksX4_fitsAt_0 4 rfl rfl)
theorem dX4_fitsAt_6 : decode cX4_fitsAt 6 = .ok (.iload 5, 2) := dk_21 5 (dk_at dksX4_fitsAt_0 6 rfl rfl)
theorem dX4_fitsAt_8 : decode cX4_fitsAt 8 = .ok (.iconst 3, 1) := dk_6 (dk_at dksX4_fitsAt_0 8 rfl rfl)
theorem dX4_fitsAt_9 : decode cX4_fitsAt 9 = .ok (.if_icmp .ge 17, 3) := dk_162 0 17 (dk_at dksX4_fitsAt_0 9 rfl rfl)
theorem dX4_fitsAt_12 : decode cX4_fitsAt 12 = .ok (.aload_n 0, 1) := dk_42 (dk_at dksX4_fitsAt_0 12 rfl rfl)
theorem dX4_fitsAt_13 : decode cX4_fitsAt 13 = .ok (.getfield 95, 3) := dk_180 0 95 (dk_at dksX4_fitsAt_0 13 rfl rfl)
theorem dX4_fitsAt_16 : decode cX4_fitsAt 16 = .ok (.iload 5, 2) := dk_21 5 (dk_at dksX4_fitsAt_0 16 rfl rfl)
theorem dX4_fitsAt_18 : decode cX4_fitsAt 18 = .ok (.iconst (-1), 1) := dk_2 (dk_at dksX4_fitsAt_0 18 rfl rfl)
theorem dX4_fitsAt_19 : decode cX4_fitsAt 19 = .ok (.iastore, 1) := dk_79 (dk_at dksX4_fitsAt_0 19 rfl rfl)
theorem dX4_fitsAt_20 : decode cX4_fitsAt 20 = .ok (.iinc 5 1, 3) := dk_132 5 1 (dk_at dksX4_fitsAt_0 20 rfl rfl)
theorem dX4_fitsAt_23 : decode cX4_fitsAt 23 = .ok (.goto (-17), 3) := dk_167 255 239 (dk_at dksX4_fitsAt_1 0 rfl rfl)
theorem dX4_fitsAt_26 : decode cX4_fitsAt 26 = .ok (.iconst 0, 1) := dk_3 (dk_at dksX4_fitsAt_1 3 rfl rfl)
theorem dX4_fitsAt_27 : decode cX4_fitsAt 27 = .ok (.istore 5, 2) := dk_54 5 (dk_at dksX4_fitsAt_1 4 rfl rfl)
theorem dX4_fitsAt_29 : decode cX4_fitsAt 29 = .ok (.iload 5, 2) := dk_21 5 (dk_at dksX4_fitsAt_1 6 rfl rfl)
theorem dX4_fitsAt_31 : decode cX4_fitsAt 31 = .ok (.aload_n 0, 1) := dk_42 (dk_at dksX4_fitsAt_1 8 rfl rfl)
theorem dX4_fitsAt_32 : decode cX4_fitsAt 32 = .ok (.getfield 77, 3) := dk_180 0 77 (dk_at dksX4_fitsAt_1 9 rfl rfl)
theorem dX4_fitsAt_35 : decode cX4_fitsAt 35 = .ok (.sipush 166, 3) := dk_17 0 166 (dk_at dksX4_fitsAt_1 12 rfl rfl)
theorem dX4_fitsAt_38 : decode cX4_fitsAt 38 = .ok (.iload_n 3, 1) := dk_29 (dk_at dksX4_fitsAt_1 15 rfl rfl)
theorem dX4_fitsAt_39 : decode cX4_fitsAt 39 = .ok (.iadd, 1) := dk_96 (dk_at dksX4_fitsAt_1 16 rfl rfl)
theorem dX4_fitsAt_40 : decode cX4_fitsAt 40 = .ok (.iaload, 1) := dk_46 (dk_at dksX4_fitsAt_1 17 rfl rfl)
theorem dX4_fitsAt_41 : decode cX4_fitsAt 41 = .ok (.if_icmp .ge 95, 3) := dk_162 0 95 (dk_at dksX4_fitsAt_1 18 rfl rfl)
theorem dX4_fitsAt_44 : decode cX4_fitsAt 44 = .ok (.aload_n 0, 1) := dk_42 (dk_at dksX4_fitsAt_1 21 rfl rfl)
theorem dX4_fitsAt_45 : decode cX4_fitsAt 45 = .ok (.iload_n 3, 1) := dk_29 (dk_at dksX4_fitsAt_1 22 rfl rfl)
theorem dX4_fitsAt_46 : decode cX4_fitsAt 46 = .ok (.iload 5, 2) := dk_21 5 (dk_at dksX4_fitsAt_2 0 rfl rfl)
theorem dX4_fitsAt_48 : decode cX4_fitsAt 48 = .ok (.invokevirtual 202, 3) := dk_182 0 202 (dk_at dksX4_fitsAt_2 2 rfl rfl)
theorem dX4_fitsAt_51 : decode cX4_fitsAt 51 = .ok (.istore 6, 2) := dk_54 6 (dk_at dksX4_fitsAt_2 5 rfl rfl)
theorem dX4_fitsAt_53 : decode cX4_fitsAt 53 = .ok (.aload_n 0, 1) := dk_42 (dk_at dksX4_fitsAt_2 7 rfl rfl)
theorem dX4_fitsAt_54 : decode cX4_fitsAt 54 = .ok (.getfield 95, 3) := dk_180 0 95 (dk_at dksX4_fitsAt_2 8 rfl rfl)
theorem dX4_fitsAt_57 : decode cX4_fitsAt 57 = .ok (.iload 6, 2) := dk_21 6 (dk_at dksX4_fitsAt_2 11 rfl rfl)
theorem dX4_fitsAt_59 : decode cX4_fitsAt 59 = .ok (.iaload, 1) := dk_46 (dk_at dksX4_fitsAt_2 13 rfl rfl)
theorem dX4_fitsAt_60 : decode cX4_fitsAt 60 = .ok (.iconst (-1), 1) := dk_2 (dk_at dksX4_fitsAt_2 14 rfl rfl)
theorem dX4_fitsAt_61 : decode cX4_fitsAt 61 = .ok (.if_icmp .ne 12, 3) := dk_160 0 12 (dk_at dksX4_fitsAt_2 15 rfl rfl)
theorem dX4_fitsAt_64 : decode cX4_fitsAt 64 = .ok (.aload_n 0, 1) := dk_42 (dk_at dksX4_fitsAt_2 18 rfl rfl)
theorem dX4_fitsAt_65 : decode cX4_fitsAt 65 = .ok (.getfield 95, 3) := dk_180 0 95 (dk_at dksX4_fitsAt_2 19 rfl rfl)
theorem dX4_fitsAt_68 : decode cX4_fitsAt 68 = .ok (.iload 6, 2) := dk_21 6 (dk_at dksX4_fitsAt_2 22 rfl rfl)
theorem dX4_fitsAt_70 : decode cX4_fitsAt 70 = .ok (.iload 4, 2) := dk_21 4 (dk_at dksX4_fitsAt_3 0 rfl rfl)
theorem dX4_fitsAt_72 : decode cX4_fitsAt 72 = .ok (.iastore, 1) := dk_79 (dk_at dksX4_fitsAt_3 2 rfl rfl)
theorem dX4_fitsAt_73 : decode cX4_fitsAt 73 = .ok (.iconst 0, 1) := dk_3 (dk_at dksX4_fitsAt_3 3 rfl rfl)
theorem dX4_fitsAt_74 : decode cX4_fitsAt 74 = .ok (.istore 7, 2) := dk_54 7 (dk_at dksX4_fitsAt_3 4 rfl rfl)
theorem dX4_fitsAt_76 : decode cX4_fitsAt 76 = .ok (.iload 7, 2) := dk_21 7 (dk_at dksX4_fitsAt_3 6 rfl rfl)
theorem dX4_fitsAt_78 : decode cX4_fitsAt 78 = .ok (.aload_n 0, 1) := dk_42 (dk_at dksX4_fitsAt_3 8 rfl rfl)
theorem dX4_fitsAt_79 : decode cX4_fitsAt 79 = .ok (.getfield 92, 3) := dk_180 0 92 (dk_at dksX4_fitsAt_3 9 rfl rfl)
theorem dX4_fitsAt_82 : decode cX4_fitsAt 82 = .ok (.iload 6, 2) := dk_21 6 (dk_at dksX4_fitsAt_3 12 rfl rfl)
theorem dX4_fitsAt_84 : decode cX4_fitsAt 84 = .ok (.iaload, 1) := dk_46 (dk_at dksX4_fitsAt_3 14 rfl rfl)
theorem dX4_fitsAt_85 : decode cX4_fitsAt 85 = .ok (.if_icmp .ge 33, 3) := dk_162 0 33 (dk_at dksX4_fitsAt_3 15 rfl rfl)
theorem dX4_fitsAt_88 : decode cX4_fitsAt 88 = .ok (.aload_n 1, 1) := dk_43 (dk_at dksX4_fitsAt_3 18 rfl rfl)
theorem dX4_fitsAt_89 : decode cX4_fitsAt 89 = .ok (.aload_n 0, 1) := dk_42 (dk_at dksX4_fitsAt_3 19 rfl rfl)
theorem dX4_fitsAt_90 : decode cX4_fitsAt 90 = .ok (.getfield 95, 3) := dk_180 0 95 (dk_at dksX4_fitsAt_3 20 rfl rfl)
theorem dX4_fitsAt_93 : decode cX4_fitsAt 93 = .ok (.iload 6, 2) := dk_21 6 (dk_at dksX4_fitsAt_4 0 rfl rfl)
theorem dX4_fitsAt_95 : decode cX4_fitsAt 95 = .ok (.iaload, 1) := dk_46 (dk_at dksX4_fitsAt_4 2 rfl rfl)
theorem dX4_fitsAt_96 : decode cX4_fitsAt 96 = .ok (.iload 7, 2) := dk_21 7 (dk_at dksX4_fitsAt_4 3 rfl rfl)
theorem dX4_fitsAt_98 : decode cX4_fitsAt 98 = .ok (.iadd, 1) := dk_96 (dk_at dksX4_fitsAt_4 5 rfl rfl)
theorem dX4_fitsAt_99 : decode cX4_fitsAt 99 = .ok (.iaload, 1) := dk_46 (dk_at dksX4_fitsAt_4 6 rfl rfl)
theorem dX4_fitsAt_100 : decode cX4_fitsAt 100 = .ok (.aload_n 1, 1) := dk_43 (dk_at dksX4_fitsAt_4 7 rfl rfl)
theorem dX4_fitsAt_101 : decode cX4_fitsAt 101 = .ok (.iload 4, 2) := dk_21 4 (dk_at dksX4_fitsAt_4 8 rfl rfl)
theorem dX4_fitsAt_103 : decode cX4_fitsAt 103 = .ok (.iload 7, 2) := dk_21 7 (dk_at dksX4_fitsAt_4 10 rfl rfl)
theorem dX4_fitsAt_105 : decode cX4_fitsAt 105 = .ok (.iadd, 1) := dk_96 (dk_at dksX4_fitsAt_4 12 rfl rfl)
theorem dX4_fitsAt_106 : decode cX4_fitsAt 106 = .ok (.iaload, 1) := dk_46 (dk_at dksX4_fitsAt_4 13 rfl rfl)
theorem dX4_fitsAt_107 : decode cX4_fitsAt 107 = .ok (.if_icmp .eq 5, 3) := dk_159 0 5 (dk_at dksX4_fitsAt_4 14 rfl rfl)
theorem dX4_fitsAt_110 : decode cX4_fitsAt 110 = .ok (.iconst 0, 1) := dk_3 (dk_at dksX4_fitsAt_4 17 rfl rfl)
theorem dX4_fitsAt_111 : decode cX4_fitsAt 111 = .ok (.ireturn, 1) := dk_172 (dk_at dksX4_fitsAt_4 18 rfl rfl)
theorem dX4_fitsAt_112 : decode cX4_fitsAt 112 = .ok (.iinc 7 1, 3) := dk_132 7 1 (dk_at dksX4_fitsAt_4 19 rfl rfl)
theorem dX4_fitsAt_115 : decode cX4_fitsAt 115 = .ok (.goto (-39), 3) := dk_167 255 217 (dk_at dksX4_fitsAt_5 0 rfl rfl)
theorem dX4_fitsAt_118 : decode cX4_fitsAt 118 = .ok (.iload 4, 2) := dk_21 4 (dk_at dksX4_fitsAt_5 3 rfl rfl)
theorem dX4_fitsAt_120 : decode cX4_fitsAt 120 = .ok (.aload_n 0, 1) := dk_42 (dk_at dksX4_fitsAt_5 5 rfl rfl)
theorem dX4_fitsAt_121 : decode cX4_fitsAt 121 = .ok (.getfield 92, 3) := dk_180 0 92 (dk_at dksX4_fitsAt_5 6 rfl rfl)
theorem dX4_fitsAt_124 : decode cX4_fitsAt 124 = .ok (.iload 6, 2) := dk_21 6 (dk_at dksX4_fitsAt_5 9 rfl rfl)
theorem dX4_fitsAt_126 : decode cX4_fitsAt 126 = .ok (.iaload, 1) := dk_46 (dk_at dksX4_fitsAt_5 11 rfl rfl)
theorem dX4_fitsAt_127 : decode cX4_fitsAt 127 = .ok (.iadd, 1) := dk_96 (dk_at dksX4_fitsAt_5 12 rfl rfl)
theorem dX4_fitsAt_128 : decode cX4_fitsAt 128 = .ok (.istore 4, 2) := dk_54 4 (dk_at dksX4_fitsAt_5 13 rfl rfl)
theorem dX4_fitsAt_130 : decode cX4_fitsAt 130 = .ok (.iinc 5 1, 3) := dk_132 5 1 (dk_at dksX4_fitsAt_5 15 rfl rfl)
theorem dX4_fitsAt_133 : decode cX4_fitsAt 133 = .ok (.goto (-104), 3) := dk_167 255 152 (dk_at dksX4_fitsAt_5 18 rfl rfl)
theorem dX4_fitsAt_136 : decode cX4_fitsAt 136 = .ok (.iconst 1, 1) := dk_4 (dk_at dksX4_fitsAt_5 21 rfl rfl)
theorem dX4_fitsAt_137 : decode cX4_fitsAt 137 = .ok (.ireturn, 1) := dk_172 (dk_at dksX4_fitsAt_5 22 rfl rfl)
abbrev cX4_nextSizes : ByteArray := prog_13_method_43_code
def yX4_nextSizes : MethodName := ⟨RX4, "nextSizes", "(II)Z"⟩
def dkwX4_nextSizes_2 : List UInt8 := [132, 3, 255, 167, 255, 209, 3, 172]
abbrev dktX4_nextSizes_2 : List UInt8 := dkwX4_nextSizes_2 ++ []
def dkwX4_nextSizes_1 : List UInt8 := [46, 4, 96, 79, 42, 27, 182, 0, 208, 28, 163, 0, 5, 4, 172, 42, 180, 0, 92, 29, 4, 79]
abbrev dktX4_nextSizes_1 : List UInt8 := dkwX4_nextSizes_1 ++ dktX4_nextSizes_2
def dkwX4_nextSizes_0 : List UInt8 := [5, 62, 29, 155, 0, 49, 42, 27, 29, 182, 0, 205, 154, 0, 6, 167, 0, 31, 42, 180, 0, 92, 29, 92]
abbrev dktX4_nextSizes_0 : List UInt8 := dkwX4_nextSizes_0 ++ dktX4_nextSizes_1
theorem dksX4_nextSizes_0 : cX4_nextSizes.data.toList.drop 0 = dktX4_nextSizes_0 := by decide +kernel
theorem dksX4_nextSizes_1 : cX4_nextSizes.data.toList.drop 24 = dktX4_nextSizes_1 := dk_seg dksX4_nextSizes_0 24 rfl rfl
theorem dksX4_nextSizes_2 : cX4_nextSizes.data.toList.drop 46 = dktX4_nextSizes_2 := dk_seg dksX4_nextSizes_1 22 rfl rfl
theorem dX4_nextSizes_0 : decode cX4_nextSizes 0 = .ok (.iconst 2, 1) := dk_5 (dk_at dksX4_nextSizes_0 0 rfl rfl)
theorem dX4_nextSizes_1 : decode cX4_nextSizes 1 = .ok (.istore_n 3, 1) := dk_62 (dk_at dksX4_nextSizes_0 1 rfl rfl)
theorem dX4_nextSizes_2 : decode cX4_nextSizes 2 = .ok (.iload_n 3, 1) := dk_29 (dk_at dksX4_nextSizes_0 2 rfl rfl)
theorem dX4_nextSizes_3 : decode cX4_nextSizes 3 = .ok (.ifCond .lt 49, 3) := dk_155 0 49 (dk_at dksX4_nextSizes_0 3 rfl rfl)
theorem dX4_nextSizes_6 : decode cX4_nextSizes 6 = .ok (.aload_n 0, 1) := dk_42 (dk_at dksX4_nextSizes_0 6 rfl rfl)
theorem dX4_nextSizes_7 : decode cX4_nextSizes 7 = .ok (.iload_n 1, 1) := dk_27 (dk_at dksX4_nextSizes_0 7 rfl rfl)
theorem dX4_nextSizes_8 : decode cX4_nextSizes 8 = .ok (.iload_n 3, 1) := dk_29 (dk_at dksX4_nextSizes_0 8 rfl rfl)
theorem dX4_nextSizes_9 : decode cX4_nextSizes 9 = .ok (.invokevirtual 205, 3) := dk_182 0 205 (dk_at dksX4_nextSizes_0 9 rfl rfl)
theorem dX4_nextSizes_12 : decode cX4_nextSizes 12 = .ok (.ifCond .ne 6, 3) := dk_154 0 6 (dk_at dksX4_nextSizes_0 12 rfl rfl)
theorem dX4_nextSizes_15 : decode cX4_nextSizes 15 = .ok (.goto 31, 3) := dk_167 0 31 (dk_at dksX4_nextSizes_0 15 rfl rfl)
theorem dX4_nextSizes_18 : decode cX4_nextSizes 18 = .ok (.aload_n 0, 1) := dk_42 (dk_at dksX4_nextSizes_0 18 rfl rfl)
theorem dX4_nextSizes_19 : decode cX4_nextSizes 19 = .ok (.getfield 92, 3) := dk_180 0 92 (dk_at dksX4_nextSizes_0 19 rfl rfl)
theorem dX4_nextSizes_22 : decode cX4_nextSizes 22 = .ok (.iload_n 3, 1) := dk_29 (dk_at dksX4_nextSizes_0 22 rfl rfl)
theorem dX4_nextSizes_23 : decode cX4_nextSizes 23 = .ok (.dup2, 1) := dk_92 (dk_at dksX4_nextSizes_0 23 rfl rfl)
theorem dX4_nextSizes_24 : decode cX4_nextSizes 24 = .ok (.iaload, 1) := dk_46 (dk_at dksX4_nextSizes_1 0 rfl rfl)
theorem dX4_nextSizes_25 : decode cX4_nextSizes 25 = .ok (.iconst 1, 1) := dk_4 (dk_at dksX4_nextSizes_1 1 rfl rfl)
theorem dX4_nextSizes_26 : decode cX4_nextSizes 26 = .ok (.iadd, 1) := dk_96 (dk_at dksX4_nextSizes_1 2 rfl rfl)
theorem dX4_nextSizes_27 : decode cX4_nextSizes 27 = .ok (.iastore, 1) := dk_79 (dk_at dksX4_nextSizes_1 3 rfl rfl)
theorem dX4_nextSizes_28 : decode cX4_nextSizes 28 = .ok (.aload_n 0, 1) := dk_42 (dk_at dksX4_nextSizes_1 4 rfl rfl)
theorem dX4_nextSizes_29 : decode cX4_nextSizes 29 = .ok (.iload_n 1, 1) := dk_27 (dk_at dksX4_nextSizes_1 5 rfl rfl)
theorem dX4_nextSizes_30 : decode cX4_nextSizes 30 = .ok (.invokevirtual 208, 3) := dk_182 0 208 (dk_at dksX4_nextSizes_1 6 rfl rfl)
theorem dX4_nextSizes_33 : decode cX4_nextSizes 33 = .ok (.iload_n 2, 1) := dk_28 (dk_at dksX4_nextSizes_1 9 rfl rfl)
theorem dX4_nextSizes_34 : decode cX4_nextSizes 34 = .ok (.if_icmp .gt 5, 3) := dk_163 0 5 (dk_at dksX4_nextSizes_1 10 rfl rfl)
theorem dX4_nextSizes_37 : decode cX4_nextSizes 37 = .ok (.iconst 1, 1) := dk_4 (dk_at dksX4_nextSizes_1 13 rfl rfl)
theorem dX4_nextSizes_38 : decode cX4_nextSizes 38 = .ok (.ireturn, 1) := dk_172 (dk_at dksX4_nextSizes_1 14 rfl rfl)
theorem dX4_nextSizes_39 : decode cX4_nextSizes 39 = .ok (.aload_n 0, 1) := dk_42 (dk_at dksX4_nextSizes_1 15 rfl rfl)
theorem dX4_nextSizes_40 : decode cX4_nextSizes 40 = .ok (.getfield 92, 3) := dk_180 0 92 (dk_at dksX4_nextSizes_1 16 rfl rfl)
theorem dX4_nextSizes_43 : decode cX4_nextSizes 43 = .ok (.iload_n 3, 1) := dk_29 (dk_at dksX4_nextSizes_1 19 rfl rfl)
theorem dX4_nextSizes_44 : decode cX4_nextSizes 44 = .ok (.iconst 1, 1) := dk_4 (dk_at dksX4_nextSizes_1 20 rfl rfl)
theorem dX4_nextSizes_45 : decode cX4_nextSizes 45 = .ok (.iastore, 1) := dk_79 (dk_at dksX4_nextSizes_1 21 rfl rfl)
theorem dX4_nextSizes_46 : decode cX4_nextSizes 46 = .ok (.iinc 3 (-1), 3) := dk_132 3 255 (dk_at dksX4_nextSizes_2 0 rfl rfl)
theorem dX4_nextSizes_49 : decode cX4_nextSizes 49 = .ok (.goto (-47), 3) := dk_167 255 209 (dk_at dksX4_nextSizes_2 3 rfl rfl)
theorem dX4_nextSizes_52 : decode cX4_nextSizes 52 = .ok (.iconst 0, 1) := dk_3 (dk_at dksX4_nextSizes_2 6 rfl rfl)
theorem dX4_nextSizes_53 : decode cX4_nextSizes 53 = .ok (.ireturn, 1) := dk_172 (dk_at dksX4_nextSizes_2 7 rfl rfl)
abbrev cX4_ends : ByteArray := prog_13_method_51_code
def yX4_ends : MethodName := ⟨RX4, "ends", "()I"⟩
def dkwX4_ends_0 : List UInt8 := [42, 3, 181, 0, 3, 42, 182, 0, 239, 172]
abbrev dktX4_ends_0 : List UInt8 := dkwX4_ends_0 ++ []
theorem dksX4_ends_0 : cX4_ends.data.toList.drop 0 = dktX4_ends_0 := by decide +kernel
theorem dX4_ends_0 : decode cX4_ends 0 = .ok (.aload_n 0, 1) := dk_42 (dk_at dksX4_ends_0 0 rfl rfl)
theorem dX4_ends_1 : decode cX4_ends 1 = .ok (.iconst 0, 1) := dk_3 (dk_at dksX4_ends_0 1 rfl rfl)
theorem dX4_ends_2 : decode cX4_ends 2 = .ok (.putfield 3, 3) := dk_181 0 3 (dk_at dksX4_ends_0 2 rfl rfl)
theorem dX4_ends_5 : decode cX4_ends 5 = .ok (.aload_n 0, 1) := dk_42 (dk_at dksX4_ends_0 5 rfl rfl)
theorem dX4_ends_6 : decode cX4_ends 6 = .ok (.invokevirtual 239, 3) := dk_182 0 239 (dk_at dksX4_ends_0 6 rfl rfl)
theorem dX4_ends_9 : decode cX4_ends 9 = .ok (.ireturn, 1) := dk_172 (dk_at dksX4_ends_0 9 rfl rfl)
abbrev cX4_endsAt : ByteArray := prog_13_method_50_code
def yX4_endsAt : MethodName := ⟨RX4, "endsAt", "()I"⟩
def dkwX4_endsAt_1 : List UInt8 := [167, 0, 4, 27, 172]
abbrev dktX4_endsAt_1 : List UInt8 := dkwX4_endsAt_1 ++ []
def dkwX4_endsAt_0 : List UInt8 := [42, 42, 180, 0, 83, 42, 180, 0, 184, 182, 0, 232, 60, 27, 42, 180, 0, 184, 160, 0, 7, 2]
abbrev dktX4_endsAt_0 : List UInt8 := dkwX4_endsAt_0 ++ dktX4_endsAt_1
theorem dksX4_endsAt_0 : cX4_endsAt.data.toList.drop 0 = dktX4_endsAt_0 := by decide +kernel
theorem dksX4_endsAt_1 : cX4_endsAt.data.toList.drop 22 = dktX4_endsAt_1 := dk_seg dksX4_endsAt_0 22 rfl rfl
theorem dX4_endsAt_0 : decode cX4_endsAt 0 = .ok (.aload_n 0, 1) := dk_42 (dk_at dksX4_endsAt_0 0 rfl rfl)
theorem dX4_endsAt_1 : decode cX4_endsAt 1 = .ok (.aload_n 0, 1) := dk_42 (dk_at dksX4_endsAt_0 1 rfl rfl)
theorem dX4_endsAt_2 : decode cX4_endsAt 2 = .ok (.getfield 83, 3) := dk_180 0 83 (dk_at dksX4_endsAt_0 2 rfl rfl)
theorem dX4_endsAt_5 : decode cX4_endsAt 5 = .ok (.aload_n 0, 1) := dk_42 (dk_at dksX4_endsAt_0 5 rfl rfl)
theorem dX4_endsAt_6 : decode cX4_endsAt 6 = .ok (.getfield 184, 3) := dk_180 0 184 (dk_at dksX4_endsAt_0 6 rfl rfl)
theorem dX4_endsAt_9 : decode cX4_endsAt 9 = .ok (.invokevirtual 232, 3) := dk_182 0 232 (dk_at dksX4_endsAt_0 9 rfl rfl)
theorem dX4_endsAt_12 : decode cX4_endsAt 12 = .ok (.istore_n 1, 1) := dk_60 (dk_at dksX4_endsAt_0 12 rfl rfl)
theorem dX4_endsAt_13 : decode cX4_endsAt 13 = .ok (.iload_n 1, 1) := dk_27 (dk_at dksX4_endsAt_0 13 rfl rfl)
theorem dX4_endsAt_14 : decode cX4_endsAt 14 = .ok (.aload_n 0, 1) := dk_42 (dk_at dksX4_endsAt_0 14 rfl rfl)
theorem dX4_endsAt_15 : decode cX4_endsAt 15 = .ok (.getfield 184, 3) := dk_180 0 184 (dk_at dksX4_endsAt_0 15 rfl rfl)
theorem dX4_endsAt_18 : decode cX4_endsAt 18 = .ok (.if_icmp .ne 7, 3) := dk_160 0 7 (dk_at dksX4_endsAt_0 18 rfl rfl)
theorem dX4_endsAt_21 : decode cX4_endsAt 21 = .ok (.iconst (-1), 1) := dk_2 (dk_at dksX4_endsAt_0 21 rfl rfl)
theorem dX4_endsAt_22 : decode cX4_endsAt 22 = .ok (.goto 4, 3) := dk_167 0 4 (dk_at dksX4_endsAt_1 0 rfl rfl)
theorem dX4_endsAt_25 : decode cX4_endsAt 25 = .ok (.iload_n 1, 1) := dk_27 (dk_at dksX4_endsAt_1 3 rfl rfl)
theorem dX4_endsAt_26 : decode cX4_endsAt 26 = .ok (.ireturn, 1) := dk_172 (dk_at dksX4_endsAt_1 4 rfl rfl)
abbrev cX4_goes : ByteArray := prog_13_method_52_code
def yX4_goes : MethodName := ⟨RX4, "goes", "()I"⟩
def dkwX4_goes_3 : List UInt8 := [153, 0, 9, 4, 28, 120, 167, 0, 4, 3, 128, 60, 132, 2, 1, 167, 255, 206, 27, 172]
abbrev dktX4_goes_3 : List UInt8 := dkwX4_goes_3 ++ []
def dkwX4_goes_2 : List UInt8 := [180, 0, 86, 42, 180, 0, 184, 28, 79, 27, 42, 42, 180, 0, 86, 42, 180, 0, 184, 4, 96, 182, 0, 229]
abbrev dktX4_goes_2 : List UInt8 := dkwX4_goes_2 ++ dktX4_goes_3
def dkwX4_goes_1 : List UInt8 := [42, 180, 0, 184, 182, 0, 242, 3, 60, 3, 61, 28, 42, 180, 0, 77, 3, 46, 162, 0, 46, 42]
abbrev dktX4_goes_1 : List UInt8 := dkwX4_goes_1 ++ dktX4_goes_2
def dkwX4_goes_0 : List UInt8 := [42, 3, 181, 0, 3, 42, 180, 0, 184, 16, 64, 159, 0, 10, 42, 182, 0, 236, 154, 0, 5, 3, 172, 42]
abbrev dktX4_goes_0 : List UInt8 := dkwX4_goes_0 ++ dktX4_goes_1
theorem dksX4_goes_0 : cX4_goes.data.toList.drop 0 = dktX4_goes_0 := by decide +kernel
theorem dksX4_goes_1 : cX4_goes.data.toList.drop 24 = dktX4_goes_1 := dk_seg dksX4_goes_0 24 rfl rfl
theorem dksX4_goes_2 : cX4_goes.data.toList.drop 46 = dktX4_goes_2 := dk_seg dksX4_goes_1 22 rfl rfl
theorem dksX4_goes_3 : cX4_goes.data.toList.drop 70 = dktX4_goes_3 := dk_seg dksX4_goes_2 24 rfl rfl
theorem dX4_goes_0 : decode cX4_goes 0 = .ok (.aload_n 0, 1) := dk_42 (dk_at dksX4_goes_0 0 rfl rfl)
theorem dX4_goes_1 : decode cX4_goes 1 = .ok (.iconst 0, 1) := dk_3 (dk_at dksX4_goes_0 1 rfl rfl)
theorem dX4_goes_2 : decode cX4_goes 2 = .ok (.putfield 3, 3) := dk_181 0 3 (dk_at dksX4_goes_0 2 rfl rfl)
theorem dX4_goes_5 : decode cX4_goes 5 = .ok (.aload_n 0, 1) := dk_42 (dk_at dksX4_goes_0 5 rfl rfl)
theorem dX4_goes_6 : decode cX4_goes 6 = .ok (.getfield 184, 3) := dk_180 0 184 (dk_at dksX4_goes_0 6 rfl rfl)
theorem dX4_goes_9 : decode cX4_goes 9 = .ok (.bipush 64, 2) := dk_16 64 (dk_at dksX4_goes_0 9 rfl rfl)
theorem dX4_goes_11 : decode cX4_goes 11 = .ok (.if_icmp .eq 10, 3) := dk_159 0 10 (dk_at dksX4_goes_0 11 rfl rfl)
theorem dX4_goes_14 : decode cX4_goes 14 = .ok (.aload_n 0, 1) := dk_42 (dk_at dksX4_goes_0 14 rfl rfl)
theorem dX4_goes_15 : decode cX4_goes 15 = .ok (.invokevirtual 236, 3) := dk_182 0 236 (dk_at dksX4_goes_0 15 rfl rfl)
theorem dX4_goes_18 : decode cX4_goes 18 = .ok (.ifCond .ne 5, 3) := dk_154 0 5 (dk_at dksX4_goes_0 18 rfl rfl)
theorem dX4_goes_21 : decode cX4_goes 21 = .ok (.iconst 0, 1) := dk_3 (dk_at dksX4_goes_0 21 rfl rfl)
theorem dX4_goes_22 : decode cX4_goes 22 = .ok (.ireturn, 1) := dk_172 (dk_at dksX4_goes_0 22 rfl rfl)
theorem dX4_goes_23 : decode cX4_goes 23 = .ok (.aload_n 0, 1) := dk_42 (dk_at dksX4_goes_0 23 rfl rfl)
theorem dX4_goes_24 : decode cX4_goes 24 = .ok (.aload_n 0, 1) := dk_42 (dk_at dksX4_goes_1 0 rfl rfl)
theorem dX4_goes_25 : decode cX4_goes 25 = .ok (.getfield 184, 3) := dk_180 0 184 (dk_at dksX4_goes_1 1 rfl rfl)
theorem dX4_goes_28 : decode cX4_goes 28 = .ok (.invokevirtual 242, 3) := dk_182 0 242 (dk_at dksX4_goes_1 4 rfl rfl)
theorem dX4_goes_31 : decode cX4_goes 31 = .ok (.iconst 0, 1) := dk_3 (dk_at dksX4_goes_1 7 rfl rfl)
theorem dX4_goes_32 : decode cX4_goes 32 = .ok (.istore_n 1, 1) := dk_60 (dk_at dksX4_goes_1 8 rfl rfl)
theorem dX4_goes_33 : decode cX4_goes 33 = .ok (.iconst 0, 1) := dk_3 (dk_at dksX4_goes_1 9 rfl rfl)
theorem dX4_goes_34 : decode cX4_goes 34 = .ok (.istore_n 2, 1) := dk_61 (dk_at dksX4_goes_1 10 rfl rfl)
theorem dX4_goes_35 : decode cX4_goes 35 = .ok (.iload_n 2, 1) := dk_28 (dk_at dksX4_goes_1 11 rfl rfl)
theorem dX4_goes_36 : decode cX4_goes 36 = .ok (.aload_n 0, 1) := dk_42 (dk_at dksX4_goes_1 12 rfl rfl)
theorem dX4_goes_37 : decode cX4_goes 37 = .ok (.getfield 77, 3) := dk_180 0 77 (dk_at dksX4_goes_1 13 rfl rfl)
theorem dX4_goes_40 : decode cX4_goes 40 = .ok (.iconst 0, 1) := dk_3 (dk_at dksX4_goes_1 16 rfl rfl)
theorem dX4_goes_41 : decode cX4_goes 41 = .ok (.iaload, 1) := dk_46 (dk_at dksX4_goes_1 17 rfl rfl)
theorem dX4_goes_42 : decode cX4_goes 42 = .ok (.if_icmp .ge 46, 3) := dk_162 0 46 (dk_at dksX4_goes_1 18 rfl rfl)
theorem dX4_goes_45 : decode cX4_goes 45 = .ok (.aload_n 0, 1) := dk_42 (dk_at dksX4_goes_1 21 rfl rfl)
theorem dX4_goes_46 : decode cX4_goes 46 = .ok (.getfield 86, 3) := dk_180 0 86 (dk_at dksX4_goes_2 0 rfl rfl)
theorem dX4_goes_49 : decode cX4_goes 49 = .ok (.aload_n 0, 1) := dk_42 (dk_at dksX4_goes_2 3 rfl rfl)
theorem dX4_goes_50 : decode cX4_goes 50 = .ok (.getfield 184, 3) := dk_180 0 184 (dk_at dksX4_goes_2 4 rfl rfl)
theorem dX4_goes_53 : decode cX4_goes 53 = .ok (.iload_n 2, 1) := dk_28 (dk_at dksX4_goes_2 7 rfl rfl)
theorem dX4_goes_54 : decode cX4_goes 54 = .ok (.iastore, 1) := dk_79 (dk_at dksX4_goes_2 8 rfl rfl)
theorem dX4_goes_55 : decode cX4_goes 55 = .ok (.iload_n 1, 1) := dk_27 (dk_at dksX4_goes_2 9 rfl rfl)
theorem dX4_goes_56 : decode cX4_goes 56 = .ok (.aload_n 0, 1) := dk_42 (dk_at dksX4_goes_2 10 rfl rfl)
theorem dX4_goes_57 : decode cX4_goes 57 = .ok (.aload_n 0, 1) := dk_42 (dk_at dksX4_goes_2 11 rfl rfl)
theorem dX4_goes_58 : decode cX4_goes 58 = .ok (.getfield 86, 3) := dk_180 0 86 (dk_at dksX4_goes_2 12 rfl rfl)
theorem dX4_goes_61 : decode cX4_goes 61 = .ok (.aload_n 0, 1) := dk_42 (dk_at dksX4_goes_2 15 rfl rfl)
theorem dX4_goes_62 : decode cX4_goes 62 = .ok (.getfield 184, 3) := dk_180 0 184 (dk_at dksX4_goes_2 16 rfl rfl)
theorem dX4_goes_65 : decode cX4_goes 65 = .ok (.iconst 1, 1) := dk_4 (dk_at dksX4_goes_2 19 rfl rfl)
theorem dX4_goes_66 : decode cX4_goes 66 = .ok (.iadd, 1) := dk_96 (dk_at dksX4_goes_2 20 rfl rfl)
theorem dX4_goes_67 : decode cX4_goes 67 = .ok (.invokevirtual 229, 3) := dk_182 0 229 (dk_at dksX4_goes_2 21 rfl rfl)
theorem dX4_goes_70 : decode cX4_goes 70 = .ok (.ifCond .eq 9, 3) := dk_153 0 9 (dk_at dksX4_goes_3 0 rfl rfl)
theorem dX4_goes_73 : decode cX4_goes 73 = .ok (.iconst 1, 1) := dk_4 (dk_at dksX4_goes_3 3 rfl rfl)
theorem dX4_goes_74 : decode cX4_goes 74 = .ok (.iload_n 2, 1) := dk_28 (dk_at dksX4_goes_3 4 rfl rfl)
theorem dX4_goes_75 : decode cX4_goes 75 = .ok (.ishl, 1) := dk_120 (dk_at dksX4_goes_3 5 rfl rfl)
theorem dX4_goes_76 : decode cX4_goes 76 = .ok (.goto 4, 3) := dk_167 0 4 (dk_at dksX4_goes_3 6 rfl rfl)
theorem dX4_goes_79 : decode cX4_goes 79 = .ok (.iconst 0, 1) := dk_3 (dk_at dksX4_goes_3 9 rfl rfl)
theorem dX4_goes_80 : decode cX4_goes 80 = .ok (.ior, 1) := dk_128 (dk_at dksX4_goes_3 10 rfl rfl)
theorem dX4_goes_81 : decode cX4_goes 81 = .ok (.istore_n 1, 1) := dk_60 (dk_at dksX4_goes_3 11 rfl rfl)
theorem dX4_goes_82 : decode cX4_goes 82 = .ok (.iinc 2 1, 3) := dk_132 2 1 (dk_at dksX4_goes_3 12 rfl rfl)
theorem dX4_goes_85 : decode cX4_goes 85 = .ok (.goto (-50), 3) := dk_167 255 206 (dk_at dksX4_goes_3 15 rfl rfl)
theorem dX4_goes_88 : decode cX4_goes 88 = .ok (.iload_n 1, 1) := dk_27 (dk_at dksX4_goes_3 18 rfl rfl)
theorem dX4_goes_89 : decode cX4_goes 89 = .ok (.ireturn, 1) := dk_172 (dk_at dksX4_goes_3 19 rfl rfl)
abbrev cX4_laysGiven : ByteArray := prog_13_method_53_code
def yX4_laysGiven : MethodName := ⟨RX4, "laysGiven", "(I)V"⟩
def dkwX4_laysGiven_1 : List UInt8 := [167, 255, 236, 177]
abbrev dktX4_laysGiven_1 : List UInt8 := dkwX4_laysGiven_1 ++ []
def dkwX4_laysGiven_0 : List UInt8 := [3, 61, 28, 27, 162, 0, 21, 42, 180, 0, 86, 28, 42, 180, 0, 83, 28, 46, 79, 132, 2, 1]
abbrev dktX4_laysGiven_0 : List UInt8 := dkwX4_laysGiven_0 ++ dktX4_laysGiven_1
theorem dksX4_laysGiven_0 : cX4_laysGiven.data.toList.drop 0 = dktX4_laysGiven_0 := by decide +kernel
theorem dksX4_laysGiven_1 : cX4_laysGiven.data.toList.drop 22 = dktX4_laysGiven_1 := dk_seg dksX4_laysGiven_0 22 rfl rfl
theorem dX4_laysGiven_0 : decode cX4_laysGiven 0 = .ok (.iconst 0, 1) := dk_3 (dk_at dksX4_laysGiven_0 0 rfl rfl)
theorem dX4_laysGiven_1 : decode cX4_laysGiven 1 = .ok (.istore_n 2, 1) := dk_61 (dk_at dksX4_laysGiven_0 1 rfl rfl)
theorem dX4_laysGiven_2 : decode cX4_laysGiven 2 = .ok (.iload_n 2, 1) := dk_28 (dk_at dksX4_laysGiven_0 2 rfl rfl)
theorem dX4_laysGiven_3 : decode cX4_laysGiven 3 = .ok (.iload_n 1, 1) := dk_27 (dk_at dksX4_laysGiven_0 3 rfl rfl)
theorem dX4_laysGiven_4 : decode cX4_laysGiven 4 = .ok (.if_icmp .ge 21, 3) := dk_162 0 21 (dk_at dksX4_laysGiven_0 4 rfl rfl)
theorem dX4_laysGiven_7 : decode cX4_laysGiven 7 = .ok (.aload_n 0, 1) := dk_42 (dk_at dksX4_laysGiven_0 7 rfl rfl)
theorem dX4_laysGiven_8 : decode cX4_laysGiven 8 = .ok (.getfield 86, 3) := dk_180 0 86 (dk_at dksX4_laysGiven_0 8 rfl rfl)
theorem dX4_laysGiven_11 : decode cX4_laysGiven 11 = .ok (.iload_n 2, 1) := dk_28 (dk_at dksX4_laysGiven_0 11 rfl rfl)
theorem dX4_laysGiven_12 : decode cX4_laysGiven 12 = .ok (.aload_n 0, 1) := dk_42 (dk_at dksX4_laysGiven_0 12 rfl rfl)
theorem dX4_laysGiven_13 : decode cX4_laysGiven 13 = .ok (.getfield 83, 3) := dk_180 0 83 (dk_at dksX4_laysGiven_0 13 rfl rfl)
theorem dX4_laysGiven_16 : decode cX4_laysGiven 16 = .ok (.iload_n 2, 1) := dk_28 (dk_at dksX4_laysGiven_0 16 rfl rfl)
theorem dX4_laysGiven_17 : decode cX4_laysGiven 17 = .ok (.iaload, 1) := dk_46 (dk_at dksX4_laysGiven_0 17 rfl rfl)
theorem dX4_laysGiven_18 : decode cX4_laysGiven 18 = .ok (.iastore, 1) := dk_79 (dk_at dksX4_laysGiven_0 18 rfl rfl)
theorem dX4_laysGiven_19 : decode cX4_laysGiven 19 = .ok (.iinc 2 1, 3) := dk_132 2 1 (dk_at dksX4_laysGiven_0 19 rfl rfl)
theorem dX4_laysGiven_22 : decode cX4_laysGiven 22 = .ok (.goto (-20), 3) := dk_167 255 236 (dk_at dksX4_laysGiven_1 0 rfl rfl)
theorem dX4_laysGiven_25 : decode cX4_laysGiven 25 = .ok (.return_, 1) := dk_177 (dk_at dksX4_laysGiven_1 3 rfl rfl)
abbrev cX4_ahead : ByteArray := prog_13_method_54_code
def yX4_ahead : MethodName := ⟨RX4, "ahead", "()I"⟩
def dkwX4_ahead_4 : List UInt8 := [167, 0, 4, 3, 128, 60, 132, 2, 1, 167, 255, 203, 27, 172]
abbrev dktX4_ahead_4 : List UInt8 := dkwX4_ahead_4 ++ []
def dkwX4_ahead_3 : List UInt8 := [180, 0, 86, 42, 180, 0, 184, 4, 96, 182, 0, 232, 42, 180, 0, 184, 4, 96, 160, 0, 9, 4, 28, 120]
abbrev dktX4_ahead_3 : List UInt8 := dkwX4_ahead_3 ++ dktX4_ahead_4
def dkwX4_ahead_2 : List UInt8 := [60, 3, 61, 28, 42, 180, 0, 77, 3, 46, 162, 0, 49, 42, 180, 0, 86, 3, 28, 79, 27, 42, 42]
abbrev dktX4_ahead_2 : List UInt8 := dkwX4_ahead_2 ++ dktX4_ahead_3
def dkwX4_ahead_1 : List UInt8 := [162, 0, 23, 42, 180, 0, 86, 27, 4, 96, 42, 180, 0, 83, 27, 46, 79, 132, 1, 1, 167, 255, 231, 3]
abbrev dktX4_ahead_1 : List UInt8 := dkwX4_ahead_1 ++ dktX4_ahead_2
def dkwX4_ahead_0 : List UInt8 := [42, 3, 181, 0, 3, 42, 180, 0, 184, 16, 64, 160, 0, 5, 3, 172, 3, 60, 27, 42, 180, 0, 184]
abbrev dktX4_ahead_0 : List UInt8 := dkwX4_ahead_0 ++ dktX4_ahead_1
theorem dksX4_ahead_0 : cX4_ahead.data.toList.drop 0 = dktX4_ahead_0 := by decide +kernel
theorem dksX4_ahead_1 : cX4_ahead.data.toList.drop 23 = dktX4_ahead_1 := dk_seg dksX4_ahead_0 23 rfl rfl
theorem dksX4_ahead_2 : cX4_ahead.data.toList.drop 47 = dktX4_ahead_2 := dk_seg dksX4_ahead_1 24 rfl rfl
theorem dksX4_ahead_3 : cX4_ahead.data.toList.drop 70 = dktX4_ahead_3 := dk_seg dksX4_ahead_2 23 rfl rfl
theorem dksX4_ahead_4 : cX4_ahead.data.toList.drop 94 = dktX4_ahead_4 := dk_seg dksX4_ahead_3 24 rfl rfl
theorem dX4_ahead_0 : decode cX4_ahead 0 = .ok (.aload_n 0, 1) := dk_42 (dk_at dksX4_ahead_0 0 rfl rfl)
theorem dX4_ahead_1 : decode cX4_ahead 1 = .ok (.iconst 0, 1) := dk_3 (dk_at dksX4_ahead_0 1 rfl rfl)
theorem dX4_ahead_2 : decode cX4_ahead 2 = .ok (.putfield 3, 3) := dk_181 0 3 (dk_at dksX4_ahead_0 2 rfl rfl)
theorem dX4_ahead_5 : decode cX4_ahead 5 = .ok (.aload_n 0, 1) := dk_42 (dk_at dksX4_ahead_0 5 rfl rfl)
theorem dX4_ahead_6 : decode cX4_ahead 6 = .ok (.getfield 184, 3) := dk_180 0 184 (dk_at dksX4_ahead_0 6 rfl rfl)
theorem dX4_ahead_9 : decode cX4_ahead 9 = .ok (.bipush 64, 2) := dk_16 64 (dk_at dksX4_ahead_0 9 rfl rfl)
theorem dX4_ahead_11 : decode cX4_ahead 11 = .ok (.if_icmp .ne 5, 3) := dk_160 0 5 (dk_at dksX4_ahead_0 11 rfl rfl)
theorem dX4_ahead_14 : decode cX4_ahead 14 = .ok (.iconst 0, 1) := dk_3 (dk_at dksX4_ahead_0 14 rfl rfl)
theorem dX4_ahead_15 : decode cX4_ahead 15 = .ok (.ireturn, 1) := dk_172 (dk_at dksX4_ahead_0 15 rfl rfl)
theorem dX4_ahead_16 : decode cX4_ahead 16 = .ok (.iconst 0, 1) := dk_3 (dk_at dksX4_ahead_0 16 rfl rfl)
theorem dX4_ahead_17 : decode cX4_ahead 17 = .ok (.istore_n 1, 1) := dk_60 (dk_at dksX4_ahead_0 17 rfl rfl)
theorem dX4_ahead_18 : decode cX4_ahead 18 = .ok (.iload_n 1, 1) := dk_27 (dk_at dksX4_ahead_0 18 rfl rfl)
theorem dX4_ahead_19 : decode cX4_ahead 19 = .ok (.aload_n 0, 1) := dk_42 (dk_at dksX4_ahead_0 19 rfl rfl)
theorem dX4_ahead_20 : decode cX4_ahead 20 = .ok (.getfield 184, 3) := dk_180 0 184 (dk_at dksX4_ahead_0 20 rfl rfl)
theorem dX4_ahead_23 : decode cX4_ahead 23 = .ok (.if_icmp .ge 23, 3) := dk_162 0 23 (dk_at dksX4_ahead_1 0 rfl rfl)
theorem dX4_ahead_26 : decode cX4_ahead 26 = .ok (.aload_n 0, 1) := dk_42 (dk_at dksX4_ahead_1 3 rfl rfl)
theorem dX4_ahead_27 : decode cX4_ahead 27 = .ok (.getfield 86, 3) := dk_180 0 86 (dk_at dksX4_ahead_1 4 rfl rfl)
theorem dX4_ahead_30 : decode cX4_ahead 30 = .ok (.iload_n 1, 1) := dk_27 (dk_at dksX4_ahead_1 7 rfl rfl)
theorem dX4_ahead_31 : decode cX4_ahead 31 = .ok (.iconst 1, 1) := dk_4 (dk_at dksX4_ahead_1 8 rfl rfl)
theorem dX4_ahead_32 : decode cX4_ahead 32 = .ok (.iadd, 1) := dk_96 (dk_at dksX4_ahead_1 9 rfl rfl)
theorem dX4_ahead_33 : decode cX4_ahead 33 = .ok (.aload_n 0, 1) := dk_42 (dk_at dksX4_ahead_1 10 rfl rfl)
theorem dX4_ahead_34 : decode cX4_ahead 34 = .ok (.getfield 83, 3) := dk_180 0 83 (dk_at dksX4_ahead_1 11 rfl rfl)
theorem dX4_ahead_37 : decode cX4_ahead 37 = .ok (.iload_n 1, 1) := dk_27 (dk_at dksX4_ahead_1 14 rfl rfl)
theorem dX4_ahead_38 : decode cX4_ahead 38 = .ok (.iaload, 1) := dk_46 (dk_at dksX4_ahead_1 15 rfl rfl)
theorem dX4_ahead_39 : decode cX4_ahead 39 = .ok (.iastore, 1) := dk_79 (dk_at dksX4_ahead_1 16 rfl rfl)
theorem dX4_ahead_40 : decode cX4_ahead 40 = .ok (.iinc 1 1, 3) := dk_132 1 1 (dk_at dksX4_ahead_1 17 rfl rfl)
theorem dX4_ahead_43 : decode cX4_ahead 43 = .ok (.goto (-25), 3) := dk_167 255 231 (dk_at dksX4_ahead_1 20 rfl rfl)
theorem dX4_ahead_46 : decode cX4_ahead 46 = .ok (.iconst 0, 1) := dk_3 (dk_at dksX4_ahead_1 23 rfl rfl)
theorem dX4_ahead_47 : decode cX4_ahead 47 = .ok (.istore_n 1, 1) := dk_60 (dk_at dksX4_ahead_2 0 rfl rfl)
theorem dX4_ahead_48 : decode cX4_ahead 48 = .ok (.iconst 0, 1) := dk_3 (dk_at dksX4_ahead_2 1 rfl rfl)
theorem dX4_ahead_49 : decode cX4_ahead 49 = .ok (.istore_n 2, 1) := dk_61 (dk_at dksX4_ahead_2 2 rfl rfl)
theorem dX4_ahead_50 : decode cX4_ahead 50 = .ok (.iload_n 2, 1) := dk_28 (dk_at dksX4_ahead_2 3 rfl rfl)
theorem dX4_ahead_51 : decode cX4_ahead 51 = .ok (.aload_n 0, 1) := dk_42 (dk_at dksX4_ahead_2 4 rfl rfl)
theorem dX4_ahead_52 : decode cX4_ahead 52 = .ok (.getfield 77, 3) := dk_180 0 77 (dk_at dksX4_ahead_2 5 rfl rfl)
theorem dX4_ahead_55 : decode cX4_ahead 55 = .ok (.iconst 0, 1) := dk_3 (dk_at dksX4_ahead_2 8 rfl rfl)
theorem dX4_ahead_56 : decode cX4_ahead 56 = .ok (.iaload, 1) := dk_46 (dk_at dksX4_ahead_2 9 rfl rfl)
theorem dX4_ahead_57 : decode cX4_ahead 57 = .ok (.if_icmp .ge 49, 3) := dk_162 0 49 (dk_at dksX4_ahead_2 10 rfl rfl)
theorem dX4_ahead_60 : decode cX4_ahead 60 = .ok (.aload_n 0, 1) := dk_42 (dk_at dksX4_ahead_2 13 rfl rfl)
theorem dX4_ahead_61 : decode cX4_ahead 61 = .ok (.getfield 86, 3) := dk_180 0 86 (dk_at dksX4_ahead_2 14 rfl rfl)
theorem dX4_ahead_64 : decode cX4_ahead 64 = .ok (.iconst 0, 1) := dk_3 (dk_at dksX4_ahead_2 17 rfl rfl)
theorem dX4_ahead_65 : decode cX4_ahead 65 = .ok (.iload_n 2, 1) := dk_28 (dk_at dksX4_ahead_2 18 rfl rfl)
theorem dX4_ahead_66 : decode cX4_ahead 66 = .ok (.iastore, 1) := dk_79 (dk_at dksX4_ahead_2 19 rfl rfl)
theorem dX4_ahead_67 : decode cX4_ahead 67 = .ok (.iload_n 1, 1) := dk_27 (dk_at dksX4_ahead_2 20 rfl rfl)
theorem dX4_ahead_68 : decode cX4_ahead 68 = .ok (.aload_n 0, 1) := dk_42 (dk_at dksX4_ahead_2 21 rfl rfl)
theorem dX4_ahead_69 : decode cX4_ahead 69 = .ok (.aload_n 0, 1) := dk_42 (dk_at dksX4_ahead_2 22 rfl rfl)
theorem dX4_ahead_70 : decode cX4_ahead 70 = .ok (.getfield 86, 3) := dk_180 0 86 (dk_at dksX4_ahead_3 0 rfl rfl)
theorem dX4_ahead_73 : decode cX4_ahead 73 = .ok (.aload_n 0, 1) := dk_42 (dk_at dksX4_ahead_3 3 rfl rfl)
theorem dX4_ahead_74 : decode cX4_ahead 74 = .ok (.getfield 184, 3) := dk_180 0 184 (dk_at dksX4_ahead_3 4 rfl rfl)
theorem dX4_ahead_77 : decode cX4_ahead 77 = .ok (.iconst 1, 1) := dk_4 (dk_at dksX4_ahead_3 7 rfl rfl)
theorem dX4_ahead_78 : decode cX4_ahead 78 = .ok (.iadd, 1) := dk_96 (dk_at dksX4_ahead_3 8 rfl rfl)
theorem dX4_ahead_79 : decode cX4_ahead 79 = .ok (.invokevirtual 232, 3) := dk_182 0 232 (dk_at dksX4_ahead_3 9 rfl rfl)
theorem dX4_ahead_82 : decode cX4_ahead 82 = .ok (.aload_n 0, 1) := dk_42 (dk_at dksX4_ahead_3 12 rfl rfl)
theorem dX4_ahead_83 : decode cX4_ahead 83 = .ok (.getfield 184, 3) := dk_180 0 184 (dk_at dksX4_ahead_3 13 rfl rfl)
theorem dX4_ahead_86 : decode cX4_ahead 86 = .ok (.iconst 1, 1) := dk_4 (dk_at dksX4_ahead_3 16 rfl rfl)
theorem dX4_ahead_87 : decode cX4_ahead 87 = .ok (.iadd, 1) := dk_96 (dk_at dksX4_ahead_3 17 rfl rfl)
theorem dX4_ahead_88 : decode cX4_ahead 88 = .ok (.if_icmp .ne 9, 3) := dk_160 0 9 (dk_at dksX4_ahead_3 18 rfl rfl)
theorem dX4_ahead_91 : decode cX4_ahead 91 = .ok (.iconst 1, 1) := dk_4 (dk_at dksX4_ahead_3 21 rfl rfl)
theorem dX4_ahead_92 : decode cX4_ahead 92 = .ok (.iload_n 2, 1) := dk_28 (dk_at dksX4_ahead_3 22 rfl rfl)
theorem dX4_ahead_93 : decode cX4_ahead 93 = .ok (.ishl, 1) := dk_120 (dk_at dksX4_ahead_3 23 rfl rfl)
theorem dX4_ahead_94 : decode cX4_ahead 94 = .ok (.goto 4, 3) := dk_167 0 4 (dk_at dksX4_ahead_4 0 rfl rfl)
theorem dX4_ahead_97 : decode cX4_ahead 97 = .ok (.iconst 0, 1) := dk_3 (dk_at dksX4_ahead_4 3 rfl rfl)
theorem dX4_ahead_98 : decode cX4_ahead 98 = .ok (.ior, 1) := dk_128 (dk_at dksX4_ahead_4 4 rfl rfl)
theorem dX4_ahead_99 : decode cX4_ahead 99 = .ok (.istore_n 1, 1) := dk_60 (dk_at dksX4_ahead_4 5 rfl rfl)
theorem dX4_ahead_100 : decode cX4_ahead 100 = .ok (.iinc 2 1, 3) := dk_132 2 1 (dk_at dksX4_ahead_4 6 rfl rfl)
theorem dX4_ahead_103 : decode cX4_ahead 103 = .ok (.goto (-53), 3) := dk_167 255 203 (dk_at dksX4_ahead_4 9 rfl rfl)
theorem dX4_ahead_106 : decode cX4_ahead 106 = .ok (.iload_n 1, 1) := dk_27 (dk_at dksX4_ahead_4 12 rfl rfl)
theorem dX4_ahead_107 : decode cX4_ahead 107 = .ok (.ireturn, 1) := dk_172 (dk_at dksX4_ahead_4 13 rfl rfl)
abbrev cX4_greatest : ByteArray := prog_13_method_56_code
def yX4_greatest : MethodName := ⟨RX4, "greatest", "(I)I"⟩
def dkwX4_greatest_7 : List UInt8 := [167, 0, 5, 21, 4, 172]
abbrev dktX4_greatest_7 : List UInt8 := dkwX4_greatest_7 ++ []
def dkwX4_greatest_6 : List UInt8 := [167, 255, 184, 132, 5, 1, 167, 255, 166, 27, 154, 0, 7, 28, 167, 0, 14, 27, 4, 160, 0, 7, 29]
abbrev dktX4_greatest_6 : List UInt8 := dkwX4_greatest_6 ++ dktX4_greatest_7
def dkwX4_greatest_5 : List UInt8 := [21, 6, 28, 163, 0, 6, 167, 0, 13, 21, 6, 61, 21, 7, 62, 21, 5, 54, 4, 132, 6, 1]
abbrev dktX4_greatest_5 : List UInt8 := dkwX4_greatest_5 ++ dktX4_greatest_6
def dkwX4_greatest_4 : List UInt8 := [21, 7, 104, 100, 54, 8, 21, 8, 155, 0, 34, 21, 8, 154, 0, 19, 21, 5, 21, 4, 160, 0, 22]
abbrev dktX4_greatest_4 : List UInt8 := dkwX4_greatest_4 ++ dktX4_greatest_5
def dkwX4_greatest_3 : List UInt8 := [180, 0, 184, 21, 5, 100, 163, 0, 66, 42, 21, 5, 21, 6, 182, 0, 245, 54, 7, 21, 6, 29, 104, 28]
abbrev dktX4_greatest_3 : List UInt8 := dkwX4_greatest_3 ++ dktX4_greatest_4
def dkwX4_greatest_2 : List UInt8 := [61, 4, 62, 3, 54, 4, 3, 54, 5, 21, 5, 42, 180, 0, 184, 162, 0, 87, 4, 54, 6, 21, 6, 42]
abbrev dktX4_greatest_2 : List UInt8 := dkwX4_greatest_2 ++ dktX4_greatest_3
def dkwX4_greatest_1 : List UInt8 := [154, 0, 10, 42, 180, 0, 184, 154, 0, 16, 42, 180, 0, 3, 158, 0, 7, 3, 167, 0, 4, 2, 172, 4]
abbrev dktX4_greatest_1 : List UInt8 := dkwX4_greatest_1 ++ dktX4_greatest_2
def dkwX4_greatest_0 : List UInt8 := [42, 3, 181, 0, 3, 42, 27, 3, 5, 184, 0, 65, 154, 0, 7, 4, 167, 0, 4, 3, 4, 182, 0, 180]
abbrev dktX4_greatest_0 : List UInt8 := dkwX4_greatest_0 ++ dktX4_greatest_1
theorem dksX4_greatest_0 : cX4_greatest.data.toList.drop 0 = dktX4_greatest_0 := by decide +kernel
theorem dksX4_greatest_1 : cX4_greatest.data.toList.drop 24 = dktX4_greatest_1 := dk_seg dksX4_greatest_0 24 rfl rfl
theorem dksX4_greatest_2 : cX4_greatest.data.toList.drop 48 = dktX4_greatest_2 := dk_seg dksX4_greatest_1 24 rfl rfl
theorem dksX4_greatest_3 : cX4_greatest.data.toList.drop 72 = dktX4_greatest_3 := dk_seg dksX4_greatest_2 24 rfl rfl
theorem dksX4_greatest_4 : cX4_greatest.data.toList.drop 96 = dktX4_greatest_4 := dk_seg dksX4_greatest_3 24 rfl rfl
theorem dksX4_greatest_5 : cX4_greatest.data.toList.drop 119 = dktX4_greatest_5 := dk_seg dksX4_greatest_4 23 rfl rfl
theorem dksX4_greatest_6 : cX4_greatest.data.toList.drop 141 = dktX4_greatest_6 := dk_seg dksX4_greatest_5 22 rfl rfl
theorem dksX4_greatest_7 : cX4_greatest.data.toList.drop 164 = dktX4_greatest_7 := dk_seg dksX4_greatest_6 23 rfl rfl
theorem dX4_greatest_0 : decode cX4_greatest 0 = .ok (.aload_n 0, 1) := dk_42 (dk_at dksX4_greatest_0 0 rfl rfl)
theorem dX4_greatest_1 : decode cX4_greatest 1 = .ok (.iconst 0, 1) := dk_3 (dk_at dksX4_greatest_0 1 rfl rfl)
theorem dX4_greatest_2 : decode cX4_greatest 2 = .ok (.putfield 3, 3) := dk_181 0 3 (dk_at dksX4_greatest_0 2 rfl rfl)
theorem dX4_greatest_5 : decode cX4_greatest 5 = .ok (.aload_n 0, 1) := dk_42 (dk_at dksX4_greatest_0 5 rfl rfl)
theorem dX4_greatest_6 : decode cX4_greatest 6 = .ok (.iload_n 1, 1) := dk_27 (dk_at dksX4_greatest_0 6 rfl rfl)
theorem dX4_greatest_7 : decode cX4_greatest 7 = .ok (.iconst 0, 1) := dk_3 (dk_at dksX4_greatest_0 7 rfl rfl)
theorem dX4_greatest_8 : decode cX4_greatest 8 = .ok (.iconst 2, 1) := dk_5 (dk_at dksX4_greatest_0 8 rfl rfl)
theorem dX4_greatest_9 : decode cX4_greatest 9 = .ok (.invokestatic 65, 3) := dk_184 0 65 (dk_at dksX4_greatest_0 9 rfl rfl)
theorem dX4_greatest_12 : decode cX4_greatest 12 = .ok (.ifCond .ne 7, 3) := dk_154 0 7 (dk_at dksX4_greatest_0 12 rfl rfl)
theorem dX4_greatest_15 : decode cX4_greatest 15 = .ok (.iconst 1, 1) := dk_4 (dk_at dksX4_greatest_0 15 rfl rfl)
theorem dX4_greatest_16 : decode cX4_greatest 16 = .ok (.goto 4, 3) := dk_167 0 4 (dk_at dksX4_greatest_0 16 rfl rfl)
theorem dX4_greatest_19 : decode cX4_greatest 19 = .ok (.iconst 0, 1) := dk_3 (dk_at dksX4_greatest_0 19 rfl rfl)
theorem dX4_greatest_20 : decode cX4_greatest 20 = .ok (.iconst 1, 1) := dk_4 (dk_at dksX4_greatest_0 20 rfl rfl)
theorem dX4_greatest_21 : decode cX4_greatest 21 = .ok (.invokevirtual 180, 3) := dk_182 0 180 (dk_at dksX4_greatest_0 21 rfl rfl)
theorem dX4_greatest_24 : decode cX4_greatest 24 = .ok (.ifCond .ne 10, 3) := dk_154 0 10 (dk_at dksX4_greatest_1 0 rfl rfl)
theorem dX4_greatest_27 : decode cX4_greatest 27 = .ok (.aload_n 0, 1) := dk_42 (dk_at dksX4_greatest_1 3 rfl rfl)
theorem dX4_greatest_28 : decode cX4_greatest 28 = .ok (.getfield 184, 3) := dk_180 0 184 (dk_at dksX4_greatest_1 4 rfl rfl)
theorem dX4_greatest_31 : decode cX4_greatest 31 = .ok (.ifCond .ne 16, 3) := dk_154 0 16 (dk_at dksX4_greatest_1 7 rfl rfl)
theorem dX4_greatest_34 : decode cX4_greatest 34 = .ok (.aload_n 0, 1) := dk_42 (dk_at dksX4_greatest_1 10 rfl rfl)
theorem dX4_greatest_35 : decode cX4_greatest 35 = .ok (.getfield 3, 3) := dk_180 0 3 (dk_at dksX4_greatest_1 11 rfl rfl)
theorem dX4_greatest_38 : decode cX4_greatest 38 = .ok (.ifCond .le 7, 3) := dk_158 0 7 (dk_at dksX4_greatest_1 14 rfl rfl)
theorem dX4_greatest_41 : decode cX4_greatest 41 = .ok (.iconst 0, 1) := dk_3 (dk_at dksX4_greatest_1 17 rfl rfl)
theorem dX4_greatest_42 : decode cX4_greatest 42 = .ok (.goto 4, 3) := dk_167 0 4 (dk_at dksX4_greatest_1 18 rfl rfl)
theorem dX4_greatest_45 : decode cX4_greatest 45 = .ok (.iconst (-1), 1) := dk_2 (dk_at dksX4_greatest_1 21 rfl rfl)
theorem dX4_greatest_46 : decode cX4_greatest 46 = .ok (.ireturn, 1) := dk_172 (dk_at dksX4_greatest_1 22 rfl rfl)
theorem dX4_greatest_47 : decode cX4_greatest 47 = .ok (.iconst 1, 1) := dk_4 (dk_at dksX4_greatest_1 23 rfl rfl)
theorem dX4_greatest_48 : decode cX4_greatest 48 = .ok (.istore_n 2, 1) := dk_61 (dk_at dksX4_greatest_2 0 rfl rfl)
theorem dX4_greatest_49 : decode cX4_greatest 49 = .ok (.iconst 1, 1) := dk_4 (dk_at dksX4_greatest_2 1 rfl rfl)
theorem dX4_greatest_50 : decode cX4_greatest 50 = .ok (.istore_n 3, 1) := dk_62 (dk_at dksX4_greatest_2 2 rfl rfl)
theorem dX4_greatest_51 : decode cX4_greatest 51 = .ok (.iconst 0, 1) := dk_3 (dk_at dksX4_greatest_2 3 rfl rfl)
theorem dX4_greatest_52 : decode cX4_greatest 52 = .ok (.istore 4, 2) := dk_54 4 (dk_at dksX4_greatest_2 4 rfl rfl)
theorem dX4_greatest_54 : decode cX4_greatest 54 = .ok (.iconst 0, 1) := dk_3 (dk_at dksX4_greatest_2 6 rfl rfl)
theorem dX4_greatest_55 : decode cX4_greatest 55 = .ok (.istore 5, 2) := dk_54 5 (dk_at dksX4_greatest_2 7 rfl rfl)
theorem dX4_greatest_57 : decode cX4_greatest 57 = .ok (.iload 5, 2) := dk_21 5 (dk_at dksX4_greatest_2 9 rfl rfl)
theorem dX4_greatest_59 : decode cX4_greatest 59 = .ok (.aload_n 0, 1) := dk_42 (dk_at dksX4_greatest_2 11 rfl rfl)
theorem dX4_greatest_60 : decode cX4_greatest 60 = .ok (.getfield 184, 3) := dk_180 0 184 (dk_at dksX4_greatest_2 12 rfl rfl)
theorem dX4_greatest_63 : decode cX4_greatest 63 = .ok (.if_icmp .ge 87, 3) := dk_162 0 87 (dk_at dksX4_greatest_2 15 rfl rfl)
theorem dX4_greatest_66 : decode cX4_greatest 66 = .ok (.iconst 1, 1) := dk_4 (dk_at dksX4_greatest_2 18 rfl rfl)
theorem dX4_greatest_67 : decode cX4_greatest 67 = .ok (.istore 6, 2) := dk_54 6 (dk_at dksX4_greatest_2 19 rfl rfl)
theorem dX4_greatest_69 : decode cX4_greatest 69 = .ok (.iload 6, 2) := dk_21 6 (dk_at dksX4_greatest_2 21 rfl rfl)
theorem dX4_greatest_71 : decode cX4_greatest 71 = .ok (.aload_n 0, 1) := dk_42 (dk_at dksX4_greatest_2 23 rfl rfl)
theorem dX4_greatest_72 : decode cX4_greatest 72 = .ok (.getfield 184, 3) := dk_180 0 184 (dk_at dksX4_greatest_3 0 rfl rfl)
theorem dX4_greatest_75 : decode cX4_greatest 75 = .ok (.iload 5, 2) := dk_21 5 (dk_at dksX4_greatest_3 3 rfl rfl)
theorem dX4_greatest_77 : decode cX4_greatest 77 = .ok (.isub, 1) := dk_100 (dk_at dksX4_greatest_3 5 rfl rfl)
theorem dX4_greatest_78 : decode cX4_greatest 78 = .ok (.if_icmp .gt 66, 3) := dk_163 0 66 (dk_at dksX4_greatest_3 6 rfl rfl)
theorem dX4_greatest_81 : decode cX4_greatest 81 = .ok (.aload_n 0, 1) := dk_42 (dk_at dksX4_greatest_3 9 rfl rfl)
theorem dX4_greatest_82 : decode cX4_greatest 82 = .ok (.iload 5, 2) := dk_21 5 (dk_at dksX4_greatest_3 10 rfl rfl)
theorem dX4_greatest_84 : decode cX4_greatest 84 = .ok (.iload 6, 2) := dk_21 6 (dk_at dksX4_greatest_3 12 rfl rfl)
theorem dX4_greatest_86 : decode cX4_greatest 86 = .ok (.invokevirtual 245, 3) := dk_182 0 245 (dk_at dksX4_greatest_3 14 rfl rfl)
theorem dX4_greatest_89 : decode cX4_greatest 89 = .ok (.istore 7, 2) := dk_54 7 (dk_at dksX4_greatest_3 17 rfl rfl)
theorem dX4_greatest_91 : decode cX4_greatest 91 = .ok (.iload 6, 2) := dk_21 6 (dk_at dksX4_greatest_3 19 rfl rfl)
theorem dX4_greatest_93 : decode cX4_greatest 93 = .ok (.iload_n 3, 1) := dk_29 (dk_at dksX4_greatest_3 21 rfl rfl)
theorem dX4_greatest_94 : decode cX4_greatest 94 = .ok (.imul, 1) := dk_104 (dk_at dksX4_greatest_3 22 rfl rfl)
theorem dX4_greatest_95 : decode cX4_greatest 95 = .ok (.iload_n 2, 1) := dk_28 (dk_at dksX4_greatest_3 23 rfl rfl)
theorem dX4_greatest_96 : decode cX4_greatest 96 = .ok (.iload 7, 2) := dk_21 7 (dk_at dksX4_greatest_4 0 rfl rfl)
theorem dX4_greatest_98 : decode cX4_greatest 98 = .ok (.imul, 1) := dk_104 (dk_at dksX4_greatest_4 2 rfl rfl)
theorem dX4_greatest_99 : decode cX4_greatest 99 = .ok (.isub, 1) := dk_100 (dk_at dksX4_greatest_4 3 rfl rfl)
theorem dX4_greatest_100 : decode cX4_greatest 100 = .ok (.istore 8, 2) := dk_54 8 (dk_at dksX4_greatest_4 4 rfl rfl)
theorem dX4_greatest_102 : decode cX4_greatest 102 = .ok (.iload 8, 2) := dk_21 8 (dk_at dksX4_greatest_4 6 rfl rfl)
theorem dX4_greatest_104 : decode cX4_greatest 104 = .ok (.ifCond .lt 34, 3) := dk_155 0 34 (dk_at dksX4_greatest_4 8 rfl rfl)
theorem dX4_greatest_107 : decode cX4_greatest 107 = .ok (.iload 8, 2) := dk_21 8 (dk_at dksX4_greatest_4 11 rfl rfl)
theorem dX4_greatest_109 : decode cX4_greatest 109 = .ok (.ifCond .ne 19, 3) := dk_154 0 19 (dk_at dksX4_greatest_4 13 rfl rfl)
theorem dX4_greatest_112 : decode cX4_greatest 112 = .ok (.iload 5, 2) := dk_21 5 (dk_at dksX4_greatest_4 16 rfl rfl)
theorem dX4_greatest_114 : decode cX4_greatest 114 = .ok (.iload 4, 2) := dk_21 4 (dk_at dksX4_greatest_4 18 rfl rfl)
theorem dX4_greatest_116 : decode cX4_greatest 116 = .ok (.if_icmp .ne 22, 3) := dk_160 0 22 (dk_at dksX4_greatest_4 20 rfl rfl)
theorem dX4_greatest_119 : decode cX4_greatest 119 = .ok (.iload 6, 2) := dk_21 6 (dk_at dksX4_greatest_5 0 rfl rfl)
theorem dX4_greatest_121 : decode cX4_greatest 121 = .ok (.iload_n 2, 1) := dk_28 (dk_at dksX4_greatest_5 2 rfl rfl)
theorem dX4_greatest_122 : decode cX4_greatest 122 = .ok (.if_icmp .gt 6, 3) := dk_163 0 6 (dk_at dksX4_greatest_5 3 rfl rfl)
theorem dX4_greatest_125 : decode cX4_greatest 125 = .ok (.goto 13, 3) := dk_167 0 13 (dk_at dksX4_greatest_5 6 rfl rfl)
theorem dX4_greatest_128 : decode cX4_greatest 128 = .ok (.iload 6, 2) := dk_21 6 (dk_at dksX4_greatest_5 9 rfl rfl)
theorem dX4_greatest_130 : decode cX4_greatest 130 = .ok (.istore_n 2, 1) := dk_61 (dk_at dksX4_greatest_5 11 rfl rfl)
theorem dX4_greatest_131 : decode cX4_greatest 131 = .ok (.iload 7, 2) := dk_21 7 (dk_at dksX4_greatest_5 12 rfl rfl)
theorem dX4_greatest_133 : decode cX4_greatest 133 = .ok (.istore_n 3, 1) := dk_62 (dk_at dksX4_greatest_5 14 rfl rfl)
theorem dX4_greatest_134 : decode cX4_greatest 134 = .ok (.iload 5, 2) := dk_21 5 (dk_at dksX4_greatest_5 15 rfl rfl)
theorem dX4_greatest_136 : decode cX4_greatest 136 = .ok (.istore 4, 2) := dk_54 4 (dk_at dksX4_greatest_5 17 rfl rfl)
theorem dX4_greatest_138 : decode cX4_greatest 138 = .ok (.iinc 6 1, 3) := dk_132 6 1 (dk_at dksX4_greatest_5 19 rfl rfl)
theorem dX4_greatest_141 : decode cX4_greatest 141 = .ok (.goto (-72), 3) := dk_167 255 184 (dk_at dksX4_greatest_6 0 rfl rfl)
theorem dX4_greatest_144 : decode cX4_greatest 144 = .ok (.iinc 5 1, 3) := dk_132 5 1 (dk_at dksX4_greatest_6 3 rfl rfl)
theorem dX4_greatest_147 : decode cX4_greatest 147 = .ok (.goto (-90), 3) := dk_167 255 166 (dk_at dksX4_greatest_6 6 rfl rfl)
theorem dX4_greatest_150 : decode cX4_greatest 150 = .ok (.iload_n 1, 1) := dk_27 (dk_at dksX4_greatest_6 9 rfl rfl)
theorem dX4_greatest_151 : decode cX4_greatest 151 = .ok (.ifCond .ne 7, 3) := dk_154 0 7 (dk_at dksX4_greatest_6 10 rfl rfl)
theorem dX4_greatest_154 : decode cX4_greatest 154 = .ok (.iload_n 2, 1) := dk_28 (dk_at dksX4_greatest_6 13 rfl rfl)
theorem dX4_greatest_155 : decode cX4_greatest 155 = .ok (.goto 14, 3) := dk_167 0 14 (dk_at dksX4_greatest_6 14 rfl rfl)
theorem dX4_greatest_158 : decode cX4_greatest 158 = .ok (.iload_n 1, 1) := dk_27 (dk_at dksX4_greatest_6 17 rfl rfl)
theorem dX4_greatest_159 : decode cX4_greatest 159 = .ok (.iconst 1, 1) := dk_4 (dk_at dksX4_greatest_6 18 rfl rfl)
theorem dX4_greatest_160 : decode cX4_greatest 160 = .ok (.if_icmp .ne 7, 3) := dk_160 0 7 (dk_at dksX4_greatest_6 19 rfl rfl)
theorem dX4_greatest_163 : decode cX4_greatest 163 = .ok (.iload_n 3, 1) := dk_29 (dk_at dksX4_greatest_6 22 rfl rfl)
theorem dX4_greatest_164 : decode cX4_greatest 164 = .ok (.goto 5, 3) := dk_167 0 5 (dk_at dksX4_greatest_7 0 rfl rfl)
theorem dX4_greatest_167 : decode cX4_greatest 167 = .ok (.iload 4, 2) := dk_21 4 (dk_at dksX4_greatest_7 3 rfl rfl)
theorem dX4_greatest_169 : decode cX4_greatest 169 = .ok (.ireturn, 1) := dk_172 (dk_at dksX4_greatest_7 5 rfl rfl)
abbrev cX4_periodOf : ByteArray := prog_13_method_55_code
def yX4_periodOf : MethodName := ⟨RX4, "periodOf", "(II)I"⟩
def dkwX4_periodOf_2 : List UInt8 := [160, 0, 5, 29, 172, 132, 3, 1, 167, 255, 202, 28, 172]
abbrev dktX4_periodOf_2 : List UInt8 := dkwX4_periodOf_2 ++ []
def dkwX4_periodOf_1 : List UInt8 := [46, 42, 180, 0, 83, 27, 21, 4, 96, 29, 100, 46, 160, 0, 9, 132, 4, 1, 167, 255, 224, 21, 4, 28]
abbrev dktX4_periodOf_1 : List UInt8 := dkwX4_periodOf_1 ++ dktX4_periodOf_2
def dkwX4_periodOf_0 : List UInt8 := [4, 62, 29, 28, 162, 0, 55, 29, 54, 4, 21, 4, 28, 162, 0, 32, 42, 180, 0, 83, 27, 21, 4, 96]
abbrev dktX4_periodOf_0 : List UInt8 := dkwX4_periodOf_0 ++ dktX4_periodOf_1
theorem dksX4_periodOf_0 : cX4_periodOf.data.toList.drop 0 = dktX4_periodOf_0 := by decide +kernel
theorem dksX4_periodOf_1 : cX4_periodOf.data.toList.drop 24 = dktX4_periodOf_1 := dk_seg dksX4_periodOf_0 24 rfl rfl
theorem dksX4_periodOf_2 : cX4_periodOf.data.toList.drop 48 = dktX4_periodOf_2 := dk_seg dksX4_periodOf_1 24 rfl rfl
theorem dX4_periodOf_0 : decode cX4_periodOf 0 = .ok (.iconst 1, 1) := dk_4 (dk_at dksX4_periodOf_0 0 rfl rfl)
theorem dX4_periodOf_1 : decode cX4_periodOf 1 = .ok (.istore_n 3, 1) := dk_62 (dk_at dksX4_periodOf_0 1 rfl rfl)
theorem dX4_periodOf_2 : decode cX4_periodOf 2 = .ok (.iload_n 3, 1) := dk_29 (dk_at dksX4_periodOf_0 2 rfl rfl)
theorem dX4_periodOf_3 : decode cX4_periodOf 3 = .ok (.iload_n 2, 1) := dk_28 (dk_at dksX4_periodOf_0 3 rfl rfl)
theorem dX4_periodOf_4 : decode cX4_periodOf 4 = .ok (.if_icmp .ge 55, 3) := dk_162 0 55 (dk_at dksX4_periodOf_0 4 rfl rfl)
theorem dX4_periodOf_7 : decode cX4_periodOf 7 = .ok (.iload_n 3, 1) := dk_29 (dk_at dksX4_periodOf_0 7 rfl rfl)
theorem dX4_periodOf_8 : decode cX4_periodOf 8 = .ok (.istore 4, 2) := dk_54 4 (dk_at dksX4_periodOf_0 8 rfl rfl)
theorem dX4_periodOf_10 : decode cX4_periodOf 10 = .ok (.iload 4, 2) := dk_21 4 (dk_at dksX4_periodOf_0 10 rfl rfl)
theorem dX4_periodOf_12 : decode cX4_periodOf 12 = .ok (.iload_n 2, 1) := dk_28 (dk_at dksX4_periodOf_0 12 rfl rfl)
theorem dX4_periodOf_13 : decode cX4_periodOf 13 = .ok (.if_icmp .ge 32, 3) := dk_162 0 32 (dk_at dksX4_periodOf_0 13 rfl rfl)
theorem dX4_periodOf_16 : decode cX4_periodOf 16 = .ok (.aload_n 0, 1) := dk_42 (dk_at dksX4_periodOf_0 16 rfl rfl)
theorem dX4_periodOf_17 : decode cX4_periodOf 17 = .ok (.getfield 83, 3) := dk_180 0 83 (dk_at dksX4_periodOf_0 17 rfl rfl)
theorem dX4_periodOf_20 : decode cX4_periodOf 20 = .ok (.iload_n 1, 1) := dk_27 (dk_at dksX4_periodOf_0 20 rfl rfl)
theorem dX4_periodOf_21 : decode cX4_periodOf 21 = .ok (.iload 4, 2) := dk_21 4 (dk_at dksX4_periodOf_0 21 rfl rfl)
theorem dX4_periodOf_23 : decode cX4_periodOf 23 = .ok (.iadd, 1) := dk_96 (dk_at dksX4_periodOf_0 23 rfl rfl)
theorem dX4_periodOf_24 : decode cX4_periodOf 24 = .ok (.iaload, 1) := dk_46 (dk_at dksX4_periodOf_1 0 rfl rfl)
theorem dX4_periodOf_25 : decode cX4_periodOf 25 = .ok (.aload_n 0, 1) := dk_42 (dk_at dksX4_periodOf_1 1 rfl rfl)
theorem dX4_periodOf_26 : decode cX4_periodOf 26 = .ok (.getfield 83, 3) := dk_180 0 83 (dk_at dksX4_periodOf_1 2 rfl rfl)
theorem dX4_periodOf_29 : decode cX4_periodOf 29 = .ok (.iload_n 1, 1) := dk_27 (dk_at dksX4_periodOf_1 5 rfl rfl)
theorem dX4_periodOf_30 : decode cX4_periodOf 30 = .ok (.iload 4, 2) := dk_21 4 (dk_at dksX4_periodOf_1 6 rfl rfl)
theorem dX4_periodOf_32 : decode cX4_periodOf 32 = .ok (.iadd, 1) := dk_96 (dk_at dksX4_periodOf_1 8 rfl rfl)
theorem dX4_periodOf_33 : decode cX4_periodOf 33 = .ok (.iload_n 3, 1) := dk_29 (dk_at dksX4_periodOf_1 9 rfl rfl)
theorem dX4_periodOf_34 : decode cX4_periodOf 34 = .ok (.isub, 1) := dk_100 (dk_at dksX4_periodOf_1 10 rfl rfl)
theorem dX4_periodOf_35 : decode cX4_periodOf 35 = .ok (.iaload, 1) := dk_46 (dk_at dksX4_periodOf_1 11 rfl rfl)
theorem dX4_periodOf_36 : decode cX4_periodOf 36 = .ok (.if_icmp .ne 9, 3) := dk_160 0 9 (dk_at dksX4_periodOf_1 12 rfl rfl)
theorem dX4_periodOf_39 : decode cX4_periodOf 39 = .ok (.iinc 4 1, 3) := dk_132 4 1 (dk_at dksX4_periodOf_1 15 rfl rfl)
theorem dX4_periodOf_42 : decode cX4_periodOf 42 = .ok (.goto (-32), 3) := dk_167 255 224 (dk_at dksX4_periodOf_1 18 rfl rfl)
theorem dX4_periodOf_45 : decode cX4_periodOf 45 = .ok (.iload 4, 2) := dk_21 4 (dk_at dksX4_periodOf_1 21 rfl rfl)
theorem dX4_periodOf_47 : decode cX4_periodOf 47 = .ok (.iload_n 2, 1) := dk_28 (dk_at dksX4_periodOf_1 23 rfl rfl)
theorem dX4_periodOf_48 : decode cX4_periodOf 48 = .ok (.if_icmp .ne 5, 3) := dk_160 0 5 (dk_at dksX4_periodOf_2 0 rfl rfl)
theorem dX4_periodOf_51 : decode cX4_periodOf 51 = .ok (.iload_n 3, 1) := dk_29 (dk_at dksX4_periodOf_2 3 rfl rfl)
theorem dX4_periodOf_52 : decode cX4_periodOf 52 = .ok (.ireturn, 1) := dk_172 (dk_at dksX4_periodOf_2 4 rfl rfl)
theorem dX4_periodOf_53 : decode cX4_periodOf 53 = .ok (.iinc 3 1, 3) := dk_132 3 1 (dk_at dksX4_periodOf_2 5 rfl rfl)
theorem dX4_periodOf_56 : decode cX4_periodOf 56 = .ok (.goto (-54), 3) := dk_167 255 202 (dk_at dksX4_periodOf_2 8 rfl rfl)
theorem dX4_periodOf_59 : decode cX4_periodOf 59 = .ok (.iload_n 2, 1) := dk_28 (dk_at dksX4_periodOf_2 11 rfl rfl)
theorem dX4_periodOf_60 : decode cX4_periodOf 60 = .ok (.ireturn, 1) := dk_172 (dk_at dksX4_periodOf_2 12 rfl rfl)
abbrev cX4_period : ByteArray := prog_13_method_57_code
def yX4_period : MethodName := ⟨RX4, "period", "()I"⟩
def dkwX4_period_1 : List UInt8 := [182, 0, 245, 172]
abbrev dktX4_period_1 : List UInt8 := dkwX4_period_1 ++ []
def dkwX4_period_0 : List UInt8 := [42, 3, 181, 0, 3, 42, 180, 0, 184, 154, 0, 7, 2, 167, 0, 12, 42, 3, 42, 180, 0, 184]
abbrev dktX4_period_0 : List UInt8 := dkwX4_period_0 ++ dktX4_period_1
theorem dksX4_period_0 : cX4_period.data.toList.drop 0 = dktX4_period_0 := by decide +kernel
theorem dksX4_period_1 : cX4_period.data.toList.drop 22 = dktX4_period_1 := dk_seg dksX4_period_0 22 rfl rfl
theorem dX4_period_0 : decode cX4_period 0 = .ok (.aload_n 0, 1) := dk_42 (dk_at dksX4_period_0 0 rfl rfl)
theorem dX4_period_1 : decode cX4_period 1 = .ok (.iconst 0, 1) := dk_3 (dk_at dksX4_period_0 1 rfl rfl)
theorem dX4_period_2 : decode cX4_period 2 = .ok (.putfield 3, 3) := dk_181 0 3 (dk_at dksX4_period_0 2 rfl rfl)
theorem dX4_period_5 : decode cX4_period 5 = .ok (.aload_n 0, 1) := dk_42 (dk_at dksX4_period_0 5 rfl rfl)
theorem dX4_period_6 : decode cX4_period 6 = .ok (.getfield 184, 3) := dk_180 0 184 (dk_at dksX4_period_0 6 rfl rfl)
theorem dX4_period_9 : decode cX4_period 9 = .ok (.ifCond .ne 7, 3) := dk_154 0 7 (dk_at dksX4_period_0 9 rfl rfl)
theorem dX4_period_12 : decode cX4_period 12 = .ok (.iconst (-1), 1) := dk_2 (dk_at dksX4_period_0 12 rfl rfl)
theorem dX4_period_13 : decode cX4_period 13 = .ok (.goto 12, 3) := dk_167 0 12 (dk_at dksX4_period_0 13 rfl rfl)
theorem dX4_period_16 : decode cX4_period 16 = .ok (.aload_n 0, 1) := dk_42 (dk_at dksX4_period_0 16 rfl rfl)
theorem dX4_period_17 : decode cX4_period 17 = .ok (.iconst 0, 1) := dk_3 (dk_at dksX4_period_0 17 rfl rfl)
theorem dX4_period_18 : decode cX4_period 18 = .ok (.aload_n 0, 1) := dk_42 (dk_at dksX4_period_0 18 rfl rfl)
theorem dX4_period_19 : decode cX4_period 19 = .ok (.getfield 184, 3) := dk_180 0 184 (dk_at dksX4_period_0 19 rfl rfl)
theorem dX4_period_22 : decode cX4_period 22 = .ok (.invokevirtual 245, 3) := dk_182 0 245 (dk_at dksX4_period_1 0 rfl rfl)
theorem dX4_period_25 : decode cX4_period 25 = .ok (.ireturn, 1) := dk_172 (dk_at dksX4_period_1 3 rfl rfl)
abbrev cX4_border : ByteArray := prog_13_method_58_code
def yX4_border : MethodName := ⟨RX4, "border", "(I)I"⟩
def dkwX4_border_4 : List UInt8 := [132, 3, 255, 167, 255, 174, 2, 172]
abbrev dktX4_border_4 : List UInt8 := dkwX4_border_4 ++ []
def dkwX4_border_3 : List UInt8 := [132, 5, 1, 167, 255, 211, 21, 4, 154, 0, 6, 167, 0, 12, 28, 154, 0, 5, 29, 172, 132, 2, 255]
abbrev dktX4_border_3 : List UInt8 := dkwX4_border_3 ++ dktX4_border_4
def dkwX4_border_2 : List UInt8 := [180, 0, 83, 42, 180, 0, 184, 29, 100, 21, 5, 96, 46, 160, 0, 7, 4, 167, 0, 4, 3, 54, 4]
abbrev dktX4_border_2 : List UInt8 := dkwX4_border_2 ++ dktX4_border_3
def dkwX4_border_1 : List UInt8 := [54, 4, 3, 54, 5, 21, 5, 29, 162, 0, 45, 21, 4, 153, 0, 40, 42, 180, 0, 83, 21, 5, 46, 42]
abbrev dktX4_border_1 : List UInt8 := dkwX4_border_1 ++ dktX4_border_2
def dkwX4_border_0 : List UInt8 := [42, 3, 181, 0, 3, 27, 61, 42, 180, 0, 184, 4, 100, 62, 29, 158, 0, 84, 27, 155, 0, 80, 4]
abbrev dktX4_border_0 : List UInt8 := dkwX4_border_0 ++ dktX4_border_1
theorem dksX4_border_0 : cX4_border.data.toList.drop 0 = dktX4_border_0 := by decide +kernel
theorem dksX4_border_1 : cX4_border.data.toList.drop 23 = dktX4_border_1 := dk_seg dksX4_border_0 23 rfl rfl
theorem dksX4_border_2 : cX4_border.data.toList.drop 47 = dktX4_border_2 := dk_seg dksX4_border_1 24 rfl rfl
theorem dksX4_border_3 : cX4_border.data.toList.drop 70 = dktX4_border_3 := dk_seg dksX4_border_2 23 rfl rfl
theorem dksX4_border_4 : cX4_border.data.toList.drop 93 = dktX4_border_4 := dk_seg dksX4_border_3 23 rfl rfl
theorem dX4_border_0 : decode cX4_border 0 = .ok (.aload_n 0, 1) := dk_42 (dk_at dksX4_border_0 0 rfl rfl)
theorem dX4_border_1 : decode cX4_border 1 = .ok (.iconst 0, 1) := dk_3 (dk_at dksX4_border_0 1 rfl rfl)
theorem dX4_border_2 : decode cX4_border 2 = .ok (.putfield 3, 3) := dk_181 0 3 (dk_at dksX4_border_0 2 rfl rfl)
theorem dX4_border_5 : decode cX4_border 5 = .ok (.iload_n 1, 1) := dk_27 (dk_at dksX4_border_0 5 rfl rfl)
theorem dX4_border_6 : decode cX4_border 6 = .ok (.istore_n 2, 1) := dk_61 (dk_at dksX4_border_0 6 rfl rfl)
theorem dX4_border_7 : decode cX4_border 7 = .ok (.aload_n 0, 1) := dk_42 (dk_at dksX4_border_0 7 rfl rfl)
theorem dX4_border_8 : decode cX4_border 8 = .ok (.getfield 184, 3) := dk_180 0 184 (dk_at dksX4_border_0 8 rfl rfl)
theorem dX4_border_11 : decode cX4_border 11 = .ok (.iconst 1, 1) := dk_4 (dk_at dksX4_border_0 11 rfl rfl)
theorem dX4_border_12 : decode cX4_border 12 = .ok (.isub, 1) := dk_100 (dk_at dksX4_border_0 12 rfl rfl)
theorem dX4_border_13 : decode cX4_border 13 = .ok (.istore_n 3, 1) := dk_62 (dk_at dksX4_border_0 13 rfl rfl)
theorem dX4_border_14 : decode cX4_border 14 = .ok (.iload_n 3, 1) := dk_29 (dk_at dksX4_border_0 14 rfl rfl)
theorem dX4_border_15 : decode cX4_border 15 = .ok (.ifCond .le 84, 3) := dk_158 0 84 (dk_at dksX4_border_0 15 rfl rfl)
theorem dX4_border_18 : decode cX4_border 18 = .ok (.iload_n 1, 1) := dk_27 (dk_at dksX4_border_0 18 rfl rfl)
theorem dX4_border_19 : decode cX4_border 19 = .ok (.ifCond .lt 80, 3) := dk_155 0 80 (dk_at dksX4_border_0 19 rfl rfl)
theorem dX4_border_22 : decode cX4_border 22 = .ok (.iconst 1, 1) := dk_4 (dk_at dksX4_border_0 22 rfl rfl)
theorem dX4_border_23 : decode cX4_border 23 = .ok (.istore 4, 2) := dk_54 4 (dk_at dksX4_border_1 0 rfl rfl)
theorem dX4_border_25 : decode cX4_border 25 = .ok (.iconst 0, 1) := dk_3 (dk_at dksX4_border_1 2 rfl rfl)
theorem dX4_border_26 : decode cX4_border 26 = .ok (.istore 5, 2) := dk_54 5 (dk_at dksX4_border_1 3 rfl rfl)
theorem dX4_border_28 : decode cX4_border 28 = .ok (.iload 5, 2) := dk_21 5 (dk_at dksX4_border_1 5 rfl rfl)
theorem dX4_border_30 : decode cX4_border 30 = .ok (.iload_n 3, 1) := dk_29 (dk_at dksX4_border_1 7 rfl rfl)
theorem dX4_border_31 : decode cX4_border 31 = .ok (.if_icmp .ge 45, 3) := dk_162 0 45 (dk_at dksX4_border_1 8 rfl rfl)
theorem dX4_border_34 : decode cX4_border 34 = .ok (.iload 4, 2) := dk_21 4 (dk_at dksX4_border_1 11 rfl rfl)
theorem dX4_border_36 : decode cX4_border 36 = .ok (.ifCond .eq 40, 3) := dk_153 0 40 (dk_at dksX4_border_1 13 rfl rfl)
theorem dX4_border_39 : decode cX4_border 39 = .ok (.aload_n 0, 1) := dk_42 (dk_at dksX4_border_1 16 rfl rfl)
theorem dX4_border_40 : decode cX4_border 40 = .ok (.getfield 83, 3) := dk_180 0 83 (dk_at dksX4_border_1 17 rfl rfl)
theorem dX4_border_43 : decode cX4_border 43 = .ok (.iload 5, 2) := dk_21 5 (dk_at dksX4_border_1 20 rfl rfl)
theorem dX4_border_45 : decode cX4_border 45 = .ok (.iaload, 1) := dk_46 (dk_at dksX4_border_1 22 rfl rfl)
theorem dX4_border_46 : decode cX4_border 46 = .ok (.aload_n 0, 1) := dk_42 (dk_at dksX4_border_1 23 rfl rfl)
theorem dX4_border_47 : decode cX4_border 47 = .ok (.getfield 83, 3) := dk_180 0 83 (dk_at dksX4_border_2 0 rfl rfl)
theorem dX4_border_50 : decode cX4_border 50 = .ok (.aload_n 0, 1) := dk_42 (dk_at dksX4_border_2 3 rfl rfl)
theorem dX4_border_51 : decode cX4_border 51 = .ok (.getfield 184, 3) := dk_180 0 184 (dk_at dksX4_border_2 4 rfl rfl)
theorem dX4_border_54 : decode cX4_border 54 = .ok (.iload_n 3, 1) := dk_29 (dk_at dksX4_border_2 7 rfl rfl)
theorem dX4_border_55 : decode cX4_border 55 = .ok (.isub, 1) := dk_100 (dk_at dksX4_border_2 8 rfl rfl)
theorem dX4_border_56 : decode cX4_border 56 = .ok (.iload 5, 2) := dk_21 5 (dk_at dksX4_border_2 9 rfl rfl)
theorem dX4_border_58 : decode cX4_border 58 = .ok (.iadd, 1) := dk_96 (dk_at dksX4_border_2 11 rfl rfl)
theorem dX4_border_59 : decode cX4_border 59 = .ok (.iaload, 1) := dk_46 (dk_at dksX4_border_2 12 rfl rfl)
theorem dX4_border_60 : decode cX4_border 60 = .ok (.if_icmp .ne 7, 3) := dk_160 0 7 (dk_at dksX4_border_2 13 rfl rfl)
theorem dX4_border_63 : decode cX4_border 63 = .ok (.iconst 1, 1) := dk_4 (dk_at dksX4_border_2 16 rfl rfl)
theorem dX4_border_64 : decode cX4_border 64 = .ok (.goto 4, 3) := dk_167 0 4 (dk_at dksX4_border_2 17 rfl rfl)
theorem dX4_border_67 : decode cX4_border 67 = .ok (.iconst 0, 1) := dk_3 (dk_at dksX4_border_2 20 rfl rfl)
theorem dX4_border_68 : decode cX4_border 68 = .ok (.istore 4, 2) := dk_54 4 (dk_at dksX4_border_2 21 rfl rfl)
theorem dX4_border_70 : decode cX4_border 70 = .ok (.iinc 5 1, 3) := dk_132 5 1 (dk_at dksX4_border_3 0 rfl rfl)
theorem dX4_border_73 : decode cX4_border 73 = .ok (.goto (-45), 3) := dk_167 255 211 (dk_at dksX4_border_3 3 rfl rfl)
theorem dX4_border_76 : decode cX4_border 76 = .ok (.iload 4, 2) := dk_21 4 (dk_at dksX4_border_3 6 rfl rfl)
theorem dX4_border_78 : decode cX4_border 78 = .ok (.ifCond .ne 6, 3) := dk_154 0 6 (dk_at dksX4_border_3 8 rfl rfl)
theorem dX4_border_81 : decode cX4_border 81 = .ok (.goto 12, 3) := dk_167 0 12 (dk_at dksX4_border_3 11 rfl rfl)
theorem dX4_border_84 : decode cX4_border 84 = .ok (.iload_n 2, 1) := dk_28 (dk_at dksX4_border_3 14 rfl rfl)
theorem dX4_border_85 : decode cX4_border 85 = .ok (.ifCond .ne 5, 3) := dk_154 0 5 (dk_at dksX4_border_3 15 rfl rfl)
theorem dX4_border_88 : decode cX4_border 88 = .ok (.iload_n 3, 1) := dk_29 (dk_at dksX4_border_3 18 rfl rfl)
theorem dX4_border_89 : decode cX4_border 89 = .ok (.ireturn, 1) := dk_172 (dk_at dksX4_border_3 19 rfl rfl)
theorem dX4_border_90 : decode cX4_border 90 = .ok (.iinc 2 (-1), 3) := dk_132 2 255 (dk_at dksX4_border_3 20 rfl rfl)
theorem dX4_border_93 : decode cX4_border 93 = .ok (.iinc 3 (-1), 3) := dk_132 3 255 (dk_at dksX4_border_4 0 rfl rfl)
theorem dX4_border_96 : decode cX4_border 96 = .ok (.goto (-82), 3) := dk_167 255 174 (dk_at dksX4_border_4 3 rfl rfl)
theorem dX4_border_99 : decode cX4_border 99 = .ok (.iconst (-1), 1) := dk_2 (dk_at dksX4_border_4 6 rfl rfl)
theorem dX4_border_100 : decode cX4_border 100 = .ok (.ireturn, 1) := dk_172 (dk_at dksX4_border_4 7 rfl rfl)
abbrev cX4_run : ByteArray := prog_13_method_60_code
def yX4_run : MethodName := ⟨RX4, "run", "(II)I"⟩
def dkwX4_run_5 : List UInt8 := [167, 255, 173, 27, 2, 160, 0, 7, 29, 167, 0, 4, 2, 172]
abbrev dktX4_run_5 : List UInt8 := dkwX4_run_5 ++ []
def dkwX4_run_4 : List UInt8 := [160, 0, 8, 21, 6, 167, 0, 5, 21, 5, 172, 132, 3, 1, 132, 5, 1, 167, 255, 191, 132, 4, 1]
abbrev dktX4_run_4 : List UInt8 := dkwX4_run_4 ++ dktX4_run_5
def dkwX4_run_3 : List UInt8 := [21, 6, 154, 0, 6, 167, 0, 33, 29, 27, 160, 0, 25, 28, 154, 0, 8, 21, 4, 167, 0, 15, 28, 4]
abbrev dktX4_run_3 : List UInt8 := dkwX4_run_3 ++ dktX4_run_4
def dkwX4_run_2 : List UInt8 := [21, 5, 104, 42, 180, 0, 184, 21, 4, 100, 163, 0, 57, 42, 21, 4, 21, 5, 182, 0, 248, 54, 6]
abbrev dktX4_run_2 : List UInt8 := dkwX4_run_2 ++ dktX4_run_3
def dkwX4_run_1 : List UInt8 := [153, 0, 5, 3, 172, 3, 62, 3, 54, 4, 21, 4, 42, 180, 0, 184, 162, 0, 80, 4, 54, 5, 5]
abbrev dktX4_run_1 : List UInt8 := dkwX4_run_1 ++ dktX4_run_2
def dkwX4_run_0 : List UInt8 := [42, 3, 181, 0, 3, 42, 28, 3, 5, 184, 0, 65, 154, 0, 7, 4, 167, 0, 4, 3, 4, 182, 0, 180]
abbrev dktX4_run_0 : List UInt8 := dkwX4_run_0 ++ dktX4_run_1
theorem dksX4_run_0 : cX4_run.data.toList.drop 0 = dktX4_run_0 := by decide +kernel
theorem dksX4_run_1 : cX4_run.data.toList.drop 24 = dktX4_run_1 := dk_seg dksX4_run_0 24 rfl rfl
theorem dksX4_run_2 : cX4_run.data.toList.drop 47 = dktX4_run_2 := dk_seg dksX4_run_1 23 rfl rfl
theorem dksX4_run_3 : cX4_run.data.toList.drop 70 = dktX4_run_3 := dk_seg dksX4_run_2 23 rfl rfl
theorem dksX4_run_4 : cX4_run.data.toList.drop 94 = dktX4_run_4 := dk_seg dksX4_run_3 24 rfl rfl
theorem dksX4_run_5 : cX4_run.data.toList.drop 117 = dktX4_run_5 := dk_seg dksX4_run_4 23 rfl rfl
theorem dX4_run_0 : decode cX4_run 0 = .ok (.aload_n 0, 1) := dk_42 (dk_at dksX4_run_0 0 rfl rfl)
theorem dX4_run_1 : decode cX4_run 1 = .ok (.iconst 0, 1) := dk_3 (dk_at dksX4_run_0 1 rfl rfl)
theorem dX4_run_2 : decode cX4_run 2 = .ok (.putfield 3, 3) := dk_181 0 3 (dk_at dksX4_run_0 2 rfl rfl)
theorem dX4_run_5 : decode cX4_run 5 = .ok (.aload_n 0, 1) := dk_42 (dk_at dksX4_run_0 5 rfl rfl)
theorem dX4_run_6 : decode cX4_run 6 = .ok (.iload_n 2, 1) := dk_28 (dk_at dksX4_run_0 6 rfl rfl)
theorem dX4_run_7 : decode cX4_run 7 = .ok (.iconst 0, 1) := dk_3 (dk_at dksX4_run_0 7 rfl rfl)
theorem dX4_run_8 : decode cX4_run 8 = .ok (.iconst 2, 1) := dk_5 (dk_at dksX4_run_0 8 rfl rfl)
theorem dX4_run_9 : decode cX4_run 9 = .ok (.invokestatic 65, 3) := dk_184 0 65 (dk_at dksX4_run_0 9 rfl rfl)
theorem dX4_run_12 : decode cX4_run 12 = .ok (.ifCond .ne 7, 3) := dk_154 0 7 (dk_at dksX4_run_0 12 rfl rfl)
theorem dX4_run_15 : decode cX4_run 15 = .ok (.iconst 1, 1) := dk_4 (dk_at dksX4_run_0 15 rfl rfl)
theorem dX4_run_16 : decode cX4_run 16 = .ok (.goto 4, 3) := dk_167 0 4 (dk_at dksX4_run_0 16 rfl rfl)
theorem dX4_run_19 : decode cX4_run 19 = .ok (.iconst 0, 1) := dk_3 (dk_at dksX4_run_0 19 rfl rfl)
theorem dX4_run_20 : decode cX4_run 20 = .ok (.iconst 1, 1) := dk_4 (dk_at dksX4_run_0 20 rfl rfl)
theorem dX4_run_21 : decode cX4_run 21 = .ok (.invokevirtual 180, 3) := dk_182 0 180 (dk_at dksX4_run_0 21 rfl rfl)
theorem dX4_run_24 : decode cX4_run 24 = .ok (.ifCond .eq 5, 3) := dk_153 0 5 (dk_at dksX4_run_1 0 rfl rfl)
theorem dX4_run_27 : decode cX4_run 27 = .ok (.iconst 0, 1) := dk_3 (dk_at dksX4_run_1 3 rfl rfl)
theorem dX4_run_28 : decode cX4_run 28 = .ok (.ireturn, 1) := dk_172 (dk_at dksX4_run_1 4 rfl rfl)
theorem dX4_run_29 : decode cX4_run 29 = .ok (.iconst 0, 1) := dk_3 (dk_at dksX4_run_1 5 rfl rfl)
theorem dX4_run_30 : decode cX4_run 30 = .ok (.istore_n 3, 1) := dk_62 (dk_at dksX4_run_1 6 rfl rfl)
theorem dX4_run_31 : decode cX4_run 31 = .ok (.iconst 0, 1) := dk_3 (dk_at dksX4_run_1 7 rfl rfl)
theorem dX4_run_32 : decode cX4_run 32 = .ok (.istore 4, 2) := dk_54 4 (dk_at dksX4_run_1 8 rfl rfl)
theorem dX4_run_34 : decode cX4_run 34 = .ok (.iload 4, 2) := dk_21 4 (dk_at dksX4_run_1 10 rfl rfl)
theorem dX4_run_36 : decode cX4_run 36 = .ok (.aload_n 0, 1) := dk_42 (dk_at dksX4_run_1 12 rfl rfl)
theorem dX4_run_37 : decode cX4_run 37 = .ok (.getfield 184, 3) := dk_180 0 184 (dk_at dksX4_run_1 13 rfl rfl)
theorem dX4_run_40 : decode cX4_run 40 = .ok (.if_icmp .ge 80, 3) := dk_162 0 80 (dk_at dksX4_run_1 16 rfl rfl)
theorem dX4_run_43 : decode cX4_run 43 = .ok (.iconst 1, 1) := dk_4 (dk_at dksX4_run_1 19 rfl rfl)
theorem dX4_run_44 : decode cX4_run 44 = .ok (.istore 5, 2) := dk_54 5 (dk_at dksX4_run_1 20 rfl rfl)
theorem dX4_run_46 : decode cX4_run 46 = .ok (.iconst 2, 1) := dk_5 (dk_at dksX4_run_1 22 rfl rfl)
theorem dX4_run_47 : decode cX4_run 47 = .ok (.iload 5, 2) := dk_21 5 (dk_at dksX4_run_2 0 rfl rfl)
theorem dX4_run_49 : decode cX4_run 49 = .ok (.imul, 1) := dk_104 (dk_at dksX4_run_2 2 rfl rfl)
theorem dX4_run_50 : decode cX4_run 50 = .ok (.aload_n 0, 1) := dk_42 (dk_at dksX4_run_2 3 rfl rfl)
theorem dX4_run_51 : decode cX4_run 51 = .ok (.getfield 184, 3) := dk_180 0 184 (dk_at dksX4_run_2 4 rfl rfl)
theorem dX4_run_54 : decode cX4_run 54 = .ok (.iload 4, 2) := dk_21 4 (dk_at dksX4_run_2 7 rfl rfl)
theorem dX4_run_56 : decode cX4_run 56 = .ok (.isub, 1) := dk_100 (dk_at dksX4_run_2 9 rfl rfl)
theorem dX4_run_57 : decode cX4_run 57 = .ok (.if_icmp .gt 57, 3) := dk_163 0 57 (dk_at dksX4_run_2 10 rfl rfl)
theorem dX4_run_60 : decode cX4_run 60 = .ok (.aload_n 0, 1) := dk_42 (dk_at dksX4_run_2 13 rfl rfl)
theorem dX4_run_61 : decode cX4_run 61 = .ok (.iload 4, 2) := dk_21 4 (dk_at dksX4_run_2 14 rfl rfl)
theorem dX4_run_63 : decode cX4_run 63 = .ok (.iload 5, 2) := dk_21 5 (dk_at dksX4_run_2 16 rfl rfl)
theorem dX4_run_65 : decode cX4_run 65 = .ok (.invokevirtual 248, 3) := dk_182 0 248 (dk_at dksX4_run_2 18 rfl rfl)
theorem dX4_run_68 : decode cX4_run 68 = .ok (.istore 6, 2) := dk_54 6 (dk_at dksX4_run_2 21 rfl rfl)
theorem dX4_run_70 : decode cX4_run 70 = .ok (.iload 6, 2) := dk_21 6 (dk_at dksX4_run_3 0 rfl rfl)
theorem dX4_run_72 : decode cX4_run 72 = .ok (.ifCond .ne 6, 3) := dk_154 0 6 (dk_at dksX4_run_3 2 rfl rfl)
theorem dX4_run_75 : decode cX4_run 75 = .ok (.goto 33, 3) := dk_167 0 33 (dk_at dksX4_run_3 5 rfl rfl)
theorem dX4_run_78 : decode cX4_run 78 = .ok (.iload_n 3, 1) := dk_29 (dk_at dksX4_run_3 8 rfl rfl)
theorem dX4_run_79 : decode cX4_run 79 = .ok (.iload_n 1, 1) := dk_27 (dk_at dksX4_run_3 9 rfl rfl)
theorem dX4_run_80 : decode cX4_run 80 = .ok (.if_icmp .ne 25, 3) := dk_160 0 25 (dk_at dksX4_run_3 10 rfl rfl)
theorem dX4_run_83 : decode cX4_run 83 = .ok (.iload_n 2, 1) := dk_28 (dk_at dksX4_run_3 13 rfl rfl)
theorem dX4_run_84 : decode cX4_run 84 = .ok (.ifCond .ne 8, 3) := dk_154 0 8 (dk_at dksX4_run_3 14 rfl rfl)
theorem dX4_run_87 : decode cX4_run 87 = .ok (.iload 4, 2) := dk_21 4 (dk_at dksX4_run_3 17 rfl rfl)
theorem dX4_run_89 : decode cX4_run 89 = .ok (.goto 15, 3) := dk_167 0 15 (dk_at dksX4_run_3 19 rfl rfl)
theorem dX4_run_92 : decode cX4_run 92 = .ok (.iload_n 2, 1) := dk_28 (dk_at dksX4_run_3 22 rfl rfl)
theorem dX4_run_93 : decode cX4_run 93 = .ok (.iconst 1, 1) := dk_4 (dk_at dksX4_run_3 23 rfl rfl)
theorem dX4_run_94 : decode cX4_run 94 = .ok (.if_icmp .ne 8, 3) := dk_160 0 8 (dk_at dksX4_run_4 0 rfl rfl)
theorem dX4_run_97 : decode cX4_run 97 = .ok (.iload 6, 2) := dk_21 6 (dk_at dksX4_run_4 3 rfl rfl)
theorem dX4_run_99 : decode cX4_run 99 = .ok (.goto 5, 3) := dk_167 0 5 (dk_at dksX4_run_4 5 rfl rfl)
theorem dX4_run_102 : decode cX4_run 102 = .ok (.iload 5, 2) := dk_21 5 (dk_at dksX4_run_4 8 rfl rfl)
theorem dX4_run_104 : decode cX4_run 104 = .ok (.ireturn, 1) := dk_172 (dk_at dksX4_run_4 10 rfl rfl)
theorem dX4_run_105 : decode cX4_run 105 = .ok (.iinc 3 1, 3) := dk_132 3 1 (dk_at dksX4_run_4 11 rfl rfl)
theorem dX4_run_108 : decode cX4_run 108 = .ok (.iinc 5 1, 3) := dk_132 5 1 (dk_at dksX4_run_4 14 rfl rfl)
theorem dX4_run_111 : decode cX4_run 111 = .ok (.goto (-65), 3) := dk_167 255 191 (dk_at dksX4_run_4 17 rfl rfl)
theorem dX4_run_114 : decode cX4_run 114 = .ok (.iinc 4 1, 3) := dk_132 4 1 (dk_at dksX4_run_4 20 rfl rfl)
theorem dX4_run_117 : decode cX4_run 117 = .ok (.goto (-83), 3) := dk_167 255 173 (dk_at dksX4_run_5 0 rfl rfl)
theorem dX4_run_120 : decode cX4_run 120 = .ok (.iload_n 1, 1) := dk_27 (dk_at dksX4_run_5 3 rfl rfl)
theorem dX4_run_121 : decode cX4_run 121 = .ok (.iconst (-1), 1) := dk_2 (dk_at dksX4_run_5 4 rfl rfl)
theorem dX4_run_122 : decode cX4_run 122 = .ok (.if_icmp .ne 7, 3) := dk_160 0 7 (dk_at dksX4_run_5 5 rfl rfl)
theorem dX4_run_125 : decode cX4_run 125 = .ok (.iload_n 3, 1) := dk_29 (dk_at dksX4_run_5 8 rfl rfl)
theorem dX4_run_126 : decode cX4_run 126 = .ok (.goto 4, 3) := dk_167 0 4 (dk_at dksX4_run_5 9 rfl rfl)
theorem dX4_run_129 : decode cX4_run 129 = .ok (.iconst (-1), 1) := dk_2 (dk_at dksX4_run_5 12 rfl rfl)
theorem dX4_run_130 : decode cX4_run 130 = .ok (.ireturn, 1) := dk_172 (dk_at dksX4_run_5 13 rfl rfl)
abbrev cX4_runAt : ByteArray := prog_13_method_59_code
def yX4_runAt : MethodName := ⟨RX4, "runAt", "(II)I"⟩
def dkwX4_runAt_4 : List UInt8 := [167, 0, 4, 3, 172]
abbrev dktX4_runAt_4 : List UInt8 := dkwX4_runAt_4 ++ []
def dkwX4_runAt_3 : List UInt8 := [132, 3, 1, 167, 255, 222, 29, 5, 28, 104, 161, 0, 17, 42, 27, 29, 182, 0, 245, 28, 160, 0, 7, 29]
abbrev dktX4_runAt_3 : List UInt8 := dkwX4_runAt_3 ++ dktX4_runAt_4
def dkwX4_runAt_2 : List UInt8 := [162, 0, 30, 42, 180, 0, 83, 27, 29, 96, 46, 42, 180, 0, 83, 27, 29, 96, 28, 100, 46, 160, 0, 9]
abbrev dktX4_runAt_2 : List UInt8 := dkwX4_runAt_2 ++ dktX4_runAt_3
def dkwX4_runAt_1 : List UInt8 := [42, 180, 0, 83, 27, 28, 96, 4, 100, 46, 160, 0, 5, 3, 172, 28, 62, 27, 29, 96, 42, 180, 0, 184]
abbrev dktX4_runAt_1 : List UInt8 := dkwX4_runAt_1 ++ dktX4_runAt_2
def dkwX4_runAt_0 : List UInt8 := [27, 158, 0, 38, 27, 28, 96, 4, 100, 42, 180, 0, 184, 162, 0, 26, 42, 180, 0, 83, 27, 4, 100, 46]
abbrev dktX4_runAt_0 : List UInt8 := dkwX4_runAt_0 ++ dktX4_runAt_1
theorem dksX4_runAt_0 : cX4_runAt.data.toList.drop 0 = dktX4_runAt_0 := by decide +kernel
theorem dksX4_runAt_1 : cX4_runAt.data.toList.drop 24 = dktX4_runAt_1 := dk_seg dksX4_runAt_0 24 rfl rfl
theorem dksX4_runAt_2 : cX4_runAt.data.toList.drop 48 = dktX4_runAt_2 := dk_seg dksX4_runAt_1 24 rfl rfl
theorem dksX4_runAt_3 : cX4_runAt.data.toList.drop 72 = dktX4_runAt_3 := dk_seg dksX4_runAt_2 24 rfl rfl
theorem dksX4_runAt_4 : cX4_runAt.data.toList.drop 96 = dktX4_runAt_4 := dk_seg dksX4_runAt_3 24 rfl rfl
theorem dX4_runAt_0 : decode cX4_runAt 0 = .ok (.iload_n 1, 1) := dk_27 (dk_at dksX4_runAt_0 0 rfl rfl)
theorem dX4_runAt_1 : decode cX4_runAt 1 = .ok (.ifCond .le 38, 3) := dk_158 0 38 (dk_at dksX4_runAt_0 1 rfl rfl)
theorem dX4_runAt_4 : decode cX4_runAt 4 = .ok (.iload_n 1, 1) := dk_27 (dk_at dksX4_runAt_0 4 rfl rfl)
theorem dX4_runAt_5 : decode cX4_runAt 5 = .ok (.iload_n 2, 1) := dk_28 (dk_at dksX4_runAt_0 5 rfl rfl)
theorem dX4_runAt_6 : decode cX4_runAt 6 = .ok (.iadd, 1) := dk_96 (dk_at dksX4_runAt_0 6 rfl rfl)
theorem dX4_runAt_7 : decode cX4_runAt 7 = .ok (.iconst 1, 1) := dk_4 (dk_at dksX4_runAt_0 7 rfl rfl)
theorem dX4_runAt_8 : decode cX4_runAt 8 = .ok (.isub, 1) := dk_100 (dk_at dksX4_runAt_0 8 rfl rfl)
theorem dX4_runAt_9 : decode cX4_runAt 9 = .ok (.aload_n 0, 1) := dk_42 (dk_at dksX4_runAt_0 9 rfl rfl)
theorem dX4_runAt_10 : decode cX4_runAt 10 = .ok (.getfield 184, 3) := dk_180 0 184 (dk_at dksX4_runAt_0 10 rfl rfl)
theorem dX4_runAt_13 : decode cX4_runAt 13 = .ok (.if_icmp .ge 26, 3) := dk_162 0 26 (dk_at dksX4_runAt_0 13 rfl rfl)
theorem dX4_runAt_16 : decode cX4_runAt 16 = .ok (.aload_n 0, 1) := dk_42 (dk_at dksX4_runAt_0 16 rfl rfl)
theorem dX4_runAt_17 : decode cX4_runAt 17 = .ok (.getfield 83, 3) := dk_180 0 83 (dk_at dksX4_runAt_0 17 rfl rfl)
theorem dX4_runAt_20 : decode cX4_runAt 20 = .ok (.iload_n 1, 1) := dk_27 (dk_at dksX4_runAt_0 20 rfl rfl)
theorem dX4_runAt_21 : decode cX4_runAt 21 = .ok (.iconst 1, 1) := dk_4 (dk_at dksX4_runAt_0 21 rfl rfl)
theorem dX4_runAt_22 : decode cX4_runAt 22 = .ok (.isub, 1) := dk_100 (dk_at dksX4_runAt_0 22 rfl rfl)
theorem dX4_runAt_23 : decode cX4_runAt 23 = .ok (.iaload, 1) := dk_46 (dk_at dksX4_runAt_0 23 rfl rfl)
theorem dX4_runAt_24 : decode cX4_runAt 24 = .ok (.aload_n 0, 1) := dk_42 (dk_at dksX4_runAt_1 0 rfl rfl)
theorem dX4_runAt_25 : decode cX4_runAt 25 = .ok (.getfield 83, 3) := dk_180 0 83 (dk_at dksX4_runAt_1 1 rfl rfl)
theorem dX4_runAt_28 : decode cX4_runAt 28 = .ok (.iload_n 1, 1) := dk_27 (dk_at dksX4_runAt_1 4 rfl rfl)
theorem dX4_runAt_29 : decode cX4_runAt 29 = .ok (.iload_n 2, 1) := dk_28 (dk_at dksX4_runAt_1 5 rfl rfl)
theorem dX4_runAt_30 : decode cX4_runAt 30 = .ok (.iadd, 1) := dk_96 (dk_at dksX4_runAt_1 6 rfl rfl)
theorem dX4_runAt_31 : decode cX4_runAt 31 = .ok (.iconst 1, 1) := dk_4 (dk_at dksX4_runAt_1 7 rfl rfl)
theorem dX4_runAt_32 : decode cX4_runAt 32 = .ok (.isub, 1) := dk_100 (dk_at dksX4_runAt_1 8 rfl rfl)
theorem dX4_runAt_33 : decode cX4_runAt 33 = .ok (.iaload, 1) := dk_46 (dk_at dksX4_runAt_1 9 rfl rfl)
theorem dX4_runAt_34 : decode cX4_runAt 34 = .ok (.if_icmp .ne 5, 3) := dk_160 0 5 (dk_at dksX4_runAt_1 10 rfl rfl)
theorem dX4_runAt_37 : decode cX4_runAt 37 = .ok (.iconst 0, 1) := dk_3 (dk_at dksX4_runAt_1 13 rfl rfl)
theorem dX4_runAt_38 : decode cX4_runAt 38 = .ok (.ireturn, 1) := dk_172 (dk_at dksX4_runAt_1 14 rfl rfl)
theorem dX4_runAt_39 : decode cX4_runAt 39 = .ok (.iload_n 2, 1) := dk_28 (dk_at dksX4_runAt_1 15 rfl rfl)
theorem dX4_runAt_40 : decode cX4_runAt 40 = .ok (.istore_n 3, 1) := dk_62 (dk_at dksX4_runAt_1 16 rfl rfl)
theorem dX4_runAt_41 : decode cX4_runAt 41 = .ok (.iload_n 1, 1) := dk_27 (dk_at dksX4_runAt_1 17 rfl rfl)
theorem dX4_runAt_42 : decode cX4_runAt 42 = .ok (.iload_n 3, 1) := dk_29 (dk_at dksX4_runAt_1 18 rfl rfl)
theorem dX4_runAt_43 : decode cX4_runAt 43 = .ok (.iadd, 1) := dk_96 (dk_at dksX4_runAt_1 19 rfl rfl)
theorem dX4_runAt_44 : decode cX4_runAt 44 = .ok (.aload_n 0, 1) := dk_42 (dk_at dksX4_runAt_1 20 rfl rfl)
theorem dX4_runAt_45 : decode cX4_runAt 45 = .ok (.getfield 184, 3) := dk_180 0 184 (dk_at dksX4_runAt_1 21 rfl rfl)
theorem dX4_runAt_48 : decode cX4_runAt 48 = .ok (.if_icmp .ge 30, 3) := dk_162 0 30 (dk_at dksX4_runAt_2 0 rfl rfl)
theorem dX4_runAt_51 : decode cX4_runAt 51 = .ok (.aload_n 0, 1) := dk_42 (dk_at dksX4_runAt_2 3 rfl rfl)
theorem dX4_runAt_52 : decode cX4_runAt 52 = .ok (.getfield 83, 3) := dk_180 0 83 (dk_at dksX4_runAt_2 4 rfl rfl)
theorem dX4_runAt_55 : decode cX4_runAt 55 = .ok (.iload_n 1, 1) := dk_27 (dk_at dksX4_runAt_2 7 rfl rfl)
theorem dX4_runAt_56 : decode cX4_runAt 56 = .ok (.iload_n 3, 1) := dk_29 (dk_at dksX4_runAt_2 8 rfl rfl)
theorem dX4_runAt_57 : decode cX4_runAt 57 = .ok (.iadd, 1) := dk_96 (dk_at dksX4_runAt_2 9 rfl rfl)
theorem dX4_runAt_58 : decode cX4_runAt 58 = .ok (.iaload, 1) := dk_46 (dk_at dksX4_runAt_2 10 rfl rfl)
theorem dX4_runAt_59 : decode cX4_runAt 59 = .ok (.aload_n 0, 1) := dk_42 (dk_at dksX4_runAt_2 11 rfl rfl)
theorem dX4_runAt_60 : decode cX4_runAt 60 = .ok (.getfield 83, 3) := dk_180 0 83 (dk_at dksX4_runAt_2 12 rfl rfl)
theorem dX4_runAt_63 : decode cX4_runAt 63 = .ok (.iload_n 1, 1) := dk_27 (dk_at dksX4_runAt_2 15 rfl rfl)
theorem dX4_runAt_64 : decode cX4_runAt 64 = .ok (.iload_n 3, 1) := dk_29 (dk_at dksX4_runAt_2 16 rfl rfl)
theorem dX4_runAt_65 : decode cX4_runAt 65 = .ok (.iadd, 1) := dk_96 (dk_at dksX4_runAt_2 17 rfl rfl)
theorem dX4_runAt_66 : decode cX4_runAt 66 = .ok (.iload_n 2, 1) := dk_28 (dk_at dksX4_runAt_2 18 rfl rfl)
theorem dX4_runAt_67 : decode cX4_runAt 67 = .ok (.isub, 1) := dk_100 (dk_at dksX4_runAt_2 19 rfl rfl)
theorem dX4_runAt_68 : decode cX4_runAt 68 = .ok (.iaload, 1) := dk_46 (dk_at dksX4_runAt_2 20 rfl rfl)
theorem dX4_runAt_69 : decode cX4_runAt 69 = .ok (.if_icmp .ne 9, 3) := dk_160 0 9 (dk_at dksX4_runAt_2 21 rfl rfl)
theorem dX4_runAt_72 : decode cX4_runAt 72 = .ok (.iinc 3 1, 3) := dk_132 3 1 (dk_at dksX4_runAt_3 0 rfl rfl)
theorem dX4_runAt_75 : decode cX4_runAt 75 = .ok (.goto (-34), 3) := dk_167 255 222 (dk_at dksX4_runAt_3 3 rfl rfl)
theorem dX4_runAt_78 : decode cX4_runAt 78 = .ok (.iload_n 3, 1) := dk_29 (dk_at dksX4_runAt_3 6 rfl rfl)
theorem dX4_runAt_79 : decode cX4_runAt 79 = .ok (.iconst 2, 1) := dk_5 (dk_at dksX4_runAt_3 7 rfl rfl)
theorem dX4_runAt_80 : decode cX4_runAt 80 = .ok (.iload_n 2, 1) := dk_28 (dk_at dksX4_runAt_3 8 rfl rfl)
theorem dX4_runAt_81 : decode cX4_runAt 81 = .ok (.imul, 1) := dk_104 (dk_at dksX4_runAt_3 9 rfl rfl)
theorem dX4_runAt_82 : decode cX4_runAt 82 = .ok (.if_icmp .lt 17, 3) := dk_161 0 17 (dk_at dksX4_runAt_3 10 rfl rfl)
theorem dX4_runAt_85 : decode cX4_runAt 85 = .ok (.aload_n 0, 1) := dk_42 (dk_at dksX4_runAt_3 13 rfl rfl)
theorem dX4_runAt_86 : decode cX4_runAt 86 = .ok (.iload_n 1, 1) := dk_27 (dk_at dksX4_runAt_3 14 rfl rfl)
theorem dX4_runAt_87 : decode cX4_runAt 87 = .ok (.iload_n 3, 1) := dk_29 (dk_at dksX4_runAt_3 15 rfl rfl)
theorem dX4_runAt_88 : decode cX4_runAt 88 = .ok (.invokevirtual 245, 3) := dk_182 0 245 (dk_at dksX4_runAt_3 16 rfl rfl)
theorem dX4_runAt_91 : decode cX4_runAt 91 = .ok (.iload_n 2, 1) := dk_28 (dk_at dksX4_runAt_3 19 rfl rfl)
theorem dX4_runAt_92 : decode cX4_runAt 92 = .ok (.if_icmp .ne 7, 3) := dk_160 0 7 (dk_at dksX4_runAt_3 20 rfl rfl)
theorem dX4_runAt_95 : decode cX4_runAt 95 = .ok (.iload_n 3, 1) := dk_29 (dk_at dksX4_runAt_3 23 rfl rfl)
theorem dX4_runAt_96 : decode cX4_runAt 96 = .ok (.goto 4, 3) := dk_167 0 4 (dk_at dksX4_runAt_4 0 rfl rfl)
theorem dX4_runAt_99 : decode cX4_runAt 99 = .ok (.iconst 0, 1) := dk_3 (dk_at dksX4_runAt_4 3 rfl rfl)
theorem dX4_runAt_100 : decode cX4_runAt 100 = .ok (.ireturn, 1) := dk_172 (dk_at dksX4_runAt_4 4 rfl rfl)
abbrev cX4_factors : ByteArray := prog_13_method_62_code
def yX4_factors : MethodName := ⟨RX4, "factors", "(I)I"⟩
def dkwX4_factors_4 : List UInt8 := [167, 0, 4, 4, 96, 61, 132, 3, 1, 167, 255, 189, 28, 172]
abbrev dktX4_factors_4 : List UInt8 := dkwX4_factors_4 ++ []
def dkwX4_factors_3 : List UInt8 := [153, 0, 7, 4, 167, 0, 4, 3, 54, 4, 132, 5, 1, 167, 255, 224, 28, 21, 4, 153, 0, 7, 3]
abbrev dktX4_factors_3 : List UInt8 := dkwX4_factors_3 ++ dktX4_factors_4
def dkwX4_factors_2 : List UInt8 := [54, 4, 3, 54, 5, 21, 5, 29, 162, 0, 32, 21, 4, 154, 0, 14, 42, 29, 21, 5, 27, 182, 0, 251]
abbrev dktX4_factors_2 : List UInt8 := dkwX4_factors_2 ++ dktX4_factors_3
def dkwX4_factors_1 : List UInt8 := [182, 0, 180, 153, 0, 5, 3, 172, 3, 61, 3, 62, 29, 27, 96, 42, 180, 0, 184, 163, 0, 63, 3]
abbrev dktX4_factors_1 : List UInt8 := dkwX4_factors_1 ++ dktX4_factors_2
def dkwX4_factors_0 : List UInt8 := [42, 3, 181, 0, 3, 42, 27, 4, 16, 64, 184, 0, 65, 154, 0, 7, 4, 167, 0, 4, 3, 4]
abbrev dktX4_factors_0 : List UInt8 := dkwX4_factors_0 ++ dktX4_factors_1
theorem dksX4_factors_0 : cX4_factors.data.toList.drop 0 = dktX4_factors_0 := by decide +kernel
theorem dksX4_factors_1 : cX4_factors.data.toList.drop 22 = dktX4_factors_1 := dk_seg dksX4_factors_0 22 rfl rfl
theorem dksX4_factors_2 : cX4_factors.data.toList.drop 45 = dktX4_factors_2 := dk_seg dksX4_factors_1 23 rfl rfl
theorem dksX4_factors_3 : cX4_factors.data.toList.drop 69 = dktX4_factors_3 := dk_seg dksX4_factors_2 24 rfl rfl
theorem dksX4_factors_4 : cX4_factors.data.toList.drop 92 = dktX4_factors_4 := dk_seg dksX4_factors_3 23 rfl rfl
theorem dX4_factors_0 : decode cX4_factors 0 = .ok (.aload_n 0, 1) := dk_42 (dk_at dksX4_factors_0 0 rfl rfl)
theorem dX4_factors_1 : decode cX4_factors 1 = .ok (.iconst 0, 1) := dk_3 (dk_at dksX4_factors_0 1 rfl rfl)
theorem dX4_factors_2 : decode cX4_factors 2 = .ok (.putfield 3, 3) := dk_181 0 3 (dk_at dksX4_factors_0 2 rfl rfl)
theorem dX4_factors_5 : decode cX4_factors 5 = .ok (.aload_n 0, 1) := dk_42 (dk_at dksX4_factors_0 5 rfl rfl)
theorem dX4_factors_6 : decode cX4_factors 6 = .ok (.iload_n 1, 1) := dk_27 (dk_at dksX4_factors_0 6 rfl rfl)
theorem dX4_factors_7 : decode cX4_factors 7 = .ok (.iconst 1, 1) := dk_4 (dk_at dksX4_factors_0 7 rfl rfl)
theorem dX4_factors_8 : decode cX4_factors 8 = .ok (.bipush 64, 2) := dk_16 64 (dk_at dksX4_factors_0 8 rfl rfl)
theorem dX4_factors_10 : decode cX4_factors 10 = .ok (.invokestatic 65, 3) := dk_184 0 65 (dk_at dksX4_factors_0 10 rfl rfl)
theorem dX4_factors_13 : decode cX4_factors 13 = .ok (.ifCond .ne 7, 3) := dk_154 0 7 (dk_at dksX4_factors_0 13 rfl rfl)
theorem dX4_factors_16 : decode cX4_factors 16 = .ok (.iconst 1, 1) := dk_4 (dk_at dksX4_factors_0 16 rfl rfl)
theorem dX4_factors_17 : decode cX4_factors 17 = .ok (.goto 4, 3) := dk_167 0 4 (dk_at dksX4_factors_0 17 rfl rfl)
theorem dX4_factors_20 : decode cX4_factors 20 = .ok (.iconst 0, 1) := dk_3 (dk_at dksX4_factors_0 20 rfl rfl)
theorem dX4_factors_21 : decode cX4_factors 21 = .ok (.iconst 1, 1) := dk_4 (dk_at dksX4_factors_0 21 rfl rfl)
theorem dX4_factors_22 : decode cX4_factors 22 = .ok (.invokevirtual 180, 3) := dk_182 0 180 (dk_at dksX4_factors_1 0 rfl rfl)
theorem dX4_factors_25 : decode cX4_factors 25 = .ok (.ifCond .eq 5, 3) := dk_153 0 5 (dk_at dksX4_factors_1 3 rfl rfl)
theorem dX4_factors_28 : decode cX4_factors 28 = .ok (.iconst 0, 1) := dk_3 (dk_at dksX4_factors_1 6 rfl rfl)
theorem dX4_factors_29 : decode cX4_factors 29 = .ok (.ireturn, 1) := dk_172 (dk_at dksX4_factors_1 7 rfl rfl)
theorem dX4_factors_30 : decode cX4_factors 30 = .ok (.iconst 0, 1) := dk_3 (dk_at dksX4_factors_1 8 rfl rfl)
theorem dX4_factors_31 : decode cX4_factors 31 = .ok (.istore_n 2, 1) := dk_61 (dk_at dksX4_factors_1 9 rfl rfl)
theorem dX4_factors_32 : decode cX4_factors 32 = .ok (.iconst 0, 1) := dk_3 (dk_at dksX4_factors_1 10 rfl rfl)
theorem dX4_factors_33 : decode cX4_factors 33 = .ok (.istore_n 3, 1) := dk_62 (dk_at dksX4_factors_1 11 rfl rfl)
theorem dX4_factors_34 : decode cX4_factors 34 = .ok (.iload_n 3, 1) := dk_29 (dk_at dksX4_factors_1 12 rfl rfl)
theorem dX4_factors_35 : decode cX4_factors 35 = .ok (.iload_n 1, 1) := dk_27 (dk_at dksX4_factors_1 13 rfl rfl)
theorem dX4_factors_36 : decode cX4_factors 36 = .ok (.iadd, 1) := dk_96 (dk_at dksX4_factors_1 14 rfl rfl)
theorem dX4_factors_37 : decode cX4_factors 37 = .ok (.aload_n 0, 1) := dk_42 (dk_at dksX4_factors_1 15 rfl rfl)
theorem dX4_factors_38 : decode cX4_factors 38 = .ok (.getfield 184, 3) := dk_180 0 184 (dk_at dksX4_factors_1 16 rfl rfl)
theorem dX4_factors_41 : decode cX4_factors 41 = .ok (.if_icmp .gt 63, 3) := dk_163 0 63 (dk_at dksX4_factors_1 19 rfl rfl)
theorem dX4_factors_44 : decode cX4_factors 44 = .ok (.iconst 0, 1) := dk_3 (dk_at dksX4_factors_1 22 rfl rfl)
theorem dX4_factors_45 : decode cX4_factors 45 = .ok (.istore 4, 2) := dk_54 4 (dk_at dksX4_factors_2 0 rfl rfl)
theorem dX4_factors_47 : decode cX4_factors 47 = .ok (.iconst 0, 1) := dk_3 (dk_at dksX4_factors_2 2 rfl rfl)
theorem dX4_factors_48 : decode cX4_factors 48 = .ok (.istore 5, 2) := dk_54 5 (dk_at dksX4_factors_2 3 rfl rfl)
theorem dX4_factors_50 : decode cX4_factors 50 = .ok (.iload 5, 2) := dk_21 5 (dk_at dksX4_factors_2 5 rfl rfl)
theorem dX4_factors_52 : decode cX4_factors 52 = .ok (.iload_n 3, 1) := dk_29 (dk_at dksX4_factors_2 7 rfl rfl)
theorem dX4_factors_53 : decode cX4_factors 53 = .ok (.if_icmp .ge 32, 3) := dk_162 0 32 (dk_at dksX4_factors_2 8 rfl rfl)
theorem dX4_factors_56 : decode cX4_factors 56 = .ok (.iload 4, 2) := dk_21 4 (dk_at dksX4_factors_2 11 rfl rfl)
theorem dX4_factors_58 : decode cX4_factors 58 = .ok (.ifCond .ne 14, 3) := dk_154 0 14 (dk_at dksX4_factors_2 13 rfl rfl)
theorem dX4_factors_61 : decode cX4_factors 61 = .ok (.aload_n 0, 1) := dk_42 (dk_at dksX4_factors_2 16 rfl rfl)
theorem dX4_factors_62 : decode cX4_factors 62 = .ok (.iload_n 3, 1) := dk_29 (dk_at dksX4_factors_2 17 rfl rfl)
theorem dX4_factors_63 : decode cX4_factors 63 = .ok (.iload 5, 2) := dk_21 5 (dk_at dksX4_factors_2 18 rfl rfl)
theorem dX4_factors_65 : decode cX4_factors 65 = .ok (.iload_n 1, 1) := dk_27 (dk_at dksX4_factors_2 20 rfl rfl)
theorem dX4_factors_66 : decode cX4_factors 66 = .ok (.invokevirtual 251, 3) := dk_182 0 251 (dk_at dksX4_factors_2 21 rfl rfl)
theorem dX4_factors_69 : decode cX4_factors 69 = .ok (.ifCond .eq 7, 3) := dk_153 0 7 (dk_at dksX4_factors_3 0 rfl rfl)
theorem dX4_factors_72 : decode cX4_factors 72 = .ok (.iconst 1, 1) := dk_4 (dk_at dksX4_factors_3 3 rfl rfl)
theorem dX4_factors_73 : decode cX4_factors 73 = .ok (.goto 4, 3) := dk_167 0 4 (dk_at dksX4_factors_3 4 rfl rfl)
theorem dX4_factors_76 : decode cX4_factors 76 = .ok (.iconst 0, 1) := dk_3 (dk_at dksX4_factors_3 7 rfl rfl)
theorem dX4_factors_77 : decode cX4_factors 77 = .ok (.istore 4, 2) := dk_54 4 (dk_at dksX4_factors_3 8 rfl rfl)
theorem dX4_factors_79 : decode cX4_factors 79 = .ok (.iinc 5 1, 3) := dk_132 5 1 (dk_at dksX4_factors_3 10 rfl rfl)
theorem dX4_factors_82 : decode cX4_factors 82 = .ok (.goto (-32), 3) := dk_167 255 224 (dk_at dksX4_factors_3 13 rfl rfl)
theorem dX4_factors_85 : decode cX4_factors 85 = .ok (.iload_n 2, 1) := dk_28 (dk_at dksX4_factors_3 16 rfl rfl)
theorem dX4_factors_86 : decode cX4_factors 86 = .ok (.iload 4, 2) := dk_21 4 (dk_at dksX4_factors_3 17 rfl rfl)
theorem dX4_factors_88 : decode cX4_factors 88 = .ok (.ifCond .eq 7, 3) := dk_153 0 7 (dk_at dksX4_factors_3 19 rfl rfl)
theorem dX4_factors_91 : decode cX4_factors 91 = .ok (.iconst 0, 1) := dk_3 (dk_at dksX4_factors_3 22 rfl rfl)
theorem dX4_factors_92 : decode cX4_factors 92 = .ok (.goto 4, 3) := dk_167 0 4 (dk_at dksX4_factors_4 0 rfl rfl)
theorem dX4_factors_95 : decode cX4_factors 95 = .ok (.iconst 1, 1) := dk_4 (dk_at dksX4_factors_4 3 rfl rfl)
theorem dX4_factors_96 : decode cX4_factors 96 = .ok (.iadd, 1) := dk_96 (dk_at dksX4_factors_4 4 rfl rfl)
theorem dX4_factors_97 : decode cX4_factors 97 = .ok (.istore_n 2, 1) := dk_61 (dk_at dksX4_factors_4 5 rfl rfl)
theorem dX4_factors_98 : decode cX4_factors 98 = .ok (.iinc 3 1, 3) := dk_132 3 1 (dk_at dksX4_factors_4 6 rfl rfl)
theorem dX4_factors_101 : decode cX4_factors 101 = .ok (.goto (-67), 3) := dk_167 255 189 (dk_at dksX4_factors_4 9 rfl rfl)
theorem dX4_factors_104 : decode cX4_factors 104 = .ok (.iload_n 2, 1) := dk_28 (dk_at dksX4_factors_4 12 rfl rfl)
theorem dX4_factors_105 : decode cX4_factors 105 = .ok (.ireturn, 1) := dk_172 (dk_at dksX4_factors_4 13 rfl rfl)
abbrev cX4_areAlike : ByteArray := prog_13_method_61_code
def yX4_areAlike : MethodName := ⟨RX4, "areAlike", "(III)Z"⟩
def dkwX4_areAlike_1 : List UInt8 := [21, 4, 96, 46, 159, 0, 5, 3, 172, 132, 4, 1, 167, 255, 224, 4, 172]
abbrev dktX4_areAlike_1 : List UInt8 := dkwX4_areAlike_1 ++ []
def dkwX4_areAlike_0 : List UInt8 := [3, 54, 4, 21, 4, 29, 162, 0, 32, 42, 180, 0, 83, 27, 21, 4, 96, 46, 42, 180, 0, 83, 28]
abbrev dktX4_areAlike_0 : List UInt8 := dkwX4_areAlike_0 ++ dktX4_areAlike_1
theorem dksX4_areAlike_0 : cX4_areAlike.data.toList.drop 0 = dktX4_areAlike_0 := by decide +kernel
theorem dksX4_areAlike_1 : cX4_areAlike.data.toList.drop 23 = dktX4_areAlike_1 := dk_seg dksX4_areAlike_0 23 rfl rfl
theorem dX4_areAlike_0 : decode cX4_areAlike 0 = .ok (.iconst 0, 1) := dk_3 (dk_at dksX4_areAlike_0 0 rfl rfl)
theorem dX4_areAlike_1 : decode cX4_areAlike 1 = .ok (.istore 4, 2) := dk_54 4 (dk_at dksX4_areAlike_0 1 rfl rfl)
theorem dX4_areAlike_3 : decode cX4_areAlike 3 = .ok (.iload 4, 2) := dk_21 4 (dk_at dksX4_areAlike_0 3 rfl rfl)
theorem dX4_areAlike_5 : decode cX4_areAlike 5 = .ok (.iload_n 3, 1) := dk_29 (dk_at dksX4_areAlike_0 5 rfl rfl)
theorem dX4_areAlike_6 : decode cX4_areAlike 6 = .ok (.if_icmp .ge 32, 3) := dk_162 0 32 (dk_at dksX4_areAlike_0 6 rfl rfl)
theorem dX4_areAlike_9 : decode cX4_areAlike 9 = .ok (.aload_n 0, 1) := dk_42 (dk_at dksX4_areAlike_0 9 rfl rfl)
theorem dX4_areAlike_10 : decode cX4_areAlike 10 = .ok (.getfield 83, 3) := dk_180 0 83 (dk_at dksX4_areAlike_0 10 rfl rfl)
theorem dX4_areAlike_13 : decode cX4_areAlike 13 = .ok (.iload_n 1, 1) := dk_27 (dk_at dksX4_areAlike_0 13 rfl rfl)
theorem dX4_areAlike_14 : decode cX4_areAlike 14 = .ok (.iload 4, 2) := dk_21 4 (dk_at dksX4_areAlike_0 14 rfl rfl)
theorem dX4_areAlike_16 : decode cX4_areAlike 16 = .ok (.iadd, 1) := dk_96 (dk_at dksX4_areAlike_0 16 rfl rfl)
theorem dX4_areAlike_17 : decode cX4_areAlike 17 = .ok (.iaload, 1) := dk_46 (dk_at dksX4_areAlike_0 17 rfl rfl)
theorem dX4_areAlike_18 : decode cX4_areAlike 18 = .ok (.aload_n 0, 1) := dk_42 (dk_at dksX4_areAlike_0 18 rfl rfl)
theorem dX4_areAlike_19 : decode cX4_areAlike 19 = .ok (.getfield 83, 3) := dk_180 0 83 (dk_at dksX4_areAlike_0 19 rfl rfl)
theorem dX4_areAlike_22 : decode cX4_areAlike 22 = .ok (.iload_n 2, 1) := dk_28 (dk_at dksX4_areAlike_0 22 rfl rfl)
theorem dX4_areAlike_23 : decode cX4_areAlike 23 = .ok (.iload 4, 2) := dk_21 4 (dk_at dksX4_areAlike_1 0 rfl rfl)
theorem dX4_areAlike_25 : decode cX4_areAlike 25 = .ok (.iadd, 1) := dk_96 (dk_at dksX4_areAlike_1 2 rfl rfl)
theorem dX4_areAlike_26 : decode cX4_areAlike 26 = .ok (.iaload, 1) := dk_46 (dk_at dksX4_areAlike_1 3 rfl rfl)
theorem dX4_areAlike_27 : decode cX4_areAlike 27 = .ok (.if_icmp .eq 5, 3) := dk_159 0 5 (dk_at dksX4_areAlike_1 4 rfl rfl)
theorem dX4_areAlike_30 : decode cX4_areAlike 30 = .ok (.iconst 0, 1) := dk_3 (dk_at dksX4_areAlike_1 7 rfl rfl)
theorem dX4_areAlike_31 : decode cX4_areAlike 31 = .ok (.ireturn, 1) := dk_172 (dk_at dksX4_areAlike_1 8 rfl rfl)
theorem dX4_areAlike_32 : decode cX4_areAlike 32 = .ok (.iinc 4 1, 3) := dk_132 4 1 (dk_at dksX4_areAlike_1 9 rfl rfl)
theorem dX4_areAlike_35 : decode cX4_areAlike 35 = .ok (.goto (-32), 3) := dk_167 255 224 (dk_at dksX4_areAlike_1 12 rfl rfl)
theorem dX4_areAlike_38 : decode cX4_areAlike 38 = .ok (.iconst 1, 1) := dk_4 (dk_at dksX4_areAlike_1 15 rfl rfl)
theorem dX4_areAlike_39 : decode cX4_areAlike 39 = .ok (.ireturn, 1) := dk_172 (dk_at dksX4_areAlike_1 16 rfl rfl)
abbrev cX4_mirror : ByteArray := prog_13_method_63_code
def yX4_mirror : MethodName := ⟨RX4, "mirror", "()I"⟩
def dkwX4_mirror_4 : List UInt8 := [132, 2, 1, 167, 255, 167, 27, 172]
abbrev dktX4_mirror_4 : List UInt8 := dkwX4_mirror_4 ++ []
def dkwX4_mirror_3 : List UInt8 := [29, 21, 4, 100, 161, 0, 13, 27, 29, 28, 100, 4, 96, 184, 0, 254, 60, 132, 3, 1, 167, 255, 183]
abbrev dktX4_mirror_3 : List UInt8 := dkwX4_mirror_3 ++ dktX4_mirror_4
def dkwX4_mirror_2 : List UInt8 := [96, 46, 42, 180, 0, 83, 29, 21, 4, 100, 46, 160, 0, 9, 132, 4, 1, 167, 255, 221, 28, 21, 4, 96]
abbrev dktX4_mirror_2 : List UInt8 := dkwX4_mirror_2 ++ dktX4_mirror_3
def dkwX4_mirror_1 : List UInt8 := [162, 0, 71, 3, 54, 4, 28, 21, 4, 96, 29, 21, 4, 100, 162, 0, 30, 42, 180, 0, 83, 28, 21, 4]
abbrev dktX4_mirror_1 : List UInt8 := dkwX4_mirror_1 ++ dktX4_mirror_2
def dkwX4_mirror_0 : List UInt8 := [42, 3, 181, 0, 3, 3, 60, 3, 61, 28, 42, 180, 0, 184, 162, 0, 87, 28, 62, 29, 42, 180, 0, 184]
abbrev dktX4_mirror_0 : List UInt8 := dkwX4_mirror_0 ++ dktX4_mirror_1
theorem dksX4_mirror_0 : cX4_mirror.data.toList.drop 0 = dktX4_mirror_0 := by decide +kernel
theorem dksX4_mirror_1 : cX4_mirror.data.toList.drop 24 = dktX4_mirror_1 := dk_seg dksX4_mirror_0 24 rfl rfl
theorem dksX4_mirror_2 : cX4_mirror.data.toList.drop 48 = dktX4_mirror_2 := dk_seg dksX4_mirror_1 24 rfl rfl
theorem dksX4_mirror_3 : cX4_mirror.data.toList.drop 72 = dktX4_mirror_3 := dk_seg dksX4_mirror_2 24 rfl rfl
theorem dksX4_mirror_4 : cX4_mirror.data.toList.drop 95 = dktX4_mirror_4 := dk_seg dksX4_mirror_3 23 rfl rfl
theorem dX4_mirror_0 : decode cX4_mirror 0 = .ok (.aload_n 0, 1) := dk_42 (dk_at dksX4_mirror_0 0 rfl rfl)
theorem dX4_mirror_1 : decode cX4_mirror 1 = .ok (.iconst 0, 1) := dk_3 (dk_at dksX4_mirror_0 1 rfl rfl)
theorem dX4_mirror_2 : decode cX4_mirror 2 = .ok (.putfield 3, 3) := dk_181 0 3 (dk_at dksX4_mirror_0 2 rfl rfl)
theorem dX4_mirror_5 : decode cX4_mirror 5 = .ok (.iconst 0, 1) := dk_3 (dk_at dksX4_mirror_0 5 rfl rfl)
theorem dX4_mirror_6 : decode cX4_mirror 6 = .ok (.istore_n 1, 1) := dk_60 (dk_at dksX4_mirror_0 6 rfl rfl)
theorem dX4_mirror_7 : decode cX4_mirror 7 = .ok (.iconst 0, 1) := dk_3 (dk_at dksX4_mirror_0 7 rfl rfl)
theorem dX4_mirror_8 : decode cX4_mirror 8 = .ok (.istore_n 2, 1) := dk_61 (dk_at dksX4_mirror_0 8 rfl rfl)
theorem dX4_mirror_9 : decode cX4_mirror 9 = .ok (.iload_n 2, 1) := dk_28 (dk_at dksX4_mirror_0 9 rfl rfl)
theorem dX4_mirror_10 : decode cX4_mirror 10 = .ok (.aload_n 0, 1) := dk_42 (dk_at dksX4_mirror_0 10 rfl rfl)
theorem dX4_mirror_11 : decode cX4_mirror 11 = .ok (.getfield 184, 3) := dk_180 0 184 (dk_at dksX4_mirror_0 11 rfl rfl)
theorem dX4_mirror_14 : decode cX4_mirror 14 = .ok (.if_icmp .ge 87, 3) := dk_162 0 87 (dk_at dksX4_mirror_0 14 rfl rfl)
theorem dX4_mirror_17 : decode cX4_mirror 17 = .ok (.iload_n 2, 1) := dk_28 (dk_at dksX4_mirror_0 17 rfl rfl)
theorem dX4_mirror_18 : decode cX4_mirror 18 = .ok (.istore_n 3, 1) := dk_62 (dk_at dksX4_mirror_0 18 rfl rfl)
theorem dX4_mirror_19 : decode cX4_mirror 19 = .ok (.iload_n 3, 1) := dk_29 (dk_at dksX4_mirror_0 19 rfl rfl)
theorem dX4_mirror_20 : decode cX4_mirror 20 = .ok (.aload_n 0, 1) := dk_42 (dk_at dksX4_mirror_0 20 rfl rfl)
theorem dX4_mirror_21 : decode cX4_mirror 21 = .ok (.getfield 184, 3) := dk_180 0 184 (dk_at dksX4_mirror_0 21 rfl rfl)
theorem dX4_mirror_24 : decode cX4_mirror 24 = .ok (.if_icmp .ge 71, 3) := dk_162 0 71 (dk_at dksX4_mirror_1 0 rfl rfl)
theorem dX4_mirror_27 : decode cX4_mirror 27 = .ok (.iconst 0, 1) := dk_3 (dk_at dksX4_mirror_1 3 rfl rfl)
theorem dX4_mirror_28 : decode cX4_mirror 28 = .ok (.istore 4, 2) := dk_54 4 (dk_at dksX4_mirror_1 4 rfl rfl)
theorem dX4_mirror_30 : decode cX4_mirror 30 = .ok (.iload_n 2, 1) := dk_28 (dk_at dksX4_mirror_1 6 rfl rfl)
theorem dX4_mirror_31 : decode cX4_mirror 31 = .ok (.iload 4, 2) := dk_21 4 (dk_at dksX4_mirror_1 7 rfl rfl)
theorem dX4_mirror_33 : decode cX4_mirror 33 = .ok (.iadd, 1) := dk_96 (dk_at dksX4_mirror_1 9 rfl rfl)
theorem dX4_mirror_34 : decode cX4_mirror 34 = .ok (.iload_n 3, 1) := dk_29 (dk_at dksX4_mirror_1 10 rfl rfl)
theorem dX4_mirror_35 : decode cX4_mirror 35 = .ok (.iload 4, 2) := dk_21 4 (dk_at dksX4_mirror_1 11 rfl rfl)
theorem dX4_mirror_37 : decode cX4_mirror 37 = .ok (.isub, 1) := dk_100 (dk_at dksX4_mirror_1 13 rfl rfl)
theorem dX4_mirror_38 : decode cX4_mirror 38 = .ok (.if_icmp .ge 30, 3) := dk_162 0 30 (dk_at dksX4_mirror_1 14 rfl rfl)
theorem dX4_mirror_41 : decode cX4_mirror 41 = .ok (.aload_n 0, 1) := dk_42 (dk_at dksX4_mirror_1 17 rfl rfl)
theorem dX4_mirror_42 : decode cX4_mirror 42 = .ok (.getfield 83, 3) := dk_180 0 83 (dk_at dksX4_mirror_1 18 rfl rfl)
theorem dX4_mirror_45 : decode cX4_mirror 45 = .ok (.iload_n 2, 1) := dk_28 (dk_at dksX4_mirror_1 21 rfl rfl)
theorem dX4_mirror_46 : decode cX4_mirror 46 = .ok (.iload 4, 2) := dk_21 4 (dk_at dksX4_mirror_1 22 rfl rfl)
theorem dX4_mirror_48 : decode cX4_mirror 48 = .ok (.iadd, 1) := dk_96 (dk_at dksX4_mirror_2 0 rfl rfl)
theorem dX4_mirror_49 : decode cX4_mirror 49 = .ok (.iaload, 1) := dk_46 (dk_at dksX4_mirror_2 1 rfl rfl)
theorem dX4_mirror_50 : decode cX4_mirror 50 = .ok (.aload_n 0, 1) := dk_42 (dk_at dksX4_mirror_2 2 rfl rfl)
theorem dX4_mirror_51 : decode cX4_mirror 51 = .ok (.getfield 83, 3) := dk_180 0 83 (dk_at dksX4_mirror_2 3 rfl rfl)
theorem dX4_mirror_54 : decode cX4_mirror 54 = .ok (.iload_n 3, 1) := dk_29 (dk_at dksX4_mirror_2 6 rfl rfl)
theorem dX4_mirror_55 : decode cX4_mirror 55 = .ok (.iload 4, 2) := dk_21 4 (dk_at dksX4_mirror_2 7 rfl rfl)
theorem dX4_mirror_57 : decode cX4_mirror 57 = .ok (.isub, 1) := dk_100 (dk_at dksX4_mirror_2 9 rfl rfl)
theorem dX4_mirror_58 : decode cX4_mirror 58 = .ok (.iaload, 1) := dk_46 (dk_at dksX4_mirror_2 10 rfl rfl)
theorem dX4_mirror_59 : decode cX4_mirror 59 = .ok (.if_icmp .ne 9, 3) := dk_160 0 9 (dk_at dksX4_mirror_2 11 rfl rfl)
theorem dX4_mirror_62 : decode cX4_mirror 62 = .ok (.iinc 4 1, 3) := dk_132 4 1 (dk_at dksX4_mirror_2 14 rfl rfl)
theorem dX4_mirror_65 : decode cX4_mirror 65 = .ok (.goto (-35), 3) := dk_167 255 221 (dk_at dksX4_mirror_2 17 rfl rfl)
theorem dX4_mirror_68 : decode cX4_mirror 68 = .ok (.iload_n 2, 1) := dk_28 (dk_at dksX4_mirror_2 20 rfl rfl)
theorem dX4_mirror_69 : decode cX4_mirror 69 = .ok (.iload 4, 2) := dk_21 4 (dk_at dksX4_mirror_2 21 rfl rfl)
theorem dX4_mirror_71 : decode cX4_mirror 71 = .ok (.iadd, 1) := dk_96 (dk_at dksX4_mirror_2 23 rfl rfl)
theorem dX4_mirror_72 : decode cX4_mirror 72 = .ok (.iload_n 3, 1) := dk_29 (dk_at dksX4_mirror_3 0 rfl rfl)
theorem dX4_mirror_73 : decode cX4_mirror 73 = .ok (.iload 4, 2) := dk_21 4 (dk_at dksX4_mirror_3 1 rfl rfl)
theorem dX4_mirror_75 : decode cX4_mirror 75 = .ok (.isub, 1) := dk_100 (dk_at dksX4_mirror_3 3 rfl rfl)
theorem dX4_mirror_76 : decode cX4_mirror 76 = .ok (.if_icmp .lt 13, 3) := dk_161 0 13 (dk_at dksX4_mirror_3 4 rfl rfl)
theorem dX4_mirror_79 : decode cX4_mirror 79 = .ok (.iload_n 1, 1) := dk_27 (dk_at dksX4_mirror_3 7 rfl rfl)
theorem dX4_mirror_80 : decode cX4_mirror 80 = .ok (.iload_n 3, 1) := dk_29 (dk_at dksX4_mirror_3 8 rfl rfl)
theorem dX4_mirror_81 : decode cX4_mirror 81 = .ok (.iload_n 2, 1) := dk_28 (dk_at dksX4_mirror_3 9 rfl rfl)
theorem dX4_mirror_82 : decode cX4_mirror 82 = .ok (.isub, 1) := dk_100 (dk_at dksX4_mirror_3 10 rfl rfl)
theorem dX4_mirror_83 : decode cX4_mirror 83 = .ok (.iconst 1, 1) := dk_4 (dk_at dksX4_mirror_3 11 rfl rfl)
theorem dX4_mirror_84 : decode cX4_mirror 84 = .ok (.iadd, 1) := dk_96 (dk_at dksX4_mirror_3 12 rfl rfl)
theorem dX4_mirror_85 : decode cX4_mirror 85 = .ok (.invokestatic 254, 3) := dk_184 0 254 (dk_at dksX4_mirror_3 13 rfl rfl)
theorem dX4_mirror_88 : decode cX4_mirror 88 = .ok (.istore_n 1, 1) := dk_60 (dk_at dksX4_mirror_3 16 rfl rfl)
theorem dX4_mirror_89 : decode cX4_mirror 89 = .ok (.iinc 3 1, 3) := dk_132 3 1 (dk_at dksX4_mirror_3 17 rfl rfl)
theorem dX4_mirror_92 : decode cX4_mirror 92 = .ok (.goto (-73), 3) := dk_167 255 183 (dk_at dksX4_mirror_3 20 rfl rfl)
theorem dX4_mirror_95 : decode cX4_mirror 95 = .ok (.iinc 2 1, 3) := dk_132 2 1 (dk_at dksX4_mirror_4 0 rfl rfl)
theorem dX4_mirror_98 : decode cX4_mirror 98 = .ok (.goto (-89), 3) := dk_167 255 167 (dk_at dksX4_mirror_4 3 rfl rfl)
theorem dX4_mirror_101 : decode cX4_mirror 101 = .ok (.iload_n 1, 1) := dk_27 (dk_at dksX4_mirror_4 6 rfl rfl)
theorem dX4_mirror_102 : decode cX4_mirror 102 = .ok (.ireturn, 1) := dk_172 (dk_at dksX4_mirror_4 7 rfl rfl)
abbrev cX4_lyndon : ByteArray := prog_13_method_64_code
def yX4_lyndon : MethodName := ⟨RX4, "lyndon", "(I)I"⟩
def dkwX4_lyndon_5 : List UInt8 := [167, 255, 149, 27, 2, 160, 0, 7, 28, 167, 0, 4, 2, 172]
abbrev dktX4_lyndon_5 : List UInt8 := dkwX4_lyndon_5 ++ []
def dkwX4_lyndon_4 : List UInt8 := [163, 0, 22, 28, 27, 160, 0, 6, 21, 6, 172, 132, 2, 1, 29, 21, 6, 96, 62, 167, 255, 234]
abbrev dktX4_lyndon_4 : List UInt8 := dkwX4_lyndon_4 ++ dktX4_lyndon_5
def dkwX4_lyndon_3 : List UInt8 := [96, 167, 0, 4, 29, 54, 4, 132, 5, 1, 167, 255, 200, 21, 5, 21, 4, 100, 54, 6, 29, 21, 4]
abbrev dktX4_lyndon_3 : List UInt8 := dkwX4_lyndon_3 ++ dktX4_lyndon_4
def dkwX4_lyndon_2 : List UInt8 := [46, 163, 0, 36, 42, 180, 0, 83, 21, 4, 46, 42, 180, 0, 83, 21, 5, 46, 160, 0, 10, 21, 4, 4]
abbrev dktX4_lyndon_2 : List UInt8 := dkwX4_lyndon_2 ++ dktX4_lyndon_3
def dkwX4_lyndon_1 : List UInt8 := [54, 5, 21, 5, 42, 180, 0, 184, 162, 0, 53, 42, 180, 0, 83, 21, 4, 46, 42, 180, 0, 83, 21, 5]
abbrev dktX4_lyndon_1 : List UInt8 := dkwX4_lyndon_1 ++ dktX4_lyndon_2
def dkwX4_lyndon_0 : List UInt8 := [42, 3, 181, 0, 3, 3, 61, 3, 62, 29, 42, 180, 0, 184, 162, 0, 105, 29, 54, 4, 29, 4, 96]
abbrev dktX4_lyndon_0 : List UInt8 := dkwX4_lyndon_0 ++ dktX4_lyndon_1
theorem dksX4_lyndon_0 : cX4_lyndon.data.toList.drop 0 = dktX4_lyndon_0 := by decide +kernel
theorem dksX4_lyndon_1 : cX4_lyndon.data.toList.drop 23 = dktX4_lyndon_1 := dk_seg dksX4_lyndon_0 23 rfl rfl
theorem dksX4_lyndon_2 : cX4_lyndon.data.toList.drop 47 = dktX4_lyndon_2 := dk_seg dksX4_lyndon_1 24 rfl rfl
theorem dksX4_lyndon_3 : cX4_lyndon.data.toList.drop 71 = dktX4_lyndon_3 := dk_seg dksX4_lyndon_2 24 rfl rfl
theorem dksX4_lyndon_4 : cX4_lyndon.data.toList.drop 94 = dktX4_lyndon_4 := dk_seg dksX4_lyndon_3 23 rfl rfl
theorem dksX4_lyndon_5 : cX4_lyndon.data.toList.drop 116 = dktX4_lyndon_5 := dk_seg dksX4_lyndon_4 22 rfl rfl
theorem dX4_lyndon_0 : decode cX4_lyndon 0 = .ok (.aload_n 0, 1) := dk_42 (dk_at dksX4_lyndon_0 0 rfl rfl)
theorem dX4_lyndon_1 : decode cX4_lyndon 1 = .ok (.iconst 0, 1) := dk_3 (dk_at dksX4_lyndon_0 1 rfl rfl)
theorem dX4_lyndon_2 : decode cX4_lyndon 2 = .ok (.putfield 3, 3) := dk_181 0 3 (dk_at dksX4_lyndon_0 2 rfl rfl)
theorem dX4_lyndon_5 : decode cX4_lyndon 5 = .ok (.iconst 0, 1) := dk_3 (dk_at dksX4_lyndon_0 5 rfl rfl)
theorem dX4_lyndon_6 : decode cX4_lyndon 6 = .ok (.istore_n 2, 1) := dk_61 (dk_at dksX4_lyndon_0 6 rfl rfl)
theorem dX4_lyndon_7 : decode cX4_lyndon 7 = .ok (.iconst 0, 1) := dk_3 (dk_at dksX4_lyndon_0 7 rfl rfl)
theorem dX4_lyndon_8 : decode cX4_lyndon 8 = .ok (.istore_n 3, 1) := dk_62 (dk_at dksX4_lyndon_0 8 rfl rfl)
theorem dX4_lyndon_9 : decode cX4_lyndon 9 = .ok (.iload_n 3, 1) := dk_29 (dk_at dksX4_lyndon_0 9 rfl rfl)
theorem dX4_lyndon_10 : decode cX4_lyndon 10 = .ok (.aload_n 0, 1) := dk_42 (dk_at dksX4_lyndon_0 10 rfl rfl)
theorem dX4_lyndon_11 : decode cX4_lyndon 11 = .ok (.getfield 184, 3) := dk_180 0 184 (dk_at dksX4_lyndon_0 11 rfl rfl)
theorem dX4_lyndon_14 : decode cX4_lyndon 14 = .ok (.if_icmp .ge 105, 3) := dk_162 0 105 (dk_at dksX4_lyndon_0 14 rfl rfl)
theorem dX4_lyndon_17 : decode cX4_lyndon 17 = .ok (.iload_n 3, 1) := dk_29 (dk_at dksX4_lyndon_0 17 rfl rfl)
theorem dX4_lyndon_18 : decode cX4_lyndon 18 = .ok (.istore 4, 2) := dk_54 4 (dk_at dksX4_lyndon_0 18 rfl rfl)
theorem dX4_lyndon_20 : decode cX4_lyndon 20 = .ok (.iload_n 3, 1) := dk_29 (dk_at dksX4_lyndon_0 20 rfl rfl)
theorem dX4_lyndon_21 : decode cX4_lyndon 21 = .ok (.iconst 1, 1) := dk_4 (dk_at dksX4_lyndon_0 21 rfl rfl)
theorem dX4_lyndon_22 : decode cX4_lyndon 22 = .ok (.iadd, 1) := dk_96 (dk_at dksX4_lyndon_0 22 rfl rfl)
theorem dX4_lyndon_23 : decode cX4_lyndon 23 = .ok (.istore 5, 2) := dk_54 5 (dk_at dksX4_lyndon_1 0 rfl rfl)
theorem dX4_lyndon_25 : decode cX4_lyndon 25 = .ok (.iload 5, 2) := dk_21 5 (dk_at dksX4_lyndon_1 2 rfl rfl)
theorem dX4_lyndon_27 : decode cX4_lyndon 27 = .ok (.aload_n 0, 1) := dk_42 (dk_at dksX4_lyndon_1 4 rfl rfl)
theorem dX4_lyndon_28 : decode cX4_lyndon 28 = .ok (.getfield 184, 3) := dk_180 0 184 (dk_at dksX4_lyndon_1 5 rfl rfl)
theorem dX4_lyndon_31 : decode cX4_lyndon 31 = .ok (.if_icmp .ge 53, 3) := dk_162 0 53 (dk_at dksX4_lyndon_1 8 rfl rfl)
theorem dX4_lyndon_34 : decode cX4_lyndon 34 = .ok (.aload_n 0, 1) := dk_42 (dk_at dksX4_lyndon_1 11 rfl rfl)
theorem dX4_lyndon_35 : decode cX4_lyndon 35 = .ok (.getfield 83, 3) := dk_180 0 83 (dk_at dksX4_lyndon_1 12 rfl rfl)
theorem dX4_lyndon_38 : decode cX4_lyndon 38 = .ok (.iload 4, 2) := dk_21 4 (dk_at dksX4_lyndon_1 15 rfl rfl)
theorem dX4_lyndon_40 : decode cX4_lyndon 40 = .ok (.iaload, 1) := dk_46 (dk_at dksX4_lyndon_1 17 rfl rfl)
theorem dX4_lyndon_41 : decode cX4_lyndon 41 = .ok (.aload_n 0, 1) := dk_42 (dk_at dksX4_lyndon_1 18 rfl rfl)
theorem dX4_lyndon_42 : decode cX4_lyndon 42 = .ok (.getfield 83, 3) := dk_180 0 83 (dk_at dksX4_lyndon_1 19 rfl rfl)
theorem dX4_lyndon_45 : decode cX4_lyndon 45 = .ok (.iload 5, 2) := dk_21 5 (dk_at dksX4_lyndon_1 22 rfl rfl)
theorem dX4_lyndon_47 : decode cX4_lyndon 47 = .ok (.iaload, 1) := dk_46 (dk_at dksX4_lyndon_2 0 rfl rfl)
theorem dX4_lyndon_48 : decode cX4_lyndon 48 = .ok (.if_icmp .gt 36, 3) := dk_163 0 36 (dk_at dksX4_lyndon_2 1 rfl rfl)
theorem dX4_lyndon_51 : decode cX4_lyndon 51 = .ok (.aload_n 0, 1) := dk_42 (dk_at dksX4_lyndon_2 4 rfl rfl)
theorem dX4_lyndon_52 : decode cX4_lyndon 52 = .ok (.getfield 83, 3) := dk_180 0 83 (dk_at dksX4_lyndon_2 5 rfl rfl)
theorem dX4_lyndon_55 : decode cX4_lyndon 55 = .ok (.iload 4, 2) := dk_21 4 (dk_at dksX4_lyndon_2 8 rfl rfl)
theorem dX4_lyndon_57 : decode cX4_lyndon 57 = .ok (.iaload, 1) := dk_46 (dk_at dksX4_lyndon_2 10 rfl rfl)
theorem dX4_lyndon_58 : decode cX4_lyndon 58 = .ok (.aload_n 0, 1) := dk_42 (dk_at dksX4_lyndon_2 11 rfl rfl)
theorem dX4_lyndon_59 : decode cX4_lyndon 59 = .ok (.getfield 83, 3) := dk_180 0 83 (dk_at dksX4_lyndon_2 12 rfl rfl)
theorem dX4_lyndon_62 : decode cX4_lyndon 62 = .ok (.iload 5, 2) := dk_21 5 (dk_at dksX4_lyndon_2 15 rfl rfl)
theorem dX4_lyndon_64 : decode cX4_lyndon 64 = .ok (.iaload, 1) := dk_46 (dk_at dksX4_lyndon_2 17 rfl rfl)
theorem dX4_lyndon_65 : decode cX4_lyndon 65 = .ok (.if_icmp .ne 10, 3) := dk_160 0 10 (dk_at dksX4_lyndon_2 18 rfl rfl)
theorem dX4_lyndon_68 : decode cX4_lyndon 68 = .ok (.iload 4, 2) := dk_21 4 (dk_at dksX4_lyndon_2 21 rfl rfl)
theorem dX4_lyndon_70 : decode cX4_lyndon 70 = .ok (.iconst 1, 1) := dk_4 (dk_at dksX4_lyndon_2 23 rfl rfl)
theorem dX4_lyndon_71 : decode cX4_lyndon 71 = .ok (.iadd, 1) := dk_96 (dk_at dksX4_lyndon_3 0 rfl rfl)
theorem dX4_lyndon_72 : decode cX4_lyndon 72 = .ok (.goto 4, 3) := dk_167 0 4 (dk_at dksX4_lyndon_3 1 rfl rfl)
theorem dX4_lyndon_75 : decode cX4_lyndon 75 = .ok (.iload_n 3, 1) := dk_29 (dk_at dksX4_lyndon_3 4 rfl rfl)
theorem dX4_lyndon_76 : decode cX4_lyndon 76 = .ok (.istore 4, 2) := dk_54 4 (dk_at dksX4_lyndon_3 5 rfl rfl)
theorem dX4_lyndon_78 : decode cX4_lyndon 78 = .ok (.iinc 5 1, 3) := dk_132 5 1 (dk_at dksX4_lyndon_3 7 rfl rfl)
theorem dX4_lyndon_81 : decode cX4_lyndon 81 = .ok (.goto (-56), 3) := dk_167 255 200 (dk_at dksX4_lyndon_3 10 rfl rfl)
theorem dX4_lyndon_84 : decode cX4_lyndon 84 = .ok (.iload 5, 2) := dk_21 5 (dk_at dksX4_lyndon_3 13 rfl rfl)
theorem dX4_lyndon_86 : decode cX4_lyndon 86 = .ok (.iload 4, 2) := dk_21 4 (dk_at dksX4_lyndon_3 15 rfl rfl)
theorem dX4_lyndon_88 : decode cX4_lyndon 88 = .ok (.isub, 1) := dk_100 (dk_at dksX4_lyndon_3 17 rfl rfl)
theorem dX4_lyndon_89 : decode cX4_lyndon 89 = .ok (.istore 6, 2) := dk_54 6 (dk_at dksX4_lyndon_3 18 rfl rfl)
theorem dX4_lyndon_91 : decode cX4_lyndon 91 = .ok (.iload_n 3, 1) := dk_29 (dk_at dksX4_lyndon_3 20 rfl rfl)
theorem dX4_lyndon_92 : decode cX4_lyndon 92 = .ok (.iload 4, 2) := dk_21 4 (dk_at dksX4_lyndon_3 21 rfl rfl)
theorem dX4_lyndon_94 : decode cX4_lyndon 94 = .ok (.if_icmp .gt 22, 3) := dk_163 0 22 (dk_at dksX4_lyndon_4 0 rfl rfl)
theorem dX4_lyndon_97 : decode cX4_lyndon 97 = .ok (.iload_n 2, 1) := dk_28 (dk_at dksX4_lyndon_4 3 rfl rfl)
theorem dX4_lyndon_98 : decode cX4_lyndon 98 = .ok (.iload_n 1, 1) := dk_27 (dk_at dksX4_lyndon_4 4 rfl rfl)
theorem dX4_lyndon_99 : decode cX4_lyndon 99 = .ok (.if_icmp .ne 6, 3) := dk_160 0 6 (dk_at dksX4_lyndon_4 5 rfl rfl)
theorem dX4_lyndon_102 : decode cX4_lyndon 102 = .ok (.iload 6, 2) := dk_21 6 (dk_at dksX4_lyndon_4 8 rfl rfl)
theorem dX4_lyndon_104 : decode cX4_lyndon 104 = .ok (.ireturn, 1) := dk_172 (dk_at dksX4_lyndon_4 10 rfl rfl)
theorem dX4_lyndon_105 : decode cX4_lyndon 105 = .ok (.iinc 2 1, 3) := dk_132 2 1 (dk_at dksX4_lyndon_4 11 rfl rfl)
theorem dX4_lyndon_108 : decode cX4_lyndon 108 = .ok (.iload_n 3, 1) := dk_29 (dk_at dksX4_lyndon_4 14 rfl rfl)
theorem dX4_lyndon_109 : decode cX4_lyndon 109 = .ok (.iload 6, 2) := dk_21 6 (dk_at dksX4_lyndon_4 15 rfl rfl)
theorem dX4_lyndon_111 : decode cX4_lyndon 111 = .ok (.iadd, 1) := dk_96 (dk_at dksX4_lyndon_4 17 rfl rfl)
theorem dX4_lyndon_112 : decode cX4_lyndon 112 = .ok (.istore_n 3, 1) := dk_62 (dk_at dksX4_lyndon_4 18 rfl rfl)
theorem dX4_lyndon_113 : decode cX4_lyndon 113 = .ok (.goto (-22), 3) := dk_167 255 234 (dk_at dksX4_lyndon_4 19 rfl rfl)
theorem dX4_lyndon_116 : decode cX4_lyndon 116 = .ok (.goto (-107), 3) := dk_167 255 149 (dk_at dksX4_lyndon_5 0 rfl rfl)
theorem dX4_lyndon_119 : decode cX4_lyndon 119 = .ok (.iload_n 1, 1) := dk_27 (dk_at dksX4_lyndon_5 3 rfl rfl)
theorem dX4_lyndon_120 : decode cX4_lyndon 120 = .ok (.iconst (-1), 1) := dk_2 (dk_at dksX4_lyndon_5 4 rfl rfl)
theorem dX4_lyndon_121 : decode cX4_lyndon 121 = .ok (.if_icmp .ne 7, 3) := dk_160 0 7 (dk_at dksX4_lyndon_5 5 rfl rfl)
theorem dX4_lyndon_124 : decode cX4_lyndon 124 = .ok (.iload_n 2, 1) := dk_28 (dk_at dksX4_lyndon_5 8 rfl rfl)
theorem dX4_lyndon_125 : decode cX4_lyndon 125 = .ok (.goto 4, 3) := dk_167 0 4 (dk_at dksX4_lyndon_5 9 rfl rfl)
theorem dX4_lyndon_128 : decode cX4_lyndon 128 = .ok (.iconst (-1), 1) := dk_2 (dk_at dksX4_lyndon_5 12 rfl rfl)
theorem dX4_lyndon_129 : decode cX4_lyndon 129 = .ok (.ireturn, 1) := dk_172 (dk_at dksX4_lyndon_5 13 rfl rfl)
abbrev cX4_turned : ByteArray := prog_13_method_65_code
def yX4_turned : MethodName := ⟨RX4, "turned", "()I"⟩
def dkwX4_turned_5 : List UInt8 := [27, 172]
abbrev dktX4_turned_5 : List UInt8 := dkwX4_turned_5 ++ []
def dkwX4_turned_4 : List UInt8 := [42, 180, 0, 83, 27, 29, 96, 42, 180, 0, 184, 112, 46, 162, 0, 5, 28, 60, 132, 2, 1, 167, 255, 161]
abbrev dktX4_turned_4 : List UInt8 := dkwX4_turned_4 ++ dktX4_turned_5
def dkwX4_turned_3 : List UInt8 := [167, 255, 216, 29, 42, 180, 0, 184, 162, 0, 34, 42, 180, 0, 83, 28, 29, 96, 42, 180, 0, 184, 112, 46]
abbrev dktX4_turned_3 : List UInt8 := dkwX4_turned_3 ++ dktX4_turned_4
def dkwX4_turned_2 : List UInt8 := [180, 0, 184, 112, 46, 42, 180, 0, 83, 27, 29, 96, 42, 180, 0, 184, 112, 46, 160, 0, 9, 132, 3, 1]
abbrev dktX4_turned_2 : List UInt8 := dkwX4_turned_2 ++ dktX4_turned_3
def dkwX4_turned_1 : List UInt8 := [180, 0, 184, 162, 0, 93, 3, 62, 29, 42, 180, 0, 184, 162, 0, 38, 42, 180, 0, 83, 28, 29, 96, 42]
abbrev dktX4_turned_1 : List UInt8 := dkwX4_turned_1 ++ dktX4_turned_2
def dkwX4_turned_0 : List UInt8 := [42, 3, 181, 0, 3, 42, 180, 0, 184, 154, 0, 7, 2, 167, 0, 4, 3, 60, 4, 61, 28, 42]
abbrev dktX4_turned_0 : List UInt8 := dkwX4_turned_0 ++ dktX4_turned_1
theorem dksX4_turned_0 : cX4_turned.data.toList.drop 0 = dktX4_turned_0 := by decide +kernel
theorem dksX4_turned_1 : cX4_turned.data.toList.drop 22 = dktX4_turned_1 := dk_seg dksX4_turned_0 22 rfl rfl
theorem dksX4_turned_2 : cX4_turned.data.toList.drop 46 = dktX4_turned_2 := dk_seg dksX4_turned_1 24 rfl rfl
theorem dksX4_turned_3 : cX4_turned.data.toList.drop 70 = dktX4_turned_3 := dk_seg dksX4_turned_2 24 rfl rfl
theorem dksX4_turned_4 : cX4_turned.data.toList.drop 94 = dktX4_turned_4 := dk_seg dksX4_turned_3 24 rfl rfl
theorem dksX4_turned_5 : cX4_turned.data.toList.drop 118 = dktX4_turned_5 := dk_seg dksX4_turned_4 24 rfl rfl
theorem dX4_turned_0 : decode cX4_turned 0 = .ok (.aload_n 0, 1) := dk_42 (dk_at dksX4_turned_0 0 rfl rfl)
theorem dX4_turned_1 : decode cX4_turned 1 = .ok (.iconst 0, 1) := dk_3 (dk_at dksX4_turned_0 1 rfl rfl)
theorem dX4_turned_2 : decode cX4_turned 2 = .ok (.putfield 3, 3) := dk_181 0 3 (dk_at dksX4_turned_0 2 rfl rfl)
theorem dX4_turned_5 : decode cX4_turned 5 = .ok (.aload_n 0, 1) := dk_42 (dk_at dksX4_turned_0 5 rfl rfl)
theorem dX4_turned_6 : decode cX4_turned 6 = .ok (.getfield 184, 3) := dk_180 0 184 (dk_at dksX4_turned_0 6 rfl rfl)
theorem dX4_turned_9 : decode cX4_turned 9 = .ok (.ifCond .ne 7, 3) := dk_154 0 7 (dk_at dksX4_turned_0 9 rfl rfl)
theorem dX4_turned_12 : decode cX4_turned 12 = .ok (.iconst (-1), 1) := dk_2 (dk_at dksX4_turned_0 12 rfl rfl)
theorem dX4_turned_13 : decode cX4_turned 13 = .ok (.goto 4, 3) := dk_167 0 4 (dk_at dksX4_turned_0 13 rfl rfl)
theorem dX4_turned_16 : decode cX4_turned 16 = .ok (.iconst 0, 1) := dk_3 (dk_at dksX4_turned_0 16 rfl rfl)
theorem dX4_turned_17 : decode cX4_turned 17 = .ok (.istore_n 1, 1) := dk_60 (dk_at dksX4_turned_0 17 rfl rfl)
theorem dX4_turned_18 : decode cX4_turned 18 = .ok (.iconst 1, 1) := dk_4 (dk_at dksX4_turned_0 18 rfl rfl)
theorem dX4_turned_19 : decode cX4_turned 19 = .ok (.istore_n 2, 1) := dk_61 (dk_at dksX4_turned_0 19 rfl rfl)
theorem dX4_turned_20 : decode cX4_turned 20 = .ok (.iload_n 2, 1) := dk_28 (dk_at dksX4_turned_0 20 rfl rfl)
theorem dX4_turned_21 : decode cX4_turned 21 = .ok (.aload_n 0, 1) := dk_42 (dk_at dksX4_turned_0 21 rfl rfl)
theorem dX4_turned_22 : decode cX4_turned 22 = .ok (.getfield 184, 3) := dk_180 0 184 (dk_at dksX4_turned_1 0 rfl rfl)
theorem dX4_turned_25 : decode cX4_turned 25 = .ok (.if_icmp .ge 93, 3) := dk_162 0 93 (dk_at dksX4_turned_1 3 rfl rfl)
theorem dX4_turned_28 : decode cX4_turned 28 = .ok (.iconst 0, 1) := dk_3 (dk_at dksX4_turned_1 6 rfl rfl)
theorem dX4_turned_29 : decode cX4_turned 29 = .ok (.istore_n 3, 1) := dk_62 (dk_at dksX4_turned_1 7 rfl rfl)
theorem dX4_turned_30 : decode cX4_turned 30 = .ok (.iload_n 3, 1) := dk_29 (dk_at dksX4_turned_1 8 rfl rfl)
theorem dX4_turned_31 : decode cX4_turned 31 = .ok (.aload_n 0, 1) := dk_42 (dk_at dksX4_turned_1 9 rfl rfl)
theorem dX4_turned_32 : decode cX4_turned 32 = .ok (.getfield 184, 3) := dk_180 0 184 (dk_at dksX4_turned_1 10 rfl rfl)
theorem dX4_turned_35 : decode cX4_turned 35 = .ok (.if_icmp .ge 38, 3) := dk_162 0 38 (dk_at dksX4_turned_1 13 rfl rfl)
theorem dX4_turned_38 : decode cX4_turned 38 = .ok (.aload_n 0, 1) := dk_42 (dk_at dksX4_turned_1 16 rfl rfl)
theorem dX4_turned_39 : decode cX4_turned 39 = .ok (.getfield 83, 3) := dk_180 0 83 (dk_at dksX4_turned_1 17 rfl rfl)
theorem dX4_turned_42 : decode cX4_turned 42 = .ok (.iload_n 2, 1) := dk_28 (dk_at dksX4_turned_1 20 rfl rfl)
theorem dX4_turned_43 : decode cX4_turned 43 = .ok (.iload_n 3, 1) := dk_29 (dk_at dksX4_turned_1 21 rfl rfl)
theorem dX4_turned_44 : decode cX4_turned 44 = .ok (.iadd, 1) := dk_96 (dk_at dksX4_turned_1 22 rfl rfl)
theorem dX4_turned_45 : decode cX4_turned 45 = .ok (.aload_n 0, 1) := dk_42 (dk_at dksX4_turned_1 23 rfl rfl)
theorem dX4_turned_46 : decode cX4_turned 46 = .ok (.getfield 184, 3) := dk_180 0 184 (dk_at dksX4_turned_2 0 rfl rfl)
theorem dX4_turned_49 : decode cX4_turned 49 = .ok (.irem, 1) := dk_112 (dk_at dksX4_turned_2 3 rfl rfl)
theorem dX4_turned_50 : decode cX4_turned 50 = .ok (.iaload, 1) := dk_46 (dk_at dksX4_turned_2 4 rfl rfl)
theorem dX4_turned_51 : decode cX4_turned 51 = .ok (.aload_n 0, 1) := dk_42 (dk_at dksX4_turned_2 5 rfl rfl)
theorem dX4_turned_52 : decode cX4_turned 52 = .ok (.getfield 83, 3) := dk_180 0 83 (dk_at dksX4_turned_2 6 rfl rfl)
theorem dX4_turned_55 : decode cX4_turned 55 = .ok (.iload_n 1, 1) := dk_27 (dk_at dksX4_turned_2 9 rfl rfl)
theorem dX4_turned_56 : decode cX4_turned 56 = .ok (.iload_n 3, 1) := dk_29 (dk_at dksX4_turned_2 10 rfl rfl)
theorem dX4_turned_57 : decode cX4_turned 57 = .ok (.iadd, 1) := dk_96 (dk_at dksX4_turned_2 11 rfl rfl)
theorem dX4_turned_58 : decode cX4_turned 58 = .ok (.aload_n 0, 1) := dk_42 (dk_at dksX4_turned_2 12 rfl rfl)
theorem dX4_turned_59 : decode cX4_turned 59 = .ok (.getfield 184, 3) := dk_180 0 184 (dk_at dksX4_turned_2 13 rfl rfl)
theorem dX4_turned_62 : decode cX4_turned 62 = .ok (.irem, 1) := dk_112 (dk_at dksX4_turned_2 16 rfl rfl)
theorem dX4_turned_63 : decode cX4_turned 63 = .ok (.iaload, 1) := dk_46 (dk_at dksX4_turned_2 17 rfl rfl)
theorem dX4_turned_64 : decode cX4_turned 64 = .ok (.if_icmp .ne 9, 3) := dk_160 0 9 (dk_at dksX4_turned_2 18 rfl rfl)
theorem dX4_turned_67 : decode cX4_turned 67 = .ok (.iinc 3 1, 3) := dk_132 3 1 (dk_at dksX4_turned_2 21 rfl rfl)
theorem dX4_turned_70 : decode cX4_turned 70 = .ok (.goto (-40), 3) := dk_167 255 216 (dk_at dksX4_turned_3 0 rfl rfl)
theorem dX4_turned_73 : decode cX4_turned 73 = .ok (.iload_n 3, 1) := dk_29 (dk_at dksX4_turned_3 3 rfl rfl)
theorem dX4_turned_74 : decode cX4_turned 74 = .ok (.aload_n 0, 1) := dk_42 (dk_at dksX4_turned_3 4 rfl rfl)
theorem dX4_turned_75 : decode cX4_turned 75 = .ok (.getfield 184, 3) := dk_180 0 184 (dk_at dksX4_turned_3 5 rfl rfl)
theorem dX4_turned_78 : decode cX4_turned 78 = .ok (.if_icmp .ge 34, 3) := dk_162 0 34 (dk_at dksX4_turned_3 8 rfl rfl)
theorem dX4_turned_81 : decode cX4_turned 81 = .ok (.aload_n 0, 1) := dk_42 (dk_at dksX4_turned_3 11 rfl rfl)
theorem dX4_turned_82 : decode cX4_turned 82 = .ok (.getfield 83, 3) := dk_180 0 83 (dk_at dksX4_turned_3 12 rfl rfl)
theorem dX4_turned_85 : decode cX4_turned 85 = .ok (.iload_n 2, 1) := dk_28 (dk_at dksX4_turned_3 15 rfl rfl)
theorem dX4_turned_86 : decode cX4_turned 86 = .ok (.iload_n 3, 1) := dk_29 (dk_at dksX4_turned_3 16 rfl rfl)
theorem dX4_turned_87 : decode cX4_turned 87 = .ok (.iadd, 1) := dk_96 (dk_at dksX4_turned_3 17 rfl rfl)
theorem dX4_turned_88 : decode cX4_turned 88 = .ok (.aload_n 0, 1) := dk_42 (dk_at dksX4_turned_3 18 rfl rfl)
theorem dX4_turned_89 : decode cX4_turned 89 = .ok (.getfield 184, 3) := dk_180 0 184 (dk_at dksX4_turned_3 19 rfl rfl)
theorem dX4_turned_92 : decode cX4_turned 92 = .ok (.irem, 1) := dk_112 (dk_at dksX4_turned_3 22 rfl rfl)
theorem dX4_turned_93 : decode cX4_turned 93 = .ok (.iaload, 1) := dk_46 (dk_at dksX4_turned_3 23 rfl rfl)
theorem dX4_turned_94 : decode cX4_turned 94 = .ok (.aload_n 0, 1) := dk_42 (dk_at dksX4_turned_4 0 rfl rfl)
theorem dX4_turned_95 : decode cX4_turned 95 = .ok (.getfield 83, 3) := dk_180 0 83 (dk_at dksX4_turned_4 1 rfl rfl)
theorem dX4_turned_98 : decode cX4_turned 98 = .ok (.iload_n 1, 1) := dk_27 (dk_at dksX4_turned_4 4 rfl rfl)
theorem dX4_turned_99 : decode cX4_turned 99 = .ok (.iload_n 3, 1) := dk_29 (dk_at dksX4_turned_4 5 rfl rfl)
theorem dX4_turned_100 : decode cX4_turned 100 = .ok (.iadd, 1) := dk_96 (dk_at dksX4_turned_4 6 rfl rfl)
theorem dX4_turned_101 : decode cX4_turned 101 = .ok (.aload_n 0, 1) := dk_42 (dk_at dksX4_turned_4 7 rfl rfl)
theorem dX4_turned_102 : decode cX4_turned 102 = .ok (.getfield 184, 3) := dk_180 0 184 (dk_at dksX4_turned_4 8 rfl rfl)
theorem dX4_turned_105 : decode cX4_turned 105 = .ok (.irem, 1) := dk_112 (dk_at dksX4_turned_4 11 rfl rfl)
theorem dX4_turned_106 : decode cX4_turned 106 = .ok (.iaload, 1) := dk_46 (dk_at dksX4_turned_4 12 rfl rfl)
theorem dX4_turned_107 : decode cX4_turned 107 = .ok (.if_icmp .ge 5, 3) := dk_162 0 5 (dk_at dksX4_turned_4 13 rfl rfl)
theorem dX4_turned_110 : decode cX4_turned 110 = .ok (.iload_n 2, 1) := dk_28 (dk_at dksX4_turned_4 16 rfl rfl)
theorem dX4_turned_111 : decode cX4_turned 111 = .ok (.istore_n 1, 1) := dk_60 (dk_at dksX4_turned_4 17 rfl rfl)
theorem dX4_turned_112 : decode cX4_turned 112 = .ok (.iinc 2 1, 3) := dk_132 2 1 (dk_at dksX4_turned_4 18 rfl rfl)
theorem dX4_turned_115 : decode cX4_turned 115 = .ok (.goto (-95), 3) := dk_167 255 161 (dk_at dksX4_turned_4 21 rfl rfl)
theorem dX4_turned_118 : decode cX4_turned 118 = .ok (.iload_n 1, 1) := dk_27 (dk_at dksX4_turned_5 0 rfl rfl)
theorem dX4_turned_119 : decode cX4_turned 119 = .ok (.ireturn, 1) := dk_172 (dk_at dksX4_turned_5 1 rfl rfl)
abbrev cX4_local : ByteArray := prog_13_method_66_code
def yX4_local : MethodName := ⟨RX4, "local", "(I)I"⟩
def dkwX4_local_4 : List UInt8 := [160, 0, 7, 4, 167, 0, 4, 3, 62, 132, 4, 1, 167, 255, 207, 167, 255, 186, 28, 172]
abbrev dktX4_local_4 : List UInt8 := dkwX4_local_4 ++ []
def dkwX4_local_3 : List UInt8 := [162, 0, 38, 29, 153, 0, 26, 42, 180, 0, 83, 21, 4, 46, 42, 180, 0, 83, 21, 4, 28, 96, 46]
abbrev dktX4_local_3 : List UInt8 := dkwX4_local_3 ++ dktX4_local_4
def dkwX4_local_2 : List UInt8 := [27, 28, 100, 184, 0, 254, 54, 4, 21, 4, 27, 162, 0, 49, 21, 4, 28, 96, 42, 180, 0, 184]
abbrev dktX4_local_2 : List UInt8 := dkwX4_local_2 ++ dktX4_local_3
def dkwX4_local_1 : List UInt8 := [3, 4, 182, 0, 180, 153, 0, 5, 3, 172, 3, 61, 3, 62, 29, 154, 0, 72, 132, 2, 1, 4, 62, 3]
abbrev dktX4_local_1 : List UInt8 := dkwX4_local_1 ++ dktX4_local_2
def dkwX4_local_0 : List UInt8 := [42, 3, 181, 0, 3, 42, 27, 4, 42, 180, 0, 184, 4, 100, 184, 0, 65, 154, 0, 7, 4, 167, 0, 4]
abbrev dktX4_local_0 : List UInt8 := dkwX4_local_0 ++ dktX4_local_1
theorem dksX4_local_0 : cX4_local.data.toList.drop 0 = dktX4_local_0 := by decide +kernel
theorem dksX4_local_1 : cX4_local.data.toList.drop 24 = dktX4_local_1 := dk_seg dksX4_local_0 24 rfl rfl
theorem dksX4_local_2 : cX4_local.data.toList.drop 48 = dktX4_local_2 := dk_seg dksX4_local_1 24 rfl rfl
theorem dksX4_local_3 : cX4_local.data.toList.drop 70 = dktX4_local_3 := dk_seg dksX4_local_2 22 rfl rfl
theorem dksX4_local_4 : cX4_local.data.toList.drop 93 = dktX4_local_4 := dk_seg dksX4_local_3 23 rfl rfl
theorem dX4_local_0 : decode cX4_local 0 = .ok (.aload_n 0, 1) := dk_42 (dk_at dksX4_local_0 0 rfl rfl)
theorem dX4_local_1 : decode cX4_local 1 = .ok (.iconst 0, 1) := dk_3 (dk_at dksX4_local_0 1 rfl rfl)
theorem dX4_local_2 : decode cX4_local 2 = .ok (.putfield 3, 3) := dk_181 0 3 (dk_at dksX4_local_0 2 rfl rfl)
theorem dX4_local_5 : decode cX4_local 5 = .ok (.aload_n 0, 1) := dk_42 (dk_at dksX4_local_0 5 rfl rfl)
theorem dX4_local_6 : decode cX4_local 6 = .ok (.iload_n 1, 1) := dk_27 (dk_at dksX4_local_0 6 rfl rfl)
theorem dX4_local_7 : decode cX4_local 7 = .ok (.iconst 1, 1) := dk_4 (dk_at dksX4_local_0 7 rfl rfl)
theorem dX4_local_8 : decode cX4_local 8 = .ok (.aload_n 0, 1) := dk_42 (dk_at dksX4_local_0 8 rfl rfl)
theorem dX4_local_9 : decode cX4_local 9 = .ok (.getfield 184, 3) := dk_180 0 184 (dk_at dksX4_local_0 9 rfl rfl)
theorem dX4_local_12 : decode cX4_local 12 = .ok (.iconst 1, 1) := dk_4 (dk_at dksX4_local_0 12 rfl rfl)
theorem dX4_local_13 : decode cX4_local 13 = .ok (.isub, 1) := dk_100 (dk_at dksX4_local_0 13 rfl rfl)
theorem dX4_local_14 : decode cX4_local 14 = .ok (.invokestatic 65, 3) := dk_184 0 65 (dk_at dksX4_local_0 14 rfl rfl)
theorem dX4_local_17 : decode cX4_local 17 = .ok (.ifCond .ne 7, 3) := dk_154 0 7 (dk_at dksX4_local_0 17 rfl rfl)
theorem dX4_local_20 : decode cX4_local 20 = .ok (.iconst 1, 1) := dk_4 (dk_at dksX4_local_0 20 rfl rfl)
theorem dX4_local_21 : decode cX4_local 21 = .ok (.goto 4, 3) := dk_167 0 4 (dk_at dksX4_local_0 21 rfl rfl)
theorem dX4_local_24 : decode cX4_local 24 = .ok (.iconst 0, 1) := dk_3 (dk_at dksX4_local_1 0 rfl rfl)
theorem dX4_local_25 : decode cX4_local 25 = .ok (.iconst 1, 1) := dk_4 (dk_at dksX4_local_1 1 rfl rfl)
theorem dX4_local_26 : decode cX4_local 26 = .ok (.invokevirtual 180, 3) := dk_182 0 180 (dk_at dksX4_local_1 2 rfl rfl)
theorem dX4_local_29 : decode cX4_local 29 = .ok (.ifCond .eq 5, 3) := dk_153 0 5 (dk_at dksX4_local_1 5 rfl rfl)
theorem dX4_local_32 : decode cX4_local 32 = .ok (.iconst 0, 1) := dk_3 (dk_at dksX4_local_1 8 rfl rfl)
theorem dX4_local_33 : decode cX4_local 33 = .ok (.ireturn, 1) := dk_172 (dk_at dksX4_local_1 9 rfl rfl)
theorem dX4_local_34 : decode cX4_local 34 = .ok (.iconst 0, 1) := dk_3 (dk_at dksX4_local_1 10 rfl rfl)
theorem dX4_local_35 : decode cX4_local 35 = .ok (.istore_n 2, 1) := dk_61 (dk_at dksX4_local_1 11 rfl rfl)
theorem dX4_local_36 : decode cX4_local 36 = .ok (.iconst 0, 1) := dk_3 (dk_at dksX4_local_1 12 rfl rfl)
theorem dX4_local_37 : decode cX4_local 37 = .ok (.istore_n 3, 1) := dk_62 (dk_at dksX4_local_1 13 rfl rfl)
theorem dX4_local_38 : decode cX4_local 38 = .ok (.iload_n 3, 1) := dk_29 (dk_at dksX4_local_1 14 rfl rfl)
theorem dX4_local_39 : decode cX4_local 39 = .ok (.ifCond .ne 72, 3) := dk_154 0 72 (dk_at dksX4_local_1 15 rfl rfl)
theorem dX4_local_42 : decode cX4_local 42 = .ok (.iinc 2 1, 3) := dk_132 2 1 (dk_at dksX4_local_1 18 rfl rfl)
theorem dX4_local_45 : decode cX4_local 45 = .ok (.iconst 1, 1) := dk_4 (dk_at dksX4_local_1 21 rfl rfl)
theorem dX4_local_46 : decode cX4_local 46 = .ok (.istore_n 3, 1) := dk_62 (dk_at dksX4_local_1 22 rfl rfl)
theorem dX4_local_47 : decode cX4_local 47 = .ok (.iconst 0, 1) := dk_3 (dk_at dksX4_local_1 23 rfl rfl)
theorem dX4_local_48 : decode cX4_local 48 = .ok (.iload_n 1, 1) := dk_27 (dk_at dksX4_local_2 0 rfl rfl)
theorem dX4_local_49 : decode cX4_local 49 = .ok (.iload_n 2, 1) := dk_28 (dk_at dksX4_local_2 1 rfl rfl)
theorem dX4_local_50 : decode cX4_local 50 = .ok (.isub, 1) := dk_100 (dk_at dksX4_local_2 2 rfl rfl)
theorem dX4_local_51 : decode cX4_local 51 = .ok (.invokestatic 254, 3) := dk_184 0 254 (dk_at dksX4_local_2 3 rfl rfl)
theorem dX4_local_54 : decode cX4_local 54 = .ok (.istore 4, 2) := dk_54 4 (dk_at dksX4_local_2 6 rfl rfl)
theorem dX4_local_56 : decode cX4_local 56 = .ok (.iload 4, 2) := dk_21 4 (dk_at dksX4_local_2 8 rfl rfl)
theorem dX4_local_58 : decode cX4_local 58 = .ok (.iload_n 1, 1) := dk_27 (dk_at dksX4_local_2 10 rfl rfl)
theorem dX4_local_59 : decode cX4_local 59 = .ok (.if_icmp .ge 49, 3) := dk_162 0 49 (dk_at dksX4_local_2 11 rfl rfl)
theorem dX4_local_62 : decode cX4_local 62 = .ok (.iload 4, 2) := dk_21 4 (dk_at dksX4_local_2 14 rfl rfl)
theorem dX4_local_64 : decode cX4_local 64 = .ok (.iload_n 2, 1) := dk_28 (dk_at dksX4_local_2 16 rfl rfl)
theorem dX4_local_65 : decode cX4_local 65 = .ok (.iadd, 1) := dk_96 (dk_at dksX4_local_2 17 rfl rfl)
theorem dX4_local_66 : decode cX4_local 66 = .ok (.aload_n 0, 1) := dk_42 (dk_at dksX4_local_2 18 rfl rfl)
theorem dX4_local_67 : decode cX4_local 67 = .ok (.getfield 184, 3) := dk_180 0 184 (dk_at dksX4_local_2 19 rfl rfl)
theorem dX4_local_70 : decode cX4_local 70 = .ok (.if_icmp .ge 38, 3) := dk_162 0 38 (dk_at dksX4_local_3 0 rfl rfl)
theorem dX4_local_73 : decode cX4_local 73 = .ok (.iload_n 3, 1) := dk_29 (dk_at dksX4_local_3 3 rfl rfl)
theorem dX4_local_74 : decode cX4_local 74 = .ok (.ifCond .eq 26, 3) := dk_153 0 26 (dk_at dksX4_local_3 4 rfl rfl)
theorem dX4_local_77 : decode cX4_local 77 = .ok (.aload_n 0, 1) := dk_42 (dk_at dksX4_local_3 7 rfl rfl)
theorem dX4_local_78 : decode cX4_local 78 = .ok (.getfield 83, 3) := dk_180 0 83 (dk_at dksX4_local_3 8 rfl rfl)
theorem dX4_local_81 : decode cX4_local 81 = .ok (.iload 4, 2) := dk_21 4 (dk_at dksX4_local_3 11 rfl rfl)
theorem dX4_local_83 : decode cX4_local 83 = .ok (.iaload, 1) := dk_46 (dk_at dksX4_local_3 13 rfl rfl)
theorem dX4_local_84 : decode cX4_local 84 = .ok (.aload_n 0, 1) := dk_42 (dk_at dksX4_local_3 14 rfl rfl)
theorem dX4_local_85 : decode cX4_local 85 = .ok (.getfield 83, 3) := dk_180 0 83 (dk_at dksX4_local_3 15 rfl rfl)
theorem dX4_local_88 : decode cX4_local 88 = .ok (.iload 4, 2) := dk_21 4 (dk_at dksX4_local_3 18 rfl rfl)
theorem dX4_local_90 : decode cX4_local 90 = .ok (.iload_n 2, 1) := dk_28 (dk_at dksX4_local_3 20 rfl rfl)
theorem dX4_local_91 : decode cX4_local 91 = .ok (.iadd, 1) := dk_96 (dk_at dksX4_local_3 21 rfl rfl)
theorem dX4_local_92 : decode cX4_local 92 = .ok (.iaload, 1) := dk_46 (dk_at dksX4_local_3 22 rfl rfl)
theorem dX4_local_93 : decode cX4_local 93 = .ok (.if_icmp .ne 7, 3) := dk_160 0 7 (dk_at dksX4_local_4 0 rfl rfl)
theorem dX4_local_96 : decode cX4_local 96 = .ok (.iconst 1, 1) := dk_4 (dk_at dksX4_local_4 3 rfl rfl)
theorem dX4_local_97 : decode cX4_local 97 = .ok (.goto 4, 3) := dk_167 0 4 (dk_at dksX4_local_4 4 rfl rfl)
theorem dX4_local_100 : decode cX4_local 100 = .ok (.iconst 0, 1) := dk_3 (dk_at dksX4_local_4 7 rfl rfl)
theorem dX4_local_101 : decode cX4_local 101 = .ok (.istore_n 3, 1) := dk_62 (dk_at dksX4_local_4 8 rfl rfl)
theorem dX4_local_102 : decode cX4_local 102 = .ok (.iinc 4 1, 3) := dk_132 4 1 (dk_at dksX4_local_4 9 rfl rfl)
theorem dX4_local_105 : decode cX4_local 105 = .ok (.goto (-49), 3) := dk_167 255 207 (dk_at dksX4_local_4 12 rfl rfl)
theorem dX4_local_108 : decode cX4_local 108 = .ok (.goto (-70), 3) := dk_167 255 186 (dk_at dksX4_local_4 15 rfl rfl)
theorem dX4_local_111 : decode cX4_local 111 = .ok (.iload_n 2, 1) := dk_28 (dk_at dksX4_local_4 18 rfl rfl)
theorem dX4_local_112 : decode cX4_local 112 = .ok (.ireturn, 1) := dk_172 (dk_at dksX4_local_4 19 rfl rfl)
abbrev cX4_first : ByteArray := prog_13_method_74_code
def yX4_first : MethodName := ⟨RX4, "first", "(I)I"⟩
def dkwX4_first_3 : List UInt8 := [172]
abbrev dktX4_first_3 : List UInt8 := dkwX4_first_3 ++ []
def dkwX4_first_2 : List UInt8 := [153, 0, 6, 16, 254, 172, 42, 180, 1, 15, 154, 0, 5, 2, 172, 42, 27, 182, 1, 37, 42, 180, 1, 6]
abbrev dktX4_first_2 : List UInt8 := dkwX4_first_2 ++ dktX4_first_3
def dkwX4_first_1 : List UInt8 := [182, 0, 180, 153, 0, 5, 3, 172, 42, 182, 1, 34, 42, 3, 27, 3, 182, 1, 12, 61, 42, 180, 1, 9]
abbrev dktX4_first_1 : List UInt8 := dkwX4_first_1 ++ dktX4_first_2
def dkwX4_first_0 : List UInt8 := [42, 3, 181, 0, 3, 42, 27, 4, 16, 40, 184, 0, 65, 154, 0, 7, 4, 167, 0, 4, 3, 4]
abbrev dktX4_first_0 : List UInt8 := dkwX4_first_0 ++ dktX4_first_1
theorem dksX4_first_0 : cX4_first.data.toList.drop 0 = dktX4_first_0 := by decide +kernel
theorem dksX4_first_1 : cX4_first.data.toList.drop 22 = dktX4_first_1 := dk_seg dksX4_first_0 22 rfl rfl
theorem dksX4_first_2 : cX4_first.data.toList.drop 46 = dktX4_first_2 := dk_seg dksX4_first_1 24 rfl rfl
theorem dksX4_first_3 : cX4_first.data.toList.drop 70 = dktX4_first_3 := dk_seg dksX4_first_2 24 rfl rfl
theorem dX4_first_0 : decode cX4_first 0 = .ok (.aload_n 0, 1) := dk_42 (dk_at dksX4_first_0 0 rfl rfl)
theorem dX4_first_1 : decode cX4_first 1 = .ok (.iconst 0, 1) := dk_3 (dk_at dksX4_first_0 1 rfl rfl)
theorem dX4_first_2 : decode cX4_first 2 = .ok (.putfield 3, 3) := dk_181 0 3 (dk_at dksX4_first_0 2 rfl rfl)
theorem dX4_first_5 : decode cX4_first 5 = .ok (.aload_n 0, 1) := dk_42 (dk_at dksX4_first_0 5 rfl rfl)
theorem dX4_first_6 : decode cX4_first 6 = .ok (.iload_n 1, 1) := dk_27 (dk_at dksX4_first_0 6 rfl rfl)
theorem dX4_first_7 : decode cX4_first 7 = .ok (.iconst 1, 1) := dk_4 (dk_at dksX4_first_0 7 rfl rfl)
theorem dX4_first_8 : decode cX4_first 8 = .ok (.bipush 40, 2) := dk_16 40 (dk_at dksX4_first_0 8 rfl rfl)
theorem dX4_first_10 : decode cX4_first 10 = .ok (.invokestatic 65, 3) := dk_184 0 65 (dk_at dksX4_first_0 10 rfl rfl)
theorem dX4_first_13 : decode cX4_first 13 = .ok (.ifCond .ne 7, 3) := dk_154 0 7 (dk_at dksX4_first_0 13 rfl rfl)
theorem dX4_first_16 : decode cX4_first 16 = .ok (.iconst 1, 1) := dk_4 (dk_at dksX4_first_0 16 rfl rfl)
theorem dX4_first_17 : decode cX4_first 17 = .ok (.goto 4, 3) := dk_167 0 4 (dk_at dksX4_first_0 17 rfl rfl)
theorem dX4_first_20 : decode cX4_first 20 = .ok (.iconst 0, 1) := dk_3 (dk_at dksX4_first_0 20 rfl rfl)
theorem dX4_first_21 : decode cX4_first 21 = .ok (.iconst 1, 1) := dk_4 (dk_at dksX4_first_0 21 rfl rfl)
theorem dX4_first_22 : decode cX4_first 22 = .ok (.invokevirtual 180, 3) := dk_182 0 180 (dk_at dksX4_first_1 0 rfl rfl)
theorem dX4_first_25 : decode cX4_first 25 = .ok (.ifCond .eq 5, 3) := dk_153 0 5 (dk_at dksX4_first_1 3 rfl rfl)
theorem dX4_first_28 : decode cX4_first 28 = .ok (.iconst 0, 1) := dk_3 (dk_at dksX4_first_1 6 rfl rfl)
theorem dX4_first_29 : decode cX4_first 29 = .ok (.ireturn, 1) := dk_172 (dk_at dksX4_first_1 7 rfl rfl)
theorem dX4_first_30 : decode cX4_first 30 = .ok (.aload_n 0, 1) := dk_42 (dk_at dksX4_first_1 8 rfl rfl)
theorem dX4_first_31 : decode cX4_first 31 = .ok (.invokevirtual 290, 3) := dk_182 1 34 (dk_at dksX4_first_1 9 rfl rfl)
theorem dX4_first_34 : decode cX4_first 34 = .ok (.aload_n 0, 1) := dk_42 (dk_at dksX4_first_1 12 rfl rfl)
theorem dX4_first_35 : decode cX4_first 35 = .ok (.iconst 0, 1) := dk_3 (dk_at dksX4_first_1 13 rfl rfl)
theorem dX4_first_36 : decode cX4_first 36 = .ok (.iload_n 1, 1) := dk_27 (dk_at dksX4_first_1 14 rfl rfl)
theorem dX4_first_37 : decode cX4_first 37 = .ok (.iconst 0, 1) := dk_3 (dk_at dksX4_first_1 15 rfl rfl)
theorem dX4_first_38 : decode cX4_first 38 = .ok (.invokevirtual 268, 3) := dk_182 1 12 (dk_at dksX4_first_1 16 rfl rfl)
theorem dX4_first_41 : decode cX4_first 41 = .ok (.istore_n 2, 1) := dk_61 (dk_at dksX4_first_1 19 rfl rfl)
theorem dX4_first_42 : decode cX4_first 42 = .ok (.aload_n 0, 1) := dk_42 (dk_at dksX4_first_1 20 rfl rfl)
theorem dX4_first_43 : decode cX4_first 43 = .ok (.getfield 265, 3) := dk_180 1 9 (dk_at dksX4_first_1 21 rfl rfl)
theorem dX4_first_46 : decode cX4_first 46 = .ok (.ifCond .eq 6, 3) := dk_153 0 6 (dk_at dksX4_first_2 0 rfl rfl)
theorem dX4_first_49 : decode cX4_first 49 = .ok (.bipush (-2), 2) := dk_16 254 (dk_at dksX4_first_2 3 rfl rfl)
theorem dX4_first_51 : decode cX4_first 51 = .ok (.ireturn, 1) := dk_172 (dk_at dksX4_first_2 5 rfl rfl)
theorem dX4_first_52 : decode cX4_first 52 = .ok (.aload_n 0, 1) := dk_42 (dk_at dksX4_first_2 6 rfl rfl)
theorem dX4_first_53 : decode cX4_first 53 = .ok (.getfield 271, 3) := dk_180 1 15 (dk_at dksX4_first_2 7 rfl rfl)
theorem dX4_first_56 : decode cX4_first 56 = .ok (.ifCond .ne 5, 3) := dk_154 0 5 (dk_at dksX4_first_2 10 rfl rfl)
theorem dX4_first_59 : decode cX4_first 59 = .ok (.iconst (-1), 1) := dk_2 (dk_at dksX4_first_2 13 rfl rfl)
theorem dX4_first_60 : decode cX4_first 60 = .ok (.ireturn, 1) := dk_172 (dk_at dksX4_first_2 14 rfl rfl)
theorem dX4_first_61 : decode cX4_first 61 = .ok (.aload_n 0, 1) := dk_42 (dk_at dksX4_first_2 15 rfl rfl)
theorem dX4_first_62 : decode cX4_first 62 = .ok (.iload_n 1, 1) := dk_27 (dk_at dksX4_first_2 16 rfl rfl)
theorem dX4_first_63 : decode cX4_first 63 = .ok (.invokevirtual 293, 3) := dk_182 1 37 (dk_at dksX4_first_2 17 rfl rfl)
theorem dX4_first_66 : decode cX4_first 66 = .ok (.aload_n 0, 1) := dk_42 (dk_at dksX4_first_2 20 rfl rfl)
theorem dX4_first_67 : decode cX4_first 67 = .ok (.getfield 262, 3) := dk_180 1 6 (dk_at dksX4_first_2 21 rfl rfl)
theorem dX4_first_70 : decode cX4_first 70 = .ok (.ireturn, 1) := dk_172 (dk_at dksX4_first_3 0 rfl rfl)
abbrev cX4_startsSearch : ByteArray := prog_13_method_71_code
def yX4_startsSearch : MethodName := ⟨RX4, "startsSearch", "()V"⟩
def dkwX4_startsSearch_0 : List UInt8 := [42, 3, 181, 1, 6, 42, 3, 181, 1, 18, 42, 3, 181, 1, 9, 42, 3, 181, 1, 15, 177]
abbrev dktX4_startsSearch_0 : List UInt8 := dkwX4_startsSearch_0 ++ []
theorem dksX4_startsSearch_0 : cX4_startsSearch.data.toList.drop 0 = dktX4_startsSearch_0 := by decide +kernel
theorem dX4_startsSearch_0 : decode cX4_startsSearch 0 = .ok (.aload_n 0, 1) := dk_42 (dk_at dksX4_startsSearch_0 0 rfl rfl)
theorem dX4_startsSearch_1 : decode cX4_startsSearch 1 = .ok (.iconst 0, 1) := dk_3 (dk_at dksX4_startsSearch_0 1 rfl rfl)
theorem dX4_startsSearch_2 : decode cX4_startsSearch 2 = .ok (.putfield 262, 3) := dk_181 1 6 (dk_at dksX4_startsSearch_0 2 rfl rfl)
theorem dX4_startsSearch_5 : decode cX4_startsSearch 5 = .ok (.aload_n 0, 1) := dk_42 (dk_at dksX4_startsSearch_0 5 rfl rfl)
theorem dX4_startsSearch_6 : decode cX4_startsSearch 6 = .ok (.iconst 0, 1) := dk_3 (dk_at dksX4_startsSearch_0 6 rfl rfl)
theorem dX4_startsSearch_7 : decode cX4_startsSearch 7 = .ok (.putfield 274, 3) := dk_181 1 18 (dk_at dksX4_startsSearch_0 7 rfl rfl)
theorem dX4_startsSearch_10 : decode cX4_startsSearch 10 = .ok (.aload_n 0, 1) := dk_42 (dk_at dksX4_startsSearch_0 10 rfl rfl)
theorem dX4_startsSearch_11 : decode cX4_startsSearch 11 = .ok (.iconst 0, 1) := dk_3 (dk_at dksX4_startsSearch_0 11 rfl rfl)
theorem dX4_startsSearch_12 : decode cX4_startsSearch 12 = .ok (.putfield 265, 3) := dk_181 1 9 (dk_at dksX4_startsSearch_0 12 rfl rfl)
theorem dX4_startsSearch_15 : decode cX4_startsSearch 15 = .ok (.aload_n 0, 1) := dk_42 (dk_at dksX4_startsSearch_0 15 rfl rfl)
theorem dX4_startsSearch_16 : decode cX4_startsSearch 16 = .ok (.iconst 0, 1) := dk_3 (dk_at dksX4_startsSearch_0 16 rfl rfl)
theorem dX4_startsSearch_17 : decode cX4_startsSearch 17 = .ok (.putfield 271, 3) := dk_181 1 15 (dk_at dksX4_startsSearch_0 17 rfl rfl)
theorem dX4_startsSearch_20 : decode cX4_startsSearch 20 = .ok (.return_, 1) := dk_177 (dk_at dksX4_startsSearch_0 20 rfl rfl)
abbrev cX4_searches : ByteArray := prog_13_method_67_code
def yX4_searches : MethodName := ⟨RX4, "searches", "(III)Z"⟩
def dkwX4_searches_4 : List UInt8 := [167, 255, 179, 4, 172]
abbrev dktX4_searches_4 : List UInt8 := dkwX4_searches_4 ++ []
def dkwX4_searches_3 : List UInt8 := [182, 0, 229, 153, 0, 17, 42, 27, 4, 96, 28, 29, 182, 1, 12, 154, 0, 5, 3, 172, 132, 4, 1]
abbrev dktX4_searches_3 : List UInt8 := dkwX4_searches_3 ++ dktX4_searches_4
def dkwX4_searches_2 : List UInt8 := [180, 1, 6, 4, 96, 181, 1, 6, 42, 180, 0, 98, 27, 21, 4, 79, 42, 42, 180, 0, 98, 27, 4, 96]
abbrev dktX4_searches_2 : List UInt8 := dkwX4_searches_2 ++ dktX4_searches_3
def dkwX4_searches_1 : List UInt8 := [162, 0, 72, 42, 180, 1, 6, 17, 19, 136, 160, 0, 10, 42, 4, 181, 1, 9, 3, 172, 42, 89]
abbrev dktX4_searches_1 : List UInt8 := dkwX4_searches_1 ++ dktX4_searches_2
def dkwX4_searches_0 : List UInt8 := [27, 28, 160, 0, 10, 42, 28, 29, 182, 1, 3, 172, 3, 54, 4, 21, 4, 42, 180, 0, 77, 3, 46]
abbrev dktX4_searches_0 : List UInt8 := dkwX4_searches_0 ++ dktX4_searches_1
theorem dksX4_searches_0 : cX4_searches.data.toList.drop 0 = dktX4_searches_0 := by decide +kernel
theorem dksX4_searches_1 : cX4_searches.data.toList.drop 23 = dktX4_searches_1 := dk_seg dksX4_searches_0 23 rfl rfl
theorem dksX4_searches_2 : cX4_searches.data.toList.drop 45 = dktX4_searches_2 := dk_seg dksX4_searches_1 22 rfl rfl
theorem dksX4_searches_3 : cX4_searches.data.toList.drop 69 = dktX4_searches_3 := dk_seg dksX4_searches_2 24 rfl rfl
theorem dksX4_searches_4 : cX4_searches.data.toList.drop 92 = dktX4_searches_4 := dk_seg dksX4_searches_3 23 rfl rfl
theorem dX4_searches_0 : decode cX4_searches 0 = .ok (.iload_n 1, 1) := dk_27 (dk_at dksX4_searches_0 0 rfl rfl)
theorem dX4_searches_1 : decode cX4_searches 1 = .ok (.iload_n 2, 1) := dk_28 (dk_at dksX4_searches_0 1 rfl rfl)
theorem dX4_searches_2 : decode cX4_searches 2 = .ok (.if_icmp .ne 10, 3) := dk_160 0 10 (dk_at dksX4_searches_0 2 rfl rfl)
theorem dX4_searches_5 : decode cX4_searches 5 = .ok (.aload_n 0, 1) := dk_42 (dk_at dksX4_searches_0 5 rfl rfl)
theorem dX4_searches_6 : decode cX4_searches 6 = .ok (.iload_n 2, 1) := dk_28 (dk_at dksX4_searches_0 6 rfl rfl)
theorem dX4_searches_7 : decode cX4_searches 7 = .ok (.iload_n 3, 1) := dk_29 (dk_at dksX4_searches_0 7 rfl rfl)
theorem dX4_searches_8 : decode cX4_searches 8 = .ok (.invokevirtual 259, 3) := dk_182 1 3 (dk_at dksX4_searches_0 8 rfl rfl)
theorem dX4_searches_11 : decode cX4_searches 11 = .ok (.ireturn, 1) := dk_172 (dk_at dksX4_searches_0 11 rfl rfl)
theorem dX4_searches_12 : decode cX4_searches 12 = .ok (.iconst 0, 1) := dk_3 (dk_at dksX4_searches_0 12 rfl rfl)
theorem dX4_searches_13 : decode cX4_searches 13 = .ok (.istore 4, 2) := dk_54 4 (dk_at dksX4_searches_0 13 rfl rfl)
theorem dX4_searches_15 : decode cX4_searches 15 = .ok (.iload 4, 2) := dk_21 4 (dk_at dksX4_searches_0 15 rfl rfl)
theorem dX4_searches_17 : decode cX4_searches 17 = .ok (.aload_n 0, 1) := dk_42 (dk_at dksX4_searches_0 17 rfl rfl)
theorem dX4_searches_18 : decode cX4_searches 18 = .ok (.getfield 77, 3) := dk_180 0 77 (dk_at dksX4_searches_0 18 rfl rfl)
theorem dX4_searches_21 : decode cX4_searches 21 = .ok (.iconst 0, 1) := dk_3 (dk_at dksX4_searches_0 21 rfl rfl)
theorem dX4_searches_22 : decode cX4_searches 22 = .ok (.iaload, 1) := dk_46 (dk_at dksX4_searches_0 22 rfl rfl)
theorem dX4_searches_23 : decode cX4_searches 23 = .ok (.if_icmp .ge 72, 3) := dk_162 0 72 (dk_at dksX4_searches_1 0 rfl rfl)
theorem dX4_searches_26 : decode cX4_searches 26 = .ok (.aload_n 0, 1) := dk_42 (dk_at dksX4_searches_1 3 rfl rfl)
theorem dX4_searches_27 : decode cX4_searches 27 = .ok (.getfield 262, 3) := dk_180 1 6 (dk_at dksX4_searches_1 4 rfl rfl)
theorem dX4_searches_30 : decode cX4_searches 30 = .ok (.sipush 5000, 3) := dk_17 19 136 (dk_at dksX4_searches_1 7 rfl rfl)
theorem dX4_searches_33 : decode cX4_searches 33 = .ok (.if_icmp .ne 10, 3) := dk_160 0 10 (dk_at dksX4_searches_1 10 rfl rfl)
theorem dX4_searches_36 : decode cX4_searches 36 = .ok (.aload_n 0, 1) := dk_42 (dk_at dksX4_searches_1 13 rfl rfl)
theorem dX4_searches_37 : decode cX4_searches 37 = .ok (.iconst 1, 1) := dk_4 (dk_at dksX4_searches_1 14 rfl rfl)
theorem dX4_searches_38 : decode cX4_searches 38 = .ok (.putfield 265, 3) := dk_181 1 9 (dk_at dksX4_searches_1 15 rfl rfl)
theorem dX4_searches_41 : decode cX4_searches 41 = .ok (.iconst 0, 1) := dk_3 (dk_at dksX4_searches_1 18 rfl rfl)
theorem dX4_searches_42 : decode cX4_searches 42 = .ok (.ireturn, 1) := dk_172 (dk_at dksX4_searches_1 19 rfl rfl)
theorem dX4_searches_43 : decode cX4_searches 43 = .ok (.aload_n 0, 1) := dk_42 (dk_at dksX4_searches_1 20 rfl rfl)
theorem dX4_searches_44 : decode cX4_searches 44 = .ok (.dup, 1) := dk_89 (dk_at dksX4_searches_1 21 rfl rfl)
theorem dX4_searches_45 : decode cX4_searches 45 = .ok (.getfield 262, 3) := dk_180 1 6 (dk_at dksX4_searches_2 0 rfl rfl)
theorem dX4_searches_48 : decode cX4_searches 48 = .ok (.iconst 1, 1) := dk_4 (dk_at dksX4_searches_2 3 rfl rfl)
theorem dX4_searches_49 : decode cX4_searches 49 = .ok (.iadd, 1) := dk_96 (dk_at dksX4_searches_2 4 rfl rfl)
theorem dX4_searches_50 : decode cX4_searches 50 = .ok (.putfield 262, 3) := dk_181 1 6 (dk_at dksX4_searches_2 5 rfl rfl)
theorem dX4_searches_53 : decode cX4_searches 53 = .ok (.aload_n 0, 1) := dk_42 (dk_at dksX4_searches_2 8 rfl rfl)
theorem dX4_searches_54 : decode cX4_searches 54 = .ok (.getfield 98, 3) := dk_180 0 98 (dk_at dksX4_searches_2 9 rfl rfl)
theorem dX4_searches_57 : decode cX4_searches 57 = .ok (.iload_n 1, 1) := dk_27 (dk_at dksX4_searches_2 12 rfl rfl)
theorem dX4_searches_58 : decode cX4_searches 58 = .ok (.iload 4, 2) := dk_21 4 (dk_at dksX4_searches_2 13 rfl rfl)
theorem dX4_searches_60 : decode cX4_searches 60 = .ok (.iastore, 1) := dk_79 (dk_at dksX4_searches_2 15 rfl rfl)
theorem dX4_searches_61 : decode cX4_searches 61 = .ok (.aload_n 0, 1) := dk_42 (dk_at dksX4_searches_2 16 rfl rfl)
theorem dX4_searches_62 : decode cX4_searches 62 = .ok (.aload_n 0, 1) := dk_42 (dk_at dksX4_searches_2 17 rfl rfl)
theorem dX4_searches_63 : decode cX4_searches 63 = .ok (.getfield 98, 3) := dk_180 0 98 (dk_at dksX4_searches_2 18 rfl rfl)
theorem dX4_searches_66 : decode cX4_searches 66 = .ok (.iload_n 1, 1) := dk_27 (dk_at dksX4_searches_2 21 rfl rfl)
theorem dX4_searches_67 : decode cX4_searches 67 = .ok (.iconst 1, 1) := dk_4 (dk_at dksX4_searches_2 22 rfl rfl)
theorem dX4_searches_68 : decode cX4_searches 68 = .ok (.iadd, 1) := dk_96 (dk_at dksX4_searches_2 23 rfl rfl)
theorem dX4_searches_69 : decode cX4_searches 69 = .ok (.invokevirtual 229, 3) := dk_182 0 229 (dk_at dksX4_searches_3 0 rfl rfl)
theorem dX4_searches_72 : decode cX4_searches 72 = .ok (.ifCond .eq 17, 3) := dk_153 0 17 (dk_at dksX4_searches_3 3 rfl rfl)
theorem dX4_searches_75 : decode cX4_searches 75 = .ok (.aload_n 0, 1) := dk_42 (dk_at dksX4_searches_3 6 rfl rfl)
theorem dX4_searches_76 : decode cX4_searches 76 = .ok (.iload_n 1, 1) := dk_27 (dk_at dksX4_searches_3 7 rfl rfl)
theorem dX4_searches_77 : decode cX4_searches 77 = .ok (.iconst 1, 1) := dk_4 (dk_at dksX4_searches_3 8 rfl rfl)
theorem dX4_searches_78 : decode cX4_searches 78 = .ok (.iadd, 1) := dk_96 (dk_at dksX4_searches_3 9 rfl rfl)
theorem dX4_searches_79 : decode cX4_searches 79 = .ok (.iload_n 2, 1) := dk_28 (dk_at dksX4_searches_3 10 rfl rfl)
theorem dX4_searches_80 : decode cX4_searches 80 = .ok (.iload_n 3, 1) := dk_29 (dk_at dksX4_searches_3 11 rfl rfl)
theorem dX4_searches_81 : decode cX4_searches 81 = .ok (.invokevirtual 268, 3) := dk_182 1 12 (dk_at dksX4_searches_3 12 rfl rfl)
theorem dX4_searches_84 : decode cX4_searches 84 = .ok (.ifCond .ne 5, 3) := dk_154 0 5 (dk_at dksX4_searches_3 15 rfl rfl)
theorem dX4_searches_87 : decode cX4_searches 87 = .ok (.iconst 0, 1) := dk_3 (dk_at dksX4_searches_3 18 rfl rfl)
theorem dX4_searches_88 : decode cX4_searches 88 = .ok (.ireturn, 1) := dk_172 (dk_at dksX4_searches_3 19 rfl rfl)
theorem dX4_searches_89 : decode cX4_searches 89 = .ok (.iinc 4 1, 3) := dk_132 4 1 (dk_at dksX4_searches_3 20 rfl rfl)
theorem dX4_searches_92 : decode cX4_searches 92 = .ok (.goto (-77), 3) := dk_167 255 179 (dk_at dksX4_searches_4 0 rfl rfl)
theorem dX4_searches_95 : decode cX4_searches 95 = .ok (.iconst 1, 1) := dk_4 (dk_at dksX4_searches_4 3 rfl rfl)
theorem dX4_searches_96 : decode cX4_searches 96 = .ok (.ireturn, 1) := dk_172 (dk_at dksX4_searches_4 4 rfl rfl)
abbrev cX4_meets : ByteArray := prog_13_method_68_code
def yX4_meets : MethodName := ⟨RX4, "meets", "(II)Z"⟩
def dkwX4_meets_7 : List UInt8 := [180, 1, 15, 154, 0, 7, 4, 167, 0, 4, 3, 172]
abbrev dktX4_meets_7 : List UInt8 := dkwX4_meets_7 ++ []
def dkwX4_meets_6 : List UInt8 := [42, 180, 1, 15, 154, 0, 7, 4, 167, 0, 4, 3, 172, 42, 42, 27, 182, 1, 31, 181, 1, 15, 42]
abbrev dktX4_meets_6 : List UInt8 := dkwX4_meets_6 ++ dktX4_meets_7
def dkwX4_meets_5 : List UInt8 := [180, 1, 28, 160, 0, 7, 4, 167, 0, 4, 3, 181, 1, 15, 42, 89, 180, 1, 18, 4, 96, 181, 1, 18]
abbrev dktX4_meets_5 : List UInt8 := dkwX4_meets_5 ++ dktX4_meets_6
def dkwX4_meets_4 : List UInt8 := [154, 0, 5, 3, 172, 42, 89, 180, 1, 18, 4, 96, 181, 1, 18, 4, 172, 42, 42, 180, 1, 18, 42]
abbrev dktX4_meets_4 : List UInt8 := dkwX4_meets_4 ++ dktX4_meets_5
def dkwX4_meets_3 : List UInt8 := [42, 27, 182, 1, 21, 153, 0, 7, 4, 167, 0, 4, 3, 96, 181, 1, 18, 4, 172, 42, 27, 182, 1, 25]
abbrev dktX4_meets_3 : List UInt8 := dkwX4_meets_3 ++ dktX4_meets_4
def dkwX4_meets_2 : List UInt8 := [42, 4, 181, 1, 15, 3, 172, 42, 89, 180, 1, 18, 4, 96, 181, 1, 18, 4, 172, 42, 89, 180, 1, 18]
abbrev dktX4_meets_2 : List UInt8 := dkwX4_meets_2 ++ dktX4_meets_3
def dkwX4_meets_1 : List UInt8 := [170, 0, 0, 0, 0, 0, 143, 0, 0, 0, 0, 0, 0, 0, 4, 0, 0, 0, 35, 0, 0, 0, 42, 0, 0, 0, 54, 0, 0, 0, 78, 0, 0, 0, 100]
abbrev dktX4_meets_1 : List UInt8 := dkwX4_meets_1 ++ dktX4_meets_2
def dkwX4_meets_0 : List UInt8 := [28]
abbrev dktX4_meets_0 : List UInt8 := dkwX4_meets_0 ++ dktX4_meets_1
theorem dksX4_meets_0 : cX4_meets.data.toList.drop 0 = dktX4_meets_0 := by decide +kernel
theorem dksX4_meets_1 : cX4_meets.data.toList.drop 1 = dktX4_meets_1 := dk_seg dksX4_meets_0 1 rfl rfl
theorem dksX4_meets_2 : cX4_meets.data.toList.drop 36 = dktX4_meets_2 := dk_seg dksX4_meets_1 35 rfl rfl
theorem dksX4_meets_3 : cX4_meets.data.toList.drop 60 = dktX4_meets_3 := dk_seg dksX4_meets_2 24 rfl rfl
theorem dksX4_meets_4 : cX4_meets.data.toList.drop 84 = dktX4_meets_4 := dk_seg dksX4_meets_3 24 rfl rfl
theorem dksX4_meets_5 : cX4_meets.data.toList.drop 107 = dktX4_meets_5 := dk_seg dksX4_meets_4 23 rfl rfl
theorem dksX4_meets_6 : cX4_meets.data.toList.drop 131 = dktX4_meets_6 := dk_seg dksX4_meets_5 24 rfl rfl
theorem dksX4_meets_7 : cX4_meets.data.toList.drop 154 = dktX4_meets_7 := dk_seg dksX4_meets_6 23 rfl rfl
theorem dX4_meets_0 : decode cX4_meets 0 = .ok (.iload_n 2, 1) := dk_28 (dk_at dksX4_meets_0 0 rfl rfl)
theorem dX4_meets_1 : decode cX4_meets 1 = .ok (.tableswitch 143 0 4 #[35, 42, 54, 78, 100], 35) := by decide +kernel
theorem dX4_meets_36 : decode cX4_meets 36 = .ok (.aload_n 0, 1) := dk_42 (dk_at dksX4_meets_2 0 rfl rfl)
theorem dX4_meets_37 : decode cX4_meets 37 = .ok (.iconst 1, 1) := dk_4 (dk_at dksX4_meets_2 1 rfl rfl)
theorem dX4_meets_38 : decode cX4_meets 38 = .ok (.putfield 271, 3) := dk_181 1 15 (dk_at dksX4_meets_2 2 rfl rfl)
theorem dX4_meets_41 : decode cX4_meets 41 = .ok (.iconst 0, 1) := dk_3 (dk_at dksX4_meets_2 5 rfl rfl)
theorem dX4_meets_42 : decode cX4_meets 42 = .ok (.ireturn, 1) := dk_172 (dk_at dksX4_meets_2 6 rfl rfl)
theorem dX4_meets_43 : decode cX4_meets 43 = .ok (.aload_n 0, 1) := dk_42 (dk_at dksX4_meets_2 7 rfl rfl)
theorem dX4_meets_44 : decode cX4_meets 44 = .ok (.dup, 1) := dk_89 (dk_at dksX4_meets_2 8 rfl rfl)
theorem dX4_meets_45 : decode cX4_meets 45 = .ok (.getfield 274, 3) := dk_180 1 18 (dk_at dksX4_meets_2 9 rfl rfl)
theorem dX4_meets_48 : decode cX4_meets 48 = .ok (.iconst 1, 1) := dk_4 (dk_at dksX4_meets_2 12 rfl rfl)
theorem dX4_meets_49 : decode cX4_meets 49 = .ok (.iadd, 1) := dk_96 (dk_at dksX4_meets_2 13 rfl rfl)
theorem dX4_meets_50 : decode cX4_meets 50 = .ok (.putfield 274, 3) := dk_181 1 18 (dk_at dksX4_meets_2 14 rfl rfl)
theorem dX4_meets_53 : decode cX4_meets 53 = .ok (.iconst 1, 1) := dk_4 (dk_at dksX4_meets_2 17 rfl rfl)
theorem dX4_meets_54 : decode cX4_meets 54 = .ok (.ireturn, 1) := dk_172 (dk_at dksX4_meets_2 18 rfl rfl)
theorem dX4_meets_55 : decode cX4_meets 55 = .ok (.aload_n 0, 1) := dk_42 (dk_at dksX4_meets_2 19 rfl rfl)
theorem dX4_meets_56 : decode cX4_meets 56 = .ok (.dup, 1) := dk_89 (dk_at dksX4_meets_2 20 rfl rfl)
theorem dX4_meets_57 : decode cX4_meets 57 = .ok (.getfield 274, 3) := dk_180 1 18 (dk_at dksX4_meets_2 21 rfl rfl)
theorem dX4_meets_60 : decode cX4_meets 60 = .ok (.aload_n 0, 1) := dk_42 (dk_at dksX4_meets_3 0 rfl rfl)
theorem dX4_meets_61 : decode cX4_meets 61 = .ok (.iload_n 1, 1) := dk_27 (dk_at dksX4_meets_3 1 rfl rfl)
theorem dX4_meets_62 : decode cX4_meets 62 = .ok (.invokevirtual 277, 3) := dk_182 1 21 (dk_at dksX4_meets_3 2 rfl rfl)
theorem dX4_meets_65 : decode cX4_meets 65 = .ok (.ifCond .eq 7, 3) := dk_153 0 7 (dk_at dksX4_meets_3 5 rfl rfl)
theorem dX4_meets_68 : decode cX4_meets 68 = .ok (.iconst 1, 1) := dk_4 (dk_at dksX4_meets_3 8 rfl rfl)
theorem dX4_meets_69 : decode cX4_meets 69 = .ok (.goto 4, 3) := dk_167 0 4 (dk_at dksX4_meets_3 9 rfl rfl)
theorem dX4_meets_72 : decode cX4_meets 72 = .ok (.iconst 0, 1) := dk_3 (dk_at dksX4_meets_3 12 rfl rfl)
theorem dX4_meets_73 : decode cX4_meets 73 = .ok (.iadd, 1) := dk_96 (dk_at dksX4_meets_3 13 rfl rfl)
theorem dX4_meets_74 : decode cX4_meets 74 = .ok (.putfield 274, 3) := dk_181 1 18 (dk_at dksX4_meets_3 14 rfl rfl)
theorem dX4_meets_77 : decode cX4_meets 77 = .ok (.iconst 1, 1) := dk_4 (dk_at dksX4_meets_3 17 rfl rfl)
theorem dX4_meets_78 : decode cX4_meets 78 = .ok (.ireturn, 1) := dk_172 (dk_at dksX4_meets_3 18 rfl rfl)
theorem dX4_meets_79 : decode cX4_meets 79 = .ok (.aload_n 0, 1) := dk_42 (dk_at dksX4_meets_3 19 rfl rfl)
theorem dX4_meets_80 : decode cX4_meets 80 = .ok (.iload_n 1, 1) := dk_27 (dk_at dksX4_meets_3 20 rfl rfl)
theorem dX4_meets_81 : decode cX4_meets 81 = .ok (.invokevirtual 281, 3) := dk_182 1 25 (dk_at dksX4_meets_3 21 rfl rfl)
theorem dX4_meets_84 : decode cX4_meets 84 = .ok (.ifCond .ne 5, 3) := dk_154 0 5 (dk_at dksX4_meets_4 0 rfl rfl)
theorem dX4_meets_87 : decode cX4_meets 87 = .ok (.iconst 0, 1) := dk_3 (dk_at dksX4_meets_4 3 rfl rfl)
theorem dX4_meets_88 : decode cX4_meets 88 = .ok (.ireturn, 1) := dk_172 (dk_at dksX4_meets_4 4 rfl rfl)
theorem dX4_meets_89 : decode cX4_meets 89 = .ok (.aload_n 0, 1) := dk_42 (dk_at dksX4_meets_4 5 rfl rfl)
theorem dX4_meets_90 : decode cX4_meets 90 = .ok (.dup, 1) := dk_89 (dk_at dksX4_meets_4 6 rfl rfl)
theorem dX4_meets_91 : decode cX4_meets 91 = .ok (.getfield 274, 3) := dk_180 1 18 (dk_at dksX4_meets_4 7 rfl rfl)
theorem dX4_meets_94 : decode cX4_meets 94 = .ok (.iconst 1, 1) := dk_4 (dk_at dksX4_meets_4 10 rfl rfl)
theorem dX4_meets_95 : decode cX4_meets 95 = .ok (.iadd, 1) := dk_96 (dk_at dksX4_meets_4 11 rfl rfl)
theorem dX4_meets_96 : decode cX4_meets 96 = .ok (.putfield 274, 3) := dk_181 1 18 (dk_at dksX4_meets_4 12 rfl rfl)
theorem dX4_meets_99 : decode cX4_meets 99 = .ok (.iconst 1, 1) := dk_4 (dk_at dksX4_meets_4 15 rfl rfl)
theorem dX4_meets_100 : decode cX4_meets 100 = .ok (.ireturn, 1) := dk_172 (dk_at dksX4_meets_4 16 rfl rfl)
theorem dX4_meets_101 : decode cX4_meets 101 = .ok (.aload_n 0, 1) := dk_42 (dk_at dksX4_meets_4 17 rfl rfl)
theorem dX4_meets_102 : decode cX4_meets 102 = .ok (.aload_n 0, 1) := dk_42 (dk_at dksX4_meets_4 18 rfl rfl)
theorem dX4_meets_103 : decode cX4_meets 103 = .ok (.getfield 274, 3) := dk_180 1 18 (dk_at dksX4_meets_4 19 rfl rfl)
theorem dX4_meets_106 : decode cX4_meets 106 = .ok (.aload_n 0, 1) := dk_42 (dk_at dksX4_meets_4 22 rfl rfl)
theorem dX4_meets_107 : decode cX4_meets 107 = .ok (.getfield 284, 3) := dk_180 1 28 (dk_at dksX4_meets_5 0 rfl rfl)
theorem dX4_meets_110 : decode cX4_meets 110 = .ok (.if_icmp .ne 7, 3) := dk_160 0 7 (dk_at dksX4_meets_5 3 rfl rfl)
theorem dX4_meets_113 : decode cX4_meets 113 = .ok (.iconst 1, 1) := dk_4 (dk_at dksX4_meets_5 6 rfl rfl)
theorem dX4_meets_114 : decode cX4_meets 114 = .ok (.goto 4, 3) := dk_167 0 4 (dk_at dksX4_meets_5 7 rfl rfl)
theorem dX4_meets_117 : decode cX4_meets 117 = .ok (.iconst 0, 1) := dk_3 (dk_at dksX4_meets_5 10 rfl rfl)
theorem dX4_meets_118 : decode cX4_meets 118 = .ok (.putfield 271, 3) := dk_181 1 15 (dk_at dksX4_meets_5 11 rfl rfl)
theorem dX4_meets_121 : decode cX4_meets 121 = .ok (.aload_n 0, 1) := dk_42 (dk_at dksX4_meets_5 14 rfl rfl)
theorem dX4_meets_122 : decode cX4_meets 122 = .ok (.dup, 1) := dk_89 (dk_at dksX4_meets_5 15 rfl rfl)
theorem dX4_meets_123 : decode cX4_meets 123 = .ok (.getfield 274, 3) := dk_180 1 18 (dk_at dksX4_meets_5 16 rfl rfl)
theorem dX4_meets_126 : decode cX4_meets 126 = .ok (.iconst 1, 1) := dk_4 (dk_at dksX4_meets_5 19 rfl rfl)
theorem dX4_meets_127 : decode cX4_meets 127 = .ok (.iadd, 1) := dk_96 (dk_at dksX4_meets_5 20 rfl rfl)
theorem dX4_meets_128 : decode cX4_meets 128 = .ok (.putfield 274, 3) := dk_181 1 18 (dk_at dksX4_meets_5 21 rfl rfl)
theorem dX4_meets_131 : decode cX4_meets 131 = .ok (.aload_n 0, 1) := dk_42 (dk_at dksX4_meets_6 0 rfl rfl)
theorem dX4_meets_132 : decode cX4_meets 132 = .ok (.getfield 271, 3) := dk_180 1 15 (dk_at dksX4_meets_6 1 rfl rfl)
theorem dX4_meets_135 : decode cX4_meets 135 = .ok (.ifCond .ne 7, 3) := dk_154 0 7 (dk_at dksX4_meets_6 4 rfl rfl)
theorem dX4_meets_138 : decode cX4_meets 138 = .ok (.iconst 1, 1) := dk_4 (dk_at dksX4_meets_6 7 rfl rfl)
theorem dX4_meets_139 : decode cX4_meets 139 = .ok (.goto 4, 3) := dk_167 0 4 (dk_at dksX4_meets_6 8 rfl rfl)
theorem dX4_meets_142 : decode cX4_meets 142 = .ok (.iconst 0, 1) := dk_3 (dk_at dksX4_meets_6 11 rfl rfl)
theorem dX4_meets_143 : decode cX4_meets 143 = .ok (.ireturn, 1) := dk_172 (dk_at dksX4_meets_6 12 rfl rfl)
theorem dX4_meets_144 : decode cX4_meets 144 = .ok (.aload_n 0, 1) := dk_42 (dk_at dksX4_meets_6 13 rfl rfl)
theorem dX4_meets_145 : decode cX4_meets 145 = .ok (.aload_n 0, 1) := dk_42 (dk_at dksX4_meets_6 14 rfl rfl)
theorem dX4_meets_146 : decode cX4_meets 146 = .ok (.iload_n 1, 1) := dk_27 (dk_at dksX4_meets_6 15 rfl rfl)
theorem dX4_meets_147 : decode cX4_meets 147 = .ok (.invokevirtual 287, 3) := dk_182 1 31 (dk_at dksX4_meets_6 16 rfl rfl)
theorem dX4_meets_150 : decode cX4_meets 150 = .ok (.putfield 271, 3) := dk_181 1 15 (dk_at dksX4_meets_6 19 rfl rfl)
theorem dX4_meets_153 : decode cX4_meets 153 = .ok (.aload_n 0, 1) := dk_42 (dk_at dksX4_meets_6 22 rfl rfl)
theorem dX4_meets_154 : decode cX4_meets 154 = .ok (.getfield 271, 3) := dk_180 1 15 (dk_at dksX4_meets_7 0 rfl rfl)
theorem dX4_meets_157 : decode cX4_meets 157 = .ok (.ifCond .ne 7, 3) := dk_154 0 7 (dk_at dksX4_meets_7 3 rfl rfl)
theorem dX4_meets_160 : decode cX4_meets 160 = .ok (.iconst 1, 1) := dk_4 (dk_at dksX4_meets_7 6 rfl rfl)
theorem dX4_meets_161 : decode cX4_meets 161 = .ok (.goto 4, 3) := dk_167 0 4 (dk_at dksX4_meets_7 7 rfl rfl)
theorem dX4_meets_164 : decode cX4_meets 164 = .ok (.iconst 0, 1) := dk_3 (dk_at dksX4_meets_7 10 rfl rfl)
theorem dX4_meets_165 : decode cX4_meets 165 = .ok (.ireturn, 1) := dk_172 (dk_at dksX4_meets_7 11 rfl rfl)
abbrev cX4_isStuck : ByteArray := prog_13_method_69_code
def yX4_isStuck : MethodName := ⟨RX4, "isStuck", "(I)Z"⟩
def dkwX4_isStuck_1 : List UInt8 := [27, 4, 96, 182, 0, 229, 153, 0, 5, 3, 172, 132, 2, 1, 167, 255, 220, 4, 172]
abbrev dktX4_isStuck_1 : List UInt8 := dkwX4_isStuck_1 ++ []
def dkwX4_isStuck_0 : List UInt8 := [3, 61, 28, 42, 180, 0, 77, 3, 46, 162, 0, 32, 42, 180, 0, 98, 27, 28, 79, 42, 42, 180, 0, 98]
abbrev dktX4_isStuck_0 : List UInt8 := dkwX4_isStuck_0 ++ dktX4_isStuck_1
theorem dksX4_isStuck_0 : cX4_isStuck.data.toList.drop 0 = dktX4_isStuck_0 := by decide +kernel
theorem dksX4_isStuck_1 : cX4_isStuck.data.toList.drop 24 = dktX4_isStuck_1 := dk_seg dksX4_isStuck_0 24 rfl rfl
theorem dX4_isStuck_0 : decode cX4_isStuck 0 = .ok (.iconst 0, 1) := dk_3 (dk_at dksX4_isStuck_0 0 rfl rfl)
theorem dX4_isStuck_1 : decode cX4_isStuck 1 = .ok (.istore_n 2, 1) := dk_61 (dk_at dksX4_isStuck_0 1 rfl rfl)
theorem dX4_isStuck_2 : decode cX4_isStuck 2 = .ok (.iload_n 2, 1) := dk_28 (dk_at dksX4_isStuck_0 2 rfl rfl)
theorem dX4_isStuck_3 : decode cX4_isStuck 3 = .ok (.aload_n 0, 1) := dk_42 (dk_at dksX4_isStuck_0 3 rfl rfl)
theorem dX4_isStuck_4 : decode cX4_isStuck 4 = .ok (.getfield 77, 3) := dk_180 0 77 (dk_at dksX4_isStuck_0 4 rfl rfl)
theorem dX4_isStuck_7 : decode cX4_isStuck 7 = .ok (.iconst 0, 1) := dk_3 (dk_at dksX4_isStuck_0 7 rfl rfl)
theorem dX4_isStuck_8 : decode cX4_isStuck 8 = .ok (.iaload, 1) := dk_46 (dk_at dksX4_isStuck_0 8 rfl rfl)
theorem dX4_isStuck_9 : decode cX4_isStuck 9 = .ok (.if_icmp .ge 32, 3) := dk_162 0 32 (dk_at dksX4_isStuck_0 9 rfl rfl)
theorem dX4_isStuck_12 : decode cX4_isStuck 12 = .ok (.aload_n 0, 1) := dk_42 (dk_at dksX4_isStuck_0 12 rfl rfl)
theorem dX4_isStuck_13 : decode cX4_isStuck 13 = .ok (.getfield 98, 3) := dk_180 0 98 (dk_at dksX4_isStuck_0 13 rfl rfl)
theorem dX4_isStuck_16 : decode cX4_isStuck 16 = .ok (.iload_n 1, 1) := dk_27 (dk_at dksX4_isStuck_0 16 rfl rfl)
theorem dX4_isStuck_17 : decode cX4_isStuck 17 = .ok (.iload_n 2, 1) := dk_28 (dk_at dksX4_isStuck_0 17 rfl rfl)
theorem dX4_isStuck_18 : decode cX4_isStuck 18 = .ok (.iastore, 1) := dk_79 (dk_at dksX4_isStuck_0 18 rfl rfl)
theorem dX4_isStuck_19 : decode cX4_isStuck 19 = .ok (.aload_n 0, 1) := dk_42 (dk_at dksX4_isStuck_0 19 rfl rfl)
theorem dX4_isStuck_20 : decode cX4_isStuck 20 = .ok (.aload_n 0, 1) := dk_42 (dk_at dksX4_isStuck_0 20 rfl rfl)
theorem dX4_isStuck_21 : decode cX4_isStuck 21 = .ok (.getfield 98, 3) := dk_180 0 98 (dk_at dksX4_isStuck_0 21 rfl rfl)
theorem dX4_isStuck_24 : decode cX4_isStuck 24 = .ok (.iload_n 1, 1) := dk_27 (dk_at dksX4_isStuck_1 0 rfl rfl)
theorem dX4_isStuck_25 : decode cX4_isStuck 25 = .ok (.iconst 1, 1) := dk_4 (dk_at dksX4_isStuck_1 1 rfl rfl)
theorem dX4_isStuck_26 : decode cX4_isStuck 26 = .ok (.iadd, 1) := dk_96 (dk_at dksX4_isStuck_1 2 rfl rfl)
theorem dX4_isStuck_27 : decode cX4_isStuck 27 = .ok (.invokevirtual 229, 3) := dk_182 0 229 (dk_at dksX4_isStuck_1 3 rfl rfl)
theorem dX4_isStuck_30 : decode cX4_isStuck 30 = .ok (.ifCond .eq 5, 3) := dk_153 0 5 (dk_at dksX4_isStuck_1 6 rfl rfl)
theorem dX4_isStuck_33 : decode cX4_isStuck 33 = .ok (.iconst 0, 1) := dk_3 (dk_at dksX4_isStuck_1 9 rfl rfl)
theorem dX4_isStuck_34 : decode cX4_isStuck 34 = .ok (.ireturn, 1) := dk_172 (dk_at dksX4_isStuck_1 10 rfl rfl)
theorem dX4_isStuck_35 : decode cX4_isStuck 35 = .ok (.iinc 2 1, 3) := dk_132 2 1 (dk_at dksX4_isStuck_1 11 rfl rfl)
theorem dX4_isStuck_38 : decode cX4_isStuck 38 = .ok (.goto (-36), 3) := dk_167 255 220 (dk_at dksX4_isStuck_1 14 rfl rfl)
theorem dX4_isStuck_41 : decode cX4_isStuck 41 = .ok (.iconst 1, 1) := dk_4 (dk_at dksX4_isStuck_1 17 rfl rfl)
theorem dX4_isStuck_42 : decode cX4_isStuck 42 = .ok (.ireturn, 1) := dk_172 (dk_at dksX4_isStuck_1 18 rfl rfl)
abbrev cX4_isAheadOf : ByteArray := prog_13_method_70_code
def yX4_isAheadOf : MethodName := ⟨RX4, "isAheadOf", "(I)Z"⟩
def dkwX4_isAheadOf_2 : List UInt8 := [162, 0, 7, 4, 167, 0, 4, 3, 172]
abbrev dktX4_isAheadOf_2 : List UInt8 := dkwX4_isAheadOf_2 ++ []
def dkwX4_isAheadOf_1 : List UInt8 := [132, 2, 1, 167, 255, 233, 28, 27, 162, 0, 22, 42, 180, 0, 98, 28, 46, 42, 180, 0, 83, 28, 46]
abbrev dktX4_isAheadOf_1 : List UInt8 := dkwX4_isAheadOf_1 ++ dktX4_isAheadOf_2
def dkwX4_isAheadOf_0 : List UInt8 := [3, 61, 28, 27, 162, 0, 24, 42, 180, 0, 98, 28, 46, 42, 180, 0, 83, 28, 46, 160, 0, 9]
abbrev dktX4_isAheadOf_0 : List UInt8 := dkwX4_isAheadOf_0 ++ dktX4_isAheadOf_1
theorem dksX4_isAheadOf_0 : cX4_isAheadOf.data.toList.drop 0 = dktX4_isAheadOf_0 := by decide +kernel
theorem dksX4_isAheadOf_1 : cX4_isAheadOf.data.toList.drop 22 = dktX4_isAheadOf_1 := dk_seg dksX4_isAheadOf_0 22 rfl rfl
theorem dksX4_isAheadOf_2 : cX4_isAheadOf.data.toList.drop 45 = dktX4_isAheadOf_2 := dk_seg dksX4_isAheadOf_1 23 rfl rfl
theorem dX4_isAheadOf_0 : decode cX4_isAheadOf 0 = .ok (.iconst 0, 1) := dk_3 (dk_at dksX4_isAheadOf_0 0 rfl rfl)
theorem dX4_isAheadOf_1 : decode cX4_isAheadOf 1 = .ok (.istore_n 2, 1) := dk_61 (dk_at dksX4_isAheadOf_0 1 rfl rfl)
theorem dX4_isAheadOf_2 : decode cX4_isAheadOf 2 = .ok (.iload_n 2, 1) := dk_28 (dk_at dksX4_isAheadOf_0 2 rfl rfl)
theorem dX4_isAheadOf_3 : decode cX4_isAheadOf 3 = .ok (.iload_n 1, 1) := dk_27 (dk_at dksX4_isAheadOf_0 3 rfl rfl)
theorem dX4_isAheadOf_4 : decode cX4_isAheadOf 4 = .ok (.if_icmp .ge 24, 3) := dk_162 0 24 (dk_at dksX4_isAheadOf_0 4 rfl rfl)
theorem dX4_isAheadOf_7 : decode cX4_isAheadOf 7 = .ok (.aload_n 0, 1) := dk_42 (dk_at dksX4_isAheadOf_0 7 rfl rfl)
theorem dX4_isAheadOf_8 : decode cX4_isAheadOf 8 = .ok (.getfield 98, 3) := dk_180 0 98 (dk_at dksX4_isAheadOf_0 8 rfl rfl)
theorem dX4_isAheadOf_11 : decode cX4_isAheadOf 11 = .ok (.iload_n 2, 1) := dk_28 (dk_at dksX4_isAheadOf_0 11 rfl rfl)
theorem dX4_isAheadOf_12 : decode cX4_isAheadOf 12 = .ok (.iaload, 1) := dk_46 (dk_at dksX4_isAheadOf_0 12 rfl rfl)
theorem dX4_isAheadOf_13 : decode cX4_isAheadOf 13 = .ok (.aload_n 0, 1) := dk_42 (dk_at dksX4_isAheadOf_0 13 rfl rfl)
theorem dX4_isAheadOf_14 : decode cX4_isAheadOf 14 = .ok (.getfield 83, 3) := dk_180 0 83 (dk_at dksX4_isAheadOf_0 14 rfl rfl)
theorem dX4_isAheadOf_17 : decode cX4_isAheadOf 17 = .ok (.iload_n 2, 1) := dk_28 (dk_at dksX4_isAheadOf_0 17 rfl rfl)
theorem dX4_isAheadOf_18 : decode cX4_isAheadOf 18 = .ok (.iaload, 1) := dk_46 (dk_at dksX4_isAheadOf_0 18 rfl rfl)
theorem dX4_isAheadOf_19 : decode cX4_isAheadOf 19 = .ok (.if_icmp .ne 9, 3) := dk_160 0 9 (dk_at dksX4_isAheadOf_0 19 rfl rfl)
theorem dX4_isAheadOf_22 : decode cX4_isAheadOf 22 = .ok (.iinc 2 1, 3) := dk_132 2 1 (dk_at dksX4_isAheadOf_1 0 rfl rfl)
theorem dX4_isAheadOf_25 : decode cX4_isAheadOf 25 = .ok (.goto (-23), 3) := dk_167 255 233 (dk_at dksX4_isAheadOf_1 3 rfl rfl)
theorem dX4_isAheadOf_28 : decode cX4_isAheadOf 28 = .ok (.iload_n 2, 1) := dk_28 (dk_at dksX4_isAheadOf_1 6 rfl rfl)
theorem dX4_isAheadOf_29 : decode cX4_isAheadOf 29 = .ok (.iload_n 1, 1) := dk_27 (dk_at dksX4_isAheadOf_1 7 rfl rfl)
theorem dX4_isAheadOf_30 : decode cX4_isAheadOf 30 = .ok (.if_icmp .ge 22, 3) := dk_162 0 22 (dk_at dksX4_isAheadOf_1 8 rfl rfl)
theorem dX4_isAheadOf_33 : decode cX4_isAheadOf 33 = .ok (.aload_n 0, 1) := dk_42 (dk_at dksX4_isAheadOf_1 11 rfl rfl)
theorem dX4_isAheadOf_34 : decode cX4_isAheadOf 34 = .ok (.getfield 98, 3) := dk_180 0 98 (dk_at dksX4_isAheadOf_1 12 rfl rfl)
theorem dX4_isAheadOf_37 : decode cX4_isAheadOf 37 = .ok (.iload_n 2, 1) := dk_28 (dk_at dksX4_isAheadOf_1 15 rfl rfl)
theorem dX4_isAheadOf_38 : decode cX4_isAheadOf 38 = .ok (.iaload, 1) := dk_46 (dk_at dksX4_isAheadOf_1 16 rfl rfl)
theorem dX4_isAheadOf_39 : decode cX4_isAheadOf 39 = .ok (.aload_n 0, 1) := dk_42 (dk_at dksX4_isAheadOf_1 17 rfl rfl)
theorem dX4_isAheadOf_40 : decode cX4_isAheadOf 40 = .ok (.getfield 83, 3) := dk_180 0 83 (dk_at dksX4_isAheadOf_1 18 rfl rfl)
theorem dX4_isAheadOf_43 : decode cX4_isAheadOf 43 = .ok (.iload_n 2, 1) := dk_28 (dk_at dksX4_isAheadOf_1 21 rfl rfl)
theorem dX4_isAheadOf_44 : decode cX4_isAheadOf 44 = .ok (.iaload, 1) := dk_46 (dk_at dksX4_isAheadOf_1 22 rfl rfl)
theorem dX4_isAheadOf_45 : decode cX4_isAheadOf 45 = .ok (.if_icmp .ge 7, 3) := dk_162 0 7 (dk_at dksX4_isAheadOf_2 0 rfl rfl)
theorem dX4_isAheadOf_48 : decode cX4_isAheadOf 48 = .ok (.iconst 1, 1) := dk_4 (dk_at dksX4_isAheadOf_2 3 rfl rfl)
theorem dX4_isAheadOf_49 : decode cX4_isAheadOf 49 = .ok (.goto 4, 3) := dk_167 0 4 (dk_at dksX4_isAheadOf_2 4 rfl rfl)
theorem dX4_isAheadOf_52 : decode cX4_isAheadOf 52 = .ok (.iconst 0, 1) := dk_3 (dk_at dksX4_isAheadOf_2 7 rfl rfl)
theorem dX4_isAheadOf_53 : decode cX4_isAheadOf 53 = .ok (.ireturn, 1) := dk_172 (dk_at dksX4_isAheadOf_2 8 rfl rfl)
abbrev cX4_doesBreak : ByteArray := prog_13_method_88_code
def yX4_doesBreak : MethodName := ⟨RX4, "doesBreak", "(I)Z"⟩
def dkwX4_doesBreak_1 : List UInt8 := [162, 0, 7, 4, 167, 0, 4, 3, 172]
abbrev dktX4_doesBreak_1 : List UInt8 := dkwX4_doesBreak_1 ++ []
def dkwX4_doesBreak_0 : List UInt8 := [42, 42, 180, 0, 98, 27, 42, 180, 1, 56, 182, 1, 59, 61, 42, 42, 180, 0, 101, 28, 182, 0, 232, 28]
abbrev dktX4_doesBreak_0 : List UInt8 := dkwX4_doesBreak_0 ++ dktX4_doesBreak_1
theorem dksX4_doesBreak_0 : cX4_doesBreak.data.toList.drop 0 = dktX4_doesBreak_0 := by decide +kernel
theorem dksX4_doesBreak_1 : cX4_doesBreak.data.toList.drop 24 = dktX4_doesBreak_1 := dk_seg dksX4_doesBreak_0 24 rfl rfl
theorem dX4_doesBreak_0 : decode cX4_doesBreak 0 = .ok (.aload_n 0, 1) := dk_42 (dk_at dksX4_doesBreak_0 0 rfl rfl)
theorem dX4_doesBreak_1 : decode cX4_doesBreak 1 = .ok (.aload_n 0, 1) := dk_42 (dk_at dksX4_doesBreak_0 1 rfl rfl)
theorem dX4_doesBreak_2 : decode cX4_doesBreak 2 = .ok (.getfield 98, 3) := dk_180 0 98 (dk_at dksX4_doesBreak_0 2 rfl rfl)
theorem dX4_doesBreak_5 : decode cX4_doesBreak 5 = .ok (.iload_n 1, 1) := dk_27 (dk_at dksX4_doesBreak_0 5 rfl rfl)
theorem dX4_doesBreak_6 : decode cX4_doesBreak 6 = .ok (.aload_n 0, 1) := dk_42 (dk_at dksX4_doesBreak_0 6 rfl rfl)
theorem dX4_doesBreak_7 : decode cX4_doesBreak 7 = .ok (.getfield 312, 3) := dk_180 1 56 (dk_at dksX4_doesBreak_0 7 rfl rfl)
theorem dX4_doesBreak_10 : decode cX4_doesBreak 10 = .ok (.invokevirtual 315, 3) := dk_182 1 59 (dk_at dksX4_doesBreak_0 10 rfl rfl)
theorem dX4_doesBreak_13 : decode cX4_doesBreak 13 = .ok (.istore_n 2, 1) := dk_61 (dk_at dksX4_doesBreak_0 13 rfl rfl)
theorem dX4_doesBreak_14 : decode cX4_doesBreak 14 = .ok (.aload_n 0, 1) := dk_42 (dk_at dksX4_doesBreak_0 14 rfl rfl)
theorem dX4_doesBreak_15 : decode cX4_doesBreak 15 = .ok (.aload_n 0, 1) := dk_42 (dk_at dksX4_doesBreak_0 15 rfl rfl)
theorem dX4_doesBreak_16 : decode cX4_doesBreak 16 = .ok (.getfield 101, 3) := dk_180 0 101 (dk_at dksX4_doesBreak_0 16 rfl rfl)
theorem dX4_doesBreak_19 : decode cX4_doesBreak 19 = .ok (.iload_n 2, 1) := dk_28 (dk_at dksX4_doesBreak_0 19 rfl rfl)
theorem dX4_doesBreak_20 : decode cX4_doesBreak 20 = .ok (.invokevirtual 232, 3) := dk_182 0 232 (dk_at dksX4_doesBreak_0 20 rfl rfl)
theorem dX4_doesBreak_23 : decode cX4_doesBreak 23 = .ok (.iload_n 2, 1) := dk_28 (dk_at dksX4_doesBreak_0 23 rfl rfl)
theorem dX4_doesBreak_24 : decode cX4_doesBreak 24 = .ok (.if_icmp .ge 7, 3) := dk_162 0 7 (dk_at dksX4_doesBreak_1 0 rfl rfl)
theorem dX4_doesBreak_27 : decode cX4_doesBreak 27 = .ok (.iconst 1, 1) := dk_4 (dk_at dksX4_doesBreak_1 3 rfl rfl)
theorem dX4_doesBreak_28 : decode cX4_doesBreak 28 = .ok (.goto 4, 3) := dk_167 0 4 (dk_at dksX4_doesBreak_1 4 rfl rfl)
theorem dX4_doesBreak_31 : decode cX4_doesBreak 31 = .ok (.iconst 0, 1) := dk_3 (dk_at dksX4_doesBreak_1 7 rfl rfl)
theorem dX4_doesBreak_32 : decode cX4_doesBreak 32 = .ok (.ireturn, 1) := dk_172 (dk_at dksX4_doesBreak_1 8 rfl rfl)
abbrev cX4_images : ByteArray := prog_13_method_87_code
def yX4_images : MethodName := ⟨RX4, "images", "([III)I"⟩
def dkwX4_images_2 : List UInt8 := [132, 4, 1, 132, 6, 1, 167, 255, 218, 132, 5, 1, 167, 255, 203, 21, 4, 172]
abbrev dktX4_images_2 : List UInt8 := dkwX4_images_2 ++ []
def dkwX4_images_1 : List UInt8 := [182, 1, 49, 162, 0, 30, 42, 180, 0, 101, 21, 4, 42, 29, 43, 21, 5, 46, 21, 6, 182, 1, 52, 79]
abbrev dktX4_images_1 : List UInt8 := dkwX4_images_1 ++ dktX4_images_2
def dkwX4_images_0 : List UInt8 := [3, 54, 4, 3, 54, 5, 21, 5, 28, 162, 0, 53, 3, 54, 6, 21, 6, 42, 29, 43, 21, 5, 46]
abbrev dktX4_images_0 : List UInt8 := dkwX4_images_0 ++ dktX4_images_1
theorem dksX4_images_0 : cX4_images.data.toList.drop 0 = dktX4_images_0 := by decide +kernel
theorem dksX4_images_1 : cX4_images.data.toList.drop 23 = dktX4_images_1 := dk_seg dksX4_images_0 23 rfl rfl
theorem dksX4_images_2 : cX4_images.data.toList.drop 47 = dktX4_images_2 := dk_seg dksX4_images_1 24 rfl rfl
theorem dX4_images_0 : decode cX4_images 0 = .ok (.iconst 0, 1) := dk_3 (dk_at dksX4_images_0 0 rfl rfl)
theorem dX4_images_1 : decode cX4_images 1 = .ok (.istore 4, 2) := dk_54 4 (dk_at dksX4_images_0 1 rfl rfl)
theorem dX4_images_3 : decode cX4_images 3 = .ok (.iconst 0, 1) := dk_3 (dk_at dksX4_images_0 3 rfl rfl)
theorem dX4_images_4 : decode cX4_images 4 = .ok (.istore 5, 2) := dk_54 5 (dk_at dksX4_images_0 4 rfl rfl)
theorem dX4_images_6 : decode cX4_images 6 = .ok (.iload 5, 2) := dk_21 5 (dk_at dksX4_images_0 6 rfl rfl)
theorem dX4_images_8 : decode cX4_images 8 = .ok (.iload_n 2, 1) := dk_28 (dk_at dksX4_images_0 8 rfl rfl)
theorem dX4_images_9 : decode cX4_images 9 = .ok (.if_icmp .ge 53, 3) := dk_162 0 53 (dk_at dksX4_images_0 9 rfl rfl)
theorem dX4_images_12 : decode cX4_images 12 = .ok (.iconst 0, 1) := dk_3 (dk_at dksX4_images_0 12 rfl rfl)
theorem dX4_images_13 : decode cX4_images 13 = .ok (.istore 6, 2) := dk_54 6 (dk_at dksX4_images_0 13 rfl rfl)
theorem dX4_images_15 : decode cX4_images 15 = .ok (.iload 6, 2) := dk_21 6 (dk_at dksX4_images_0 15 rfl rfl)
theorem dX4_images_17 : decode cX4_images 17 = .ok (.aload_n 0, 1) := dk_42 (dk_at dksX4_images_0 17 rfl rfl)
theorem dX4_images_18 : decode cX4_images 18 = .ok (.iload_n 3, 1) := dk_29 (dk_at dksX4_images_0 18 rfl rfl)
theorem dX4_images_19 : decode cX4_images 19 = .ok (.aload_n 1, 1) := dk_43 (dk_at dksX4_images_0 19 rfl rfl)
theorem dX4_images_20 : decode cX4_images 20 = .ok (.iload 5, 2) := dk_21 5 (dk_at dksX4_images_0 20 rfl rfl)
theorem dX4_images_22 : decode cX4_images 22 = .ok (.iaload, 1) := dk_46 (dk_at dksX4_images_0 22 rfl rfl)
theorem dX4_images_23 : decode cX4_images 23 = .ok (.invokevirtual 305, 3) := dk_182 1 49 (dk_at dksX4_images_1 0 rfl rfl)
theorem dX4_images_26 : decode cX4_images 26 = .ok (.if_icmp .ge 30, 3) := dk_162 0 30 (dk_at dksX4_images_1 3 rfl rfl)
theorem dX4_images_29 : decode cX4_images 29 = .ok (.aload_n 0, 1) := dk_42 (dk_at dksX4_images_1 6 rfl rfl)
theorem dX4_images_30 : decode cX4_images 30 = .ok (.getfield 101, 3) := dk_180 0 101 (dk_at dksX4_images_1 7 rfl rfl)
theorem dX4_images_33 : decode cX4_images 33 = .ok (.iload 4, 2) := dk_21 4 (dk_at dksX4_images_1 10 rfl rfl)
theorem dX4_images_35 : decode cX4_images 35 = .ok (.aload_n 0, 1) := dk_42 (dk_at dksX4_images_1 12 rfl rfl)
theorem dX4_images_36 : decode cX4_images 36 = .ok (.iload_n 3, 1) := dk_29 (dk_at dksX4_images_1 13 rfl rfl)
theorem dX4_images_37 : decode cX4_images 37 = .ok (.aload_n 1, 1) := dk_43 (dk_at dksX4_images_1 14 rfl rfl)
theorem dX4_images_38 : decode cX4_images 38 = .ok (.iload 5, 2) := dk_21 5 (dk_at dksX4_images_1 15 rfl rfl)
theorem dX4_images_40 : decode cX4_images 40 = .ok (.iaload, 1) := dk_46 (dk_at dksX4_images_1 17 rfl rfl)
theorem dX4_images_41 : decode cX4_images 41 = .ok (.iload 6, 2) := dk_21 6 (dk_at dksX4_images_1 18 rfl rfl)
theorem dX4_images_43 : decode cX4_images 43 = .ok (.invokevirtual 308, 3) := dk_182 1 52 (dk_at dksX4_images_1 20 rfl rfl)
theorem dX4_images_46 : decode cX4_images 46 = .ok (.iastore, 1) := dk_79 (dk_at dksX4_images_1 23 rfl rfl)
theorem dX4_images_47 : decode cX4_images 47 = .ok (.iinc 4 1, 3) := dk_132 4 1 (dk_at dksX4_images_2 0 rfl rfl)
theorem dX4_images_50 : decode cX4_images 50 = .ok (.iinc 6 1, 3) := dk_132 6 1 (dk_at dksX4_images_2 3 rfl rfl)
theorem dX4_images_53 : decode cX4_images 53 = .ok (.goto (-38), 3) := dk_167 255 218 (dk_at dksX4_images_2 6 rfl rfl)
theorem dX4_images_56 : decode cX4_images 56 = .ok (.iinc 5 1, 3) := dk_132 5 1 (dk_at dksX4_images_2 9 rfl rfl)
theorem dX4_images_59 : decode cX4_images 59 = .ok (.goto (-53), 3) := dk_167 255 203 (dk_at dksX4_images_2 12 rfl rfl)
theorem dX4_images_62 : decode cX4_images 62 = .ok (.iload 4, 2) := dk_21 4 (dk_at dksX4_images_2 15 rfl rfl)
theorem dX4_images_64 : decode cX4_images 64 = .ok (.ireturn, 1) := dk_172 (dk_at dksX4_images_2 17 rfl rfl)
abbrev cX4_longOf : ByteArray := prog_13_method_85_code
def yX4_longOf : MethodName := ⟨RX4, "longOf", "(II)I"⟩
def dkwX4_longOf_0 : List UInt8 := [42, 180, 0, 77, 16, 54, 7, 27, 104, 96, 28, 96, 46, 172]
abbrev dktX4_longOf_0 : List UInt8 := dkwX4_longOf_0 ++ []
theorem dksX4_longOf_0 : cX4_longOf.data.toList.drop 0 = dktX4_longOf_0 := by decide +kernel
theorem dX4_longOf_0 : decode cX4_longOf 0 = .ok (.aload_n 0, 1) := dk_42 (dk_at dksX4_longOf_0 0 rfl rfl)
theorem dX4_longOf_1 : decode cX4_longOf 1 = .ok (.getfield 77, 3) := dk_180 0 77 (dk_at dksX4_longOf_0 1 rfl rfl)
theorem dX4_longOf_4 : decode cX4_longOf 4 = .ok (.bipush 54, 2) := dk_16 54 (dk_at dksX4_longOf_0 4 rfl rfl)
theorem dX4_longOf_6 : decode cX4_longOf 6 = .ok (.iconst 4, 1) := dk_7 (dk_at dksX4_longOf_0 6 rfl rfl)
theorem dX4_longOf_7 : decode cX4_longOf 7 = .ok (.iload_n 1, 1) := dk_27 (dk_at dksX4_longOf_0 7 rfl rfl)
theorem dX4_longOf_8 : decode cX4_longOf 8 = .ok (.imul, 1) := dk_104 (dk_at dksX4_longOf_0 8 rfl rfl)
theorem dX4_longOf_9 : decode cX4_longOf 9 = .ok (.iadd, 1) := dk_96 (dk_at dksX4_longOf_0 9 rfl rfl)
theorem dX4_longOf_10 : decode cX4_longOf 10 = .ok (.iload_n 2, 1) := dk_28 (dk_at dksX4_longOf_0 10 rfl rfl)
theorem dX4_longOf_11 : decode cX4_longOf 11 = .ok (.iadd, 1) := dk_96 (dk_at dksX4_longOf_0 11 rfl rfl)
theorem dX4_longOf_12 : decode cX4_longOf 12 = .ok (.iaload, 1) := dk_46 (dk_at dksX4_longOf_0 12 rfl rfl)
theorem dX4_longOf_13 : decode cX4_longOf 13 = .ok (.ireturn, 1) := dk_172 (dk_at dksX4_longOf_0 13 rfl rfl)
abbrev cX4_imageOf : ByteArray := prog_13_method_86_code
def yX4_imageOf : MethodName := ⟨RX4, "imageOf", "(III)I"⟩
def dkwX4_imageOf_0 : List UInt8 := [42, 180, 0, 77, 16, 70, 16, 6, 7, 27, 104, 28, 96, 104, 96, 29, 96, 46, 172]
abbrev dktX4_imageOf_0 : List UInt8 := dkwX4_imageOf_0 ++ []
theorem dksX4_imageOf_0 : cX4_imageOf.data.toList.drop 0 = dktX4_imageOf_0 := by decide +kernel
theorem dX4_imageOf_0 : decode cX4_imageOf 0 = .ok (.aload_n 0, 1) := dk_42 (dk_at dksX4_imageOf_0 0 rfl rfl)
theorem dX4_imageOf_1 : decode cX4_imageOf 1 = .ok (.getfield 77, 3) := dk_180 0 77 (dk_at dksX4_imageOf_0 1 rfl rfl)
theorem dX4_imageOf_4 : decode cX4_imageOf 4 = .ok (.bipush 70, 2) := dk_16 70 (dk_at dksX4_imageOf_0 4 rfl rfl)
theorem dX4_imageOf_6 : decode cX4_imageOf 6 = .ok (.bipush 6, 2) := dk_16 6 (dk_at dksX4_imageOf_0 6 rfl rfl)
theorem dX4_imageOf_8 : decode cX4_imageOf 8 = .ok (.iconst 4, 1) := dk_7 (dk_at dksX4_imageOf_0 8 rfl rfl)
theorem dX4_imageOf_9 : decode cX4_imageOf 9 = .ok (.iload_n 1, 1) := dk_27 (dk_at dksX4_imageOf_0 9 rfl rfl)
theorem dX4_imageOf_10 : decode cX4_imageOf 10 = .ok (.imul, 1) := dk_104 (dk_at dksX4_imageOf_0 10 rfl rfl)
theorem dX4_imageOf_11 : decode cX4_imageOf 11 = .ok (.iload_n 2, 1) := dk_28 (dk_at dksX4_imageOf_0 11 rfl rfl)
theorem dX4_imageOf_12 : decode cX4_imageOf 12 = .ok (.iadd, 1) := dk_96 (dk_at dksX4_imageOf_0 12 rfl rfl)
theorem dX4_imageOf_13 : decode cX4_imageOf 13 = .ok (.imul, 1) := dk_104 (dk_at dksX4_imageOf_0 13 rfl rfl)
theorem dX4_imageOf_14 : decode cX4_imageOf 14 = .ok (.iadd, 1) := dk_96 (dk_at dksX4_imageOf_0 14 rfl rfl)
theorem dX4_imageOf_15 : decode cX4_imageOf 15 = .ok (.iload_n 3, 1) := dk_29 (dk_at dksX4_imageOf_0 15 rfl rfl)
theorem dX4_imageOf_16 : decode cX4_imageOf 16 = .ok (.iadd, 1) := dk_96 (dk_at dksX4_imageOf_0 16 rfl rfl)
theorem dX4_imageOf_17 : decode cX4_imageOf 17 = .ok (.iaload, 1) := dk_46 (dk_at dksX4_imageOf_0 17 rfl rfl)
theorem dX4_imageOf_18 : decode cX4_imageOf 18 = .ok (.ireturn, 1) := dk_172 (dk_at dksX4_imageOf_0 18 rfl rfl)
abbrev cX4_becomesFound : ByteArray := prog_13_method_73_code
def yX4_becomesFound : MethodName := ⟨RX4, "becomesFound", "(I)V"⟩
def dkwX4_becomesFound_1 : List UInt8 := [167, 255, 236, 42, 27, 182, 0, 193, 177]
abbrev dktX4_becomesFound_1 : List UInt8 := dkwX4_becomesFound_1 ++ []
def dkwX4_becomesFound_0 : List UInt8 := [3, 61, 28, 27, 162, 0, 21, 42, 180, 0, 86, 28, 42, 180, 0, 98, 28, 46, 79, 132, 2, 1]
abbrev dktX4_becomesFound_0 : List UInt8 := dkwX4_becomesFound_0 ++ dktX4_becomesFound_1
theorem dksX4_becomesFound_0 : cX4_becomesFound.data.toList.drop 0 = dktX4_becomesFound_0 := by decide +kernel
theorem dksX4_becomesFound_1 : cX4_becomesFound.data.toList.drop 22 = dktX4_becomesFound_1 := dk_seg dksX4_becomesFound_0 22 rfl rfl
theorem dX4_becomesFound_0 : decode cX4_becomesFound 0 = .ok (.iconst 0, 1) := dk_3 (dk_at dksX4_becomesFound_0 0 rfl rfl)
theorem dX4_becomesFound_1 : decode cX4_becomesFound 1 = .ok (.istore_n 2, 1) := dk_61 (dk_at dksX4_becomesFound_0 1 rfl rfl)
theorem dX4_becomesFound_2 : decode cX4_becomesFound 2 = .ok (.iload_n 2, 1) := dk_28 (dk_at dksX4_becomesFound_0 2 rfl rfl)
theorem dX4_becomesFound_3 : decode cX4_becomesFound 3 = .ok (.iload_n 1, 1) := dk_27 (dk_at dksX4_becomesFound_0 3 rfl rfl)
theorem dX4_becomesFound_4 : decode cX4_becomesFound 4 = .ok (.if_icmp .ge 21, 3) := dk_162 0 21 (dk_at dksX4_becomesFound_0 4 rfl rfl)
theorem dX4_becomesFound_7 : decode cX4_becomesFound 7 = .ok (.aload_n 0, 1) := dk_42 (dk_at dksX4_becomesFound_0 7 rfl rfl)
theorem dX4_becomesFound_8 : decode cX4_becomesFound 8 = .ok (.getfield 86, 3) := dk_180 0 86 (dk_at dksX4_becomesFound_0 8 rfl rfl)
theorem dX4_becomesFound_11 : decode cX4_becomesFound 11 = .ok (.iload_n 2, 1) := dk_28 (dk_at dksX4_becomesFound_0 11 rfl rfl)
theorem dX4_becomesFound_12 : decode cX4_becomesFound 12 = .ok (.aload_n 0, 1) := dk_42 (dk_at dksX4_becomesFound_0 12 rfl rfl)
theorem dX4_becomesFound_13 : decode cX4_becomesFound 13 = .ok (.getfield 98, 3) := dk_180 0 98 (dk_at dksX4_becomesFound_0 13 rfl rfl)
theorem dX4_becomesFound_16 : decode cX4_becomesFound 16 = .ok (.iload_n 2, 1) := dk_28 (dk_at dksX4_becomesFound_0 16 rfl rfl)
theorem dX4_becomesFound_17 : decode cX4_becomesFound 17 = .ok (.iaload, 1) := dk_46 (dk_at dksX4_becomesFound_0 17 rfl rfl)
theorem dX4_becomesFound_18 : decode cX4_becomesFound 18 = .ok (.iastore, 1) := dk_79 (dk_at dksX4_becomesFound_0 18 rfl rfl)
theorem dX4_becomesFound_19 : decode cX4_becomesFound 19 = .ok (.iinc 2 1, 3) := dk_132 2 1 (dk_at dksX4_becomesFound_0 19 rfl rfl)
theorem dX4_becomesFound_22 : decode cX4_becomesFound 22 = .ok (.goto (-20), 3) := dk_167 255 236 (dk_at dksX4_becomesFound_1 0 rfl rfl)
theorem dX4_becomesFound_25 : decode cX4_becomesFound 25 = .ok (.aload_n 0, 1) := dk_42 (dk_at dksX4_becomesFound_1 3 rfl rfl)
theorem dX4_becomesFound_26 : decode cX4_becomesFound 26 = .ok (.iload_n 1, 1) := dk_27 (dk_at dksX4_becomesFound_1 4 rfl rfl)
theorem dX4_becomesFound_27 : decode cX4_becomesFound 27 = .ok (.invokevirtual 193, 3) := dk_182 0 193 (dk_at dksX4_becomesFound_1 5 rfl rfl)
theorem dX4_becomesFound_30 : decode cX4_becomesFound 30 = .ok (.return_, 1) := dk_177 (dk_at dksX4_becomesFound_1 8 rfl rfl)
abbrev cX4_next : ByteArray := prog_13_method_75_code
def yX4_next : MethodName := ⟨RX4, "next", "()I"⟩
def dkwX4_next_8 : List UInt8 := [167, 255, 142, 132, 2, 255, 167, 255, 119, 2, 172]
abbrev dktX4_next_8 : List UInt8 := dkwX4_next_8 ++ []
def dkwX4_next_7 : List UInt8 := [42, 180, 1, 15, 154, 0, 6, 167, 0, 13, 42, 42, 180, 0, 184, 182, 1, 37, 28, 172, 132, 3, 1]
abbrev dktX4_next_7 : List UInt8 := dkwX4_next_7 ++ dktX4_next_8
def dkwX4_next_6 : List UInt8 := [3, 182, 1, 12, 153, 0, 7, 4, 167, 0, 4, 3, 54, 4, 42, 180, 1, 9, 153, 0, 6, 16, 254, 172]
abbrev dktX4_next_6 : List UInt8 := dkwX4_next_6 ++ dktX4_next_7
def dkwX4_next_5 : List UInt8 := [29, 79, 42, 42, 180, 0, 98, 28, 4, 96, 182, 0, 229, 153, 0, 18, 42, 28, 4, 96, 42, 180, 0, 184]
abbrev dktX4_next_5 : List UInt8 := dkwX4_next_5 ++ dktX4_next_6
def dkwX4_next_4 : List UInt8 := [17, 19, 136, 160, 0, 6, 16, 254, 172, 42, 89, 180, 1, 6, 4, 96, 181, 1, 6, 42, 180, 0, 98, 28]
abbrev dktX4_next_4 : List UInt8 := dkwX4_next_4 ++ dktX4_next_5
def dkwX4_next_3 : List UInt8 := [46, 4, 96, 62, 29, 42, 180, 0, 77, 3, 46, 162, 0, 110, 28, 27, 163, 0, 105, 42, 180, 1, 6]
abbrev dktX4_next_3 : List UInt8 := dkwX4_next_3 ++ dktX4_next_4
def dkwX4_next_2 : List UInt8 := [182, 0, 232, 60, 42, 180, 0, 184, 4, 100, 61, 28, 155, 0, 139, 42, 182, 1, 40, 42, 180, 0, 83, 28]
abbrev dktX4_next_2 : List UInt8 := dkwX4_next_2 ++ dktX4_next_3
def dkwX4_next_1 : List UInt8 := [153, 0, 5, 3, 172, 42, 182, 1, 34, 42, 182, 1, 40, 42, 42, 180, 0, 83, 42, 180, 0, 184]
abbrev dktX4_next_1 : List UInt8 := dkwX4_next_1 ++ dktX4_next_2
def dkwX4_next_0 : List UInt8 := [42, 3, 181, 0, 3, 42, 42, 180, 0, 184, 16, 40, 164, 0, 7, 4, 167, 0, 4, 3, 4, 182, 0, 180]
abbrev dktX4_next_0 : List UInt8 := dkwX4_next_0 ++ dktX4_next_1
theorem dksX4_next_0 : cX4_next.data.toList.drop 0 = dktX4_next_0 := by decide +kernel
theorem dksX4_next_1 : cX4_next.data.toList.drop 24 = dktX4_next_1 := dk_seg dksX4_next_0 24 rfl rfl
theorem dksX4_next_2 : cX4_next.data.toList.drop 46 = dktX4_next_2 := dk_seg dksX4_next_1 22 rfl rfl
theorem dksX4_next_3 : cX4_next.data.toList.drop 70 = dktX4_next_3 := dk_seg dksX4_next_2 24 rfl rfl
theorem dksX4_next_4 : cX4_next.data.toList.drop 93 = dktX4_next_4 := dk_seg dksX4_next_3 23 rfl rfl
theorem dksX4_next_5 : cX4_next.data.toList.drop 117 = dktX4_next_5 := dk_seg dksX4_next_4 24 rfl rfl
theorem dksX4_next_6 : cX4_next.data.toList.drop 141 = dktX4_next_6 := dk_seg dksX4_next_5 24 rfl rfl
theorem dksX4_next_7 : cX4_next.data.toList.drop 165 = dktX4_next_7 := dk_seg dksX4_next_6 24 rfl rfl
theorem dksX4_next_8 : cX4_next.data.toList.drop 188 = dktX4_next_8 := dk_seg dksX4_next_7 23 rfl rfl
theorem dX4_next_0 : decode cX4_next 0 = .ok (.aload_n 0, 1) := dk_42 (dk_at dksX4_next_0 0 rfl rfl)
theorem dX4_next_1 : decode cX4_next 1 = .ok (.iconst 0, 1) := dk_3 (dk_at dksX4_next_0 1 rfl rfl)
theorem dX4_next_2 : decode cX4_next 2 = .ok (.putfield 3, 3) := dk_181 0 3 (dk_at dksX4_next_0 2 rfl rfl)
theorem dX4_next_5 : decode cX4_next 5 = .ok (.aload_n 0, 1) := dk_42 (dk_at dksX4_next_0 5 rfl rfl)
theorem dX4_next_6 : decode cX4_next 6 = .ok (.aload_n 0, 1) := dk_42 (dk_at dksX4_next_0 6 rfl rfl)
theorem dX4_next_7 : decode cX4_next 7 = .ok (.getfield 184, 3) := dk_180 0 184 (dk_at dksX4_next_0 7 rfl rfl)
theorem dX4_next_10 : decode cX4_next 10 = .ok (.bipush 40, 2) := dk_16 40 (dk_at dksX4_next_0 10 rfl rfl)
theorem dX4_next_12 : decode cX4_next 12 = .ok (.if_icmp .le 7, 3) := dk_164 0 7 (dk_at dksX4_next_0 12 rfl rfl)
theorem dX4_next_15 : decode cX4_next 15 = .ok (.iconst 1, 1) := dk_4 (dk_at dksX4_next_0 15 rfl rfl)
theorem dX4_next_16 : decode cX4_next 16 = .ok (.goto 4, 3) := dk_167 0 4 (dk_at dksX4_next_0 16 rfl rfl)
theorem dX4_next_19 : decode cX4_next 19 = .ok (.iconst 0, 1) := dk_3 (dk_at dksX4_next_0 19 rfl rfl)
theorem dX4_next_20 : decode cX4_next 20 = .ok (.iconst 1, 1) := dk_4 (dk_at dksX4_next_0 20 rfl rfl)
theorem dX4_next_21 : decode cX4_next 21 = .ok (.invokevirtual 180, 3) := dk_182 0 180 (dk_at dksX4_next_0 21 rfl rfl)
theorem dX4_next_24 : decode cX4_next 24 = .ok (.ifCond .eq 5, 3) := dk_153 0 5 (dk_at dksX4_next_1 0 rfl rfl)
theorem dX4_next_27 : decode cX4_next 27 = .ok (.iconst 0, 1) := dk_3 (dk_at dksX4_next_1 3 rfl rfl)
theorem dX4_next_28 : decode cX4_next 28 = .ok (.ireturn, 1) := dk_172 (dk_at dksX4_next_1 4 rfl rfl)
theorem dX4_next_29 : decode cX4_next 29 = .ok (.aload_n 0, 1) := dk_42 (dk_at dksX4_next_1 5 rfl rfl)
theorem dX4_next_30 : decode cX4_next 30 = .ok (.invokevirtual 290, 3) := dk_182 1 34 (dk_at dksX4_next_1 6 rfl rfl)
theorem dX4_next_33 : decode cX4_next 33 = .ok (.aload_n 0, 1) := dk_42 (dk_at dksX4_next_1 9 rfl rfl)
theorem dX4_next_34 : decode cX4_next 34 = .ok (.invokevirtual 296, 3) := dk_182 1 40 (dk_at dksX4_next_1 10 rfl rfl)
theorem dX4_next_37 : decode cX4_next 37 = .ok (.aload_n 0, 1) := dk_42 (dk_at dksX4_next_1 13 rfl rfl)
theorem dX4_next_38 : decode cX4_next 38 = .ok (.aload_n 0, 1) := dk_42 (dk_at dksX4_next_1 14 rfl rfl)
theorem dX4_next_39 : decode cX4_next 39 = .ok (.getfield 83, 3) := dk_180 0 83 (dk_at dksX4_next_1 15 rfl rfl)
theorem dX4_next_42 : decode cX4_next 42 = .ok (.aload_n 0, 1) := dk_42 (dk_at dksX4_next_1 18 rfl rfl)
theorem dX4_next_43 : decode cX4_next 43 = .ok (.getfield 184, 3) := dk_180 0 184 (dk_at dksX4_next_1 19 rfl rfl)
theorem dX4_next_46 : decode cX4_next 46 = .ok (.invokevirtual 232, 3) := dk_182 0 232 (dk_at dksX4_next_2 0 rfl rfl)
theorem dX4_next_49 : decode cX4_next 49 = .ok (.istore_n 1, 1) := dk_60 (dk_at dksX4_next_2 3 rfl rfl)
theorem dX4_next_50 : decode cX4_next 50 = .ok (.aload_n 0, 1) := dk_42 (dk_at dksX4_next_2 4 rfl rfl)
theorem dX4_next_51 : decode cX4_next 51 = .ok (.getfield 184, 3) := dk_180 0 184 (dk_at dksX4_next_2 5 rfl rfl)
theorem dX4_next_54 : decode cX4_next 54 = .ok (.iconst 1, 1) := dk_4 (dk_at dksX4_next_2 8 rfl rfl)
theorem dX4_next_55 : decode cX4_next 55 = .ok (.isub, 1) := dk_100 (dk_at dksX4_next_2 9 rfl rfl)
theorem dX4_next_56 : decode cX4_next 56 = .ok (.istore_n 2, 1) := dk_61 (dk_at dksX4_next_2 10 rfl rfl)
theorem dX4_next_57 : decode cX4_next 57 = .ok (.iload_n 2, 1) := dk_28 (dk_at dksX4_next_2 11 rfl rfl)
theorem dX4_next_58 : decode cX4_next 58 = .ok (.ifCond .lt 139, 3) := dk_155 0 139 (dk_at dksX4_next_2 12 rfl rfl)
theorem dX4_next_61 : decode cX4_next 61 = .ok (.aload_n 0, 1) := dk_42 (dk_at dksX4_next_2 15 rfl rfl)
theorem dX4_next_62 : decode cX4_next 62 = .ok (.invokevirtual 296, 3) := dk_182 1 40 (dk_at dksX4_next_2 16 rfl rfl)
theorem dX4_next_65 : decode cX4_next 65 = .ok (.aload_n 0, 1) := dk_42 (dk_at dksX4_next_2 19 rfl rfl)
theorem dX4_next_66 : decode cX4_next 66 = .ok (.getfield 83, 3) := dk_180 0 83 (dk_at dksX4_next_2 20 rfl rfl)
theorem dX4_next_69 : decode cX4_next 69 = .ok (.iload_n 2, 1) := dk_28 (dk_at dksX4_next_2 23 rfl rfl)
theorem dX4_next_70 : decode cX4_next 70 = .ok (.iaload, 1) := dk_46 (dk_at dksX4_next_3 0 rfl rfl)
theorem dX4_next_71 : decode cX4_next 71 = .ok (.iconst 1, 1) := dk_4 (dk_at dksX4_next_3 1 rfl rfl)
theorem dX4_next_72 : decode cX4_next 72 = .ok (.iadd, 1) := dk_96 (dk_at dksX4_next_3 2 rfl rfl)
theorem dX4_next_73 : decode cX4_next 73 = .ok (.istore_n 3, 1) := dk_62 (dk_at dksX4_next_3 3 rfl rfl)
theorem dX4_next_74 : decode cX4_next 74 = .ok (.iload_n 3, 1) := dk_29 (dk_at dksX4_next_3 4 rfl rfl)
theorem dX4_next_75 : decode cX4_next 75 = .ok (.aload_n 0, 1) := dk_42 (dk_at dksX4_next_3 5 rfl rfl)
theorem dX4_next_76 : decode cX4_next 76 = .ok (.getfield 77, 3) := dk_180 0 77 (dk_at dksX4_next_3 6 rfl rfl)
theorem dX4_next_79 : decode cX4_next 79 = .ok (.iconst 0, 1) := dk_3 (dk_at dksX4_next_3 9 rfl rfl)
theorem dX4_next_80 : decode cX4_next 80 = .ok (.iaload, 1) := dk_46 (dk_at dksX4_next_3 10 rfl rfl)
theorem dX4_next_81 : decode cX4_next 81 = .ok (.if_icmp .ge 110, 3) := dk_162 0 110 (dk_at dksX4_next_3 11 rfl rfl)
theorem dX4_next_84 : decode cX4_next 84 = .ok (.iload_n 2, 1) := dk_28 (dk_at dksX4_next_3 14 rfl rfl)
theorem dX4_next_85 : decode cX4_next 85 = .ok (.iload_n 1, 1) := dk_27 (dk_at dksX4_next_3 15 rfl rfl)
theorem dX4_next_86 : decode cX4_next 86 = .ok (.if_icmp .gt 105, 3) := dk_163 0 105 (dk_at dksX4_next_3 16 rfl rfl)
theorem dX4_next_89 : decode cX4_next 89 = .ok (.aload_n 0, 1) := dk_42 (dk_at dksX4_next_3 19 rfl rfl)
theorem dX4_next_90 : decode cX4_next 90 = .ok (.getfield 262, 3) := dk_180 1 6 (dk_at dksX4_next_3 20 rfl rfl)
theorem dX4_next_93 : decode cX4_next 93 = .ok (.sipush 5000, 3) := dk_17 19 136 (dk_at dksX4_next_4 0 rfl rfl)
theorem dX4_next_96 : decode cX4_next 96 = .ok (.if_icmp .ne 6, 3) := dk_160 0 6 (dk_at dksX4_next_4 3 rfl rfl)
theorem dX4_next_99 : decode cX4_next 99 = .ok (.bipush (-2), 2) := dk_16 254 (dk_at dksX4_next_4 6 rfl rfl)
theorem dX4_next_101 : decode cX4_next 101 = .ok (.ireturn, 1) := dk_172 (dk_at dksX4_next_4 8 rfl rfl)
theorem dX4_next_102 : decode cX4_next 102 = .ok (.aload_n 0, 1) := dk_42 (dk_at dksX4_next_4 9 rfl rfl)
theorem dX4_next_103 : decode cX4_next 103 = .ok (.dup, 1) := dk_89 (dk_at dksX4_next_4 10 rfl rfl)
theorem dX4_next_104 : decode cX4_next 104 = .ok (.getfield 262, 3) := dk_180 1 6 (dk_at dksX4_next_4 11 rfl rfl)
theorem dX4_next_107 : decode cX4_next 107 = .ok (.iconst 1, 1) := dk_4 (dk_at dksX4_next_4 14 rfl rfl)
theorem dX4_next_108 : decode cX4_next 108 = .ok (.iadd, 1) := dk_96 (dk_at dksX4_next_4 15 rfl rfl)
theorem dX4_next_109 : decode cX4_next 109 = .ok (.putfield 262, 3) := dk_181 1 6 (dk_at dksX4_next_4 16 rfl rfl)
theorem dX4_next_112 : decode cX4_next 112 = .ok (.aload_n 0, 1) := dk_42 (dk_at dksX4_next_4 19 rfl rfl)
theorem dX4_next_113 : decode cX4_next 113 = .ok (.getfield 98, 3) := dk_180 0 98 (dk_at dksX4_next_4 20 rfl rfl)
theorem dX4_next_116 : decode cX4_next 116 = .ok (.iload_n 2, 1) := dk_28 (dk_at dksX4_next_4 23 rfl rfl)
theorem dX4_next_117 : decode cX4_next 117 = .ok (.iload_n 3, 1) := dk_29 (dk_at dksX4_next_5 0 rfl rfl)
theorem dX4_next_118 : decode cX4_next 118 = .ok (.iastore, 1) := dk_79 (dk_at dksX4_next_5 1 rfl rfl)
theorem dX4_next_119 : decode cX4_next 119 = .ok (.aload_n 0, 1) := dk_42 (dk_at dksX4_next_5 2 rfl rfl)
theorem dX4_next_120 : decode cX4_next 120 = .ok (.aload_n 0, 1) := dk_42 (dk_at dksX4_next_5 3 rfl rfl)
theorem dX4_next_121 : decode cX4_next 121 = .ok (.getfield 98, 3) := dk_180 0 98 (dk_at dksX4_next_5 4 rfl rfl)
theorem dX4_next_124 : decode cX4_next 124 = .ok (.iload_n 2, 1) := dk_28 (dk_at dksX4_next_5 7 rfl rfl)
theorem dX4_next_125 : decode cX4_next 125 = .ok (.iconst 1, 1) := dk_4 (dk_at dksX4_next_5 8 rfl rfl)
theorem dX4_next_126 : decode cX4_next 126 = .ok (.iadd, 1) := dk_96 (dk_at dksX4_next_5 9 rfl rfl)
theorem dX4_next_127 : decode cX4_next 127 = .ok (.invokevirtual 229, 3) := dk_182 0 229 (dk_at dksX4_next_5 10 rfl rfl)
theorem dX4_next_130 : decode cX4_next 130 = .ok (.ifCond .eq 18, 3) := dk_153 0 18 (dk_at dksX4_next_5 13 rfl rfl)
theorem dX4_next_133 : decode cX4_next 133 = .ok (.aload_n 0, 1) := dk_42 (dk_at dksX4_next_5 16 rfl rfl)
theorem dX4_next_134 : decode cX4_next 134 = .ok (.iload_n 2, 1) := dk_28 (dk_at dksX4_next_5 17 rfl rfl)
theorem dX4_next_135 : decode cX4_next 135 = .ok (.iconst 1, 1) := dk_4 (dk_at dksX4_next_5 18 rfl rfl)
theorem dX4_next_136 : decode cX4_next 136 = .ok (.iadd, 1) := dk_96 (dk_at dksX4_next_5 19 rfl rfl)
theorem dX4_next_137 : decode cX4_next 137 = .ok (.aload_n 0, 1) := dk_42 (dk_at dksX4_next_5 20 rfl rfl)
theorem dX4_next_138 : decode cX4_next 138 = .ok (.getfield 184, 3) := dk_180 0 184 (dk_at dksX4_next_5 21 rfl rfl)
theorem dX4_next_141 : decode cX4_next 141 = .ok (.iconst 0, 1) := dk_3 (dk_at dksX4_next_6 0 rfl rfl)
theorem dX4_next_142 : decode cX4_next 142 = .ok (.invokevirtual 268, 3) := dk_182 1 12 (dk_at dksX4_next_6 1 rfl rfl)
theorem dX4_next_145 : decode cX4_next 145 = .ok (.ifCond .eq 7, 3) := dk_153 0 7 (dk_at dksX4_next_6 4 rfl rfl)
theorem dX4_next_148 : decode cX4_next 148 = .ok (.iconst 1, 1) := dk_4 (dk_at dksX4_next_6 7 rfl rfl)
theorem dX4_next_149 : decode cX4_next 149 = .ok (.goto 4, 3) := dk_167 0 4 (dk_at dksX4_next_6 8 rfl rfl)
theorem dX4_next_152 : decode cX4_next 152 = .ok (.iconst 0, 1) := dk_3 (dk_at dksX4_next_6 11 rfl rfl)
theorem dX4_next_153 : decode cX4_next 153 = .ok (.istore 4, 2) := dk_54 4 (dk_at dksX4_next_6 12 rfl rfl)
theorem dX4_next_155 : decode cX4_next 155 = .ok (.aload_n 0, 1) := dk_42 (dk_at dksX4_next_6 14 rfl rfl)
theorem dX4_next_156 : decode cX4_next 156 = .ok (.getfield 265, 3) := dk_180 1 9 (dk_at dksX4_next_6 15 rfl rfl)
theorem dX4_next_159 : decode cX4_next 159 = .ok (.ifCond .eq 6, 3) := dk_153 0 6 (dk_at dksX4_next_6 18 rfl rfl)
theorem dX4_next_162 : decode cX4_next 162 = .ok (.bipush (-2), 2) := dk_16 254 (dk_at dksX4_next_6 21 rfl rfl)
theorem dX4_next_164 : decode cX4_next 164 = .ok (.ireturn, 1) := dk_172 (dk_at dksX4_next_6 23 rfl rfl)
theorem dX4_next_165 : decode cX4_next 165 = .ok (.aload_n 0, 1) := dk_42 (dk_at dksX4_next_7 0 rfl rfl)
theorem dX4_next_166 : decode cX4_next 166 = .ok (.getfield 271, 3) := dk_180 1 15 (dk_at dksX4_next_7 1 rfl rfl)
theorem dX4_next_169 : decode cX4_next 169 = .ok (.ifCond .ne 6, 3) := dk_154 0 6 (dk_at dksX4_next_7 4 rfl rfl)
theorem dX4_next_172 : decode cX4_next 172 = .ok (.goto 13, 3) := dk_167 0 13 (dk_at dksX4_next_7 7 rfl rfl)
theorem dX4_next_175 : decode cX4_next 175 = .ok (.aload_n 0, 1) := dk_42 (dk_at dksX4_next_7 10 rfl rfl)
theorem dX4_next_176 : decode cX4_next 176 = .ok (.aload_n 0, 1) := dk_42 (dk_at dksX4_next_7 11 rfl rfl)
theorem dX4_next_177 : decode cX4_next 177 = .ok (.getfield 184, 3) := dk_180 0 184 (dk_at dksX4_next_7 12 rfl rfl)
theorem dX4_next_180 : decode cX4_next 180 = .ok (.invokevirtual 293, 3) := dk_182 1 37 (dk_at dksX4_next_7 15 rfl rfl)
theorem dX4_next_183 : decode cX4_next 183 = .ok (.iload_n 2, 1) := dk_28 (dk_at dksX4_next_7 18 rfl rfl)
theorem dX4_next_184 : decode cX4_next 184 = .ok (.ireturn, 1) := dk_172 (dk_at dksX4_next_7 19 rfl rfl)
theorem dX4_next_185 : decode cX4_next 185 = .ok (.iinc 3 1, 3) := dk_132 3 1 (dk_at dksX4_next_7 20 rfl rfl)
theorem dX4_next_188 : decode cX4_next 188 = .ok (.goto (-114), 3) := dk_167 255 142 (dk_at dksX4_next_8 0 rfl rfl)
theorem dX4_next_191 : decode cX4_next 191 = .ok (.iinc 2 (-1), 3) := dk_132 2 255 (dk_at dksX4_next_8 3 rfl rfl)
theorem dX4_next_194 : decode cX4_next 194 = .ok (.goto (-137), 3) := dk_167 255 119 (dk_at dksX4_next_8 6 rfl rfl)
theorem dX4_next_197 : decode cX4_next 197 = .ok (.iconst (-1), 1) := dk_2 (dk_at dksX4_next_8 9 rfl rfl)
theorem dX4_next_198 : decode cX4_next 198 = .ok (.ireturn, 1) := dk_172 (dk_at dksX4_next_8 10 rfl rfl)
abbrev cX4_takes : ByteArray := prog_13_method_72_code
def yX4_takes : MethodName := ⟨RX4, "takes", "()V"⟩
def dkwX4_takes_1 : List UInt8 := [132, 1, 1, 167, 255, 233, 177]
abbrev dktX4_takes_1 : List UInt8 := dkwX4_takes_1 ++ []
def dkwX4_takes_0 : List UInt8 := [3, 60, 27, 42, 180, 0, 184, 162, 0, 21, 42, 180, 0, 98, 27, 42, 180, 0, 83, 27, 46, 79]
abbrev dktX4_takes_0 : List UInt8 := dkwX4_takes_0 ++ dktX4_takes_1
theorem dksX4_takes_0 : cX4_takes.data.toList.drop 0 = dktX4_takes_0 := by decide +kernel
theorem dksX4_takes_1 : cX4_takes.data.toList.drop 22 = dktX4_takes_1 := dk_seg dksX4_takes_0 22 rfl rfl
theorem dX4_takes_0 : decode cX4_takes 0 = .ok (.iconst 0, 1) := dk_3 (dk_at dksX4_takes_0 0 rfl rfl)
theorem dX4_takes_1 : decode cX4_takes 1 = .ok (.istore_n 1, 1) := dk_60 (dk_at dksX4_takes_0 1 rfl rfl)
theorem dX4_takes_2 : decode cX4_takes 2 = .ok (.iload_n 1, 1) := dk_27 (dk_at dksX4_takes_0 2 rfl rfl)
theorem dX4_takes_3 : decode cX4_takes 3 = .ok (.aload_n 0, 1) := dk_42 (dk_at dksX4_takes_0 3 rfl rfl)
theorem dX4_takes_4 : decode cX4_takes 4 = .ok (.getfield 184, 3) := dk_180 0 184 (dk_at dksX4_takes_0 4 rfl rfl)
theorem dX4_takes_7 : decode cX4_takes 7 = .ok (.if_icmp .ge 21, 3) := dk_162 0 21 (dk_at dksX4_takes_0 7 rfl rfl)
theorem dX4_takes_10 : decode cX4_takes 10 = .ok (.aload_n 0, 1) := dk_42 (dk_at dksX4_takes_0 10 rfl rfl)
theorem dX4_takes_11 : decode cX4_takes 11 = .ok (.getfield 98, 3) := dk_180 0 98 (dk_at dksX4_takes_0 11 rfl rfl)
theorem dX4_takes_14 : decode cX4_takes 14 = .ok (.iload_n 1, 1) := dk_27 (dk_at dksX4_takes_0 14 rfl rfl)
theorem dX4_takes_15 : decode cX4_takes 15 = .ok (.aload_n 0, 1) := dk_42 (dk_at dksX4_takes_0 15 rfl rfl)
theorem dX4_takes_16 : decode cX4_takes 16 = .ok (.getfield 83, 3) := dk_180 0 83 (dk_at dksX4_takes_0 16 rfl rfl)
theorem dX4_takes_19 : decode cX4_takes 19 = .ok (.iload_n 1, 1) := dk_27 (dk_at dksX4_takes_0 19 rfl rfl)
theorem dX4_takes_20 : decode cX4_takes 20 = .ok (.iaload, 1) := dk_46 (dk_at dksX4_takes_0 20 rfl rfl)
theorem dX4_takes_21 : decode cX4_takes 21 = .ok (.iastore, 1) := dk_79 (dk_at dksX4_takes_0 21 rfl rfl)
theorem dX4_takes_22 : decode cX4_takes 22 = .ok (.iinc 1 1, 3) := dk_132 1 1 (dk_at dksX4_takes_1 0 rfl rfl)
theorem dX4_takes_25 : decode cX4_takes 25 = .ok (.goto (-23), 3) := dk_167 255 233 (dk_at dksX4_takes_1 3 rfl rfl)
theorem dX4_takes_28 : decode cX4_takes 28 = .ok (.return_, 1) := dk_177 (dk_at dksX4_takes_1 6 rfl rfl)
abbrev cX4_many : ByteArray := prog_13_method_77_code
def yX4_many : MethodName := ⟨RX4, "many", "(I)I"⟩
def dkwX4_many_1 : List UInt8 := [182, 0, 180, 153, 0, 5, 3, 172, 42, 27, 4, 182, 1, 43, 172]
abbrev dktX4_many_1 : List UInt8 := dkwX4_many_1 ++ []
def dkwX4_many_0 : List UInt8 := [42, 3, 181, 0, 3, 42, 27, 3, 16, 40, 184, 0, 65, 154, 0, 7, 4, 167, 0, 4, 3, 4]
abbrev dktX4_many_0 : List UInt8 := dkwX4_many_0 ++ dktX4_many_1
theorem dksX4_many_0 : cX4_many.data.toList.drop 0 = dktX4_many_0 := by decide +kernel
theorem dksX4_many_1 : cX4_many.data.toList.drop 22 = dktX4_many_1 := dk_seg dksX4_many_0 22 rfl rfl
theorem dX4_many_0 : decode cX4_many 0 = .ok (.aload_n 0, 1) := dk_42 (dk_at dksX4_many_0 0 rfl rfl)
theorem dX4_many_1 : decode cX4_many 1 = .ok (.iconst 0, 1) := dk_3 (dk_at dksX4_many_0 1 rfl rfl)
theorem dX4_many_2 : decode cX4_many 2 = .ok (.putfield 3, 3) := dk_181 0 3 (dk_at dksX4_many_0 2 rfl rfl)
theorem dX4_many_5 : decode cX4_many 5 = .ok (.aload_n 0, 1) := dk_42 (dk_at dksX4_many_0 5 rfl rfl)
theorem dX4_many_6 : decode cX4_many 6 = .ok (.iload_n 1, 1) := dk_27 (dk_at dksX4_many_0 6 rfl rfl)
theorem dX4_many_7 : decode cX4_many 7 = .ok (.iconst 0, 1) := dk_3 (dk_at dksX4_many_0 7 rfl rfl)
theorem dX4_many_8 : decode cX4_many 8 = .ok (.bipush 40, 2) := dk_16 40 (dk_at dksX4_many_0 8 rfl rfl)
theorem dX4_many_10 : decode cX4_many 10 = .ok (.invokestatic 65, 3) := dk_184 0 65 (dk_at dksX4_many_0 10 rfl rfl)
theorem dX4_many_13 : decode cX4_many 13 = .ok (.ifCond .ne 7, 3) := dk_154 0 7 (dk_at dksX4_many_0 13 rfl rfl)
theorem dX4_many_16 : decode cX4_many 16 = .ok (.iconst 1, 1) := dk_4 (dk_at dksX4_many_0 16 rfl rfl)
theorem dX4_many_17 : decode cX4_many 17 = .ok (.goto 4, 3) := dk_167 0 4 (dk_at dksX4_many_0 17 rfl rfl)
theorem dX4_many_20 : decode cX4_many 20 = .ok (.iconst 0, 1) := dk_3 (dk_at dksX4_many_0 20 rfl rfl)
theorem dX4_many_21 : decode cX4_many 21 = .ok (.iconst 1, 1) := dk_4 (dk_at dksX4_many_0 21 rfl rfl)
theorem dX4_many_22 : decode cX4_many 22 = .ok (.invokevirtual 180, 3) := dk_182 0 180 (dk_at dksX4_many_1 0 rfl rfl)
theorem dX4_many_25 : decode cX4_many 25 = .ok (.ifCond .eq 5, 3) := dk_153 0 5 (dk_at dksX4_many_1 3 rfl rfl)
theorem dX4_many_28 : decode cX4_many 28 = .ok (.iconst 0, 1) := dk_3 (dk_at dksX4_many_1 6 rfl rfl)
theorem dX4_many_29 : decode cX4_many 29 = .ok (.ireturn, 1) := dk_172 (dk_at dksX4_many_1 7 rfl rfl)
theorem dX4_many_30 : decode cX4_many 30 = .ok (.aload_n 0, 1) := dk_42 (dk_at dksX4_many_1 8 rfl rfl)
theorem dX4_many_31 : decode cX4_many 31 = .ok (.iload_n 1, 1) := dk_27 (dk_at dksX4_many_1 9 rfl rfl)
theorem dX4_many_32 : decode cX4_many 32 = .ok (.iconst 1, 1) := dk_4 (dk_at dksX4_many_1 10 rfl rfl)
theorem dX4_many_33 : decode cX4_many 33 = .ok (.invokevirtual 299, 3) := dk_182 1 43 (dk_at dksX4_many_1 11 rfl rfl)
theorem dX4_many_36 : decode cX4_many 36 = .ok (.ireturn, 1) := dk_172 (dk_at dksX4_many_1 14 rfl rfl)
abbrev cX4_countBy : ByteArray := prog_13_method_76_code
def yX4_countBy : MethodName := ⟨RX4, "countBy", "(II)I"⟩
def dkwX4_countBy_1 : List UInt8 := [42, 180, 1, 18, 172]
abbrev dktX4_countBy_1 : List UInt8 := dkwX4_countBy_1 ++ []
def dkwX4_countBy_0 : List UInt8 := [42, 182, 1, 34, 42, 3, 27, 28, 182, 1, 12, 62, 42, 180, 1, 9, 153, 0, 8, 16, 254, 167, 0, 7]
abbrev dktX4_countBy_0 : List UInt8 := dkwX4_countBy_0 ++ dktX4_countBy_1
theorem dksX4_countBy_0 : cX4_countBy.data.toList.drop 0 = dktX4_countBy_0 := by decide +kernel
theorem dksX4_countBy_1 : cX4_countBy.data.toList.drop 24 = dktX4_countBy_1 := dk_seg dksX4_countBy_0 24 rfl rfl
theorem dX4_countBy_0 : decode cX4_countBy 0 = .ok (.aload_n 0, 1) := dk_42 (dk_at dksX4_countBy_0 0 rfl rfl)
theorem dX4_countBy_1 : decode cX4_countBy 1 = .ok (.invokevirtual 290, 3) := dk_182 1 34 (dk_at dksX4_countBy_0 1 rfl rfl)
theorem dX4_countBy_4 : decode cX4_countBy 4 = .ok (.aload_n 0, 1) := dk_42 (dk_at dksX4_countBy_0 4 rfl rfl)
theorem dX4_countBy_5 : decode cX4_countBy 5 = .ok (.iconst 0, 1) := dk_3 (dk_at dksX4_countBy_0 5 rfl rfl)
theorem dX4_countBy_6 : decode cX4_countBy 6 = .ok (.iload_n 1, 1) := dk_27 (dk_at dksX4_countBy_0 6 rfl rfl)
theorem dX4_countBy_7 : decode cX4_countBy 7 = .ok (.iload_n 2, 1) := dk_28 (dk_at dksX4_countBy_0 7 rfl rfl)
theorem dX4_countBy_8 : decode cX4_countBy 8 = .ok (.invokevirtual 268, 3) := dk_182 1 12 (dk_at dksX4_countBy_0 8 rfl rfl)
theorem dX4_countBy_11 : decode cX4_countBy 11 = .ok (.istore_n 3, 1) := dk_62 (dk_at dksX4_countBy_0 11 rfl rfl)
theorem dX4_countBy_12 : decode cX4_countBy 12 = .ok (.aload_n 0, 1) := dk_42 (dk_at dksX4_countBy_0 12 rfl rfl)
theorem dX4_countBy_13 : decode cX4_countBy 13 = .ok (.getfield 265, 3) := dk_180 1 9 (dk_at dksX4_countBy_0 13 rfl rfl)
theorem dX4_countBy_16 : decode cX4_countBy 16 = .ok (.ifCond .eq 8, 3) := dk_153 0 8 (dk_at dksX4_countBy_0 16 rfl rfl)
theorem dX4_countBy_19 : decode cX4_countBy 19 = .ok (.bipush (-2), 2) := dk_16 254 (dk_at dksX4_countBy_0 19 rfl rfl)
theorem dX4_countBy_21 : decode cX4_countBy 21 = .ok (.goto 7, 3) := dk_167 0 7 (dk_at dksX4_countBy_0 21 rfl rfl)
theorem dX4_countBy_24 : decode cX4_countBy 24 = .ok (.aload_n 0, 1) := dk_42 (dk_at dksX4_countBy_1 0 rfl rfl)
theorem dX4_countBy_25 : decode cX4_countBy 25 = .ok (.getfield 274, 3) := dk_180 1 18 (dk_at dksX4_countBy_1 1 rfl rfl)
theorem dX4_countBy_28 : decode cX4_countBy 28 = .ok (.ireturn, 1) := dk_172 (dk_at dksX4_countBy_1 4 rfl rfl)
abbrev cX4_growth : ByteArray := prog_13_method_78_code
def yX4_growth : MethodName := ⟨RX4, "growth", "(I)I"⟩
def dkwX4_growth_3 : List UInt8 := [62, 29, 16, 254, 160, 0, 8, 16, 254, 167, 0, 10, 17, 3, 232, 29, 104, 28, 108, 172]
abbrev dktX4_growth_3 : List UInt8 := dkwX4_growth_3 ++ []
def dkwX4_growth_2 : List UInt8 := [154, 0, 16, 28, 16, 254, 160, 0, 8, 16, 254, 167, 0, 4, 2, 172, 42, 27, 4, 96, 4, 182, 1, 43]
abbrev dktX4_growth_2 : List UInt8 := dkwX4_growth_2 ++ dktX4_growth_3
def dkwX4_growth_1 : List UInt8 := [182, 0, 180, 153, 0, 5, 3, 172, 42, 27, 4, 182, 1, 43, 61, 28, 16, 254, 159, 0, 7, 28]
abbrev dktX4_growth_1 : List UInt8 := dkwX4_growth_1 ++ dktX4_growth_2
def dkwX4_growth_0 : List UInt8 := [42, 3, 181, 0, 3, 42, 27, 3, 16, 39, 184, 0, 65, 154, 0, 7, 4, 167, 0, 4, 3, 4]
abbrev dktX4_growth_0 : List UInt8 := dkwX4_growth_0 ++ dktX4_growth_1
theorem dksX4_growth_0 : cX4_growth.data.toList.drop 0 = dktX4_growth_0 := by decide +kernel
theorem dksX4_growth_1 : cX4_growth.data.toList.drop 22 = dktX4_growth_1 := dk_seg dksX4_growth_0 22 rfl rfl
theorem dksX4_growth_2 : cX4_growth.data.toList.drop 44 = dktX4_growth_2 := dk_seg dksX4_growth_1 22 rfl rfl
theorem dksX4_growth_3 : cX4_growth.data.toList.drop 68 = dktX4_growth_3 := dk_seg dksX4_growth_2 24 rfl rfl
theorem dX4_growth_0 : decode cX4_growth 0 = .ok (.aload_n 0, 1) := dk_42 (dk_at dksX4_growth_0 0 rfl rfl)
theorem dX4_growth_1 : decode cX4_growth 1 = .ok (.iconst 0, 1) := dk_3 (dk_at dksX4_growth_0 1 rfl rfl)
theorem dX4_growth_2 : decode cX4_growth 2 = .ok (.putfield 3, 3) := dk_181 0 3 (dk_at dksX4_growth_0 2 rfl rfl)
theorem dX4_growth_5 : decode cX4_growth 5 = .ok (.aload_n 0, 1) := dk_42 (dk_at dksX4_growth_0 5 rfl rfl)
theorem dX4_growth_6 : decode cX4_growth 6 = .ok (.iload_n 1, 1) := dk_27 (dk_at dksX4_growth_0 6 rfl rfl)
theorem dX4_growth_7 : decode cX4_growth 7 = .ok (.iconst 0, 1) := dk_3 (dk_at dksX4_growth_0 7 rfl rfl)
theorem dX4_growth_8 : decode cX4_growth 8 = .ok (.bipush 39, 2) := dk_16 39 (dk_at dksX4_growth_0 8 rfl rfl)
theorem dX4_growth_10 : decode cX4_growth 10 = .ok (.invokestatic 65, 3) := dk_184 0 65 (dk_at dksX4_growth_0 10 rfl rfl)
theorem dX4_growth_13 : decode cX4_growth 13 = .ok (.ifCond .ne 7, 3) := dk_154 0 7 (dk_at dksX4_growth_0 13 rfl rfl)
theorem dX4_growth_16 : decode cX4_growth 16 = .ok (.iconst 1, 1) := dk_4 (dk_at dksX4_growth_0 16 rfl rfl)
theorem dX4_growth_17 : decode cX4_growth 17 = .ok (.goto 4, 3) := dk_167 0 4 (dk_at dksX4_growth_0 17 rfl rfl)
theorem dX4_growth_20 : decode cX4_growth 20 = .ok (.iconst 0, 1) := dk_3 (dk_at dksX4_growth_0 20 rfl rfl)
theorem dX4_growth_21 : decode cX4_growth 21 = .ok (.iconst 1, 1) := dk_4 (dk_at dksX4_growth_0 21 rfl rfl)
theorem dX4_growth_22 : decode cX4_growth 22 = .ok (.invokevirtual 180, 3) := dk_182 0 180 (dk_at dksX4_growth_1 0 rfl rfl)
theorem dX4_growth_25 : decode cX4_growth 25 = .ok (.ifCond .eq 5, 3) := dk_153 0 5 (dk_at dksX4_growth_1 3 rfl rfl)
theorem dX4_growth_28 : decode cX4_growth 28 = .ok (.iconst 0, 1) := dk_3 (dk_at dksX4_growth_1 6 rfl rfl)
theorem dX4_growth_29 : decode cX4_growth 29 = .ok (.ireturn, 1) := dk_172 (dk_at dksX4_growth_1 7 rfl rfl)
theorem dX4_growth_30 : decode cX4_growth 30 = .ok (.aload_n 0, 1) := dk_42 (dk_at dksX4_growth_1 8 rfl rfl)
theorem dX4_growth_31 : decode cX4_growth 31 = .ok (.iload_n 1, 1) := dk_27 (dk_at dksX4_growth_1 9 rfl rfl)
theorem dX4_growth_32 : decode cX4_growth 32 = .ok (.iconst 1, 1) := dk_4 (dk_at dksX4_growth_1 10 rfl rfl)
theorem dX4_growth_33 : decode cX4_growth 33 = .ok (.invokevirtual 299, 3) := dk_182 1 43 (dk_at dksX4_growth_1 11 rfl rfl)
theorem dX4_growth_36 : decode cX4_growth 36 = .ok (.istore_n 2, 1) := dk_61 (dk_at dksX4_growth_1 14 rfl rfl)
theorem dX4_growth_37 : decode cX4_growth 37 = .ok (.iload_n 2, 1) := dk_28 (dk_at dksX4_growth_1 15 rfl rfl)
theorem dX4_growth_38 : decode cX4_growth 38 = .ok (.bipush (-2), 2) := dk_16 254 (dk_at dksX4_growth_1 16 rfl rfl)
theorem dX4_growth_40 : decode cX4_growth 40 = .ok (.if_icmp .eq 7, 3) := dk_159 0 7 (dk_at dksX4_growth_1 18 rfl rfl)
theorem dX4_growth_43 : decode cX4_growth 43 = .ok (.iload_n 2, 1) := dk_28 (dk_at dksX4_growth_1 21 rfl rfl)
theorem dX4_growth_44 : decode cX4_growth 44 = .ok (.ifCond .ne 16, 3) := dk_154 0 16 (dk_at dksX4_growth_2 0 rfl rfl)
theorem dX4_growth_47 : decode cX4_growth 47 = .ok (.iload_n 2, 1) := dk_28 (dk_at dksX4_growth_2 3 rfl rfl)
theorem dX4_growth_48 : decode cX4_growth 48 = .ok (.bipush (-2), 2) := dk_16 254 (dk_at dksX4_growth_2 4 rfl rfl)
theorem dX4_growth_50 : decode cX4_growth 50 = .ok (.if_icmp .ne 8, 3) := dk_160 0 8 (dk_at dksX4_growth_2 6 rfl rfl)
theorem dX4_growth_53 : decode cX4_growth 53 = .ok (.bipush (-2), 2) := dk_16 254 (dk_at dksX4_growth_2 9 rfl rfl)
theorem dX4_growth_55 : decode cX4_growth 55 = .ok (.goto 4, 3) := dk_167 0 4 (dk_at dksX4_growth_2 11 rfl rfl)
theorem dX4_growth_58 : decode cX4_growth 58 = .ok (.iconst (-1), 1) := dk_2 (dk_at dksX4_growth_2 14 rfl rfl)
theorem dX4_growth_59 : decode cX4_growth 59 = .ok (.ireturn, 1) := dk_172 (dk_at dksX4_growth_2 15 rfl rfl)
theorem dX4_growth_60 : decode cX4_growth 60 = .ok (.aload_n 0, 1) := dk_42 (dk_at dksX4_growth_2 16 rfl rfl)
theorem dX4_growth_61 : decode cX4_growth 61 = .ok (.iload_n 1, 1) := dk_27 (dk_at dksX4_growth_2 17 rfl rfl)
theorem dX4_growth_62 : decode cX4_growth 62 = .ok (.iconst 1, 1) := dk_4 (dk_at dksX4_growth_2 18 rfl rfl)
theorem dX4_growth_63 : decode cX4_growth 63 = .ok (.iadd, 1) := dk_96 (dk_at dksX4_growth_2 19 rfl rfl)
theorem dX4_growth_64 : decode cX4_growth 64 = .ok (.iconst 1, 1) := dk_4 (dk_at dksX4_growth_2 20 rfl rfl)
theorem dX4_growth_65 : decode cX4_growth 65 = .ok (.invokevirtual 299, 3) := dk_182 1 43 (dk_at dksX4_growth_2 21 rfl rfl)
theorem dX4_growth_68 : decode cX4_growth 68 = .ok (.istore_n 3, 1) := dk_62 (dk_at dksX4_growth_3 0 rfl rfl)
theorem dX4_growth_69 : decode cX4_growth 69 = .ok (.iload_n 3, 1) := dk_29 (dk_at dksX4_growth_3 1 rfl rfl)
theorem dX4_growth_70 : decode cX4_growth 70 = .ok (.bipush (-2), 2) := dk_16 254 (dk_at dksX4_growth_3 2 rfl rfl)
theorem dX4_growth_72 : decode cX4_growth 72 = .ok (.if_icmp .ne 8, 3) := dk_160 0 8 (dk_at dksX4_growth_3 4 rfl rfl)
theorem dX4_growth_75 : decode cX4_growth 75 = .ok (.bipush (-2), 2) := dk_16 254 (dk_at dksX4_growth_3 7 rfl rfl)
theorem dX4_growth_77 : decode cX4_growth 77 = .ok (.goto 10, 3) := dk_167 0 10 (dk_at dksX4_growth_3 9 rfl rfl)
theorem dX4_growth_80 : decode cX4_growth 80 = .ok (.sipush 1000, 3) := dk_17 3 232 (dk_at dksX4_growth_3 12 rfl rfl)
theorem dX4_growth_83 : decode cX4_growth 83 = .ok (.iload_n 3, 1) := dk_29 (dk_at dksX4_growth_3 15 rfl rfl)
theorem dX4_growth_84 : decode cX4_growth 84 = .ok (.imul, 1) := dk_104 (dk_at dksX4_growth_3 16 rfl rfl)
theorem dX4_growth_85 : decode cX4_growth 85 = .ok (.iload_n 2, 1) := dk_28 (dk_at dksX4_growth_3 17 rfl rfl)
theorem dX4_growth_86 : decode cX4_growth 86 = .ok (.idiv, 1) := dk_108 (dk_at dksX4_growth_3 18 rfl rfl)
theorem dX4_growth_87 : decode cX4_growth 87 = .ok (.ireturn, 1) := dk_172 (dk_at dksX4_growth_3 19 rfl rfl)
abbrev cX4_longest : ByteArray := prog_13_method_79_code
def yX4_longest : MethodName := ⟨RX4, "longest", "()I"⟩
def dkwX4_longest_2 : List UInt8 := [132, 1, 1, 167, 255, 214, 16, 40, 172]
abbrev dktX4_longest_2 : List UInt8 := dkwX4_longest_2 ++ []
def dkwX4_longest_1 : List UInt8 := [61, 42, 180, 1, 9, 153, 0, 6, 16, 254, 172, 42, 180, 1, 15, 154, 0, 7, 27, 4, 100, 172]
abbrev dktX4_longest_1 : List UInt8 := dkwX4_longest_1 ++ dktX4_longest_2
def dkwX4_longest_0 : List UInt8 := [42, 3, 181, 0, 3, 4, 60, 27, 16, 40, 163, 0, 42, 42, 182, 1, 34, 42, 3, 27, 3, 182, 1, 12]
abbrev dktX4_longest_0 : List UInt8 := dkwX4_longest_0 ++ dktX4_longest_1
theorem dksX4_longest_0 : cX4_longest.data.toList.drop 0 = dktX4_longest_0 := by decide +kernel
theorem dksX4_longest_1 : cX4_longest.data.toList.drop 24 = dktX4_longest_1 := dk_seg dksX4_longest_0 24 rfl rfl
theorem dksX4_longest_2 : cX4_longest.data.toList.drop 46 = dktX4_longest_2 := dk_seg dksX4_longest_1 22 rfl rfl
theorem dX4_longest_0 : decode cX4_longest 0 = .ok (.aload_n 0, 1) := dk_42 (dk_at dksX4_longest_0 0 rfl rfl)
theorem dX4_longest_1 : decode cX4_longest 1 = .ok (.iconst 0, 1) := dk_3 (dk_at dksX4_longest_0 1 rfl rfl)
theorem dX4_longest_2 : decode cX4_longest 2 = .ok (.putfield 3, 3) := dk_181 0 3 (dk_at dksX4_longest_0 2 rfl rfl)
theorem dX4_longest_5 : decode cX4_longest 5 = .ok (.iconst 1, 1) := dk_4 (dk_at dksX4_longest_0 5 rfl rfl)
theorem dX4_longest_6 : decode cX4_longest 6 = .ok (.istore_n 1, 1) := dk_60 (dk_at dksX4_longest_0 6 rfl rfl)
theorem dX4_longest_7 : decode cX4_longest 7 = .ok (.iload_n 1, 1) := dk_27 (dk_at dksX4_longest_0 7 rfl rfl)
theorem dX4_longest_8 : decode cX4_longest 8 = .ok (.bipush 40, 2) := dk_16 40 (dk_at dksX4_longest_0 8 rfl rfl)
theorem dX4_longest_10 : decode cX4_longest 10 = .ok (.if_icmp .gt 42, 3) := dk_163 0 42 (dk_at dksX4_longest_0 10 rfl rfl)
theorem dX4_longest_13 : decode cX4_longest 13 = .ok (.aload_n 0, 1) := dk_42 (dk_at dksX4_longest_0 13 rfl rfl)
theorem dX4_longest_14 : decode cX4_longest 14 = .ok (.invokevirtual 290, 3) := dk_182 1 34 (dk_at dksX4_longest_0 14 rfl rfl)
theorem dX4_longest_17 : decode cX4_longest 17 = .ok (.aload_n 0, 1) := dk_42 (dk_at dksX4_longest_0 17 rfl rfl)
theorem dX4_longest_18 : decode cX4_longest 18 = .ok (.iconst 0, 1) := dk_3 (dk_at dksX4_longest_0 18 rfl rfl)
theorem dX4_longest_19 : decode cX4_longest 19 = .ok (.iload_n 1, 1) := dk_27 (dk_at dksX4_longest_0 19 rfl rfl)
theorem dX4_longest_20 : decode cX4_longest 20 = .ok (.iconst 0, 1) := dk_3 (dk_at dksX4_longest_0 20 rfl rfl)
theorem dX4_longest_21 : decode cX4_longest 21 = .ok (.invokevirtual 268, 3) := dk_182 1 12 (dk_at dksX4_longest_0 21 rfl rfl)
theorem dX4_longest_24 : decode cX4_longest 24 = .ok (.istore_n 2, 1) := dk_61 (dk_at dksX4_longest_1 0 rfl rfl)
theorem dX4_longest_25 : decode cX4_longest 25 = .ok (.aload_n 0, 1) := dk_42 (dk_at dksX4_longest_1 1 rfl rfl)
theorem dX4_longest_26 : decode cX4_longest 26 = .ok (.getfield 265, 3) := dk_180 1 9 (dk_at dksX4_longest_1 2 rfl rfl)
theorem dX4_longest_29 : decode cX4_longest 29 = .ok (.ifCond .eq 6, 3) := dk_153 0 6 (dk_at dksX4_longest_1 5 rfl rfl)
theorem dX4_longest_32 : decode cX4_longest 32 = .ok (.bipush (-2), 2) := dk_16 254 (dk_at dksX4_longest_1 8 rfl rfl)
theorem dX4_longest_34 : decode cX4_longest 34 = .ok (.ireturn, 1) := dk_172 (dk_at dksX4_longest_1 10 rfl rfl)
theorem dX4_longest_35 : decode cX4_longest 35 = .ok (.aload_n 0, 1) := dk_42 (dk_at dksX4_longest_1 11 rfl rfl)
theorem dX4_longest_36 : decode cX4_longest 36 = .ok (.getfield 271, 3) := dk_180 1 15 (dk_at dksX4_longest_1 12 rfl rfl)
theorem dX4_longest_39 : decode cX4_longest 39 = .ok (.ifCond .ne 7, 3) := dk_154 0 7 (dk_at dksX4_longest_1 15 rfl rfl)
theorem dX4_longest_42 : decode cX4_longest 42 = .ok (.iload_n 1, 1) := dk_27 (dk_at dksX4_longest_1 18 rfl rfl)
theorem dX4_longest_43 : decode cX4_longest 43 = .ok (.iconst 1, 1) := dk_4 (dk_at dksX4_longest_1 19 rfl rfl)
theorem dX4_longest_44 : decode cX4_longest 44 = .ok (.isub, 1) := dk_100 (dk_at dksX4_longest_1 20 rfl rfl)
theorem dX4_longest_45 : decode cX4_longest 45 = .ok (.ireturn, 1) := dk_172 (dk_at dksX4_longest_1 21 rfl rfl)
theorem dX4_longest_46 : decode cX4_longest 46 = .ok (.iinc 1 1, 3) := dk_132 1 1 (dk_at dksX4_longest_2 0 rfl rfl)
theorem dX4_longest_49 : decode cX4_longest 49 = .ok (.goto (-42), 3) := dk_167 255 214 (dk_at dksX4_longest_2 3 rfl rfl)
theorem dX4_longest_52 : decode cX4_longest 52 = .ok (.bipush 40, 2) := dk_16 40 (dk_at dksX4_longest_2 6 rfl rfl)
theorem dX4_longest_54 : decode cX4_longest 54 = .ok (.ireturn, 1) := dk_172 (dk_at dksX4_longest_2 8 rfl rfl)
abbrev cX4_further : ByteArray := prog_13_method_80_code
def yX4_further : MethodName := ⟨RX4, "further", "()I"⟩
def dkwX4_further_3 : List UInt8 := [180, 1, 15, 154, 0, 7, 28, 4, 100, 172, 132, 2, 1, 167, 255, 203, 27, 172]
abbrev dktX4_further_3 : List UInt8 := dkwX4_further_3 ++ []
def dkwX4_further_2 : List UInt8 := [42, 180, 0, 184, 28, 96, 3, 182, 1, 12, 62, 42, 180, 1, 9, 153, 0, 6, 16, 254, 172, 42]
abbrev dktX4_further_2 : List UInt8 := dkwX4_further_2 ++ dktX4_further_3
def dkwX4_further_1 : List UInt8 := [184, 1, 46, 60, 4, 61, 28, 27, 163, 0, 54, 42, 182, 1, 34, 42, 182, 1, 40, 42, 42, 180, 0, 184]
abbrev dktX4_further_1 : List UInt8 := dkwX4_further_1 ++ dktX4_further_2
def dkwX4_further_0 : List UInt8 := [42, 3, 181, 0, 3, 42, 182, 0, 236, 154, 0, 5, 3, 172, 16, 20, 16, 64, 42, 180, 0, 184, 100]
abbrev dktX4_further_0 : List UInt8 := dkwX4_further_0 ++ dktX4_further_1
theorem dksX4_further_0 : cX4_further.data.toList.drop 0 = dktX4_further_0 := by decide +kernel
theorem dksX4_further_1 : cX4_further.data.toList.drop 23 = dktX4_further_1 := dk_seg dksX4_further_0 23 rfl rfl
theorem dksX4_further_2 : cX4_further.data.toList.drop 47 = dktX4_further_2 := dk_seg dksX4_further_1 24 rfl rfl
theorem dksX4_further_3 : cX4_further.data.toList.drop 69 = dktX4_further_3 := dk_seg dksX4_further_2 22 rfl rfl
theorem dX4_further_0 : decode cX4_further 0 = .ok (.aload_n 0, 1) := dk_42 (dk_at dksX4_further_0 0 rfl rfl)
theorem dX4_further_1 : decode cX4_further 1 = .ok (.iconst 0, 1) := dk_3 (dk_at dksX4_further_0 1 rfl rfl)
theorem dX4_further_2 : decode cX4_further 2 = .ok (.putfield 3, 3) := dk_181 0 3 (dk_at dksX4_further_0 2 rfl rfl)
theorem dX4_further_5 : decode cX4_further 5 = .ok (.aload_n 0, 1) := dk_42 (dk_at dksX4_further_0 5 rfl rfl)
theorem dX4_further_6 : decode cX4_further 6 = .ok (.invokevirtual 236, 3) := dk_182 0 236 (dk_at dksX4_further_0 6 rfl rfl)
theorem dX4_further_9 : decode cX4_further 9 = .ok (.ifCond .ne 5, 3) := dk_154 0 5 (dk_at dksX4_further_0 9 rfl rfl)
theorem dX4_further_12 : decode cX4_further 12 = .ok (.iconst 0, 1) := dk_3 (dk_at dksX4_further_0 12 rfl rfl)
theorem dX4_further_13 : decode cX4_further 13 = .ok (.ireturn, 1) := dk_172 (dk_at dksX4_further_0 13 rfl rfl)
theorem dX4_further_14 : decode cX4_further 14 = .ok (.bipush 20, 2) := dk_16 20 (dk_at dksX4_further_0 14 rfl rfl)
theorem dX4_further_16 : decode cX4_further 16 = .ok (.bipush 64, 2) := dk_16 64 (dk_at dksX4_further_0 16 rfl rfl)
theorem dX4_further_18 : decode cX4_further 18 = .ok (.aload_n 0, 1) := dk_42 (dk_at dksX4_further_0 18 rfl rfl)
theorem dX4_further_19 : decode cX4_further 19 = .ok (.getfield 184, 3) := dk_180 0 184 (dk_at dksX4_further_0 19 rfl rfl)
theorem dX4_further_22 : decode cX4_further 22 = .ok (.isub, 1) := dk_100 (dk_at dksX4_further_0 22 rfl rfl)
theorem dX4_further_23 : decode cX4_further 23 = .ok (.invokestatic 302, 3) := dk_184 1 46 (dk_at dksX4_further_1 0 rfl rfl)
theorem dX4_further_26 : decode cX4_further 26 = .ok (.istore_n 1, 1) := dk_60 (dk_at dksX4_further_1 3 rfl rfl)
theorem dX4_further_27 : decode cX4_further 27 = .ok (.iconst 1, 1) := dk_4 (dk_at dksX4_further_1 4 rfl rfl)
theorem dX4_further_28 : decode cX4_further 28 = .ok (.istore_n 2, 1) := dk_61 (dk_at dksX4_further_1 5 rfl rfl)
theorem dX4_further_29 : decode cX4_further 29 = .ok (.iload_n 2, 1) := dk_28 (dk_at dksX4_further_1 6 rfl rfl)
theorem dX4_further_30 : decode cX4_further 30 = .ok (.iload_n 1, 1) := dk_27 (dk_at dksX4_further_1 7 rfl rfl)
theorem dX4_further_31 : decode cX4_further 31 = .ok (.if_icmp .gt 54, 3) := dk_163 0 54 (dk_at dksX4_further_1 8 rfl rfl)
theorem dX4_further_34 : decode cX4_further 34 = .ok (.aload_n 0, 1) := dk_42 (dk_at dksX4_further_1 11 rfl rfl)
theorem dX4_further_35 : decode cX4_further 35 = .ok (.invokevirtual 290, 3) := dk_182 1 34 (dk_at dksX4_further_1 12 rfl rfl)
theorem dX4_further_38 : decode cX4_further 38 = .ok (.aload_n 0, 1) := dk_42 (dk_at dksX4_further_1 15 rfl rfl)
theorem dX4_further_39 : decode cX4_further 39 = .ok (.invokevirtual 296, 3) := dk_182 1 40 (dk_at dksX4_further_1 16 rfl rfl)
theorem dX4_further_42 : decode cX4_further 42 = .ok (.aload_n 0, 1) := dk_42 (dk_at dksX4_further_1 19 rfl rfl)
theorem dX4_further_43 : decode cX4_further 43 = .ok (.aload_n 0, 1) := dk_42 (dk_at dksX4_further_1 20 rfl rfl)
theorem dX4_further_44 : decode cX4_further 44 = .ok (.getfield 184, 3) := dk_180 0 184 (dk_at dksX4_further_1 21 rfl rfl)
theorem dX4_further_47 : decode cX4_further 47 = .ok (.aload_n 0, 1) := dk_42 (dk_at dksX4_further_2 0 rfl rfl)
theorem dX4_further_48 : decode cX4_further 48 = .ok (.getfield 184, 3) := dk_180 0 184 (dk_at dksX4_further_2 1 rfl rfl)
theorem dX4_further_51 : decode cX4_further 51 = .ok (.iload_n 2, 1) := dk_28 (dk_at dksX4_further_2 4 rfl rfl)
theorem dX4_further_52 : decode cX4_further 52 = .ok (.iadd, 1) := dk_96 (dk_at dksX4_further_2 5 rfl rfl)
theorem dX4_further_53 : decode cX4_further 53 = .ok (.iconst 0, 1) := dk_3 (dk_at dksX4_further_2 6 rfl rfl)
theorem dX4_further_54 : decode cX4_further 54 = .ok (.invokevirtual 268, 3) := dk_182 1 12 (dk_at dksX4_further_2 7 rfl rfl)
theorem dX4_further_57 : decode cX4_further 57 = .ok (.istore_n 3, 1) := dk_62 (dk_at dksX4_further_2 10 rfl rfl)
theorem dX4_further_58 : decode cX4_further 58 = .ok (.aload_n 0, 1) := dk_42 (dk_at dksX4_further_2 11 rfl rfl)
theorem dX4_further_59 : decode cX4_further 59 = .ok (.getfield 265, 3) := dk_180 1 9 (dk_at dksX4_further_2 12 rfl rfl)
theorem dX4_further_62 : decode cX4_further 62 = .ok (.ifCond .eq 6, 3) := dk_153 0 6 (dk_at dksX4_further_2 15 rfl rfl)
theorem dX4_further_65 : decode cX4_further 65 = .ok (.bipush (-2), 2) := dk_16 254 (dk_at dksX4_further_2 18 rfl rfl)
theorem dX4_further_67 : decode cX4_further 67 = .ok (.ireturn, 1) := dk_172 (dk_at dksX4_further_2 20 rfl rfl)
theorem dX4_further_68 : decode cX4_further 68 = .ok (.aload_n 0, 1) := dk_42 (dk_at dksX4_further_2 21 rfl rfl)
theorem dX4_further_69 : decode cX4_further 69 = .ok (.getfield 271, 3) := dk_180 1 15 (dk_at dksX4_further_3 0 rfl rfl)
theorem dX4_further_72 : decode cX4_further 72 = .ok (.ifCond .ne 7, 3) := dk_154 0 7 (dk_at dksX4_further_3 3 rfl rfl)
theorem dX4_further_75 : decode cX4_further 75 = .ok (.iload_n 2, 1) := dk_28 (dk_at dksX4_further_3 6 rfl rfl)
theorem dX4_further_76 : decode cX4_further 76 = .ok (.iconst 1, 1) := dk_4 (dk_at dksX4_further_3 7 rfl rfl)
theorem dX4_further_77 : decode cX4_further 77 = .ok (.isub, 1) := dk_100 (dk_at dksX4_further_3 8 rfl rfl)
theorem dX4_further_78 : decode cX4_further 78 = .ok (.ireturn, 1) := dk_172 (dk_at dksX4_further_3 9 rfl rfl)
theorem dX4_further_79 : decode cX4_further 79 = .ok (.iinc 2 1, 3) := dk_132 2 1 (dk_at dksX4_further_3 10 rfl rfl)
theorem dX4_further_82 : decode cX4_further 82 = .ok (.goto (-53), 3) := dk_167 255 203 (dk_at dksX4_further_3 13 rfl rfl)
theorem dX4_further_85 : decode cX4_further 85 = .ok (.iload_n 1, 1) := dk_27 (dk_at dksX4_further_3 16 rfl rfl)
theorem dX4_further_86 : decode cX4_further 86 = .ok (.ireturn, 1) := dk_172 (dk_at dksX4_further_3 17 rfl rfl)
abbrev cX4_stuck : ByteArray := prog_13_method_81_code
def yX4_stuck : MethodName := ⟨RX4, "stuck", "(I)I"⟩
def dkwX4_stuck_1 : List UInt8 := [182, 0, 180, 153, 0, 5, 3, 172, 42, 27, 5, 182, 1, 43, 172]
abbrev dktX4_stuck_1 : List UInt8 := dkwX4_stuck_1 ++ []
def dkwX4_stuck_0 : List UInt8 := [42, 3, 181, 0, 3, 42, 27, 3, 16, 40, 184, 0, 65, 154, 0, 7, 4, 167, 0, 4, 3, 4]
abbrev dktX4_stuck_0 : List UInt8 := dkwX4_stuck_0 ++ dktX4_stuck_1
theorem dksX4_stuck_0 : cX4_stuck.data.toList.drop 0 = dktX4_stuck_0 := by decide +kernel
theorem dksX4_stuck_1 : cX4_stuck.data.toList.drop 22 = dktX4_stuck_1 := dk_seg dksX4_stuck_0 22 rfl rfl
theorem dX4_stuck_0 : decode cX4_stuck 0 = .ok (.aload_n 0, 1) := dk_42 (dk_at dksX4_stuck_0 0 rfl rfl)
theorem dX4_stuck_1 : decode cX4_stuck 1 = .ok (.iconst 0, 1) := dk_3 (dk_at dksX4_stuck_0 1 rfl rfl)
theorem dX4_stuck_2 : decode cX4_stuck 2 = .ok (.putfield 3, 3) := dk_181 0 3 (dk_at dksX4_stuck_0 2 rfl rfl)
theorem dX4_stuck_5 : decode cX4_stuck 5 = .ok (.aload_n 0, 1) := dk_42 (dk_at dksX4_stuck_0 5 rfl rfl)
theorem dX4_stuck_6 : decode cX4_stuck 6 = .ok (.iload_n 1, 1) := dk_27 (dk_at dksX4_stuck_0 6 rfl rfl)
theorem dX4_stuck_7 : decode cX4_stuck 7 = .ok (.iconst 0, 1) := dk_3 (dk_at dksX4_stuck_0 7 rfl rfl)
theorem dX4_stuck_8 : decode cX4_stuck 8 = .ok (.bipush 40, 2) := dk_16 40 (dk_at dksX4_stuck_0 8 rfl rfl)
theorem dX4_stuck_10 : decode cX4_stuck 10 = .ok (.invokestatic 65, 3) := dk_184 0 65 (dk_at dksX4_stuck_0 10 rfl rfl)
theorem dX4_stuck_13 : decode cX4_stuck 13 = .ok (.ifCond .ne 7, 3) := dk_154 0 7 (dk_at dksX4_stuck_0 13 rfl rfl)
theorem dX4_stuck_16 : decode cX4_stuck 16 = .ok (.iconst 1, 1) := dk_4 (dk_at dksX4_stuck_0 16 rfl rfl)
theorem dX4_stuck_17 : decode cX4_stuck 17 = .ok (.goto 4, 3) := dk_167 0 4 (dk_at dksX4_stuck_0 17 rfl rfl)
theorem dX4_stuck_20 : decode cX4_stuck 20 = .ok (.iconst 0, 1) := dk_3 (dk_at dksX4_stuck_0 20 rfl rfl)
theorem dX4_stuck_21 : decode cX4_stuck 21 = .ok (.iconst 1, 1) := dk_4 (dk_at dksX4_stuck_0 21 rfl rfl)
theorem dX4_stuck_22 : decode cX4_stuck 22 = .ok (.invokevirtual 180, 3) := dk_182 0 180 (dk_at dksX4_stuck_1 0 rfl rfl)
theorem dX4_stuck_25 : decode cX4_stuck 25 = .ok (.ifCond .eq 5, 3) := dk_153 0 5 (dk_at dksX4_stuck_1 3 rfl rfl)
theorem dX4_stuck_28 : decode cX4_stuck 28 = .ok (.iconst 0, 1) := dk_3 (dk_at dksX4_stuck_1 6 rfl rfl)
theorem dX4_stuck_29 : decode cX4_stuck 29 = .ok (.ireturn, 1) := dk_172 (dk_at dksX4_stuck_1 7 rfl rfl)
theorem dX4_stuck_30 : decode cX4_stuck 30 = .ok (.aload_n 0, 1) := dk_42 (dk_at dksX4_stuck_1 8 rfl rfl)
theorem dX4_stuck_31 : decode cX4_stuck 31 = .ok (.iload_n 1, 1) := dk_27 (dk_at dksX4_stuck_1 9 rfl rfl)
theorem dX4_stuck_32 : decode cX4_stuck 32 = .ok (.iconst 2, 1) := dk_5 (dk_at dksX4_stuck_1 10 rfl rfl)
theorem dX4_stuck_33 : decode cX4_stuck 33 = .ok (.invokevirtual 299, 3) := dk_182 1 43 (dk_at dksX4_stuck_1 11 rfl rfl)
theorem dX4_stuck_36 : decode cX4_stuck 36 = .ok (.ireturn, 1) := dk_172 (dk_at dksX4_stuck_1 14 rfl rfl)
abbrev cX4_rank : ByteArray := prog_13_method_82_code
def yX4_rank : MethodName := ⟨RX4, "rank", "()I"⟩
def dkwX4_rank_1 : List UInt8 := [153, 0, 5, 3, 172, 42, 42, 180, 0, 184, 6, 182, 1, 43, 172]
abbrev dktX4_rank_1 : List UInt8 := dkwX4_rank_1 ++ []
def dkwX4_rank_0 : List UInt8 := [42, 3, 181, 0, 3, 42, 42, 180, 0, 184, 16, 40, 164, 0, 7, 4, 167, 0, 4, 3, 4, 182, 0, 180]
abbrev dktX4_rank_0 : List UInt8 := dkwX4_rank_0 ++ dktX4_rank_1
theorem dksX4_rank_0 : cX4_rank.data.toList.drop 0 = dktX4_rank_0 := by decide +kernel
theorem dksX4_rank_1 : cX4_rank.data.toList.drop 24 = dktX4_rank_1 := dk_seg dksX4_rank_0 24 rfl rfl
theorem dX4_rank_0 : decode cX4_rank 0 = .ok (.aload_n 0, 1) := dk_42 (dk_at dksX4_rank_0 0 rfl rfl)
theorem dX4_rank_1 : decode cX4_rank 1 = .ok (.iconst 0, 1) := dk_3 (dk_at dksX4_rank_0 1 rfl rfl)
theorem dX4_rank_2 : decode cX4_rank 2 = .ok (.putfield 3, 3) := dk_181 0 3 (dk_at dksX4_rank_0 2 rfl rfl)
theorem dX4_rank_5 : decode cX4_rank 5 = .ok (.aload_n 0, 1) := dk_42 (dk_at dksX4_rank_0 5 rfl rfl)
theorem dX4_rank_6 : decode cX4_rank 6 = .ok (.aload_n 0, 1) := dk_42 (dk_at dksX4_rank_0 6 rfl rfl)
theorem dX4_rank_7 : decode cX4_rank 7 = .ok (.getfield 184, 3) := dk_180 0 184 (dk_at dksX4_rank_0 7 rfl rfl)
theorem dX4_rank_10 : decode cX4_rank 10 = .ok (.bipush 40, 2) := dk_16 40 (dk_at dksX4_rank_0 10 rfl rfl)
theorem dX4_rank_12 : decode cX4_rank 12 = .ok (.if_icmp .le 7, 3) := dk_164 0 7 (dk_at dksX4_rank_0 12 rfl rfl)
theorem dX4_rank_15 : decode cX4_rank 15 = .ok (.iconst 1, 1) := dk_4 (dk_at dksX4_rank_0 15 rfl rfl)
theorem dX4_rank_16 : decode cX4_rank 16 = .ok (.goto 4, 3) := dk_167 0 4 (dk_at dksX4_rank_0 16 rfl rfl)
theorem dX4_rank_19 : decode cX4_rank 19 = .ok (.iconst 0, 1) := dk_3 (dk_at dksX4_rank_0 19 rfl rfl)
theorem dX4_rank_20 : decode cX4_rank 20 = .ok (.iconst 1, 1) := dk_4 (dk_at dksX4_rank_0 20 rfl rfl)
theorem dX4_rank_21 : decode cX4_rank 21 = .ok (.invokevirtual 180, 3) := dk_182 0 180 (dk_at dksX4_rank_0 21 rfl rfl)
theorem dX4_rank_24 : decode cX4_rank 24 = .ok (.ifCond .eq 5, 3) := dk_153 0 5 (dk_at dksX4_rank_1 0 rfl rfl)
theorem dX4_rank_27 : decode cX4_rank 27 = .ok (.iconst 0, 1) := dk_3 (dk_at dksX4_rank_1 3 rfl rfl)
theorem dX4_rank_28 : decode cX4_rank 28 = .ok (.ireturn, 1) := dk_172 (dk_at dksX4_rank_1 4 rfl rfl)
theorem dX4_rank_29 : decode cX4_rank 29 = .ok (.aload_n 0, 1) := dk_42 (dk_at dksX4_rank_1 5 rfl rfl)
theorem dX4_rank_30 : decode cX4_rank 30 = .ok (.aload_n 0, 1) := dk_42 (dk_at dksX4_rank_1 6 rfl rfl)
theorem dX4_rank_31 : decode cX4_rank 31 = .ok (.getfield 184, 3) := dk_180 0 184 (dk_at dksX4_rank_1 7 rfl rfl)
theorem dX4_rank_34 : decode cX4_rank 34 = .ok (.iconst 3, 1) := dk_6 (dk_at dksX4_rank_1 10 rfl rfl)
theorem dX4_rank_35 : decode cX4_rank 35 = .ok (.invokevirtual 299, 3) := dk_182 1 43 (dk_at dksX4_rank_1 11 rfl rfl)
theorem dX4_rank_38 : decode cX4_rank 38 = .ok (.ireturn, 1) := dk_172 (dk_at dksX4_rank_1 14 rfl rfl)
abbrev cX4_nth : ByteArray := prog_13_method_83_code
def yX4_nth : MethodName := ⟨RX4, "nth", "(II)I"⟩
def dkwX4_nth_3 : List UInt8 := [27, 182, 1, 37, 42, 180, 1, 6, 172]
abbrev dktX4_nth_3 : List UInt8 := dkwX4_nth_3 ++ []
def dkwX4_nth_2 : List UInt8 := [182, 1, 12, 62, 42, 180, 1, 9, 153, 0, 6, 16, 254, 172, 42, 180, 1, 15, 154, 0, 5, 2, 172, 42]
abbrev dktX4_nth_2 : List UInt8 := dkwX4_nth_2 ++ dktX4_nth_3
def dkwX4_nth_1 : List UInt8 := [3, 4, 182, 0, 180, 153, 0, 5, 3, 172, 42, 182, 1, 34, 42, 28, 181, 1, 28, 42, 3, 27, 7]
abbrev dktX4_nth_1 : List UInt8 := dkwX4_nth_1 ++ dktX4_nth_2
def dkwX4_nth_0 : List UInt8 := [42, 3, 181, 0, 3, 42, 27, 4, 16, 40, 184, 0, 65, 153, 0, 7, 28, 156, 0, 7, 4, 167, 0, 4]
abbrev dktX4_nth_0 : List UInt8 := dkwX4_nth_0 ++ dktX4_nth_1
theorem dksX4_nth_0 : cX4_nth.data.toList.drop 0 = dktX4_nth_0 := by decide +kernel
theorem dksX4_nth_1 : cX4_nth.data.toList.drop 24 = dktX4_nth_1 := dk_seg dksX4_nth_0 24 rfl rfl
theorem dksX4_nth_2 : cX4_nth.data.toList.drop 47 = dktX4_nth_2 := dk_seg dksX4_nth_1 23 rfl rfl
theorem dksX4_nth_3 : cX4_nth.data.toList.drop 71 = dktX4_nth_3 := dk_seg dksX4_nth_2 24 rfl rfl
theorem dX4_nth_0 : decode cX4_nth 0 = .ok (.aload_n 0, 1) := dk_42 (dk_at dksX4_nth_0 0 rfl rfl)
theorem dX4_nth_1 : decode cX4_nth 1 = .ok (.iconst 0, 1) := dk_3 (dk_at dksX4_nth_0 1 rfl rfl)
theorem dX4_nth_2 : decode cX4_nth 2 = .ok (.putfield 3, 3) := dk_181 0 3 (dk_at dksX4_nth_0 2 rfl rfl)
theorem dX4_nth_5 : decode cX4_nth 5 = .ok (.aload_n 0, 1) := dk_42 (dk_at dksX4_nth_0 5 rfl rfl)
theorem dX4_nth_6 : decode cX4_nth 6 = .ok (.iload_n 1, 1) := dk_27 (dk_at dksX4_nth_0 6 rfl rfl)
theorem dX4_nth_7 : decode cX4_nth 7 = .ok (.iconst 1, 1) := dk_4 (dk_at dksX4_nth_0 7 rfl rfl)
theorem dX4_nth_8 : decode cX4_nth 8 = .ok (.bipush 40, 2) := dk_16 40 (dk_at dksX4_nth_0 8 rfl rfl)
theorem dX4_nth_10 : decode cX4_nth 10 = .ok (.invokestatic 65, 3) := dk_184 0 65 (dk_at dksX4_nth_0 10 rfl rfl)
theorem dX4_nth_13 : decode cX4_nth 13 = .ok (.ifCond .eq 7, 3) := dk_153 0 7 (dk_at dksX4_nth_0 13 rfl rfl)
theorem dX4_nth_16 : decode cX4_nth 16 = .ok (.iload_n 2, 1) := dk_28 (dk_at dksX4_nth_0 16 rfl rfl)
theorem dX4_nth_17 : decode cX4_nth 17 = .ok (.ifCond .ge 7, 3) := dk_156 0 7 (dk_at dksX4_nth_0 17 rfl rfl)
theorem dX4_nth_20 : decode cX4_nth 20 = .ok (.iconst 1, 1) := dk_4 (dk_at dksX4_nth_0 20 rfl rfl)
theorem dX4_nth_21 : decode cX4_nth 21 = .ok (.goto 4, 3) := dk_167 0 4 (dk_at dksX4_nth_0 21 rfl rfl)
theorem dX4_nth_24 : decode cX4_nth 24 = .ok (.iconst 0, 1) := dk_3 (dk_at dksX4_nth_1 0 rfl rfl)
theorem dX4_nth_25 : decode cX4_nth 25 = .ok (.iconst 1, 1) := dk_4 (dk_at dksX4_nth_1 1 rfl rfl)
theorem dX4_nth_26 : decode cX4_nth 26 = .ok (.invokevirtual 180, 3) := dk_182 0 180 (dk_at dksX4_nth_1 2 rfl rfl)
theorem dX4_nth_29 : decode cX4_nth 29 = .ok (.ifCond .eq 5, 3) := dk_153 0 5 (dk_at dksX4_nth_1 5 rfl rfl)
theorem dX4_nth_32 : decode cX4_nth 32 = .ok (.iconst 0, 1) := dk_3 (dk_at dksX4_nth_1 8 rfl rfl)
theorem dX4_nth_33 : decode cX4_nth 33 = .ok (.ireturn, 1) := dk_172 (dk_at dksX4_nth_1 9 rfl rfl)
theorem dX4_nth_34 : decode cX4_nth 34 = .ok (.aload_n 0, 1) := dk_42 (dk_at dksX4_nth_1 10 rfl rfl)
theorem dX4_nth_35 : decode cX4_nth 35 = .ok (.invokevirtual 290, 3) := dk_182 1 34 (dk_at dksX4_nth_1 11 rfl rfl)
theorem dX4_nth_38 : decode cX4_nth 38 = .ok (.aload_n 0, 1) := dk_42 (dk_at dksX4_nth_1 14 rfl rfl)
theorem dX4_nth_39 : decode cX4_nth 39 = .ok (.iload_n 2, 1) := dk_28 (dk_at dksX4_nth_1 15 rfl rfl)
theorem dX4_nth_40 : decode cX4_nth 40 = .ok (.putfield 284, 3) := dk_181 1 28 (dk_at dksX4_nth_1 16 rfl rfl)
theorem dX4_nth_43 : decode cX4_nth 43 = .ok (.aload_n 0, 1) := dk_42 (dk_at dksX4_nth_1 19 rfl rfl)
theorem dX4_nth_44 : decode cX4_nth 44 = .ok (.iconst 0, 1) := dk_3 (dk_at dksX4_nth_1 20 rfl rfl)
theorem dX4_nth_45 : decode cX4_nth 45 = .ok (.iload_n 1, 1) := dk_27 (dk_at dksX4_nth_1 21 rfl rfl)
theorem dX4_nth_46 : decode cX4_nth 46 = .ok (.iconst 4, 1) := dk_7 (dk_at dksX4_nth_1 22 rfl rfl)
theorem dX4_nth_47 : decode cX4_nth 47 = .ok (.invokevirtual 268, 3) := dk_182 1 12 (dk_at dksX4_nth_2 0 rfl rfl)
theorem dX4_nth_50 : decode cX4_nth 50 = .ok (.istore_n 3, 1) := dk_62 (dk_at dksX4_nth_2 3 rfl rfl)
theorem dX4_nth_51 : decode cX4_nth 51 = .ok (.aload_n 0, 1) := dk_42 (dk_at dksX4_nth_2 4 rfl rfl)
theorem dX4_nth_52 : decode cX4_nth 52 = .ok (.getfield 265, 3) := dk_180 1 9 (dk_at dksX4_nth_2 5 rfl rfl)
theorem dX4_nth_55 : decode cX4_nth 55 = .ok (.ifCond .eq 6, 3) := dk_153 0 6 (dk_at dksX4_nth_2 8 rfl rfl)
theorem dX4_nth_58 : decode cX4_nth 58 = .ok (.bipush (-2), 2) := dk_16 254 (dk_at dksX4_nth_2 11 rfl rfl)
theorem dX4_nth_60 : decode cX4_nth 60 = .ok (.ireturn, 1) := dk_172 (dk_at dksX4_nth_2 13 rfl rfl)
theorem dX4_nth_61 : decode cX4_nth 61 = .ok (.aload_n 0, 1) := dk_42 (dk_at dksX4_nth_2 14 rfl rfl)
theorem dX4_nth_62 : decode cX4_nth 62 = .ok (.getfield 271, 3) := dk_180 1 15 (dk_at dksX4_nth_2 15 rfl rfl)
theorem dX4_nth_65 : decode cX4_nth 65 = .ok (.ifCond .ne 5, 3) := dk_154 0 5 (dk_at dksX4_nth_2 18 rfl rfl)
theorem dX4_nth_68 : decode cX4_nth 68 = .ok (.iconst (-1), 1) := dk_2 (dk_at dksX4_nth_2 21 rfl rfl)
theorem dX4_nth_69 : decode cX4_nth 69 = .ok (.ireturn, 1) := dk_172 (dk_at dksX4_nth_2 22 rfl rfl)
theorem dX4_nth_70 : decode cX4_nth 70 = .ok (.aload_n 0, 1) := dk_42 (dk_at dksX4_nth_2 23 rfl rfl)
theorem dX4_nth_71 : decode cX4_nth 71 = .ok (.iload_n 1, 1) := dk_27 (dk_at dksX4_nth_3 0 rfl rfl)
theorem dX4_nth_72 : decode cX4_nth 72 = .ok (.invokevirtual 293, 3) := dk_182 1 37 (dk_at dksX4_nth_3 1 rfl rfl)
theorem dX4_nth_75 : decode cX4_nth 75 = .ok (.aload_n 0, 1) := dk_42 (dk_at dksX4_nth_3 4 rfl rfl)
theorem dX4_nth_76 : decode cX4_nth 76 = .ok (.getfield 262, 3) := dk_180 1 6 (dk_at dksX4_nth_3 5 rfl rfl)
theorem dX4_nth_79 : decode cX4_nth 79 = .ok (.ireturn, 1) := dk_172 (dk_at dksX4_nth_3 8 rfl rfl)
abbrev cX4_image : ByteArray := prog_13_method_89_code
def yX4_image : MethodName := ⟨RX4, "image", "(I)I"⟩
def dkwX4_image_3 : List UInt8 := [167, 255, 236, 42, 28, 182, 0, 193, 42, 180, 0, 184, 172]
abbrev dktX4_image_3 : List UInt8 := dkwX4_image_3 ++ []
def dkwX4_image_2 : List UInt8 := [3, 172, 3, 62, 29, 28, 162, 0, 21, 42, 180, 0, 86, 29, 42, 180, 0, 101, 29, 46, 79, 132, 3, 1]
abbrev dktX4_image_2 : List UInt8 := dkwX4_image_2 ++ dktX4_image_3
def dkwX4_image_1 : List UInt8 := [27, 182, 1, 59, 61, 42, 28, 16, 64, 164, 0, 7, 4, 167, 0, 4, 3, 5, 182, 0, 180, 153, 0, 5]
abbrev dktX4_image_1 : List UInt8 := dkwX4_image_1 ++ dktX4_image_2
def dkwX4_image_0 : List UInt8 := [42, 3, 181, 0, 3, 42, 27, 182, 1, 63, 153, 0, 5, 3, 172, 42, 42, 180, 0, 83, 42, 180, 0, 184]
abbrev dktX4_image_0 : List UInt8 := dkwX4_image_0 ++ dktX4_image_1
theorem dksX4_image_0 : cX4_image.data.toList.drop 0 = dktX4_image_0 := by decide +kernel
theorem dksX4_image_1 : cX4_image.data.toList.drop 24 = dktX4_image_1 := dk_seg dksX4_image_0 24 rfl rfl
theorem dksX4_image_2 : cX4_image.data.toList.drop 48 = dktX4_image_2 := dk_seg dksX4_image_1 24 rfl rfl
theorem dksX4_image_3 : cX4_image.data.toList.drop 72 = dktX4_image_3 := dk_seg dksX4_image_2 24 rfl rfl
theorem dX4_image_0 : decode cX4_image 0 = .ok (.aload_n 0, 1) := dk_42 (dk_at dksX4_image_0 0 rfl rfl)
theorem dX4_image_1 : decode cX4_image 1 = .ok (.iconst 0, 1) := dk_3 (dk_at dksX4_image_0 1 rfl rfl)
theorem dX4_image_2 : decode cX4_image 2 = .ok (.putfield 3, 3) := dk_181 0 3 (dk_at dksX4_image_0 2 rfl rfl)
theorem dX4_image_5 : decode cX4_image 5 = .ok (.aload_n 0, 1) := dk_42 (dk_at dksX4_image_0 5 rfl rfl)
theorem dX4_image_6 : decode cX4_image 6 = .ok (.iload_n 1, 1) := dk_27 (dk_at dksX4_image_0 6 rfl rfl)
theorem dX4_image_7 : decode cX4_image 7 = .ok (.invokevirtual 319, 3) := dk_182 1 63 (dk_at dksX4_image_0 7 rfl rfl)
theorem dX4_image_10 : decode cX4_image 10 = .ok (.ifCond .eq 5, 3) := dk_153 0 5 (dk_at dksX4_image_0 10 rfl rfl)
theorem dX4_image_13 : decode cX4_image 13 = .ok (.iconst 0, 1) := dk_3 (dk_at dksX4_image_0 13 rfl rfl)
theorem dX4_image_14 : decode cX4_image 14 = .ok (.ireturn, 1) := dk_172 (dk_at dksX4_image_0 14 rfl rfl)
theorem dX4_image_15 : decode cX4_image 15 = .ok (.aload_n 0, 1) := dk_42 (dk_at dksX4_image_0 15 rfl rfl)
theorem dX4_image_16 : decode cX4_image 16 = .ok (.aload_n 0, 1) := dk_42 (dk_at dksX4_image_0 16 rfl rfl)
theorem dX4_image_17 : decode cX4_image 17 = .ok (.getfield 83, 3) := dk_180 0 83 (dk_at dksX4_image_0 17 rfl rfl)
theorem dX4_image_20 : decode cX4_image 20 = .ok (.aload_n 0, 1) := dk_42 (dk_at dksX4_image_0 20 rfl rfl)
theorem dX4_image_21 : decode cX4_image 21 = .ok (.getfield 184, 3) := dk_180 0 184 (dk_at dksX4_image_0 21 rfl rfl)
theorem dX4_image_24 : decode cX4_image 24 = .ok (.iload_n 1, 1) := dk_27 (dk_at dksX4_image_1 0 rfl rfl)
theorem dX4_image_25 : decode cX4_image 25 = .ok (.invokevirtual 315, 3) := dk_182 1 59 (dk_at dksX4_image_1 1 rfl rfl)
theorem dX4_image_28 : decode cX4_image 28 = .ok (.istore_n 2, 1) := dk_61 (dk_at dksX4_image_1 4 rfl rfl)
theorem dX4_image_29 : decode cX4_image 29 = .ok (.aload_n 0, 1) := dk_42 (dk_at dksX4_image_1 5 rfl rfl)
theorem dX4_image_30 : decode cX4_image 30 = .ok (.iload_n 2, 1) := dk_28 (dk_at dksX4_image_1 6 rfl rfl)
theorem dX4_image_31 : decode cX4_image 31 = .ok (.bipush 64, 2) := dk_16 64 (dk_at dksX4_image_1 7 rfl rfl)
theorem dX4_image_33 : decode cX4_image 33 = .ok (.if_icmp .le 7, 3) := dk_164 0 7 (dk_at dksX4_image_1 9 rfl rfl)
theorem dX4_image_36 : decode cX4_image 36 = .ok (.iconst 1, 1) := dk_4 (dk_at dksX4_image_1 12 rfl rfl)
theorem dX4_image_37 : decode cX4_image 37 = .ok (.goto 4, 3) := dk_167 0 4 (dk_at dksX4_image_1 13 rfl rfl)
theorem dX4_image_40 : decode cX4_image 40 = .ok (.iconst 0, 1) := dk_3 (dk_at dksX4_image_1 16 rfl rfl)
theorem dX4_image_41 : decode cX4_image 41 = .ok (.iconst 2, 1) := dk_5 (dk_at dksX4_image_1 17 rfl rfl)
theorem dX4_image_42 : decode cX4_image 42 = .ok (.invokevirtual 180, 3) := dk_182 0 180 (dk_at dksX4_image_1 18 rfl rfl)
theorem dX4_image_45 : decode cX4_image 45 = .ok (.ifCond .eq 5, 3) := dk_153 0 5 (dk_at dksX4_image_1 21 rfl rfl)
theorem dX4_image_48 : decode cX4_image 48 = .ok (.iconst 0, 1) := dk_3 (dk_at dksX4_image_2 0 rfl rfl)
theorem dX4_image_49 : decode cX4_image 49 = .ok (.ireturn, 1) := dk_172 (dk_at dksX4_image_2 1 rfl rfl)
theorem dX4_image_50 : decode cX4_image 50 = .ok (.iconst 0, 1) := dk_3 (dk_at dksX4_image_2 2 rfl rfl)
theorem dX4_image_51 : decode cX4_image 51 = .ok (.istore_n 3, 1) := dk_62 (dk_at dksX4_image_2 3 rfl rfl)
theorem dX4_image_52 : decode cX4_image 52 = .ok (.iload_n 3, 1) := dk_29 (dk_at dksX4_image_2 4 rfl rfl)
theorem dX4_image_53 : decode cX4_image 53 = .ok (.iload_n 2, 1) := dk_28 (dk_at dksX4_image_2 5 rfl rfl)
theorem dX4_image_54 : decode cX4_image 54 = .ok (.if_icmp .ge 21, 3) := dk_162 0 21 (dk_at dksX4_image_2 6 rfl rfl)
theorem dX4_image_57 : decode cX4_image 57 = .ok (.aload_n 0, 1) := dk_42 (dk_at dksX4_image_2 9 rfl rfl)
theorem dX4_image_58 : decode cX4_image 58 = .ok (.getfield 86, 3) := dk_180 0 86 (dk_at dksX4_image_2 10 rfl rfl)
theorem dX4_image_61 : decode cX4_image 61 = .ok (.iload_n 3, 1) := dk_29 (dk_at dksX4_image_2 13 rfl rfl)
theorem dX4_image_62 : decode cX4_image 62 = .ok (.aload_n 0, 1) := dk_42 (dk_at dksX4_image_2 14 rfl rfl)
theorem dX4_image_63 : decode cX4_image 63 = .ok (.getfield 101, 3) := dk_180 0 101 (dk_at dksX4_image_2 15 rfl rfl)
theorem dX4_image_66 : decode cX4_image 66 = .ok (.iload_n 3, 1) := dk_29 (dk_at dksX4_image_2 18 rfl rfl)
theorem dX4_image_67 : decode cX4_image 67 = .ok (.iaload, 1) := dk_46 (dk_at dksX4_image_2 19 rfl rfl)
theorem dX4_image_68 : decode cX4_image 68 = .ok (.iastore, 1) := dk_79 (dk_at dksX4_image_2 20 rfl rfl)
theorem dX4_image_69 : decode cX4_image 69 = .ok (.iinc 3 1, 3) := dk_132 3 1 (dk_at dksX4_image_2 21 rfl rfl)
theorem dX4_image_72 : decode cX4_image 72 = .ok (.goto (-20), 3) := dk_167 255 236 (dk_at dksX4_image_3 0 rfl rfl)
theorem dX4_image_75 : decode cX4_image 75 = .ok (.aload_n 0, 1) := dk_42 (dk_at dksX4_image_3 3 rfl rfl)
theorem dX4_image_76 : decode cX4_image 76 = .ok (.iload_n 2, 1) := dk_28 (dk_at dksX4_image_3 4 rfl rfl)
theorem dX4_image_77 : decode cX4_image 77 = .ok (.invokevirtual 193, 3) := dk_182 0 193 (dk_at dksX4_image_3 5 rfl rfl)
theorem dX4_image_80 : decode cX4_image 80 = .ok (.aload_n 0, 1) := dk_42 (dk_at dksX4_image_3 8 rfl rfl)
theorem dX4_image_81 : decode cX4_image 81 = .ok (.getfield 184, 3) := dk_180 0 184 (dk_at dksX4_image_3 9 rfl rfl)
theorem dX4_image_84 : decode cX4_image 84 = .ok (.ireturn, 1) := dk_172 (dk_at dksX4_image_3 12 rfl rfl)
abbrev cX4_noMap : ByteArray := prog_13_method_84_code
def yX4_noMap : MethodName := ⟨RX4, "noMap", "(I)Z"⟩
def dkwX4_noMap_1 : List UInt8 := [182, 0, 180, 172]
abbrev dktX4_noMap_1 : List UInt8 := dkwX4_noMap_1 ++ []
def dkwX4_noMap_0 : List UInt8 := [42, 27, 3, 42, 180, 0, 77, 7, 46, 4, 100, 184, 0, 65, 154, 0, 7, 4, 167, 0, 4, 3, 4]
abbrev dktX4_noMap_0 : List UInt8 := dkwX4_noMap_0 ++ dktX4_noMap_1
theorem dksX4_noMap_0 : cX4_noMap.data.toList.drop 0 = dktX4_noMap_0 := by decide +kernel
theorem dksX4_noMap_1 : cX4_noMap.data.toList.drop 23 = dktX4_noMap_1 := dk_seg dksX4_noMap_0 23 rfl rfl
theorem dX4_noMap_0 : decode cX4_noMap 0 = .ok (.aload_n 0, 1) := dk_42 (dk_at dksX4_noMap_0 0 rfl rfl)
theorem dX4_noMap_1 : decode cX4_noMap 1 = .ok (.iload_n 1, 1) := dk_27 (dk_at dksX4_noMap_0 1 rfl rfl)
theorem dX4_noMap_2 : decode cX4_noMap 2 = .ok (.iconst 0, 1) := dk_3 (dk_at dksX4_noMap_0 2 rfl rfl)
theorem dX4_noMap_3 : decode cX4_noMap 3 = .ok (.aload_n 0, 1) := dk_42 (dk_at dksX4_noMap_0 3 rfl rfl)
theorem dX4_noMap_4 : decode cX4_noMap 4 = .ok (.getfield 77, 3) := dk_180 0 77 (dk_at dksX4_noMap_0 4 rfl rfl)
theorem dX4_noMap_7 : decode cX4_noMap 7 = .ok (.iconst 4, 1) := dk_7 (dk_at dksX4_noMap_0 7 rfl rfl)
theorem dX4_noMap_8 : decode cX4_noMap 8 = .ok (.iaload, 1) := dk_46 (dk_at dksX4_noMap_0 8 rfl rfl)
theorem dX4_noMap_9 : decode cX4_noMap 9 = .ok (.iconst 1, 1) := dk_4 (dk_at dksX4_noMap_0 9 rfl rfl)
theorem dX4_noMap_10 : decode cX4_noMap 10 = .ok (.isub, 1) := dk_100 (dk_at dksX4_noMap_0 10 rfl rfl)
theorem dX4_noMap_11 : decode cX4_noMap 11 = .ok (.invokestatic 65, 3) := dk_184 0 65 (dk_at dksX4_noMap_0 11 rfl rfl)
theorem dX4_noMap_14 : decode cX4_noMap 14 = .ok (.ifCond .ne 7, 3) := dk_154 0 7 (dk_at dksX4_noMap_0 14 rfl rfl)
theorem dX4_noMap_17 : decode cX4_noMap 17 = .ok (.iconst 1, 1) := dk_4 (dk_at dksX4_noMap_0 17 rfl rfl)
theorem dX4_noMap_18 : decode cX4_noMap 18 = .ok (.goto 4, 3) := dk_167 0 4 (dk_at dksX4_noMap_0 18 rfl rfl)
theorem dX4_noMap_21 : decode cX4_noMap 21 = .ok (.iconst 0, 1) := dk_3 (dk_at dksX4_noMap_0 21 rfl rfl)
theorem dX4_noMap_22 : decode cX4_noMap 22 = .ok (.iconst 1, 1) := dk_4 (dk_at dksX4_noMap_0 22 rfl rfl)
theorem dX4_noMap_23 : decode cX4_noMap 23 = .ok (.invokevirtual 180, 3) := dk_182 0 180 (dk_at dksX4_noMap_1 0 rfl rfl)
theorem dX4_noMap_26 : decode cX4_noMap 26 = .ok (.ireturn, 1) := dk_172 (dk_at dksX4_noMap_1 3 rfl rfl)
abbrev cX4_imaged : ByteArray := prog_13_method_90_code
def yX4_imaged : MethodName := ⟨RX4, "imaged", "(III)I"⟩
def dkwX4_imaged_2 : List UInt8 := [184, 0, 65, 153, 0, 13, 42, 27, 28, 29, 182, 1, 52, 167, 0, 4, 2, 172]
abbrev dktX4_imaged_2 : List UInt8 := dkwX4_imaged_2 ++ []
def dkwX4_imaged_1 : List UInt8 := [29, 2, 160, 0, 12, 42, 27, 28, 182, 1, 49, 167, 0, 30, 29, 3, 42, 27, 28, 182, 1, 49, 4, 100]
abbrev dktX4_imaged_1 : List UInt8 := dkwX4_imaged_1 ++ dktX4_imaged_2
def dkwX4_imaged_0 : List UInt8 := [42, 3, 181, 0, 3, 42, 27, 182, 1, 63, 154, 0, 12, 42, 28, 5, 182, 0, 196, 153, 0, 5, 3, 172]
abbrev dktX4_imaged_0 : List UInt8 := dkwX4_imaged_0 ++ dktX4_imaged_1
theorem dksX4_imaged_0 : cX4_imaged.data.toList.drop 0 = dktX4_imaged_0 := by decide +kernel
theorem dksX4_imaged_1 : cX4_imaged.data.toList.drop 24 = dktX4_imaged_1 := dk_seg dksX4_imaged_0 24 rfl rfl
theorem dksX4_imaged_2 : cX4_imaged.data.toList.drop 48 = dktX4_imaged_2 := dk_seg dksX4_imaged_1 24 rfl rfl
theorem dX4_imaged_0 : decode cX4_imaged 0 = .ok (.aload_n 0, 1) := dk_42 (dk_at dksX4_imaged_0 0 rfl rfl)
theorem dX4_imaged_1 : decode cX4_imaged 1 = .ok (.iconst 0, 1) := dk_3 (dk_at dksX4_imaged_0 1 rfl rfl)
theorem dX4_imaged_2 : decode cX4_imaged 2 = .ok (.putfield 3, 3) := dk_181 0 3 (dk_at dksX4_imaged_0 2 rfl rfl)
theorem dX4_imaged_5 : decode cX4_imaged 5 = .ok (.aload_n 0, 1) := dk_42 (dk_at dksX4_imaged_0 5 rfl rfl)
theorem dX4_imaged_6 : decode cX4_imaged 6 = .ok (.iload_n 1, 1) := dk_27 (dk_at dksX4_imaged_0 6 rfl rfl)
theorem dX4_imaged_7 : decode cX4_imaged 7 = .ok (.invokevirtual 319, 3) := dk_182 1 63 (dk_at dksX4_imaged_0 7 rfl rfl)
theorem dX4_imaged_10 : decode cX4_imaged 10 = .ok (.ifCond .ne 12, 3) := dk_154 0 12 (dk_at dksX4_imaged_0 10 rfl rfl)
theorem dX4_imaged_13 : decode cX4_imaged 13 = .ok (.aload_n 0, 1) := dk_42 (dk_at dksX4_imaged_0 13 rfl rfl)
theorem dX4_imaged_14 : decode cX4_imaged 14 = .ok (.iload_n 2, 1) := dk_28 (dk_at dksX4_imaged_0 14 rfl rfl)
theorem dX4_imaged_15 : decode cX4_imaged 15 = .ok (.iconst 2, 1) := dk_5 (dk_at dksX4_imaged_0 15 rfl rfl)
theorem dX4_imaged_16 : decode cX4_imaged 16 = .ok (.invokevirtual 196, 3) := dk_182 0 196 (dk_at dksX4_imaged_0 16 rfl rfl)
theorem dX4_imaged_19 : decode cX4_imaged 19 = .ok (.ifCond .eq 5, 3) := dk_153 0 5 (dk_at dksX4_imaged_0 19 rfl rfl)
theorem dX4_imaged_22 : decode cX4_imaged 22 = .ok (.iconst 0, 1) := dk_3 (dk_at dksX4_imaged_0 22 rfl rfl)
theorem dX4_imaged_23 : decode cX4_imaged 23 = .ok (.ireturn, 1) := dk_172 (dk_at dksX4_imaged_0 23 rfl rfl)
theorem dX4_imaged_24 : decode cX4_imaged 24 = .ok (.iload_n 3, 1) := dk_29 (dk_at dksX4_imaged_1 0 rfl rfl)
theorem dX4_imaged_25 : decode cX4_imaged 25 = .ok (.iconst (-1), 1) := dk_2 (dk_at dksX4_imaged_1 1 rfl rfl)
theorem dX4_imaged_26 : decode cX4_imaged 26 = .ok (.if_icmp .ne 12, 3) := dk_160 0 12 (dk_at dksX4_imaged_1 2 rfl rfl)
theorem dX4_imaged_29 : decode cX4_imaged 29 = .ok (.aload_n 0, 1) := dk_42 (dk_at dksX4_imaged_1 5 rfl rfl)
theorem dX4_imaged_30 : decode cX4_imaged 30 = .ok (.iload_n 1, 1) := dk_27 (dk_at dksX4_imaged_1 6 rfl rfl)
theorem dX4_imaged_31 : decode cX4_imaged 31 = .ok (.iload_n 2, 1) := dk_28 (dk_at dksX4_imaged_1 7 rfl rfl)
theorem dX4_imaged_32 : decode cX4_imaged 32 = .ok (.invokevirtual 305, 3) := dk_182 1 49 (dk_at dksX4_imaged_1 8 rfl rfl)
theorem dX4_imaged_35 : decode cX4_imaged 35 = .ok (.goto 30, 3) := dk_167 0 30 (dk_at dksX4_imaged_1 11 rfl rfl)
theorem dX4_imaged_38 : decode cX4_imaged 38 = .ok (.iload_n 3, 1) := dk_29 (dk_at dksX4_imaged_1 14 rfl rfl)
theorem dX4_imaged_39 : decode cX4_imaged 39 = .ok (.iconst 0, 1) := dk_3 (dk_at dksX4_imaged_1 15 rfl rfl)
theorem dX4_imaged_40 : decode cX4_imaged 40 = .ok (.aload_n 0, 1) := dk_42 (dk_at dksX4_imaged_1 16 rfl rfl)
theorem dX4_imaged_41 : decode cX4_imaged 41 = .ok (.iload_n 1, 1) := dk_27 (dk_at dksX4_imaged_1 17 rfl rfl)
theorem dX4_imaged_42 : decode cX4_imaged 42 = .ok (.iload_n 2, 1) := dk_28 (dk_at dksX4_imaged_1 18 rfl rfl)
theorem dX4_imaged_43 : decode cX4_imaged 43 = .ok (.invokevirtual 305, 3) := dk_182 1 49 (dk_at dksX4_imaged_1 19 rfl rfl)
theorem dX4_imaged_46 : decode cX4_imaged 46 = .ok (.iconst 1, 1) := dk_4 (dk_at dksX4_imaged_1 22 rfl rfl)
theorem dX4_imaged_47 : decode cX4_imaged 47 = .ok (.isub, 1) := dk_100 (dk_at dksX4_imaged_1 23 rfl rfl)
theorem dX4_imaged_48 : decode cX4_imaged 48 = .ok (.invokestatic 65, 3) := dk_184 0 65 (dk_at dksX4_imaged_2 0 rfl rfl)
theorem dX4_imaged_51 : decode cX4_imaged 51 = .ok (.ifCond .eq 13, 3) := dk_153 0 13 (dk_at dksX4_imaged_2 3 rfl rfl)
theorem dX4_imaged_54 : decode cX4_imaged 54 = .ok (.aload_n 0, 1) := dk_42 (dk_at dksX4_imaged_2 6 rfl rfl)
theorem dX4_imaged_55 : decode cX4_imaged 55 = .ok (.iload_n 1, 1) := dk_27 (dk_at dksX4_imaged_2 7 rfl rfl)
theorem dX4_imaged_56 : decode cX4_imaged 56 = .ok (.iload_n 2, 1) := dk_28 (dk_at dksX4_imaged_2 8 rfl rfl)
theorem dX4_imaged_57 : decode cX4_imaged 57 = .ok (.iload_n 3, 1) := dk_29 (dk_at dksX4_imaged_2 9 rfl rfl)
theorem dX4_imaged_58 : decode cX4_imaged 58 = .ok (.invokevirtual 308, 3) := dk_182 1 52 (dk_at dksX4_imaged_2 10 rfl rfl)
theorem dX4_imaged_61 : decode cX4_imaged 61 = .ok (.goto 4, 3) := dk_167 0 4 (dk_at dksX4_imaged_2 13 rfl rfl)
theorem dX4_imaged_64 : decode cX4_imaged 64 = .ok (.iconst (-1), 1) := dk_2 (dk_at dksX4_imaged_2 16 rfl rfl)
theorem dX4_imaged_65 : decode cX4_imaged 65 = .ok (.ireturn, 1) := dk_172 (dk_at dksX4_imaged_2 17 rfl rfl)
abbrev cX4_length : ByteArray := prog_13_method_95_code
def yX4_length : MethodName := ⟨RX4, "length", "(III)J"⟩
def dkwX4_length_1 : List UInt8 := [29, 28, 182, 1, 76, 173]
abbrev dktX4_length_1 : List UInt8 := dkwX4_length_1 ++ []
def dkwX4_length_0 : List UInt8 := [42, 3, 181, 0, 3, 42, 27, 28, 29, 182, 1, 69, 153, 0, 5, 9, 173, 42, 27, 29, 182, 1, 72, 42]
abbrev dktX4_length_0 : List UInt8 := dkwX4_length_0 ++ dktX4_length_1
theorem dksX4_length_0 : cX4_length.data.toList.drop 0 = dktX4_length_0 := by decide +kernel
theorem dksX4_length_1 : cX4_length.data.toList.drop 24 = dktX4_length_1 := dk_seg dksX4_length_0 24 rfl rfl
theorem dX4_length_0 : decode cX4_length 0 = .ok (.aload_n 0, 1) := dk_42 (dk_at dksX4_length_0 0 rfl rfl)
theorem dX4_length_1 : decode cX4_length 1 = .ok (.iconst 0, 1) := dk_3 (dk_at dksX4_length_0 1 rfl rfl)
theorem dX4_length_2 : decode cX4_length 2 = .ok (.putfield 3, 3) := dk_181 0 3 (dk_at dksX4_length_0 2 rfl rfl)
theorem dX4_length_5 : decode cX4_length 5 = .ok (.aload_n 0, 1) := dk_42 (dk_at dksX4_length_0 5 rfl rfl)
theorem dX4_length_6 : decode cX4_length 6 = .ok (.iload_n 1, 1) := dk_27 (dk_at dksX4_length_0 6 rfl rfl)
theorem dX4_length_7 : decode cX4_length 7 = .ok (.iload_n 2, 1) := dk_28 (dk_at dksX4_length_0 7 rfl rfl)
theorem dX4_length_8 : decode cX4_length 8 = .ok (.iload_n 3, 1) := dk_29 (dk_at dksX4_length_0 8 rfl rfl)
theorem dX4_length_9 : decode cX4_length 9 = .ok (.invokevirtual 325, 3) := dk_182 1 69 (dk_at dksX4_length_0 9 rfl rfl)
theorem dX4_length_12 : decode cX4_length 12 = .ok (.ifCond .eq 5, 3) := dk_153 0 5 (dk_at dksX4_length_0 12 rfl rfl)
theorem dX4_length_15 : decode cX4_length 15 = .ok (.lconst 0, 1) := dk_9 (dk_at dksX4_length_0 15 rfl rfl)
theorem dX4_length_16 : decode cX4_length 16 = .ok (.lreturn, 1) := dk_173 (dk_at dksX4_length_0 16 rfl rfl)
theorem dX4_length_17 : decode cX4_length 17 = .ok (.aload_n 0, 1) := dk_42 (dk_at dksX4_length_0 17 rfl rfl)
theorem dX4_length_18 : decode cX4_length 18 = .ok (.iload_n 1, 1) := dk_27 (dk_at dksX4_length_0 18 rfl rfl)
theorem dX4_length_19 : decode cX4_length 19 = .ok (.iload_n 3, 1) := dk_29 (dk_at dksX4_length_0 19 rfl rfl)
theorem dX4_length_20 : decode cX4_length 20 = .ok (.invokevirtual 328, 3) := dk_182 1 72 (dk_at dksX4_length_0 20 rfl rfl)
theorem dX4_length_23 : decode cX4_length 23 = .ok (.aload_n 0, 1) := dk_42 (dk_at dksX4_length_0 23 rfl rfl)
theorem dX4_length_24 : decode cX4_length 24 = .ok (.iload_n 3, 1) := dk_29 (dk_at dksX4_length_1 0 rfl rfl)
theorem dX4_length_25 : decode cX4_length 25 = .ok (.iload_n 2, 1) := dk_28 (dk_at dksX4_length_1 1 rfl rfl)
theorem dX4_length_26 : decode cX4_length 26 = .ok (.invokevirtual 332, 3) := dk_182 1 76 (dk_at dksX4_length_1 2 rfl rfl)
theorem dX4_length_29 : decode cX4_length 29 = .ok (.lreturn, 1) := dk_173 (dk_at dksX4_length_1 5 rfl rfl)
abbrev cX4_noPower : ByteArray := prog_13_method_94_code
def yX4_noPower : MethodName := ⟨RX4, "noPower", "(III)Z"⟩
def dkwX4_noPower_1 : List UInt8 := [184, 0, 65, 154, 0, 7, 4, 167, 0, 4, 3, 5, 182, 0, 180, 153, 0, 7, 4, 167, 0, 4, 3, 172]
abbrev dktX4_noPower_1 : List UInt8 := dkwX4_noPower_1 ++ []
def dkwX4_noPower_0 : List UInt8 := [42, 27, 182, 1, 63, 154, 0, 35, 42, 28, 5, 182, 0, 196, 154, 0, 26, 42, 29, 3, 16, 12]
abbrev dktX4_noPower_0 : List UInt8 := dkwX4_noPower_0 ++ dktX4_noPower_1
theorem dksX4_noPower_0 : cX4_noPower.data.toList.drop 0 = dktX4_noPower_0 := by decide +kernel
theorem dksX4_noPower_1 : cX4_noPower.data.toList.drop 22 = dktX4_noPower_1 := dk_seg dksX4_noPower_0 22 rfl rfl
theorem dX4_noPower_0 : decode cX4_noPower 0 = .ok (.aload_n 0, 1) := dk_42 (dk_at dksX4_noPower_0 0 rfl rfl)
theorem dX4_noPower_1 : decode cX4_noPower 1 = .ok (.iload_n 1, 1) := dk_27 (dk_at dksX4_noPower_0 1 rfl rfl)
theorem dX4_noPower_2 : decode cX4_noPower 2 = .ok (.invokevirtual 319, 3) := dk_182 1 63 (dk_at dksX4_noPower_0 2 rfl rfl)
theorem dX4_noPower_5 : decode cX4_noPower 5 = .ok (.ifCond .ne 35, 3) := dk_154 0 35 (dk_at dksX4_noPower_0 5 rfl rfl)
theorem dX4_noPower_8 : decode cX4_noPower 8 = .ok (.aload_n 0, 1) := dk_42 (dk_at dksX4_noPower_0 8 rfl rfl)
theorem dX4_noPower_9 : decode cX4_noPower 9 = .ok (.iload_n 2, 1) := dk_28 (dk_at dksX4_noPower_0 9 rfl rfl)
theorem dX4_noPower_10 : decode cX4_noPower 10 = .ok (.iconst 2, 1) := dk_5 (dk_at dksX4_noPower_0 10 rfl rfl)
theorem dX4_noPower_11 : decode cX4_noPower 11 = .ok (.invokevirtual 196, 3) := dk_182 0 196 (dk_at dksX4_noPower_0 11 rfl rfl)
theorem dX4_noPower_14 : decode cX4_noPower 14 = .ok (.ifCond .ne 26, 3) := dk_154 0 26 (dk_at dksX4_noPower_0 14 rfl rfl)
theorem dX4_noPower_17 : decode cX4_noPower 17 = .ok (.aload_n 0, 1) := dk_42 (dk_at dksX4_noPower_0 17 rfl rfl)
theorem dX4_noPower_18 : decode cX4_noPower 18 = .ok (.iload_n 3, 1) := dk_29 (dk_at dksX4_noPower_0 18 rfl rfl)
theorem dX4_noPower_19 : decode cX4_noPower 19 = .ok (.iconst 0, 1) := dk_3 (dk_at dksX4_noPower_0 19 rfl rfl)
theorem dX4_noPower_20 : decode cX4_noPower 20 = .ok (.bipush 12, 2) := dk_16 12 (dk_at dksX4_noPower_0 20 rfl rfl)
theorem dX4_noPower_22 : decode cX4_noPower 22 = .ok (.invokestatic 65, 3) := dk_184 0 65 (dk_at dksX4_noPower_1 0 rfl rfl)
theorem dX4_noPower_25 : decode cX4_noPower 25 = .ok (.ifCond .ne 7, 3) := dk_154 0 7 (dk_at dksX4_noPower_1 3 rfl rfl)
theorem dX4_noPower_28 : decode cX4_noPower 28 = .ok (.iconst 1, 1) := dk_4 (dk_at dksX4_noPower_1 6 rfl rfl)
theorem dX4_noPower_29 : decode cX4_noPower 29 = .ok (.goto 4, 3) := dk_167 0 4 (dk_at dksX4_noPower_1 7 rfl rfl)
theorem dX4_noPower_32 : decode cX4_noPower 32 = .ok (.iconst 0, 1) := dk_3 (dk_at dksX4_noPower_1 10 rfl rfl)
theorem dX4_noPower_33 : decode cX4_noPower 33 = .ok (.iconst 2, 1) := dk_5 (dk_at dksX4_noPower_1 11 rfl rfl)
theorem dX4_noPower_34 : decode cX4_noPower 34 = .ok (.invokevirtual 180, 3) := dk_182 0 180 (dk_at dksX4_noPower_1 12 rfl rfl)
theorem dX4_noPower_37 : decode cX4_noPower 37 = .ok (.ifCond .eq 7, 3) := dk_153 0 7 (dk_at dksX4_noPower_1 15 rfl rfl)
theorem dX4_noPower_40 : decode cX4_noPower 40 = .ok (.iconst 1, 1) := dk_4 (dk_at dksX4_noPower_1 18 rfl rfl)
theorem dX4_noPower_41 : decode cX4_noPower 41 = .ok (.goto 4, 3) := dk_167 0 4 (dk_at dksX4_noPower_1 19 rfl rfl)
theorem dX4_noPower_44 : decode cX4_noPower 44 = .ok (.iconst 0, 1) := dk_3 (dk_at dksX4_noPower_1 22 rfl rfl)
theorem dX4_noPower_45 : decode cX4_noPower 45 = .ok (.ireturn, 1) := dk_172 (dk_at dksX4_noPower_1 23 rfl rfl)
abbrev cX4_laysCounts : ByteArray := prog_13_method_92_code
def yX4_laysCounts : MethodName := ⟨RX4, "laysCounts", "(II)V"⟩
def dkwX4_laysCounts_7 : List UInt8 := [132, 3, 1, 167, 255, 140, 177]
abbrev dktX4_laysCounts_7 : List UInt8 := dkwX4_laysCounts_7 ++ []
def dkwX4_laysCounts_6 : List UInt8 := [184, 1, 66, 47, 97, 80, 132, 6, 1, 167, 255, 203, 132, 5, 1, 167, 255, 174, 132, 4, 1, 167, 255, 154]
abbrev dktX4_laysCounts_6 : List UInt8 := dkwX4_laysCounts_6 ++ dktX4_laysCounts_7
def dkwX4_laysCounts_5 : List UInt8 := [184, 1, 66, 92, 47, 42, 180, 0, 104, 29, 4, 100, 42, 27, 21, 4, 21, 6, 182, 1, 52, 21, 5]
abbrev dktX4_laysCounts_5 : List UInt8 := dkwX4_laysCounts_5 ++ dktX4_laysCounts_6
def dkwX4_laysCounts_4 : List UInt8 := [54, 6, 21, 6, 42, 27, 21, 4, 182, 1, 49, 162, 0, 47, 42, 180, 0, 104, 29, 21, 4, 21, 5]
abbrev dktX4_laysCounts_4 : List UInt8 := dkwX4_laysCounts_4 ++ dktX4_laysCounts_5
def dkwX4_laysCounts_3 : List UInt8 := [3, 54, 5, 21, 5, 7, 162, 0, 82, 42, 180, 0, 104, 29, 21, 4, 21, 5, 184, 1, 66, 9, 80, 3]
abbrev dktX4_laysCounts_3 : List UInt8 := dkwX4_laysCounts_3 ++ dktX4_laysCounts_4
def dkwX4_laysCounts_2 : List UInt8 := [167, 255, 210, 4, 62, 29, 28, 163, 0, 117, 3, 54, 4, 21, 4, 42, 180, 0, 77, 3, 46, 162, 0, 97]
abbrev dktX4_laysCounts_2 : List UInt8 := dkwX4_laysCounts_2 ++ dktX4_laysCounts_3
def dkwX4_laysCounts_1 : List UInt8 := [184, 1, 66, 29, 21, 4, 160, 0, 7, 10, 167, 0, 4, 9, 80, 132, 4, 1, 167, 255, 224, 132, 3, 1]
abbrev dktX4_laysCounts_1 : List UInt8 := dkwX4_laysCounts_1 ++ dktX4_laysCounts_2
def dkwX4_laysCounts_0 : List UInt8 := [3, 62, 29, 7, 162, 0, 47, 3, 54, 4, 21, 4, 7, 162, 0, 32, 42, 180, 0, 104, 3, 29, 21, 4]
abbrev dktX4_laysCounts_0 : List UInt8 := dkwX4_laysCounts_0 ++ dktX4_laysCounts_1
theorem dksX4_laysCounts_0 : cX4_laysCounts.data.toList.drop 0 = dktX4_laysCounts_0 := by decide +kernel
theorem dksX4_laysCounts_1 : cX4_laysCounts.data.toList.drop 24 = dktX4_laysCounts_1 := dk_seg dksX4_laysCounts_0 24 rfl rfl
theorem dksX4_laysCounts_2 : cX4_laysCounts.data.toList.drop 48 = dktX4_laysCounts_2 := dk_seg dksX4_laysCounts_1 24 rfl rfl
theorem dksX4_laysCounts_3 : cX4_laysCounts.data.toList.drop 72 = dktX4_laysCounts_3 := dk_seg dksX4_laysCounts_2 24 rfl rfl
theorem dksX4_laysCounts_4 : cX4_laysCounts.data.toList.drop 96 = dktX4_laysCounts_4 := dk_seg dksX4_laysCounts_3 24 rfl rfl
theorem dksX4_laysCounts_5 : cX4_laysCounts.data.toList.drop 119 = dktX4_laysCounts_5 := dk_seg dksX4_laysCounts_4 23 rfl rfl
theorem dksX4_laysCounts_6 : cX4_laysCounts.data.toList.drop 142 = dktX4_laysCounts_6 := dk_seg dksX4_laysCounts_5 23 rfl rfl
theorem dksX4_laysCounts_7 : cX4_laysCounts.data.toList.drop 166 = dktX4_laysCounts_7 := dk_seg dksX4_laysCounts_6 24 rfl rfl
theorem dX4_laysCounts_0 : decode cX4_laysCounts 0 = .ok (.iconst 0, 1) := dk_3 (dk_at dksX4_laysCounts_0 0 rfl rfl)
theorem dX4_laysCounts_1 : decode cX4_laysCounts 1 = .ok (.istore_n 3, 1) := dk_62 (dk_at dksX4_laysCounts_0 1 rfl rfl)
theorem dX4_laysCounts_2 : decode cX4_laysCounts 2 = .ok (.iload_n 3, 1) := dk_29 (dk_at dksX4_laysCounts_0 2 rfl rfl)
theorem dX4_laysCounts_3 : decode cX4_laysCounts 3 = .ok (.iconst 4, 1) := dk_7 (dk_at dksX4_laysCounts_0 3 rfl rfl)
theorem dX4_laysCounts_4 : decode cX4_laysCounts 4 = .ok (.if_icmp .ge 47, 3) := dk_162 0 47 (dk_at dksX4_laysCounts_0 4 rfl rfl)
theorem dX4_laysCounts_7 : decode cX4_laysCounts 7 = .ok (.iconst 0, 1) := dk_3 (dk_at dksX4_laysCounts_0 7 rfl rfl)
theorem dX4_laysCounts_8 : decode cX4_laysCounts 8 = .ok (.istore 4, 2) := dk_54 4 (dk_at dksX4_laysCounts_0 8 rfl rfl)
theorem dX4_laysCounts_10 : decode cX4_laysCounts 10 = .ok (.iload 4, 2) := dk_21 4 (dk_at dksX4_laysCounts_0 10 rfl rfl)
theorem dX4_laysCounts_12 : decode cX4_laysCounts 12 = .ok (.iconst 4, 1) := dk_7 (dk_at dksX4_laysCounts_0 12 rfl rfl)
theorem dX4_laysCounts_13 : decode cX4_laysCounts 13 = .ok (.if_icmp .ge 32, 3) := dk_162 0 32 (dk_at dksX4_laysCounts_0 13 rfl rfl)
theorem dX4_laysCounts_16 : decode cX4_laysCounts 16 = .ok (.aload_n 0, 1) := dk_42 (dk_at dksX4_laysCounts_0 16 rfl rfl)
theorem dX4_laysCounts_17 : decode cX4_laysCounts 17 = .ok (.getfield 104, 3) := dk_180 0 104 (dk_at dksX4_laysCounts_0 17 rfl rfl)
theorem dX4_laysCounts_20 : decode cX4_laysCounts 20 = .ok (.iconst 0, 1) := dk_3 (dk_at dksX4_laysCounts_0 20 rfl rfl)
theorem dX4_laysCounts_21 : decode cX4_laysCounts 21 = .ok (.iload_n 3, 1) := dk_29 (dk_at dksX4_laysCounts_0 21 rfl rfl)
theorem dX4_laysCounts_22 : decode cX4_laysCounts 22 = .ok (.iload 4, 2) := dk_21 4 (dk_at dksX4_laysCounts_0 22 rfl rfl)
theorem dX4_laysCounts_24 : decode cX4_laysCounts 24 = .ok (.invokestatic 322, 3) := dk_184 1 66 (dk_at dksX4_laysCounts_1 0 rfl rfl)
theorem dX4_laysCounts_27 : decode cX4_laysCounts 27 = .ok (.iload_n 3, 1) := dk_29 (dk_at dksX4_laysCounts_1 3 rfl rfl)
theorem dX4_laysCounts_28 : decode cX4_laysCounts 28 = .ok (.iload 4, 2) := dk_21 4 (dk_at dksX4_laysCounts_1 4 rfl rfl)
theorem dX4_laysCounts_30 : decode cX4_laysCounts 30 = .ok (.if_icmp .ne 7, 3) := dk_160 0 7 (dk_at dksX4_laysCounts_1 6 rfl rfl)
theorem dX4_laysCounts_33 : decode cX4_laysCounts 33 = .ok (.lconst 1, 1) := dk_10 (dk_at dksX4_laysCounts_1 9 rfl rfl)
theorem dX4_laysCounts_34 : decode cX4_laysCounts 34 = .ok (.goto 4, 3) := dk_167 0 4 (dk_at dksX4_laysCounts_1 10 rfl rfl)
theorem dX4_laysCounts_37 : decode cX4_laysCounts 37 = .ok (.lconst 0, 1) := dk_9 (dk_at dksX4_laysCounts_1 13 rfl rfl)
theorem dX4_laysCounts_38 : decode cX4_laysCounts 38 = .ok (.lastore, 1) := dk_80 (dk_at dksX4_laysCounts_1 14 rfl rfl)
theorem dX4_laysCounts_39 : decode cX4_laysCounts 39 = .ok (.iinc 4 1, 3) := dk_132 4 1 (dk_at dksX4_laysCounts_1 15 rfl rfl)
theorem dX4_laysCounts_42 : decode cX4_laysCounts 42 = .ok (.goto (-32), 3) := dk_167 255 224 (dk_at dksX4_laysCounts_1 18 rfl rfl)
theorem dX4_laysCounts_45 : decode cX4_laysCounts 45 = .ok (.iinc 3 1, 3) := dk_132 3 1 (dk_at dksX4_laysCounts_1 21 rfl rfl)
theorem dX4_laysCounts_48 : decode cX4_laysCounts 48 = .ok (.goto (-46), 3) := dk_167 255 210 (dk_at dksX4_laysCounts_2 0 rfl rfl)
theorem dX4_laysCounts_51 : decode cX4_laysCounts 51 = .ok (.iconst 1, 1) := dk_4 (dk_at dksX4_laysCounts_2 3 rfl rfl)
theorem dX4_laysCounts_52 : decode cX4_laysCounts 52 = .ok (.istore_n 3, 1) := dk_62 (dk_at dksX4_laysCounts_2 4 rfl rfl)
theorem dX4_laysCounts_53 : decode cX4_laysCounts 53 = .ok (.iload_n 3, 1) := dk_29 (dk_at dksX4_laysCounts_2 5 rfl rfl)
theorem dX4_laysCounts_54 : decode cX4_laysCounts 54 = .ok (.iload_n 2, 1) := dk_28 (dk_at dksX4_laysCounts_2 6 rfl rfl)
theorem dX4_laysCounts_55 : decode cX4_laysCounts 55 = .ok (.if_icmp .gt 117, 3) := dk_163 0 117 (dk_at dksX4_laysCounts_2 7 rfl rfl)
theorem dX4_laysCounts_58 : decode cX4_laysCounts 58 = .ok (.iconst 0, 1) := dk_3 (dk_at dksX4_laysCounts_2 10 rfl rfl)
theorem dX4_laysCounts_59 : decode cX4_laysCounts 59 = .ok (.istore 4, 2) := dk_54 4 (dk_at dksX4_laysCounts_2 11 rfl rfl)
theorem dX4_laysCounts_61 : decode cX4_laysCounts 61 = .ok (.iload 4, 2) := dk_21 4 (dk_at dksX4_laysCounts_2 13 rfl rfl)
theorem dX4_laysCounts_63 : decode cX4_laysCounts 63 = .ok (.aload_n 0, 1) := dk_42 (dk_at dksX4_laysCounts_2 15 rfl rfl)
theorem dX4_laysCounts_64 : decode cX4_laysCounts 64 = .ok (.getfield 77, 3) := dk_180 0 77 (dk_at dksX4_laysCounts_2 16 rfl rfl)
theorem dX4_laysCounts_67 : decode cX4_laysCounts 67 = .ok (.iconst 0, 1) := dk_3 (dk_at dksX4_laysCounts_2 19 rfl rfl)
theorem dX4_laysCounts_68 : decode cX4_laysCounts 68 = .ok (.iaload, 1) := dk_46 (dk_at dksX4_laysCounts_2 20 rfl rfl)
theorem dX4_laysCounts_69 : decode cX4_laysCounts 69 = .ok (.if_icmp .ge 97, 3) := dk_162 0 97 (dk_at dksX4_laysCounts_2 21 rfl rfl)
theorem dX4_laysCounts_72 : decode cX4_laysCounts 72 = .ok (.iconst 0, 1) := dk_3 (dk_at dksX4_laysCounts_3 0 rfl rfl)
theorem dX4_laysCounts_73 : decode cX4_laysCounts 73 = .ok (.istore 5, 2) := dk_54 5 (dk_at dksX4_laysCounts_3 1 rfl rfl)
theorem dX4_laysCounts_75 : decode cX4_laysCounts 75 = .ok (.iload 5, 2) := dk_21 5 (dk_at dksX4_laysCounts_3 3 rfl rfl)
theorem dX4_laysCounts_77 : decode cX4_laysCounts 77 = .ok (.iconst 4, 1) := dk_7 (dk_at dksX4_laysCounts_3 5 rfl rfl)
theorem dX4_laysCounts_78 : decode cX4_laysCounts 78 = .ok (.if_icmp .ge 82, 3) := dk_162 0 82 (dk_at dksX4_laysCounts_3 6 rfl rfl)
theorem dX4_laysCounts_81 : decode cX4_laysCounts 81 = .ok (.aload_n 0, 1) := dk_42 (dk_at dksX4_laysCounts_3 9 rfl rfl)
theorem dX4_laysCounts_82 : decode cX4_laysCounts 82 = .ok (.getfield 104, 3) := dk_180 0 104 (dk_at dksX4_laysCounts_3 10 rfl rfl)
theorem dX4_laysCounts_85 : decode cX4_laysCounts 85 = .ok (.iload_n 3, 1) := dk_29 (dk_at dksX4_laysCounts_3 13 rfl rfl)
theorem dX4_laysCounts_86 : decode cX4_laysCounts 86 = .ok (.iload 4, 2) := dk_21 4 (dk_at dksX4_laysCounts_3 14 rfl rfl)
theorem dX4_laysCounts_88 : decode cX4_laysCounts 88 = .ok (.iload 5, 2) := dk_21 5 (dk_at dksX4_laysCounts_3 16 rfl rfl)
theorem dX4_laysCounts_90 : decode cX4_laysCounts 90 = .ok (.invokestatic 322, 3) := dk_184 1 66 (dk_at dksX4_laysCounts_3 18 rfl rfl)
theorem dX4_laysCounts_93 : decode cX4_laysCounts 93 = .ok (.lconst 0, 1) := dk_9 (dk_at dksX4_laysCounts_3 21 rfl rfl)
theorem dX4_laysCounts_94 : decode cX4_laysCounts 94 = .ok (.lastore, 1) := dk_80 (dk_at dksX4_laysCounts_3 22 rfl rfl)
theorem dX4_laysCounts_95 : decode cX4_laysCounts 95 = .ok (.iconst 0, 1) := dk_3 (dk_at dksX4_laysCounts_3 23 rfl rfl)
theorem dX4_laysCounts_96 : decode cX4_laysCounts 96 = .ok (.istore 6, 2) := dk_54 6 (dk_at dksX4_laysCounts_4 0 rfl rfl)
theorem dX4_laysCounts_98 : decode cX4_laysCounts 98 = .ok (.iload 6, 2) := dk_21 6 (dk_at dksX4_laysCounts_4 2 rfl rfl)
theorem dX4_laysCounts_100 : decode cX4_laysCounts 100 = .ok (.aload_n 0, 1) := dk_42 (dk_at dksX4_laysCounts_4 4 rfl rfl)
theorem dX4_laysCounts_101 : decode cX4_laysCounts 101 = .ok (.iload_n 1, 1) := dk_27 (dk_at dksX4_laysCounts_4 5 rfl rfl)
theorem dX4_laysCounts_102 : decode cX4_laysCounts 102 = .ok (.iload 4, 2) := dk_21 4 (dk_at dksX4_laysCounts_4 6 rfl rfl)
theorem dX4_laysCounts_104 : decode cX4_laysCounts 104 = .ok (.invokevirtual 305, 3) := dk_182 1 49 (dk_at dksX4_laysCounts_4 8 rfl rfl)
theorem dX4_laysCounts_107 : decode cX4_laysCounts 107 = .ok (.if_icmp .ge 47, 3) := dk_162 0 47 (dk_at dksX4_laysCounts_4 11 rfl rfl)
theorem dX4_laysCounts_110 : decode cX4_laysCounts 110 = .ok (.aload_n 0, 1) := dk_42 (dk_at dksX4_laysCounts_4 14 rfl rfl)
theorem dX4_laysCounts_111 : decode cX4_laysCounts 111 = .ok (.getfield 104, 3) := dk_180 0 104 (dk_at dksX4_laysCounts_4 15 rfl rfl)
theorem dX4_laysCounts_114 : decode cX4_laysCounts 114 = .ok (.iload_n 3, 1) := dk_29 (dk_at dksX4_laysCounts_4 18 rfl rfl)
theorem dX4_laysCounts_115 : decode cX4_laysCounts 115 = .ok (.iload 4, 2) := dk_21 4 (dk_at dksX4_laysCounts_4 19 rfl rfl)
theorem dX4_laysCounts_117 : decode cX4_laysCounts 117 = .ok (.iload 5, 2) := dk_21 5 (dk_at dksX4_laysCounts_4 21 rfl rfl)
theorem dX4_laysCounts_119 : decode cX4_laysCounts 119 = .ok (.invokestatic 322, 3) := dk_184 1 66 (dk_at dksX4_laysCounts_5 0 rfl rfl)
theorem dX4_laysCounts_122 : decode cX4_laysCounts 122 = .ok (.dup2, 1) := dk_92 (dk_at dksX4_laysCounts_5 3 rfl rfl)
theorem dX4_laysCounts_123 : decode cX4_laysCounts 123 = .ok (.laload, 1) := dk_47 (dk_at dksX4_laysCounts_5 4 rfl rfl)
theorem dX4_laysCounts_124 : decode cX4_laysCounts 124 = .ok (.aload_n 0, 1) := dk_42 (dk_at dksX4_laysCounts_5 5 rfl rfl)
theorem dX4_laysCounts_125 : decode cX4_laysCounts 125 = .ok (.getfield 104, 3) := dk_180 0 104 (dk_at dksX4_laysCounts_5 6 rfl rfl)
theorem dX4_laysCounts_128 : decode cX4_laysCounts 128 = .ok (.iload_n 3, 1) := dk_29 (dk_at dksX4_laysCounts_5 9 rfl rfl)
theorem dX4_laysCounts_129 : decode cX4_laysCounts 129 = .ok (.iconst 1, 1) := dk_4 (dk_at dksX4_laysCounts_5 10 rfl rfl)
theorem dX4_laysCounts_130 : decode cX4_laysCounts 130 = .ok (.isub, 1) := dk_100 (dk_at dksX4_laysCounts_5 11 rfl rfl)
theorem dX4_laysCounts_131 : decode cX4_laysCounts 131 = .ok (.aload_n 0, 1) := dk_42 (dk_at dksX4_laysCounts_5 12 rfl rfl)
theorem dX4_laysCounts_132 : decode cX4_laysCounts 132 = .ok (.iload_n 1, 1) := dk_27 (dk_at dksX4_laysCounts_5 13 rfl rfl)
theorem dX4_laysCounts_133 : decode cX4_laysCounts 133 = .ok (.iload 4, 2) := dk_21 4 (dk_at dksX4_laysCounts_5 14 rfl rfl)
theorem dX4_laysCounts_135 : decode cX4_laysCounts 135 = .ok (.iload 6, 2) := dk_21 6 (dk_at dksX4_laysCounts_5 16 rfl rfl)
theorem dX4_laysCounts_137 : decode cX4_laysCounts 137 = .ok (.invokevirtual 308, 3) := dk_182 1 52 (dk_at dksX4_laysCounts_5 18 rfl rfl)
theorem dX4_laysCounts_140 : decode cX4_laysCounts 140 = .ok (.iload 5, 2) := dk_21 5 (dk_at dksX4_laysCounts_5 21 rfl rfl)
theorem dX4_laysCounts_142 : decode cX4_laysCounts 142 = .ok (.invokestatic 322, 3) := dk_184 1 66 (dk_at dksX4_laysCounts_6 0 rfl rfl)
theorem dX4_laysCounts_145 : decode cX4_laysCounts 145 = .ok (.laload, 1) := dk_47 (dk_at dksX4_laysCounts_6 3 rfl rfl)
theorem dX4_laysCounts_146 : decode cX4_laysCounts 146 = .ok (.ladd, 1) := dk_97 (dk_at dksX4_laysCounts_6 4 rfl rfl)
theorem dX4_laysCounts_147 : decode cX4_laysCounts 147 = .ok (.lastore, 1) := dk_80 (dk_at dksX4_laysCounts_6 5 rfl rfl)
theorem dX4_laysCounts_148 : decode cX4_laysCounts 148 = .ok (.iinc 6 1, 3) := dk_132 6 1 (dk_at dksX4_laysCounts_6 6 rfl rfl)
theorem dX4_laysCounts_151 : decode cX4_laysCounts 151 = .ok (.goto (-53), 3) := dk_167 255 203 (dk_at dksX4_laysCounts_6 9 rfl rfl)
theorem dX4_laysCounts_154 : decode cX4_laysCounts 154 = .ok (.iinc 5 1, 3) := dk_132 5 1 (dk_at dksX4_laysCounts_6 12 rfl rfl)
theorem dX4_laysCounts_157 : decode cX4_laysCounts 157 = .ok (.goto (-82), 3) := dk_167 255 174 (dk_at dksX4_laysCounts_6 15 rfl rfl)
theorem dX4_laysCounts_160 : decode cX4_laysCounts 160 = .ok (.iinc 4 1, 3) := dk_132 4 1 (dk_at dksX4_laysCounts_6 18 rfl rfl)
theorem dX4_laysCounts_163 : decode cX4_laysCounts 163 = .ok (.goto (-102), 3) := dk_167 255 154 (dk_at dksX4_laysCounts_6 21 rfl rfl)
theorem dX4_laysCounts_166 : decode cX4_laysCounts 166 = .ok (.iinc 3 1, 3) := dk_132 3 1 (dk_at dksX4_laysCounts_7 0 rfl rfl)
theorem dX4_laysCounts_169 : decode cX4_laysCounts 169 = .ok (.goto (-116), 3) := dk_167 255 140 (dk_at dksX4_laysCounts_7 3 rfl rfl)
theorem dX4_laysCounts_172 : decode cX4_laysCounts 172 = .ok (.return_, 1) := dk_177 (dk_at dksX4_laysCounts_7 6 rfl rfl)
abbrev cX4_at : ByteArray := prog_13_method_91_code
def yX4_at : MethodName := ⟨RX4, "at", "(III)I"⟩
def dkwX4_at_0 : List UInt8 := [7, 7, 26, 104, 27, 96, 104, 28, 96, 172]
abbrev dktX4_at_0 : List UInt8 := dkwX4_at_0 ++ []
theorem dksX4_at_0 : cX4_at.data.toList.drop 0 = dktX4_at_0 := by decide +kernel
theorem dX4_at_0 : decode cX4_at 0 = .ok (.iconst 4, 1) := dk_7 (dk_at dksX4_at_0 0 rfl rfl)
theorem dX4_at_1 : decode cX4_at 1 = .ok (.iconst 4, 1) := dk_7 (dk_at dksX4_at_0 1 rfl rfl)
theorem dX4_at_2 : decode cX4_at 2 = .ok (.iload_n 0, 1) := dk_26 (dk_at dksX4_at_0 2 rfl rfl)
theorem dX4_at_3 : decode cX4_at 3 = .ok (.imul, 1) := dk_104 (dk_at dksX4_at_0 3 rfl rfl)
theorem dX4_at_4 : decode cX4_at 4 = .ok (.iload_n 1, 1) := dk_27 (dk_at dksX4_at_0 4 rfl rfl)
theorem dX4_at_5 : decode cX4_at 5 = .ok (.iadd, 1) := dk_96 (dk_at dksX4_at_0 5 rfl rfl)
theorem dX4_at_6 : decode cX4_at 6 = .ok (.imul, 1) := dk_104 (dk_at dksX4_at_0 6 rfl rfl)
theorem dX4_at_7 : decode cX4_at 7 = .ok (.iload_n 2, 1) := dk_28 (dk_at dksX4_at_0 7 rfl rfl)
theorem dX4_at_8 : decode cX4_at 8 = .ok (.iadd, 1) := dk_96 (dk_at dksX4_at_0 8 rfl rfl)
theorem dX4_at_9 : decode cX4_at 9 = .ok (.ireturn, 1) := dk_172 (dk_at dksX4_at_0 9 rfl rfl)
abbrev cX4_lengthOf : ByteArray := prog_13_method_93_code
def yX4_lengthOf : MethodName := ⟨RX4, "lengthOf", "(II)J"⟩
def dkwX4_lengthOf_1 : List UInt8 := [97, 66, 132, 5, 1, 167, 255, 232, 33, 173]
abbrev dktX4_lengthOf_1 : List UInt8 := dkwX4_lengthOf_1 ++ []
def dkwX4_lengthOf_0 : List UInt8 := [9, 66, 3, 54, 5, 21, 5, 7, 162, 0, 24, 33, 42, 180, 0, 104, 27, 28, 21, 5, 184, 1, 66, 47]
abbrev dktX4_lengthOf_0 : List UInt8 := dkwX4_lengthOf_0 ++ dktX4_lengthOf_1
theorem dksX4_lengthOf_0 : cX4_lengthOf.data.toList.drop 0 = dktX4_lengthOf_0 := by decide +kernel
theorem dksX4_lengthOf_1 : cX4_lengthOf.data.toList.drop 24 = dktX4_lengthOf_1 := dk_seg dksX4_lengthOf_0 24 rfl rfl
theorem dX4_lengthOf_0 : decode cX4_lengthOf 0 = .ok (.lconst 0, 1) := dk_9 (dk_at dksX4_lengthOf_0 0 rfl rfl)
theorem dX4_lengthOf_1 : decode cX4_lengthOf 1 = .ok (.lstore_n 3, 1) := dk_66 (dk_at dksX4_lengthOf_0 1 rfl rfl)
theorem dX4_lengthOf_2 : decode cX4_lengthOf 2 = .ok (.iconst 0, 1) := dk_3 (dk_at dksX4_lengthOf_0 2 rfl rfl)
theorem dX4_lengthOf_3 : decode cX4_lengthOf 3 = .ok (.istore 5, 2) := dk_54 5 (dk_at dksX4_lengthOf_0 3 rfl rfl)
theorem dX4_lengthOf_5 : decode cX4_lengthOf 5 = .ok (.iload 5, 2) := dk_21 5 (dk_at dksX4_lengthOf_0 5 rfl rfl)
theorem dX4_lengthOf_7 : decode cX4_lengthOf 7 = .ok (.iconst 4, 1) := dk_7 (dk_at dksX4_lengthOf_0 7 rfl rfl)
theorem dX4_lengthOf_8 : decode cX4_lengthOf 8 = .ok (.if_icmp .ge 24, 3) := dk_162 0 24 (dk_at dksX4_lengthOf_0 8 rfl rfl)
theorem dX4_lengthOf_11 : decode cX4_lengthOf 11 = .ok (.lload_n 3, 1) := dk_33 (dk_at dksX4_lengthOf_0 11 rfl rfl)
theorem dX4_lengthOf_12 : decode cX4_lengthOf 12 = .ok (.aload_n 0, 1) := dk_42 (dk_at dksX4_lengthOf_0 12 rfl rfl)
theorem dX4_lengthOf_13 : decode cX4_lengthOf 13 = .ok (.getfield 104, 3) := dk_180 0 104 (dk_at dksX4_lengthOf_0 13 rfl rfl)
theorem dX4_lengthOf_16 : decode cX4_lengthOf 16 = .ok (.iload_n 1, 1) := dk_27 (dk_at dksX4_lengthOf_0 16 rfl rfl)
theorem dX4_lengthOf_17 : decode cX4_lengthOf 17 = .ok (.iload_n 2, 1) := dk_28 (dk_at dksX4_lengthOf_0 17 rfl rfl)
theorem dX4_lengthOf_18 : decode cX4_lengthOf 18 = .ok (.iload 5, 2) := dk_21 5 (dk_at dksX4_lengthOf_0 18 rfl rfl)
theorem dX4_lengthOf_20 : decode cX4_lengthOf 20 = .ok (.invokestatic 322, 3) := dk_184 1 66 (dk_at dksX4_lengthOf_0 20 rfl rfl)
theorem dX4_lengthOf_23 : decode cX4_lengthOf 23 = .ok (.laload, 1) := dk_47 (dk_at dksX4_lengthOf_0 23 rfl rfl)
theorem dX4_lengthOf_24 : decode cX4_lengthOf 24 = .ok (.ladd, 1) := dk_97 (dk_at dksX4_lengthOf_1 0 rfl rfl)
theorem dX4_lengthOf_25 : decode cX4_lengthOf 25 = .ok (.lstore_n 3, 1) := dk_66 (dk_at dksX4_lengthOf_1 1 rfl rfl)
theorem dX4_lengthOf_26 : decode cX4_lengthOf 26 = .ok (.iinc 5 1, 3) := dk_132 5 1 (dk_at dksX4_lengthOf_1 2 rfl rfl)
theorem dX4_lengthOf_29 : decode cX4_lengthOf 29 = .ok (.goto (-24), 3) := dk_167 255 232 (dk_at dksX4_lengthOf_1 5 rfl rfl)
theorem dX4_lengthOf_32 : decode cX4_lengthOf 32 = .ok (.lload_n 3, 1) := dk_33 (dk_at dksX4_lengthOf_1 8 rfl rfl)
theorem dX4_lengthOf_33 : decode cX4_lengthOf 33 = .ok (.lreturn, 1) := dk_173 (dk_at dksX4_lengthOf_1 9 rfl rfl)
abbrev cX4_power : ByteArray := prog_13_method_96_code
def yX4_power : MethodName := ⟨RX4, "power", "(IIIJ)I"⟩
def dkwX4_power_2 : List UInt8 := [29, 22, 4, 182, 1, 80, 172]
abbrev dktX4_power_2 : List UInt8 := dkwX4_power_2 ++ []
def dkwX4_power_1 : List UInt8 := [22, 4, 9, 148, 155, 0, 15, 22, 4, 42, 29, 28, 182, 1, 76, 148, 155, 0, 5, 2, 172, 42, 27, 28]
abbrev dktX4_power_1 : List UInt8 := dkwX4_power_1 ++ dktX4_power_2
def dkwX4_power_0 : List UInt8 := [42, 3, 181, 0, 3, 42, 27, 28, 29, 182, 1, 69, 153, 0, 5, 3, 172, 42, 27, 29, 182, 1, 72]
abbrev dktX4_power_0 : List UInt8 := dkwX4_power_0 ++ dktX4_power_1
theorem dksX4_power_0 : cX4_power.data.toList.drop 0 = dktX4_power_0 := by decide +kernel
theorem dksX4_power_1 : cX4_power.data.toList.drop 23 = dktX4_power_1 := dk_seg dksX4_power_0 23 rfl rfl
theorem dksX4_power_2 : cX4_power.data.toList.drop 47 = dktX4_power_2 := dk_seg dksX4_power_1 24 rfl rfl
theorem dX4_power_0 : decode cX4_power 0 = .ok (.aload_n 0, 1) := dk_42 (dk_at dksX4_power_0 0 rfl rfl)
theorem dX4_power_1 : decode cX4_power 1 = .ok (.iconst 0, 1) := dk_3 (dk_at dksX4_power_0 1 rfl rfl)
theorem dX4_power_2 : decode cX4_power 2 = .ok (.putfield 3, 3) := dk_181 0 3 (dk_at dksX4_power_0 2 rfl rfl)
theorem dX4_power_5 : decode cX4_power 5 = .ok (.aload_n 0, 1) := dk_42 (dk_at dksX4_power_0 5 rfl rfl)
theorem dX4_power_6 : decode cX4_power 6 = .ok (.iload_n 1, 1) := dk_27 (dk_at dksX4_power_0 6 rfl rfl)
theorem dX4_power_7 : decode cX4_power 7 = .ok (.iload_n 2, 1) := dk_28 (dk_at dksX4_power_0 7 rfl rfl)
theorem dX4_power_8 : decode cX4_power 8 = .ok (.iload_n 3, 1) := dk_29 (dk_at dksX4_power_0 8 rfl rfl)
theorem dX4_power_9 : decode cX4_power 9 = .ok (.invokevirtual 325, 3) := dk_182 1 69 (dk_at dksX4_power_0 9 rfl rfl)
theorem dX4_power_12 : decode cX4_power 12 = .ok (.ifCond .eq 5, 3) := dk_153 0 5 (dk_at dksX4_power_0 12 rfl rfl)
theorem dX4_power_15 : decode cX4_power 15 = .ok (.iconst 0, 1) := dk_3 (dk_at dksX4_power_0 15 rfl rfl)
theorem dX4_power_16 : decode cX4_power 16 = .ok (.ireturn, 1) := dk_172 (dk_at dksX4_power_0 16 rfl rfl)
theorem dX4_power_17 : decode cX4_power 17 = .ok (.aload_n 0, 1) := dk_42 (dk_at dksX4_power_0 17 rfl rfl)
theorem dX4_power_18 : decode cX4_power 18 = .ok (.iload_n 1, 1) := dk_27 (dk_at dksX4_power_0 18 rfl rfl)
theorem dX4_power_19 : decode cX4_power 19 = .ok (.iload_n 3, 1) := dk_29 (dk_at dksX4_power_0 19 rfl rfl)
theorem dX4_power_20 : decode cX4_power 20 = .ok (.invokevirtual 328, 3) := dk_182 1 72 (dk_at dksX4_power_0 20 rfl rfl)
theorem dX4_power_23 : decode cX4_power 23 = .ok (.lload 4, 2) := dk_22 4 (dk_at dksX4_power_1 0 rfl rfl)
theorem dX4_power_25 : decode cX4_power 25 = .ok (.lconst 0, 1) := dk_9 (dk_at dksX4_power_1 2 rfl rfl)
theorem dX4_power_26 : decode cX4_power 26 = .ok (.lcmp, 1) := dk_148 (dk_at dksX4_power_1 3 rfl rfl)
theorem dX4_power_27 : decode cX4_power 27 = .ok (.ifCond .lt 15, 3) := dk_155 0 15 (dk_at dksX4_power_1 4 rfl rfl)
theorem dX4_power_30 : decode cX4_power 30 = .ok (.lload 4, 2) := dk_22 4 (dk_at dksX4_power_1 7 rfl rfl)
theorem dX4_power_32 : decode cX4_power 32 = .ok (.aload_n 0, 1) := dk_42 (dk_at dksX4_power_1 9 rfl rfl)
theorem dX4_power_33 : decode cX4_power 33 = .ok (.iload_n 3, 1) := dk_29 (dk_at dksX4_power_1 10 rfl rfl)
theorem dX4_power_34 : decode cX4_power 34 = .ok (.iload_n 2, 1) := dk_28 (dk_at dksX4_power_1 11 rfl rfl)
theorem dX4_power_35 : decode cX4_power 35 = .ok (.invokevirtual 332, 3) := dk_182 1 76 (dk_at dksX4_power_1 12 rfl rfl)
theorem dX4_power_38 : decode cX4_power 38 = .ok (.lcmp, 1) := dk_148 (dk_at dksX4_power_1 15 rfl rfl)
theorem dX4_power_39 : decode cX4_power 39 = .ok (.ifCond .lt 5, 3) := dk_155 0 5 (dk_at dksX4_power_1 16 rfl rfl)
theorem dX4_power_42 : decode cX4_power 42 = .ok (.iconst (-1), 1) := dk_2 (dk_at dksX4_power_1 19 rfl rfl)
theorem dX4_power_43 : decode cX4_power 43 = .ok (.ireturn, 1) := dk_172 (dk_at dksX4_power_1 20 rfl rfl)
theorem dX4_power_44 : decode cX4_power 44 = .ok (.aload_n 0, 1) := dk_42 (dk_at dksX4_power_1 21 rfl rfl)
theorem dX4_power_45 : decode cX4_power 45 = .ok (.iload_n 1, 1) := dk_27 (dk_at dksX4_power_1 22 rfl rfl)
theorem dX4_power_46 : decode cX4_power 46 = .ok (.iload_n 2, 1) := dk_28 (dk_at dksX4_power_1 23 rfl rfl)
theorem dX4_power_47 : decode cX4_power 47 = .ok (.iload_n 3, 1) := dk_29 (dk_at dksX4_power_2 0 rfl rfl)
theorem dX4_power_48 : decode cX4_power 48 = .ok (.lload 4, 2) := dk_22 4 (dk_at dksX4_power_2 1 rfl rfl)
theorem dX4_power_50 : decode cX4_power 50 = .ok (.invokevirtual 336, 3) := dk_182 1 80 (dk_at dksX4_power_2 3 rfl rfl)
theorem dX4_power_53 : decode cX4_power 53 = .ok (.ireturn, 1) := dk_172 (dk_at dksX4_power_2 6 rfl rfl)
abbrev cX4_placed : ByteArray := prog_13_method_97_code
def yX4_placed : MethodName := ⟨RX4, "placed", "(IIIJ)I"⟩
def dkwX4_placed_3 : List UInt8 := [21, 6, 21, 10, 182, 1, 52, 54, 6, 132, 9, 255, 167, 255, 183, 21, 6, 172]
abbrev dktX4_placed_3 : List UInt8 := dkwX4_placed_3 ++ []
def dkwX4_placed_2 : List UInt8 := [42, 27, 21, 6, 21, 10, 182, 1, 52, 182, 1, 76, 101, 55, 7, 132, 10, 1, 167, 255, 208, 42, 27]
abbrev dktX4_placed_2 : List UInt8 := dkwX4_placed_2 ++ dktX4_placed_3
def dkwX4_placed_1 : List UInt8 := [100, 42, 27, 21, 6, 21, 10, 182, 1, 52, 182, 1, 76, 148, 155, 0, 31, 22, 7, 42, 21, 9, 4, 100]
abbrev dktX4_placed_1 : List UInt8 := dkwX4_placed_1 ++ dktX4_placed_2
def dkwX4_placed_0 : List UInt8 := [28, 54, 6, 22, 4, 55, 7, 29, 54, 9, 21, 9, 158, 0, 74, 3, 54, 10, 22, 7, 42, 21, 9, 4]
abbrev dktX4_placed_0 : List UInt8 := dkwX4_placed_0 ++ dktX4_placed_1
theorem dksX4_placed_0 : cX4_placed.data.toList.drop 0 = dktX4_placed_0 := by decide +kernel
theorem dksX4_placed_1 : cX4_placed.data.toList.drop 24 = dktX4_placed_1 := dk_seg dksX4_placed_0 24 rfl rfl
theorem dksX4_placed_2 : cX4_placed.data.toList.drop 48 = dktX4_placed_2 := dk_seg dksX4_placed_1 24 rfl rfl
theorem dksX4_placed_3 : cX4_placed.data.toList.drop 71 = dktX4_placed_3 := dk_seg dksX4_placed_2 23 rfl rfl
theorem dX4_placed_0 : decode cX4_placed 0 = .ok (.iload_n 2, 1) := dk_28 (dk_at dksX4_placed_0 0 rfl rfl)
theorem dX4_placed_1 : decode cX4_placed 1 = .ok (.istore 6, 2) := dk_54 6 (dk_at dksX4_placed_0 1 rfl rfl)
theorem dX4_placed_3 : decode cX4_placed 3 = .ok (.lload 4, 2) := dk_22 4 (dk_at dksX4_placed_0 3 rfl rfl)
theorem dX4_placed_5 : decode cX4_placed 5 = .ok (.lstore 7, 2) := dk_55 7 (dk_at dksX4_placed_0 5 rfl rfl)
theorem dX4_placed_7 : decode cX4_placed 7 = .ok (.iload_n 3, 1) := dk_29 (dk_at dksX4_placed_0 7 rfl rfl)
theorem dX4_placed_8 : decode cX4_placed 8 = .ok (.istore 9, 2) := dk_54 9 (dk_at dksX4_placed_0 8 rfl rfl)
theorem dX4_placed_10 : decode cX4_placed 10 = .ok (.iload 9, 2) := dk_21 9 (dk_at dksX4_placed_0 10 rfl rfl)
theorem dX4_placed_12 : decode cX4_placed 12 = .ok (.ifCond .le 74, 3) := dk_158 0 74 (dk_at dksX4_placed_0 12 rfl rfl)
theorem dX4_placed_15 : decode cX4_placed 15 = .ok (.iconst 0, 1) := dk_3 (dk_at dksX4_placed_0 15 rfl rfl)
theorem dX4_placed_16 : decode cX4_placed 16 = .ok (.istore 10, 2) := dk_54 10 (dk_at dksX4_placed_0 16 rfl rfl)
theorem dX4_placed_18 : decode cX4_placed 18 = .ok (.lload 7, 2) := dk_22 7 (dk_at dksX4_placed_0 18 rfl rfl)
theorem dX4_placed_20 : decode cX4_placed 20 = .ok (.aload_n 0, 1) := dk_42 (dk_at dksX4_placed_0 20 rfl rfl)
theorem dX4_placed_21 : decode cX4_placed 21 = .ok (.iload 9, 2) := dk_21 9 (dk_at dksX4_placed_0 21 rfl rfl)
theorem dX4_placed_23 : decode cX4_placed 23 = .ok (.iconst 1, 1) := dk_4 (dk_at dksX4_placed_0 23 rfl rfl)
theorem dX4_placed_24 : decode cX4_placed 24 = .ok (.isub, 1) := dk_100 (dk_at dksX4_placed_1 0 rfl rfl)
theorem dX4_placed_25 : decode cX4_placed 25 = .ok (.aload_n 0, 1) := dk_42 (dk_at dksX4_placed_1 1 rfl rfl)
theorem dX4_placed_26 : decode cX4_placed 26 = .ok (.iload_n 1, 1) := dk_27 (dk_at dksX4_placed_1 2 rfl rfl)
theorem dX4_placed_27 : decode cX4_placed 27 = .ok (.iload 6, 2) := dk_21 6 (dk_at dksX4_placed_1 3 rfl rfl)
theorem dX4_placed_29 : decode cX4_placed 29 = .ok (.iload 10, 2) := dk_21 10 (dk_at dksX4_placed_1 5 rfl rfl)
theorem dX4_placed_31 : decode cX4_placed 31 = .ok (.invokevirtual 308, 3) := dk_182 1 52 (dk_at dksX4_placed_1 7 rfl rfl)
theorem dX4_placed_34 : decode cX4_placed 34 = .ok (.invokevirtual 332, 3) := dk_182 1 76 (dk_at dksX4_placed_1 10 rfl rfl)
theorem dX4_placed_37 : decode cX4_placed 37 = .ok (.lcmp, 1) := dk_148 (dk_at dksX4_placed_1 13 rfl rfl)
theorem dX4_placed_38 : decode cX4_placed 38 = .ok (.ifCond .lt 31, 3) := dk_155 0 31 (dk_at dksX4_placed_1 14 rfl rfl)
theorem dX4_placed_41 : decode cX4_placed 41 = .ok (.lload 7, 2) := dk_22 7 (dk_at dksX4_placed_1 17 rfl rfl)
theorem dX4_placed_43 : decode cX4_placed 43 = .ok (.aload_n 0, 1) := dk_42 (dk_at dksX4_placed_1 19 rfl rfl)
theorem dX4_placed_44 : decode cX4_placed 44 = .ok (.iload 9, 2) := dk_21 9 (dk_at dksX4_placed_1 20 rfl rfl)
theorem dX4_placed_46 : decode cX4_placed 46 = .ok (.iconst 1, 1) := dk_4 (dk_at dksX4_placed_1 22 rfl rfl)
theorem dX4_placed_47 : decode cX4_placed 47 = .ok (.isub, 1) := dk_100 (dk_at dksX4_placed_1 23 rfl rfl)
theorem dX4_placed_48 : decode cX4_placed 48 = .ok (.aload_n 0, 1) := dk_42 (dk_at dksX4_placed_2 0 rfl rfl)
theorem dX4_placed_49 : decode cX4_placed 49 = .ok (.iload_n 1, 1) := dk_27 (dk_at dksX4_placed_2 1 rfl rfl)
theorem dX4_placed_50 : decode cX4_placed 50 = .ok (.iload 6, 2) := dk_21 6 (dk_at dksX4_placed_2 2 rfl rfl)
theorem dX4_placed_52 : decode cX4_placed 52 = .ok (.iload 10, 2) := dk_21 10 (dk_at dksX4_placed_2 4 rfl rfl)
theorem dX4_placed_54 : decode cX4_placed 54 = .ok (.invokevirtual 308, 3) := dk_182 1 52 (dk_at dksX4_placed_2 6 rfl rfl)
theorem dX4_placed_57 : decode cX4_placed 57 = .ok (.invokevirtual 332, 3) := dk_182 1 76 (dk_at dksX4_placed_2 9 rfl rfl)
theorem dX4_placed_60 : decode cX4_placed 60 = .ok (.lsub, 1) := dk_101 (dk_at dksX4_placed_2 12 rfl rfl)
theorem dX4_placed_61 : decode cX4_placed 61 = .ok (.lstore 7, 2) := dk_55 7 (dk_at dksX4_placed_2 13 rfl rfl)
theorem dX4_placed_63 : decode cX4_placed 63 = .ok (.iinc 10 1, 3) := dk_132 10 1 (dk_at dksX4_placed_2 15 rfl rfl)
theorem dX4_placed_66 : decode cX4_placed 66 = .ok (.goto (-48), 3) := dk_167 255 208 (dk_at dksX4_placed_2 18 rfl rfl)
theorem dX4_placed_69 : decode cX4_placed 69 = .ok (.aload_n 0, 1) := dk_42 (dk_at dksX4_placed_2 21 rfl rfl)
theorem dX4_placed_70 : decode cX4_placed 70 = .ok (.iload_n 1, 1) := dk_27 (dk_at dksX4_placed_2 22 rfl rfl)
theorem dX4_placed_71 : decode cX4_placed 71 = .ok (.iload 6, 2) := dk_21 6 (dk_at dksX4_placed_3 0 rfl rfl)
theorem dX4_placed_73 : decode cX4_placed 73 = .ok (.iload 10, 2) := dk_21 10 (dk_at dksX4_placed_3 2 rfl rfl)
theorem dX4_placed_75 : decode cX4_placed 75 = .ok (.invokevirtual 308, 3) := dk_182 1 52 (dk_at dksX4_placed_3 4 rfl rfl)
theorem dX4_placed_78 : decode cX4_placed 78 = .ok (.istore 6, 2) := dk_54 6 (dk_at dksX4_placed_3 7 rfl rfl)
theorem dX4_placed_80 : decode cX4_placed 80 = .ok (.iinc 9 (-1), 3) := dk_132 9 255 (dk_at dksX4_placed_3 9 rfl rfl)
theorem dX4_placed_83 : decode cX4_placed 83 = .ok (.goto (-73), 3) := dk_167 255 183 (dk_at dksX4_placed_3 12 rfl rfl)
theorem dX4_placed_86 : decode cX4_placed 86 = .ok (.iload 6, 2) := dk_21 6 (dk_at dksX4_placed_3 15 rfl rfl)
theorem dX4_placed_88 : decode cX4_placed 88 = .ok (.ireturn, 1) := dk_172 (dk_at dksX4_placed_3 17 rfl rfl)
abbrev cX4_often : ByteArray := prog_13_method_98_code
def yX4_often : MethodName := ⟨RX4, "often", "(IIII)J"⟩
def dkwX4_often_1 : List UInt8 := [153, 0, 5, 9, 173, 42, 27, 29, 182, 1, 72, 42, 180, 0, 104, 29, 28, 21, 4, 184, 1, 66, 47, 173]
abbrev dktX4_often_1 : List UInt8 := dkwX4_often_1 ++ []
def dkwX4_often_0 : List UInt8 := [42, 3, 181, 0, 3, 42, 27, 28, 29, 182, 1, 69, 154, 0, 13, 42, 21, 4, 5, 182, 0, 196]
abbrev dktX4_often_0 : List UInt8 := dkwX4_often_0 ++ dktX4_often_1
theorem dksX4_often_0 : cX4_often.data.toList.drop 0 = dktX4_often_0 := by decide +kernel
theorem dksX4_often_1 : cX4_often.data.toList.drop 22 = dktX4_often_1 := dk_seg dksX4_often_0 22 rfl rfl
theorem dX4_often_0 : decode cX4_often 0 = .ok (.aload_n 0, 1) := dk_42 (dk_at dksX4_often_0 0 rfl rfl)
theorem dX4_often_1 : decode cX4_often 1 = .ok (.iconst 0, 1) := dk_3 (dk_at dksX4_often_0 1 rfl rfl)
theorem dX4_often_2 : decode cX4_often 2 = .ok (.putfield 3, 3) := dk_181 0 3 (dk_at dksX4_often_0 2 rfl rfl)
theorem dX4_often_5 : decode cX4_often 5 = .ok (.aload_n 0, 1) := dk_42 (dk_at dksX4_often_0 5 rfl rfl)
theorem dX4_often_6 : decode cX4_often 6 = .ok (.iload_n 1, 1) := dk_27 (dk_at dksX4_often_0 6 rfl rfl)
theorem dX4_often_7 : decode cX4_often 7 = .ok (.iload_n 2, 1) := dk_28 (dk_at dksX4_often_0 7 rfl rfl)
theorem dX4_often_8 : decode cX4_often 8 = .ok (.iload_n 3, 1) := dk_29 (dk_at dksX4_often_0 8 rfl rfl)
theorem dX4_often_9 : decode cX4_often 9 = .ok (.invokevirtual 325, 3) := dk_182 1 69 (dk_at dksX4_often_0 9 rfl rfl)
theorem dX4_often_12 : decode cX4_often 12 = .ok (.ifCond .ne 13, 3) := dk_154 0 13 (dk_at dksX4_often_0 12 rfl rfl)
theorem dX4_often_15 : decode cX4_often 15 = .ok (.aload_n 0, 1) := dk_42 (dk_at dksX4_often_0 15 rfl rfl)
theorem dX4_often_16 : decode cX4_often 16 = .ok (.iload 4, 2) := dk_21 4 (dk_at dksX4_often_0 16 rfl rfl)
theorem dX4_often_18 : decode cX4_often 18 = .ok (.iconst 2, 1) := dk_5 (dk_at dksX4_often_0 18 rfl rfl)
theorem dX4_often_19 : decode cX4_often 19 = .ok (.invokevirtual 196, 3) := dk_182 0 196 (dk_at dksX4_often_0 19 rfl rfl)
theorem dX4_often_22 : decode cX4_often 22 = .ok (.ifCond .eq 5, 3) := dk_153 0 5 (dk_at dksX4_often_1 0 rfl rfl)
theorem dX4_often_25 : decode cX4_often 25 = .ok (.lconst 0, 1) := dk_9 (dk_at dksX4_often_1 3 rfl rfl)
theorem dX4_often_26 : decode cX4_often 26 = .ok (.lreturn, 1) := dk_173 (dk_at dksX4_often_1 4 rfl rfl)
theorem dX4_often_27 : decode cX4_often 27 = .ok (.aload_n 0, 1) := dk_42 (dk_at dksX4_often_1 5 rfl rfl)
theorem dX4_often_28 : decode cX4_often 28 = .ok (.iload_n 1, 1) := dk_27 (dk_at dksX4_often_1 6 rfl rfl)
theorem dX4_often_29 : decode cX4_often 29 = .ok (.iload_n 3, 1) := dk_29 (dk_at dksX4_often_1 7 rfl rfl)
theorem dX4_often_30 : decode cX4_often 30 = .ok (.invokevirtual 328, 3) := dk_182 1 72 (dk_at dksX4_often_1 8 rfl rfl)
theorem dX4_often_33 : decode cX4_often 33 = .ok (.aload_n 0, 1) := dk_42 (dk_at dksX4_often_1 11 rfl rfl)
theorem dX4_often_34 : decode cX4_often 34 = .ok (.getfield 104, 3) := dk_180 0 104 (dk_at dksX4_often_1 12 rfl rfl)
theorem dX4_often_37 : decode cX4_often 37 = .ok (.iload_n 3, 1) := dk_29 (dk_at dksX4_often_1 15 rfl rfl)
theorem dX4_often_38 : decode cX4_often 38 = .ok (.iload_n 2, 1) := dk_28 (dk_at dksX4_often_1 16 rfl rfl)
theorem dX4_often_39 : decode cX4_often 39 = .ok (.iload 4, 2) := dk_21 4 (dk_at dksX4_often_1 17 rfl rfl)
theorem dX4_often_41 : decode cX4_often 41 = .ok (.invokestatic 322, 3) := dk_184 1 66 (dk_at dksX4_often_1 19 rfl rfl)
theorem dX4_often_44 : decode cX4_often 44 = .ok (.laload, 1) := dk_47 (dk_at dksX4_often_1 22 rfl rfl)
theorem dX4_often_45 : decode cX4_often 45 = .ok (.lreturn, 1) := dk_173 (dk_at dksX4_often_1 23 rfl rfl)
abbrev cX4_keeps : ByteArray := prog_13_method_100_code
def yX4_keeps : MethodName := ⟨RX4, "keeps", "(II)I"⟩
def dkwX4_keeps_2 : List UInt8 := [153, 0, 8, 16, 254, 167, 0, 15, 42, 180, 1, 15, 153, 0, 7, 3, 167, 0, 4, 4, 172]
abbrev dktX4_keeps_2 : List UInt8 := dkwX4_keeps_2 ++ []
def dkwX4_keeps_1 : List UInt8 := [4, 167, 0, 4, 3, 5, 182, 0, 180, 153, 0, 5, 3, 172, 42, 27, 28, 182, 1, 84, 42, 180, 1, 9]
abbrev dktX4_keeps_1 : List UInt8 := dkwX4_keeps_1 ++ dktX4_keeps_2
def dkwX4_keeps_0 : List UInt8 := [42, 3, 181, 0, 3, 42, 27, 182, 1, 63, 154, 0, 26, 42, 28, 4, 16, 6, 184, 0, 65, 154, 0, 7]
abbrev dktX4_keeps_0 : List UInt8 := dkwX4_keeps_0 ++ dktX4_keeps_1
theorem dksX4_keeps_0 : cX4_keeps.data.toList.drop 0 = dktX4_keeps_0 := by decide +kernel
theorem dksX4_keeps_1 : cX4_keeps.data.toList.drop 24 = dktX4_keeps_1 := dk_seg dksX4_keeps_0 24 rfl rfl
theorem dksX4_keeps_2 : cX4_keeps.data.toList.drop 48 = dktX4_keeps_2 := dk_seg dksX4_keeps_1 24 rfl rfl
theorem dX4_keeps_0 : decode cX4_keeps 0 = .ok (.aload_n 0, 1) := dk_42 (dk_at dksX4_keeps_0 0 rfl rfl)
theorem dX4_keeps_1 : decode cX4_keeps 1 = .ok (.iconst 0, 1) := dk_3 (dk_at dksX4_keeps_0 1 rfl rfl)
theorem dX4_keeps_2 : decode cX4_keeps 2 = .ok (.putfield 3, 3) := dk_181 0 3 (dk_at dksX4_keeps_0 2 rfl rfl)
theorem dX4_keeps_5 : decode cX4_keeps 5 = .ok (.aload_n 0, 1) := dk_42 (dk_at dksX4_keeps_0 5 rfl rfl)
theorem dX4_keeps_6 : decode cX4_keeps 6 = .ok (.iload_n 1, 1) := dk_27 (dk_at dksX4_keeps_0 6 rfl rfl)
theorem dX4_keeps_7 : decode cX4_keeps 7 = .ok (.invokevirtual 319, 3) := dk_182 1 63 (dk_at dksX4_keeps_0 7 rfl rfl)
theorem dX4_keeps_10 : decode cX4_keeps 10 = .ok (.ifCond .ne 26, 3) := dk_154 0 26 (dk_at dksX4_keeps_0 10 rfl rfl)
theorem dX4_keeps_13 : decode cX4_keeps 13 = .ok (.aload_n 0, 1) := dk_42 (dk_at dksX4_keeps_0 13 rfl rfl)
theorem dX4_keeps_14 : decode cX4_keeps 14 = .ok (.iload_n 2, 1) := dk_28 (dk_at dksX4_keeps_0 14 rfl rfl)
theorem dX4_keeps_15 : decode cX4_keeps 15 = .ok (.iconst 1, 1) := dk_4 (dk_at dksX4_keeps_0 15 rfl rfl)
theorem dX4_keeps_16 : decode cX4_keeps 16 = .ok (.bipush 6, 2) := dk_16 6 (dk_at dksX4_keeps_0 16 rfl rfl)
theorem dX4_keeps_18 : decode cX4_keeps 18 = .ok (.invokestatic 65, 3) := dk_184 0 65 (dk_at dksX4_keeps_0 18 rfl rfl)
theorem dX4_keeps_21 : decode cX4_keeps 21 = .ok (.ifCond .ne 7, 3) := dk_154 0 7 (dk_at dksX4_keeps_0 21 rfl rfl)
theorem dX4_keeps_24 : decode cX4_keeps 24 = .ok (.iconst 1, 1) := dk_4 (dk_at dksX4_keeps_1 0 rfl rfl)
theorem dX4_keeps_25 : decode cX4_keeps 25 = .ok (.goto 4, 3) := dk_167 0 4 (dk_at dksX4_keeps_1 1 rfl rfl)
theorem dX4_keeps_28 : decode cX4_keeps 28 = .ok (.iconst 0, 1) := dk_3 (dk_at dksX4_keeps_1 4 rfl rfl)
theorem dX4_keeps_29 : decode cX4_keeps 29 = .ok (.iconst 2, 1) := dk_5 (dk_at dksX4_keeps_1 5 rfl rfl)
theorem dX4_keeps_30 : decode cX4_keeps 30 = .ok (.invokevirtual 180, 3) := dk_182 0 180 (dk_at dksX4_keeps_1 6 rfl rfl)
theorem dX4_keeps_33 : decode cX4_keeps 33 = .ok (.ifCond .eq 5, 3) := dk_153 0 5 (dk_at dksX4_keeps_1 9 rfl rfl)
theorem dX4_keeps_36 : decode cX4_keeps 36 = .ok (.iconst 0, 1) := dk_3 (dk_at dksX4_keeps_1 12 rfl rfl)
theorem dX4_keeps_37 : decode cX4_keeps 37 = .ok (.ireturn, 1) := dk_172 (dk_at dksX4_keeps_1 13 rfl rfl)
theorem dX4_keeps_38 : decode cX4_keeps 38 = .ok (.aload_n 0, 1) := dk_42 (dk_at dksX4_keeps_1 14 rfl rfl)
theorem dX4_keeps_39 : decode cX4_keeps 39 = .ok (.iload_n 1, 1) := dk_27 (dk_at dksX4_keeps_1 15 rfl rfl)
theorem dX4_keeps_40 : decode cX4_keeps 40 = .ok (.iload_n 2, 1) := dk_28 (dk_at dksX4_keeps_1 16 rfl rfl)
theorem dX4_keeps_41 : decode cX4_keeps 41 = .ok (.invokevirtual 340, 3) := dk_182 1 84 (dk_at dksX4_keeps_1 17 rfl rfl)
theorem dX4_keeps_44 : decode cX4_keeps 44 = .ok (.aload_n 0, 1) := dk_42 (dk_at dksX4_keeps_1 20 rfl rfl)
theorem dX4_keeps_45 : decode cX4_keeps 45 = .ok (.getfield 265, 3) := dk_180 1 9 (dk_at dksX4_keeps_1 21 rfl rfl)
theorem dX4_keeps_48 : decode cX4_keeps 48 = .ok (.ifCond .eq 8, 3) := dk_153 0 8 (dk_at dksX4_keeps_2 0 rfl rfl)
theorem dX4_keeps_51 : decode cX4_keeps 51 = .ok (.bipush (-2), 2) := dk_16 254 (dk_at dksX4_keeps_2 3 rfl rfl)
theorem dX4_keeps_53 : decode cX4_keeps 53 = .ok (.goto 15, 3) := dk_167 0 15 (dk_at dksX4_keeps_2 5 rfl rfl)
theorem dX4_keeps_56 : decode cX4_keeps 56 = .ok (.aload_n 0, 1) := dk_42 (dk_at dksX4_keeps_2 8 rfl rfl)
theorem dX4_keeps_57 : decode cX4_keeps 57 = .ok (.getfield 271, 3) := dk_180 1 15 (dk_at dksX4_keeps_2 9 rfl rfl)
theorem dX4_keeps_60 : decode cX4_keeps 60 = .ok (.ifCond .eq 7, 3) := dk_153 0 7 (dk_at dksX4_keeps_2 12 rfl rfl)
theorem dX4_keeps_63 : decode cX4_keeps 63 = .ok (.iconst 0, 1) := dk_3 (dk_at dksX4_keeps_2 15 rfl rfl)
theorem dX4_keeps_64 : decode cX4_keeps 64 = .ok (.goto 4, 3) := dk_167 0 4 (dk_at dksX4_keeps_2 16 rfl rfl)
theorem dX4_keeps_67 : decode cX4_keeps 67 = .ok (.iconst 1, 1) := dk_4 (dk_at dksX4_keeps_2 19 rfl rfl)
theorem dX4_keeps_68 : decode cX4_keeps 68 = .ok (.ireturn, 1) := dk_172 (dk_at dksX4_keeps_2 20 rfl rfl)
abbrev cX4_laysBreak : ByteArray := prog_13_method_99_code
def yX4_laysBreak : MethodName := ⟨RX4, "laysBreak", "(II)V"⟩
def dkwX4_laysBreak_2 : List UInt8 := [181, 1, 28, 132, 3, 1, 167, 255, 220, 177]
abbrev dktX4_laysBreak_2 : List UInt8 := dkwX4_laysBreak_2 ++ []
def dkwX4_laysBreak_1 : List UInt8 := [180, 1, 9, 154, 0, 30, 42, 180, 1, 15, 154, 0, 23, 42, 3, 29, 8, 182, 1, 12, 54, 4, 42, 29]
abbrev dktX4_laysBreak_1 : List UInt8 := dkwX4_laysBreak_1 ++ dktX4_laysBreak_2
def dkwX4_laysBreak_0 : List UInt8 := [42, 182, 1, 34, 42, 27, 181, 1, 56, 42, 3, 181, 1, 28, 4, 62, 29, 28, 163, 0, 37, 42]
abbrev dktX4_laysBreak_0 : List UInt8 := dkwX4_laysBreak_0 ++ dktX4_laysBreak_1
theorem dksX4_laysBreak_0 : cX4_laysBreak.data.toList.drop 0 = dktX4_laysBreak_0 := by decide +kernel
theorem dksX4_laysBreak_1 : cX4_laysBreak.data.toList.drop 22 = dktX4_laysBreak_1 := dk_seg dksX4_laysBreak_0 22 rfl rfl
theorem dksX4_laysBreak_2 : cX4_laysBreak.data.toList.drop 46 = dktX4_laysBreak_2 := dk_seg dksX4_laysBreak_1 24 rfl rfl
theorem dX4_laysBreak_0 : decode cX4_laysBreak 0 = .ok (.aload_n 0, 1) := dk_42 (dk_at dksX4_laysBreak_0 0 rfl rfl)
theorem dX4_laysBreak_1 : decode cX4_laysBreak 1 = .ok (.invokevirtual 290, 3) := dk_182 1 34 (dk_at dksX4_laysBreak_0 1 rfl rfl)
theorem dX4_laysBreak_4 : decode cX4_laysBreak 4 = .ok (.aload_n 0, 1) := dk_42 (dk_at dksX4_laysBreak_0 4 rfl rfl)
theorem dX4_laysBreak_5 : decode cX4_laysBreak 5 = .ok (.iload_n 1, 1) := dk_27 (dk_at dksX4_laysBreak_0 5 rfl rfl)
theorem dX4_laysBreak_6 : decode cX4_laysBreak 6 = .ok (.putfield 312, 3) := dk_181 1 56 (dk_at dksX4_laysBreak_0 6 rfl rfl)
theorem dX4_laysBreak_9 : decode cX4_laysBreak 9 = .ok (.aload_n 0, 1) := dk_42 (dk_at dksX4_laysBreak_0 9 rfl rfl)
theorem dX4_laysBreak_10 : decode cX4_laysBreak 10 = .ok (.iconst 0, 1) := dk_3 (dk_at dksX4_laysBreak_0 10 rfl rfl)
theorem dX4_laysBreak_11 : decode cX4_laysBreak 11 = .ok (.putfield 284, 3) := dk_181 1 28 (dk_at dksX4_laysBreak_0 11 rfl rfl)
theorem dX4_laysBreak_14 : decode cX4_laysBreak 14 = .ok (.iconst 1, 1) := dk_4 (dk_at dksX4_laysBreak_0 14 rfl rfl)
theorem dX4_laysBreak_15 : decode cX4_laysBreak 15 = .ok (.istore_n 3, 1) := dk_62 (dk_at dksX4_laysBreak_0 15 rfl rfl)
theorem dX4_laysBreak_16 : decode cX4_laysBreak 16 = .ok (.iload_n 3, 1) := dk_29 (dk_at dksX4_laysBreak_0 16 rfl rfl)
theorem dX4_laysBreak_17 : decode cX4_laysBreak 17 = .ok (.iload_n 2, 1) := dk_28 (dk_at dksX4_laysBreak_0 17 rfl rfl)
theorem dX4_laysBreak_18 : decode cX4_laysBreak 18 = .ok (.if_icmp .gt 37, 3) := dk_163 0 37 (dk_at dksX4_laysBreak_0 18 rfl rfl)
theorem dX4_laysBreak_21 : decode cX4_laysBreak 21 = .ok (.aload_n 0, 1) := dk_42 (dk_at dksX4_laysBreak_0 21 rfl rfl)
theorem dX4_laysBreak_22 : decode cX4_laysBreak 22 = .ok (.getfield 265, 3) := dk_180 1 9 (dk_at dksX4_laysBreak_1 0 rfl rfl)
theorem dX4_laysBreak_25 : decode cX4_laysBreak 25 = .ok (.ifCond .ne 30, 3) := dk_154 0 30 (dk_at dksX4_laysBreak_1 3 rfl rfl)
theorem dX4_laysBreak_28 : decode cX4_laysBreak 28 = .ok (.aload_n 0, 1) := dk_42 (dk_at dksX4_laysBreak_1 6 rfl rfl)
theorem dX4_laysBreak_29 : decode cX4_laysBreak 29 = .ok (.getfield 271, 3) := dk_180 1 15 (dk_at dksX4_laysBreak_1 7 rfl rfl)
theorem dX4_laysBreak_32 : decode cX4_laysBreak 32 = .ok (.ifCond .ne 23, 3) := dk_154 0 23 (dk_at dksX4_laysBreak_1 10 rfl rfl)
theorem dX4_laysBreak_35 : decode cX4_laysBreak 35 = .ok (.aload_n 0, 1) := dk_42 (dk_at dksX4_laysBreak_1 13 rfl rfl)
theorem dX4_laysBreak_36 : decode cX4_laysBreak 36 = .ok (.iconst 0, 1) := dk_3 (dk_at dksX4_laysBreak_1 14 rfl rfl)
theorem dX4_laysBreak_37 : decode cX4_laysBreak 37 = .ok (.iload_n 3, 1) := dk_29 (dk_at dksX4_laysBreak_1 15 rfl rfl)
theorem dX4_laysBreak_38 : decode cX4_laysBreak 38 = .ok (.iconst 5, 1) := dk_8 (dk_at dksX4_laysBreak_1 16 rfl rfl)
theorem dX4_laysBreak_39 : decode cX4_laysBreak 39 = .ok (.invokevirtual 268, 3) := dk_182 1 12 (dk_at dksX4_laysBreak_1 17 rfl rfl)
theorem dX4_laysBreak_42 : decode cX4_laysBreak 42 = .ok (.istore 4, 2) := dk_54 4 (dk_at dksX4_laysBreak_1 20 rfl rfl)
theorem dX4_laysBreak_44 : decode cX4_laysBreak 44 = .ok (.aload_n 0, 1) := dk_42 (dk_at dksX4_laysBreak_1 22 rfl rfl)
theorem dX4_laysBreak_45 : decode cX4_laysBreak 45 = .ok (.iload_n 3, 1) := dk_29 (dk_at dksX4_laysBreak_1 23 rfl rfl)
theorem dX4_laysBreak_46 : decode cX4_laysBreak 46 = .ok (.putfield 284, 3) := dk_181 1 28 (dk_at dksX4_laysBreak_2 0 rfl rfl)
theorem dX4_laysBreak_49 : decode cX4_laysBreak 49 = .ok (.iinc 3 1, 3) := dk_132 3 1 (dk_at dksX4_laysBreak_2 3 rfl rfl)
theorem dX4_laysBreak_52 : decode cX4_laysBreak 52 = .ok (.goto (-36), 3) := dk_167 255 220 (dk_at dksX4_laysBreak_2 6 rfl rfl)
theorem dX4_laysBreak_55 : decode cX4_laysBreak 55 = .ok (.return_, 1) := dk_177 (dk_at dksX4_laysBreak_2 9 rfl rfl)
abbrev cX4_breaks : ByteArray := prog_13_method_101_code
def yX4_breaks : MethodName := ⟨RX4, "breaks", "(II)I"⟩
def dkwX4_breaks_4 : List UInt8 := [46, 96, 4, 96, 62, 132, 4, 1, 167, 255, 229, 29, 172]
abbrev dktX4_breaks_4 : List UInt8 := dkwX4_breaks_4 ++ []
def dkwX4_breaks_3 : List UInt8 := [3, 62, 3, 54, 4, 21, 4, 42, 180, 1, 28, 162, 0, 24, 16, 10, 29, 104, 42, 180, 0, 98, 21, 4]
abbrev dktX4_breaks_3 : List UInt8 := dkwX4_breaks_3 ++ dktX4_breaks_4
def dkwX4_breaks_2 : List UInt8 := [154, 0, 10, 42, 180, 1, 15, 154, 0, 17, 42, 180, 1, 9, 153, 0, 8, 16, 254, 167, 0, 4, 2, 172]
abbrev dktX4_breaks_2 : List UInt8 := dkwX4_breaks_2 ++ dktX4_breaks_3
def dkwX4_breaks_1 : List UInt8 := [4, 167, 0, 4, 3, 5, 182, 0, 180, 153, 0, 5, 3, 172, 42, 27, 28, 182, 1, 84, 42, 180, 1, 9]
abbrev dktX4_breaks_1 : List UInt8 := dkwX4_breaks_1 ++ dktX4_breaks_2
def dkwX4_breaks_0 : List UInt8 := [42, 3, 181, 0, 3, 42, 27, 182, 1, 63, 154, 0, 26, 42, 28, 4, 16, 6, 184, 0, 65, 154, 0, 7]
abbrev dktX4_breaks_0 : List UInt8 := dkwX4_breaks_0 ++ dktX4_breaks_1
theorem dksX4_breaks_0 : cX4_breaks.data.toList.drop 0 = dktX4_breaks_0 := by decide +kernel
theorem dksX4_breaks_1 : cX4_breaks.data.toList.drop 24 = dktX4_breaks_1 := dk_seg dksX4_breaks_0 24 rfl rfl
theorem dksX4_breaks_2 : cX4_breaks.data.toList.drop 48 = dktX4_breaks_2 := dk_seg dksX4_breaks_1 24 rfl rfl
theorem dksX4_breaks_3 : cX4_breaks.data.toList.drop 72 = dktX4_breaks_3 := dk_seg dksX4_breaks_2 24 rfl rfl
theorem dksX4_breaks_4 : cX4_breaks.data.toList.drop 96 = dktX4_breaks_4 := dk_seg dksX4_breaks_3 24 rfl rfl
theorem dX4_breaks_0 : decode cX4_breaks 0 = .ok (.aload_n 0, 1) := dk_42 (dk_at dksX4_breaks_0 0 rfl rfl)
theorem dX4_breaks_1 : decode cX4_breaks 1 = .ok (.iconst 0, 1) := dk_3 (dk_at dksX4_breaks_0 1 rfl rfl)
theorem dX4_breaks_2 : decode cX4_breaks 2 = .ok (.putfield 3, 3) := dk_181 0 3 (dk_at dksX4_breaks_0 2 rfl rfl)
theorem dX4_breaks_5 : decode cX4_breaks 5 = .ok (.aload_n 0, 1) := dk_42 (dk_at dksX4_breaks_0 5 rfl rfl)
theorem dX4_breaks_6 : decode cX4_breaks 6 = .ok (.iload_n 1, 1) := dk_27 (dk_at dksX4_breaks_0 6 rfl rfl)
theorem dX4_breaks_7 : decode cX4_breaks 7 = .ok (.invokevirtual 319, 3) := dk_182 1 63 (dk_at dksX4_breaks_0 7 rfl rfl)
theorem dX4_breaks_10 : decode cX4_breaks 10 = .ok (.ifCond .ne 26, 3) := dk_154 0 26 (dk_at dksX4_breaks_0 10 rfl rfl)
theorem dX4_breaks_13 : decode cX4_breaks 13 = .ok (.aload_n 0, 1) := dk_42 (dk_at dksX4_breaks_0 13 rfl rfl)
theorem dX4_breaks_14 : decode cX4_breaks 14 = .ok (.iload_n 2, 1) := dk_28 (dk_at dksX4_breaks_0 14 rfl rfl)
theorem dX4_breaks_15 : decode cX4_breaks 15 = .ok (.iconst 1, 1) := dk_4 (dk_at dksX4_breaks_0 15 rfl rfl)
theorem dX4_breaks_16 : decode cX4_breaks 16 = .ok (.bipush 6, 2) := dk_16 6 (dk_at dksX4_breaks_0 16 rfl rfl)
theorem dX4_breaks_18 : decode cX4_breaks 18 = .ok (.invokestatic 65, 3) := dk_184 0 65 (dk_at dksX4_breaks_0 18 rfl rfl)
theorem dX4_breaks_21 : decode cX4_breaks 21 = .ok (.ifCond .ne 7, 3) := dk_154 0 7 (dk_at dksX4_breaks_0 21 rfl rfl)
theorem dX4_breaks_24 : decode cX4_breaks 24 = .ok (.iconst 1, 1) := dk_4 (dk_at dksX4_breaks_1 0 rfl rfl)
theorem dX4_breaks_25 : decode cX4_breaks 25 = .ok (.goto 4, 3) := dk_167 0 4 (dk_at dksX4_breaks_1 1 rfl rfl)
theorem dX4_breaks_28 : decode cX4_breaks 28 = .ok (.iconst 0, 1) := dk_3 (dk_at dksX4_breaks_1 4 rfl rfl)
theorem dX4_breaks_29 : decode cX4_breaks 29 = .ok (.iconst 2, 1) := dk_5 (dk_at dksX4_breaks_1 5 rfl rfl)
theorem dX4_breaks_30 : decode cX4_breaks 30 = .ok (.invokevirtual 180, 3) := dk_182 0 180 (dk_at dksX4_breaks_1 6 rfl rfl)
theorem dX4_breaks_33 : decode cX4_breaks 33 = .ok (.ifCond .eq 5, 3) := dk_153 0 5 (dk_at dksX4_breaks_1 9 rfl rfl)
theorem dX4_breaks_36 : decode cX4_breaks 36 = .ok (.iconst 0, 1) := dk_3 (dk_at dksX4_breaks_1 12 rfl rfl)
theorem dX4_breaks_37 : decode cX4_breaks 37 = .ok (.ireturn, 1) := dk_172 (dk_at dksX4_breaks_1 13 rfl rfl)
theorem dX4_breaks_38 : decode cX4_breaks 38 = .ok (.aload_n 0, 1) := dk_42 (dk_at dksX4_breaks_1 14 rfl rfl)
theorem dX4_breaks_39 : decode cX4_breaks 39 = .ok (.iload_n 1, 1) := dk_27 (dk_at dksX4_breaks_1 15 rfl rfl)
theorem dX4_breaks_40 : decode cX4_breaks 40 = .ok (.iload_n 2, 1) := dk_28 (dk_at dksX4_breaks_1 16 rfl rfl)
theorem dX4_breaks_41 : decode cX4_breaks 41 = .ok (.invokevirtual 340, 3) := dk_182 1 84 (dk_at dksX4_breaks_1 17 rfl rfl)
theorem dX4_breaks_44 : decode cX4_breaks 44 = .ok (.aload_n 0, 1) := dk_42 (dk_at dksX4_breaks_1 20 rfl rfl)
theorem dX4_breaks_45 : decode cX4_breaks 45 = .ok (.getfield 265, 3) := dk_180 1 9 (dk_at dksX4_breaks_1 21 rfl rfl)
theorem dX4_breaks_48 : decode cX4_breaks 48 = .ok (.ifCond .ne 10, 3) := dk_154 0 10 (dk_at dksX4_breaks_2 0 rfl rfl)
theorem dX4_breaks_51 : decode cX4_breaks 51 = .ok (.aload_n 0, 1) := dk_42 (dk_at dksX4_breaks_2 3 rfl rfl)
theorem dX4_breaks_52 : decode cX4_breaks 52 = .ok (.getfield 271, 3) := dk_180 1 15 (dk_at dksX4_breaks_2 4 rfl rfl)
theorem dX4_breaks_55 : decode cX4_breaks 55 = .ok (.ifCond .ne 17, 3) := dk_154 0 17 (dk_at dksX4_breaks_2 7 rfl rfl)
theorem dX4_breaks_58 : decode cX4_breaks 58 = .ok (.aload_n 0, 1) := dk_42 (dk_at dksX4_breaks_2 10 rfl rfl)
theorem dX4_breaks_59 : decode cX4_breaks 59 = .ok (.getfield 265, 3) := dk_180 1 9 (dk_at dksX4_breaks_2 11 rfl rfl)
theorem dX4_breaks_62 : decode cX4_breaks 62 = .ok (.ifCond .eq 8, 3) := dk_153 0 8 (dk_at dksX4_breaks_2 14 rfl rfl)
theorem dX4_breaks_65 : decode cX4_breaks 65 = .ok (.bipush (-2), 2) := dk_16 254 (dk_at dksX4_breaks_2 17 rfl rfl)
theorem dX4_breaks_67 : decode cX4_breaks 67 = .ok (.goto 4, 3) := dk_167 0 4 (dk_at dksX4_breaks_2 19 rfl rfl)
theorem dX4_breaks_70 : decode cX4_breaks 70 = .ok (.iconst (-1), 1) := dk_2 (dk_at dksX4_breaks_2 22 rfl rfl)
theorem dX4_breaks_71 : decode cX4_breaks 71 = .ok (.ireturn, 1) := dk_172 (dk_at dksX4_breaks_2 23 rfl rfl)
theorem dX4_breaks_72 : decode cX4_breaks 72 = .ok (.iconst 0, 1) := dk_3 (dk_at dksX4_breaks_3 0 rfl rfl)
theorem dX4_breaks_73 : decode cX4_breaks 73 = .ok (.istore_n 3, 1) := dk_62 (dk_at dksX4_breaks_3 1 rfl rfl)
theorem dX4_breaks_74 : decode cX4_breaks 74 = .ok (.iconst 0, 1) := dk_3 (dk_at dksX4_breaks_3 2 rfl rfl)
theorem dX4_breaks_75 : decode cX4_breaks 75 = .ok (.istore 4, 2) := dk_54 4 (dk_at dksX4_breaks_3 3 rfl rfl)
theorem dX4_breaks_77 : decode cX4_breaks 77 = .ok (.iload 4, 2) := dk_21 4 (dk_at dksX4_breaks_3 5 rfl rfl)
theorem dX4_breaks_79 : decode cX4_breaks 79 = .ok (.aload_n 0, 1) := dk_42 (dk_at dksX4_breaks_3 7 rfl rfl)
theorem dX4_breaks_80 : decode cX4_breaks 80 = .ok (.getfield 284, 3) := dk_180 1 28 (dk_at dksX4_breaks_3 8 rfl rfl)
theorem dX4_breaks_83 : decode cX4_breaks 83 = .ok (.if_icmp .ge 24, 3) := dk_162 0 24 (dk_at dksX4_breaks_3 11 rfl rfl)
theorem dX4_breaks_86 : decode cX4_breaks 86 = .ok (.bipush 10, 2) := dk_16 10 (dk_at dksX4_breaks_3 14 rfl rfl)
theorem dX4_breaks_88 : decode cX4_breaks 88 = .ok (.iload_n 3, 1) := dk_29 (dk_at dksX4_breaks_3 16 rfl rfl)
theorem dX4_breaks_89 : decode cX4_breaks 89 = .ok (.imul, 1) := dk_104 (dk_at dksX4_breaks_3 17 rfl rfl)
theorem dX4_breaks_90 : decode cX4_breaks 90 = .ok (.aload_n 0, 1) := dk_42 (dk_at dksX4_breaks_3 18 rfl rfl)
theorem dX4_breaks_91 : decode cX4_breaks 91 = .ok (.getfield 98, 3) := dk_180 0 98 (dk_at dksX4_breaks_3 19 rfl rfl)
theorem dX4_breaks_94 : decode cX4_breaks 94 = .ok (.iload 4, 2) := dk_21 4 (dk_at dksX4_breaks_3 22 rfl rfl)
theorem dX4_breaks_96 : decode cX4_breaks 96 = .ok (.iaload, 1) := dk_46 (dk_at dksX4_breaks_4 0 rfl rfl)
theorem dX4_breaks_97 : decode cX4_breaks 97 = .ok (.iadd, 1) := dk_96 (dk_at dksX4_breaks_4 1 rfl rfl)
theorem dX4_breaks_98 : decode cX4_breaks 98 = .ok (.iconst 1, 1) := dk_4 (dk_at dksX4_breaks_4 2 rfl rfl)
theorem dX4_breaks_99 : decode cX4_breaks 99 = .ok (.iadd, 1) := dk_96 (dk_at dksX4_breaks_4 3 rfl rfl)
theorem dX4_breaks_100 : decode cX4_breaks 100 = .ok (.istore_n 3, 1) := dk_62 (dk_at dksX4_breaks_4 4 rfl rfl)
theorem dX4_breaks_101 : decode cX4_breaks 101 = .ok (.iinc 4 1, 3) := dk_132 4 1 (dk_at dksX4_breaks_4 5 rfl rfl)
theorem dX4_breaks_104 : decode cX4_breaks 104 = .ok (.goto (-27), 3) := dk_167 255 229 (dk_at dksX4_breaks_4 8 rfl rfl)
theorem dX4_breaks_107 : decode cX4_breaks 107 = .ok (.iload_n 3, 1) := dk_29 (dk_at dksX4_breaks_4 11 rfl rfl)
theorem dX4_breaks_108 : decode cX4_breaks 108 = .ok (.ireturn, 1) := dk_172 (dk_at dksX4_breaks_4 12 rfl rfl)
abbrev cX4_grows : ByteArray := prog_13_method_103_code
def yX4_grows : MethodName := ⟨RX4, "grows", "(I)I"⟩
def dkwX4_grows_2 : List UInt8 := [132, 3, 1, 167, 255, 224, 28, 172]
abbrev dktX4_grows_2 : List UInt8 := dkwX4_grows_2 ++ []
def dkwX4_grows_1 : List UInt8 := [3, 46, 162, 0, 28, 28, 42, 27, 29, 182, 1, 87, 153, 0, 9, 4, 29, 120, 167, 0, 4, 3, 128, 61]
abbrev dktX4_grows_1 : List UInt8 := dkwX4_grows_1 ++ dktX4_grows_2
def dkwX4_grows_0 : List UInt8 := [42, 3, 181, 0, 3, 42, 27, 182, 1, 63, 153, 0, 5, 3, 172, 3, 61, 3, 62, 29, 42, 180, 0, 77]
abbrev dktX4_grows_0 : List UInt8 := dkwX4_grows_0 ++ dktX4_grows_1
theorem dksX4_grows_0 : cX4_grows.data.toList.drop 0 = dktX4_grows_0 := by decide +kernel
theorem dksX4_grows_1 : cX4_grows.data.toList.drop 24 = dktX4_grows_1 := dk_seg dksX4_grows_0 24 rfl rfl
theorem dksX4_grows_2 : cX4_grows.data.toList.drop 48 = dktX4_grows_2 := dk_seg dksX4_grows_1 24 rfl rfl
theorem dX4_grows_0 : decode cX4_grows 0 = .ok (.aload_n 0, 1) := dk_42 (dk_at dksX4_grows_0 0 rfl rfl)
theorem dX4_grows_1 : decode cX4_grows 1 = .ok (.iconst 0, 1) := dk_3 (dk_at dksX4_grows_0 1 rfl rfl)
theorem dX4_grows_2 : decode cX4_grows 2 = .ok (.putfield 3, 3) := dk_181 0 3 (dk_at dksX4_grows_0 2 rfl rfl)
theorem dX4_grows_5 : decode cX4_grows 5 = .ok (.aload_n 0, 1) := dk_42 (dk_at dksX4_grows_0 5 rfl rfl)
theorem dX4_grows_6 : decode cX4_grows 6 = .ok (.iload_n 1, 1) := dk_27 (dk_at dksX4_grows_0 6 rfl rfl)
theorem dX4_grows_7 : decode cX4_grows 7 = .ok (.invokevirtual 319, 3) := dk_182 1 63 (dk_at dksX4_grows_0 7 rfl rfl)
theorem dX4_grows_10 : decode cX4_grows 10 = .ok (.ifCond .eq 5, 3) := dk_153 0 5 (dk_at dksX4_grows_0 10 rfl rfl)
theorem dX4_grows_13 : decode cX4_grows 13 = .ok (.iconst 0, 1) := dk_3 (dk_at dksX4_grows_0 13 rfl rfl)
theorem dX4_grows_14 : decode cX4_grows 14 = .ok (.ireturn, 1) := dk_172 (dk_at dksX4_grows_0 14 rfl rfl)
theorem dX4_grows_15 : decode cX4_grows 15 = .ok (.iconst 0, 1) := dk_3 (dk_at dksX4_grows_0 15 rfl rfl)
theorem dX4_grows_16 : decode cX4_grows 16 = .ok (.istore_n 2, 1) := dk_61 (dk_at dksX4_grows_0 16 rfl rfl)
theorem dX4_grows_17 : decode cX4_grows 17 = .ok (.iconst 0, 1) := dk_3 (dk_at dksX4_grows_0 17 rfl rfl)
theorem dX4_grows_18 : decode cX4_grows 18 = .ok (.istore_n 3, 1) := dk_62 (dk_at dksX4_grows_0 18 rfl rfl)
theorem dX4_grows_19 : decode cX4_grows 19 = .ok (.iload_n 3, 1) := dk_29 (dk_at dksX4_grows_0 19 rfl rfl)
theorem dX4_grows_20 : decode cX4_grows 20 = .ok (.aload_n 0, 1) := dk_42 (dk_at dksX4_grows_0 20 rfl rfl)
theorem dX4_grows_21 : decode cX4_grows 21 = .ok (.getfield 77, 3) := dk_180 0 77 (dk_at dksX4_grows_0 21 rfl rfl)
theorem dX4_grows_24 : decode cX4_grows 24 = .ok (.iconst 0, 1) := dk_3 (dk_at dksX4_grows_1 0 rfl rfl)
theorem dX4_grows_25 : decode cX4_grows 25 = .ok (.iaload, 1) := dk_46 (dk_at dksX4_grows_1 1 rfl rfl)
theorem dX4_grows_26 : decode cX4_grows 26 = .ok (.if_icmp .ge 28, 3) := dk_162 0 28 (dk_at dksX4_grows_1 2 rfl rfl)
theorem dX4_grows_29 : decode cX4_grows 29 = .ok (.iload_n 2, 1) := dk_28 (dk_at dksX4_grows_1 5 rfl rfl)
theorem dX4_grows_30 : decode cX4_grows 30 = .ok (.aload_n 0, 1) := dk_42 (dk_at dksX4_grows_1 6 rfl rfl)
theorem dX4_grows_31 : decode cX4_grows 31 = .ok (.iload_n 1, 1) := dk_27 (dk_at dksX4_grows_1 7 rfl rfl)
theorem dX4_grows_32 : decode cX4_grows 32 = .ok (.iload_n 3, 1) := dk_29 (dk_at dksX4_grows_1 8 rfl rfl)
theorem dX4_grows_33 : decode cX4_grows 33 = .ok (.invokevirtual 343, 3) := dk_182 1 87 (dk_at dksX4_grows_1 9 rfl rfl)
theorem dX4_grows_36 : decode cX4_grows 36 = .ok (.ifCond .eq 9, 3) := dk_153 0 9 (dk_at dksX4_grows_1 12 rfl rfl)
theorem dX4_grows_39 : decode cX4_grows 39 = .ok (.iconst 1, 1) := dk_4 (dk_at dksX4_grows_1 15 rfl rfl)
theorem dX4_grows_40 : decode cX4_grows 40 = .ok (.iload_n 3, 1) := dk_29 (dk_at dksX4_grows_1 16 rfl rfl)
theorem dX4_grows_41 : decode cX4_grows 41 = .ok (.ishl, 1) := dk_120 (dk_at dksX4_grows_1 17 rfl rfl)
theorem dX4_grows_42 : decode cX4_grows 42 = .ok (.goto 4, 3) := dk_167 0 4 (dk_at dksX4_grows_1 18 rfl rfl)
theorem dX4_grows_45 : decode cX4_grows 45 = .ok (.iconst 0, 1) := dk_3 (dk_at dksX4_grows_1 21 rfl rfl)
theorem dX4_grows_46 : decode cX4_grows 46 = .ok (.ior, 1) := dk_128 (dk_at dksX4_grows_1 22 rfl rfl)
theorem dX4_grows_47 : decode cX4_grows 47 = .ok (.istore_n 2, 1) := dk_61 (dk_at dksX4_grows_1 23 rfl rfl)
theorem dX4_grows_48 : decode cX4_grows 48 = .ok (.iinc 3 1, 3) := dk_132 3 1 (dk_at dksX4_grows_2 0 rfl rfl)
theorem dX4_grows_51 : decode cX4_grows 51 = .ok (.goto (-32), 3) := dk_167 255 224 (dk_at dksX4_grows_2 3 rfl rfl)
theorem dX4_grows_54 : decode cX4_grows 54 = .ok (.iload_n 2, 1) := dk_28 (dk_at dksX4_grows_2 6 rfl rfl)
theorem dX4_grows_55 : decode cX4_grows 55 = .ok (.ireturn, 1) := dk_172 (dk_at dksX4_grows_2 7 rfl rfl)
abbrev cX4_doesGrow : ByteArray := prog_13_method_102_code
def yX4_doesGrow : MethodName := ⟨RX4, "doesGrow", "(II)Z"⟩
def dkwX4_doesGrow_1 : List UInt8 := [167, 0, 4, 3, 172]
abbrev dktX4_doesGrow_1 : List UInt8 := dkwX4_doesGrow_1 ++ []
def dkwX4_doesGrow_0 : List UInt8 := [42, 27, 28, 182, 1, 49, 4, 164, 0, 18, 42, 27, 28, 3, 182, 1, 52, 28, 160, 0, 7, 4]
abbrev dktX4_doesGrow_0 : List UInt8 := dkwX4_doesGrow_0 ++ dktX4_doesGrow_1
theorem dksX4_doesGrow_0 : cX4_doesGrow.data.toList.drop 0 = dktX4_doesGrow_0 := by decide +kernel
theorem dksX4_doesGrow_1 : cX4_doesGrow.data.toList.drop 22 = dktX4_doesGrow_1 := dk_seg dksX4_doesGrow_0 22 rfl rfl
theorem dX4_doesGrow_0 : decode cX4_doesGrow 0 = .ok (.aload_n 0, 1) := dk_42 (dk_at dksX4_doesGrow_0 0 rfl rfl)
theorem dX4_doesGrow_1 : decode cX4_doesGrow 1 = .ok (.iload_n 1, 1) := dk_27 (dk_at dksX4_doesGrow_0 1 rfl rfl)
theorem dX4_doesGrow_2 : decode cX4_doesGrow 2 = .ok (.iload_n 2, 1) := dk_28 (dk_at dksX4_doesGrow_0 2 rfl rfl)
theorem dX4_doesGrow_3 : decode cX4_doesGrow 3 = .ok (.invokevirtual 305, 3) := dk_182 1 49 (dk_at dksX4_doesGrow_0 3 rfl rfl)
theorem dX4_doesGrow_6 : decode cX4_doesGrow 6 = .ok (.iconst 1, 1) := dk_4 (dk_at dksX4_doesGrow_0 6 rfl rfl)
theorem dX4_doesGrow_7 : decode cX4_doesGrow 7 = .ok (.if_icmp .le 18, 3) := dk_164 0 18 (dk_at dksX4_doesGrow_0 7 rfl rfl)
theorem dX4_doesGrow_10 : decode cX4_doesGrow 10 = .ok (.aload_n 0, 1) := dk_42 (dk_at dksX4_doesGrow_0 10 rfl rfl)
theorem dX4_doesGrow_11 : decode cX4_doesGrow 11 = .ok (.iload_n 1, 1) := dk_27 (dk_at dksX4_doesGrow_0 11 rfl rfl)
theorem dX4_doesGrow_12 : decode cX4_doesGrow 12 = .ok (.iload_n 2, 1) := dk_28 (dk_at dksX4_doesGrow_0 12 rfl rfl)
theorem dX4_doesGrow_13 : decode cX4_doesGrow 13 = .ok (.iconst 0, 1) := dk_3 (dk_at dksX4_doesGrow_0 13 rfl rfl)
theorem dX4_doesGrow_14 : decode cX4_doesGrow 14 = .ok (.invokevirtual 308, 3) := dk_182 1 52 (dk_at dksX4_doesGrow_0 14 rfl rfl)
theorem dX4_doesGrow_17 : decode cX4_doesGrow 17 = .ok (.iload_n 2, 1) := dk_28 (dk_at dksX4_doesGrow_0 17 rfl rfl)
theorem dX4_doesGrow_18 : decode cX4_doesGrow 18 = .ok (.if_icmp .ne 7, 3) := dk_160 0 7 (dk_at dksX4_doesGrow_0 18 rfl rfl)
theorem dX4_doesGrow_21 : decode cX4_doesGrow 21 = .ok (.iconst 1, 1) := dk_4 (dk_at dksX4_doesGrow_0 21 rfl rfl)
theorem dX4_doesGrow_22 : decode cX4_doesGrow 22 = .ok (.goto 4, 3) := dk_167 0 4 (dk_at dksX4_doesGrow_1 0 rfl rfl)
theorem dX4_doesGrow_25 : decode cX4_doesGrow 25 = .ok (.iconst 0, 1) := dk_3 (dk_at dksX4_doesGrow_1 3 rfl rfl)
theorem dX4_doesGrow_26 : decode cX4_doesGrow 26 = .ok (.ireturn, 1) := dk_172 (dk_at dksX4_doesGrow_1 4 rfl rfl)
abbrev cX4_uniform : ByteArray := prog_13_method_104_code
def yX4_uniform : MethodName := ⟨RX4, "uniform", "(I)I"⟩
def dkwX4_uniform_2 : List UInt8 := [167, 255, 226, 42, 27, 3, 182, 1, 49, 172]
abbrev dktX4_uniform_2 : List UInt8 := dkwX4_uniform_2 ++ []
def dkwX4_uniform_1 : List UInt8 := [162, 0, 26, 42, 27, 28, 182, 1, 49, 42, 27, 3, 182, 1, 49, 159, 0, 5, 2, 172, 132, 2, 1]
abbrev dktX4_uniform_1 : List UInt8 := dkwX4_uniform_1 ++ dktX4_uniform_2
def dkwX4_uniform_0 : List UInt8 := [42, 3, 181, 0, 3, 42, 27, 182, 1, 63, 153, 0, 5, 3, 172, 4, 61, 28, 42, 180, 0, 77, 3, 46]
abbrev dktX4_uniform_0 : List UInt8 := dkwX4_uniform_0 ++ dktX4_uniform_1
theorem dksX4_uniform_0 : cX4_uniform.data.toList.drop 0 = dktX4_uniform_0 := by decide +kernel
theorem dksX4_uniform_1 : cX4_uniform.data.toList.drop 24 = dktX4_uniform_1 := dk_seg dksX4_uniform_0 24 rfl rfl
theorem dksX4_uniform_2 : cX4_uniform.data.toList.drop 47 = dktX4_uniform_2 := dk_seg dksX4_uniform_1 23 rfl rfl
theorem dX4_uniform_0 : decode cX4_uniform 0 = .ok (.aload_n 0, 1) := dk_42 (dk_at dksX4_uniform_0 0 rfl rfl)
theorem dX4_uniform_1 : decode cX4_uniform 1 = .ok (.iconst 0, 1) := dk_3 (dk_at dksX4_uniform_0 1 rfl rfl)
theorem dX4_uniform_2 : decode cX4_uniform 2 = .ok (.putfield 3, 3) := dk_181 0 3 (dk_at dksX4_uniform_0 2 rfl rfl)
theorem dX4_uniform_5 : decode cX4_uniform 5 = .ok (.aload_n 0, 1) := dk_42 (dk_at dksX4_uniform_0 5 rfl rfl)
theorem dX4_uniform_6 : decode cX4_uniform 6 = .ok (.iload_n 1, 1) := dk_27 (dk_at dksX4_uniform_0 6 rfl rfl)
theorem dX4_uniform_7 : decode cX4_uniform 7 = .ok (.invokevirtual 319, 3) := dk_182 1 63 (dk_at dksX4_uniform_0 7 rfl rfl)
theorem dX4_uniform_10 : decode cX4_uniform 10 = .ok (.ifCond .eq 5, 3) := dk_153 0 5 (dk_at dksX4_uniform_0 10 rfl rfl)
theorem dX4_uniform_13 : decode cX4_uniform 13 = .ok (.iconst 0, 1) := dk_3 (dk_at dksX4_uniform_0 13 rfl rfl)
theorem dX4_uniform_14 : decode cX4_uniform 14 = .ok (.ireturn, 1) := dk_172 (dk_at dksX4_uniform_0 14 rfl rfl)
theorem dX4_uniform_15 : decode cX4_uniform 15 = .ok (.iconst 1, 1) := dk_4 (dk_at dksX4_uniform_0 15 rfl rfl)
theorem dX4_uniform_16 : decode cX4_uniform 16 = .ok (.istore_n 2, 1) := dk_61 (dk_at dksX4_uniform_0 16 rfl rfl)
theorem dX4_uniform_17 : decode cX4_uniform 17 = .ok (.iload_n 2, 1) := dk_28 (dk_at dksX4_uniform_0 17 rfl rfl)
theorem dX4_uniform_18 : decode cX4_uniform 18 = .ok (.aload_n 0, 1) := dk_42 (dk_at dksX4_uniform_0 18 rfl rfl)
theorem dX4_uniform_19 : decode cX4_uniform 19 = .ok (.getfield 77, 3) := dk_180 0 77 (dk_at dksX4_uniform_0 19 rfl rfl)
theorem dX4_uniform_22 : decode cX4_uniform 22 = .ok (.iconst 0, 1) := dk_3 (dk_at dksX4_uniform_0 22 rfl rfl)
theorem dX4_uniform_23 : decode cX4_uniform 23 = .ok (.iaload, 1) := dk_46 (dk_at dksX4_uniform_0 23 rfl rfl)
theorem dX4_uniform_24 : decode cX4_uniform 24 = .ok (.if_icmp .ge 26, 3) := dk_162 0 26 (dk_at dksX4_uniform_1 0 rfl rfl)
theorem dX4_uniform_27 : decode cX4_uniform 27 = .ok (.aload_n 0, 1) := dk_42 (dk_at dksX4_uniform_1 3 rfl rfl)
theorem dX4_uniform_28 : decode cX4_uniform 28 = .ok (.iload_n 1, 1) := dk_27 (dk_at dksX4_uniform_1 4 rfl rfl)
theorem dX4_uniform_29 : decode cX4_uniform 29 = .ok (.iload_n 2, 1) := dk_28 (dk_at dksX4_uniform_1 5 rfl rfl)
theorem dX4_uniform_30 : decode cX4_uniform 30 = .ok (.invokevirtual 305, 3) := dk_182 1 49 (dk_at dksX4_uniform_1 6 rfl rfl)
theorem dX4_uniform_33 : decode cX4_uniform 33 = .ok (.aload_n 0, 1) := dk_42 (dk_at dksX4_uniform_1 9 rfl rfl)
theorem dX4_uniform_34 : decode cX4_uniform 34 = .ok (.iload_n 1, 1) := dk_27 (dk_at dksX4_uniform_1 10 rfl rfl)
theorem dX4_uniform_35 : decode cX4_uniform 35 = .ok (.iconst 0, 1) := dk_3 (dk_at dksX4_uniform_1 11 rfl rfl)
theorem dX4_uniform_36 : decode cX4_uniform 36 = .ok (.invokevirtual 305, 3) := dk_182 1 49 (dk_at dksX4_uniform_1 12 rfl rfl)
theorem dX4_uniform_39 : decode cX4_uniform 39 = .ok (.if_icmp .eq 5, 3) := dk_159 0 5 (dk_at dksX4_uniform_1 15 rfl rfl)
theorem dX4_uniform_42 : decode cX4_uniform 42 = .ok (.iconst (-1), 1) := dk_2 (dk_at dksX4_uniform_1 18 rfl rfl)
theorem dX4_uniform_43 : decode cX4_uniform 43 = .ok (.ireturn, 1) := dk_172 (dk_at dksX4_uniform_1 19 rfl rfl)
theorem dX4_uniform_44 : decode cX4_uniform 44 = .ok (.iinc 2 1, 3) := dk_132 2 1 (dk_at dksX4_uniform_1 20 rfl rfl)
theorem dX4_uniform_47 : decode cX4_uniform 47 = .ok (.goto (-30), 3) := dk_167 255 226 (dk_at dksX4_uniform_2 0 rfl rfl)
theorem dX4_uniform_50 : decode cX4_uniform 50 = .ok (.aload_n 0, 1) := dk_42 (dk_at dksX4_uniform_2 3 rfl rfl)
theorem dX4_uniform_51 : decode cX4_uniform 51 = .ok (.iload_n 1, 1) := dk_27 (dk_at dksX4_uniform_2 4 rfl rfl)
theorem dX4_uniform_52 : decode cX4_uniform 52 = .ok (.iconst 0, 1) := dk_3 (dk_at dksX4_uniform_2 5 rfl rfl)
theorem dX4_uniform_53 : decode cX4_uniform 53 = .ok (.invokevirtual 305, 3) := dk_182 1 49 (dk_at dksX4_uniform_2 6 rfl rfl)
theorem dX4_uniform_56 : decode cX4_uniform 56 = .ok (.ireturn, 1) := dk_172 (dk_at dksX4_uniform_2 9 rfl rfl)
abbrev cX4_fill : ByteArray := prog_13_method_105_code
def yX4_fill : MethodName := ⟨RX4, "fill", "(III)I"⟩
def dkwX4_fill_7 : List UInt8 := [182, 0, 239, 172]
abbrev dktX4_fill_7 : List UInt8 := dkwX4_fill_7 ++ []
def dkwX4_fill_6 : List UInt8 := [21, 6, 182, 1, 52, 79, 132, 6, 1, 167, 255, 206, 132, 5, 1, 167, 255, 182, 42, 29, 182, 0, 193, 42]
abbrev dktX4_fill_6 : List UInt8 := dkwX4_fill_6 ++ dktX4_fill_7
def dkwX4_fill_5 : List UInt8 := [21, 4, 29, 162, 0, 33, 42, 180, 0, 86, 21, 4, 132, 4, 1, 42, 27, 42, 180, 0, 86, 21, 5, 46]
abbrev dktX4_fill_5 : List UInt8 := dkwX4_fill_5 ++ dktX4_fill_6
def dkwX4_fill_4 : List UInt8 := [167, 0, 4, 3, 54, 6, 21, 6, 42, 27, 42, 180, 0, 86, 21, 5, 46, 182, 1, 49, 162, 0, 39]
abbrev dktX4_fill_4 : List UInt8 := dkwX4_fill_4 ++ dktX4_fill_5
def dkwX4_fill_3 : List UInt8 := [180, 0, 86, 3, 28, 79, 4, 54, 4, 3, 54, 5, 21, 4, 29, 162, 0, 74, 21, 5, 154, 0, 7, 4]
abbrev dktX4_fill_3 : List UInt8 := dkwX4_fill_3 ++ dktX4_fill_4
def dkwX4_fill_2 : List UInt8 := [28, 182, 1, 87, 154, 0, 7, 4, 167, 0, 4, 3, 6, 182, 0, 180, 153, 0, 5, 3, 172, 42]
abbrev dktX4_fill_2 : List UInt8 := dkwX4_fill_2 ++ dktX4_fill_3
def dkwX4_fill_1 : List UInt8 := [4, 16, 64, 184, 0, 65, 154, 0, 7, 4, 167, 0, 4, 3, 5, 182, 0, 180, 154, 0, 25, 42, 42, 27]
abbrev dktX4_fill_1 : List UInt8 := dkwX4_fill_1 ++ dktX4_fill_2
def dkwX4_fill_0 : List UInt8 := [42, 3, 181, 0, 3, 42, 27, 182, 1, 63, 154, 0, 57, 42, 28, 5, 182, 0, 196, 154, 0, 48, 42, 29]
abbrev dktX4_fill_0 : List UInt8 := dkwX4_fill_0 ++ dktX4_fill_1
theorem dksX4_fill_0 : cX4_fill.data.toList.drop 0 = dktX4_fill_0 := by decide +kernel
theorem dksX4_fill_1 : cX4_fill.data.toList.drop 24 = dktX4_fill_1 := dk_seg dksX4_fill_0 24 rfl rfl
theorem dksX4_fill_2 : cX4_fill.data.toList.drop 48 = dktX4_fill_2 := dk_seg dksX4_fill_1 24 rfl rfl
theorem dksX4_fill_3 : cX4_fill.data.toList.drop 70 = dktX4_fill_3 := dk_seg dksX4_fill_2 22 rfl rfl
theorem dksX4_fill_4 : cX4_fill.data.toList.drop 94 = dktX4_fill_4 := dk_seg dksX4_fill_3 24 rfl rfl
theorem dksX4_fill_5 : cX4_fill.data.toList.drop 117 = dktX4_fill_5 := dk_seg dksX4_fill_4 23 rfl rfl
theorem dksX4_fill_6 : cX4_fill.data.toList.drop 141 = dktX4_fill_6 := dk_seg dksX4_fill_5 24 rfl rfl
theorem dksX4_fill_7 : cX4_fill.data.toList.drop 165 = dktX4_fill_7 := dk_seg dksX4_fill_6 24 rfl rfl
theorem dX4_fill_0 : decode cX4_fill 0 = .ok (.aload_n 0, 1) := dk_42 (dk_at dksX4_fill_0 0 rfl rfl)
theorem dX4_fill_1 : decode cX4_fill 1 = .ok (.iconst 0, 1) := dk_3 (dk_at dksX4_fill_0 1 rfl rfl)
theorem dX4_fill_2 : decode cX4_fill 2 = .ok (.putfield 3, 3) := dk_181 0 3 (dk_at dksX4_fill_0 2 rfl rfl)
theorem dX4_fill_5 : decode cX4_fill 5 = .ok (.aload_n 0, 1) := dk_42 (dk_at dksX4_fill_0 5 rfl rfl)
theorem dX4_fill_6 : decode cX4_fill 6 = .ok (.iload_n 1, 1) := dk_27 (dk_at dksX4_fill_0 6 rfl rfl)
theorem dX4_fill_7 : decode cX4_fill 7 = .ok (.invokevirtual 319, 3) := dk_182 1 63 (dk_at dksX4_fill_0 7 rfl rfl)
theorem dX4_fill_10 : decode cX4_fill 10 = .ok (.ifCond .ne 57, 3) := dk_154 0 57 (dk_at dksX4_fill_0 10 rfl rfl)
theorem dX4_fill_13 : decode cX4_fill 13 = .ok (.aload_n 0, 1) := dk_42 (dk_at dksX4_fill_0 13 rfl rfl)
theorem dX4_fill_14 : decode cX4_fill 14 = .ok (.iload_n 2, 1) := dk_28 (dk_at dksX4_fill_0 14 rfl rfl)
theorem dX4_fill_15 : decode cX4_fill 15 = .ok (.iconst 2, 1) := dk_5 (dk_at dksX4_fill_0 15 rfl rfl)
theorem dX4_fill_16 : decode cX4_fill 16 = .ok (.invokevirtual 196, 3) := dk_182 0 196 (dk_at dksX4_fill_0 16 rfl rfl)
theorem dX4_fill_19 : decode cX4_fill 19 = .ok (.ifCond .ne 48, 3) := dk_154 0 48 (dk_at dksX4_fill_0 19 rfl rfl)
theorem dX4_fill_22 : decode cX4_fill 22 = .ok (.aload_n 0, 1) := dk_42 (dk_at dksX4_fill_0 22 rfl rfl)
theorem dX4_fill_23 : decode cX4_fill 23 = .ok (.iload_n 3, 1) := dk_29 (dk_at dksX4_fill_0 23 rfl rfl)
theorem dX4_fill_24 : decode cX4_fill 24 = .ok (.iconst 1, 1) := dk_4 (dk_at dksX4_fill_1 0 rfl rfl)
theorem dX4_fill_25 : decode cX4_fill 25 = .ok (.bipush 64, 2) := dk_16 64 (dk_at dksX4_fill_1 1 rfl rfl)
theorem dX4_fill_27 : decode cX4_fill 27 = .ok (.invokestatic 65, 3) := dk_184 0 65 (dk_at dksX4_fill_1 3 rfl rfl)
theorem dX4_fill_30 : decode cX4_fill 30 = .ok (.ifCond .ne 7, 3) := dk_154 0 7 (dk_at dksX4_fill_1 6 rfl rfl)
theorem dX4_fill_33 : decode cX4_fill 33 = .ok (.iconst 1, 1) := dk_4 (dk_at dksX4_fill_1 9 rfl rfl)
theorem dX4_fill_34 : decode cX4_fill 34 = .ok (.goto 4, 3) := dk_167 0 4 (dk_at dksX4_fill_1 10 rfl rfl)
theorem dX4_fill_37 : decode cX4_fill 37 = .ok (.iconst 0, 1) := dk_3 (dk_at dksX4_fill_1 13 rfl rfl)
theorem dX4_fill_38 : decode cX4_fill 38 = .ok (.iconst 2, 1) := dk_5 (dk_at dksX4_fill_1 14 rfl rfl)
theorem dX4_fill_39 : decode cX4_fill 39 = .ok (.invokevirtual 180, 3) := dk_182 0 180 (dk_at dksX4_fill_1 15 rfl rfl)
theorem dX4_fill_42 : decode cX4_fill 42 = .ok (.ifCond .ne 25, 3) := dk_154 0 25 (dk_at dksX4_fill_1 18 rfl rfl)
theorem dX4_fill_45 : decode cX4_fill 45 = .ok (.aload_n 0, 1) := dk_42 (dk_at dksX4_fill_1 21 rfl rfl)
theorem dX4_fill_46 : decode cX4_fill 46 = .ok (.aload_n 0, 1) := dk_42 (dk_at dksX4_fill_1 22 rfl rfl)
theorem dX4_fill_47 : decode cX4_fill 47 = .ok (.iload_n 1, 1) := dk_27 (dk_at dksX4_fill_1 23 rfl rfl)
theorem dX4_fill_48 : decode cX4_fill 48 = .ok (.iload_n 2, 1) := dk_28 (dk_at dksX4_fill_2 0 rfl rfl)
theorem dX4_fill_49 : decode cX4_fill 49 = .ok (.invokevirtual 343, 3) := dk_182 1 87 (dk_at dksX4_fill_2 1 rfl rfl)
theorem dX4_fill_52 : decode cX4_fill 52 = .ok (.ifCond .ne 7, 3) := dk_154 0 7 (dk_at dksX4_fill_2 4 rfl rfl)
theorem dX4_fill_55 : decode cX4_fill 55 = .ok (.iconst 1, 1) := dk_4 (dk_at dksX4_fill_2 7 rfl rfl)
theorem dX4_fill_56 : decode cX4_fill 56 = .ok (.goto 4, 3) := dk_167 0 4 (dk_at dksX4_fill_2 8 rfl rfl)
theorem dX4_fill_59 : decode cX4_fill 59 = .ok (.iconst 0, 1) := dk_3 (dk_at dksX4_fill_2 11 rfl rfl)
theorem dX4_fill_60 : decode cX4_fill 60 = .ok (.iconst 3, 1) := dk_6 (dk_at dksX4_fill_2 12 rfl rfl)
theorem dX4_fill_61 : decode cX4_fill 61 = .ok (.invokevirtual 180, 3) := dk_182 0 180 (dk_at dksX4_fill_2 13 rfl rfl)
theorem dX4_fill_64 : decode cX4_fill 64 = .ok (.ifCond .eq 5, 3) := dk_153 0 5 (dk_at dksX4_fill_2 16 rfl rfl)
theorem dX4_fill_67 : decode cX4_fill 67 = .ok (.iconst 0, 1) := dk_3 (dk_at dksX4_fill_2 19 rfl rfl)
theorem dX4_fill_68 : decode cX4_fill 68 = .ok (.ireturn, 1) := dk_172 (dk_at dksX4_fill_2 20 rfl rfl)
theorem dX4_fill_69 : decode cX4_fill 69 = .ok (.aload_n 0, 1) := dk_42 (dk_at dksX4_fill_2 21 rfl rfl)
theorem dX4_fill_70 : decode cX4_fill 70 = .ok (.getfield 86, 3) := dk_180 0 86 (dk_at dksX4_fill_3 0 rfl rfl)
theorem dX4_fill_73 : decode cX4_fill 73 = .ok (.iconst 0, 1) := dk_3 (dk_at dksX4_fill_3 3 rfl rfl)
theorem dX4_fill_74 : decode cX4_fill 74 = .ok (.iload_n 2, 1) := dk_28 (dk_at dksX4_fill_3 4 rfl rfl)
theorem dX4_fill_75 : decode cX4_fill 75 = .ok (.iastore, 1) := dk_79 (dk_at dksX4_fill_3 5 rfl rfl)
theorem dX4_fill_76 : decode cX4_fill 76 = .ok (.iconst 1, 1) := dk_4 (dk_at dksX4_fill_3 6 rfl rfl)
theorem dX4_fill_77 : decode cX4_fill 77 = .ok (.istore 4, 2) := dk_54 4 (dk_at dksX4_fill_3 7 rfl rfl)
theorem dX4_fill_79 : decode cX4_fill 79 = .ok (.iconst 0, 1) := dk_3 (dk_at dksX4_fill_3 9 rfl rfl)
theorem dX4_fill_80 : decode cX4_fill 80 = .ok (.istore 5, 2) := dk_54 5 (dk_at dksX4_fill_3 10 rfl rfl)
theorem dX4_fill_82 : decode cX4_fill 82 = .ok (.iload 4, 2) := dk_21 4 (dk_at dksX4_fill_3 12 rfl rfl)
theorem dX4_fill_84 : decode cX4_fill 84 = .ok (.iload_n 3, 1) := dk_29 (dk_at dksX4_fill_3 14 rfl rfl)
theorem dX4_fill_85 : decode cX4_fill 85 = .ok (.if_icmp .ge 74, 3) := dk_162 0 74 (dk_at dksX4_fill_3 15 rfl rfl)
theorem dX4_fill_88 : decode cX4_fill 88 = .ok (.iload 5, 2) := dk_21 5 (dk_at dksX4_fill_3 18 rfl rfl)
theorem dX4_fill_90 : decode cX4_fill 90 = .ok (.ifCond .ne 7, 3) := dk_154 0 7 (dk_at dksX4_fill_3 20 rfl rfl)
theorem dX4_fill_93 : decode cX4_fill 93 = .ok (.iconst 1, 1) := dk_4 (dk_at dksX4_fill_3 23 rfl rfl)
theorem dX4_fill_94 : decode cX4_fill 94 = .ok (.goto 4, 3) := dk_167 0 4 (dk_at dksX4_fill_4 0 rfl rfl)
theorem dX4_fill_97 : decode cX4_fill 97 = .ok (.iconst 0, 1) := dk_3 (dk_at dksX4_fill_4 3 rfl rfl)
theorem dX4_fill_98 : decode cX4_fill 98 = .ok (.istore 6, 2) := dk_54 6 (dk_at dksX4_fill_4 4 rfl rfl)
theorem dX4_fill_100 : decode cX4_fill 100 = .ok (.iload 6, 2) := dk_21 6 (dk_at dksX4_fill_4 6 rfl rfl)
theorem dX4_fill_102 : decode cX4_fill 102 = .ok (.aload_n 0, 1) := dk_42 (dk_at dksX4_fill_4 8 rfl rfl)
theorem dX4_fill_103 : decode cX4_fill 103 = .ok (.iload_n 1, 1) := dk_27 (dk_at dksX4_fill_4 9 rfl rfl)
theorem dX4_fill_104 : decode cX4_fill 104 = .ok (.aload_n 0, 1) := dk_42 (dk_at dksX4_fill_4 10 rfl rfl)
theorem dX4_fill_105 : decode cX4_fill 105 = .ok (.getfield 86, 3) := dk_180 0 86 (dk_at dksX4_fill_4 11 rfl rfl)
theorem dX4_fill_108 : decode cX4_fill 108 = .ok (.iload 5, 2) := dk_21 5 (dk_at dksX4_fill_4 14 rfl rfl)
theorem dX4_fill_110 : decode cX4_fill 110 = .ok (.iaload, 1) := dk_46 (dk_at dksX4_fill_4 16 rfl rfl)
theorem dX4_fill_111 : decode cX4_fill 111 = .ok (.invokevirtual 305, 3) := dk_182 1 49 (dk_at dksX4_fill_4 17 rfl rfl)
theorem dX4_fill_114 : decode cX4_fill 114 = .ok (.if_icmp .ge 39, 3) := dk_162 0 39 (dk_at dksX4_fill_4 20 rfl rfl)
theorem dX4_fill_117 : decode cX4_fill 117 = .ok (.iload 4, 2) := dk_21 4 (dk_at dksX4_fill_5 0 rfl rfl)
theorem dX4_fill_119 : decode cX4_fill 119 = .ok (.iload_n 3, 1) := dk_29 (dk_at dksX4_fill_5 2 rfl rfl)
theorem dX4_fill_120 : decode cX4_fill 120 = .ok (.if_icmp .ge 33, 3) := dk_162 0 33 (dk_at dksX4_fill_5 3 rfl rfl)
theorem dX4_fill_123 : decode cX4_fill 123 = .ok (.aload_n 0, 1) := dk_42 (dk_at dksX4_fill_5 6 rfl rfl)
theorem dX4_fill_124 : decode cX4_fill 124 = .ok (.getfield 86, 3) := dk_180 0 86 (dk_at dksX4_fill_5 7 rfl rfl)
theorem dX4_fill_127 : decode cX4_fill 127 = .ok (.iload 4, 2) := dk_21 4 (dk_at dksX4_fill_5 10 rfl rfl)
theorem dX4_fill_129 : decode cX4_fill 129 = .ok (.iinc 4 1, 3) := dk_132 4 1 (dk_at dksX4_fill_5 12 rfl rfl)
theorem dX4_fill_132 : decode cX4_fill 132 = .ok (.aload_n 0, 1) := dk_42 (dk_at dksX4_fill_5 15 rfl rfl)
theorem dX4_fill_133 : decode cX4_fill 133 = .ok (.iload_n 1, 1) := dk_27 (dk_at dksX4_fill_5 16 rfl rfl)
theorem dX4_fill_134 : decode cX4_fill 134 = .ok (.aload_n 0, 1) := dk_42 (dk_at dksX4_fill_5 17 rfl rfl)
theorem dX4_fill_135 : decode cX4_fill 135 = .ok (.getfield 86, 3) := dk_180 0 86 (dk_at dksX4_fill_5 18 rfl rfl)
theorem dX4_fill_138 : decode cX4_fill 138 = .ok (.iload 5, 2) := dk_21 5 (dk_at dksX4_fill_5 21 rfl rfl)
theorem dX4_fill_140 : decode cX4_fill 140 = .ok (.iaload, 1) := dk_46 (dk_at dksX4_fill_5 23 rfl rfl)
theorem dX4_fill_141 : decode cX4_fill 141 = .ok (.iload 6, 2) := dk_21 6 (dk_at dksX4_fill_6 0 rfl rfl)
theorem dX4_fill_143 : decode cX4_fill 143 = .ok (.invokevirtual 308, 3) := dk_182 1 52 (dk_at dksX4_fill_6 2 rfl rfl)
theorem dX4_fill_146 : decode cX4_fill 146 = .ok (.iastore, 1) := dk_79 (dk_at dksX4_fill_6 5 rfl rfl)
theorem dX4_fill_147 : decode cX4_fill 147 = .ok (.iinc 6 1, 3) := dk_132 6 1 (dk_at dksX4_fill_6 6 rfl rfl)
theorem dX4_fill_150 : decode cX4_fill 150 = .ok (.goto (-50), 3) := dk_167 255 206 (dk_at dksX4_fill_6 9 rfl rfl)
theorem dX4_fill_153 : decode cX4_fill 153 = .ok (.iinc 5 1, 3) := dk_132 5 1 (dk_at dksX4_fill_6 12 rfl rfl)
theorem dX4_fill_156 : decode cX4_fill 156 = .ok (.goto (-74), 3) := dk_167 255 182 (dk_at dksX4_fill_6 15 rfl rfl)
theorem dX4_fill_159 : decode cX4_fill 159 = .ok (.aload_n 0, 1) := dk_42 (dk_at dksX4_fill_6 18 rfl rfl)
theorem dX4_fill_160 : decode cX4_fill 160 = .ok (.iload_n 3, 1) := dk_29 (dk_at dksX4_fill_6 19 rfl rfl)
theorem dX4_fill_161 : decode cX4_fill 161 = .ok (.invokevirtual 193, 3) := dk_182 0 193 (dk_at dksX4_fill_6 20 rfl rfl)
theorem dX4_fill_164 : decode cX4_fill 164 = .ok (.aload_n 0, 1) := dk_42 (dk_at dksX4_fill_6 23 rfl rfl)
theorem dX4_fill_165 : decode cX4_fill 165 = .ok (.invokevirtual 239, 3) := dk_182 0 239 (dk_at dksX4_fill_7 0 rfl rfl)
theorem dX4_fill_168 : decode cX4_fill 168 = .ok (.ireturn, 1) := dk_172 (dk_at dksX4_fill_7 3 rfl rfl)
abbrev cX4_sources : ByteArray := prog_13_method_106_code
def yX4_sources : MethodName := ⟨RX4, "sources", "(I)J"⟩
def dkwX4_sources_7 : List UInt8 := [180, 0, 184, 47, 173]
abbrev dktX4_sources_7 : List UInt8 := dkwX4_sources_7 ++ []
def dkwX4_sources_6 : List UInt8 := [21, 4, 100, 47, 97, 80, 132, 3, 1, 167, 255, 148, 132, 2, 1, 167, 255, 125, 42, 180, 0, 108, 42]
abbrev dktX4_sources_6 : List UInt8 := dkwX4_sources_6 ++ dktX4_sources_7
def dkwX4_sources_5 : List UInt8 := [132, 6, 1, 167, 255, 211, 21, 5, 153, 0, 21, 42, 180, 0, 108, 28, 92, 47, 42, 180, 0, 108, 28]
abbrev dktX4_sources_5 : List UInt8 := dkwX4_sources_5 ++ dktX4_sources_6
def dkwX4_sources_4 : List UInt8 := [21, 6, 96, 46, 42, 27, 29, 21, 6, 182, 1, 52, 160, 0, 7, 4, 167, 0, 4, 3, 54, 5]
abbrev dktX4_sources_4 : List UInt8 := dkwX4_sources_4 ++ dktX4_sources_5
def dkwX4_sources_3 : List UInt8 := [3, 54, 6, 21, 6, 21, 4, 162, 0, 44, 21, 5, 153, 0, 39, 42, 180, 0, 83, 28, 21, 4, 100]
abbrev dktX4_sources_3 : List UInt8 := dkwX4_sources_3 ++ dktX4_sources_4
def dkwX4_sources_2 : List UInt8 := [162, 0, 104, 42, 27, 29, 182, 1, 49, 54, 4, 21, 4, 28, 163, 0, 7, 4, 167, 0, 4, 3, 54, 5]
abbrev dktX4_sources_2 : List UInt8 := dkwX4_sources_2 ++ dktX4_sources_3
def dkwX4_sources_1 : List UInt8 := [28, 42, 180, 0, 184, 163, 0, 129, 42, 180, 0, 108, 28, 9, 80, 3, 62, 29, 42, 180, 0, 77, 3, 46]
abbrev dktX4_sources_1 : List UInt8 := dkwX4_sources_1 ++ dktX4_sources_2
def dkwX4_sources_0 : List UInt8 := [42, 3, 181, 0, 3, 42, 27, 182, 1, 63, 153, 0, 5, 9, 173, 42, 180, 0, 108, 3, 10, 80, 4, 61]
abbrev dktX4_sources_0 : List UInt8 := dkwX4_sources_0 ++ dktX4_sources_1
theorem dksX4_sources_0 : cX4_sources.data.toList.drop 0 = dktX4_sources_0 := by decide +kernel
theorem dksX4_sources_1 : cX4_sources.data.toList.drop 24 = dktX4_sources_1 := dk_seg dksX4_sources_0 24 rfl rfl
theorem dksX4_sources_2 : cX4_sources.data.toList.drop 48 = dktX4_sources_2 := dk_seg dksX4_sources_1 24 rfl rfl
theorem dksX4_sources_3 : cX4_sources.data.toList.drop 72 = dktX4_sources_3 := dk_seg dksX4_sources_2 24 rfl rfl
theorem dksX4_sources_4 : cX4_sources.data.toList.drop 95 = dktX4_sources_4 := dk_seg dksX4_sources_3 23 rfl rfl
theorem dksX4_sources_5 : cX4_sources.data.toList.drop 117 = dktX4_sources_5 := dk_seg dksX4_sources_4 22 rfl rfl
theorem dksX4_sources_6 : cX4_sources.data.toList.drop 140 = dktX4_sources_6 := dk_seg dksX4_sources_5 23 rfl rfl
theorem dksX4_sources_7 : cX4_sources.data.toList.drop 163 = dktX4_sources_7 := dk_seg dksX4_sources_6 23 rfl rfl
theorem dX4_sources_0 : decode cX4_sources 0 = .ok (.aload_n 0, 1) := dk_42 (dk_at dksX4_sources_0 0 rfl rfl)
theorem dX4_sources_1 : decode cX4_sources 1 = .ok (.iconst 0, 1) := dk_3 (dk_at dksX4_sources_0 1 rfl rfl)
theorem dX4_sources_2 : decode cX4_sources 2 = .ok (.putfield 3, 3) := dk_181 0 3 (dk_at dksX4_sources_0 2 rfl rfl)
theorem dX4_sources_5 : decode cX4_sources 5 = .ok (.aload_n 0, 1) := dk_42 (dk_at dksX4_sources_0 5 rfl rfl)
theorem dX4_sources_6 : decode cX4_sources 6 = .ok (.iload_n 1, 1) := dk_27 (dk_at dksX4_sources_0 6 rfl rfl)
theorem dX4_sources_7 : decode cX4_sources 7 = .ok (.invokevirtual 319, 3) := dk_182 1 63 (dk_at dksX4_sources_0 7 rfl rfl)
theorem dX4_sources_10 : decode cX4_sources 10 = .ok (.ifCond .eq 5, 3) := dk_153 0 5 (dk_at dksX4_sources_0 10 rfl rfl)
theorem dX4_sources_13 : decode cX4_sources 13 = .ok (.lconst 0, 1) := dk_9 (dk_at dksX4_sources_0 13 rfl rfl)
theorem dX4_sources_14 : decode cX4_sources 14 = .ok (.lreturn, 1) := dk_173 (dk_at dksX4_sources_0 14 rfl rfl)
theorem dX4_sources_15 : decode cX4_sources 15 = .ok (.aload_n 0, 1) := dk_42 (dk_at dksX4_sources_0 15 rfl rfl)
theorem dX4_sources_16 : decode cX4_sources 16 = .ok (.getfield 108, 3) := dk_180 0 108 (dk_at dksX4_sources_0 16 rfl rfl)
theorem dX4_sources_19 : decode cX4_sources 19 = .ok (.iconst 0, 1) := dk_3 (dk_at dksX4_sources_0 19 rfl rfl)
theorem dX4_sources_20 : decode cX4_sources 20 = .ok (.lconst 1, 1) := dk_10 (dk_at dksX4_sources_0 20 rfl rfl)
theorem dX4_sources_21 : decode cX4_sources 21 = .ok (.lastore, 1) := dk_80 (dk_at dksX4_sources_0 21 rfl rfl)
theorem dX4_sources_22 : decode cX4_sources 22 = .ok (.iconst 1, 1) := dk_4 (dk_at dksX4_sources_0 22 rfl rfl)
theorem dX4_sources_23 : decode cX4_sources 23 = .ok (.istore_n 2, 1) := dk_61 (dk_at dksX4_sources_0 23 rfl rfl)
theorem dX4_sources_24 : decode cX4_sources 24 = .ok (.iload_n 2, 1) := dk_28 (dk_at dksX4_sources_1 0 rfl rfl)
theorem dX4_sources_25 : decode cX4_sources 25 = .ok (.aload_n 0, 1) := dk_42 (dk_at dksX4_sources_1 1 rfl rfl)
theorem dX4_sources_26 : decode cX4_sources 26 = .ok (.getfield 184, 3) := dk_180 0 184 (dk_at dksX4_sources_1 2 rfl rfl)
theorem dX4_sources_29 : decode cX4_sources 29 = .ok (.if_icmp .gt 129, 3) := dk_163 0 129 (dk_at dksX4_sources_1 5 rfl rfl)
theorem dX4_sources_32 : decode cX4_sources 32 = .ok (.aload_n 0, 1) := dk_42 (dk_at dksX4_sources_1 8 rfl rfl)
theorem dX4_sources_33 : decode cX4_sources 33 = .ok (.getfield 108, 3) := dk_180 0 108 (dk_at dksX4_sources_1 9 rfl rfl)
theorem dX4_sources_36 : decode cX4_sources 36 = .ok (.iload_n 2, 1) := dk_28 (dk_at dksX4_sources_1 12 rfl rfl)
theorem dX4_sources_37 : decode cX4_sources 37 = .ok (.lconst 0, 1) := dk_9 (dk_at dksX4_sources_1 13 rfl rfl)
theorem dX4_sources_38 : decode cX4_sources 38 = .ok (.lastore, 1) := dk_80 (dk_at dksX4_sources_1 14 rfl rfl)
theorem dX4_sources_39 : decode cX4_sources 39 = .ok (.iconst 0, 1) := dk_3 (dk_at dksX4_sources_1 15 rfl rfl)
theorem dX4_sources_40 : decode cX4_sources 40 = .ok (.istore_n 3, 1) := dk_62 (dk_at dksX4_sources_1 16 rfl rfl)
theorem dX4_sources_41 : decode cX4_sources 41 = .ok (.iload_n 3, 1) := dk_29 (dk_at dksX4_sources_1 17 rfl rfl)
theorem dX4_sources_42 : decode cX4_sources 42 = .ok (.aload_n 0, 1) := dk_42 (dk_at dksX4_sources_1 18 rfl rfl)
theorem dX4_sources_43 : decode cX4_sources 43 = .ok (.getfield 77, 3) := dk_180 0 77 (dk_at dksX4_sources_1 19 rfl rfl)
theorem dX4_sources_46 : decode cX4_sources 46 = .ok (.iconst 0, 1) := dk_3 (dk_at dksX4_sources_1 22 rfl rfl)
theorem dX4_sources_47 : decode cX4_sources 47 = .ok (.iaload, 1) := dk_46 (dk_at dksX4_sources_1 23 rfl rfl)
theorem dX4_sources_48 : decode cX4_sources 48 = .ok (.if_icmp .ge 104, 3) := dk_162 0 104 (dk_at dksX4_sources_2 0 rfl rfl)
theorem dX4_sources_51 : decode cX4_sources 51 = .ok (.aload_n 0, 1) := dk_42 (dk_at dksX4_sources_2 3 rfl rfl)
theorem dX4_sources_52 : decode cX4_sources 52 = .ok (.iload_n 1, 1) := dk_27 (dk_at dksX4_sources_2 4 rfl rfl)
theorem dX4_sources_53 : decode cX4_sources 53 = .ok (.iload_n 3, 1) := dk_29 (dk_at dksX4_sources_2 5 rfl rfl)
theorem dX4_sources_54 : decode cX4_sources 54 = .ok (.invokevirtual 305, 3) := dk_182 1 49 (dk_at dksX4_sources_2 6 rfl rfl)
theorem dX4_sources_57 : decode cX4_sources 57 = .ok (.istore 4, 2) := dk_54 4 (dk_at dksX4_sources_2 9 rfl rfl)
theorem dX4_sources_59 : decode cX4_sources 59 = .ok (.iload 4, 2) := dk_21 4 (dk_at dksX4_sources_2 11 rfl rfl)
theorem dX4_sources_61 : decode cX4_sources 61 = .ok (.iload_n 2, 1) := dk_28 (dk_at dksX4_sources_2 13 rfl rfl)
theorem dX4_sources_62 : decode cX4_sources 62 = .ok (.if_icmp .gt 7, 3) := dk_163 0 7 (dk_at dksX4_sources_2 14 rfl rfl)
theorem dX4_sources_65 : decode cX4_sources 65 = .ok (.iconst 1, 1) := dk_4 (dk_at dksX4_sources_2 17 rfl rfl)
theorem dX4_sources_66 : decode cX4_sources 66 = .ok (.goto 4, 3) := dk_167 0 4 (dk_at dksX4_sources_2 18 rfl rfl)
theorem dX4_sources_69 : decode cX4_sources 69 = .ok (.iconst 0, 1) := dk_3 (dk_at dksX4_sources_2 21 rfl rfl)
theorem dX4_sources_70 : decode cX4_sources 70 = .ok (.istore 5, 2) := dk_54 5 (dk_at dksX4_sources_2 22 rfl rfl)
theorem dX4_sources_72 : decode cX4_sources 72 = .ok (.iconst 0, 1) := dk_3 (dk_at dksX4_sources_3 0 rfl rfl)
theorem dX4_sources_73 : decode cX4_sources 73 = .ok (.istore 6, 2) := dk_54 6 (dk_at dksX4_sources_3 1 rfl rfl)
theorem dX4_sources_75 : decode cX4_sources 75 = .ok (.iload 6, 2) := dk_21 6 (dk_at dksX4_sources_3 3 rfl rfl)
theorem dX4_sources_77 : decode cX4_sources 77 = .ok (.iload 4, 2) := dk_21 4 (dk_at dksX4_sources_3 5 rfl rfl)
theorem dX4_sources_79 : decode cX4_sources 79 = .ok (.if_icmp .ge 44, 3) := dk_162 0 44 (dk_at dksX4_sources_3 7 rfl rfl)
theorem dX4_sources_82 : decode cX4_sources 82 = .ok (.iload 5, 2) := dk_21 5 (dk_at dksX4_sources_3 10 rfl rfl)
theorem dX4_sources_84 : decode cX4_sources 84 = .ok (.ifCond .eq 39, 3) := dk_153 0 39 (dk_at dksX4_sources_3 12 rfl rfl)
theorem dX4_sources_87 : decode cX4_sources 87 = .ok (.aload_n 0, 1) := dk_42 (dk_at dksX4_sources_3 15 rfl rfl)
theorem dX4_sources_88 : decode cX4_sources 88 = .ok (.getfield 83, 3) := dk_180 0 83 (dk_at dksX4_sources_3 16 rfl rfl)
theorem dX4_sources_91 : decode cX4_sources 91 = .ok (.iload_n 2, 1) := dk_28 (dk_at dksX4_sources_3 19 rfl rfl)
theorem dX4_sources_92 : decode cX4_sources 92 = .ok (.iload 4, 2) := dk_21 4 (dk_at dksX4_sources_3 20 rfl rfl)
theorem dX4_sources_94 : decode cX4_sources 94 = .ok (.isub, 1) := dk_100 (dk_at dksX4_sources_3 22 rfl rfl)
theorem dX4_sources_95 : decode cX4_sources 95 = .ok (.iload 6, 2) := dk_21 6 (dk_at dksX4_sources_4 0 rfl rfl)
theorem dX4_sources_97 : decode cX4_sources 97 = .ok (.iadd, 1) := dk_96 (dk_at dksX4_sources_4 2 rfl rfl)
theorem dX4_sources_98 : decode cX4_sources 98 = .ok (.iaload, 1) := dk_46 (dk_at dksX4_sources_4 3 rfl rfl)
theorem dX4_sources_99 : decode cX4_sources 99 = .ok (.aload_n 0, 1) := dk_42 (dk_at dksX4_sources_4 4 rfl rfl)
theorem dX4_sources_100 : decode cX4_sources 100 = .ok (.iload_n 1, 1) := dk_27 (dk_at dksX4_sources_4 5 rfl rfl)
theorem dX4_sources_101 : decode cX4_sources 101 = .ok (.iload_n 3, 1) := dk_29 (dk_at dksX4_sources_4 6 rfl rfl)
theorem dX4_sources_102 : decode cX4_sources 102 = .ok (.iload 6, 2) := dk_21 6 (dk_at dksX4_sources_4 7 rfl rfl)
theorem dX4_sources_104 : decode cX4_sources 104 = .ok (.invokevirtual 308, 3) := dk_182 1 52 (dk_at dksX4_sources_4 9 rfl rfl)
theorem dX4_sources_107 : decode cX4_sources 107 = .ok (.if_icmp .ne 7, 3) := dk_160 0 7 (dk_at dksX4_sources_4 12 rfl rfl)
theorem dX4_sources_110 : decode cX4_sources 110 = .ok (.iconst 1, 1) := dk_4 (dk_at dksX4_sources_4 15 rfl rfl)
theorem dX4_sources_111 : decode cX4_sources 111 = .ok (.goto 4, 3) := dk_167 0 4 (dk_at dksX4_sources_4 16 rfl rfl)
theorem dX4_sources_114 : decode cX4_sources 114 = .ok (.iconst 0, 1) := dk_3 (dk_at dksX4_sources_4 19 rfl rfl)
theorem dX4_sources_115 : decode cX4_sources 115 = .ok (.istore 5, 2) := dk_54 5 (dk_at dksX4_sources_4 20 rfl rfl)
theorem dX4_sources_117 : decode cX4_sources 117 = .ok (.iinc 6 1, 3) := dk_132 6 1 (dk_at dksX4_sources_5 0 rfl rfl)
theorem dX4_sources_120 : decode cX4_sources 120 = .ok (.goto (-45), 3) := dk_167 255 211 (dk_at dksX4_sources_5 3 rfl rfl)
theorem dX4_sources_123 : decode cX4_sources 123 = .ok (.iload 5, 2) := dk_21 5 (dk_at dksX4_sources_5 6 rfl rfl)
theorem dX4_sources_125 : decode cX4_sources 125 = .ok (.ifCond .eq 21, 3) := dk_153 0 21 (dk_at dksX4_sources_5 8 rfl rfl)
theorem dX4_sources_128 : decode cX4_sources 128 = .ok (.aload_n 0, 1) := dk_42 (dk_at dksX4_sources_5 11 rfl rfl)
theorem dX4_sources_129 : decode cX4_sources 129 = .ok (.getfield 108, 3) := dk_180 0 108 (dk_at dksX4_sources_5 12 rfl rfl)
theorem dX4_sources_132 : decode cX4_sources 132 = .ok (.iload_n 2, 1) := dk_28 (dk_at dksX4_sources_5 15 rfl rfl)
theorem dX4_sources_133 : decode cX4_sources 133 = .ok (.dup2, 1) := dk_92 (dk_at dksX4_sources_5 16 rfl rfl)
theorem dX4_sources_134 : decode cX4_sources 134 = .ok (.laload, 1) := dk_47 (dk_at dksX4_sources_5 17 rfl rfl)
theorem dX4_sources_135 : decode cX4_sources 135 = .ok (.aload_n 0, 1) := dk_42 (dk_at dksX4_sources_5 18 rfl rfl)
theorem dX4_sources_136 : decode cX4_sources 136 = .ok (.getfield 108, 3) := dk_180 0 108 (dk_at dksX4_sources_5 19 rfl rfl)
theorem dX4_sources_139 : decode cX4_sources 139 = .ok (.iload_n 2, 1) := dk_28 (dk_at dksX4_sources_5 22 rfl rfl)
theorem dX4_sources_140 : decode cX4_sources 140 = .ok (.iload 4, 2) := dk_21 4 (dk_at dksX4_sources_6 0 rfl rfl)
theorem dX4_sources_142 : decode cX4_sources 142 = .ok (.isub, 1) := dk_100 (dk_at dksX4_sources_6 2 rfl rfl)
theorem dX4_sources_143 : decode cX4_sources 143 = .ok (.laload, 1) := dk_47 (dk_at dksX4_sources_6 3 rfl rfl)
theorem dX4_sources_144 : decode cX4_sources 144 = .ok (.ladd, 1) := dk_97 (dk_at dksX4_sources_6 4 rfl rfl)
theorem dX4_sources_145 : decode cX4_sources 145 = .ok (.lastore, 1) := dk_80 (dk_at dksX4_sources_6 5 rfl rfl)
theorem dX4_sources_146 : decode cX4_sources 146 = .ok (.iinc 3 1, 3) := dk_132 3 1 (dk_at dksX4_sources_6 6 rfl rfl)
theorem dX4_sources_149 : decode cX4_sources 149 = .ok (.goto (-108), 3) := dk_167 255 148 (dk_at dksX4_sources_6 9 rfl rfl)
theorem dX4_sources_152 : decode cX4_sources 152 = .ok (.iinc 2 1, 3) := dk_132 2 1 (dk_at dksX4_sources_6 12 rfl rfl)
theorem dX4_sources_155 : decode cX4_sources 155 = .ok (.goto (-131), 3) := dk_167 255 125 (dk_at dksX4_sources_6 15 rfl rfl)
theorem dX4_sources_158 : decode cX4_sources 158 = .ok (.aload_n 0, 1) := dk_42 (dk_at dksX4_sources_6 18 rfl rfl)
theorem dX4_sources_159 : decode cX4_sources 159 = .ok (.getfield 108, 3) := dk_180 0 108 (dk_at dksX4_sources_6 19 rfl rfl)
theorem dX4_sources_162 : decode cX4_sources 162 = .ok (.aload_n 0, 1) := dk_42 (dk_at dksX4_sources_6 22 rfl rfl)
theorem dX4_sources_163 : decode cX4_sources 163 = .ok (.getfield 184, 3) := dk_180 0 184 (dk_at dksX4_sources_7 0 rfl rfl)
theorem dX4_sources_166 : decode cX4_sources 166 = .ok (.laload, 1) := dk_47 (dk_at dksX4_sources_7 3 rfl rfl)
theorem dX4_sources_167 : decode cX4_sources 167 = .ok (.lreturn, 1) := dk_173 (dk_at dksX4_sources_7 4 rfl rfl)
abbrev cX4_code : ByteArray := prog_13_method_108_code
def yX4_code : MethodName := ⟨RX4, "code", "(I)Z"⟩
def dkwX4_code_9 : List UInt8 := [154, 0, 7, 4, 167, 0, 4, 3, 172]
abbrev dktX4_code_9 : List UInt8 := dkwX4_code_9 ++ []
def dkwX4_code_8 : List UInt8 := [167, 255, 229, 132, 4, 1, 167, 255, 191, 132, 3, 1, 167, 255, 172, 167, 255, 154, 42, 180, 1, 90]
abbrev dktX4_code_8 : List UInt8 := dkwX4_code_8 ++ dktX4_code_9
def dkwX4_code_7 : List UInt8 := [180, 0, 77, 3, 46, 162, 0, 22, 28, 42, 27, 29, 21, 4, 21, 5, 182, 1, 93, 128, 61, 132, 5, 1]
abbrev dktX4_code_7 : List UInt8 := dkwX4_code_7 ++ dktX4_code_8
def dkwX4_code_6 : List UInt8 := [180, 0, 111, 16, 6, 29, 104, 21, 4, 96, 51, 154, 0, 6, 167, 0, 36, 3, 54, 5, 21, 5, 42]
abbrev dktX4_code_6 : List UInt8 := dkwX4_code_6 ++ dktX4_code_7
def dkwX4_code_5 : List UInt8 := [180, 0, 77, 3, 46, 162, 0, 80, 4, 54, 4, 21, 4, 42, 27, 29, 182, 1, 49, 162, 0, 60, 42]
abbrev dktX4_code_5 : List UInt8 := dkwX4_code_5 ++ dktX4_code_6
def dkwX4_code_4 : List UInt8 := [132, 3, 1, 167, 255, 205, 28, 153, 0, 104, 42, 180, 1, 90, 154, 0, 97, 3, 61, 3, 62, 29, 42]
abbrev dktX4_code_4 : List UInt8 := dkwX4_code_4 ++ dktX4_code_5
def dkwX4_code_3 : List UInt8 := [29, 21, 4, 159, 0, 15, 28, 42, 27, 29, 3, 21, 4, 182, 1, 93, 128, 61, 132, 4, 1, 167, 255, 224]
abbrev dktX4_code_3 : List UInt8 := dkwX4_code_3 ++ dktX4_code_4
def dkwX4_code_2 : List UInt8 := [29, 42, 180, 0, 77, 3, 46, 162, 0, 47, 3, 54, 4, 21, 4, 42, 180, 0, 77, 3, 46, 162, 0, 27]
abbrev dktX4_code_2 : List UInt8 := dkwX4_code_2 ++ dktX4_code_3
def dkwX4_code_1 : List UInt8 := [180, 0, 111, 190, 162, 0, 16, 42, 180, 0, 111, 28, 3, 84, 132, 2, 1, 167, 255, 237, 4, 61, 3, 62]
abbrev dktX4_code_1 : List UInt8 := dkwX4_code_1 ++ dktX4_code_2
def dkwX4_code_0 : List UInt8 := [42, 3, 181, 0, 3, 42, 27, 182, 1, 63, 153, 0, 5, 3, 172, 42, 3, 181, 1, 90, 3, 61, 28, 42]
abbrev dktX4_code_0 : List UInt8 := dkwX4_code_0 ++ dktX4_code_1
theorem dksX4_code_0 : cX4_code.data.toList.drop 0 = dktX4_code_0 := by decide +kernel
theorem dksX4_code_1 : cX4_code.data.toList.drop 24 = dktX4_code_1 := dk_seg dksX4_code_0 24 rfl rfl
theorem dksX4_code_2 : cX4_code.data.toList.drop 48 = dktX4_code_2 := dk_seg dksX4_code_1 24 rfl rfl
theorem dksX4_code_3 : cX4_code.data.toList.drop 72 = dktX4_code_3 := dk_seg dksX4_code_2 24 rfl rfl
theorem dksX4_code_4 : cX4_code.data.toList.drop 96 = dktX4_code_4 := dk_seg dksX4_code_3 24 rfl rfl
theorem dksX4_code_5 : cX4_code.data.toList.drop 119 = dktX4_code_5 := dk_seg dksX4_code_4 23 rfl rfl
theorem dksX4_code_6 : cX4_code.data.toList.drop 142 = dktX4_code_6 := dk_seg dksX4_code_5 23 rfl rfl
theorem dksX4_code_7 : cX4_code.data.toList.drop 165 = dktX4_code_7 := dk_seg dksX4_code_6 23 rfl rfl
theorem dksX4_code_8 : cX4_code.data.toList.drop 189 = dktX4_code_8 := dk_seg dksX4_code_7 24 rfl rfl
theorem dksX4_code_9 : cX4_code.data.toList.drop 211 = dktX4_code_9 := dk_seg dksX4_code_8 22 rfl rfl
theorem dX4_code_0 : decode cX4_code 0 = .ok (.aload_n 0, 1) := dk_42 (dk_at dksX4_code_0 0 rfl rfl)
theorem dX4_code_1 : decode cX4_code 1 = .ok (.iconst 0, 1) := dk_3 (dk_at dksX4_code_0 1 rfl rfl)
theorem dX4_code_2 : decode cX4_code 2 = .ok (.putfield 3, 3) := dk_181 0 3 (dk_at dksX4_code_0 2 rfl rfl)
theorem dX4_code_5 : decode cX4_code 5 = .ok (.aload_n 0, 1) := dk_42 (dk_at dksX4_code_0 5 rfl rfl)
theorem dX4_code_6 : decode cX4_code 6 = .ok (.iload_n 1, 1) := dk_27 (dk_at dksX4_code_0 6 rfl rfl)
theorem dX4_code_7 : decode cX4_code 7 = .ok (.invokevirtual 319, 3) := dk_182 1 63 (dk_at dksX4_code_0 7 rfl rfl)
theorem dX4_code_10 : decode cX4_code 10 = .ok (.ifCond .eq 5, 3) := dk_153 0 5 (dk_at dksX4_code_0 10 rfl rfl)
theorem dX4_code_13 : decode cX4_code 13 = .ok (.iconst 0, 1) := dk_3 (dk_at dksX4_code_0 13 rfl rfl)
theorem dX4_code_14 : decode cX4_code 14 = .ok (.ireturn, 1) := dk_172 (dk_at dksX4_code_0 14 rfl rfl)
theorem dX4_code_15 : decode cX4_code 15 = .ok (.aload_n 0, 1) := dk_42 (dk_at dksX4_code_0 15 rfl rfl)
theorem dX4_code_16 : decode cX4_code 16 = .ok (.iconst 0, 1) := dk_3 (dk_at dksX4_code_0 16 rfl rfl)
theorem dX4_code_17 : decode cX4_code 17 = .ok (.putfield 346, 3) := dk_181 1 90 (dk_at dksX4_code_0 17 rfl rfl)
theorem dX4_code_20 : decode cX4_code 20 = .ok (.iconst 0, 1) := dk_3 (dk_at dksX4_code_0 20 rfl rfl)
theorem dX4_code_21 : decode cX4_code 21 = .ok (.istore_n 2, 1) := dk_61 (dk_at dksX4_code_0 21 rfl rfl)
theorem dX4_code_22 : decode cX4_code 22 = .ok (.iload_n 2, 1) := dk_28 (dk_at dksX4_code_0 22 rfl rfl)
theorem dX4_code_23 : decode cX4_code 23 = .ok (.aload_n 0, 1) := dk_42 (dk_at dksX4_code_0 23 rfl rfl)
theorem dX4_code_24 : decode cX4_code 24 = .ok (.getfield 111, 3) := dk_180 0 111 (dk_at dksX4_code_1 0 rfl rfl)
theorem dX4_code_27 : decode cX4_code 27 = .ok (.arraylength, 1) := dk_190 (dk_at dksX4_code_1 3 rfl rfl)
theorem dX4_code_28 : decode cX4_code 28 = .ok (.if_icmp .ge 16, 3) := dk_162 0 16 (dk_at dksX4_code_1 4 rfl rfl)
theorem dX4_code_31 : decode cX4_code 31 = .ok (.aload_n 0, 1) := dk_42 (dk_at dksX4_code_1 7 rfl rfl)
theorem dX4_code_32 : decode cX4_code 32 = .ok (.getfield 111, 3) := dk_180 0 111 (dk_at dksX4_code_1 8 rfl rfl)
theorem dX4_code_35 : decode cX4_code 35 = .ok (.iload_n 2, 1) := dk_28 (dk_at dksX4_code_1 11 rfl rfl)
theorem dX4_code_36 : decode cX4_code 36 = .ok (.iconst 0, 1) := dk_3 (dk_at dksX4_code_1 12 rfl rfl)
theorem dX4_code_37 : decode cX4_code 37 = .ok (.bastore, 1) := dk_84 (dk_at dksX4_code_1 13 rfl rfl)
theorem dX4_code_38 : decode cX4_code 38 = .ok (.iinc 2 1, 3) := dk_132 2 1 (dk_at dksX4_code_1 14 rfl rfl)
theorem dX4_code_41 : decode cX4_code 41 = .ok (.goto (-19), 3) := dk_167 255 237 (dk_at dksX4_code_1 17 rfl rfl)
theorem dX4_code_44 : decode cX4_code 44 = .ok (.iconst 1, 1) := dk_4 (dk_at dksX4_code_1 20 rfl rfl)
theorem dX4_code_45 : decode cX4_code 45 = .ok (.istore_n 2, 1) := dk_61 (dk_at dksX4_code_1 21 rfl rfl)
theorem dX4_code_46 : decode cX4_code 46 = .ok (.iconst 0, 1) := dk_3 (dk_at dksX4_code_1 22 rfl rfl)
theorem dX4_code_47 : decode cX4_code 47 = .ok (.istore_n 3, 1) := dk_62 (dk_at dksX4_code_1 23 rfl rfl)
theorem dX4_code_48 : decode cX4_code 48 = .ok (.iload_n 3, 1) := dk_29 (dk_at dksX4_code_2 0 rfl rfl)
theorem dX4_code_49 : decode cX4_code 49 = .ok (.aload_n 0, 1) := dk_42 (dk_at dksX4_code_2 1 rfl rfl)
theorem dX4_code_50 : decode cX4_code 50 = .ok (.getfield 77, 3) := dk_180 0 77 (dk_at dksX4_code_2 2 rfl rfl)
theorem dX4_code_53 : decode cX4_code 53 = .ok (.iconst 0, 1) := dk_3 (dk_at dksX4_code_2 5 rfl rfl)
theorem dX4_code_54 : decode cX4_code 54 = .ok (.iaload, 1) := dk_46 (dk_at dksX4_code_2 6 rfl rfl)
theorem dX4_code_55 : decode cX4_code 55 = .ok (.if_icmp .ge 47, 3) := dk_162 0 47 (dk_at dksX4_code_2 7 rfl rfl)
theorem dX4_code_58 : decode cX4_code 58 = .ok (.iconst 0, 1) := dk_3 (dk_at dksX4_code_2 10 rfl rfl)
theorem dX4_code_59 : decode cX4_code 59 = .ok (.istore 4, 2) := dk_54 4 (dk_at dksX4_code_2 11 rfl rfl)
theorem dX4_code_61 : decode cX4_code 61 = .ok (.iload 4, 2) := dk_21 4 (dk_at dksX4_code_2 13 rfl rfl)
theorem dX4_code_63 : decode cX4_code 63 = .ok (.aload_n 0, 1) := dk_42 (dk_at dksX4_code_2 15 rfl rfl)
theorem dX4_code_64 : decode cX4_code 64 = .ok (.getfield 77, 3) := dk_180 0 77 (dk_at dksX4_code_2 16 rfl rfl)
theorem dX4_code_67 : decode cX4_code 67 = .ok (.iconst 0, 1) := dk_3 (dk_at dksX4_code_2 19 rfl rfl)
theorem dX4_code_68 : decode cX4_code 68 = .ok (.iaload, 1) := dk_46 (dk_at dksX4_code_2 20 rfl rfl)
theorem dX4_code_69 : decode cX4_code 69 = .ok (.if_icmp .ge 27, 3) := dk_162 0 27 (dk_at dksX4_code_2 21 rfl rfl)
theorem dX4_code_72 : decode cX4_code 72 = .ok (.iload_n 3, 1) := dk_29 (dk_at dksX4_code_3 0 rfl rfl)
theorem dX4_code_73 : decode cX4_code 73 = .ok (.iload 4, 2) := dk_21 4 (dk_at dksX4_code_3 1 rfl rfl)
theorem dX4_code_75 : decode cX4_code 75 = .ok (.if_icmp .eq 15, 3) := dk_159 0 15 (dk_at dksX4_code_3 3 rfl rfl)
theorem dX4_code_78 : decode cX4_code 78 = .ok (.iload_n 2, 1) := dk_28 (dk_at dksX4_code_3 6 rfl rfl)
theorem dX4_code_79 : decode cX4_code 79 = .ok (.aload_n 0, 1) := dk_42 (dk_at dksX4_code_3 7 rfl rfl)
theorem dX4_code_80 : decode cX4_code 80 = .ok (.iload_n 1, 1) := dk_27 (dk_at dksX4_code_3 8 rfl rfl)
theorem dX4_code_81 : decode cX4_code 81 = .ok (.iload_n 3, 1) := dk_29 (dk_at dksX4_code_3 9 rfl rfl)
theorem dX4_code_82 : decode cX4_code 82 = .ok (.iconst 0, 1) := dk_3 (dk_at dksX4_code_3 10 rfl rfl)
theorem dX4_code_83 : decode cX4_code 83 = .ok (.iload 4, 2) := dk_21 4 (dk_at dksX4_code_3 11 rfl rfl)
theorem dX4_code_85 : decode cX4_code 85 = .ok (.invokevirtual 349, 3) := dk_182 1 93 (dk_at dksX4_code_3 13 rfl rfl)
theorem dX4_code_88 : decode cX4_code 88 = .ok (.ior, 1) := dk_128 (dk_at dksX4_code_3 16 rfl rfl)
theorem dX4_code_89 : decode cX4_code 89 = .ok (.istore_n 2, 1) := dk_61 (dk_at dksX4_code_3 17 rfl rfl)
theorem dX4_code_90 : decode cX4_code 90 = .ok (.iinc 4 1, 3) := dk_132 4 1 (dk_at dksX4_code_3 18 rfl rfl)
theorem dX4_code_93 : decode cX4_code 93 = .ok (.goto (-32), 3) := dk_167 255 224 (dk_at dksX4_code_3 21 rfl rfl)
theorem dX4_code_96 : decode cX4_code 96 = .ok (.iinc 3 1, 3) := dk_132 3 1 (dk_at dksX4_code_4 0 rfl rfl)
theorem dX4_code_99 : decode cX4_code 99 = .ok (.goto (-51), 3) := dk_167 255 205 (dk_at dksX4_code_4 3 rfl rfl)
theorem dX4_code_102 : decode cX4_code 102 = .ok (.iload_n 2, 1) := dk_28 (dk_at dksX4_code_4 6 rfl rfl)
theorem dX4_code_103 : decode cX4_code 103 = .ok (.ifCond .eq 104, 3) := dk_153 0 104 (dk_at dksX4_code_4 7 rfl rfl)
theorem dX4_code_106 : decode cX4_code 106 = .ok (.aload_n 0, 1) := dk_42 (dk_at dksX4_code_4 10 rfl rfl)
theorem dX4_code_107 : decode cX4_code 107 = .ok (.getfield 346, 3) := dk_180 1 90 (dk_at dksX4_code_4 11 rfl rfl)
theorem dX4_code_110 : decode cX4_code 110 = .ok (.ifCond .ne 97, 3) := dk_154 0 97 (dk_at dksX4_code_4 14 rfl rfl)
theorem dX4_code_113 : decode cX4_code 113 = .ok (.iconst 0, 1) := dk_3 (dk_at dksX4_code_4 17 rfl rfl)
theorem dX4_code_114 : decode cX4_code 114 = .ok (.istore_n 2, 1) := dk_61 (dk_at dksX4_code_4 18 rfl rfl)
theorem dX4_code_115 : decode cX4_code 115 = .ok (.iconst 0, 1) := dk_3 (dk_at dksX4_code_4 19 rfl rfl)
theorem dX4_code_116 : decode cX4_code 116 = .ok (.istore_n 3, 1) := dk_62 (dk_at dksX4_code_4 20 rfl rfl)
theorem dX4_code_117 : decode cX4_code 117 = .ok (.iload_n 3, 1) := dk_29 (dk_at dksX4_code_4 21 rfl rfl)
theorem dX4_code_118 : decode cX4_code 118 = .ok (.aload_n 0, 1) := dk_42 (dk_at dksX4_code_4 22 rfl rfl)
theorem dX4_code_119 : decode cX4_code 119 = .ok (.getfield 77, 3) := dk_180 0 77 (dk_at dksX4_code_5 0 rfl rfl)
theorem dX4_code_122 : decode cX4_code 122 = .ok (.iconst 0, 1) := dk_3 (dk_at dksX4_code_5 3 rfl rfl)
theorem dX4_code_123 : decode cX4_code 123 = .ok (.iaload, 1) := dk_46 (dk_at dksX4_code_5 4 rfl rfl)
theorem dX4_code_124 : decode cX4_code 124 = .ok (.if_icmp .ge 80, 3) := dk_162 0 80 (dk_at dksX4_code_5 5 rfl rfl)
theorem dX4_code_127 : decode cX4_code 127 = .ok (.iconst 1, 1) := dk_4 (dk_at dksX4_code_5 8 rfl rfl)
theorem dX4_code_128 : decode cX4_code 128 = .ok (.istore 4, 2) := dk_54 4 (dk_at dksX4_code_5 9 rfl rfl)
theorem dX4_code_130 : decode cX4_code 130 = .ok (.iload 4, 2) := dk_21 4 (dk_at dksX4_code_5 11 rfl rfl)
theorem dX4_code_132 : decode cX4_code 132 = .ok (.aload_n 0, 1) := dk_42 (dk_at dksX4_code_5 13 rfl rfl)
theorem dX4_code_133 : decode cX4_code 133 = .ok (.iload_n 1, 1) := dk_27 (dk_at dksX4_code_5 14 rfl rfl)
theorem dX4_code_134 : decode cX4_code 134 = .ok (.iload_n 3, 1) := dk_29 (dk_at dksX4_code_5 15 rfl rfl)
theorem dX4_code_135 : decode cX4_code 135 = .ok (.invokevirtual 305, 3) := dk_182 1 49 (dk_at dksX4_code_5 16 rfl rfl)
theorem dX4_code_138 : decode cX4_code 138 = .ok (.if_icmp .ge 60, 3) := dk_162 0 60 (dk_at dksX4_code_5 19 rfl rfl)
theorem dX4_code_141 : decode cX4_code 141 = .ok (.aload_n 0, 1) := dk_42 (dk_at dksX4_code_5 22 rfl rfl)
theorem dX4_code_142 : decode cX4_code 142 = .ok (.getfield 111, 3) := dk_180 0 111 (dk_at dksX4_code_6 0 rfl rfl)
theorem dX4_code_145 : decode cX4_code 145 = .ok (.bipush 6, 2) := dk_16 6 (dk_at dksX4_code_6 3 rfl rfl)
theorem dX4_code_147 : decode cX4_code 147 = .ok (.iload_n 3, 1) := dk_29 (dk_at dksX4_code_6 5 rfl rfl)
theorem dX4_code_148 : decode cX4_code 148 = .ok (.imul, 1) := dk_104 (dk_at dksX4_code_6 6 rfl rfl)
theorem dX4_code_149 : decode cX4_code 149 = .ok (.iload 4, 2) := dk_21 4 (dk_at dksX4_code_6 7 rfl rfl)
theorem dX4_code_151 : decode cX4_code 151 = .ok (.iadd, 1) := dk_96 (dk_at dksX4_code_6 9 rfl rfl)
theorem dX4_code_152 : decode cX4_code 152 = .ok (.baload, 1) := dk_51 (dk_at dksX4_code_6 10 rfl rfl)
theorem dX4_code_153 : decode cX4_code 153 = .ok (.ifCond .ne 6, 3) := dk_154 0 6 (dk_at dksX4_code_6 11 rfl rfl)
theorem dX4_code_156 : decode cX4_code 156 = .ok (.goto 36, 3) := dk_167 0 36 (dk_at dksX4_code_6 14 rfl rfl)
theorem dX4_code_159 : decode cX4_code 159 = .ok (.iconst 0, 1) := dk_3 (dk_at dksX4_code_6 17 rfl rfl)
theorem dX4_code_160 : decode cX4_code 160 = .ok (.istore 5, 2) := dk_54 5 (dk_at dksX4_code_6 18 rfl rfl)
theorem dX4_code_162 : decode cX4_code 162 = .ok (.iload 5, 2) := dk_21 5 (dk_at dksX4_code_6 20 rfl rfl)
theorem dX4_code_164 : decode cX4_code 164 = .ok (.aload_n 0, 1) := dk_42 (dk_at dksX4_code_6 22 rfl rfl)
theorem dX4_code_165 : decode cX4_code 165 = .ok (.getfield 77, 3) := dk_180 0 77 (dk_at dksX4_code_7 0 rfl rfl)
theorem dX4_code_168 : decode cX4_code 168 = .ok (.iconst 0, 1) := dk_3 (dk_at dksX4_code_7 3 rfl rfl)
theorem dX4_code_169 : decode cX4_code 169 = .ok (.iaload, 1) := dk_46 (dk_at dksX4_code_7 4 rfl rfl)
theorem dX4_code_170 : decode cX4_code 170 = .ok (.if_icmp .ge 22, 3) := dk_162 0 22 (dk_at dksX4_code_7 5 rfl rfl)
theorem dX4_code_173 : decode cX4_code 173 = .ok (.iload_n 2, 1) := dk_28 (dk_at dksX4_code_7 8 rfl rfl)
theorem dX4_code_174 : decode cX4_code 174 = .ok (.aload_n 0, 1) := dk_42 (dk_at dksX4_code_7 9 rfl rfl)
theorem dX4_code_175 : decode cX4_code 175 = .ok (.iload_n 1, 1) := dk_27 (dk_at dksX4_code_7 10 rfl rfl)
theorem dX4_code_176 : decode cX4_code 176 = .ok (.iload_n 3, 1) := dk_29 (dk_at dksX4_code_7 11 rfl rfl)
theorem dX4_code_177 : decode cX4_code 177 = .ok (.iload 4, 2) := dk_21 4 (dk_at dksX4_code_7 12 rfl rfl)
theorem dX4_code_179 : decode cX4_code 179 = .ok (.iload 5, 2) := dk_21 5 (dk_at dksX4_code_7 14 rfl rfl)
theorem dX4_code_181 : decode cX4_code 181 = .ok (.invokevirtual 349, 3) := dk_182 1 93 (dk_at dksX4_code_7 16 rfl rfl)
theorem dX4_code_184 : decode cX4_code 184 = .ok (.ior, 1) := dk_128 (dk_at dksX4_code_7 19 rfl rfl)
theorem dX4_code_185 : decode cX4_code 185 = .ok (.istore_n 2, 1) := dk_61 (dk_at dksX4_code_7 20 rfl rfl)
theorem dX4_code_186 : decode cX4_code 186 = .ok (.iinc 5 1, 3) := dk_132 5 1 (dk_at dksX4_code_7 21 rfl rfl)
theorem dX4_code_189 : decode cX4_code 189 = .ok (.goto (-27), 3) := dk_167 255 229 (dk_at dksX4_code_8 0 rfl rfl)
theorem dX4_code_192 : decode cX4_code 192 = .ok (.iinc 4 1, 3) := dk_132 4 1 (dk_at dksX4_code_8 3 rfl rfl)
theorem dX4_code_195 : decode cX4_code 195 = .ok (.goto (-65), 3) := dk_167 255 191 (dk_at dksX4_code_8 6 rfl rfl)
theorem dX4_code_198 : decode cX4_code 198 = .ok (.iinc 3 1, 3) := dk_132 3 1 (dk_at dksX4_code_8 9 rfl rfl)
theorem dX4_code_201 : decode cX4_code 201 = .ok (.goto (-84), 3) := dk_167 255 172 (dk_at dksX4_code_8 12 rfl rfl)
theorem dX4_code_204 : decode cX4_code 204 = .ok (.goto (-102), 3) := dk_167 255 154 (dk_at dksX4_code_8 15 rfl rfl)
theorem dX4_code_207 : decode cX4_code 207 = .ok (.aload_n 0, 1) := dk_42 (dk_at dksX4_code_8 18 rfl rfl)
theorem dX4_code_208 : decode cX4_code 208 = .ok (.getfield 346, 3) := dk_180 1 90 (dk_at dksX4_code_8 19 rfl rfl)
theorem dX4_code_211 : decode cX4_code 211 = .ok (.ifCond .ne 7, 3) := dk_154 0 7 (dk_at dksX4_code_9 0 rfl rfl)
theorem dX4_code_214 : decode cX4_code 214 = .ok (.iconst 1, 1) := dk_4 (dk_at dksX4_code_9 3 rfl rfl)
theorem dX4_code_215 : decode cX4_code 215 = .ok (.goto 4, 3) := dk_167 0 4 (dk_at dksX4_code_9 4 rfl rfl)
theorem dX4_code_218 : decode cX4_code 218 = .ok (.iconst 0, 1) := dk_3 (dk_at dksX4_code_9 7 rfl rfl)
theorem dX4_code_219 : decode cX4_code 219 = .ok (.ireturn, 1) := dk_172 (dk_at dksX4_code_9 8 rfl rfl)
abbrev cX4_against : ByteArray := prog_13_method_107_code
def yX4_against : MethodName := ⟨RX4, "against", "(IIII)Z"⟩
def dkwX4_against_5 : List UInt8 := [51, 154, 0, 7, 4, 167, 0, 4, 3, 54, 8, 42, 180, 0, 111, 21, 7, 4, 84, 21, 8, 172]
abbrev dktX4_against_5 : List UInt8 := dkwX4_against_5 ++ []
def dkwX4_against_4 : List UInt8 := [29, 96, 21, 6, 96, 167, 0, 11, 16, 6, 21, 4, 104, 21, 6, 96, 54, 7, 42, 180, 0, 111, 21, 7]
abbrev dktX4_against_4 : List UInt8 := dkwX4_against_4 ++ dktX4_against_5
def dkwX4_against_3 : List UInt8 := [182, 1, 49, 160, 0, 10, 42, 4, 181, 1, 90, 3, 172, 21, 5, 21, 6, 164, 0, 15, 16, 6, 28, 104]
abbrev dktX4_against_3 : List UInt8 := dkwX4_against_3 ++ dktX4_against_4
def dkwX4_against_2 : List UInt8 := [21, 7, 182, 1, 52, 159, 0, 5, 3, 172, 132, 7, 1, 167, 255, 222, 21, 5, 42, 27, 21, 4]
abbrev dktX4_against_2 : List UInt8 := dkwX4_against_2 ++ dktX4_against_3
def dkwX4_against_1 : List UInt8 := [3, 54, 7, 21, 7, 21, 6, 162, 0, 33, 42, 27, 28, 29, 21, 7, 96, 182, 1, 52, 42, 27, 21, 4]
abbrev dktX4_against_1 : List UInt8 := dkwX4_against_1 ++ dktX4_against_2
def dkwX4_against_0 : List UInt8 := [42, 27, 28, 182, 1, 49, 29, 100, 54, 5, 21, 5, 42, 27, 21, 4, 182, 1, 49, 184, 1, 46, 54, 6]
abbrev dktX4_against_0 : List UInt8 := dkwX4_against_0 ++ dktX4_against_1
theorem dksX4_against_0 : cX4_against.data.toList.drop 0 = dktX4_against_0 := by decide +kernel
theorem dksX4_against_1 : cX4_against.data.toList.drop 24 = dktX4_against_1 := dk_seg dksX4_against_0 24 rfl rfl
theorem dksX4_against_2 : cX4_against.data.toList.drop 48 = dktX4_against_2 := dk_seg dksX4_against_1 24 rfl rfl
theorem dksX4_against_3 : cX4_against.data.toList.drop 70 = dktX4_against_3 := dk_seg dksX4_against_2 22 rfl rfl
theorem dksX4_against_4 : cX4_against.data.toList.drop 94 = dktX4_against_4 := dk_seg dksX4_against_3 24 rfl rfl
theorem dksX4_against_5 : cX4_against.data.toList.drop 118 = dktX4_against_5 := dk_seg dksX4_against_4 24 rfl rfl
theorem dX4_against_0 : decode cX4_against 0 = .ok (.aload_n 0, 1) := dk_42 (dk_at dksX4_against_0 0 rfl rfl)
theorem dX4_against_1 : decode cX4_against 1 = .ok (.iload_n 1, 1) := dk_27 (dk_at dksX4_against_0 1 rfl rfl)
theorem dX4_against_2 : decode cX4_against 2 = .ok (.iload_n 2, 1) := dk_28 (dk_at dksX4_against_0 2 rfl rfl)
theorem dX4_against_3 : decode cX4_against 3 = .ok (.invokevirtual 305, 3) := dk_182 1 49 (dk_at dksX4_against_0 3 rfl rfl)
theorem dX4_against_6 : decode cX4_against 6 = .ok (.iload_n 3, 1) := dk_29 (dk_at dksX4_against_0 6 rfl rfl)
theorem dX4_against_7 : decode cX4_against 7 = .ok (.isub, 1) := dk_100 (dk_at dksX4_against_0 7 rfl rfl)
theorem dX4_against_8 : decode cX4_against 8 = .ok (.istore 5, 2) := dk_54 5 (dk_at dksX4_against_0 8 rfl rfl)
theorem dX4_against_10 : decode cX4_against 10 = .ok (.iload 5, 2) := dk_21 5 (dk_at dksX4_against_0 10 rfl rfl)
theorem dX4_against_12 : decode cX4_against 12 = .ok (.aload_n 0, 1) := dk_42 (dk_at dksX4_against_0 12 rfl rfl)
theorem dX4_against_13 : decode cX4_against 13 = .ok (.iload_n 1, 1) := dk_27 (dk_at dksX4_against_0 13 rfl rfl)
theorem dX4_against_14 : decode cX4_against 14 = .ok (.iload 4, 2) := dk_21 4 (dk_at dksX4_against_0 14 rfl rfl)
theorem dX4_against_16 : decode cX4_against 16 = .ok (.invokevirtual 305, 3) := dk_182 1 49 (dk_at dksX4_against_0 16 rfl rfl)
theorem dX4_against_19 : decode cX4_against 19 = .ok (.invokestatic 302, 3) := dk_184 1 46 (dk_at dksX4_against_0 19 rfl rfl)
theorem dX4_against_22 : decode cX4_against 22 = .ok (.istore 6, 2) := dk_54 6 (dk_at dksX4_against_0 22 rfl rfl)
theorem dX4_against_24 : decode cX4_against 24 = .ok (.iconst 0, 1) := dk_3 (dk_at dksX4_against_1 0 rfl rfl)
theorem dX4_against_25 : decode cX4_against 25 = .ok (.istore 7, 2) := dk_54 7 (dk_at dksX4_against_1 1 rfl rfl)
theorem dX4_against_27 : decode cX4_against 27 = .ok (.iload 7, 2) := dk_21 7 (dk_at dksX4_against_1 3 rfl rfl)
theorem dX4_against_29 : decode cX4_against 29 = .ok (.iload 6, 2) := dk_21 6 (dk_at dksX4_against_1 5 rfl rfl)
theorem dX4_against_31 : decode cX4_against 31 = .ok (.if_icmp .ge 33, 3) := dk_162 0 33 (dk_at dksX4_against_1 7 rfl rfl)
theorem dX4_against_34 : decode cX4_against 34 = .ok (.aload_n 0, 1) := dk_42 (dk_at dksX4_against_1 10 rfl rfl)
theorem dX4_against_35 : decode cX4_against 35 = .ok (.iload_n 1, 1) := dk_27 (dk_at dksX4_against_1 11 rfl rfl)
theorem dX4_against_36 : decode cX4_against 36 = .ok (.iload_n 2, 1) := dk_28 (dk_at dksX4_against_1 12 rfl rfl)
theorem dX4_against_37 : decode cX4_against 37 = .ok (.iload_n 3, 1) := dk_29 (dk_at dksX4_against_1 13 rfl rfl)
theorem dX4_against_38 : decode cX4_against 38 = .ok (.iload 7, 2) := dk_21 7 (dk_at dksX4_against_1 14 rfl rfl)
theorem dX4_against_40 : decode cX4_against 40 = .ok (.iadd, 1) := dk_96 (dk_at dksX4_against_1 16 rfl rfl)
theorem dX4_against_41 : decode cX4_against 41 = .ok (.invokevirtual 308, 3) := dk_182 1 52 (dk_at dksX4_against_1 17 rfl rfl)
theorem dX4_against_44 : decode cX4_against 44 = .ok (.aload_n 0, 1) := dk_42 (dk_at dksX4_against_1 20 rfl rfl)
theorem dX4_against_45 : decode cX4_against 45 = .ok (.iload_n 1, 1) := dk_27 (dk_at dksX4_against_1 21 rfl rfl)
theorem dX4_against_46 : decode cX4_against 46 = .ok (.iload 4, 2) := dk_21 4 (dk_at dksX4_against_1 22 rfl rfl)
theorem dX4_against_48 : decode cX4_against 48 = .ok (.iload 7, 2) := dk_21 7 (dk_at dksX4_against_2 0 rfl rfl)
theorem dX4_against_50 : decode cX4_against 50 = .ok (.invokevirtual 308, 3) := dk_182 1 52 (dk_at dksX4_against_2 2 rfl rfl)
theorem dX4_against_53 : decode cX4_against 53 = .ok (.if_icmp .eq 5, 3) := dk_159 0 5 (dk_at dksX4_against_2 5 rfl rfl)
theorem dX4_against_56 : decode cX4_against 56 = .ok (.iconst 0, 1) := dk_3 (dk_at dksX4_against_2 8 rfl rfl)
theorem dX4_against_57 : decode cX4_against 57 = .ok (.ireturn, 1) := dk_172 (dk_at dksX4_against_2 9 rfl rfl)
theorem dX4_against_58 : decode cX4_against 58 = .ok (.iinc 7 1, 3) := dk_132 7 1 (dk_at dksX4_against_2 10 rfl rfl)
theorem dX4_against_61 : decode cX4_against 61 = .ok (.goto (-34), 3) := dk_167 255 222 (dk_at dksX4_against_2 13 rfl rfl)
theorem dX4_against_64 : decode cX4_against 64 = .ok (.iload 5, 2) := dk_21 5 (dk_at dksX4_against_2 16 rfl rfl)
theorem dX4_against_66 : decode cX4_against 66 = .ok (.aload_n 0, 1) := dk_42 (dk_at dksX4_against_2 18 rfl rfl)
theorem dX4_against_67 : decode cX4_against 67 = .ok (.iload_n 1, 1) := dk_27 (dk_at dksX4_against_2 19 rfl rfl)
theorem dX4_against_68 : decode cX4_against 68 = .ok (.iload 4, 2) := dk_21 4 (dk_at dksX4_against_2 20 rfl rfl)
theorem dX4_against_70 : decode cX4_against 70 = .ok (.invokevirtual 305, 3) := dk_182 1 49 (dk_at dksX4_against_3 0 rfl rfl)
theorem dX4_against_73 : decode cX4_against 73 = .ok (.if_icmp .ne 10, 3) := dk_160 0 10 (dk_at dksX4_against_3 3 rfl rfl)
theorem dX4_against_76 : decode cX4_against 76 = .ok (.aload_n 0, 1) := dk_42 (dk_at dksX4_against_3 6 rfl rfl)
theorem dX4_against_77 : decode cX4_against 77 = .ok (.iconst 1, 1) := dk_4 (dk_at dksX4_against_3 7 rfl rfl)
theorem dX4_against_78 : decode cX4_against 78 = .ok (.putfield 346, 3) := dk_181 1 90 (dk_at dksX4_against_3 8 rfl rfl)
theorem dX4_against_81 : decode cX4_against 81 = .ok (.iconst 0, 1) := dk_3 (dk_at dksX4_against_3 11 rfl rfl)
theorem dX4_against_82 : decode cX4_against 82 = .ok (.ireturn, 1) := dk_172 (dk_at dksX4_against_3 12 rfl rfl)
theorem dX4_against_83 : decode cX4_against 83 = .ok (.iload 5, 2) := dk_21 5 (dk_at dksX4_against_3 13 rfl rfl)
theorem dX4_against_85 : decode cX4_against 85 = .ok (.iload 6, 2) := dk_21 6 (dk_at dksX4_against_3 15 rfl rfl)
theorem dX4_against_87 : decode cX4_against 87 = .ok (.if_icmp .le 15, 3) := dk_164 0 15 (dk_at dksX4_against_3 17 rfl rfl)
theorem dX4_against_90 : decode cX4_against 90 = .ok (.bipush 6, 2) := dk_16 6 (dk_at dksX4_against_3 20 rfl rfl)
theorem dX4_against_92 : decode cX4_against 92 = .ok (.iload_n 2, 1) := dk_28 (dk_at dksX4_against_3 22 rfl rfl)
theorem dX4_against_93 : decode cX4_against 93 = .ok (.imul, 1) := dk_104 (dk_at dksX4_against_3 23 rfl rfl)
theorem dX4_against_94 : decode cX4_against 94 = .ok (.iload_n 3, 1) := dk_29 (dk_at dksX4_against_4 0 rfl rfl)
theorem dX4_against_95 : decode cX4_against 95 = .ok (.iadd, 1) := dk_96 (dk_at dksX4_against_4 1 rfl rfl)
theorem dX4_against_96 : decode cX4_against 96 = .ok (.iload 6, 2) := dk_21 6 (dk_at dksX4_against_4 2 rfl rfl)
theorem dX4_against_98 : decode cX4_against 98 = .ok (.iadd, 1) := dk_96 (dk_at dksX4_against_4 4 rfl rfl)
theorem dX4_against_99 : decode cX4_against 99 = .ok (.goto 11, 3) := dk_167 0 11 (dk_at dksX4_against_4 5 rfl rfl)
theorem dX4_against_102 : decode cX4_against 102 = .ok (.bipush 6, 2) := dk_16 6 (dk_at dksX4_against_4 8 rfl rfl)
theorem dX4_against_104 : decode cX4_against 104 = .ok (.iload 4, 2) := dk_21 4 (dk_at dksX4_against_4 10 rfl rfl)
theorem dX4_against_106 : decode cX4_against 106 = .ok (.imul, 1) := dk_104 (dk_at dksX4_against_4 12 rfl rfl)
theorem dX4_against_107 : decode cX4_against 107 = .ok (.iload 6, 2) := dk_21 6 (dk_at dksX4_against_4 13 rfl rfl)
theorem dX4_against_109 : decode cX4_against 109 = .ok (.iadd, 1) := dk_96 (dk_at dksX4_against_4 15 rfl rfl)
theorem dX4_against_110 : decode cX4_against 110 = .ok (.istore 7, 2) := dk_54 7 (dk_at dksX4_against_4 16 rfl rfl)
theorem dX4_against_112 : decode cX4_against 112 = .ok (.aload_n 0, 1) := dk_42 (dk_at dksX4_against_4 18 rfl rfl)
theorem dX4_against_113 : decode cX4_against 113 = .ok (.getfield 111, 3) := dk_180 0 111 (dk_at dksX4_against_4 19 rfl rfl)
theorem dX4_against_116 : decode cX4_against 116 = .ok (.iload 7, 2) := dk_21 7 (dk_at dksX4_against_4 22 rfl rfl)
theorem dX4_against_118 : decode cX4_against 118 = .ok (.baload, 1) := dk_51 (dk_at dksX4_against_5 0 rfl rfl)
theorem dX4_against_119 : decode cX4_against 119 = .ok (.ifCond .ne 7, 3) := dk_154 0 7 (dk_at dksX4_against_5 1 rfl rfl)
theorem dX4_against_122 : decode cX4_against 122 = .ok (.iconst 1, 1) := dk_4 (dk_at dksX4_against_5 4 rfl rfl)
theorem dX4_against_123 : decode cX4_against 123 = .ok (.goto 4, 3) := dk_167 0 4 (dk_at dksX4_against_5 5 rfl rfl)
theorem dX4_against_126 : decode cX4_against 126 = .ok (.iconst 0, 1) := dk_3 (dk_at dksX4_against_5 8 rfl rfl)
theorem dX4_against_127 : decode cX4_against 127 = .ok (.istore 8, 2) := dk_54 8 (dk_at dksX4_against_5 9 rfl rfl)
theorem dX4_against_129 : decode cX4_against 129 = .ok (.aload_n 0, 1) := dk_42 (dk_at dksX4_against_5 11 rfl rfl)
theorem dX4_against_130 : decode cX4_against 130 = .ok (.getfield 111, 3) := dk_180 0 111 (dk_at dksX4_against_5 12 rfl rfl)
theorem dX4_against_133 : decode cX4_against 133 = .ok (.iload 7, 2) := dk_21 7 (dk_at dksX4_against_5 15 rfl rfl)
theorem dX4_against_135 : decode cX4_against 135 = .ok (.iconst 1, 1) := dk_4 (dk_at dksX4_against_5 17 rfl rfl)
theorem dX4_against_136 : decode cX4_against 136 = .ok (.bastore, 1) := dk_84 (dk_at dksX4_against_5 18 rfl rfl)
theorem dX4_against_137 : decode cX4_against 137 = .ok (.iload 8, 2) := dk_21 8 (dk_at dksX4_against_5 19 rfl rfl)
theorem dX4_against_139 : decode cX4_against 139 = .ok (.ireturn, 1) := dk_172 (dk_at dksX4_against_5 21 rfl rfl)
abbrev cX4_met : ByteArray := prog_13_method_110_code
def yX4_met : MethodName := ⟨RX4, "met", "(II)I"⟩
def dkwX4_met_4 : List UInt8 := [27, 42, 180, 0, 184, 29, 100, 182, 0, 219, 54, 4, 167, 255, 208, 132, 3, 1, 167, 255, 181, 2, 172]
abbrev dktX4_met_4 : List UInt8 := dkwX4_met_4 ++ []
def dkwX4_met_3 : List UInt8 := [182, 0, 215, 153, 0, 20, 28, 154, 0, 7, 29, 167, 0, 11, 42, 180, 0, 92, 28, 4, 100, 46, 172, 42]
abbrev dktX4_met_3 : List UInt8 := dkwX4_met_3 ++ dktX4_met_4
def dkwX4_met_2 : List UInt8 := [27, 42, 180, 0, 184, 29, 100, 182, 0, 212, 54, 4, 21, 4, 153, 0, 49, 42, 42, 180, 0, 83, 29, 27]
abbrev dktX4_met_2 : List UInt8 := dkwX4_met_2 ++ dktX4_met_3
def dkwX4_met_1 : List UInt8 := [167, 0, 4, 3, 5, 182, 0, 180, 153, 0, 5, 3, 172, 3, 62, 29, 42, 180, 0, 184, 162, 0, 73, 42]
abbrev dktX4_met_1 : List UInt8 := dkwX4_met_1 ++ dktX4_met_2
def dkwX4_met_0 : List UInt8 := [42, 3, 181, 0, 3, 42, 27, 182, 1, 97, 154, 0, 25, 42, 28, 3, 6, 184, 0, 65, 154, 0, 7, 4]
abbrev dktX4_met_0 : List UInt8 := dkwX4_met_0 ++ dktX4_met_1
theorem dksX4_met_0 : cX4_met.data.toList.drop 0 = dktX4_met_0 := by decide +kernel
theorem dksX4_met_1 : cX4_met.data.toList.drop 24 = dktX4_met_1 := dk_seg dksX4_met_0 24 rfl rfl
theorem dksX4_met_2 : cX4_met.data.toList.drop 48 = dktX4_met_2 := dk_seg dksX4_met_1 24 rfl rfl
theorem dksX4_met_3 : cX4_met.data.toList.drop 72 = dktX4_met_3 := dk_seg dksX4_met_2 24 rfl rfl
theorem dksX4_met_4 : cX4_met.data.toList.drop 96 = dktX4_met_4 := dk_seg dksX4_met_3 24 rfl rfl
theorem dX4_met_0 : decode cX4_met 0 = .ok (.aload_n 0, 1) := dk_42 (dk_at dksX4_met_0 0 rfl rfl)
theorem dX4_met_1 : decode cX4_met 1 = .ok (.iconst 0, 1) := dk_3 (dk_at dksX4_met_0 1 rfl rfl)
theorem dX4_met_2 : decode cX4_met 2 = .ok (.putfield 3, 3) := dk_181 0 3 (dk_at dksX4_met_0 2 rfl rfl)
theorem dX4_met_5 : decode cX4_met 5 = .ok (.aload_n 0, 1) := dk_42 (dk_at dksX4_met_0 5 rfl rfl)
theorem dX4_met_6 : decode cX4_met 6 = .ok (.iload_n 1, 1) := dk_27 (dk_at dksX4_met_0 6 rfl rfl)
theorem dX4_met_7 : decode cX4_met 7 = .ok (.invokevirtual 353, 3) := dk_182 1 97 (dk_at dksX4_met_0 7 rfl rfl)
theorem dX4_met_10 : decode cX4_met 10 = .ok (.ifCond .ne 25, 3) := dk_154 0 25 (dk_at dksX4_met_0 10 rfl rfl)
theorem dX4_met_13 : decode cX4_met 13 = .ok (.aload_n 0, 1) := dk_42 (dk_at dksX4_met_0 13 rfl rfl)
theorem dX4_met_14 : decode cX4_met 14 = .ok (.iload_n 2, 1) := dk_28 (dk_at dksX4_met_0 14 rfl rfl)
theorem dX4_met_15 : decode cX4_met 15 = .ok (.iconst 0, 1) := dk_3 (dk_at dksX4_met_0 15 rfl rfl)
theorem dX4_met_16 : decode cX4_met 16 = .ok (.iconst 3, 1) := dk_6 (dk_at dksX4_met_0 16 rfl rfl)
theorem dX4_met_17 : decode cX4_met 17 = .ok (.invokestatic 65, 3) := dk_184 0 65 (dk_at dksX4_met_0 17 rfl rfl)
theorem dX4_met_20 : decode cX4_met 20 = .ok (.ifCond .ne 7, 3) := dk_154 0 7 (dk_at dksX4_met_0 20 rfl rfl)
theorem dX4_met_23 : decode cX4_met 23 = .ok (.iconst 1, 1) := dk_4 (dk_at dksX4_met_0 23 rfl rfl)
theorem dX4_met_24 : decode cX4_met 24 = .ok (.goto 4, 3) := dk_167 0 4 (dk_at dksX4_met_1 0 rfl rfl)
theorem dX4_met_27 : decode cX4_met 27 = .ok (.iconst 0, 1) := dk_3 (dk_at dksX4_met_1 3 rfl rfl)
theorem dX4_met_28 : decode cX4_met 28 = .ok (.iconst 2, 1) := dk_5 (dk_at dksX4_met_1 4 rfl rfl)
theorem dX4_met_29 : decode cX4_met 29 = .ok (.invokevirtual 180, 3) := dk_182 0 180 (dk_at dksX4_met_1 5 rfl rfl)
theorem dX4_met_32 : decode cX4_met 32 = .ok (.ifCond .eq 5, 3) := dk_153 0 5 (dk_at dksX4_met_1 8 rfl rfl)
theorem dX4_met_35 : decode cX4_met 35 = .ok (.iconst 0, 1) := dk_3 (dk_at dksX4_met_1 11 rfl rfl)
theorem dX4_met_36 : decode cX4_met 36 = .ok (.ireturn, 1) := dk_172 (dk_at dksX4_met_1 12 rfl rfl)
theorem dX4_met_37 : decode cX4_met 37 = .ok (.iconst 0, 1) := dk_3 (dk_at dksX4_met_1 13 rfl rfl)
theorem dX4_met_38 : decode cX4_met 38 = .ok (.istore_n 3, 1) := dk_62 (dk_at dksX4_met_1 14 rfl rfl)
theorem dX4_met_39 : decode cX4_met 39 = .ok (.iload_n 3, 1) := dk_29 (dk_at dksX4_met_1 15 rfl rfl)
theorem dX4_met_40 : decode cX4_met 40 = .ok (.aload_n 0, 1) := dk_42 (dk_at dksX4_met_1 16 rfl rfl)
theorem dX4_met_41 : decode cX4_met 41 = .ok (.getfield 184, 3) := dk_180 0 184 (dk_at dksX4_met_1 17 rfl rfl)
theorem dX4_met_44 : decode cX4_met 44 = .ok (.if_icmp .ge 73, 3) := dk_162 0 73 (dk_at dksX4_met_1 20 rfl rfl)
theorem dX4_met_47 : decode cX4_met 47 = .ok (.aload_n 0, 1) := dk_42 (dk_at dksX4_met_1 23 rfl rfl)
theorem dX4_met_48 : decode cX4_met 48 = .ok (.iload_n 1, 1) := dk_27 (dk_at dksX4_met_2 0 rfl rfl)
theorem dX4_met_49 : decode cX4_met 49 = .ok (.aload_n 0, 1) := dk_42 (dk_at dksX4_met_2 1 rfl rfl)
theorem dX4_met_50 : decode cX4_met 50 = .ok (.getfield 184, 3) := dk_180 0 184 (dk_at dksX4_met_2 2 rfl rfl)
theorem dX4_met_53 : decode cX4_met 53 = .ok (.iload_n 3, 1) := dk_29 (dk_at dksX4_met_2 5 rfl rfl)
theorem dX4_met_54 : decode cX4_met 54 = .ok (.isub, 1) := dk_100 (dk_at dksX4_met_2 6 rfl rfl)
theorem dX4_met_55 : decode cX4_met 55 = .ok (.invokevirtual 212, 3) := dk_182 0 212 (dk_at dksX4_met_2 7 rfl rfl)
theorem dX4_met_58 : decode cX4_met 58 = .ok (.istore 4, 2) := dk_54 4 (dk_at dksX4_met_2 10 rfl rfl)
theorem dX4_met_60 : decode cX4_met 60 = .ok (.iload 4, 2) := dk_21 4 (dk_at dksX4_met_2 12 rfl rfl)
theorem dX4_met_62 : decode cX4_met 62 = .ok (.ifCond .eq 49, 3) := dk_153 0 49 (dk_at dksX4_met_2 14 rfl rfl)
theorem dX4_met_65 : decode cX4_met 65 = .ok (.aload_n 0, 1) := dk_42 (dk_at dksX4_met_2 17 rfl rfl)
theorem dX4_met_66 : decode cX4_met 66 = .ok (.aload_n 0, 1) := dk_42 (dk_at dksX4_met_2 18 rfl rfl)
theorem dX4_met_67 : decode cX4_met 67 = .ok (.getfield 83, 3) := dk_180 0 83 (dk_at dksX4_met_2 19 rfl rfl)
theorem dX4_met_70 : decode cX4_met 70 = .ok (.iload_n 3, 1) := dk_29 (dk_at dksX4_met_2 22 rfl rfl)
theorem dX4_met_71 : decode cX4_met 71 = .ok (.iload_n 1, 1) := dk_27 (dk_at dksX4_met_2 23 rfl rfl)
theorem dX4_met_72 : decode cX4_met 72 = .ok (.invokevirtual 215, 3) := dk_182 0 215 (dk_at dksX4_met_3 0 rfl rfl)
theorem dX4_met_75 : decode cX4_met 75 = .ok (.ifCond .eq 20, 3) := dk_153 0 20 (dk_at dksX4_met_3 3 rfl rfl)
theorem dX4_met_78 : decode cX4_met 78 = .ok (.iload_n 2, 1) := dk_28 (dk_at dksX4_met_3 6 rfl rfl)
theorem dX4_met_79 : decode cX4_met 79 = .ok (.ifCond .ne 7, 3) := dk_154 0 7 (dk_at dksX4_met_3 7 rfl rfl)
theorem dX4_met_82 : decode cX4_met 82 = .ok (.iload_n 3, 1) := dk_29 (dk_at dksX4_met_3 10 rfl rfl)
theorem dX4_met_83 : decode cX4_met 83 = .ok (.goto 11, 3) := dk_167 0 11 (dk_at dksX4_met_3 11 rfl rfl)
theorem dX4_met_86 : decode cX4_met 86 = .ok (.aload_n 0, 1) := dk_42 (dk_at dksX4_met_3 14 rfl rfl)
theorem dX4_met_87 : decode cX4_met 87 = .ok (.getfield 92, 3) := dk_180 0 92 (dk_at dksX4_met_3 15 rfl rfl)
theorem dX4_met_90 : decode cX4_met 90 = .ok (.iload_n 2, 1) := dk_28 (dk_at dksX4_met_3 18 rfl rfl)
theorem dX4_met_91 : decode cX4_met 91 = .ok (.iconst 1, 1) := dk_4 (dk_at dksX4_met_3 19 rfl rfl)
theorem dX4_met_92 : decode cX4_met 92 = .ok (.isub, 1) := dk_100 (dk_at dksX4_met_3 20 rfl rfl)
theorem dX4_met_93 : decode cX4_met 93 = .ok (.iaload, 1) := dk_46 (dk_at dksX4_met_3 21 rfl rfl)
theorem dX4_met_94 : decode cX4_met 94 = .ok (.ireturn, 1) := dk_172 (dk_at dksX4_met_3 22 rfl rfl)
theorem dX4_met_95 : decode cX4_met 95 = .ok (.aload_n 0, 1) := dk_42 (dk_at dksX4_met_3 23 rfl rfl)
theorem dX4_met_96 : decode cX4_met 96 = .ok (.iload_n 1, 1) := dk_27 (dk_at dksX4_met_4 0 rfl rfl)
theorem dX4_met_97 : decode cX4_met 97 = .ok (.aload_n 0, 1) := dk_42 (dk_at dksX4_met_4 1 rfl rfl)
theorem dX4_met_98 : decode cX4_met 98 = .ok (.getfield 184, 3) := dk_180 0 184 (dk_at dksX4_met_4 2 rfl rfl)
theorem dX4_met_101 : decode cX4_met 101 = .ok (.iload_n 3, 1) := dk_29 (dk_at dksX4_met_4 5 rfl rfl)
theorem dX4_met_102 : decode cX4_met 102 = .ok (.isub, 1) := dk_100 (dk_at dksX4_met_4 6 rfl rfl)
theorem dX4_met_103 : decode cX4_met 103 = .ok (.invokevirtual 219, 3) := dk_182 0 219 (dk_at dksX4_met_4 7 rfl rfl)
theorem dX4_met_106 : decode cX4_met 106 = .ok (.istore 4, 2) := dk_54 4 (dk_at dksX4_met_4 10 rfl rfl)
theorem dX4_met_108 : decode cX4_met 108 = .ok (.goto (-48), 3) := dk_167 255 208 (dk_at dksX4_met_4 12 rfl rfl)
theorem dX4_met_111 : decode cX4_met 111 = .ok (.iinc 3 1, 3) := dk_132 3 1 (dk_at dksX4_met_4 15 rfl rfl)
theorem dX4_met_114 : decode cX4_met 114 = .ok (.goto (-75), 3) := dk_167 255 181 (dk_at dksX4_met_4 18 rfl rfl)
theorem dX4_met_117 : decode cX4_met 117 = .ok (.iconst (-1), 1) := dk_2 (dk_at dksX4_met_4 21 rfl rfl)
theorem dX4_met_118 : decode cX4_met 118 = .ok (.ireturn, 1) := dk_172 (dk_at dksX4_met_4 22 rfl rfl)
abbrev cX4_noPattern : ByteArray := prog_13_method_109_code
def yX4_noPattern : MethodName := ⟨RX4, "noPattern", "(I)Z"⟩
def dkwX4_noPattern_1 : List UInt8 := [182, 0, 180, 172]
abbrev dktX4_noPattern_1 : List UInt8 := dkwX4_noPattern_1 ++ []
def dkwX4_noPattern_0 : List UInt8 := [42, 27, 3, 42, 180, 0, 77, 8, 46, 4, 100, 184, 0, 65, 154, 0, 7, 4, 167, 0, 4, 3, 4]
abbrev dktX4_noPattern_0 : List UInt8 := dkwX4_noPattern_0 ++ dktX4_noPattern_1
theorem dksX4_noPattern_0 : cX4_noPattern.data.toList.drop 0 = dktX4_noPattern_0 := by decide +kernel
theorem dksX4_noPattern_1 : cX4_noPattern.data.toList.drop 23 = dktX4_noPattern_1 := dk_seg dksX4_noPattern_0 23 rfl rfl
theorem dX4_noPattern_0 : decode cX4_noPattern 0 = .ok (.aload_n 0, 1) := dk_42 (dk_at dksX4_noPattern_0 0 rfl rfl)
theorem dX4_noPattern_1 : decode cX4_noPattern 1 = .ok (.iload_n 1, 1) := dk_27 (dk_at dksX4_noPattern_0 1 rfl rfl)
theorem dX4_noPattern_2 : decode cX4_noPattern 2 = .ok (.iconst 0, 1) := dk_3 (dk_at dksX4_noPattern_0 2 rfl rfl)
theorem dX4_noPattern_3 : decode cX4_noPattern 3 = .ok (.aload_n 0, 1) := dk_42 (dk_at dksX4_noPattern_0 3 rfl rfl)
theorem dX4_noPattern_4 : decode cX4_noPattern 4 = .ok (.getfield 77, 3) := dk_180 0 77 (dk_at dksX4_noPattern_0 4 rfl rfl)
theorem dX4_noPattern_7 : decode cX4_noPattern 7 = .ok (.iconst 5, 1) := dk_8 (dk_at dksX4_noPattern_0 7 rfl rfl)
theorem dX4_noPattern_8 : decode cX4_noPattern 8 = .ok (.iaload, 1) := dk_46 (dk_at dksX4_noPattern_0 8 rfl rfl)
theorem dX4_noPattern_9 : decode cX4_noPattern 9 = .ok (.iconst 1, 1) := dk_4 (dk_at dksX4_noPattern_0 9 rfl rfl)
theorem dX4_noPattern_10 : decode cX4_noPattern 10 = .ok (.isub, 1) := dk_100 (dk_at dksX4_noPattern_0 10 rfl rfl)
theorem dX4_noPattern_11 : decode cX4_noPattern 11 = .ok (.invokestatic 65, 3) := dk_184 0 65 (dk_at dksX4_noPattern_0 11 rfl rfl)
theorem dX4_noPattern_14 : decode cX4_noPattern 14 = .ok (.ifCond .ne 7, 3) := dk_154 0 7 (dk_at dksX4_noPattern_0 14 rfl rfl)
theorem dX4_noPattern_17 : decode cX4_noPattern 17 = .ok (.iconst 1, 1) := dk_4 (dk_at dksX4_noPattern_0 17 rfl rfl)
theorem dX4_noPattern_18 : decode cX4_noPattern 18 = .ok (.goto 4, 3) := dk_167 0 4 (dk_at dksX4_noPattern_0 18 rfl rfl)
theorem dX4_noPattern_21 : decode cX4_noPattern 21 = .ok (.iconst 0, 1) := dk_3 (dk_at dksX4_noPattern_0 21 rfl rfl)
theorem dX4_noPattern_22 : decode cX4_noPattern 22 = .ok (.iconst 1, 1) := dk_4 (dk_at dksX4_noPattern_0 22 rfl rfl)
theorem dX4_noPattern_23 : decode cX4_noPattern 23 = .ok (.invokevirtual 180, 3) := dk_182 0 180 (dk_at dksX4_noPattern_1 0 rfl rfl)
theorem dX4_noPattern_26 : decode cX4_noPattern 26 = .ok (.ireturn, 1) := dk_172 (dk_at dksX4_noPattern_1 3 rfl rfl)
abbrev cX4_whole : ByteArray := prog_13_method_111_code
def yX4_whole : MethodName := ⟨RX4, "whole", "(III)I"⟩
def dkwX4_whole_5 : List UInt8 := [167, 0, 4, 2, 172]
abbrev dktX4_whole_5 : List UInt8 := dkwX4_whole_5 ++ []
def dkwX4_whole_4 : List UInt8 := [132, 4, 1, 42, 27, 42, 180, 0, 184, 182, 0, 219, 54, 5, 167, 255, 199, 28, 2, 160, 0, 8, 21, 4]
abbrev dktX4_whole_4 : List UInt8 := dkwX4_whole_4 ++ dktX4_whole_5
def dkwX4_whole_3 : List UInt8 := [180, 0, 83, 3, 27, 182, 0, 215, 153, 0, 19, 21, 4, 28, 160, 0, 10, 42, 180, 0, 92, 29, 46, 172]
abbrev dktX4_whole_3 : List UInt8 := dkwX4_whole_3 ++ dktX4_whole_4
def dkwX4_whole_2 : List UInt8 := [182, 0, 212, 54, 5, 21, 5, 153, 0, 58, 42, 27, 182, 0, 208, 42, 180, 0, 184, 160, 0, 32, 42, 42]
abbrev dktX4_whole_2 : List UInt8 := dkwX4_whole_2 ++ dktX4_whole_3
def dkwX4_whole_1 : List UInt8 := [167, 0, 4, 3, 5, 182, 0, 180, 153, 0, 5, 3, 172, 3, 54, 4, 42, 27, 42, 180, 0, 184]
abbrev dktX4_whole_1 : List UInt8 := dkwX4_whole_1 ++ dktX4_whole_2
def dkwX4_whole_0 : List UInt8 := [42, 3, 181, 0, 3, 42, 27, 182, 1, 97, 154, 0, 25, 42, 29, 3, 5, 184, 0, 65, 154, 0, 7, 4]
abbrev dktX4_whole_0 : List UInt8 := dkwX4_whole_0 ++ dktX4_whole_1
theorem dksX4_whole_0 : cX4_whole.data.toList.drop 0 = dktX4_whole_0 := by decide +kernel
theorem dksX4_whole_1 : cX4_whole.data.toList.drop 24 = dktX4_whole_1 := dk_seg dksX4_whole_0 24 rfl rfl
theorem dksX4_whole_2 : cX4_whole.data.toList.drop 46 = dktX4_whole_2 := dk_seg dksX4_whole_1 22 rfl rfl
theorem dksX4_whole_3 : cX4_whole.data.toList.drop 70 = dktX4_whole_3 := dk_seg dksX4_whole_2 24 rfl rfl
theorem dksX4_whole_4 : cX4_whole.data.toList.drop 94 = dktX4_whole_4 := dk_seg dksX4_whole_3 24 rfl rfl
theorem dksX4_whole_5 : cX4_whole.data.toList.drop 118 = dktX4_whole_5 := dk_seg dksX4_whole_4 24 rfl rfl
theorem dX4_whole_0 : decode cX4_whole 0 = .ok (.aload_n 0, 1) := dk_42 (dk_at dksX4_whole_0 0 rfl rfl)
theorem dX4_whole_1 : decode cX4_whole 1 = .ok (.iconst 0, 1) := dk_3 (dk_at dksX4_whole_0 1 rfl rfl)
theorem dX4_whole_2 : decode cX4_whole 2 = .ok (.putfield 3, 3) := dk_181 0 3 (dk_at dksX4_whole_0 2 rfl rfl)
theorem dX4_whole_5 : decode cX4_whole 5 = .ok (.aload_n 0, 1) := dk_42 (dk_at dksX4_whole_0 5 rfl rfl)
theorem dX4_whole_6 : decode cX4_whole 6 = .ok (.iload_n 1, 1) := dk_27 (dk_at dksX4_whole_0 6 rfl rfl)
theorem dX4_whole_7 : decode cX4_whole 7 = .ok (.invokevirtual 353, 3) := dk_182 1 97 (dk_at dksX4_whole_0 7 rfl rfl)
theorem dX4_whole_10 : decode cX4_whole 10 = .ok (.ifCond .ne 25, 3) := dk_154 0 25 (dk_at dksX4_whole_0 10 rfl rfl)
theorem dX4_whole_13 : decode cX4_whole 13 = .ok (.aload_n 0, 1) := dk_42 (dk_at dksX4_whole_0 13 rfl rfl)
theorem dX4_whole_14 : decode cX4_whole 14 = .ok (.iload_n 3, 1) := dk_29 (dk_at dksX4_whole_0 14 rfl rfl)
theorem dX4_whole_15 : decode cX4_whole 15 = .ok (.iconst 0, 1) := dk_3 (dk_at dksX4_whole_0 15 rfl rfl)
theorem dX4_whole_16 : decode cX4_whole 16 = .ok (.iconst 2, 1) := dk_5 (dk_at dksX4_whole_0 16 rfl rfl)
theorem dX4_whole_17 : decode cX4_whole 17 = .ok (.invokestatic 65, 3) := dk_184 0 65 (dk_at dksX4_whole_0 17 rfl rfl)
theorem dX4_whole_20 : decode cX4_whole 20 = .ok (.ifCond .ne 7, 3) := dk_154 0 7 (dk_at dksX4_whole_0 20 rfl rfl)
theorem dX4_whole_23 : decode cX4_whole 23 = .ok (.iconst 1, 1) := dk_4 (dk_at dksX4_whole_0 23 rfl rfl)
theorem dX4_whole_24 : decode cX4_whole 24 = .ok (.goto 4, 3) := dk_167 0 4 (dk_at dksX4_whole_1 0 rfl rfl)
theorem dX4_whole_27 : decode cX4_whole 27 = .ok (.iconst 0, 1) := dk_3 (dk_at dksX4_whole_1 3 rfl rfl)
theorem dX4_whole_28 : decode cX4_whole 28 = .ok (.iconst 2, 1) := dk_5 (dk_at dksX4_whole_1 4 rfl rfl)
theorem dX4_whole_29 : decode cX4_whole 29 = .ok (.invokevirtual 180, 3) := dk_182 0 180 (dk_at dksX4_whole_1 5 rfl rfl)
theorem dX4_whole_32 : decode cX4_whole 32 = .ok (.ifCond .eq 5, 3) := dk_153 0 5 (dk_at dksX4_whole_1 8 rfl rfl)
theorem dX4_whole_35 : decode cX4_whole 35 = .ok (.iconst 0, 1) := dk_3 (dk_at dksX4_whole_1 11 rfl rfl)
theorem dX4_whole_36 : decode cX4_whole 36 = .ok (.ireturn, 1) := dk_172 (dk_at dksX4_whole_1 12 rfl rfl)
theorem dX4_whole_37 : decode cX4_whole 37 = .ok (.iconst 0, 1) := dk_3 (dk_at dksX4_whole_1 13 rfl rfl)
theorem dX4_whole_38 : decode cX4_whole 38 = .ok (.istore 4, 2) := dk_54 4 (dk_at dksX4_whole_1 14 rfl rfl)
theorem dX4_whole_40 : decode cX4_whole 40 = .ok (.aload_n 0, 1) := dk_42 (dk_at dksX4_whole_1 16 rfl rfl)
theorem dX4_whole_41 : decode cX4_whole 41 = .ok (.iload_n 1, 1) := dk_27 (dk_at dksX4_whole_1 17 rfl rfl)
theorem dX4_whole_42 : decode cX4_whole 42 = .ok (.aload_n 0, 1) := dk_42 (dk_at dksX4_whole_1 18 rfl rfl)
theorem dX4_whole_43 : decode cX4_whole 43 = .ok (.getfield 184, 3) := dk_180 0 184 (dk_at dksX4_whole_1 19 rfl rfl)
theorem dX4_whole_46 : decode cX4_whole 46 = .ok (.invokevirtual 212, 3) := dk_182 0 212 (dk_at dksX4_whole_2 0 rfl rfl)
theorem dX4_whole_49 : decode cX4_whole 49 = .ok (.istore 5, 2) := dk_54 5 (dk_at dksX4_whole_2 3 rfl rfl)
theorem dX4_whole_51 : decode cX4_whole 51 = .ok (.iload 5, 2) := dk_21 5 (dk_at dksX4_whole_2 5 rfl rfl)
theorem dX4_whole_53 : decode cX4_whole 53 = .ok (.ifCond .eq 58, 3) := dk_153 0 58 (dk_at dksX4_whole_2 7 rfl rfl)
theorem dX4_whole_56 : decode cX4_whole 56 = .ok (.aload_n 0, 1) := dk_42 (dk_at dksX4_whole_2 10 rfl rfl)
theorem dX4_whole_57 : decode cX4_whole 57 = .ok (.iload_n 1, 1) := dk_27 (dk_at dksX4_whole_2 11 rfl rfl)
theorem dX4_whole_58 : decode cX4_whole 58 = .ok (.invokevirtual 208, 3) := dk_182 0 208 (dk_at dksX4_whole_2 12 rfl rfl)
theorem dX4_whole_61 : decode cX4_whole 61 = .ok (.aload_n 0, 1) := dk_42 (dk_at dksX4_whole_2 15 rfl rfl)
theorem dX4_whole_62 : decode cX4_whole 62 = .ok (.getfield 184, 3) := dk_180 0 184 (dk_at dksX4_whole_2 16 rfl rfl)
theorem dX4_whole_65 : decode cX4_whole 65 = .ok (.if_icmp .ne 32, 3) := dk_160 0 32 (dk_at dksX4_whole_2 19 rfl rfl)
theorem dX4_whole_68 : decode cX4_whole 68 = .ok (.aload_n 0, 1) := dk_42 (dk_at dksX4_whole_2 22 rfl rfl)
theorem dX4_whole_69 : decode cX4_whole 69 = .ok (.aload_n 0, 1) := dk_42 (dk_at dksX4_whole_2 23 rfl rfl)
theorem dX4_whole_70 : decode cX4_whole 70 = .ok (.getfield 83, 3) := dk_180 0 83 (dk_at dksX4_whole_3 0 rfl rfl)
theorem dX4_whole_73 : decode cX4_whole 73 = .ok (.iconst 0, 1) := dk_3 (dk_at dksX4_whole_3 3 rfl rfl)
theorem dX4_whole_74 : decode cX4_whole 74 = .ok (.iload_n 1, 1) := dk_27 (dk_at dksX4_whole_3 4 rfl rfl)
theorem dX4_whole_75 : decode cX4_whole 75 = .ok (.invokevirtual 215, 3) := dk_182 0 215 (dk_at dksX4_whole_3 5 rfl rfl)
theorem dX4_whole_78 : decode cX4_whole 78 = .ok (.ifCond .eq 19, 3) := dk_153 0 19 (dk_at dksX4_whole_3 8 rfl rfl)
theorem dX4_whole_81 : decode cX4_whole 81 = .ok (.iload 4, 2) := dk_21 4 (dk_at dksX4_whole_3 11 rfl rfl)
theorem dX4_whole_83 : decode cX4_whole 83 = .ok (.iload_n 2, 1) := dk_28 (dk_at dksX4_whole_3 13 rfl rfl)
theorem dX4_whole_84 : decode cX4_whole 84 = .ok (.if_icmp .ne 10, 3) := dk_160 0 10 (dk_at dksX4_whole_3 14 rfl rfl)
theorem dX4_whole_87 : decode cX4_whole 87 = .ok (.aload_n 0, 1) := dk_42 (dk_at dksX4_whole_3 17 rfl rfl)
theorem dX4_whole_88 : decode cX4_whole 88 = .ok (.getfield 92, 3) := dk_180 0 92 (dk_at dksX4_whole_3 18 rfl rfl)
theorem dX4_whole_91 : decode cX4_whole 91 = .ok (.iload_n 3, 1) := dk_29 (dk_at dksX4_whole_3 21 rfl rfl)
theorem dX4_whole_92 : decode cX4_whole 92 = .ok (.iaload, 1) := dk_46 (dk_at dksX4_whole_3 22 rfl rfl)
theorem dX4_whole_93 : decode cX4_whole 93 = .ok (.ireturn, 1) := dk_172 (dk_at dksX4_whole_3 23 rfl rfl)
theorem dX4_whole_94 : decode cX4_whole 94 = .ok (.iinc 4 1, 3) := dk_132 4 1 (dk_at dksX4_whole_4 0 rfl rfl)
theorem dX4_whole_97 : decode cX4_whole 97 = .ok (.aload_n 0, 1) := dk_42 (dk_at dksX4_whole_4 3 rfl rfl)
theorem dX4_whole_98 : decode cX4_whole 98 = .ok (.iload_n 1, 1) := dk_27 (dk_at dksX4_whole_4 4 rfl rfl)
theorem dX4_whole_99 : decode cX4_whole 99 = .ok (.aload_n 0, 1) := dk_42 (dk_at dksX4_whole_4 5 rfl rfl)
theorem dX4_whole_100 : decode cX4_whole 100 = .ok (.getfield 184, 3) := dk_180 0 184 (dk_at dksX4_whole_4 6 rfl rfl)
theorem dX4_whole_103 : decode cX4_whole 103 = .ok (.invokevirtual 219, 3) := dk_182 0 219 (dk_at dksX4_whole_4 9 rfl rfl)
theorem dX4_whole_106 : decode cX4_whole 106 = .ok (.istore 5, 2) := dk_54 5 (dk_at dksX4_whole_4 12 rfl rfl)
theorem dX4_whole_108 : decode cX4_whole 108 = .ok (.goto (-57), 3) := dk_167 255 199 (dk_at dksX4_whole_4 14 rfl rfl)
theorem dX4_whole_111 : decode cX4_whole 111 = .ok (.iload_n 2, 1) := dk_28 (dk_at dksX4_whole_4 17 rfl rfl)
theorem dX4_whole_112 : decode cX4_whole 112 = .ok (.iconst (-1), 1) := dk_2 (dk_at dksX4_whole_4 18 rfl rfl)
theorem dX4_whole_113 : decode cX4_whole 113 = .ok (.if_icmp .ne 8, 3) := dk_160 0 8 (dk_at dksX4_whole_4 19 rfl rfl)
theorem dX4_whole_116 : decode cX4_whole 116 = .ok (.iload 4, 2) := dk_21 4 (dk_at dksX4_whole_4 22 rfl rfl)
theorem dX4_whole_118 : decode cX4_whole 118 = .ok (.goto 4, 3) := dk_167 0 4 (dk_at dksX4_whole_5 0 rfl rfl)
theorem dX4_whole_121 : decode cX4_whole 121 = .ok (.iconst (-1), 1) := dk_2 (dk_at dksX4_whole_5 3 rfl rfl)
theorem dX4_whole_122 : decode cX4_whole 122 = .ok (.ireturn, 1) := dk_172 (dk_at dksX4_whole_5 4 rfl rfl)
abbrev cX4_cannot : ByteArray := prog_13_method_116_code
def yX4_cannot : MethodName := ⟨RX4, "cannot", "(I)Z"⟩
def dkwX4_cannot_1 : List UInt8 := [167, 0, 4, 3, 172]
abbrev dktX4_cannot_1 : List UInt8 := dkwX4_cannot_1 ++ []
def dkwX4_cannot_0 : List UInt8 := [42, 3, 181, 0, 3, 42, 27, 182, 1, 97, 154, 0, 16, 42, 27, 3, 182, 1, 109, 153, 0, 7, 4]
abbrev dktX4_cannot_0 : List UInt8 := dkwX4_cannot_0 ++ dktX4_cannot_1
theorem dksX4_cannot_0 : cX4_cannot.data.toList.drop 0 = dktX4_cannot_0 := by decide +kernel
theorem dksX4_cannot_1 : cX4_cannot.data.toList.drop 23 = dktX4_cannot_1 := dk_seg dksX4_cannot_0 23 rfl rfl
theorem dX4_cannot_0 : decode cX4_cannot 0 = .ok (.aload_n 0, 1) := dk_42 (dk_at dksX4_cannot_0 0 rfl rfl)
theorem dX4_cannot_1 : decode cX4_cannot 1 = .ok (.iconst 0, 1) := dk_3 (dk_at dksX4_cannot_0 1 rfl rfl)
theorem dX4_cannot_2 : decode cX4_cannot 2 = .ok (.putfield 3, 3) := dk_181 0 3 (dk_at dksX4_cannot_0 2 rfl rfl)
theorem dX4_cannot_5 : decode cX4_cannot 5 = .ok (.aload_n 0, 1) := dk_42 (dk_at dksX4_cannot_0 5 rfl rfl)
theorem dX4_cannot_6 : decode cX4_cannot 6 = .ok (.iload_n 1, 1) := dk_27 (dk_at dksX4_cannot_0 6 rfl rfl)
theorem dX4_cannot_7 : decode cX4_cannot 7 = .ok (.invokevirtual 353, 3) := dk_182 1 97 (dk_at dksX4_cannot_0 7 rfl rfl)
theorem dX4_cannot_10 : decode cX4_cannot 10 = .ok (.ifCond .ne 16, 3) := dk_154 0 16 (dk_at dksX4_cannot_0 10 rfl rfl)
theorem dX4_cannot_13 : decode cX4_cannot 13 = .ok (.aload_n 0, 1) := dk_42 (dk_at dksX4_cannot_0 13 rfl rfl)
theorem dX4_cannot_14 : decode cX4_cannot 14 = .ok (.iload_n 1, 1) := dk_27 (dk_at dksX4_cannot_0 14 rfl rfl)
theorem dX4_cannot_15 : decode cX4_cannot 15 = .ok (.iconst 0, 1) := dk_3 (dk_at dksX4_cannot_0 15 rfl rfl)
theorem dX4_cannot_16 : decode cX4_cannot 16 = .ok (.invokevirtual 365, 3) := dk_182 1 109 (dk_at dksX4_cannot_0 16 rfl rfl)
theorem dX4_cannot_19 : decode cX4_cannot 19 = .ok (.ifCond .eq 7, 3) := dk_153 0 7 (dk_at dksX4_cannot_0 19 rfl rfl)
theorem dX4_cannot_22 : decode cX4_cannot 22 = .ok (.iconst 1, 1) := dk_4 (dk_at dksX4_cannot_0 22 rfl rfl)
theorem dX4_cannot_23 : decode cX4_cannot 23 = .ok (.goto 4, 3) := dk_167 0 4 (dk_at dksX4_cannot_1 0 rfl rfl)
theorem dX4_cannot_26 : decode cX4_cannot 26 = .ok (.iconst 0, 1) := dk_3 (dk_at dksX4_cannot_1 3 rfl rfl)
theorem dX4_cannot_27 : decode cX4_cannot 27 = .ok (.ireturn, 1) := dk_172 (dk_at dksX4_cannot_1 4 rfl rfl)
abbrev cX4_cannotBe : ByteArray := prog_13_method_115_code
def yX4_cannotBe : MethodName := ⟨RX4, "cannotBe", "(II)Z"⟩
def dkwX4_cannotBe_5 : List UInt8 := [172]
abbrev dktX4_cannotBe_5 : List UInt8 := dkwX4_cannotBe_5 ++ []
def dkwX4_cannotBe_4 : List UInt8 := [153, 0, 17, 42, 27, 28, 21, 5, 128, 182, 1, 109, 153, 0, 5, 4, 172, 132, 5, 1, 167, 255, 211, 3]
abbrev dktX4_cannotBe_4 : List UInt8 := dkwX4_cannotBe_4 ++ dktX4_cannotBe_5
def dkwX4_cannotBe_3 : List UInt8 := [21, 4, 162, 0, 44, 21, 5, 21, 4, 2, 130, 126, 154, 0, 28, 42, 27, 28, 21, 5, 182, 1, 106]
abbrev dktX4_cannotBe_3 : List UInt8 := dkwX4_cannotBe_3 ++ dktX4_cannotBe_4
def dkwX4_cannotBe_2 : List UInt8 := [29, 4, 160, 0, 5, 4, 172, 42, 27, 182, 1, 103, 28, 2, 130, 126, 54, 4, 4, 54, 5, 21, 5]
abbrev dktX4_cannotBe_2 : List UInt8 := dkwX4_cannotBe_2 ++ dktX4_cannotBe_3
def dkwX4_cannotBe_1 : List UInt8 := [21, 4, 182, 0, 202, 122, 4, 126, 154, 0, 7, 4, 167, 0, 4, 3, 96, 62, 132, 4, 1, 167, 255, 216]
abbrev dktX4_cannotBe_1 : List UInt8 := dkwX4_cannotBe_1 ++ dktX4_cannotBe_2
def dkwX4_cannotBe_0 : List UInt8 := [3, 62, 3, 54, 4, 21, 4, 42, 180, 0, 77, 17, 0, 166, 27, 96, 46, 162, 0, 31, 29, 28, 42, 27]
abbrev dktX4_cannotBe_0 : List UInt8 := dkwX4_cannotBe_0 ++ dktX4_cannotBe_1
theorem dksX4_cannotBe_0 : cX4_cannotBe.data.toList.drop 0 = dktX4_cannotBe_0 := by decide +kernel
theorem dksX4_cannotBe_1 : cX4_cannotBe.data.toList.drop 24 = dktX4_cannotBe_1 := dk_seg dksX4_cannotBe_0 24 rfl rfl
theorem dksX4_cannotBe_2 : cX4_cannotBe.data.toList.drop 48 = dktX4_cannotBe_2 := dk_seg dksX4_cannotBe_1 24 rfl rfl
theorem dksX4_cannotBe_3 : cX4_cannotBe.data.toList.drop 71 = dktX4_cannotBe_3 := dk_seg dksX4_cannotBe_2 23 rfl rfl
theorem dksX4_cannotBe_4 : cX4_cannotBe.data.toList.drop 94 = dktX4_cannotBe_4 := dk_seg dksX4_cannotBe_3 23 rfl rfl
theorem dksX4_cannotBe_5 : cX4_cannotBe.data.toList.drop 118 = dktX4_cannotBe_5 := dk_seg dksX4_cannotBe_4 24 rfl rfl
theorem dX4_cannotBe_0 : decode cX4_cannotBe 0 = .ok (.iconst 0, 1) := dk_3 (dk_at dksX4_cannotBe_0 0 rfl rfl)
theorem dX4_cannotBe_1 : decode cX4_cannotBe 1 = .ok (.istore_n 3, 1) := dk_62 (dk_at dksX4_cannotBe_0 1 rfl rfl)
theorem dX4_cannotBe_2 : decode cX4_cannotBe 2 = .ok (.iconst 0, 1) := dk_3 (dk_at dksX4_cannotBe_0 2 rfl rfl)
theorem dX4_cannotBe_3 : decode cX4_cannotBe 3 = .ok (.istore 4, 2) := dk_54 4 (dk_at dksX4_cannotBe_0 3 rfl rfl)
theorem dX4_cannotBe_5 : decode cX4_cannotBe 5 = .ok (.iload 4, 2) := dk_21 4 (dk_at dksX4_cannotBe_0 5 rfl rfl)
theorem dX4_cannotBe_7 : decode cX4_cannotBe 7 = .ok (.aload_n 0, 1) := dk_42 (dk_at dksX4_cannotBe_0 7 rfl rfl)
theorem dX4_cannotBe_8 : decode cX4_cannotBe 8 = .ok (.getfield 77, 3) := dk_180 0 77 (dk_at dksX4_cannotBe_0 8 rfl rfl)
theorem dX4_cannotBe_11 : decode cX4_cannotBe 11 = .ok (.sipush 166, 3) := dk_17 0 166 (dk_at dksX4_cannotBe_0 11 rfl rfl)
theorem dX4_cannotBe_14 : decode cX4_cannotBe 14 = .ok (.iload_n 1, 1) := dk_27 (dk_at dksX4_cannotBe_0 14 rfl rfl)
theorem dX4_cannotBe_15 : decode cX4_cannotBe 15 = .ok (.iadd, 1) := dk_96 (dk_at dksX4_cannotBe_0 15 rfl rfl)
theorem dX4_cannotBe_16 : decode cX4_cannotBe 16 = .ok (.iaload, 1) := dk_46 (dk_at dksX4_cannotBe_0 16 rfl rfl)
theorem dX4_cannotBe_17 : decode cX4_cannotBe 17 = .ok (.if_icmp .ge 31, 3) := dk_162 0 31 (dk_at dksX4_cannotBe_0 17 rfl rfl)
theorem dX4_cannotBe_20 : decode cX4_cannotBe 20 = .ok (.iload_n 3, 1) := dk_29 (dk_at dksX4_cannotBe_0 20 rfl rfl)
theorem dX4_cannotBe_21 : decode cX4_cannotBe 21 = .ok (.iload_n 2, 1) := dk_28 (dk_at dksX4_cannotBe_0 21 rfl rfl)
theorem dX4_cannotBe_22 : decode cX4_cannotBe 22 = .ok (.aload_n 0, 1) := dk_42 (dk_at dksX4_cannotBe_0 22 rfl rfl)
theorem dX4_cannotBe_23 : decode cX4_cannotBe 23 = .ok (.iload_n 1, 1) := dk_27 (dk_at dksX4_cannotBe_0 23 rfl rfl)
theorem dX4_cannotBe_24 : decode cX4_cannotBe 24 = .ok (.iload 4, 2) := dk_21 4 (dk_at dksX4_cannotBe_1 0 rfl rfl)
theorem dX4_cannotBe_26 : decode cX4_cannotBe 26 = .ok (.invokevirtual 202, 3) := dk_182 0 202 (dk_at dksX4_cannotBe_1 2 rfl rfl)
theorem dX4_cannotBe_29 : decode cX4_cannotBe 29 = .ok (.ishr, 1) := dk_122 (dk_at dksX4_cannotBe_1 5 rfl rfl)
theorem dX4_cannotBe_30 : decode cX4_cannotBe 30 = .ok (.iconst 1, 1) := dk_4 (dk_at dksX4_cannotBe_1 6 rfl rfl)
theorem dX4_cannotBe_31 : decode cX4_cannotBe 31 = .ok (.iand, 1) := dk_126 (dk_at dksX4_cannotBe_1 7 rfl rfl)
theorem dX4_cannotBe_32 : decode cX4_cannotBe 32 = .ok (.ifCond .ne 7, 3) := dk_154 0 7 (dk_at dksX4_cannotBe_1 8 rfl rfl)
theorem dX4_cannotBe_35 : decode cX4_cannotBe 35 = .ok (.iconst 1, 1) := dk_4 (dk_at dksX4_cannotBe_1 11 rfl rfl)
theorem dX4_cannotBe_36 : decode cX4_cannotBe 36 = .ok (.goto 4, 3) := dk_167 0 4 (dk_at dksX4_cannotBe_1 12 rfl rfl)
theorem dX4_cannotBe_39 : decode cX4_cannotBe 39 = .ok (.iconst 0, 1) := dk_3 (dk_at dksX4_cannotBe_1 15 rfl rfl)
theorem dX4_cannotBe_40 : decode cX4_cannotBe 40 = .ok (.iadd, 1) := dk_96 (dk_at dksX4_cannotBe_1 16 rfl rfl)
theorem dX4_cannotBe_41 : decode cX4_cannotBe 41 = .ok (.istore_n 3, 1) := dk_62 (dk_at dksX4_cannotBe_1 17 rfl rfl)
theorem dX4_cannotBe_42 : decode cX4_cannotBe 42 = .ok (.iinc 4 1, 3) := dk_132 4 1 (dk_at dksX4_cannotBe_1 18 rfl rfl)
theorem dX4_cannotBe_45 : decode cX4_cannotBe 45 = .ok (.goto (-40), 3) := dk_167 255 216 (dk_at dksX4_cannotBe_1 21 rfl rfl)
theorem dX4_cannotBe_48 : decode cX4_cannotBe 48 = .ok (.iload_n 3, 1) := dk_29 (dk_at dksX4_cannotBe_2 0 rfl rfl)
theorem dX4_cannotBe_49 : decode cX4_cannotBe 49 = .ok (.iconst 1, 1) := dk_4 (dk_at dksX4_cannotBe_2 1 rfl rfl)
theorem dX4_cannotBe_50 : decode cX4_cannotBe 50 = .ok (.if_icmp .ne 5, 3) := dk_160 0 5 (dk_at dksX4_cannotBe_2 2 rfl rfl)
theorem dX4_cannotBe_53 : decode cX4_cannotBe 53 = .ok (.iconst 1, 1) := dk_4 (dk_at dksX4_cannotBe_2 5 rfl rfl)
theorem dX4_cannotBe_54 : decode cX4_cannotBe 54 = .ok (.ireturn, 1) := dk_172 (dk_at dksX4_cannotBe_2 6 rfl rfl)
theorem dX4_cannotBe_55 : decode cX4_cannotBe 55 = .ok (.aload_n 0, 1) := dk_42 (dk_at dksX4_cannotBe_2 7 rfl rfl)
theorem dX4_cannotBe_56 : decode cX4_cannotBe 56 = .ok (.iload_n 1, 1) := dk_27 (dk_at dksX4_cannotBe_2 8 rfl rfl)
theorem dX4_cannotBe_57 : decode cX4_cannotBe 57 = .ok (.invokevirtual 359, 3) := dk_182 1 103 (dk_at dksX4_cannotBe_2 9 rfl rfl)
theorem dX4_cannotBe_60 : decode cX4_cannotBe 60 = .ok (.iload_n 2, 1) := dk_28 (dk_at dksX4_cannotBe_2 12 rfl rfl)
theorem dX4_cannotBe_61 : decode cX4_cannotBe 61 = .ok (.iconst (-1), 1) := dk_2 (dk_at dksX4_cannotBe_2 13 rfl rfl)
theorem dX4_cannotBe_62 : decode cX4_cannotBe 62 = .ok (.ixor, 1) := dk_130 (dk_at dksX4_cannotBe_2 14 rfl rfl)
theorem dX4_cannotBe_63 : decode cX4_cannotBe 63 = .ok (.iand, 1) := dk_126 (dk_at dksX4_cannotBe_2 15 rfl rfl)
theorem dX4_cannotBe_64 : decode cX4_cannotBe 64 = .ok (.istore 4, 2) := dk_54 4 (dk_at dksX4_cannotBe_2 16 rfl rfl)
theorem dX4_cannotBe_66 : decode cX4_cannotBe 66 = .ok (.iconst 1, 1) := dk_4 (dk_at dksX4_cannotBe_2 18 rfl rfl)
theorem dX4_cannotBe_67 : decode cX4_cannotBe 67 = .ok (.istore 5, 2) := dk_54 5 (dk_at dksX4_cannotBe_2 19 rfl rfl)
theorem dX4_cannotBe_69 : decode cX4_cannotBe 69 = .ok (.iload 5, 2) := dk_21 5 (dk_at dksX4_cannotBe_2 21 rfl rfl)
theorem dX4_cannotBe_71 : decode cX4_cannotBe 71 = .ok (.iload 4, 2) := dk_21 4 (dk_at dksX4_cannotBe_3 0 rfl rfl)
theorem dX4_cannotBe_73 : decode cX4_cannotBe 73 = .ok (.if_icmp .ge 44, 3) := dk_162 0 44 (dk_at dksX4_cannotBe_3 2 rfl rfl)
theorem dX4_cannotBe_76 : decode cX4_cannotBe 76 = .ok (.iload 5, 2) := dk_21 5 (dk_at dksX4_cannotBe_3 5 rfl rfl)
theorem dX4_cannotBe_78 : decode cX4_cannotBe 78 = .ok (.iload 4, 2) := dk_21 4 (dk_at dksX4_cannotBe_3 7 rfl rfl)
theorem dX4_cannotBe_80 : decode cX4_cannotBe 80 = .ok (.iconst (-1), 1) := dk_2 (dk_at dksX4_cannotBe_3 9 rfl rfl)
theorem dX4_cannotBe_81 : decode cX4_cannotBe 81 = .ok (.ixor, 1) := dk_130 (dk_at dksX4_cannotBe_3 10 rfl rfl)
theorem dX4_cannotBe_82 : decode cX4_cannotBe 82 = .ok (.iand, 1) := dk_126 (dk_at dksX4_cannotBe_3 11 rfl rfl)
theorem dX4_cannotBe_83 : decode cX4_cannotBe 83 = .ok (.ifCond .ne 28, 3) := dk_154 0 28 (dk_at dksX4_cannotBe_3 12 rfl rfl)
theorem dX4_cannotBe_86 : decode cX4_cannotBe 86 = .ok (.aload_n 0, 1) := dk_42 (dk_at dksX4_cannotBe_3 15 rfl rfl)
theorem dX4_cannotBe_87 : decode cX4_cannotBe 87 = .ok (.iload_n 1, 1) := dk_27 (dk_at dksX4_cannotBe_3 16 rfl rfl)
theorem dX4_cannotBe_88 : decode cX4_cannotBe 88 = .ok (.iload_n 2, 1) := dk_28 (dk_at dksX4_cannotBe_3 17 rfl rfl)
theorem dX4_cannotBe_89 : decode cX4_cannotBe 89 = .ok (.iload 5, 2) := dk_21 5 (dk_at dksX4_cannotBe_3 18 rfl rfl)
theorem dX4_cannotBe_91 : decode cX4_cannotBe 91 = .ok (.invokevirtual 362, 3) := dk_182 1 106 (dk_at dksX4_cannotBe_3 20 rfl rfl)
theorem dX4_cannotBe_94 : decode cX4_cannotBe 94 = .ok (.ifCond .eq 17, 3) := dk_153 0 17 (dk_at dksX4_cannotBe_4 0 rfl rfl)
theorem dX4_cannotBe_97 : decode cX4_cannotBe 97 = .ok (.aload_n 0, 1) := dk_42 (dk_at dksX4_cannotBe_4 3 rfl rfl)
theorem dX4_cannotBe_98 : decode cX4_cannotBe 98 = .ok (.iload_n 1, 1) := dk_27 (dk_at dksX4_cannotBe_4 4 rfl rfl)
theorem dX4_cannotBe_99 : decode cX4_cannotBe 99 = .ok (.iload_n 2, 1) := dk_28 (dk_at dksX4_cannotBe_4 5 rfl rfl)
theorem dX4_cannotBe_100 : decode cX4_cannotBe 100 = .ok (.iload 5, 2) := dk_21 5 (dk_at dksX4_cannotBe_4 6 rfl rfl)
theorem dX4_cannotBe_102 : decode cX4_cannotBe 102 = .ok (.ior, 1) := dk_128 (dk_at dksX4_cannotBe_4 8 rfl rfl)
theorem dX4_cannotBe_103 : decode cX4_cannotBe 103 = .ok (.invokevirtual 365, 3) := dk_182 1 109 (dk_at dksX4_cannotBe_4 9 rfl rfl)
theorem dX4_cannotBe_106 : decode cX4_cannotBe 106 = .ok (.ifCond .eq 5, 3) := dk_153 0 5 (dk_at dksX4_cannotBe_4 12 rfl rfl)
theorem dX4_cannotBe_109 : decode cX4_cannotBe 109 = .ok (.iconst 1, 1) := dk_4 (dk_at dksX4_cannotBe_4 15 rfl rfl)
theorem dX4_cannotBe_110 : decode cX4_cannotBe 110 = .ok (.ireturn, 1) := dk_172 (dk_at dksX4_cannotBe_4 16 rfl rfl)
theorem dX4_cannotBe_111 : decode cX4_cannotBe 111 = .ok (.iinc 5 1, 3) := dk_132 5 1 (dk_at dksX4_cannotBe_4 17 rfl rfl)
theorem dX4_cannotBe_114 : decode cX4_cannotBe 114 = .ok (.goto (-45), 3) := dk_167 255 211 (dk_at dksX4_cannotBe_4 20 rfl rfl)
theorem dX4_cannotBe_117 : decode cX4_cannotBe 117 = .ok (.iconst 0, 1) := dk_3 (dk_at dksX4_cannotBe_4 23 rfl rfl)
theorem dX4_cannotBe_118 : decode cX4_cannotBe 118 = .ok (.ireturn, 1) := dk_172 (dk_at dksX4_cannotBe_5 0 rfl rfl)
abbrev cX4_lettersOf : ByteArray := prog_13_method_112_code
def yX4_lettersOf : MethodName := ⟨RX4, "lettersOf", "(I)I"⟩
def dkwX4_lettersOf_1 : List UInt8 := [167, 0, 4, 3, 128, 61, 132, 3, 1, 167, 255, 229, 28, 172]
abbrev dktX4_lettersOf_1 : List UInt8 := dkwX4_lettersOf_1 ++ []
def dkwX4_lettersOf_0 : List UInt8 := [3, 61, 3, 62, 29, 6, 162, 0, 28, 28, 42, 27, 29, 182, 0, 205, 153, 0, 9, 4, 29, 120]
abbrev dktX4_lettersOf_0 : List UInt8 := dkwX4_lettersOf_0 ++ dktX4_lettersOf_1
theorem dksX4_lettersOf_0 : cX4_lettersOf.data.toList.drop 0 = dktX4_lettersOf_0 := by decide +kernel
theorem dksX4_lettersOf_1 : cX4_lettersOf.data.toList.drop 22 = dktX4_lettersOf_1 := dk_seg dksX4_lettersOf_0 22 rfl rfl
theorem dX4_lettersOf_0 : decode cX4_lettersOf 0 = .ok (.iconst 0, 1) := dk_3 (dk_at dksX4_lettersOf_0 0 rfl rfl)
theorem dX4_lettersOf_1 : decode cX4_lettersOf 1 = .ok (.istore_n 2, 1) := dk_61 (dk_at dksX4_lettersOf_0 1 rfl rfl)
theorem dX4_lettersOf_2 : decode cX4_lettersOf 2 = .ok (.iconst 0, 1) := dk_3 (dk_at dksX4_lettersOf_0 2 rfl rfl)
theorem dX4_lettersOf_3 : decode cX4_lettersOf 3 = .ok (.istore_n 3, 1) := dk_62 (dk_at dksX4_lettersOf_0 3 rfl rfl)
theorem dX4_lettersOf_4 : decode cX4_lettersOf 4 = .ok (.iload_n 3, 1) := dk_29 (dk_at dksX4_lettersOf_0 4 rfl rfl)
theorem dX4_lettersOf_5 : decode cX4_lettersOf 5 = .ok (.iconst 3, 1) := dk_6 (dk_at dksX4_lettersOf_0 5 rfl rfl)
theorem dX4_lettersOf_6 : decode cX4_lettersOf 6 = .ok (.if_icmp .ge 28, 3) := dk_162 0 28 (dk_at dksX4_lettersOf_0 6 rfl rfl)
theorem dX4_lettersOf_9 : decode cX4_lettersOf 9 = .ok (.iload_n 2, 1) := dk_28 (dk_at dksX4_lettersOf_0 9 rfl rfl)
theorem dX4_lettersOf_10 : decode cX4_lettersOf 10 = .ok (.aload_n 0, 1) := dk_42 (dk_at dksX4_lettersOf_0 10 rfl rfl)
theorem dX4_lettersOf_11 : decode cX4_lettersOf 11 = .ok (.iload_n 1, 1) := dk_27 (dk_at dksX4_lettersOf_0 11 rfl rfl)
theorem dX4_lettersOf_12 : decode cX4_lettersOf 12 = .ok (.iload_n 3, 1) := dk_29 (dk_at dksX4_lettersOf_0 12 rfl rfl)
theorem dX4_lettersOf_13 : decode cX4_lettersOf 13 = .ok (.invokevirtual 205, 3) := dk_182 0 205 (dk_at dksX4_lettersOf_0 13 rfl rfl)
theorem dX4_lettersOf_16 : decode cX4_lettersOf 16 = .ok (.ifCond .eq 9, 3) := dk_153 0 9 (dk_at dksX4_lettersOf_0 16 rfl rfl)
theorem dX4_lettersOf_19 : decode cX4_lettersOf 19 = .ok (.iconst 1, 1) := dk_4 (dk_at dksX4_lettersOf_0 19 rfl rfl)
theorem dX4_lettersOf_20 : decode cX4_lettersOf 20 = .ok (.iload_n 3, 1) := dk_29 (dk_at dksX4_lettersOf_0 20 rfl rfl)
theorem dX4_lettersOf_21 : decode cX4_lettersOf 21 = .ok (.ishl, 1) := dk_120 (dk_at dksX4_lettersOf_0 21 rfl rfl)
theorem dX4_lettersOf_22 : decode cX4_lettersOf 22 = .ok (.goto 4, 3) := dk_167 0 4 (dk_at dksX4_lettersOf_1 0 rfl rfl)
theorem dX4_lettersOf_25 : decode cX4_lettersOf 25 = .ok (.iconst 0, 1) := dk_3 (dk_at dksX4_lettersOf_1 3 rfl rfl)
theorem dX4_lettersOf_26 : decode cX4_lettersOf 26 = .ok (.ior, 1) := dk_128 (dk_at dksX4_lettersOf_1 4 rfl rfl)
theorem dX4_lettersOf_27 : decode cX4_lettersOf 27 = .ok (.istore_n 2, 1) := dk_61 (dk_at dksX4_lettersOf_1 5 rfl rfl)
theorem dX4_lettersOf_28 : decode cX4_lettersOf 28 = .ok (.iinc 3 1, 3) := dk_132 3 1 (dk_at dksX4_lettersOf_1 6 rfl rfl)
theorem dX4_lettersOf_31 : decode cX4_lettersOf 31 = .ok (.goto (-27), 3) := dk_167 255 229 (dk_at dksX4_lettersOf_1 9 rfl rfl)
theorem dX4_lettersOf_34 : decode cX4_lettersOf 34 = .ok (.iload_n 2, 1) := dk_28 (dk_at dksX4_lettersOf_1 12 rfl rfl)
theorem dX4_lettersOf_35 : decode cX4_lettersOf 35 = .ok (.ireturn, 1) := dk_172 (dk_at dksX4_lettersOf_1 13 rfl rfl)
abbrev cX4_isLoose : ByteArray := prog_13_method_114_code
def yX4_isLoose : MethodName := ⟨RX4, "isLoose", "(III)Z"⟩
def dkwX4_isLoose_7 : List UInt8 := [167, 255, 208, 132, 5, 1, 167, 255, 193, 4, 172]
abbrev dktX4_isLoose_7 : List UInt8 := dkwX4_isLoose_7 ++ []
def dkwX4_isLoose_6 : List UInt8 := [42, 21, 5, 182, 1, 100, 42, 6, 21, 6, 96, 182, 1, 100, 160, 0, 5, 3, 172, 132, 6, 1]
abbrev dktX4_isLoose_6 : List UInt8 := dkwX4_isLoose_6 ++ dktX4_isLoose_7
def dkwX4_isLoose_5 : List UInt8 := [6, 162, 0, 48, 29, 21, 5, 122, 4, 126, 4, 160, 0, 32, 29, 21, 6, 122, 4, 126, 4, 160, 0, 22]
abbrev dktX4_isLoose_5 : List UInt8 := dkwX4_isLoose_5 ++ dktX4_isLoose_6
def dkwX4_isLoose_4 : List UInt8 := [21, 6, 54, 4, 132, 5, 1, 167, 255, 187, 3, 54, 5, 21, 5, 6, 162, 0, 63, 3, 54, 6, 21, 6]
abbrev dktX4_isLoose_4 : List UInt8 := dkwX4_isLoose_4 ++ dktX4_isLoose_5
def dkwX4_isLoose_3 : List UInt8 := [2, 159, 0, 22, 42, 180, 0, 115, 42, 21, 4, 182, 1, 100, 42, 6, 21, 6, 96, 182, 1, 100, 79]
abbrev dktX4_isLoose_3 : List UInt8 := dkwX4_isLoose_3 ++ dktX4_isLoose_4
def dkwX4_isLoose_2 : List UInt8 := [42, 27, 21, 5, 182, 0, 202, 54, 6, 28, 21, 6, 122, 4, 126, 4, 160, 0, 6, 167, 0, 32, 21, 4]
abbrev dktX4_isLoose_2 : List UInt8 := dkwX4_isLoose_2 ++ dktX4_isLoose_3
def dkwX4_isLoose_1 : List UInt8 := [167, 255, 237, 2, 54, 4, 3, 54, 5, 21, 5, 42, 180, 0, 77, 17, 0, 166, 27, 96, 46, 162, 0, 60]
abbrev dktX4_isLoose_1 : List UInt8 := dkwX4_isLoose_1 ++ dktX4_isLoose_2
def dkwX4_isLoose_0 : List UInt8 := [3, 54, 4, 21, 4, 16, 6, 162, 0, 18, 42, 180, 0, 115, 21, 4, 21, 4, 79, 132, 4, 1]
abbrev dktX4_isLoose_0 : List UInt8 := dkwX4_isLoose_0 ++ dktX4_isLoose_1
theorem dksX4_isLoose_0 : cX4_isLoose.data.toList.drop 0 = dktX4_isLoose_0 := by decide +kernel
theorem dksX4_isLoose_1 : cX4_isLoose.data.toList.drop 22 = dktX4_isLoose_1 := dk_seg dksX4_isLoose_0 22 rfl rfl
theorem dksX4_isLoose_2 : cX4_isLoose.data.toList.drop 46 = dktX4_isLoose_2 := dk_seg dksX4_isLoose_1 24 rfl rfl
theorem dksX4_isLoose_3 : cX4_isLoose.data.toList.drop 70 = dktX4_isLoose_3 := dk_seg dksX4_isLoose_2 24 rfl rfl
theorem dksX4_isLoose_4 : cX4_isLoose.data.toList.drop 93 = dktX4_isLoose_4 := dk_seg dksX4_isLoose_3 23 rfl rfl
theorem dksX4_isLoose_5 : cX4_isLoose.data.toList.drop 117 = dktX4_isLoose_5 := dk_seg dksX4_isLoose_4 24 rfl rfl
theorem dksX4_isLoose_6 : cX4_isLoose.data.toList.drop 141 = dktX4_isLoose_6 := dk_seg dksX4_isLoose_5 24 rfl rfl
theorem dksX4_isLoose_7 : cX4_isLoose.data.toList.drop 163 = dktX4_isLoose_7 := dk_seg dksX4_isLoose_6 22 rfl rfl
theorem dX4_isLoose_0 : decode cX4_isLoose 0 = .ok (.iconst 0, 1) := dk_3 (dk_at dksX4_isLoose_0 0 rfl rfl)
theorem dX4_isLoose_1 : decode cX4_isLoose 1 = .ok (.istore 4, 2) := dk_54 4 (dk_at dksX4_isLoose_0 1 rfl rfl)
theorem dX4_isLoose_3 : decode cX4_isLoose 3 = .ok (.iload 4, 2) := dk_21 4 (dk_at dksX4_isLoose_0 3 rfl rfl)
theorem dX4_isLoose_5 : decode cX4_isLoose 5 = .ok (.bipush 6, 2) := dk_16 6 (dk_at dksX4_isLoose_0 5 rfl rfl)
theorem dX4_isLoose_7 : decode cX4_isLoose 7 = .ok (.if_icmp .ge 18, 3) := dk_162 0 18 (dk_at dksX4_isLoose_0 7 rfl rfl)
theorem dX4_isLoose_10 : decode cX4_isLoose 10 = .ok (.aload_n 0, 1) := dk_42 (dk_at dksX4_isLoose_0 10 rfl rfl)
theorem dX4_isLoose_11 : decode cX4_isLoose 11 = .ok (.getfield 115, 3) := dk_180 0 115 (dk_at dksX4_isLoose_0 11 rfl rfl)
theorem dX4_isLoose_14 : decode cX4_isLoose 14 = .ok (.iload 4, 2) := dk_21 4 (dk_at dksX4_isLoose_0 14 rfl rfl)
theorem dX4_isLoose_16 : decode cX4_isLoose 16 = .ok (.iload 4, 2) := dk_21 4 (dk_at dksX4_isLoose_0 16 rfl rfl)
theorem dX4_isLoose_18 : decode cX4_isLoose 18 = .ok (.iastore, 1) := dk_79 (dk_at dksX4_isLoose_0 18 rfl rfl)
theorem dX4_isLoose_19 : decode cX4_isLoose 19 = .ok (.iinc 4 1, 3) := dk_132 4 1 (dk_at dksX4_isLoose_0 19 rfl rfl)
theorem dX4_isLoose_22 : decode cX4_isLoose 22 = .ok (.goto (-19), 3) := dk_167 255 237 (dk_at dksX4_isLoose_1 0 rfl rfl)
theorem dX4_isLoose_25 : decode cX4_isLoose 25 = .ok (.iconst (-1), 1) := dk_2 (dk_at dksX4_isLoose_1 3 rfl rfl)
theorem dX4_isLoose_26 : decode cX4_isLoose 26 = .ok (.istore 4, 2) := dk_54 4 (dk_at dksX4_isLoose_1 4 rfl rfl)
theorem dX4_isLoose_28 : decode cX4_isLoose 28 = .ok (.iconst 0, 1) := dk_3 (dk_at dksX4_isLoose_1 6 rfl rfl)
theorem dX4_isLoose_29 : decode cX4_isLoose 29 = .ok (.istore 5, 2) := dk_54 5 (dk_at dksX4_isLoose_1 7 rfl rfl)
theorem dX4_isLoose_31 : decode cX4_isLoose 31 = .ok (.iload 5, 2) := dk_21 5 (dk_at dksX4_isLoose_1 9 rfl rfl)
theorem dX4_isLoose_33 : decode cX4_isLoose 33 = .ok (.aload_n 0, 1) := dk_42 (dk_at dksX4_isLoose_1 11 rfl rfl)
theorem dX4_isLoose_34 : decode cX4_isLoose 34 = .ok (.getfield 77, 3) := dk_180 0 77 (dk_at dksX4_isLoose_1 12 rfl rfl)
theorem dX4_isLoose_37 : decode cX4_isLoose 37 = .ok (.sipush 166, 3) := dk_17 0 166 (dk_at dksX4_isLoose_1 15 rfl rfl)
theorem dX4_isLoose_40 : decode cX4_isLoose 40 = .ok (.iload_n 1, 1) := dk_27 (dk_at dksX4_isLoose_1 18 rfl rfl)
theorem dX4_isLoose_41 : decode cX4_isLoose 41 = .ok (.iadd, 1) := dk_96 (dk_at dksX4_isLoose_1 19 rfl rfl)
theorem dX4_isLoose_42 : decode cX4_isLoose 42 = .ok (.iaload, 1) := dk_46 (dk_at dksX4_isLoose_1 20 rfl rfl)
theorem dX4_isLoose_43 : decode cX4_isLoose 43 = .ok (.if_icmp .ge 60, 3) := dk_162 0 60 (dk_at dksX4_isLoose_1 21 rfl rfl)
theorem dX4_isLoose_46 : decode cX4_isLoose 46 = .ok (.aload_n 0, 1) := dk_42 (dk_at dksX4_isLoose_2 0 rfl rfl)
theorem dX4_isLoose_47 : decode cX4_isLoose 47 = .ok (.iload_n 1, 1) := dk_27 (dk_at dksX4_isLoose_2 1 rfl rfl)
theorem dX4_isLoose_48 : decode cX4_isLoose 48 = .ok (.iload 5, 2) := dk_21 5 (dk_at dksX4_isLoose_2 2 rfl rfl)
theorem dX4_isLoose_50 : decode cX4_isLoose 50 = .ok (.invokevirtual 202, 3) := dk_182 0 202 (dk_at dksX4_isLoose_2 4 rfl rfl)
theorem dX4_isLoose_53 : decode cX4_isLoose 53 = .ok (.istore 6, 2) := dk_54 6 (dk_at dksX4_isLoose_2 7 rfl rfl)
theorem dX4_isLoose_55 : decode cX4_isLoose 55 = .ok (.iload_n 2, 1) := dk_28 (dk_at dksX4_isLoose_2 9 rfl rfl)
theorem dX4_isLoose_56 : decode cX4_isLoose 56 = .ok (.iload 6, 2) := dk_21 6 (dk_at dksX4_isLoose_2 10 rfl rfl)
theorem dX4_isLoose_58 : decode cX4_isLoose 58 = .ok (.ishr, 1) := dk_122 (dk_at dksX4_isLoose_2 12 rfl rfl)
theorem dX4_isLoose_59 : decode cX4_isLoose 59 = .ok (.iconst 1, 1) := dk_4 (dk_at dksX4_isLoose_2 13 rfl rfl)
theorem dX4_isLoose_60 : decode cX4_isLoose 60 = .ok (.iand, 1) := dk_126 (dk_at dksX4_isLoose_2 14 rfl rfl)
theorem dX4_isLoose_61 : decode cX4_isLoose 61 = .ok (.iconst 1, 1) := dk_4 (dk_at dksX4_isLoose_2 15 rfl rfl)
theorem dX4_isLoose_62 : decode cX4_isLoose 62 = .ok (.if_icmp .ne 6, 3) := dk_160 0 6 (dk_at dksX4_isLoose_2 16 rfl rfl)
theorem dX4_isLoose_65 : decode cX4_isLoose 65 = .ok (.goto 32, 3) := dk_167 0 32 (dk_at dksX4_isLoose_2 19 rfl rfl)
theorem dX4_isLoose_68 : decode cX4_isLoose 68 = .ok (.iload 4, 2) := dk_21 4 (dk_at dksX4_isLoose_2 22 rfl rfl)
theorem dX4_isLoose_70 : decode cX4_isLoose 70 = .ok (.iconst (-1), 1) := dk_2 (dk_at dksX4_isLoose_3 0 rfl rfl)
theorem dX4_isLoose_71 : decode cX4_isLoose 71 = .ok (.if_icmp .eq 22, 3) := dk_159 0 22 (dk_at dksX4_isLoose_3 1 rfl rfl)
theorem dX4_isLoose_74 : decode cX4_isLoose 74 = .ok (.aload_n 0, 1) := dk_42 (dk_at dksX4_isLoose_3 4 rfl rfl)
theorem dX4_isLoose_75 : decode cX4_isLoose 75 = .ok (.getfield 115, 3) := dk_180 0 115 (dk_at dksX4_isLoose_3 5 rfl rfl)
theorem dX4_isLoose_78 : decode cX4_isLoose 78 = .ok (.aload_n 0, 1) := dk_42 (dk_at dksX4_isLoose_3 8 rfl rfl)
theorem dX4_isLoose_79 : decode cX4_isLoose 79 = .ok (.iload 4, 2) := dk_21 4 (dk_at dksX4_isLoose_3 9 rfl rfl)
theorem dX4_isLoose_81 : decode cX4_isLoose 81 = .ok (.invokevirtual 356, 3) := dk_182 1 100 (dk_at dksX4_isLoose_3 11 rfl rfl)
theorem dX4_isLoose_84 : decode cX4_isLoose 84 = .ok (.aload_n 0, 1) := dk_42 (dk_at dksX4_isLoose_3 14 rfl rfl)
theorem dX4_isLoose_85 : decode cX4_isLoose 85 = .ok (.iconst 3, 1) := dk_6 (dk_at dksX4_isLoose_3 15 rfl rfl)
theorem dX4_isLoose_86 : decode cX4_isLoose 86 = .ok (.iload 6, 2) := dk_21 6 (dk_at dksX4_isLoose_3 16 rfl rfl)
theorem dX4_isLoose_88 : decode cX4_isLoose 88 = .ok (.iadd, 1) := dk_96 (dk_at dksX4_isLoose_3 18 rfl rfl)
theorem dX4_isLoose_89 : decode cX4_isLoose 89 = .ok (.invokevirtual 356, 3) := dk_182 1 100 (dk_at dksX4_isLoose_3 19 rfl rfl)
theorem dX4_isLoose_92 : decode cX4_isLoose 92 = .ok (.iastore, 1) := dk_79 (dk_at dksX4_isLoose_3 22 rfl rfl)
theorem dX4_isLoose_93 : decode cX4_isLoose 93 = .ok (.iload 6, 2) := dk_21 6 (dk_at dksX4_isLoose_4 0 rfl rfl)
theorem dX4_isLoose_95 : decode cX4_isLoose 95 = .ok (.istore 4, 2) := dk_54 4 (dk_at dksX4_isLoose_4 2 rfl rfl)
theorem dX4_isLoose_97 : decode cX4_isLoose 97 = .ok (.iinc 5 1, 3) := dk_132 5 1 (dk_at dksX4_isLoose_4 4 rfl rfl)
theorem dX4_isLoose_100 : decode cX4_isLoose 100 = .ok (.goto (-69), 3) := dk_167 255 187 (dk_at dksX4_isLoose_4 7 rfl rfl)
theorem dX4_isLoose_103 : decode cX4_isLoose 103 = .ok (.iconst 0, 1) := dk_3 (dk_at dksX4_isLoose_4 10 rfl rfl)
theorem dX4_isLoose_104 : decode cX4_isLoose 104 = .ok (.istore 5, 2) := dk_54 5 (dk_at dksX4_isLoose_4 11 rfl rfl)
theorem dX4_isLoose_106 : decode cX4_isLoose 106 = .ok (.iload 5, 2) := dk_21 5 (dk_at dksX4_isLoose_4 13 rfl rfl)
theorem dX4_isLoose_108 : decode cX4_isLoose 108 = .ok (.iconst 3, 1) := dk_6 (dk_at dksX4_isLoose_4 15 rfl rfl)
theorem dX4_isLoose_109 : decode cX4_isLoose 109 = .ok (.if_icmp .ge 63, 3) := dk_162 0 63 (dk_at dksX4_isLoose_4 16 rfl rfl)
theorem dX4_isLoose_112 : decode cX4_isLoose 112 = .ok (.iconst 0, 1) := dk_3 (dk_at dksX4_isLoose_4 19 rfl rfl)
theorem dX4_isLoose_113 : decode cX4_isLoose 113 = .ok (.istore 6, 2) := dk_54 6 (dk_at dksX4_isLoose_4 20 rfl rfl)
theorem dX4_isLoose_115 : decode cX4_isLoose 115 = .ok (.iload 6, 2) := dk_21 6 (dk_at dksX4_isLoose_4 22 rfl rfl)
theorem dX4_isLoose_117 : decode cX4_isLoose 117 = .ok (.iconst 3, 1) := dk_6 (dk_at dksX4_isLoose_5 0 rfl rfl)
theorem dX4_isLoose_118 : decode cX4_isLoose 118 = .ok (.if_icmp .ge 48, 3) := dk_162 0 48 (dk_at dksX4_isLoose_5 1 rfl rfl)
theorem dX4_isLoose_121 : decode cX4_isLoose 121 = .ok (.iload_n 3, 1) := dk_29 (dk_at dksX4_isLoose_5 4 rfl rfl)
theorem dX4_isLoose_122 : decode cX4_isLoose 122 = .ok (.iload 5, 2) := dk_21 5 (dk_at dksX4_isLoose_5 5 rfl rfl)
theorem dX4_isLoose_124 : decode cX4_isLoose 124 = .ok (.ishr, 1) := dk_122 (dk_at dksX4_isLoose_5 7 rfl rfl)
theorem dX4_isLoose_125 : decode cX4_isLoose 125 = .ok (.iconst 1, 1) := dk_4 (dk_at dksX4_isLoose_5 8 rfl rfl)
theorem dX4_isLoose_126 : decode cX4_isLoose 126 = .ok (.iand, 1) := dk_126 (dk_at dksX4_isLoose_5 9 rfl rfl)
theorem dX4_isLoose_127 : decode cX4_isLoose 127 = .ok (.iconst 1, 1) := dk_4 (dk_at dksX4_isLoose_5 10 rfl rfl)
theorem dX4_isLoose_128 : decode cX4_isLoose 128 = .ok (.if_icmp .ne 32, 3) := dk_160 0 32 (dk_at dksX4_isLoose_5 11 rfl rfl)
theorem dX4_isLoose_131 : decode cX4_isLoose 131 = .ok (.iload_n 3, 1) := dk_29 (dk_at dksX4_isLoose_5 14 rfl rfl)
theorem dX4_isLoose_132 : decode cX4_isLoose 132 = .ok (.iload 6, 2) := dk_21 6 (dk_at dksX4_isLoose_5 15 rfl rfl)
theorem dX4_isLoose_134 : decode cX4_isLoose 134 = .ok (.ishr, 1) := dk_122 (dk_at dksX4_isLoose_5 17 rfl rfl)
theorem dX4_isLoose_135 : decode cX4_isLoose 135 = .ok (.iconst 1, 1) := dk_4 (dk_at dksX4_isLoose_5 18 rfl rfl)
theorem dX4_isLoose_136 : decode cX4_isLoose 136 = .ok (.iand, 1) := dk_126 (dk_at dksX4_isLoose_5 19 rfl rfl)
theorem dX4_isLoose_137 : decode cX4_isLoose 137 = .ok (.iconst 1, 1) := dk_4 (dk_at dksX4_isLoose_5 20 rfl rfl)
theorem dX4_isLoose_138 : decode cX4_isLoose 138 = .ok (.if_icmp .ne 22, 3) := dk_160 0 22 (dk_at dksX4_isLoose_5 21 rfl rfl)
theorem dX4_isLoose_141 : decode cX4_isLoose 141 = .ok (.aload_n 0, 1) := dk_42 (dk_at dksX4_isLoose_6 0 rfl rfl)
theorem dX4_isLoose_142 : decode cX4_isLoose 142 = .ok (.iload 5, 2) := dk_21 5 (dk_at dksX4_isLoose_6 1 rfl rfl)
theorem dX4_isLoose_144 : decode cX4_isLoose 144 = .ok (.invokevirtual 356, 3) := dk_182 1 100 (dk_at dksX4_isLoose_6 3 rfl rfl)
theorem dX4_isLoose_147 : decode cX4_isLoose 147 = .ok (.aload_n 0, 1) := dk_42 (dk_at dksX4_isLoose_6 6 rfl rfl)
theorem dX4_isLoose_148 : decode cX4_isLoose 148 = .ok (.iconst 3, 1) := dk_6 (dk_at dksX4_isLoose_6 7 rfl rfl)
theorem dX4_isLoose_149 : decode cX4_isLoose 149 = .ok (.iload 6, 2) := dk_21 6 (dk_at dksX4_isLoose_6 8 rfl rfl)
theorem dX4_isLoose_151 : decode cX4_isLoose 151 = .ok (.iadd, 1) := dk_96 (dk_at dksX4_isLoose_6 10 rfl rfl)
theorem dX4_isLoose_152 : decode cX4_isLoose 152 = .ok (.invokevirtual 356, 3) := dk_182 1 100 (dk_at dksX4_isLoose_6 11 rfl rfl)
theorem dX4_isLoose_155 : decode cX4_isLoose 155 = .ok (.if_icmp .ne 5, 3) := dk_160 0 5 (dk_at dksX4_isLoose_6 14 rfl rfl)
theorem dX4_isLoose_158 : decode cX4_isLoose 158 = .ok (.iconst 0, 1) := dk_3 (dk_at dksX4_isLoose_6 17 rfl rfl)
theorem dX4_isLoose_159 : decode cX4_isLoose 159 = .ok (.ireturn, 1) := dk_172 (dk_at dksX4_isLoose_6 18 rfl rfl)
theorem dX4_isLoose_160 : decode cX4_isLoose 160 = .ok (.iinc 6 1, 3) := dk_132 6 1 (dk_at dksX4_isLoose_6 19 rfl rfl)
theorem dX4_isLoose_163 : decode cX4_isLoose 163 = .ok (.goto (-48), 3) := dk_167 255 208 (dk_at dksX4_isLoose_7 0 rfl rfl)
theorem dX4_isLoose_166 : decode cX4_isLoose 166 = .ok (.iinc 5 1, 3) := dk_132 5 1 (dk_at dksX4_isLoose_7 3 rfl rfl)
theorem dX4_isLoose_169 : decode cX4_isLoose 169 = .ok (.goto (-63), 3) := dk_167 255 193 (dk_at dksX4_isLoose_7 6 rfl rfl)
theorem dX4_isLoose_172 : decode cX4_isLoose 172 = .ok (.iconst 1, 1) := dk_4 (dk_at dksX4_isLoose_7 9 rfl rfl)
theorem dX4_isLoose_173 : decode cX4_isLoose 173 = .ok (.ireturn, 1) := dk_172 (dk_at dksX4_isLoose_7 10 rfl rfl)
abbrev cX4_endOf : ByteArray := prog_13_method_113_code
def yX4_endOf : MethodName := ⟨RX4, "endOf", "(I)I"⟩
def dkwX4_endOf_0 : List UInt8 := [27, 61, 42, 180, 0, 115, 28, 46, 28, 159, 0, 13, 42, 180, 0, 115, 28, 46, 61, 167, 255, 239, 28, 172]
abbrev dktX4_endOf_0 : List UInt8 := dkwX4_endOf_0 ++ []
theorem dksX4_endOf_0 : cX4_endOf.data.toList.drop 0 = dktX4_endOf_0 := by decide +kernel
theorem dX4_endOf_0 : decode cX4_endOf 0 = .ok (.iload_n 1, 1) := dk_27 (dk_at dksX4_endOf_0 0 rfl rfl)
theorem dX4_endOf_1 : decode cX4_endOf 1 = .ok (.istore_n 2, 1) := dk_61 (dk_at dksX4_endOf_0 1 rfl rfl)
theorem dX4_endOf_2 : decode cX4_endOf 2 = .ok (.aload_n 0, 1) := dk_42 (dk_at dksX4_endOf_0 2 rfl rfl)
theorem dX4_endOf_3 : decode cX4_endOf 3 = .ok (.getfield 115, 3) := dk_180 0 115 (dk_at dksX4_endOf_0 3 rfl rfl)
theorem dX4_endOf_6 : decode cX4_endOf 6 = .ok (.iload_n 2, 1) := dk_28 (dk_at dksX4_endOf_0 6 rfl rfl)
theorem dX4_endOf_7 : decode cX4_endOf 7 = .ok (.iaload, 1) := dk_46 (dk_at dksX4_endOf_0 7 rfl rfl)
theorem dX4_endOf_8 : decode cX4_endOf 8 = .ok (.iload_n 2, 1) := dk_28 (dk_at dksX4_endOf_0 8 rfl rfl)
theorem dX4_endOf_9 : decode cX4_endOf 9 = .ok (.if_icmp .eq 13, 3) := dk_159 0 13 (dk_at dksX4_endOf_0 9 rfl rfl)
theorem dX4_endOf_12 : decode cX4_endOf 12 = .ok (.aload_n 0, 1) := dk_42 (dk_at dksX4_endOf_0 12 rfl rfl)
theorem dX4_endOf_13 : decode cX4_endOf 13 = .ok (.getfield 115, 3) := dk_180 0 115 (dk_at dksX4_endOf_0 13 rfl rfl)
theorem dX4_endOf_16 : decode cX4_endOf 16 = .ok (.iload_n 2, 1) := dk_28 (dk_at dksX4_endOf_0 16 rfl rfl)
theorem dX4_endOf_17 : decode cX4_endOf 17 = .ok (.iaload, 1) := dk_46 (dk_at dksX4_endOf_0 17 rfl rfl)
theorem dX4_endOf_18 : decode cX4_endOf 18 = .ok (.istore_n 2, 1) := dk_61 (dk_at dksX4_endOf_0 18 rfl rfl)
theorem dX4_endOf_19 : decode cX4_endOf 19 = .ok (.goto (-17), 3) := dk_167 255 239 (dk_at dksX4_endOf_0 19 rfl rfl)
theorem dX4_endOf_22 : decode cX4_endOf 22 = .ok (.iload_n 2, 1) := dk_28 (dk_at dksX4_endOf_0 22 rfl rfl)
theorem dX4_endOf_23 : decode cX4_endOf 23 = .ok (.ireturn, 1) := dk_172 (dk_at dksX4_endOf_0 23 rfl rfl)
abbrev cX4_loose : ByteArray := prog_13_method_117_code
def yX4_loose : MethodName := ⟨RX4, "loose", "(II)I"⟩
def dkwX4_loose_3 : List UInt8 := [2, 160, 0, 7, 29, 167, 0, 4, 2, 172]
abbrev dktX4_loose_3 : List UInt8 := dkwX4_loose_3 ++ []
def dkwX4_loose_2 : List UInt8 := [154, 0, 6, 167, 0, 14, 29, 28, 160, 0, 6, 21, 4, 172, 132, 3, 1, 132, 4, 1, 167, 255, 208, 28]
abbrev dktX4_loose_2 : List UInt8 := dkwX4_loose_2 ++ dktX4_loose_3
def dkwX4_loose_1 : List UInt8 := [162, 0, 47, 21, 4, 42, 27, 182, 1, 103, 2, 130, 126, 154, 0, 28, 42, 27, 3, 21, 4, 182, 1, 106]
abbrev dktX4_loose_1 : List UInt8 := dkwX4_loose_1 ++ dktX4_loose_2
def dkwX4_loose_0 : List UInt8 := [42, 3, 181, 0, 3, 42, 27, 182, 1, 97, 153, 0, 5, 3, 172, 3, 62, 4, 54, 4, 21, 4, 16, 8]
abbrev dktX4_loose_0 : List UInt8 := dkwX4_loose_0 ++ dktX4_loose_1
theorem dksX4_loose_0 : cX4_loose.data.toList.drop 0 = dktX4_loose_0 := by decide +kernel
theorem dksX4_loose_1 : cX4_loose.data.toList.drop 24 = dktX4_loose_1 := dk_seg dksX4_loose_0 24 rfl rfl
theorem dksX4_loose_2 : cX4_loose.data.toList.drop 48 = dktX4_loose_2 := dk_seg dksX4_loose_1 24 rfl rfl
theorem dksX4_loose_3 : cX4_loose.data.toList.drop 72 = dktX4_loose_3 := dk_seg dksX4_loose_2 24 rfl rfl
theorem dX4_loose_0 : decode cX4_loose 0 = .ok (.aload_n 0, 1) := dk_42 (dk_at dksX4_loose_0 0 rfl rfl)
theorem dX4_loose_1 : decode cX4_loose 1 = .ok (.iconst 0, 1) := dk_3 (dk_at dksX4_loose_0 1 rfl rfl)
theorem dX4_loose_2 : decode cX4_loose 2 = .ok (.putfield 3, 3) := dk_181 0 3 (dk_at dksX4_loose_0 2 rfl rfl)
theorem dX4_loose_5 : decode cX4_loose 5 = .ok (.aload_n 0, 1) := dk_42 (dk_at dksX4_loose_0 5 rfl rfl)
theorem dX4_loose_6 : decode cX4_loose 6 = .ok (.iload_n 1, 1) := dk_27 (dk_at dksX4_loose_0 6 rfl rfl)
theorem dX4_loose_7 : decode cX4_loose 7 = .ok (.invokevirtual 353, 3) := dk_182 1 97 (dk_at dksX4_loose_0 7 rfl rfl)
theorem dX4_loose_10 : decode cX4_loose 10 = .ok (.ifCond .eq 5, 3) := dk_153 0 5 (dk_at dksX4_loose_0 10 rfl rfl)
theorem dX4_loose_13 : decode cX4_loose 13 = .ok (.iconst 0, 1) := dk_3 (dk_at dksX4_loose_0 13 rfl rfl)
theorem dX4_loose_14 : decode cX4_loose 14 = .ok (.ireturn, 1) := dk_172 (dk_at dksX4_loose_0 14 rfl rfl)
theorem dX4_loose_15 : decode cX4_loose 15 = .ok (.iconst 0, 1) := dk_3 (dk_at dksX4_loose_0 15 rfl rfl)
theorem dX4_loose_16 : decode cX4_loose 16 = .ok (.istore_n 3, 1) := dk_62 (dk_at dksX4_loose_0 16 rfl rfl)
theorem dX4_loose_17 : decode cX4_loose 17 = .ok (.iconst 1, 1) := dk_4 (dk_at dksX4_loose_0 17 rfl rfl)
theorem dX4_loose_18 : decode cX4_loose 18 = .ok (.istore 4, 2) := dk_54 4 (dk_at dksX4_loose_0 18 rfl rfl)
theorem dX4_loose_20 : decode cX4_loose 20 = .ok (.iload 4, 2) := dk_21 4 (dk_at dksX4_loose_0 20 rfl rfl)
theorem dX4_loose_22 : decode cX4_loose 22 = .ok (.bipush 8, 2) := dk_16 8 (dk_at dksX4_loose_0 22 rfl rfl)
theorem dX4_loose_24 : decode cX4_loose 24 = .ok (.if_icmp .ge 47, 3) := dk_162 0 47 (dk_at dksX4_loose_1 0 rfl rfl)
theorem dX4_loose_27 : decode cX4_loose 27 = .ok (.iload 4, 2) := dk_21 4 (dk_at dksX4_loose_1 3 rfl rfl)
theorem dX4_loose_29 : decode cX4_loose 29 = .ok (.aload_n 0, 1) := dk_42 (dk_at dksX4_loose_1 5 rfl rfl)
theorem dX4_loose_30 : decode cX4_loose 30 = .ok (.iload_n 1, 1) := dk_27 (dk_at dksX4_loose_1 6 rfl rfl)
theorem dX4_loose_31 : decode cX4_loose 31 = .ok (.invokevirtual 359, 3) := dk_182 1 103 (dk_at dksX4_loose_1 7 rfl rfl)
theorem dX4_loose_34 : decode cX4_loose 34 = .ok (.iconst (-1), 1) := dk_2 (dk_at dksX4_loose_1 10 rfl rfl)
theorem dX4_loose_35 : decode cX4_loose 35 = .ok (.ixor, 1) := dk_130 (dk_at dksX4_loose_1 11 rfl rfl)
theorem dX4_loose_36 : decode cX4_loose 36 = .ok (.iand, 1) := dk_126 (dk_at dksX4_loose_1 12 rfl rfl)
theorem dX4_loose_37 : decode cX4_loose 37 = .ok (.ifCond .ne 28, 3) := dk_154 0 28 (dk_at dksX4_loose_1 13 rfl rfl)
theorem dX4_loose_40 : decode cX4_loose 40 = .ok (.aload_n 0, 1) := dk_42 (dk_at dksX4_loose_1 16 rfl rfl)
theorem dX4_loose_41 : decode cX4_loose 41 = .ok (.iload_n 1, 1) := dk_27 (dk_at dksX4_loose_1 17 rfl rfl)
theorem dX4_loose_42 : decode cX4_loose 42 = .ok (.iconst 0, 1) := dk_3 (dk_at dksX4_loose_1 18 rfl rfl)
theorem dX4_loose_43 : decode cX4_loose 43 = .ok (.iload 4, 2) := dk_21 4 (dk_at dksX4_loose_1 19 rfl rfl)
theorem dX4_loose_45 : decode cX4_loose 45 = .ok (.invokevirtual 362, 3) := dk_182 1 106 (dk_at dksX4_loose_1 21 rfl rfl)
theorem dX4_loose_48 : decode cX4_loose 48 = .ok (.ifCond .ne 6, 3) := dk_154 0 6 (dk_at dksX4_loose_2 0 rfl rfl)
theorem dX4_loose_51 : decode cX4_loose 51 = .ok (.goto 14, 3) := dk_167 0 14 (dk_at dksX4_loose_2 3 rfl rfl)
theorem dX4_loose_54 : decode cX4_loose 54 = .ok (.iload_n 3, 1) := dk_29 (dk_at dksX4_loose_2 6 rfl rfl)
theorem dX4_loose_55 : decode cX4_loose 55 = .ok (.iload_n 2, 1) := dk_28 (dk_at dksX4_loose_2 7 rfl rfl)
theorem dX4_loose_56 : decode cX4_loose 56 = .ok (.if_icmp .ne 6, 3) := dk_160 0 6 (dk_at dksX4_loose_2 8 rfl rfl)
theorem dX4_loose_59 : decode cX4_loose 59 = .ok (.iload 4, 2) := dk_21 4 (dk_at dksX4_loose_2 11 rfl rfl)
theorem dX4_loose_61 : decode cX4_loose 61 = .ok (.ireturn, 1) := dk_172 (dk_at dksX4_loose_2 13 rfl rfl)
theorem dX4_loose_62 : decode cX4_loose 62 = .ok (.iinc 3 1, 3) := dk_132 3 1 (dk_at dksX4_loose_2 14 rfl rfl)
theorem dX4_loose_65 : decode cX4_loose 65 = .ok (.iinc 4 1, 3) := dk_132 4 1 (dk_at dksX4_loose_2 17 rfl rfl)
theorem dX4_loose_68 : decode cX4_loose 68 = .ok (.goto (-48), 3) := dk_167 255 208 (dk_at dksX4_loose_2 20 rfl rfl)
theorem dX4_loose_71 : decode cX4_loose 71 = .ok (.iload_n 2, 1) := dk_28 (dk_at dksX4_loose_2 23 rfl rfl)
theorem dX4_loose_72 : decode cX4_loose 72 = .ok (.iconst (-1), 1) := dk_2 (dk_at dksX4_loose_3 0 rfl rfl)
theorem dX4_loose_73 : decode cX4_loose 73 = .ok (.if_icmp .ne 7, 3) := dk_160 0 7 (dk_at dksX4_loose_3 1 rfl rfl)
theorem dX4_loose_76 : decode cX4_loose 76 = .ok (.iload_n 3, 1) := dk_29 (dk_at dksX4_loose_3 4 rfl rfl)
theorem dX4_loose_77 : decode cX4_loose 77 = .ok (.goto 4, 3) := dk_167 0 4 (dk_at dksX4_loose_3 5 rfl rfl)
theorem dX4_loose_80 : decode cX4_loose 80 = .ok (.iconst (-1), 1) := dk_2 (dk_at dksX4_loose_3 8 rfl rfl)
theorem dX4_loose_81 : decode cX4_loose 81 = .ok (.ireturn, 1) := dk_172 (dk_at dksX4_loose_3 9 rfl rfl)
abbrev cX4_pattern : ByteArray := prog_13_method_118_code
def yX4_pattern : MethodName := ⟨RX4, "pattern", "(II)I"⟩
def dkwX4_pattern_3 : List UInt8 := [17, 0, 194, 27, 96, 46, 172]
abbrev dktX4_pattern_3 : List UInt8 := dkwX4_pattern_3 ++ []
def dkwX4_pattern_2 : List UInt8 := [27, 96, 46, 167, 0, 26, 28, 4, 160, 0, 11, 42, 27, 182, 1, 103, 167, 0, 13, 42, 180, 0, 77]
abbrev dktX4_pattern_2 : List UInt8 := dkwX4_pattern_2 ++ dktX4_pattern_3
def dkwX4_pattern_1 : List UInt8 := [167, 0, 4, 3, 5, 182, 0, 180, 153, 0, 5, 3, 172, 28, 154, 0, 16, 42, 180, 0, 77, 17, 0, 166]
abbrev dktX4_pattern_1 : List UInt8 := dkwX4_pattern_1 ++ dktX4_pattern_2
def dkwX4_pattern_0 : List UInt8 := [42, 3, 181, 0, 3, 42, 27, 182, 1, 97, 154, 0, 25, 42, 28, 3, 5, 184, 0, 65, 154, 0, 7, 4]
abbrev dktX4_pattern_0 : List UInt8 := dkwX4_pattern_0 ++ dktX4_pattern_1
theorem dksX4_pattern_0 : cX4_pattern.data.toList.drop 0 = dktX4_pattern_0 := by decide +kernel
theorem dksX4_pattern_1 : cX4_pattern.data.toList.drop 24 = dktX4_pattern_1 := dk_seg dksX4_pattern_0 24 rfl rfl
theorem dksX4_pattern_2 : cX4_pattern.data.toList.drop 48 = dktX4_pattern_2 := dk_seg dksX4_pattern_1 24 rfl rfl
theorem dksX4_pattern_3 : cX4_pattern.data.toList.drop 71 = dktX4_pattern_3 := dk_seg dksX4_pattern_2 23 rfl rfl
theorem dX4_pattern_0 : decode cX4_pattern 0 = .ok (.aload_n 0, 1) := dk_42 (dk_at dksX4_pattern_0 0 rfl rfl)
theorem dX4_pattern_1 : decode cX4_pattern 1 = .ok (.iconst 0, 1) := dk_3 (dk_at dksX4_pattern_0 1 rfl rfl)
theorem dX4_pattern_2 : decode cX4_pattern 2 = .ok (.putfield 3, 3) := dk_181 0 3 (dk_at dksX4_pattern_0 2 rfl rfl)
theorem dX4_pattern_5 : decode cX4_pattern 5 = .ok (.aload_n 0, 1) := dk_42 (dk_at dksX4_pattern_0 5 rfl rfl)
theorem dX4_pattern_6 : decode cX4_pattern 6 = .ok (.iload_n 1, 1) := dk_27 (dk_at dksX4_pattern_0 6 rfl rfl)
theorem dX4_pattern_7 : decode cX4_pattern 7 = .ok (.invokevirtual 353, 3) := dk_182 1 97 (dk_at dksX4_pattern_0 7 rfl rfl)
theorem dX4_pattern_10 : decode cX4_pattern 10 = .ok (.ifCond .ne 25, 3) := dk_154 0 25 (dk_at dksX4_pattern_0 10 rfl rfl)
theorem dX4_pattern_13 : decode cX4_pattern 13 = .ok (.aload_n 0, 1) := dk_42 (dk_at dksX4_pattern_0 13 rfl rfl)
theorem dX4_pattern_14 : decode cX4_pattern 14 = .ok (.iload_n 2, 1) := dk_28 (dk_at dksX4_pattern_0 14 rfl rfl)
theorem dX4_pattern_15 : decode cX4_pattern 15 = .ok (.iconst 0, 1) := dk_3 (dk_at dksX4_pattern_0 15 rfl rfl)
theorem dX4_pattern_16 : decode cX4_pattern 16 = .ok (.iconst 2, 1) := dk_5 (dk_at dksX4_pattern_0 16 rfl rfl)
theorem dX4_pattern_17 : decode cX4_pattern 17 = .ok (.invokestatic 65, 3) := dk_184 0 65 (dk_at dksX4_pattern_0 17 rfl rfl)
theorem dX4_pattern_20 : decode cX4_pattern 20 = .ok (.ifCond .ne 7, 3) := dk_154 0 7 (dk_at dksX4_pattern_0 20 rfl rfl)
theorem dX4_pattern_23 : decode cX4_pattern 23 = .ok (.iconst 1, 1) := dk_4 (dk_at dksX4_pattern_0 23 rfl rfl)
theorem dX4_pattern_24 : decode cX4_pattern 24 = .ok (.goto 4, 3) := dk_167 0 4 (dk_at dksX4_pattern_1 0 rfl rfl)
theorem dX4_pattern_27 : decode cX4_pattern 27 = .ok (.iconst 0, 1) := dk_3 (dk_at dksX4_pattern_1 3 rfl rfl)
theorem dX4_pattern_28 : decode cX4_pattern 28 = .ok (.iconst 2, 1) := dk_5 (dk_at dksX4_pattern_1 4 rfl rfl)
theorem dX4_pattern_29 : decode cX4_pattern 29 = .ok (.invokevirtual 180, 3) := dk_182 0 180 (dk_at dksX4_pattern_1 5 rfl rfl)
theorem dX4_pattern_32 : decode cX4_pattern 32 = .ok (.ifCond .eq 5, 3) := dk_153 0 5 (dk_at dksX4_pattern_1 8 rfl rfl)
theorem dX4_pattern_35 : decode cX4_pattern 35 = .ok (.iconst 0, 1) := dk_3 (dk_at dksX4_pattern_1 11 rfl rfl)
theorem dX4_pattern_36 : decode cX4_pattern 36 = .ok (.ireturn, 1) := dk_172 (dk_at dksX4_pattern_1 12 rfl rfl)
theorem dX4_pattern_37 : decode cX4_pattern 37 = .ok (.iload_n 2, 1) := dk_28 (dk_at dksX4_pattern_1 13 rfl rfl)
theorem dX4_pattern_38 : decode cX4_pattern 38 = .ok (.ifCond .ne 16, 3) := dk_154 0 16 (dk_at dksX4_pattern_1 14 rfl rfl)
theorem dX4_pattern_41 : decode cX4_pattern 41 = .ok (.aload_n 0, 1) := dk_42 (dk_at dksX4_pattern_1 17 rfl rfl)
theorem dX4_pattern_42 : decode cX4_pattern 42 = .ok (.getfield 77, 3) := dk_180 0 77 (dk_at dksX4_pattern_1 18 rfl rfl)
theorem dX4_pattern_45 : decode cX4_pattern 45 = .ok (.sipush 166, 3) := dk_17 0 166 (dk_at dksX4_pattern_1 21 rfl rfl)
theorem dX4_pattern_48 : decode cX4_pattern 48 = .ok (.iload_n 1, 1) := dk_27 (dk_at dksX4_pattern_2 0 rfl rfl)
theorem dX4_pattern_49 : decode cX4_pattern 49 = .ok (.iadd, 1) := dk_96 (dk_at dksX4_pattern_2 1 rfl rfl)
theorem dX4_pattern_50 : decode cX4_pattern 50 = .ok (.iaload, 1) := dk_46 (dk_at dksX4_pattern_2 2 rfl rfl)
theorem dX4_pattern_51 : decode cX4_pattern 51 = .ok (.goto 26, 3) := dk_167 0 26 (dk_at dksX4_pattern_2 3 rfl rfl)
theorem dX4_pattern_54 : decode cX4_pattern 54 = .ok (.iload_n 2, 1) := dk_28 (dk_at dksX4_pattern_2 6 rfl rfl)
theorem dX4_pattern_55 : decode cX4_pattern 55 = .ok (.iconst 1, 1) := dk_4 (dk_at dksX4_pattern_2 7 rfl rfl)
theorem dX4_pattern_56 : decode cX4_pattern 56 = .ok (.if_icmp .ne 11, 3) := dk_160 0 11 (dk_at dksX4_pattern_2 8 rfl rfl)
theorem dX4_pattern_59 : decode cX4_pattern 59 = .ok (.aload_n 0, 1) := dk_42 (dk_at dksX4_pattern_2 11 rfl rfl)
theorem dX4_pattern_60 : decode cX4_pattern 60 = .ok (.iload_n 1, 1) := dk_27 (dk_at dksX4_pattern_2 12 rfl rfl)
theorem dX4_pattern_61 : decode cX4_pattern 61 = .ok (.invokevirtual 359, 3) := dk_182 1 103 (dk_at dksX4_pattern_2 13 rfl rfl)
theorem dX4_pattern_64 : decode cX4_pattern 64 = .ok (.goto 13, 3) := dk_167 0 13 (dk_at dksX4_pattern_2 16 rfl rfl)
theorem dX4_pattern_67 : decode cX4_pattern 67 = .ok (.aload_n 0, 1) := dk_42 (dk_at dksX4_pattern_2 19 rfl rfl)
theorem dX4_pattern_68 : decode cX4_pattern 68 = .ok (.getfield 77, 3) := dk_180 0 77 (dk_at dksX4_pattern_2 20 rfl rfl)
theorem dX4_pattern_71 : decode cX4_pattern 71 = .ok (.sipush 194, 3) := dk_17 0 194 (dk_at dksX4_pattern_3 0 rfl rfl)
theorem dX4_pattern_74 : decode cX4_pattern 74 = .ok (.iload_n 1, 1) := dk_27 (dk_at dksX4_pattern_3 3 rfl rfl)
theorem dX4_pattern_75 : decode cX4_pattern 75 = .ok (.iadd, 1) := dk_96 (dk_at dksX4_pattern_3 4 rfl rfl)
theorem dX4_pattern_76 : decode cX4_pattern 76 = .ok (.iaload, 1) := dk_46 (dk_at dksX4_pattern_3 5 rfl rfl)
theorem dX4_pattern_77 : decode cX4_pattern 77 = .ok (.ireturn, 1) := dk_172 (dk_at dksX4_pattern_3 6 rfl rfl)
abbrev cX4_limit : ByteArray := prog_13_method_119_code
def yX4_limit : MethodName := ⟨RX4, "limit", "(III)I"⟩
def dkwX4_limit_4 : List UInt8 := [29, 79, 21, 4, 172]
abbrev dktX4_limit_4 : List UInt8 := dkwX4_limit_4 ++ []
def dkwX4_limit_3 : List UInt8 := [5, 27, 154, 0, 7, 3, 167, 0, 4, 28, 79, 42, 180, 0, 77, 6, 27, 154, 0, 7, 3, 167, 0, 4]
abbrev dktX4_limit_3 : List UInt8 := dkwX4_limit_3 ++ dktX4_limit_4
def dkwX4_limit_2 : List UInt8 := [153, 0, 5, 3, 172, 42, 180, 0, 77, 4, 46, 54, 4, 42, 180, 0, 77, 4, 27, 79, 42, 180, 0, 77]
abbrev dktX4_limit_2 : List UInt8 := dkwX4_limit_2 ++ dktX4_limit_3
def dkwX4_limit_1 : List UInt8 := [153, 0, 13, 29, 4, 16, 9, 184, 0, 65, 154, 0, 7, 4, 167, 0, 4, 3, 4, 182, 0, 180]
abbrev dktX4_limit_1 : List UInt8 := dkwX4_limit_1 ++ dktX4_limit_2
def dkwX4_limit_0 : List UInt8 := [42, 3, 181, 0, 3, 42, 27, 3, 5, 184, 0, 65, 153, 0, 23, 28, 4, 16, 99, 184, 0, 65]
abbrev dktX4_limit_0 : List UInt8 := dkwX4_limit_0 ++ dktX4_limit_1
theorem dksX4_limit_0 : cX4_limit.data.toList.drop 0 = dktX4_limit_0 := by decide +kernel
theorem dksX4_limit_1 : cX4_limit.data.toList.drop 22 = dktX4_limit_1 := dk_seg dksX4_limit_0 22 rfl rfl
theorem dksX4_limit_2 : cX4_limit.data.toList.drop 44 = dktX4_limit_2 := dk_seg dksX4_limit_1 22 rfl rfl
theorem dksX4_limit_3 : cX4_limit.data.toList.drop 68 = dktX4_limit_3 := dk_seg dksX4_limit_2 24 rfl rfl
theorem dksX4_limit_4 : cX4_limit.data.toList.drop 92 = dktX4_limit_4 := dk_seg dksX4_limit_3 24 rfl rfl
theorem dX4_limit_0 : decode cX4_limit 0 = .ok (.aload_n 0, 1) := dk_42 (dk_at dksX4_limit_0 0 rfl rfl)
theorem dX4_limit_1 : decode cX4_limit 1 = .ok (.iconst 0, 1) := dk_3 (dk_at dksX4_limit_0 1 rfl rfl)
theorem dX4_limit_2 : decode cX4_limit 2 = .ok (.putfield 3, 3) := dk_181 0 3 (dk_at dksX4_limit_0 2 rfl rfl)
theorem dX4_limit_5 : decode cX4_limit 5 = .ok (.aload_n 0, 1) := dk_42 (dk_at dksX4_limit_0 5 rfl rfl)
theorem dX4_limit_6 : decode cX4_limit 6 = .ok (.iload_n 1, 1) := dk_27 (dk_at dksX4_limit_0 6 rfl rfl)
theorem dX4_limit_7 : decode cX4_limit 7 = .ok (.iconst 0, 1) := dk_3 (dk_at dksX4_limit_0 7 rfl rfl)
theorem dX4_limit_8 : decode cX4_limit 8 = .ok (.iconst 2, 1) := dk_5 (dk_at dksX4_limit_0 8 rfl rfl)
theorem dX4_limit_9 : decode cX4_limit 9 = .ok (.invokestatic 65, 3) := dk_184 0 65 (dk_at dksX4_limit_0 9 rfl rfl)
theorem dX4_limit_12 : decode cX4_limit 12 = .ok (.ifCond .eq 23, 3) := dk_153 0 23 (dk_at dksX4_limit_0 12 rfl rfl)
theorem dX4_limit_15 : decode cX4_limit 15 = .ok (.iload_n 2, 1) := dk_28 (dk_at dksX4_limit_0 15 rfl rfl)
theorem dX4_limit_16 : decode cX4_limit 16 = .ok (.iconst 1, 1) := dk_4 (dk_at dksX4_limit_0 16 rfl rfl)
theorem dX4_limit_17 : decode cX4_limit 17 = .ok (.bipush 99, 2) := dk_16 99 (dk_at dksX4_limit_0 17 rfl rfl)
theorem dX4_limit_19 : decode cX4_limit 19 = .ok (.invokestatic 65, 3) := dk_184 0 65 (dk_at dksX4_limit_0 19 rfl rfl)
theorem dX4_limit_22 : decode cX4_limit 22 = .ok (.ifCond .eq 13, 3) := dk_153 0 13 (dk_at dksX4_limit_1 0 rfl rfl)
theorem dX4_limit_25 : decode cX4_limit 25 = .ok (.iload_n 3, 1) := dk_29 (dk_at dksX4_limit_1 3 rfl rfl)
theorem dX4_limit_26 : decode cX4_limit 26 = .ok (.iconst 1, 1) := dk_4 (dk_at dksX4_limit_1 4 rfl rfl)
theorem dX4_limit_27 : decode cX4_limit 27 = .ok (.bipush 9, 2) := dk_16 9 (dk_at dksX4_limit_1 5 rfl rfl)
theorem dX4_limit_29 : decode cX4_limit 29 = .ok (.invokestatic 65, 3) := dk_184 0 65 (dk_at dksX4_limit_1 7 rfl rfl)
theorem dX4_limit_32 : decode cX4_limit 32 = .ok (.ifCond .ne 7, 3) := dk_154 0 7 (dk_at dksX4_limit_1 10 rfl rfl)
theorem dX4_limit_35 : decode cX4_limit 35 = .ok (.iconst 1, 1) := dk_4 (dk_at dksX4_limit_1 13 rfl rfl)
theorem dX4_limit_36 : decode cX4_limit 36 = .ok (.goto 4, 3) := dk_167 0 4 (dk_at dksX4_limit_1 14 rfl rfl)
theorem dX4_limit_39 : decode cX4_limit 39 = .ok (.iconst 0, 1) := dk_3 (dk_at dksX4_limit_1 17 rfl rfl)
theorem dX4_limit_40 : decode cX4_limit 40 = .ok (.iconst 1, 1) := dk_4 (dk_at dksX4_limit_1 18 rfl rfl)
theorem dX4_limit_41 : decode cX4_limit 41 = .ok (.invokevirtual 180, 3) := dk_182 0 180 (dk_at dksX4_limit_1 19 rfl rfl)
theorem dX4_limit_44 : decode cX4_limit 44 = .ok (.ifCond .eq 5, 3) := dk_153 0 5 (dk_at dksX4_limit_2 0 rfl rfl)
theorem dX4_limit_47 : decode cX4_limit 47 = .ok (.iconst 0, 1) := dk_3 (dk_at dksX4_limit_2 3 rfl rfl)
theorem dX4_limit_48 : decode cX4_limit 48 = .ok (.ireturn, 1) := dk_172 (dk_at dksX4_limit_2 4 rfl rfl)
theorem dX4_limit_49 : decode cX4_limit 49 = .ok (.aload_n 0, 1) := dk_42 (dk_at dksX4_limit_2 5 rfl rfl)
theorem dX4_limit_50 : decode cX4_limit 50 = .ok (.getfield 77, 3) := dk_180 0 77 (dk_at dksX4_limit_2 6 rfl rfl)
theorem dX4_limit_53 : decode cX4_limit 53 = .ok (.iconst 1, 1) := dk_4 (dk_at dksX4_limit_2 9 rfl rfl)
theorem dX4_limit_54 : decode cX4_limit 54 = .ok (.iaload, 1) := dk_46 (dk_at dksX4_limit_2 10 rfl rfl)
theorem dX4_limit_55 : decode cX4_limit 55 = .ok (.istore 4, 2) := dk_54 4 (dk_at dksX4_limit_2 11 rfl rfl)
theorem dX4_limit_57 : decode cX4_limit 57 = .ok (.aload_n 0, 1) := dk_42 (dk_at dksX4_limit_2 13 rfl rfl)
theorem dX4_limit_58 : decode cX4_limit 58 = .ok (.getfield 77, 3) := dk_180 0 77 (dk_at dksX4_limit_2 14 rfl rfl)
theorem dX4_limit_61 : decode cX4_limit 61 = .ok (.iconst 1, 1) := dk_4 (dk_at dksX4_limit_2 17 rfl rfl)
theorem dX4_limit_62 : decode cX4_limit 62 = .ok (.iload_n 1, 1) := dk_27 (dk_at dksX4_limit_2 18 rfl rfl)
theorem dX4_limit_63 : decode cX4_limit 63 = .ok (.iastore, 1) := dk_79 (dk_at dksX4_limit_2 19 rfl rfl)
theorem dX4_limit_64 : decode cX4_limit 64 = .ok (.aload_n 0, 1) := dk_42 (dk_at dksX4_limit_2 20 rfl rfl)
theorem dX4_limit_65 : decode cX4_limit 65 = .ok (.getfield 77, 3) := dk_180 0 77 (dk_at dksX4_limit_2 21 rfl rfl)
theorem dX4_limit_68 : decode cX4_limit 68 = .ok (.iconst 2, 1) := dk_5 (dk_at dksX4_limit_3 0 rfl rfl)
theorem dX4_limit_69 : decode cX4_limit 69 = .ok (.iload_n 1, 1) := dk_27 (dk_at dksX4_limit_3 1 rfl rfl)
theorem dX4_limit_70 : decode cX4_limit 70 = .ok (.ifCond .ne 7, 3) := dk_154 0 7 (dk_at dksX4_limit_3 2 rfl rfl)
theorem dX4_limit_73 : decode cX4_limit 73 = .ok (.iconst 0, 1) := dk_3 (dk_at dksX4_limit_3 5 rfl rfl)
theorem dX4_limit_74 : decode cX4_limit 74 = .ok (.goto 4, 3) := dk_167 0 4 (dk_at dksX4_limit_3 6 rfl rfl)
theorem dX4_limit_77 : decode cX4_limit 77 = .ok (.iload_n 2, 1) := dk_28 (dk_at dksX4_limit_3 9 rfl rfl)
theorem dX4_limit_78 : decode cX4_limit 78 = .ok (.iastore, 1) := dk_79 (dk_at dksX4_limit_3 10 rfl rfl)
theorem dX4_limit_79 : decode cX4_limit 79 = .ok (.aload_n 0, 1) := dk_42 (dk_at dksX4_limit_3 11 rfl rfl)
theorem dX4_limit_80 : decode cX4_limit 80 = .ok (.getfield 77, 3) := dk_180 0 77 (dk_at dksX4_limit_3 12 rfl rfl)
theorem dX4_limit_83 : decode cX4_limit 83 = .ok (.iconst 3, 1) := dk_6 (dk_at dksX4_limit_3 15 rfl rfl)
theorem dX4_limit_84 : decode cX4_limit 84 = .ok (.iload_n 1, 1) := dk_27 (dk_at dksX4_limit_3 16 rfl rfl)
theorem dX4_limit_85 : decode cX4_limit 85 = .ok (.ifCond .ne 7, 3) := dk_154 0 7 (dk_at dksX4_limit_3 17 rfl rfl)
theorem dX4_limit_88 : decode cX4_limit 88 = .ok (.iconst 0, 1) := dk_3 (dk_at dksX4_limit_3 20 rfl rfl)
theorem dX4_limit_89 : decode cX4_limit 89 = .ok (.goto 4, 3) := dk_167 0 4 (dk_at dksX4_limit_3 21 rfl rfl)
theorem dX4_limit_92 : decode cX4_limit 92 = .ok (.iload_n 3, 1) := dk_29 (dk_at dksX4_limit_4 0 rfl rfl)
theorem dX4_limit_93 : decode cX4_limit 93 = .ok (.iastore, 1) := dk_79 (dk_at dksX4_limit_4 1 rfl rfl)
theorem dX4_limit_94 : decode cX4_limit 94 = .ok (.iload 4, 2) := dk_21 4 (dk_at dksX4_limit_4 2 rfl rfl)
theorem dX4_limit_96 : decode cX4_limit 96 = .ok (.ireturn, 1) := dk_172 (dk_at dksX4_limit_4 4 rfl rfl)
abbrev cX4_avoid : ByteArray := prog_13_method_120_code
def yX4_avoid : MethodName := ⟨RX4, "avoid", "(IZ)Z"⟩
def dkwX4_avoid_2 : List UInt8 := [4, 167, 0, 4, 3, 79, 29, 172]
abbrev dktX4_avoid_2 : List UInt8 := dkwX4_avoid_2 ++ []
def dkwX4_avoid_1 : List UInt8 := [46, 4, 160, 0, 7, 4, 167, 0, 4, 3, 62, 42, 180, 0, 77, 17, 0, 194, 27, 96, 28, 153, 0, 7]
abbrev dktX4_avoid_1 : List UInt8 := dkwX4_avoid_1 ++ dktX4_avoid_2
def dkwX4_avoid_0 : List UInt8 := [42, 3, 181, 0, 3, 42, 27, 182, 1, 97, 153, 0, 5, 3, 172, 42, 180, 0, 77, 17, 0, 194, 27, 96]
abbrev dktX4_avoid_0 : List UInt8 := dkwX4_avoid_0 ++ dktX4_avoid_1
theorem dksX4_avoid_0 : cX4_avoid.data.toList.drop 0 = dktX4_avoid_0 := by decide +kernel
theorem dksX4_avoid_1 : cX4_avoid.data.toList.drop 24 = dktX4_avoid_1 := dk_seg dksX4_avoid_0 24 rfl rfl
theorem dksX4_avoid_2 : cX4_avoid.data.toList.drop 48 = dktX4_avoid_2 := dk_seg dksX4_avoid_1 24 rfl rfl
theorem dX4_avoid_0 : decode cX4_avoid 0 = .ok (.aload_n 0, 1) := dk_42 (dk_at dksX4_avoid_0 0 rfl rfl)
theorem dX4_avoid_1 : decode cX4_avoid 1 = .ok (.iconst 0, 1) := dk_3 (dk_at dksX4_avoid_0 1 rfl rfl)
theorem dX4_avoid_2 : decode cX4_avoid 2 = .ok (.putfield 3, 3) := dk_181 0 3 (dk_at dksX4_avoid_0 2 rfl rfl)
theorem dX4_avoid_5 : decode cX4_avoid 5 = .ok (.aload_n 0, 1) := dk_42 (dk_at dksX4_avoid_0 5 rfl rfl)
theorem dX4_avoid_6 : decode cX4_avoid 6 = .ok (.iload_n 1, 1) := dk_27 (dk_at dksX4_avoid_0 6 rfl rfl)
theorem dX4_avoid_7 : decode cX4_avoid 7 = .ok (.invokevirtual 353, 3) := dk_182 1 97 (dk_at dksX4_avoid_0 7 rfl rfl)
theorem dX4_avoid_10 : decode cX4_avoid 10 = .ok (.ifCond .eq 5, 3) := dk_153 0 5 (dk_at dksX4_avoid_0 10 rfl rfl)
theorem dX4_avoid_13 : decode cX4_avoid 13 = .ok (.iconst 0, 1) := dk_3 (dk_at dksX4_avoid_0 13 rfl rfl)
theorem dX4_avoid_14 : decode cX4_avoid 14 = .ok (.ireturn, 1) := dk_172 (dk_at dksX4_avoid_0 14 rfl rfl)
theorem dX4_avoid_15 : decode cX4_avoid 15 = .ok (.aload_n 0, 1) := dk_42 (dk_at dksX4_avoid_0 15 rfl rfl)
theorem dX4_avoid_16 : decode cX4_avoid 16 = .ok (.getfield 77, 3) := dk_180 0 77 (dk_at dksX4_avoid_0 16 rfl rfl)
theorem dX4_avoid_19 : decode cX4_avoid 19 = .ok (.sipush 194, 3) := dk_17 0 194 (dk_at dksX4_avoid_0 19 rfl rfl)
theorem dX4_avoid_22 : decode cX4_avoid 22 = .ok (.iload_n 1, 1) := dk_27 (dk_at dksX4_avoid_0 22 rfl rfl)
theorem dX4_avoid_23 : decode cX4_avoid 23 = .ok (.iadd, 1) := dk_96 (dk_at dksX4_avoid_0 23 rfl rfl)
theorem dX4_avoid_24 : decode cX4_avoid 24 = .ok (.iaload, 1) := dk_46 (dk_at dksX4_avoid_1 0 rfl rfl)
theorem dX4_avoid_25 : decode cX4_avoid 25 = .ok (.iconst 1, 1) := dk_4 (dk_at dksX4_avoid_1 1 rfl rfl)
theorem dX4_avoid_26 : decode cX4_avoid 26 = .ok (.if_icmp .ne 7, 3) := dk_160 0 7 (dk_at dksX4_avoid_1 2 rfl rfl)
theorem dX4_avoid_29 : decode cX4_avoid 29 = .ok (.iconst 1, 1) := dk_4 (dk_at dksX4_avoid_1 5 rfl rfl)
theorem dX4_avoid_30 : decode cX4_avoid 30 = .ok (.goto 4, 3) := dk_167 0 4 (dk_at dksX4_avoid_1 6 rfl rfl)
theorem dX4_avoid_33 : decode cX4_avoid 33 = .ok (.iconst 0, 1) := dk_3 (dk_at dksX4_avoid_1 9 rfl rfl)
theorem dX4_avoid_34 : decode cX4_avoid 34 = .ok (.istore_n 3, 1) := dk_62 (dk_at dksX4_avoid_1 10 rfl rfl)
theorem dX4_avoid_35 : decode cX4_avoid 35 = .ok (.aload_n 0, 1) := dk_42 (dk_at dksX4_avoid_1 11 rfl rfl)
theorem dX4_avoid_36 : decode cX4_avoid 36 = .ok (.getfield 77, 3) := dk_180 0 77 (dk_at dksX4_avoid_1 12 rfl rfl)
theorem dX4_avoid_39 : decode cX4_avoid 39 = .ok (.sipush 194, 3) := dk_17 0 194 (dk_at dksX4_avoid_1 15 rfl rfl)
theorem dX4_avoid_42 : decode cX4_avoid 42 = .ok (.iload_n 1, 1) := dk_27 (dk_at dksX4_avoid_1 18 rfl rfl)
theorem dX4_avoid_43 : decode cX4_avoid 43 = .ok (.iadd, 1) := dk_96 (dk_at dksX4_avoid_1 19 rfl rfl)
theorem dX4_avoid_44 : decode cX4_avoid 44 = .ok (.iload_n 2, 1) := dk_28 (dk_at dksX4_avoid_1 20 rfl rfl)
theorem dX4_avoid_45 : decode cX4_avoid 45 = .ok (.ifCond .eq 7, 3) := dk_153 0 7 (dk_at dksX4_avoid_1 21 rfl rfl)
theorem dX4_avoid_48 : decode cX4_avoid 48 = .ok (.iconst 1, 1) := dk_4 (dk_at dksX4_avoid_2 0 rfl rfl)
theorem dX4_avoid_49 : decode cX4_avoid 49 = .ok (.goto 4, 3) := dk_167 0 4 (dk_at dksX4_avoid_2 1 rfl rfl)
theorem dX4_avoid_52 : decode cX4_avoid 52 = .ok (.iconst 0, 1) := dk_3 (dk_at dksX4_avoid_2 4 rfl rfl)
theorem dX4_avoid_53 : decode cX4_avoid 53 = .ok (.iastore, 1) := dk_79 (dk_at dksX4_avoid_2 5 rfl rfl)
theorem dX4_avoid_54 : decode cX4_avoid 54 = .ok (.iload_n 3, 1) := dk_29 (dk_at dksX4_avoid_2 6 rfl rfl)
theorem dX4_avoid_55 : decode cX4_avoid 55 = .ok (.ireturn, 1) := dk_172 (dk_at dksX4_avoid_2 7 rfl rfl)
abbrev cX4_count : ByteArray := prog_13_method_121_code
def yX4_count : MethodName := ⟨RX4, "count", "(I)I"⟩
def dkwX4_count_5 : List UInt8 := [180, 0, 77, 4, 46, 172, 2, 172]
abbrev dktX4_count_5 : List UInt8 := dkwX4_count_5 ++ []
def dkwX4_count_4 : List UInt8 := [180, 0, 184, 172, 42, 180, 0, 187, 172, 42, 180, 0, 77, 5, 46, 172, 42, 180, 0, 77, 6, 46, 172, 42]
abbrev dktX4_count_4 : List UInt8 := dkwX4_count_4 ++ dktX4_count_5
def dkwX4_count_3 : List UInt8 := [42, 180, 0, 77, 3, 46, 172, 42, 180, 0, 77, 7, 46, 172, 42, 180, 0, 77, 8, 46, 172, 28, 172, 42]
abbrev dktX4_count_3 : List UInt8 := dkwX4_count_3 ++ dktX4_count_4
def dkwX4_count_2 : List UInt8 := [170, 0, 0, 0, 103, 0, 0, 0, 0, 0, 0, 0, 8, 0, 0, 0, 49, 0, 0, 0, 56, 0, 0, 0, 63, 0, 0, 0, 70, 0, 0, 0, 72, 0, 0, 0, 77, 0, 0, 0, 82, 0, 0, 0, 89, 0, 0, 0, 96]
abbrev dktX4_count_2 : List UInt8 := dkwX4_count_2 ++ dktX4_count_3
def dkwX4_count_1 : List UInt8 := [17, 0, 194, 29, 96, 46, 96, 61, 132, 3, 1, 167, 255, 230, 27]
abbrev dktX4_count_1 : List UInt8 := dkwX4_count_1 ++ dktX4_count_2
def dkwX4_count_0 : List UInt8 := [42, 3, 181, 0, 3, 3, 61, 3, 62, 29, 42, 180, 0, 77, 8, 46, 162, 0, 22, 28, 42, 180, 0, 77]
abbrev dktX4_count_0 : List UInt8 := dkwX4_count_0 ++ dktX4_count_1
theorem dksX4_count_0 : cX4_count.data.toList.drop 0 = dktX4_count_0 := by decide +kernel
theorem dksX4_count_1 : cX4_count.data.toList.drop 24 = dktX4_count_1 := dk_seg dksX4_count_0 24 rfl rfl
theorem dksX4_count_2 : cX4_count.data.toList.drop 39 = dktX4_count_2 := dk_seg dksX4_count_1 15 rfl rfl
theorem dksX4_count_3 : cX4_count.data.toList.drop 88 = dktX4_count_3 := dk_seg dksX4_count_2 49 rfl rfl
theorem dksX4_count_4 : cX4_count.data.toList.drop 112 = dktX4_count_4 := dk_seg dksX4_count_3 24 rfl rfl
theorem dksX4_count_5 : cX4_count.data.toList.drop 136 = dktX4_count_5 := dk_seg dksX4_count_4 24 rfl rfl
theorem dX4_count_0 : decode cX4_count 0 = .ok (.aload_n 0, 1) := dk_42 (dk_at dksX4_count_0 0 rfl rfl)
theorem dX4_count_1 : decode cX4_count 1 = .ok (.iconst 0, 1) := dk_3 (dk_at dksX4_count_0 1 rfl rfl)
theorem dX4_count_2 : decode cX4_count 2 = .ok (.putfield 3, 3) := dk_181 0 3 (dk_at dksX4_count_0 2 rfl rfl)
theorem dX4_count_5 : decode cX4_count 5 = .ok (.iconst 0, 1) := dk_3 (dk_at dksX4_count_0 5 rfl rfl)
theorem dX4_count_6 : decode cX4_count 6 = .ok (.istore_n 2, 1) := dk_61 (dk_at dksX4_count_0 6 rfl rfl)
theorem dX4_count_7 : decode cX4_count 7 = .ok (.iconst 0, 1) := dk_3 (dk_at dksX4_count_0 7 rfl rfl)
theorem dX4_count_8 : decode cX4_count 8 = .ok (.istore_n 3, 1) := dk_62 (dk_at dksX4_count_0 8 rfl rfl)
theorem dX4_count_9 : decode cX4_count 9 = .ok (.iload_n 3, 1) := dk_29 (dk_at dksX4_count_0 9 rfl rfl)
theorem dX4_count_10 : decode cX4_count 10 = .ok (.aload_n 0, 1) := dk_42 (dk_at dksX4_count_0 10 rfl rfl)
theorem dX4_count_11 : decode cX4_count 11 = .ok (.getfield 77, 3) := dk_180 0 77 (dk_at dksX4_count_0 11 rfl rfl)
theorem dX4_count_14 : decode cX4_count 14 = .ok (.iconst 5, 1) := dk_8 (dk_at dksX4_count_0 14 rfl rfl)
theorem dX4_count_15 : decode cX4_count 15 = .ok (.iaload, 1) := dk_46 (dk_at dksX4_count_0 15 rfl rfl)
theorem dX4_count_16 : decode cX4_count 16 = .ok (.if_icmp .ge 22, 3) := dk_162 0 22 (dk_at dksX4_count_0 16 rfl rfl)
theorem dX4_count_19 : decode cX4_count 19 = .ok (.iload_n 2, 1) := dk_28 (dk_at dksX4_count_0 19 rfl rfl)
theorem dX4_count_20 : decode cX4_count 20 = .ok (.aload_n 0, 1) := dk_42 (dk_at dksX4_count_0 20 rfl rfl)
theorem dX4_count_21 : decode cX4_count 21 = .ok (.getfield 77, 3) := dk_180 0 77 (dk_at dksX4_count_0 21 rfl rfl)
theorem dX4_count_24 : decode cX4_count 24 = .ok (.sipush 194, 3) := dk_17 0 194 (dk_at dksX4_count_1 0 rfl rfl)
theorem dX4_count_27 : decode cX4_count 27 = .ok (.iload_n 3, 1) := dk_29 (dk_at dksX4_count_1 3 rfl rfl)
theorem dX4_count_28 : decode cX4_count 28 = .ok (.iadd, 1) := dk_96 (dk_at dksX4_count_1 4 rfl rfl)
theorem dX4_count_29 : decode cX4_count 29 = .ok (.iaload, 1) := dk_46 (dk_at dksX4_count_1 5 rfl rfl)
theorem dX4_count_30 : decode cX4_count 30 = .ok (.iadd, 1) := dk_96 (dk_at dksX4_count_1 6 rfl rfl)
theorem dX4_count_31 : decode cX4_count 31 = .ok (.istore_n 2, 1) := dk_61 (dk_at dksX4_count_1 7 rfl rfl)
theorem dX4_count_32 : decode cX4_count 32 = .ok (.iinc 3 1, 3) := dk_132 3 1 (dk_at dksX4_count_1 8 rfl rfl)
theorem dX4_count_35 : decode cX4_count 35 = .ok (.goto (-26), 3) := dk_167 255 230 (dk_at dksX4_count_1 11 rfl rfl)
theorem dX4_count_38 : decode cX4_count 38 = .ok (.iload_n 1, 1) := dk_27 (dk_at dksX4_count_1 14 rfl rfl)
theorem dX4_count_39 : decode cX4_count 39 = .ok (.tableswitch 103 0 8 #[49, 56, 63, 70, 72, 77, 82, 89, 96], 49) := by decide +kernel
theorem dX4_count_88 : decode cX4_count 88 = .ok (.aload_n 0, 1) := dk_42 (dk_at dksX4_count_3 0 rfl rfl)
theorem dX4_count_89 : decode cX4_count 89 = .ok (.getfield 77, 3) := dk_180 0 77 (dk_at dksX4_count_3 1 rfl rfl)
theorem dX4_count_92 : decode cX4_count 92 = .ok (.iconst 0, 1) := dk_3 (dk_at dksX4_count_3 4 rfl rfl)
theorem dX4_count_93 : decode cX4_count 93 = .ok (.iaload, 1) := dk_46 (dk_at dksX4_count_3 5 rfl rfl)
theorem dX4_count_94 : decode cX4_count 94 = .ok (.ireturn, 1) := dk_172 (dk_at dksX4_count_3 6 rfl rfl)
theorem dX4_count_95 : decode cX4_count 95 = .ok (.aload_n 0, 1) := dk_42 (dk_at dksX4_count_3 7 rfl rfl)
theorem dX4_count_96 : decode cX4_count 96 = .ok (.getfield 77, 3) := dk_180 0 77 (dk_at dksX4_count_3 8 rfl rfl)
theorem dX4_count_99 : decode cX4_count 99 = .ok (.iconst 4, 1) := dk_7 (dk_at dksX4_count_3 11 rfl rfl)
theorem dX4_count_100 : decode cX4_count 100 = .ok (.iaload, 1) := dk_46 (dk_at dksX4_count_3 12 rfl rfl)
theorem dX4_count_101 : decode cX4_count 101 = .ok (.ireturn, 1) := dk_172 (dk_at dksX4_count_3 13 rfl rfl)
theorem dX4_count_102 : decode cX4_count 102 = .ok (.aload_n 0, 1) := dk_42 (dk_at dksX4_count_3 14 rfl rfl)
theorem dX4_count_103 : decode cX4_count 103 = .ok (.getfield 77, 3) := dk_180 0 77 (dk_at dksX4_count_3 15 rfl rfl)
theorem dX4_count_106 : decode cX4_count 106 = .ok (.iconst 5, 1) := dk_8 (dk_at dksX4_count_3 18 rfl rfl)
theorem dX4_count_107 : decode cX4_count 107 = .ok (.iaload, 1) := dk_46 (dk_at dksX4_count_3 19 rfl rfl)
theorem dX4_count_108 : decode cX4_count 108 = .ok (.ireturn, 1) := dk_172 (dk_at dksX4_count_3 20 rfl rfl)
theorem dX4_count_109 : decode cX4_count 109 = .ok (.iload_n 2, 1) := dk_28 (dk_at dksX4_count_3 21 rfl rfl)
theorem dX4_count_110 : decode cX4_count 110 = .ok (.ireturn, 1) := dk_172 (dk_at dksX4_count_3 22 rfl rfl)
theorem dX4_count_111 : decode cX4_count 111 = .ok (.aload_n 0, 1) := dk_42 (dk_at dksX4_count_3 23 rfl rfl)
theorem dX4_count_112 : decode cX4_count 112 = .ok (.getfield 184, 3) := dk_180 0 184 (dk_at dksX4_count_4 0 rfl rfl)
theorem dX4_count_115 : decode cX4_count 115 = .ok (.ireturn, 1) := dk_172 (dk_at dksX4_count_4 3 rfl rfl)
theorem dX4_count_116 : decode cX4_count 116 = .ok (.aload_n 0, 1) := dk_42 (dk_at dksX4_count_4 4 rfl rfl)
theorem dX4_count_117 : decode cX4_count 117 = .ok (.getfield 187, 3) := dk_180 0 187 (dk_at dksX4_count_4 5 rfl rfl)
theorem dX4_count_120 : decode cX4_count 120 = .ok (.ireturn, 1) := dk_172 (dk_at dksX4_count_4 8 rfl rfl)
theorem dX4_count_121 : decode cX4_count 121 = .ok (.aload_n 0, 1) := dk_42 (dk_at dksX4_count_4 9 rfl rfl)
theorem dX4_count_122 : decode cX4_count 122 = .ok (.getfield 77, 3) := dk_180 0 77 (dk_at dksX4_count_4 10 rfl rfl)
theorem dX4_count_125 : decode cX4_count 125 = .ok (.iconst 2, 1) := dk_5 (dk_at dksX4_count_4 13 rfl rfl)
theorem dX4_count_126 : decode cX4_count 126 = .ok (.iaload, 1) := dk_46 (dk_at dksX4_count_4 14 rfl rfl)
theorem dX4_count_127 : decode cX4_count 127 = .ok (.ireturn, 1) := dk_172 (dk_at dksX4_count_4 15 rfl rfl)
theorem dX4_count_128 : decode cX4_count 128 = .ok (.aload_n 0, 1) := dk_42 (dk_at dksX4_count_4 16 rfl rfl)
theorem dX4_count_129 : decode cX4_count 129 = .ok (.getfield 77, 3) := dk_180 0 77 (dk_at dksX4_count_4 17 rfl rfl)
theorem dX4_count_132 : decode cX4_count 132 = .ok (.iconst 3, 1) := dk_6 (dk_at dksX4_count_4 20 rfl rfl)
theorem dX4_count_133 : decode cX4_count 133 = .ok (.iaload, 1) := dk_46 (dk_at dksX4_count_4 21 rfl rfl)
theorem dX4_count_134 : decode cX4_count 134 = .ok (.ireturn, 1) := dk_172 (dk_at dksX4_count_4 22 rfl rfl)
theorem dX4_count_135 : decode cX4_count 135 = .ok (.aload_n 0, 1) := dk_42 (dk_at dksX4_count_4 23 rfl rfl)
theorem dX4_count_136 : decode cX4_count 136 = .ok (.getfield 77, 3) := dk_180 0 77 (dk_at dksX4_count_5 0 rfl rfl)
theorem dX4_count_139 : decode cX4_count 139 = .ok (.iconst 1, 1) := dk_4 (dk_at dksX4_count_5 3 rfl rfl)
theorem dX4_count_140 : decode cX4_count 140 = .ok (.iaload, 1) := dk_46 (dk_at dksX4_count_5 4 rfl rfl)
theorem dX4_count_141 : decode cX4_count 141 = .ok (.ireturn, 1) := dk_172 (dk_at dksX4_count_5 5 rfl rfl)
theorem dX4_count_142 : decode cX4_count 142 = .ok (.iconst (-1), 1) := dk_2 (dk_at dksX4_count_5 6 rfl rfl)
theorem dX4_count_143 : decode cX4_count 143 = .ok (.ireturn, 1) := dk_172 (dk_at dksX4_count_5 7 rfl rfl)
theorem q124 : (Jvm.Cond.initialized "RepeatFreeModel") ∈ lw_all := lw_g (lw_at lw_m1 9 rfl) rfl
theorem q674 : (Jvm.Cond.selects "RepeatFreeModel" ({ cls := "java/lang/Object", name := "getClass", desc := "()Ljava/lang/Class;" } : Jvm.MethodName) ({ cls := "java/lang/Object", name := "getClass", desc := "()Ljava/lang/Class;" } : Jvm.MethodName)) ∈ lw_all := lw_g (lw_at lw_m3 79 rfl) rfl
theorem q1193 : (Jvm.Cond.selects "RepeatFreeModel" ({ cls := "java/lang/Object", name := "equals", desc := "(Ljava/lang/Object;)Z" } : Jvm.MethodName) ({ cls := "java/lang/Object", name := "equals", desc := "(Ljava/lang/Object;)Z" } : Jvm.MethodName)) ∈ lw_all := lw_g (lw_at lw_m5 118 rfl) rfl
theorem q2241 : (Jvm.Cond.instanceMethod ({ cls := "RepeatFreeModel", name := "thrown", desc := "()I" } : Jvm.MethodName)) ∈ lw_all := lw_g (lw_at lw_m9 206 rfl) rfl
theorem q2242 : (Jvm.Cond.selects "RepeatFreeModel" ({ cls := "RepeatFreeModel", name := "thrown", desc := "()I" } : Jvm.MethodName) ({ cls := "RepeatFreeModel", name := "thrown", desc := "()I" } : Jvm.MethodName)) ∈ lw_all := lw_g (lw_at lw_m9 207 rfl) rfl
theorem q2243 : (Jvm.Cond.code ({ cls := "RepeatFreeModel", name := "thrown", desc := "()I" } : Jvm.MethodName) prog_13_method_1_code (1 : Nat) (Option.some Jvm.ClassFile.FieldType.int)) ∈ lw_all := lw_g (lw_at lw_m9 208 rfl) rfl
theorem q2245 : (Jvm.Cond.instanceMethod ({ cls := "RepeatFreeModel", name := "feed", desc := "(IIIII)I" } : Jvm.MethodName)) ∈ lw_all := lw_g (lw_at lw_m9 210 rfl) rfl
theorem q2246 : (Jvm.Cond.selects "RepeatFreeModel" ({ cls := "RepeatFreeModel", name := "feed", desc := "(IIIII)I" } : Jvm.MethodName) ({ cls := "RepeatFreeModel", name := "feed", desc := "(IIIII)I" } : Jvm.MethodName)) ∈ lw_all := lw_g (lw_at lw_m9 211 rfl) rfl
theorem q2247 : (Jvm.Cond.code ({ cls := "RepeatFreeModel", name := "feed", desc := "(IIIII)I" } : Jvm.MethodName) prog_13_method_4_code (7 : Nat) (Option.some Jvm.ClassFile.FieldType.int)) ∈ lw_all := lw_g (lw_at lw_m9 212 rfl) rfl
theorem q2249 : (Jvm.Cond.instanceMethod ({ cls := "RepeatFreeModel", name := "end", desc := "(I)Z" } : Jvm.MethodName)) ∈ lw_all := lw_g (lw_at lw_m9 214 rfl) rfl
theorem q2250 : (Jvm.Cond.selects "RepeatFreeModel" ({ cls := "RepeatFreeModel", name := "end", desc := "(I)Z" } : Jvm.MethodName) ({ cls := "RepeatFreeModel", name := "end", desc := "(I)Z" } : Jvm.MethodName)) ∈ lw_all := lw_g (lw_at lw_m9 215 rfl) rfl
theorem q2251 : (Jvm.Cond.code ({ cls := "RepeatFreeModel", name := "end", desc := "(I)Z" } : Jvm.MethodName) prog_13_method_5_code (2 : Nat) (Option.some Jvm.ClassFile.FieldType.boolean)) ∈ lw_all := lw_g (lw_at lw_m9 216 rfl) rfl
theorem q2253 : (Jvm.Cond.instanceMethod ({ cls := "RepeatFreeModel", name := "fault", desc := "()I" } : Jvm.MethodName)) ∈ lw_all := lw_g (lw_at lw_m9 218 rfl) rfl
theorem q2254 : (Jvm.Cond.selects "RepeatFreeModel" ({ cls := "RepeatFreeModel", name := "fault", desc := "()I" } : Jvm.MethodName) ({ cls := "RepeatFreeModel", name := "fault", desc := "()I" } : Jvm.MethodName)) ∈ lw_all := lw_g (lw_at lw_m9 219 rfl) rfl
theorem q2255 : (Jvm.Cond.code ({ cls := "RepeatFreeModel", name := "fault", desc := "()I" } : Jvm.MethodName) prog_13_method_18_code (1 : Nat) (Option.some Jvm.ClassFile.FieldType.int)) ∈ lw_all := lw_g (lw_at lw_m9 220 rfl) rfl
theorem q2257 : (Jvm.Cond.instantiable "RepeatFreeModel" (32 : Nat)) ∈ lw_all := lw_g (lw_at lw_m9 222 rfl) rfl
theorem q2259 : (Jvm.Cond.instanceMethod ({ cls := "RepeatFreeModel", name := "<init>", desc := "()V" } : Jvm.MethodName)) ∈ lw_all := lw_g (lw_at lw_m9 224 rfl) rfl
theorem q2260 : (Jvm.Cond.code ({ cls := "RepeatFreeModel", name := "<init>", desc := "()V" } : Jvm.MethodName) prog_13_method_19_code (1 : Nat) (Option.none : Option Jvm.ClassFile.FieldType)) ∈ lw_all := lw_g (lw_at lw_m9 225 rfl) rfl
theorem q2261 : (Jvm.Cond.methodLink "RepeatFreeModel" (72 : Nat) ({ cls := "java/lang/Object", name := "<init>", desc := "()V" } : Jvm.MethodName)) ∈ lw_all := lw_g (lw_at lw_m9 226 rfl) rfl
theorem q2262 : (Jvm.Cond.fieldLink "RepeatFreeModel" (3 : Nat) "RepeatFreeModel" "thrown" "I") ∈ lw_all := lw_g (lw_at lw_m9 227 rfl) rfl
theorem q2263 : (Jvm.Cond.fieldLink "RepeatFreeModel" (14 : Nat) "RepeatFreeModel" "tape" "[B") ∈ lw_all := lw_g (lw_at lw_m9 228 rfl) rfl
theorem q2264 : (Jvm.Cond.fieldLink "RepeatFreeModel" (7 : Nat) "RepeatFreeModel" "taped" "I") ∈ lw_all := lw_g (lw_at lw_m9 229 rfl) rfl
theorem q2265 : (Jvm.Cond.fieldLink "RepeatFreeModel" (10 : Nat) "RepeatFreeModel" "five" "[I") ∈ lw_all := lw_g (lw_at lw_m9 230 rfl) rfl
theorem q2266 : (Jvm.Cond.fieldLink "RepeatFreeModel" (21 : Nat) "RepeatFreeModel" "point" "I") ∈ lw_all := lw_g (lw_at lw_m9 231 rfl) rfl
theorem q2267 : (Jvm.Cond.fieldLink "RepeatFreeModel" (31 : Nat) "RepeatFreeModel" "begin" "I") ∈ lw_all := lw_g (lw_at lw_m9 232 rfl) rfl
theorem q2268 : (Jvm.Cond.fieldLink "RepeatFreeModel" (18 : Nat) "RepeatFreeModel" "size" "I") ∈ lw_all := lw_g (lw_at lw_m9 233 rfl) rfl
theorem q2269 : (Jvm.Cond.fieldLink "RepeatFreeModel" (24 : Nat) "RepeatFreeModel" "faultAt" "I") ∈ lw_all := lw_g (lw_at lw_m9 234 rfl) rfl
theorem q2270 : (Jvm.Cond.fieldLink "RepeatFreeModel" (69 : Nat) "RepeatFreeModel" "fault" "I") ∈ lw_all := lw_g (lw_at lw_m9 235 rfl) rfl
theorem q2271 : (Jvm.Cond.fieldLink "RepeatFreeModel" (77 : Nat) "RepeatFreeModel" "told" "[I") ∈ lw_all := lw_g (lw_at lw_m9 236 rfl) rfl
theorem q2272 : (Jvm.Cond.fieldLink "RepeatFreeModel" (80 : Nat) "RepeatFreeModel" "draft" "[I") ∈ lw_all := lw_g (lw_at lw_m9 237 rfl) rfl
theorem q2273 : (Jvm.Cond.fieldLink "RepeatFreeModel" (141 : Nat) "RepeatFreeModel" "hasLimit" "Z") ∈ lw_all := lw_g (lw_at lw_m9 238 rfl) rfl
theorem q2274 : (Jvm.Cond.fieldLink "RepeatFreeModel" (83 : Nat) "RepeatFreeModel" "word" "[I") ∈ lw_all := lw_g (lw_at lw_m9 239 rfl) rfl
theorem q2275 : (Jvm.Cond.fieldLink "RepeatFreeModel" (86 : Nat) "RepeatFreeModel" "given" "[I") ∈ lw_all := lw_g (lw_at lw_m10 0 rfl) rfl
theorem q2276 : (Jvm.Cond.fieldLink "RepeatFreeModel" (184 : Nat) "RepeatFreeModel" "many" "I") ∈ lw_all := lw_g (lw_at lw_m10 1 rfl) rfl
theorem q2277 : (Jvm.Cond.fieldLink "RepeatFreeModel" (187 : Nat) "RepeatFreeModel" "acts" "I") ∈ lw_all := lw_g (lw_at lw_m10 2 rfl) rfl
theorem q2278 : (Jvm.Cond.fieldLink "RepeatFreeModel" (89 : Nat) "RepeatFreeModel" "past" "[I") ∈ lw_all := lw_g (lw_at lw_m10 3 rfl) rfl
theorem q2279 : (Jvm.Cond.fieldLink "RepeatFreeModel" (92 : Nat) "RepeatFreeModel" "sizes" "[I") ∈ lw_all := lw_g (lw_at lw_m10 4 rfl) rfl
theorem q2280 : (Jvm.Cond.fieldLink "RepeatFreeModel" (95 : Nat) "RepeatFreeModel" "begun" "[I") ∈ lw_all := lw_g (lw_at lw_m10 5 rfl) rfl
theorem q2281 : (Jvm.Cond.fieldLink "RepeatFreeModel" (98 : Nat) "RepeatFreeModel" "row" "[I") ∈ lw_all := lw_g (lw_at lw_m10 6 rfl) rfl
theorem q2282 : (Jvm.Cond.fieldLink "RepeatFreeModel" (262 : Nat) "RepeatFreeModel" "tries" "I") ∈ lw_all := lw_g (lw_at lw_m10 7 rfl) rfl
theorem q2283 : (Jvm.Cond.fieldLink "RepeatFreeModel" (274 : Nat) "RepeatFreeModel" "foundMany" "I") ∈ lw_all := lw_g (lw_at lw_m10 8 rfl) rfl
theorem q2284 : (Jvm.Cond.fieldLink "RepeatFreeModel" (265 : Nat) "RepeatFreeModel" "isCut" "Z") ∈ lw_all := lw_g (lw_at lw_m10 9 rfl) rfl
theorem q2285 : (Jvm.Cond.fieldLink "RepeatFreeModel" (284 : Nat) "RepeatFreeModel" "wanted" "I") ∈ lw_all := lw_g (lw_at lw_m10 10 rfl) rfl
theorem q2286 : (Jvm.Cond.fieldLink "RepeatFreeModel" (312 : Nat) "RepeatFreeModel" "mapNow" "I") ∈ lw_all := lw_g (lw_at lw_m10 11 rfl) rfl
theorem q2287 : (Jvm.Cond.fieldLink "RepeatFreeModel" (271 : Nat) "RepeatFreeModel" "isFound" "Z") ∈ lw_all := lw_g (lw_at lw_m10 12 rfl) rfl
theorem q2288 : (Jvm.Cond.fieldLink "RepeatFreeModel" (101 : Nat) "RepeatFreeModel" "imaged" "[I") ∈ lw_all := lw_g (lw_at lw_m10 13 rfl) rfl
theorem q2289 : (Jvm.Cond.fieldLink "RepeatFreeModel" (104 : Nat) "RepeatFreeModel" "counts" "[J") ∈ lw_all := lw_g (lw_at lw_m10 14 rfl) rfl
theorem q2290 : (Jvm.Cond.fieldLink "RepeatFreeModel" (108 : Nat) "RepeatFreeModel" "sums" "[J") ∈ lw_all := lw_g (lw_at lw_m10 15 rfl) rfl
theorem q2291 : (Jvm.Cond.fieldLink "RepeatFreeModel" (111 : Nat) "RepeatFreeModel" "hangs" "[Z") ∈ lw_all := lw_g (lw_at lw_m10 16 rfl) rfl
theorem q2292 : (Jvm.Cond.fieldLink "RepeatFreeModel" (346 : Nat) "RepeatFreeModel" "isNoCode" "Z") ∈ lw_all := lw_g (lw_at lw_m10 17 rfl) rfl
theorem q2293 : (Jvm.Cond.fieldLink "RepeatFreeModel" (115 : Nat) "RepeatFreeModel" "joined" "[I") ∈ lw_all := lw_g (lw_at lw_m10 18 rfl) rfl
theorem q2294 : (Jvm.Cond.lays "RepeatFreeModel" "RepeatFreeModel" "thrown" "I") ∈ lw_all := lw_g (lw_at lw_m10 19 rfl) rfl
theorem q2295 : (Jvm.Cond.soleField "RepeatFreeModel" "thrown") ∈ lw_all := lw_g (lw_at lw_m10 20 rfl) rfl
theorem q2296 : (Jvm.Cond.laysFinal "RepeatFreeModel" "RepeatFreeModel" "tape" "[B") ∈ lw_all := lw_g (lw_at lw_m10 21 rfl) rfl
theorem q2297 : (Jvm.Cond.soleField "RepeatFreeModel" "tape") ∈ lw_all := lw_g (lw_at lw_m10 22 rfl) rfl
theorem q2298 : (Jvm.Cond.lays "RepeatFreeModel" "RepeatFreeModel" "taped" "I") ∈ lw_all := lw_g (lw_at lw_m10 23 rfl) rfl
theorem q2299 : (Jvm.Cond.soleField "RepeatFreeModel" "taped") ∈ lw_all := lw_g (lw_at lw_m10 24 rfl) rfl
theorem q2300 : (Jvm.Cond.laysFinal "RepeatFreeModel" "RepeatFreeModel" "five" "[I") ∈ lw_all := lw_g (lw_at lw_m10 25 rfl) rfl
theorem q2301 : (Jvm.Cond.soleField "RepeatFreeModel" "five") ∈ lw_all := lw_g (lw_at lw_m10 26 rfl) rfl
theorem q2302 : (Jvm.Cond.lays "RepeatFreeModel" "RepeatFreeModel" "point" "I") ∈ lw_all := lw_g (lw_at lw_m10 27 rfl) rfl
theorem q2303 : (Jvm.Cond.soleField "RepeatFreeModel" "point") ∈ lw_all := lw_g (lw_at lw_m10 28 rfl) rfl
theorem q2304 : (Jvm.Cond.lays "RepeatFreeModel" "RepeatFreeModel" "begin" "I") ∈ lw_all := lw_g (lw_at lw_m10 29 rfl) rfl
theorem q2305 : (Jvm.Cond.soleField "RepeatFreeModel" "begin") ∈ lw_all := lw_g (lw_at lw_m10 30 rfl) rfl
theorem q2306 : (Jvm.Cond.lays "RepeatFreeModel" "RepeatFreeModel" "size" "I") ∈ lw_all := lw_g (lw_at lw_m10 31 rfl) rfl
theorem q2307 : (Jvm.Cond.soleField "RepeatFreeModel" "size") ∈ lw_all := lw_g (lw_at lw_m10 32 rfl) rfl
theorem q2308 : (Jvm.Cond.lays "RepeatFreeModel" "RepeatFreeModel" "faultAt" "I") ∈ lw_all := lw_g (lw_at lw_m10 33 rfl) rfl
theorem q2309 : (Jvm.Cond.soleField "RepeatFreeModel" "faultAt") ∈ lw_all := lw_g (lw_at lw_m10 34 rfl) rfl
theorem q2310 : (Jvm.Cond.lays "RepeatFreeModel" "RepeatFreeModel" "fault" "I") ∈ lw_all := lw_g (lw_at lw_m10 35 rfl) rfl
theorem q2311 : (Jvm.Cond.soleField "RepeatFreeModel" "fault") ∈ lw_all := lw_g (lw_at lw_m10 36 rfl) rfl
theorem q2312 : (Jvm.Cond.laysFinal "RepeatFreeModel" "RepeatFreeModel" "told" "[I") ∈ lw_all := lw_g (lw_at lw_m10 37 rfl) rfl
theorem q2313 : (Jvm.Cond.soleField "RepeatFreeModel" "told") ∈ lw_all := lw_g (lw_at lw_m10 38 rfl) rfl
theorem q2314 : (Jvm.Cond.laysFinal "RepeatFreeModel" "RepeatFreeModel" "draft" "[I") ∈ lw_all := lw_g (lw_at lw_m10 39 rfl) rfl
theorem q2315 : (Jvm.Cond.soleField "RepeatFreeModel" "draft") ∈ lw_all := lw_g (lw_at lw_m10 40 rfl) rfl
theorem q2316 : (Jvm.Cond.lays "RepeatFreeModel" "RepeatFreeModel" "hasLimit" "Z") ∈ lw_all := lw_g (lw_at lw_m10 41 rfl) rfl
theorem q2317 : (Jvm.Cond.soleField "RepeatFreeModel" "hasLimit") ∈ lw_all := lw_g (lw_at lw_m10 42 rfl) rfl
theorem q2318 : (Jvm.Cond.laysFinal "RepeatFreeModel" "RepeatFreeModel" "word" "[I") ∈ lw_all := lw_g (lw_at lw_m10 43 rfl) rfl
theorem q2319 : (Jvm.Cond.soleField "RepeatFreeModel" "word") ∈ lw_all := lw_g (lw_at lw_m10 44 rfl) rfl
theorem q2320 : (Jvm.Cond.laysFinal "RepeatFreeModel" "RepeatFreeModel" "given" "[I") ∈ lw_all := lw_g (lw_at lw_m10 45 rfl) rfl
theorem q2321 : (Jvm.Cond.soleField "RepeatFreeModel" "given") ∈ lw_all := lw_g (lw_at lw_m10 46 rfl) rfl
theorem q2322 : (Jvm.Cond.lays "RepeatFreeModel" "RepeatFreeModel" "many" "I") ∈ lw_all := lw_g (lw_at lw_m10 47 rfl) rfl
theorem q2323 : (Jvm.Cond.soleField "RepeatFreeModel" "many") ∈ lw_all := lw_g (lw_at lw_m10 48 rfl) rfl
theorem q2324 : (Jvm.Cond.lays "RepeatFreeModel" "RepeatFreeModel" "acts" "I") ∈ lw_all := lw_g (lw_at lw_m10 49 rfl) rfl
theorem q2325 : (Jvm.Cond.soleField "RepeatFreeModel" "acts") ∈ lw_all := lw_g (lw_at lw_m10 50 rfl) rfl
theorem q2326 : (Jvm.Cond.laysFinal "RepeatFreeModel" "RepeatFreeModel" "past" "[I") ∈ lw_all := lw_g (lw_at lw_m10 51 rfl) rfl
theorem q2327 : (Jvm.Cond.soleField "RepeatFreeModel" "past") ∈ lw_all := lw_g (lw_at lw_m10 52 rfl) rfl
theorem q2328 : (Jvm.Cond.laysFinal "RepeatFreeModel" "RepeatFreeModel" "sizes" "[I") ∈ lw_all := lw_g (lw_at lw_m10 53 rfl) rfl
theorem q2329 : (Jvm.Cond.soleField "RepeatFreeModel" "sizes") ∈ lw_all := lw_g (lw_at lw_m10 54 rfl) rfl
theorem q2330 : (Jvm.Cond.laysFinal "RepeatFreeModel" "RepeatFreeModel" "begun" "[I") ∈ lw_all := lw_g (lw_at lw_m10 55 rfl) rfl
theorem q2331 : (Jvm.Cond.soleField "RepeatFreeModel" "begun") ∈ lw_all := lw_g (lw_at lw_m10 56 rfl) rfl
theorem q2332 : (Jvm.Cond.laysFinal "RepeatFreeModel" "RepeatFreeModel" "row" "[I") ∈ lw_all := lw_g (lw_at lw_m10 57 rfl) rfl
theorem q2333 : (Jvm.Cond.soleField "RepeatFreeModel" "row") ∈ lw_all := lw_g (lw_at lw_m10 58 rfl) rfl
theorem q2334 : (Jvm.Cond.lays "RepeatFreeModel" "RepeatFreeModel" "tries" "I") ∈ lw_all := lw_g (lw_at lw_m10 59 rfl) rfl
theorem q2335 : (Jvm.Cond.soleField "RepeatFreeModel" "tries") ∈ lw_all := lw_g (lw_at lw_m10 60 rfl) rfl
theorem q2336 : (Jvm.Cond.lays "RepeatFreeModel" "RepeatFreeModel" "foundMany" "I") ∈ lw_all := lw_g (lw_at lw_m10 61 rfl) rfl
theorem q2337 : (Jvm.Cond.soleField "RepeatFreeModel" "foundMany") ∈ lw_all := lw_g (lw_at lw_m10 62 rfl) rfl
theorem q2338 : (Jvm.Cond.lays "RepeatFreeModel" "RepeatFreeModel" "isCut" "Z") ∈ lw_all := lw_g (lw_at lw_m10 63 rfl) rfl
theorem q2339 : (Jvm.Cond.soleField "RepeatFreeModel" "isCut") ∈ lw_all := lw_g (lw_at lw_m10 64 rfl) rfl
theorem q2340 : (Jvm.Cond.lays "RepeatFreeModel" "RepeatFreeModel" "wanted" "I") ∈ lw_all := lw_g (lw_at lw_m10 65 rfl) rfl
theorem q2341 : (Jvm.Cond.soleField "RepeatFreeModel" "wanted") ∈ lw_all := lw_g (lw_at lw_m10 66 rfl) rfl
theorem q2342 : (Jvm.Cond.lays "RepeatFreeModel" "RepeatFreeModel" "mapNow" "I") ∈ lw_all := lw_g (lw_at lw_m10 67 rfl) rfl
theorem q2343 : (Jvm.Cond.soleField "RepeatFreeModel" "mapNow") ∈ lw_all := lw_g (lw_at lw_m10 68 rfl) rfl
theorem q2344 : (Jvm.Cond.lays "RepeatFreeModel" "RepeatFreeModel" "isFound" "Z") ∈ lw_all := lw_g (lw_at lw_m10 69 rfl) rfl
theorem q2345 : (Jvm.Cond.soleField "RepeatFreeModel" "isFound") ∈ lw_all := lw_g (lw_at lw_m10 70 rfl) rfl
theorem q2346 : (Jvm.Cond.laysFinal "RepeatFreeModel" "RepeatFreeModel" "imaged" "[I") ∈ lw_all := lw_g (lw_at lw_m10 71 rfl) rfl
theorem q2347 : (Jvm.Cond.soleField "RepeatFreeModel" "imaged") ∈ lw_all := lw_g (lw_at lw_m10 72 rfl) rfl
theorem q2348 : (Jvm.Cond.laysFinal "RepeatFreeModel" "RepeatFreeModel" "counts" "[J") ∈ lw_all := lw_g (lw_at lw_m10 73 rfl) rfl
theorem q2349 : (Jvm.Cond.soleField "RepeatFreeModel" "counts") ∈ lw_all := lw_g (lw_at lw_m10 74 rfl) rfl
theorem q2350 : (Jvm.Cond.laysFinal "RepeatFreeModel" "RepeatFreeModel" "sums" "[J") ∈ lw_all := lw_g (lw_at lw_m10 75 rfl) rfl
theorem q2351 : (Jvm.Cond.soleField "RepeatFreeModel" "sums") ∈ lw_all := lw_g (lw_at lw_m10 76 rfl) rfl
theorem q2352 : (Jvm.Cond.laysFinal "RepeatFreeModel" "RepeatFreeModel" "hangs" "[Z") ∈ lw_all := lw_g (lw_at lw_m10 77 rfl) rfl
theorem q2353 : (Jvm.Cond.soleField "RepeatFreeModel" "hangs") ∈ lw_all := lw_g (lw_at lw_m10 78 rfl) rfl
theorem q2354 : (Jvm.Cond.lays "RepeatFreeModel" "RepeatFreeModel" "isNoCode" "Z") ∈ lw_all := lw_g (lw_at lw_m10 79 rfl) rfl
theorem q2355 : (Jvm.Cond.soleField "RepeatFreeModel" "isNoCode") ∈ lw_all := lw_g (lw_at lw_m10 80 rfl) rfl
theorem q2356 : (Jvm.Cond.laysFinal "RepeatFreeModel" "RepeatFreeModel" "joined" "[I") ∈ lw_all := lw_g (lw_at lw_m10 81 rfl) rfl
theorem q2357 : (Jvm.Cond.soleField "RepeatFreeModel" "joined") ∈ lw_all := lw_g (lw_at lw_m10 82 rfl) rfl
theorem q2358 : (Jvm.Cond.superclass "RepeatFreeModel" "java/lang/Object") ∈ lw_all := lw_g (lw_at lw_m10 83 rfl) rfl
theorem q2361 : (Jvm.Cond.instanceMethod ({ cls := "RepeatFreeModel", name := "read", desc := "()I" } : Jvm.MethodName)) ∈ lw_all := lw_g (lw_at lw_m10 86 rfl) rfl
theorem q2362 : (Jvm.Cond.selects "RepeatFreeModel" ({ cls := "RepeatFreeModel", name := "read", desc := "()I" } : Jvm.MethodName) ({ cls := "RepeatFreeModel", name := "read", desc := "()I" } : Jvm.MethodName)) ∈ lw_all := lw_g (lw_at lw_m10 87 rfl) rfl
theorem q2363 : (Jvm.Cond.code ({ cls := "RepeatFreeModel", name := "read", desc := "()I" } : Jvm.MethodName) prog_13_method_28_code (2 : Nat) (Option.some Jvm.ClassFile.FieldType.int)) ∈ lw_all := lw_g (lw_at lw_m10 88 rfl) rfl
theorem q2364 : (Jvm.Cond.methodLink "RepeatFreeModel" (174 : Nat) ({ cls := "RepeatFreeModel", name := "begins", desc := "()V" } : Jvm.MethodName)) ∈ lw_all := lw_g (lw_at lw_m10 89 rfl) rfl
theorem q2365 : (Jvm.Cond.privateMethod ({ cls := "RepeatFreeModel", name := "begins", desc := "()V" } : Jvm.MethodName)) ∈ lw_tbl := lw_at lw_m10 90 rfl
theorem q2366 : (Jvm.Cond.instanceMethod ({ cls := "RepeatFreeModel", name := "begins", desc := "()V" } : Jvm.MethodName)) ∈ lw_all := lw_g (lw_at lw_m10 91 rfl) rfl
theorem q2367 : (Jvm.Cond.code ({ cls := "RepeatFreeModel", name := "begins", desc := "()V" } : Jvm.MethodName) prog_13_method_6_code (1 : Nat) (Option.none : Option Jvm.ClassFile.FieldType)) ∈ lw_all := lw_g (lw_at lw_m10 92 rfl) rfl
theorem q2368 : (Jvm.Cond.methodLink "RepeatFreeModel" (34 : Nat) ({ cls := "RepeatFreeModel", name := "blanks", desc := "()V" } : Jvm.MethodName)) ∈ lw_all := lw_g (lw_at lw_m10 93 rfl) rfl
theorem q2369 : (Jvm.Cond.privateMethod ({ cls := "RepeatFreeModel", name := "blanks", desc := "()V" } : Jvm.MethodName)) ∈ lw_tbl := lw_at lw_m10 94 rfl
theorem q2370 : (Jvm.Cond.instanceMethod ({ cls := "RepeatFreeModel", name := "blanks", desc := "()V" } : Jvm.MethodName)) ∈ lw_all := lw_g (lw_at lw_m10 95 rfl) rfl
theorem q2371 : (Jvm.Cond.code ({ cls := "RepeatFreeModel", name := "blanks", desc := "()V" } : Jvm.MethodName) prog_13_method_9_code (1 : Nat) (Option.none : Option Jvm.ClassFile.FieldType)) ∈ lw_all := lw_g (lw_at lw_m10 96 rfl) rfl
theorem q2372 : (Jvm.Cond.methodLink "RepeatFreeModel" (27 : Nat) ({ cls := "RepeatFreeModel", name := "isAt", desc := "(II)Z" } : Jvm.MethodName)) ∈ lw_all := lw_g (lw_at lw_m10 97 rfl) rfl
theorem q2373 : (Jvm.Cond.privateMethod ({ cls := "RepeatFreeModel", name := "isAt", desc := "(II)Z" } : Jvm.MethodName)) ∈ lw_tbl := lw_at lw_m10 98 rfl
theorem q2374 : (Jvm.Cond.instanceMethod ({ cls := "RepeatFreeModel", name := "isAt", desc := "(II)Z" } : Jvm.MethodName)) ∈ lw_all := lw_g (lw_at lw_m10 99 rfl) rfl
theorem q2375 : (Jvm.Cond.code ({ cls := "RepeatFreeModel", name := "isAt", desc := "(II)Z" } : Jvm.MethodName) prog_13_method_8_code (3 : Nat) (Option.some Jvm.ClassFile.FieldType.boolean)) ∈ lw_all := lw_g (lw_at lw_m10 100 rfl) rfl
theorem q2376 : (Jvm.Cond.methodLink "RepeatFreeModel" (38 : Nat) ({ cls := "RepeatFreeModel", name := "hasFailed", desc := "()Z" } : Jvm.MethodName)) ∈ lw_all := lw_g (lw_at lw_m10 101 rfl) rfl
theorem q2377 : (Jvm.Cond.privateMethod ({ cls := "RepeatFreeModel", name := "hasFailed", desc := "()Z" } : Jvm.MethodName)) ∈ lw_tbl := lw_at lw_m10 102 rfl
theorem q2378 : (Jvm.Cond.instanceMethod ({ cls := "RepeatFreeModel", name := "hasFailed", desc := "()Z" } : Jvm.MethodName)) ∈ lw_all := lw_g (lw_at lw_m10 103 rfl) rfl
theorem q2379 : (Jvm.Cond.code ({ cls := "RepeatFreeModel", name := "hasFailed", desc := "()Z" } : Jvm.MethodName) prog_13_method_7_code (1 : Nat) (Option.some Jvm.ClassFile.FieldType.boolean)) ∈ lw_all := lw_g (lw_at lw_m10 104 rfl) rfl
theorem q2380 : (Jvm.Cond.methodLink "RepeatFreeModel" (177 : Nat) ({ cls := "RepeatFreeModel", name := "line", desc := "()V" } : Jvm.MethodName)) ∈ lw_all := lw_g (lw_at lw_m10 105 rfl) rfl
theorem q2381 : (Jvm.Cond.privateMethod ({ cls := "RepeatFreeModel", name := "line", desc := "()V" } : Jvm.MethodName)) ∈ lw_tbl := lw_at lw_m10 106 rfl
theorem q2382 : (Jvm.Cond.instanceMethod ({ cls := "RepeatFreeModel", name := "line", desc := "()V" } : Jvm.MethodName)) ∈ lw_all := lw_g (lw_at lw_m10 107 rfl) rfl
theorem q2383 : (Jvm.Cond.code ({ cls := "RepeatFreeModel", name := "line", desc := "()V" } : Jvm.MethodName) prog_13_method_27_code (2 : Nat) (Option.none : Option Jvm.ClassFile.FieldType)) ∈ lw_all := lw_g (lw_at lw_m10 108 rfl) rfl
theorem q2384 : (Jvm.Cond.stringRef "RepeatFreeModel" (118 : Nat) "letters") ∈ lw_tbl := lw_at lw_m10 109 rfl
theorem q2385 : (Jvm.Cond.methodLink "RepeatFreeModel" (62 : Nat) ({ cls := "RepeatFreeModel", name := "takesWord", desc := "(Ljava/lang/String;)Z" } : Jvm.MethodName)) ∈ lw_all := lw_g (lw_at lw_m10 110 rfl) rfl
theorem q2386 : (Jvm.Cond.privateMethod ({ cls := "RepeatFreeModel", name := "takesWord", desc := "(Ljava/lang/String;)Z" } : Jvm.MethodName)) ∈ lw_tbl := lw_at lw_m10 111 rfl
theorem q2387 : (Jvm.Cond.instanceMethod ({ cls := "RepeatFreeModel", name := "takesWord", desc := "(Ljava/lang/String;)Z" } : Jvm.MethodName)) ∈ lw_all := lw_g (lw_at lw_m10 112 rfl) rfl
theorem q2388 : (Jvm.Cond.code ({ cls := "RepeatFreeModel", name := "takesWord", desc := "(Ljava/lang/String;)Z" } : Jvm.MethodName) prog_13_method_14_code (3 : Nat) (Option.some Jvm.ClassFile.FieldType.boolean)) ∈ lw_all := lw_g (lw_at lw_m10 113 rfl) rfl
theorem q2389 : (Jvm.Cond.methodLink "RepeatFreeModel" (58 : Nat) ({ cls := "RepeatFreeModel", name := "isWord", desc := "(Ljava/lang/String;)Z" } : Jvm.MethodName)) ∈ lw_all := lw_g (lw_at lw_m10 114 rfl) rfl
theorem q2390 : (Jvm.Cond.privateMethod ({ cls := "RepeatFreeModel", name := "isWord", desc := "(Ljava/lang/String;)Z" } : Jvm.MethodName)) ∈ lw_tbl := lw_at lw_m10 115 rfl
theorem q2391 : (Jvm.Cond.instanceMethod ({ cls := "RepeatFreeModel", name := "isWord", desc := "(Ljava/lang/String;)Z" } : Jvm.MethodName)) ∈ lw_all := lw_g (lw_at lw_m10 116 rfl) rfl
theorem q2392 : (Jvm.Cond.code ({ cls := "RepeatFreeModel", name := "isWord", desc := "(Ljava/lang/String;)Z" } : Jvm.MethodName) prog_13_method_13_code (4 : Nat) (Option.some Jvm.ClassFile.FieldType.boolean)) ∈ lw_all := lw_g (lw_at lw_m10 117 rfl) rfl
theorem q2393 : (Jvm.Cond.methodLink "RepeatFreeModel" (45 : Nat) ({ cls := "RepeatFreeModel", name := "wordMany", desc := "()I" } : Jvm.MethodName)) ∈ lw_all := lw_g (lw_at lw_m10 118 rfl) rfl
theorem q2394 : (Jvm.Cond.privateMethod ({ cls := "RepeatFreeModel", name := "wordMany", desc := "()I" } : Jvm.MethodName)) ∈ lw_tbl := lw_at lw_m10 119 rfl
theorem q2395 : (Jvm.Cond.instanceMethod ({ cls := "RepeatFreeModel", name := "wordMany", desc := "()I" } : Jvm.MethodName)) ∈ lw_all := lw_g (lw_at lw_m10 120 rfl) rfl
theorem q2396 : (Jvm.Cond.code ({ cls := "RepeatFreeModel", name := "wordMany", desc := "()I" } : Jvm.MethodName) prog_13_method_12_code (2 : Nat) (Option.some Jvm.ClassFile.FieldType.int)) ∈ lw_all := lw_g (lw_at lw_m10 121 rfl) rfl
theorem q2397 : (Jvm.Cond.methodLink "RepeatFreeModel" (49 : Nat) ({ cls := "java/lang/String", name := "length", desc := "()I" } : Jvm.MethodName)) ∈ lw_all := lw_g (lw_at lw_m10 122 rfl) rfl
theorem q2398 : (Jvm.Cond.methodLink "RepeatFreeModel" (54 : Nat) ({ cls := "java/lang/String", name := "charAt", desc := "(I)C" } : Jvm.MethodName)) ∈ lw_all := lw_g (lw_at lw_m10 123 rfl) rfl
theorem q2399 : (Jvm.Cond.methodLink "RepeatFreeModel" (149 : Nat) ({ cls := "RepeatFreeModel", name := "number", desc := "(II)I" } : Jvm.MethodName)) ∈ lw_all := lw_g (lw_at lw_m10 124 rfl) rfl
theorem q2400 : (Jvm.Cond.privateMethod ({ cls := "RepeatFreeModel", name := "number", desc := "(II)I" } : Jvm.MethodName)) ∈ lw_tbl := lw_at lw_m10 125 rfl
theorem q2401 : (Jvm.Cond.instanceMethod ({ cls := "RepeatFreeModel", name := "number", desc := "(II)I" } : Jvm.MethodName)) ∈ lw_all := lw_g (lw_at lw_m10 126 rfl) rfl
theorem q2402 : (Jvm.Cond.code ({ cls := "RepeatFreeModel", name := "number", desc := "(II)I" } : Jvm.MethodName) prog_13_method_16_code (5 : Nat) (Option.some Jvm.ClassFile.FieldType.int)) ∈ lw_all := lw_g (lw_at lw_m10 127 rfl) rfl
theorem q2403 : (Jvm.Cond.methodLink "RepeatFreeModel" (65 : Nat) ({ cls := "RepeatFreeModel", name := "in", desc := "(III)Z" } : Jvm.MethodName)) ∈ lw_all := lw_g (lw_at lw_m10 128 rfl) rfl
theorem q2404 : (Jvm.Cond.static ({ cls := "RepeatFreeModel", name := "in", desc := "(III)Z" } : Jvm.MethodName)) ∈ lw_all := lw_g (lw_at lw_m10 129 rfl) rfl
theorem q2405 : (Jvm.Cond.code ({ cls := "RepeatFreeModel", name := "in", desc := "(III)Z" } : Jvm.MethodName) prog_13_method_3_code (3 : Nat) (Option.some Jvm.ClassFile.FieldType.boolean)) ∈ lw_all := lw_g (lw_at lw_m10 130 rfl) rfl
theorem q2406 : (Jvm.Cond.methodLink "RepeatFreeModel" (42 : Nat) ({ cls := "RepeatFreeModel", name := "fails", desc := "()V" } : Jvm.MethodName)) ∈ lw_all := lw_g (lw_at lw_m10 131 rfl) rfl
theorem q2407 : (Jvm.Cond.privateMethod ({ cls := "RepeatFreeModel", name := "fails", desc := "()V" } : Jvm.MethodName)) ∈ lw_tbl := lw_at lw_m10 132 rfl
theorem q2408 : (Jvm.Cond.instanceMethod ({ cls := "RepeatFreeModel", name := "fails", desc := "()V" } : Jvm.MethodName)) ∈ lw_all := lw_g (lw_at lw_m10 133 rfl) rfl
theorem q2409 : (Jvm.Cond.code ({ cls := "RepeatFreeModel", name := "fails", desc := "()V" } : Jvm.MethodName) prog_13_method_10_code (1 : Nat) (Option.none : Option Jvm.ClassFile.FieldType)) ∈ lw_all := lw_g (lw_at lw_m10 134 rfl) rfl
theorem q2410 : (Jvm.Cond.stringRef "RepeatFreeModel" (120 : Nat) "limit") ∈ lw_tbl := lw_at lw_m10 135 rfl
theorem q2411 : (Jvm.Cond.methodLink "RepeatFreeModel" (159 : Nat) ({ cls := "RepeatFreeModel", name := "limitLine", desc := "()V" } : Jvm.MethodName)) ∈ lw_all := lw_g (lw_at lw_m10 136 rfl) rfl
theorem q2412 : (Jvm.Cond.privateMethod ({ cls := "RepeatFreeModel", name := "limitLine", desc := "()V" } : Jvm.MethodName)) ∈ lw_tbl := lw_at lw_m10 137 rfl
theorem q2413 : (Jvm.Cond.instanceMethod ({ cls := "RepeatFreeModel", name := "limitLine", desc := "()V" } : Jvm.MethodName)) ∈ lw_all := lw_g (lw_at lw_m10 138 rfl) rfl
theorem q2414 : (Jvm.Cond.code ({ cls := "RepeatFreeModel", name := "limitLine", desc := "()V" } : Jvm.MethodName) prog_13_method_23_code (2 : Nat) (Option.none : Option Jvm.ClassFile.FieldType)) ∈ lw_all := lw_g (lw_at lw_m10 139 rfl) rfl
theorem q2415 : (Jvm.Cond.methodLink "RepeatFreeModel" (145 : Nat) ({ cls := "RepeatFreeModel", name := "asksWord", desc := "(Ljava/lang/String;)V" } : Jvm.MethodName)) ∈ lw_all := lw_g (lw_at lw_m10 140 rfl) rfl
theorem q2416 : (Jvm.Cond.privateMethod ({ cls := "RepeatFreeModel", name := "asksWord", desc := "(Ljava/lang/String;)V" } : Jvm.MethodName)) ∈ lw_tbl := lw_at lw_m10 141 rfl
theorem q2417 : (Jvm.Cond.instanceMethod ({ cls := "RepeatFreeModel", name := "asksWord", desc := "(Ljava/lang/String;)V" } : Jvm.MethodName)) ∈ lw_all := lw_g (lw_at lw_m10 142 rfl) rfl
theorem q2418 : (Jvm.Cond.code ({ cls := "RepeatFreeModel", name := "asksWord", desc := "(Ljava/lang/String;)V" } : Jvm.MethodName) prog_13_method_15_code (2 : Nat) (Option.none : Option Jvm.ClassFile.FieldType)) ∈ lw_all := lw_g (lw_at lw_m10 143 rfl) rfl
theorem q2419 : (Jvm.Cond.stringRef "RepeatFreeModel" (122 : Nat) "under") ∈ lw_tbl := lw_at lw_m10 144 rfl
theorem q2420 : (Jvm.Cond.stringRef "RepeatFreeModel" (124 : Nat) "upto") ∈ lw_tbl := lw_at lw_m10 145 rfl
theorem q2421 : (Jvm.Cond.stringRef "RepeatFreeModel" (126 : Nat) "over") ∈ lw_tbl := lw_at lw_m10 146 rfl
theorem q2422 : (Jvm.Cond.stringRef "RepeatFreeModel" (128 : Nat) "map") ∈ lw_tbl := lw_at lw_m10 147 rfl
theorem q2423 : (Jvm.Cond.methodLink "RepeatFreeModel" (162 : Nat) ({ cls := "RepeatFreeModel", name := "mapLine", desc := "()V" } : Jvm.MethodName)) ∈ lw_all := lw_g (lw_at lw_m10 148 rfl) rfl
theorem q2424 : (Jvm.Cond.privateMethod ({ cls := "RepeatFreeModel", name := "mapLine", desc := "()V" } : Jvm.MethodName)) ∈ lw_tbl := lw_at lw_m10 149 rfl
theorem q2425 : (Jvm.Cond.instanceMethod ({ cls := "RepeatFreeModel", name := "mapLine", desc := "()V" } : Jvm.MethodName)) ∈ lw_all := lw_g (lw_at lw_m10 150 rfl) rfl
theorem q2426 : (Jvm.Cond.code ({ cls := "RepeatFreeModel", name := "mapLine", desc := "()V" } : Jvm.MethodName) prog_13_method_24_code (3 : Nat) (Option.none : Option Jvm.ClassFile.FieldType)) ∈ lw_all := lw_g (lw_at lw_m10 151 rfl) rfl
theorem q2427 : (Jvm.Cond.methodLink "RepeatFreeModel" (152 : Nat) ({ cls := "RepeatFreeModel", name := "freshName", desc := "(I)V" } : Jvm.MethodName)) ∈ lw_all := lw_g (lw_at lw_m10 152 rfl) rfl
theorem q2428 : (Jvm.Cond.privateMethod ({ cls := "RepeatFreeModel", name := "freshName", desc := "(I)V" } : Jvm.MethodName)) ∈ lw_tbl := lw_at lw_m10 153 rfl
theorem q2429 : (Jvm.Cond.instanceMethod ({ cls := "RepeatFreeModel", name := "freshName", desc := "(I)V" } : Jvm.MethodName)) ∈ lw_all := lw_g (lw_at lw_m10 154 rfl) rfl
theorem q2430 : (Jvm.Cond.code ({ cls := "RepeatFreeModel", name := "freshName", desc := "(I)V" } : Jvm.MethodName) prog_13_method_22_code (4 : Nat) (Option.none : Option Jvm.ClassFile.FieldType)) ∈ lw_all := lw_g (lw_at lw_m10 155 rfl) rfl
theorem q2431 : (Jvm.Cond.methodLink "RepeatFreeModel" (134 : Nat) ({ cls := "RepeatFreeModel", name := "isName", desc := "()Z" } : Jvm.MethodName)) ∈ lw_all := lw_g (lw_at lw_m10 156 rfl) rfl
theorem q2432 : (Jvm.Cond.privateMethod ({ cls := "RepeatFreeModel", name := "isName", desc := "()Z" } : Jvm.MethodName)) ∈ lw_tbl := lw_at lw_m10 157 rfl
theorem q2433 : (Jvm.Cond.instanceMethod ({ cls := "RepeatFreeModel", name := "isName", desc := "()Z" } : Jvm.MethodName)) ∈ lw_all := lw_g (lw_at lw_m10 158 rfl) rfl
theorem q2434 : (Jvm.Cond.code ({ cls := "RepeatFreeModel", name := "isName", desc := "()Z" } : Jvm.MethodName) prog_13_method_20_code (2 : Nat) (Option.some Jvm.ClassFile.FieldType.boolean)) ∈ lw_all := lw_g (lw_at lw_m10 159 rfl) rfl
theorem q2435 : (Jvm.Cond.stringRef "RepeatFreeModel" (130 : Nat) "pattern") ∈ lw_tbl := lw_at lw_m10 160 rfl
theorem q2436 : (Jvm.Cond.stringRef "RepeatFreeModel" (132 : Nat) "avoid") ∈ lw_tbl := lw_at lw_m10 161 rfl
theorem q2437 : (Jvm.Cond.methodLink "RepeatFreeModel" (137 : Nat) ({ cls := "RepeatFreeModel", name := "named", desc := "(II)I" } : Jvm.MethodName)) ∈ lw_all := lw_g (lw_at lw_m10 162 rfl) rfl
theorem q2438 : (Jvm.Cond.privateMethod ({ cls := "RepeatFreeModel", name := "named", desc := "(II)I" } : Jvm.MethodName)) ∈ lw_tbl := lw_at lw_m10 163 rfl
theorem q2439 : (Jvm.Cond.instanceMethod ({ cls := "RepeatFreeModel", name := "named", desc := "(II)I" } : Jvm.MethodName)) ∈ lw_all := lw_g (lw_at lw_m10 164 rfl) rfl
theorem q2440 : (Jvm.Cond.code ({ cls := "RepeatFreeModel", name := "named", desc := "(II)I" } : Jvm.MethodName) prog_13_method_21_code (7 : Nat) (Option.some Jvm.ClassFile.FieldType.int)) ∈ lw_all := lw_g (lw_at lw_m10 165 rfl) rfl
theorem q2441 : (Jvm.Cond.methodLink "RepeatFreeModel" (156 : Nat) ({ cls := "RepeatFreeModel", name := "letters", desc := "(II[II)I" } : Jvm.MethodName)) ∈ lw_all := lw_g (lw_at lw_m10 166 rfl) rfl
theorem q2442 : (Jvm.Cond.privateMethod ({ cls := "RepeatFreeModel", name := "letters", desc := "(II[II)I" } : Jvm.MethodName)) ∈ lw_tbl := lw_at lw_m10 167 rfl
theorem q2443 : (Jvm.Cond.instanceMethod ({ cls := "RepeatFreeModel", name := "letters", desc := "(II[II)I" } : Jvm.MethodName)) ∈ lw_all := lw_g (lw_at lw_m10 168 rfl) rfl
theorem q2444 : (Jvm.Cond.code ({ cls := "RepeatFreeModel", name := "letters", desc := "(II[II)I" } : Jvm.MethodName) prog_13_method_17_code (8 : Nat) (Option.some Jvm.ClassFile.FieldType.int)) ∈ lw_all := lw_g (lw_at lw_m10 169 rfl) rfl
theorem q2445 : (Jvm.Cond.methodLink "RepeatFreeModel" (165 : Nat) ({ cls := "RepeatFreeModel", name := "patternLine", desc := "()V" } : Jvm.MethodName)) ∈ lw_all := lw_g (lw_at lw_m10 170 rfl) rfl
theorem q2446 : (Jvm.Cond.privateMethod ({ cls := "RepeatFreeModel", name := "patternLine", desc := "()V" } : Jvm.MethodName)) ∈ lw_tbl := lw_at lw_m10 171 rfl
theorem q2447 : (Jvm.Cond.instanceMethod ({ cls := "RepeatFreeModel", name := "patternLine", desc := "()V" } : Jvm.MethodName)) ∈ lw_all := lw_g (lw_at lw_m10 172 rfl) rfl
theorem q2448 : (Jvm.Cond.code ({ cls := "RepeatFreeModel", name := "patternLine", desc := "()V" } : Jvm.MethodName) prog_13_method_25_code (2 : Nat) (Option.none : Option Jvm.ClassFile.FieldType)) ∈ lw_all := lw_g (lw_at lw_m10 173 rfl) rfl
theorem q2449 : (Jvm.Cond.methodLink "RepeatFreeModel" (168 : Nat) ({ cls := "RepeatFreeModel", name := "avoidLine", desc := "()V" } : Jvm.MethodName)) ∈ lw_all := lw_g (lw_at lw_m10 174 rfl) rfl
theorem q2450 : (Jvm.Cond.privateMethod ({ cls := "RepeatFreeModel", name := "avoidLine", desc := "()V" } : Jvm.MethodName)) ∈ lw_tbl := lw_at lw_m10 175 rfl
theorem q2451 : (Jvm.Cond.instanceMethod ({ cls := "RepeatFreeModel", name := "avoidLine", desc := "()V" } : Jvm.MethodName)) ∈ lw_all := lw_g (lw_at lw_m10 176 rfl) rfl
theorem q2452 : (Jvm.Cond.code ({ cls := "RepeatFreeModel", name := "avoidLine", desc := "()V" } : Jvm.MethodName) prog_13_method_26_code (2 : Nat) (Option.none : Option Jvm.ClassFile.FieldType)) ∈ lw_all := lw_g (lw_at lw_m10 177 rfl) rfl
theorem q2453 : (Jvm.Cond.methodLink "RepeatFreeModel" (171 : Nat) ({ cls := "RepeatFreeModel", name := "asksSign", desc := "(I)V" } : Jvm.MethodName)) ∈ lw_all := lw_g (lw_at lw_m10 178 rfl) rfl
theorem q2454 : (Jvm.Cond.privateMethod ({ cls := "RepeatFreeModel", name := "asksSign", desc := "(I)V" } : Jvm.MethodName)) ∈ lw_tbl := lw_at lw_m10 179 rfl
theorem q2455 : (Jvm.Cond.instanceMethod ({ cls := "RepeatFreeModel", name := "asksSign", desc := "(I)V" } : Jvm.MethodName)) ∈ lw_all := lw_g (lw_at lw_m10 180 rfl) rfl
theorem q2456 : (Jvm.Cond.code ({ cls := "RepeatFreeModel", name := "asksSign", desc := "(I)V" } : Jvm.MethodName) prog_13_method_11_code (2 : Nat) (Option.none : Option Jvm.ClassFile.FieldType)) ∈ lw_all := lw_g (lw_at lw_m10 181 rfl) rfl
theorem q2457 : (Jvm.Cond.methodLink "RepeatFreeModel" (180 : Nat) ({ cls := "RepeatFreeModel", name := "throwsIf", desc := "(ZI)Z" } : Jvm.MethodName)) ∈ lw_all := lw_g (lw_at lw_m10 182 rfl) rfl
theorem q2458 : (Jvm.Cond.privateMethod ({ cls := "RepeatFreeModel", name := "throwsIf", desc := "(ZI)Z" } : Jvm.MethodName)) ∈ lw_tbl := lw_at lw_m10 183 rfl
theorem q2459 : (Jvm.Cond.instanceMethod ({ cls := "RepeatFreeModel", name := "throwsIf", desc := "(ZI)Z" } : Jvm.MethodName)) ∈ lw_all := lw_g (lw_at lw_m10 184 rfl) rfl
theorem q2460 : (Jvm.Cond.code ({ cls := "RepeatFreeModel", name := "throwsIf", desc := "(ZI)Z" } : Jvm.MethodName) prog_13_method_2_code (3 : Nat) (Option.some Jvm.ClassFile.FieldType.boolean)) ∈ lw_all := lw_g (lw_at lw_m10 185 rfl) rfl
theorem q2462 : (Jvm.Cond.instanceMethod ({ cls := "RepeatFreeModel", name := "undo", desc := "()I" } : Jvm.MethodName)) ∈ lw_all := lw_g (lw_at lw_m10 187 rfl) rfl
theorem q2463 : (Jvm.Cond.selects "RepeatFreeModel" ({ cls := "RepeatFreeModel", name := "undo", desc := "()I" } : Jvm.MethodName) ({ cls := "RepeatFreeModel", name := "undo", desc := "()I" } : Jvm.MethodName)) ∈ lw_all := lw_g (lw_at lw_m10 188 rfl) rfl
theorem q2464 : (Jvm.Cond.code ({ cls := "RepeatFreeModel", name := "undo", desc := "()I" } : Jvm.MethodName) prog_13_method_31_code (3 : Nat) (Option.some Jvm.ClassFile.FieldType.int)) ∈ lw_all := lw_g (lw_at lw_m10 189 rfl) rfl
theorem q2466 : (Jvm.Cond.instanceMethod ({ cls := "RepeatFreeModel", name := "word", desc := "()I" } : Jvm.MethodName)) ∈ lw_all := lw_g (lw_at lw_m10 191 rfl) rfl
theorem q2467 : (Jvm.Cond.selects "RepeatFreeModel" ({ cls := "RepeatFreeModel", name := "word", desc := "()I" } : Jvm.MethodName) ({ cls := "RepeatFreeModel", name := "word", desc := "()I" } : Jvm.MethodName)) ∈ lw_all := lw_g (lw_at lw_m10 192 rfl) rfl
theorem q2468 : (Jvm.Cond.code ({ cls := "RepeatFreeModel", name := "word", desc := "()I" } : Jvm.MethodName) prog_13_method_32_code (2 : Nat) (Option.some Jvm.ClassFile.FieldType.int)) ∈ lw_all := lw_g (lw_at lw_m10 193 rfl) rfl
theorem q2469 : (Jvm.Cond.methodLink "RepeatFreeModel" (193 : Nat) ({ cls := "RepeatFreeModel", name := "becomes", desc := "(I)V" } : Jvm.MethodName)) ∈ lw_all := lw_g (lw_at lw_m10 194 rfl) rfl
theorem q2470 : (Jvm.Cond.privateMethod ({ cls := "RepeatFreeModel", name := "becomes", desc := "(I)V" } : Jvm.MethodName)) ∈ lw_tbl := lw_at lw_m10 195 rfl
theorem q2471 : (Jvm.Cond.instanceMethod ({ cls := "RepeatFreeModel", name := "becomes", desc := "(I)V" } : Jvm.MethodName)) ∈ lw_all := lw_g (lw_at lw_m10 196 rfl) rfl
theorem q2472 : (Jvm.Cond.code ({ cls := "RepeatFreeModel", name := "becomes", desc := "(I)V" } : Jvm.MethodName) prog_13_method_30_code (3 : Nat) (Option.none : Option Jvm.ClassFile.FieldType)) ∈ lw_all := lw_g (lw_at lw_m10 197 rfl) rfl
theorem q2473 : (Jvm.Cond.methodLink "RepeatFreeModel" (190 : Nat) ({ cls := "RepeatFreeModel", name := "laysAside", desc := "()V" } : Jvm.MethodName)) ∈ lw_all := lw_g (lw_at lw_m10 198 rfl) rfl
theorem q2474 : (Jvm.Cond.privateMethod ({ cls := "RepeatFreeModel", name := "laysAside", desc := "()V" } : Jvm.MethodName)) ∈ lw_tbl := lw_at lw_m10 199 rfl
theorem q2475 : (Jvm.Cond.instanceMethod ({ cls := "RepeatFreeModel", name := "laysAside", desc := "()V" } : Jvm.MethodName)) ∈ lw_all := lw_g (lw_at lw_m10 200 rfl) rfl
theorem q2476 : (Jvm.Cond.code ({ cls := "RepeatFreeModel", name := "laysAside", desc := "()V" } : Jvm.MethodName) prog_13_method_29_code (3 : Nat) (Option.none : Option Jvm.ClassFile.FieldType)) ∈ lw_all := lw_g (lw_at lw_m10 201 rfl) rfl
theorem q2478 : (Jvm.Cond.instanceMethod ({ cls := "RepeatFreeModel", name := "letter", desc := "(I)I" } : Jvm.MethodName)) ∈ lw_all := lw_g (lw_at lw_m10 203 rfl) rfl
theorem q2479 : (Jvm.Cond.selects "RepeatFreeModel" ({ cls := "RepeatFreeModel", name := "letter", desc := "(I)I" } : Jvm.MethodName) ({ cls := "RepeatFreeModel", name := "letter", desc := "(I)I" } : Jvm.MethodName)) ∈ lw_all := lw_g (lw_at lw_m10 204 rfl) rfl
theorem q2480 : (Jvm.Cond.code ({ cls := "RepeatFreeModel", name := "letter", desc := "(I)I" } : Jvm.MethodName) prog_13_method_33_code (2 : Nat) (Option.some Jvm.ClassFile.FieldType.int)) ∈ lw_all := lw_g (lw_at lw_m10 205 rfl) rfl
theorem q2482 : (Jvm.Cond.instanceMethod ({ cls := "RepeatFreeModel", name := "push", desc := "(I)I" } : Jvm.MethodName)) ∈ lw_all := lw_g (lw_at lw_m10 207 rfl) rfl
theorem q2483 : (Jvm.Cond.selects "RepeatFreeModel" ({ cls := "RepeatFreeModel", name := "push", desc := "(I)I" } : Jvm.MethodName) ({ cls := "RepeatFreeModel", name := "push", desc := "(I)I" } : Jvm.MethodName)) ∈ lw_all := lw_g (lw_at lw_m10 208 rfl) rfl
theorem q2484 : (Jvm.Cond.code ({ cls := "RepeatFreeModel", name := "push", desc := "(I)I" } : Jvm.MethodName) prog_13_method_35_code (2 : Nat) (Option.some Jvm.ClassFile.FieldType.int)) ∈ lw_all := lw_g (lw_at lw_m10 209 rfl) rfl
theorem q2485 : (Jvm.Cond.methodLink "RepeatFreeModel" (196 : Nat) ({ cls := "RepeatFreeModel", name := "noLetter", desc := "(II)Z" } : Jvm.MethodName)) ∈ lw_all := lw_g (lw_at lw_m10 210 rfl) rfl
theorem q2486 : (Jvm.Cond.privateMethod ({ cls := "RepeatFreeModel", name := "noLetter", desc := "(II)Z" } : Jvm.MethodName)) ∈ lw_tbl := lw_at lw_m10 211 rfl
theorem q2487 : (Jvm.Cond.instanceMethod ({ cls := "RepeatFreeModel", name := "noLetter", desc := "(II)Z" } : Jvm.MethodName)) ∈ lw_all := lw_g (lw_at lw_m10 212 rfl) rfl
theorem q2488 : (Jvm.Cond.code ({ cls := "RepeatFreeModel", name := "noLetter", desc := "(II)Z" } : Jvm.MethodName) prog_13_method_34_code (3 : Nat) (Option.some Jvm.ClassFile.FieldType.boolean)) ∈ lw_all := lw_g (lw_at lw_m10 213 rfl) rfl
theorem q2490 : (Jvm.Cond.instanceMethod ({ cls := "RepeatFreeModel", name := "pop", desc := "()I" } : Jvm.MethodName)) ∈ lw_all := lw_g (lw_at lw_m10 215 rfl) rfl
theorem q2491 : (Jvm.Cond.selects "RepeatFreeModel" ({ cls := "RepeatFreeModel", name := "pop", desc := "()I" } : Jvm.MethodName) ({ cls := "RepeatFreeModel", name := "pop", desc := "()I" } : Jvm.MethodName)) ∈ lw_all := lw_g (lw_at lw_m10 216 rfl) rfl
theorem q2492 : (Jvm.Cond.code ({ cls := "RepeatFreeModel", name := "pop", desc := "()I" } : Jvm.MethodName) prog_13_method_36_code (1 : Nat) (Option.some Jvm.ClassFile.FieldType.int)) ∈ lw_all := lw_g (lw_at lw_m10 217 rfl) rfl
theorem q2494 : (Jvm.Cond.instanceMethod ({ cls := "RepeatFreeModel", name := "free", desc := "()Z" } : Jvm.MethodName)) ∈ lw_all := lw_g (lw_at lw_m10 219 rfl) rfl
theorem q2495 : (Jvm.Cond.selects "RepeatFreeModel" ({ cls := "RepeatFreeModel", name := "free", desc := "()Z" } : Jvm.MethodName) ({ cls := "RepeatFreeModel", name := "free", desc := "()Z" } : Jvm.MethodName)) ∈ lw_all := lw_g (lw_at lw_m10 220 rfl) rfl
theorem q2496 : (Jvm.Cond.code ({ cls := "RepeatFreeModel", name := "free", desc := "()Z" } : Jvm.MethodName) prog_13_method_49_code (1 : Nat) (Option.some Jvm.ClassFile.FieldType.boolean)) ∈ lw_all := lw_g (lw_at lw_m10 221 rfl) rfl
theorem q2497 : (Jvm.Cond.methodLink "RepeatFreeModel" (236 : Nat) ({ cls := "RepeatFreeModel", name := "isFree", desc := "()Z" } : Jvm.MethodName)) ∈ lw_all := lw_g (lw_at lw_m10 222 rfl) rfl
theorem q2498 : (Jvm.Cond.privateMethod ({ cls := "RepeatFreeModel", name := "isFree", desc := "()Z" } : Jvm.MethodName)) ∈ lw_tbl := lw_at lw_m10 223 rfl
theorem q2499 : (Jvm.Cond.instanceMethod ({ cls := "RepeatFreeModel", name := "isFree", desc := "()Z" } : Jvm.MethodName)) ∈ lw_all := lw_g (lw_at lw_m10 224 rfl) rfl
theorem q2500 : (Jvm.Cond.code ({ cls := "RepeatFreeModel", name := "isFree", desc := "()Z" } : Jvm.MethodName) prog_13_method_48_code (1 : Nat) (Option.some Jvm.ClassFile.FieldType.boolean)) ∈ lw_all := lw_g (lw_at lw_m10 225 rfl) rfl
theorem q2501 : (Jvm.Cond.methodLink "RepeatFreeModel" (232 : Nat) ({ cls := "RepeatFreeModel", name := "freeOf", desc := "([II)I" } : Jvm.MethodName)) ∈ lw_all := lw_g (lw_at lw_m10 226 rfl) rfl
theorem q2502 : (Jvm.Cond.privateMethod ({ cls := "RepeatFreeModel", name := "freeOf", desc := "([II)I" } : Jvm.MethodName)) ∈ lw_tbl := lw_at lw_m10 227 rfl
theorem q2503 : (Jvm.Cond.instanceMethod ({ cls := "RepeatFreeModel", name := "freeOf", desc := "([II)I" } : Jvm.MethodName)) ∈ lw_all := lw_g (lw_at lw_m10 228 rfl) rfl
theorem q2504 : (Jvm.Cond.code ({ cls := "RepeatFreeModel", name := "freeOf", desc := "([II)I" } : Jvm.MethodName) prog_13_method_47_code (4 : Nat) (Option.some Jvm.ClassFile.FieldType.int)) ∈ lw_all := lw_g (lw_at lw_m10 229 rfl) rfl
theorem q2505 : (Jvm.Cond.methodLink "RepeatFreeModel" (229 : Nat) ({ cls := "RepeatFreeModel", name := "goesOn", desc := "([II)Z" } : Jvm.MethodName)) ∈ lw_all := lw_g (lw_at lw_m10 230 rfl) rfl
theorem q2506 : (Jvm.Cond.privateMethod ({ cls := "RepeatFreeModel", name := "goesOn", desc := "([II)Z" } : Jvm.MethodName)) ∈ lw_tbl := lw_at lw_m10 231 rfl
theorem q2507 : (Jvm.Cond.instanceMethod ({ cls := "RepeatFreeModel", name := "goesOn", desc := "([II)Z" } : Jvm.MethodName)) ∈ lw_all := lw_g (lw_at lw_m10 232 rfl) rfl
theorem q2508 : (Jvm.Cond.code ({ cls := "RepeatFreeModel", name := "goesOn", desc := "([II)Z" } : Jvm.MethodName) prog_13_method_46_code (4 : Nat) (Option.some Jvm.ClassFile.FieldType.boolean)) ∈ lw_all := lw_g (lw_at lw_m10 233 rfl) rfl
theorem q2509 : (Jvm.Cond.methodLink "RepeatFreeModel" (222 : Nat) ({ cls := "RepeatFreeModel", name := "isRepeated", desc := "([II)Z" } : Jvm.MethodName)) ∈ lw_all := lw_g (lw_at lw_m10 234 rfl) rfl
theorem q2510 : (Jvm.Cond.privateMethod ({ cls := "RepeatFreeModel", name := "isRepeated", desc := "([II)Z" } : Jvm.MethodName)) ∈ lw_tbl := lw_at lw_m10 235 rfl
theorem q2511 : (Jvm.Cond.instanceMethod ({ cls := "RepeatFreeModel", name := "isRepeated", desc := "([II)Z" } : Jvm.MethodName)) ∈ lw_all := lw_g (lw_at lw_m10 236 rfl) rfl
theorem q2512 : (Jvm.Cond.code ({ cls := "RepeatFreeModel", name := "isRepeated", desc := "([II)Z" } : Jvm.MethodName) prog_13_method_38_code (5 : Nat) (Option.some Jvm.ClassFile.FieldType.boolean)) ∈ lw_all := lw_g (lw_at lw_m10 237 rfl) rfl
theorem q2513 : (Jvm.Cond.methodLink "RepeatFreeModel" (199 : Nat) ({ cls := "RepeatFreeModel", name := "isBeyond", desc := "(II)Z" } : Jvm.MethodName)) ∈ lw_all := lw_g (lw_at lw_m10 238 rfl) rfl
theorem q2514 : (Jvm.Cond.privateMethod ({ cls := "RepeatFreeModel", name := "isBeyond", desc := "(II)Z" } : Jvm.MethodName)) ∈ lw_tbl := lw_at lw_m10 239 rfl
theorem q2515 : (Jvm.Cond.instanceMethod ({ cls := "RepeatFreeModel", name := "isBeyond", desc := "(II)Z" } : Jvm.MethodName)) ∈ lw_all := lw_g (lw_at lw_m11 0 rfl) rfl
theorem q2516 : (Jvm.Cond.code ({ cls := "RepeatFreeModel", name := "isBeyond", desc := "(II)Z" } : Jvm.MethodName) prog_13_method_37_code (4 : Nat) (Option.some Jvm.ClassFile.FieldType.boolean)) ∈ lw_all := lw_g (lw_at lw_m11 1 rfl) rfl
theorem q2517 : (Jvm.Cond.methodLink "RepeatFreeModel" (226 : Nat) ({ cls := "RepeatFreeModel", name := "endsBy", desc := "([III)Z" } : Jvm.MethodName)) ∈ lw_all := lw_g (lw_at lw_m11 2 rfl) rfl
theorem q2518 : (Jvm.Cond.privateMethod ({ cls := "RepeatFreeModel", name := "endsBy", desc := "([III)Z" } : Jvm.MethodName)) ∈ lw_tbl := lw_at lw_m11 3 rfl
theorem q2519 : (Jvm.Cond.instanceMethod ({ cls := "RepeatFreeModel", name := "endsBy", desc := "([III)Z" } : Jvm.MethodName)) ∈ lw_all := lw_g (lw_at lw_m11 4 rfl) rfl
theorem q2520 : (Jvm.Cond.code ({ cls := "RepeatFreeModel", name := "endsBy", desc := "([III)Z" } : Jvm.MethodName) prog_13_method_45_code (5 : Nat) (Option.some Jvm.ClassFile.FieldType.boolean)) ∈ lw_all := lw_g (lw_at lw_m11 5 rfl) rfl
theorem q2521 : (Jvm.Cond.methodLink "RepeatFreeModel" (212 : Nat) ({ cls := "RepeatFreeModel", name := "firstSizes", desc := "(II)Z" } : Jvm.MethodName)) ∈ lw_all := lw_g (lw_at lw_m11 6 rfl) rfl
theorem q2522 : (Jvm.Cond.privateMethod ({ cls := "RepeatFreeModel", name := "firstSizes", desc := "(II)Z" } : Jvm.MethodName)) ∈ lw_tbl := lw_at lw_m11 7 rfl
theorem q2523 : (Jvm.Cond.instanceMethod ({ cls := "RepeatFreeModel", name := "firstSizes", desc := "(II)Z" } : Jvm.MethodName)) ∈ lw_all := lw_g (lw_at lw_m11 8 rfl) rfl
theorem q2524 : (Jvm.Cond.code ({ cls := "RepeatFreeModel", name := "firstSizes", desc := "(II)Z" } : Jvm.MethodName) prog_13_method_44_code (4 : Nat) (Option.some Jvm.ClassFile.FieldType.boolean)) ∈ lw_all := lw_g (lw_at lw_m11 9 rfl) rfl
theorem q2525 : (Jvm.Cond.methodLink "RepeatFreeModel" (205 : Nat) ({ cls := "RepeatFreeModel", name := "hasLetter", desc := "(II)Z" } : Jvm.MethodName)) ∈ lw_all := lw_g (lw_at lw_m11 10 rfl) rfl
theorem q2526 : (Jvm.Cond.privateMethod ({ cls := "RepeatFreeModel", name := "hasLetter", desc := "(II)Z" } : Jvm.MethodName)) ∈ lw_tbl := lw_at lw_m11 11 rfl
theorem q2527 : (Jvm.Cond.instanceMethod ({ cls := "RepeatFreeModel", name := "hasLetter", desc := "(II)Z" } : Jvm.MethodName)) ∈ lw_all := lw_g (lw_at lw_m11 12 rfl) rfl
theorem q2528 : (Jvm.Cond.code ({ cls := "RepeatFreeModel", name := "hasLetter", desc := "(II)Z" } : Jvm.MethodName) prog_13_method_40_code (4 : Nat) (Option.some Jvm.ClassFile.FieldType.boolean)) ∈ lw_all := lw_g (lw_at lw_m11 13 rfl) rfl
theorem q2529 : (Jvm.Cond.methodLink "RepeatFreeModel" (202 : Nat) ({ cls := "RepeatFreeModel", name := "letterOf", desc := "(II)I" } : Jvm.MethodName)) ∈ lw_all := lw_g (lw_at lw_m11 14 rfl) rfl
theorem q2530 : (Jvm.Cond.privateMethod ({ cls := "RepeatFreeModel", name := "letterOf", desc := "(II)I" } : Jvm.MethodName)) ∈ lw_tbl := lw_at lw_m11 15 rfl
theorem q2531 : (Jvm.Cond.instanceMethod ({ cls := "RepeatFreeModel", name := "letterOf", desc := "(II)I" } : Jvm.MethodName)) ∈ lw_all := lw_g (lw_at lw_m11 16 rfl) rfl
theorem q2532 : (Jvm.Cond.code ({ cls := "RepeatFreeModel", name := "letterOf", desc := "(II)I" } : Jvm.MethodName) prog_13_method_39_code (3 : Nat) (Option.some Jvm.ClassFile.FieldType.int)) ∈ lw_all := lw_g (lw_at lw_m11 17 rfl) rfl
theorem q2533 : (Jvm.Cond.methodLink "RepeatFreeModel" (208 : Nat) ({ cls := "RepeatFreeModel", name := "longBy", desc := "(I)I" } : Jvm.MethodName)) ∈ lw_all := lw_g (lw_at lw_m11 18 rfl) rfl
theorem q2534 : (Jvm.Cond.privateMethod ({ cls := "RepeatFreeModel", name := "longBy", desc := "(I)I" } : Jvm.MethodName)) ∈ lw_tbl := lw_at lw_m11 19 rfl
theorem q2535 : (Jvm.Cond.instanceMethod ({ cls := "RepeatFreeModel", name := "longBy", desc := "(I)I" } : Jvm.MethodName)) ∈ lw_all := lw_g (lw_at lw_m11 20 rfl) rfl
theorem q2536 : (Jvm.Cond.code ({ cls := "RepeatFreeModel", name := "longBy", desc := "(I)I" } : Jvm.MethodName) prog_13_method_41_code (4 : Nat) (Option.some Jvm.ClassFile.FieldType.int)) ∈ lw_all := lw_g (lw_at lw_m11 21 rfl) rfl
theorem q2537 : (Jvm.Cond.methodLink "RepeatFreeModel" (215 : Nat) ({ cls := "RepeatFreeModel", name := "fitsAt", desc := "([III)Z" } : Jvm.MethodName)) ∈ lw_all := lw_g (lw_at lw_m11 22 rfl) rfl
theorem q2538 : (Jvm.Cond.privateMethod ({ cls := "RepeatFreeModel", name := "fitsAt", desc := "([III)Z" } : Jvm.MethodName)) ∈ lw_tbl := lw_at lw_m11 23 rfl
theorem q2539 : (Jvm.Cond.instanceMethod ({ cls := "RepeatFreeModel", name := "fitsAt", desc := "([III)Z" } : Jvm.MethodName)) ∈ lw_all := lw_g (lw_at lw_m11 24 rfl) rfl
theorem q2540 : (Jvm.Cond.code ({ cls := "RepeatFreeModel", name := "fitsAt", desc := "([III)Z" } : Jvm.MethodName) prog_13_method_42_code (8 : Nat) (Option.some Jvm.ClassFile.FieldType.boolean)) ∈ lw_all := lw_g (lw_at lw_m11 25 rfl) rfl
theorem q2541 : (Jvm.Cond.methodLink "RepeatFreeModel" (219 : Nat) ({ cls := "RepeatFreeModel", name := "nextSizes", desc := "(II)Z" } : Jvm.MethodName)) ∈ lw_all := lw_g (lw_at lw_m11 26 rfl) rfl
theorem q2542 : (Jvm.Cond.privateMethod ({ cls := "RepeatFreeModel", name := "nextSizes", desc := "(II)Z" } : Jvm.MethodName)) ∈ lw_tbl := lw_at lw_m11 27 rfl
theorem q2543 : (Jvm.Cond.instanceMethod ({ cls := "RepeatFreeModel", name := "nextSizes", desc := "(II)Z" } : Jvm.MethodName)) ∈ lw_all := lw_g (lw_at lw_m11 28 rfl) rfl
theorem q2544 : (Jvm.Cond.code ({ cls := "RepeatFreeModel", name := "nextSizes", desc := "(II)Z" } : Jvm.MethodName) prog_13_method_43_code (4 : Nat) (Option.some Jvm.ClassFile.FieldType.boolean)) ∈ lw_all := lw_g (lw_at lw_m11 29 rfl) rfl
theorem q2546 : (Jvm.Cond.instanceMethod ({ cls := "RepeatFreeModel", name := "ends", desc := "()I" } : Jvm.MethodName)) ∈ lw_all := lw_g (lw_at lw_m11 31 rfl) rfl
theorem q2547 : (Jvm.Cond.selects "RepeatFreeModel" ({ cls := "RepeatFreeModel", name := "ends", desc := "()I" } : Jvm.MethodName) ({ cls := "RepeatFreeModel", name := "ends", desc := "()I" } : Jvm.MethodName)) ∈ lw_all := lw_g (lw_at lw_m11 32 rfl) rfl
theorem q2548 : (Jvm.Cond.code ({ cls := "RepeatFreeModel", name := "ends", desc := "()I" } : Jvm.MethodName) prog_13_method_51_code (1 : Nat) (Option.some Jvm.ClassFile.FieldType.int)) ∈ lw_all := lw_g (lw_at lw_m11 33 rfl) rfl
theorem q2549 : (Jvm.Cond.methodLink "RepeatFreeModel" (239 : Nat) ({ cls := "RepeatFreeModel", name := "endsAt", desc := "()I" } : Jvm.MethodName)) ∈ lw_all := lw_g (lw_at lw_m11 34 rfl) rfl
theorem q2550 : (Jvm.Cond.privateMethod ({ cls := "RepeatFreeModel", name := "endsAt", desc := "()I" } : Jvm.MethodName)) ∈ lw_tbl := lw_at lw_m11 35 rfl
theorem q2551 : (Jvm.Cond.instanceMethod ({ cls := "RepeatFreeModel", name := "endsAt", desc := "()I" } : Jvm.MethodName)) ∈ lw_all := lw_g (lw_at lw_m11 36 rfl) rfl
theorem q2552 : (Jvm.Cond.code ({ cls := "RepeatFreeModel", name := "endsAt", desc := "()I" } : Jvm.MethodName) prog_13_method_50_code (2 : Nat) (Option.some Jvm.ClassFile.FieldType.int)) ∈ lw_all := lw_g (lw_at lw_m11 37 rfl) rfl
theorem q2554 : (Jvm.Cond.instanceMethod ({ cls := "RepeatFreeModel", name := "goes", desc := "()I" } : Jvm.MethodName)) ∈ lw_all := lw_g (lw_at lw_m11 39 rfl) rfl
theorem q2555 : (Jvm.Cond.selects "RepeatFreeModel" ({ cls := "RepeatFreeModel", name := "goes", desc := "()I" } : Jvm.MethodName) ({ cls := "RepeatFreeModel", name := "goes", desc := "()I" } : Jvm.MethodName)) ∈ lw_all := lw_g (lw_at lw_m11 40 rfl) rfl
theorem q2556 : (Jvm.Cond.code ({ cls := "RepeatFreeModel", name := "goes", desc := "()I" } : Jvm.MethodName) prog_13_method_52_code (3 : Nat) (Option.some Jvm.ClassFile.FieldType.int)) ∈ lw_all := lw_g (lw_at lw_m11 41 rfl) rfl
theorem q2557 : (Jvm.Cond.methodLink "RepeatFreeModel" (242 : Nat) ({ cls := "RepeatFreeModel", name := "laysGiven", desc := "(I)V" } : Jvm.MethodName)) ∈ lw_all := lw_g (lw_at lw_m11 42 rfl) rfl
theorem q2558 : (Jvm.Cond.privateMethod ({ cls := "RepeatFreeModel", name := "laysGiven", desc := "(I)V" } : Jvm.MethodName)) ∈ lw_tbl := lw_at lw_m11 43 rfl
theorem q2559 : (Jvm.Cond.instanceMethod ({ cls := "RepeatFreeModel", name := "laysGiven", desc := "(I)V" } : Jvm.MethodName)) ∈ lw_all := lw_g (lw_at lw_m11 44 rfl) rfl
theorem q2560 : (Jvm.Cond.code ({ cls := "RepeatFreeModel", name := "laysGiven", desc := "(I)V" } : Jvm.MethodName) prog_13_method_53_code (3 : Nat) (Option.none : Option Jvm.ClassFile.FieldType)) ∈ lw_all := lw_g (lw_at lw_m11 45 rfl) rfl
theorem q2562 : (Jvm.Cond.instanceMethod ({ cls := "RepeatFreeModel", name := "ahead", desc := "()I" } : Jvm.MethodName)) ∈ lw_all := lw_g (lw_at lw_m11 47 rfl) rfl
theorem q2563 : (Jvm.Cond.selects "RepeatFreeModel" ({ cls := "RepeatFreeModel", name := "ahead", desc := "()I" } : Jvm.MethodName) ({ cls := "RepeatFreeModel", name := "ahead", desc := "()I" } : Jvm.MethodName)) ∈ lw_all := lw_g (lw_at lw_m11 48 rfl) rfl
theorem q2564 : (Jvm.Cond.code ({ cls := "RepeatFreeModel", name := "ahead", desc := "()I" } : Jvm.MethodName) prog_13_method_54_code (3 : Nat) (Option.some Jvm.ClassFile.FieldType.int)) ∈ lw_all := lw_g (lw_at lw_m11 49 rfl) rfl
theorem q2566 : (Jvm.Cond.instanceMethod ({ cls := "RepeatFreeModel", name := "greatest", desc := "(I)I" } : Jvm.MethodName)) ∈ lw_all := lw_g (lw_at lw_m11 51 rfl) rfl
theorem q2567 : (Jvm.Cond.selects "RepeatFreeModel" ({ cls := "RepeatFreeModel", name := "greatest", desc := "(I)I" } : Jvm.MethodName) ({ cls := "RepeatFreeModel", name := "greatest", desc := "(I)I" } : Jvm.MethodName)) ∈ lw_all := lw_g (lw_at lw_m11 52 rfl) rfl
theorem q2568 : (Jvm.Cond.code ({ cls := "RepeatFreeModel", name := "greatest", desc := "(I)I" } : Jvm.MethodName) prog_13_method_56_code (9 : Nat) (Option.some Jvm.ClassFile.FieldType.int)) ∈ lw_all := lw_g (lw_at lw_m11 53 rfl) rfl
theorem q2569 : (Jvm.Cond.methodLink "RepeatFreeModel" (245 : Nat) ({ cls := "RepeatFreeModel", name := "periodOf", desc := "(II)I" } : Jvm.MethodName)) ∈ lw_all := lw_g (lw_at lw_m11 54 rfl) rfl
theorem q2570 : (Jvm.Cond.privateMethod ({ cls := "RepeatFreeModel", name := "periodOf", desc := "(II)I" } : Jvm.MethodName)) ∈ lw_tbl := lw_at lw_m11 55 rfl
theorem q2571 : (Jvm.Cond.instanceMethod ({ cls := "RepeatFreeModel", name := "periodOf", desc := "(II)I" } : Jvm.MethodName)) ∈ lw_all := lw_g (lw_at lw_m11 56 rfl) rfl
theorem q2572 : (Jvm.Cond.code ({ cls := "RepeatFreeModel", name := "periodOf", desc := "(II)I" } : Jvm.MethodName) prog_13_method_55_code (5 : Nat) (Option.some Jvm.ClassFile.FieldType.int)) ∈ lw_all := lw_g (lw_at lw_m11 57 rfl) rfl
theorem q2574 : (Jvm.Cond.instanceMethod ({ cls := "RepeatFreeModel", name := "period", desc := "()I" } : Jvm.MethodName)) ∈ lw_all := lw_g (lw_at lw_m11 59 rfl) rfl
theorem q2575 : (Jvm.Cond.selects "RepeatFreeModel" ({ cls := "RepeatFreeModel", name := "period", desc := "()I" } : Jvm.MethodName) ({ cls := "RepeatFreeModel", name := "period", desc := "()I" } : Jvm.MethodName)) ∈ lw_all := lw_g (lw_at lw_m11 60 rfl) rfl
theorem q2576 : (Jvm.Cond.code ({ cls := "RepeatFreeModel", name := "period", desc := "()I" } : Jvm.MethodName) prog_13_method_57_code (1 : Nat) (Option.some Jvm.ClassFile.FieldType.int)) ∈ lw_all := lw_g (lw_at lw_m11 61 rfl) rfl
theorem q2578 : (Jvm.Cond.instanceMethod ({ cls := "RepeatFreeModel", name := "border", desc := "(I)I" } : Jvm.MethodName)) ∈ lw_all := lw_g (lw_at lw_m11 63 rfl) rfl
theorem q2579 : (Jvm.Cond.selects "RepeatFreeModel" ({ cls := "RepeatFreeModel", name := "border", desc := "(I)I" } : Jvm.MethodName) ({ cls := "RepeatFreeModel", name := "border", desc := "(I)I" } : Jvm.MethodName)) ∈ lw_all := lw_g (lw_at lw_m11 64 rfl) rfl
theorem q2580 : (Jvm.Cond.code ({ cls := "RepeatFreeModel", name := "border", desc := "(I)I" } : Jvm.MethodName) prog_13_method_58_code (6 : Nat) (Option.some Jvm.ClassFile.FieldType.int)) ∈ lw_all := lw_g (lw_at lw_m11 65 rfl) rfl
theorem q2582 : (Jvm.Cond.instanceMethod ({ cls := "RepeatFreeModel", name := "run", desc := "(II)I" } : Jvm.MethodName)) ∈ lw_all := lw_g (lw_at lw_m11 67 rfl) rfl
theorem q2583 : (Jvm.Cond.selects "RepeatFreeModel" ({ cls := "RepeatFreeModel", name := "run", desc := "(II)I" } : Jvm.MethodName) ({ cls := "RepeatFreeModel", name := "run", desc := "(II)I" } : Jvm.MethodName)) ∈ lw_all := lw_g (lw_at lw_m11 68 rfl) rfl
theorem q2584 : (Jvm.Cond.code ({ cls := "RepeatFreeModel", name := "run", desc := "(II)I" } : Jvm.MethodName) prog_13_method_60_code (7 : Nat) (Option.some Jvm.ClassFile.FieldType.int)) ∈ lw_all := lw_g (lw_at lw_m11 69 rfl) rfl
theorem q2585 : (Jvm.Cond.methodLink "RepeatFreeModel" (248 : Nat) ({ cls := "RepeatFreeModel", name := "runAt", desc := "(II)I" } : Jvm.MethodName)) ∈ lw_all := lw_g (lw_at lw_m11 70 rfl) rfl
theorem q2586 : (Jvm.Cond.privateMethod ({ cls := "RepeatFreeModel", name := "runAt", desc := "(II)I" } : Jvm.MethodName)) ∈ lw_tbl := lw_at lw_m11 71 rfl
theorem q2587 : (Jvm.Cond.instanceMethod ({ cls := "RepeatFreeModel", name := "runAt", desc := "(II)I" } : Jvm.MethodName)) ∈ lw_all := lw_g (lw_at lw_m11 72 rfl) rfl
theorem q2588 : (Jvm.Cond.code ({ cls := "RepeatFreeModel", name := "runAt", desc := "(II)I" } : Jvm.MethodName) prog_13_method_59_code (4 : Nat) (Option.some Jvm.ClassFile.FieldType.int)) ∈ lw_all := lw_g (lw_at lw_m11 73 rfl) rfl
theorem q2590 : (Jvm.Cond.instanceMethod ({ cls := "RepeatFreeModel", name := "factors", desc := "(I)I" } : Jvm.MethodName)) ∈ lw_all := lw_g (lw_at lw_m11 75 rfl) rfl
theorem q2591 : (Jvm.Cond.selects "RepeatFreeModel" ({ cls := "RepeatFreeModel", name := "factors", desc := "(I)I" } : Jvm.MethodName) ({ cls := "RepeatFreeModel", name := "factors", desc := "(I)I" } : Jvm.MethodName)) ∈ lw_all := lw_g (lw_at lw_m11 76 rfl) rfl
theorem q2592 : (Jvm.Cond.code ({ cls := "RepeatFreeModel", name := "factors", desc := "(I)I" } : Jvm.MethodName) prog_13_method_62_code (6 : Nat) (Option.some Jvm.ClassFile.FieldType.int)) ∈ lw_all := lw_g (lw_at lw_m11 77 rfl) rfl
theorem q2593 : (Jvm.Cond.methodLink "RepeatFreeModel" (251 : Nat) ({ cls := "RepeatFreeModel", name := "areAlike", desc := "(III)Z" } : Jvm.MethodName)) ∈ lw_all := lw_g (lw_at lw_m11 78 rfl) rfl
theorem q2594 : (Jvm.Cond.privateMethod ({ cls := "RepeatFreeModel", name := "areAlike", desc := "(III)Z" } : Jvm.MethodName)) ∈ lw_tbl := lw_at lw_m11 79 rfl
theorem q2595 : (Jvm.Cond.instanceMethod ({ cls := "RepeatFreeModel", name := "areAlike", desc := "(III)Z" } : Jvm.MethodName)) ∈ lw_all := lw_g (lw_at lw_m11 80 rfl) rfl
theorem q2596 : (Jvm.Cond.code ({ cls := "RepeatFreeModel", name := "areAlike", desc := "(III)Z" } : Jvm.MethodName) prog_13_method_61_code (5 : Nat) (Option.some Jvm.ClassFile.FieldType.boolean)) ∈ lw_all := lw_g (lw_at lw_m11 81 rfl) rfl
theorem q2598 : (Jvm.Cond.instanceMethod ({ cls := "RepeatFreeModel", name := "mirror", desc := "()I" } : Jvm.MethodName)) ∈ lw_all := lw_g (lw_at lw_m11 83 rfl) rfl
theorem q2599 : (Jvm.Cond.selects "RepeatFreeModel" ({ cls := "RepeatFreeModel", name := "mirror", desc := "()I" } : Jvm.MethodName) ({ cls := "RepeatFreeModel", name := "mirror", desc := "()I" } : Jvm.MethodName)) ∈ lw_all := lw_g (lw_at lw_m11 84 rfl) rfl
theorem q2600 : (Jvm.Cond.code ({ cls := "RepeatFreeModel", name := "mirror", desc := "()I" } : Jvm.MethodName) prog_13_method_63_code (5 : Nat) (Option.some Jvm.ClassFile.FieldType.int)) ∈ lw_all := lw_g (lw_at lw_m11 85 rfl) rfl
theorem q2601 : (Jvm.Cond.methodLink "RepeatFreeModel" (254 : Nat) ({ cls := "java/lang/Math", name := "max", desc := "(II)I" } : Jvm.MethodName)) ∈ lw_all := lw_g (lw_at lw_m11 86 rfl) rfl
theorem q2603 : (Jvm.Cond.instanceMethod ({ cls := "RepeatFreeModel", name := "lyndon", desc := "(I)I" } : Jvm.MethodName)) ∈ lw_all := lw_g (lw_at lw_m11 88 rfl) rfl
theorem q2604 : (Jvm.Cond.selects "RepeatFreeModel" ({ cls := "RepeatFreeModel", name := "lyndon", desc := "(I)I" } : Jvm.MethodName) ({ cls := "RepeatFreeModel", name := "lyndon", desc := "(I)I" } : Jvm.MethodName)) ∈ lw_all := lw_g (lw_at lw_m11 89 rfl) rfl
theorem q2605 : (Jvm.Cond.code ({ cls := "RepeatFreeModel", name := "lyndon", desc := "(I)I" } : Jvm.MethodName) prog_13_method_64_code (7 : Nat) (Option.some Jvm.ClassFile.FieldType.int)) ∈ lw_all := lw_g (lw_at lw_m11 90 rfl) rfl
theorem q2607 : (Jvm.Cond.instanceMethod ({ cls := "RepeatFreeModel", name := "turned", desc := "()I" } : Jvm.MethodName)) ∈ lw_all := lw_g (lw_at lw_m11 92 rfl) rfl
theorem q2608 : (Jvm.Cond.selects "RepeatFreeModel" ({ cls := "RepeatFreeModel", name := "turned", desc := "()I" } : Jvm.MethodName) ({ cls := "RepeatFreeModel", name := "turned", desc := "()I" } : Jvm.MethodName)) ∈ lw_all := lw_g (lw_at lw_m11 93 rfl) rfl
theorem q2609 : (Jvm.Cond.code ({ cls := "RepeatFreeModel", name := "turned", desc := "()I" } : Jvm.MethodName) prog_13_method_65_code (4 : Nat) (Option.some Jvm.ClassFile.FieldType.int)) ∈ lw_all := lw_g (lw_at lw_m11 94 rfl) rfl
theorem q2611 : (Jvm.Cond.instanceMethod ({ cls := "RepeatFreeModel", name := "local", desc := "(I)I" } : Jvm.MethodName)) ∈ lw_all := lw_g (lw_at lw_m11 96 rfl) rfl
theorem q2612 : (Jvm.Cond.selects "RepeatFreeModel" ({ cls := "RepeatFreeModel", name := "local", desc := "(I)I" } : Jvm.MethodName) ({ cls := "RepeatFreeModel", name := "local", desc := "(I)I" } : Jvm.MethodName)) ∈ lw_all := lw_g (lw_at lw_m11 97 rfl) rfl
theorem q2613 : (Jvm.Cond.code ({ cls := "RepeatFreeModel", name := "local", desc := "(I)I" } : Jvm.MethodName) prog_13_method_66_code (5 : Nat) (Option.some Jvm.ClassFile.FieldType.int)) ∈ lw_all := lw_g (lw_at lw_m11 98 rfl) rfl
theorem q2615 : (Jvm.Cond.instanceMethod ({ cls := "RepeatFreeModel", name := "first", desc := "(I)I" } : Jvm.MethodName)) ∈ lw_all := lw_g (lw_at lw_m11 100 rfl) rfl
theorem q2616 : (Jvm.Cond.selects "RepeatFreeModel" ({ cls := "RepeatFreeModel", name := "first", desc := "(I)I" } : Jvm.MethodName) ({ cls := "RepeatFreeModel", name := "first", desc := "(I)I" } : Jvm.MethodName)) ∈ lw_all := lw_g (lw_at lw_m11 101 rfl) rfl
theorem q2617 : (Jvm.Cond.code ({ cls := "RepeatFreeModel", name := "first", desc := "(I)I" } : Jvm.MethodName) prog_13_method_74_code (3 : Nat) (Option.some Jvm.ClassFile.FieldType.int)) ∈ lw_all := lw_g (lw_at lw_m11 102 rfl) rfl
theorem q2618 : (Jvm.Cond.methodLink "RepeatFreeModel" (290 : Nat) ({ cls := "RepeatFreeModel", name := "startsSearch", desc := "()V" } : Jvm.MethodName)) ∈ lw_all := lw_g (lw_at lw_m11 103 rfl) rfl
theorem q2619 : (Jvm.Cond.privateMethod ({ cls := "RepeatFreeModel", name := "startsSearch", desc := "()V" } : Jvm.MethodName)) ∈ lw_tbl := lw_at lw_m11 104 rfl
theorem q2620 : (Jvm.Cond.instanceMethod ({ cls := "RepeatFreeModel", name := "startsSearch", desc := "()V" } : Jvm.MethodName)) ∈ lw_all := lw_g (lw_at lw_m11 105 rfl) rfl
theorem q2621 : (Jvm.Cond.code ({ cls := "RepeatFreeModel", name := "startsSearch", desc := "()V" } : Jvm.MethodName) prog_13_method_71_code (1 : Nat) (Option.none : Option Jvm.ClassFile.FieldType)) ∈ lw_all := lw_g (lw_at lw_m11 106 rfl) rfl
theorem q2622 : (Jvm.Cond.methodLink "RepeatFreeModel" (268 : Nat) ({ cls := "RepeatFreeModel", name := "searches", desc := "(III)Z" } : Jvm.MethodName)) ∈ lw_all := lw_g (lw_at lw_m11 107 rfl) rfl
theorem q2623 : (Jvm.Cond.privateMethod ({ cls := "RepeatFreeModel", name := "searches", desc := "(III)Z" } : Jvm.MethodName)) ∈ lw_tbl := lw_at lw_m11 108 rfl
theorem q2624 : (Jvm.Cond.instanceMethod ({ cls := "RepeatFreeModel", name := "searches", desc := "(III)Z" } : Jvm.MethodName)) ∈ lw_all := lw_g (lw_at lw_m11 109 rfl) rfl
theorem q2625 : (Jvm.Cond.code ({ cls := "RepeatFreeModel", name := "searches", desc := "(III)Z" } : Jvm.MethodName) prog_13_method_67_code (5 : Nat) (Option.some Jvm.ClassFile.FieldType.boolean)) ∈ lw_all := lw_g (lw_at lw_m11 110 rfl) rfl
theorem q2626 : (Jvm.Cond.methodLink "RepeatFreeModel" (259 : Nat) ({ cls := "RepeatFreeModel", name := "meets", desc := "(II)Z" } : Jvm.MethodName)) ∈ lw_all := lw_g (lw_at lw_m11 111 rfl) rfl
theorem q2627 : (Jvm.Cond.privateMethod ({ cls := "RepeatFreeModel", name := "meets", desc := "(II)Z" } : Jvm.MethodName)) ∈ lw_tbl := lw_at lw_m11 112 rfl
theorem q2628 : (Jvm.Cond.instanceMethod ({ cls := "RepeatFreeModel", name := "meets", desc := "(II)Z" } : Jvm.MethodName)) ∈ lw_all := lw_g (lw_at lw_m11 113 rfl) rfl
theorem q2629 : (Jvm.Cond.code ({ cls := "RepeatFreeModel", name := "meets", desc := "(II)Z" } : Jvm.MethodName) prog_13_method_68_code (3 : Nat) (Option.some Jvm.ClassFile.FieldType.boolean)) ∈ lw_all := lw_g (lw_at lw_m11 114 rfl) rfl
theorem q2630 : (Jvm.Cond.methodLink "RepeatFreeModel" (277 : Nat) ({ cls := "RepeatFreeModel", name := "isStuck", desc := "(I)Z" } : Jvm.MethodName)) ∈ lw_all := lw_g (lw_at lw_m11 115 rfl) rfl
theorem q2631 : (Jvm.Cond.privateMethod ({ cls := "RepeatFreeModel", name := "isStuck", desc := "(I)Z" } : Jvm.MethodName)) ∈ lw_tbl := lw_at lw_m11 116 rfl
theorem q2632 : (Jvm.Cond.instanceMethod ({ cls := "RepeatFreeModel", name := "isStuck", desc := "(I)Z" } : Jvm.MethodName)) ∈ lw_all := lw_g (lw_at lw_m11 117 rfl) rfl
theorem q2633 : (Jvm.Cond.code ({ cls := "RepeatFreeModel", name := "isStuck", desc := "(I)Z" } : Jvm.MethodName) prog_13_method_69_code (3 : Nat) (Option.some Jvm.ClassFile.FieldType.boolean)) ∈ lw_all := lw_g (lw_at lw_m11 118 rfl) rfl
theorem q2634 : (Jvm.Cond.methodLink "RepeatFreeModel" (281 : Nat) ({ cls := "RepeatFreeModel", name := "isAheadOf", desc := "(I)Z" } : Jvm.MethodName)) ∈ lw_all := lw_g (lw_at lw_m11 119 rfl) rfl
theorem q2635 : (Jvm.Cond.privateMethod ({ cls := "RepeatFreeModel", name := "isAheadOf", desc := "(I)Z" } : Jvm.MethodName)) ∈ lw_tbl := lw_at lw_m11 120 rfl
theorem q2636 : (Jvm.Cond.instanceMethod ({ cls := "RepeatFreeModel", name := "isAheadOf", desc := "(I)Z" } : Jvm.MethodName)) ∈ lw_all := lw_g (lw_at lw_m11 121 rfl) rfl
theorem q2637 : (Jvm.Cond.code ({ cls := "RepeatFreeModel", name := "isAheadOf", desc := "(I)Z" } : Jvm.MethodName) prog_13_method_70_code (3 : Nat) (Option.some Jvm.ClassFile.FieldType.boolean)) ∈ lw_all := lw_g (lw_at lw_m11 122 rfl) rfl
theorem q2638 : (Jvm.Cond.methodLink "RepeatFreeModel" (287 : Nat) ({ cls := "RepeatFreeModel", name := "doesBreak", desc := "(I)Z" } : Jvm.MethodName)) ∈ lw_all := lw_g (lw_at lw_m11 123 rfl) rfl
theorem q2639 : (Jvm.Cond.privateMethod ({ cls := "RepeatFreeModel", name := "doesBreak", desc := "(I)Z" } : Jvm.MethodName)) ∈ lw_tbl := lw_at lw_m11 124 rfl
theorem q2640 : (Jvm.Cond.instanceMethod ({ cls := "RepeatFreeModel", name := "doesBreak", desc := "(I)Z" } : Jvm.MethodName)) ∈ lw_all := lw_g (lw_at lw_m11 125 rfl) rfl
theorem q2641 : (Jvm.Cond.code ({ cls := "RepeatFreeModel", name := "doesBreak", desc := "(I)Z" } : Jvm.MethodName) prog_13_method_88_code (3 : Nat) (Option.some Jvm.ClassFile.FieldType.boolean)) ∈ lw_all := lw_g (lw_at lw_m11 126 rfl) rfl
theorem q2642 : (Jvm.Cond.methodLink "RepeatFreeModel" (315 : Nat) ({ cls := "RepeatFreeModel", name := "images", desc := "([III)I" } : Jvm.MethodName)) ∈ lw_all := lw_g (lw_at lw_m11 127 rfl) rfl
theorem q2643 : (Jvm.Cond.privateMethod ({ cls := "RepeatFreeModel", name := "images", desc := "([III)I" } : Jvm.MethodName)) ∈ lw_tbl := lw_at lw_m11 128 rfl
theorem q2644 : (Jvm.Cond.instanceMethod ({ cls := "RepeatFreeModel", name := "images", desc := "([III)I" } : Jvm.MethodName)) ∈ lw_all := lw_g (lw_at lw_m11 129 rfl) rfl
theorem q2645 : (Jvm.Cond.code ({ cls := "RepeatFreeModel", name := "images", desc := "([III)I" } : Jvm.MethodName) prog_13_method_87_code (7 : Nat) (Option.some Jvm.ClassFile.FieldType.int)) ∈ lw_all := lw_g (lw_at lw_m11 130 rfl) rfl
theorem q2646 : (Jvm.Cond.methodLink "RepeatFreeModel" (305 : Nat) ({ cls := "RepeatFreeModel", name := "longOf", desc := "(II)I" } : Jvm.MethodName)) ∈ lw_all := lw_g (lw_at lw_m11 131 rfl) rfl
theorem q2647 : (Jvm.Cond.privateMethod ({ cls := "RepeatFreeModel", name := "longOf", desc := "(II)I" } : Jvm.MethodName)) ∈ lw_tbl := lw_at lw_m11 132 rfl
theorem q2648 : (Jvm.Cond.instanceMethod ({ cls := "RepeatFreeModel", name := "longOf", desc := "(II)I" } : Jvm.MethodName)) ∈ lw_all := lw_g (lw_at lw_m11 133 rfl) rfl
theorem q2649 : (Jvm.Cond.code ({ cls := "RepeatFreeModel", name := "longOf", desc := "(II)I" } : Jvm.MethodName) prog_13_method_85_code (3 : Nat) (Option.some Jvm.ClassFile.FieldType.int)) ∈ lw_all := lw_g (lw_at lw_m11 134 rfl) rfl
theorem q2650 : (Jvm.Cond.methodLink "RepeatFreeModel" (308 : Nat) ({ cls := "RepeatFreeModel", name := "imageOf", desc := "(III)I" } : Jvm.MethodName)) ∈ lw_all := lw_g (lw_at lw_m11 135 rfl) rfl
theorem q2651 : (Jvm.Cond.privateMethod ({ cls := "RepeatFreeModel", name := "imageOf", desc := "(III)I" } : Jvm.MethodName)) ∈ lw_tbl := lw_at lw_m11 136 rfl
theorem q2652 : (Jvm.Cond.instanceMethod ({ cls := "RepeatFreeModel", name := "imageOf", desc := "(III)I" } : Jvm.MethodName)) ∈ lw_all := lw_g (lw_at lw_m11 137 rfl) rfl
theorem q2653 : (Jvm.Cond.code ({ cls := "RepeatFreeModel", name := "imageOf", desc := "(III)I" } : Jvm.MethodName) prog_13_method_86_code (4 : Nat) (Option.some Jvm.ClassFile.FieldType.int)) ∈ lw_all := lw_g (lw_at lw_m11 138 rfl) rfl
theorem q2654 : (Jvm.Cond.methodLink "RepeatFreeModel" (293 : Nat) ({ cls := "RepeatFreeModel", name := "becomesFound", desc := "(I)V" } : Jvm.MethodName)) ∈ lw_all := lw_g (lw_at lw_m11 139 rfl) rfl
theorem q2655 : (Jvm.Cond.privateMethod ({ cls := "RepeatFreeModel", name := "becomesFound", desc := "(I)V" } : Jvm.MethodName)) ∈ lw_tbl := lw_at lw_m11 140 rfl
theorem q2656 : (Jvm.Cond.instanceMethod ({ cls := "RepeatFreeModel", name := "becomesFound", desc := "(I)V" } : Jvm.MethodName)) ∈ lw_all := lw_g (lw_at lw_m11 141 rfl) rfl
theorem q2657 : (Jvm.Cond.code ({ cls := "RepeatFreeModel", name := "becomesFound", desc := "(I)V" } : Jvm.MethodName) prog_13_method_73_code (3 : Nat) (Option.none : Option Jvm.ClassFile.FieldType)) ∈ lw_all := lw_g (lw_at lw_m11 142 rfl) rfl
theorem q2659 : (Jvm.Cond.instanceMethod ({ cls := "RepeatFreeModel", name := "next", desc := "()I" } : Jvm.MethodName)) ∈ lw_all := lw_g (lw_at lw_m11 144 rfl) rfl
theorem q2660 : (Jvm.Cond.selects "RepeatFreeModel" ({ cls := "RepeatFreeModel", name := "next", desc := "()I" } : Jvm.MethodName) ({ cls := "RepeatFreeModel", name := "next", desc := "()I" } : Jvm.MethodName)) ∈ lw_all := lw_g (lw_at lw_m11 145 rfl) rfl
theorem q2661 : (Jvm.Cond.code ({ cls := "RepeatFreeModel", name := "next", desc := "()I" } : Jvm.MethodName) prog_13_method_75_code (5 : Nat) (Option.some Jvm.ClassFile.FieldType.int)) ∈ lw_all := lw_g (lw_at lw_m11 146 rfl) rfl
theorem q2662 : (Jvm.Cond.methodLink "RepeatFreeModel" (296 : Nat) ({ cls := "RepeatFreeModel", name := "takes", desc := "()V" } : Jvm.MethodName)) ∈ lw_all := lw_g (lw_at lw_m11 147 rfl) rfl
theorem q2663 : (Jvm.Cond.privateMethod ({ cls := "RepeatFreeModel", name := "takes", desc := "()V" } : Jvm.MethodName)) ∈ lw_tbl := lw_at lw_m11 148 rfl
theorem q2664 : (Jvm.Cond.instanceMethod ({ cls := "RepeatFreeModel", name := "takes", desc := "()V" } : Jvm.MethodName)) ∈ lw_all := lw_g (lw_at lw_m11 149 rfl) rfl
theorem q2665 : (Jvm.Cond.code ({ cls := "RepeatFreeModel", name := "takes", desc := "()V" } : Jvm.MethodName) prog_13_method_72_code (2 : Nat) (Option.none : Option Jvm.ClassFile.FieldType)) ∈ lw_all := lw_g (lw_at lw_m11 150 rfl) rfl
theorem q2667 : (Jvm.Cond.instanceMethod ({ cls := "RepeatFreeModel", name := "many", desc := "(I)I" } : Jvm.MethodName)) ∈ lw_all := lw_g (lw_at lw_m11 152 rfl) rfl
theorem q2668 : (Jvm.Cond.selects "RepeatFreeModel" ({ cls := "RepeatFreeModel", name := "many", desc := "(I)I" } : Jvm.MethodName) ({ cls := "RepeatFreeModel", name := "many", desc := "(I)I" } : Jvm.MethodName)) ∈ lw_all := lw_g (lw_at lw_m11 153 rfl) rfl
theorem q2669 : (Jvm.Cond.code ({ cls := "RepeatFreeModel", name := "many", desc := "(I)I" } : Jvm.MethodName) prog_13_method_77_code (2 : Nat) (Option.some Jvm.ClassFile.FieldType.int)) ∈ lw_all := lw_g (lw_at lw_m11 154 rfl) rfl
theorem q2670 : (Jvm.Cond.methodLink "RepeatFreeModel" (299 : Nat) ({ cls := "RepeatFreeModel", name := "countBy", desc := "(II)I" } : Jvm.MethodName)) ∈ lw_all := lw_g (lw_at lw_m11 155 rfl) rfl
theorem q2671 : (Jvm.Cond.privateMethod ({ cls := "RepeatFreeModel", name := "countBy", desc := "(II)I" } : Jvm.MethodName)) ∈ lw_tbl := lw_at lw_m11 156 rfl
theorem q2672 : (Jvm.Cond.instanceMethod ({ cls := "RepeatFreeModel", name := "countBy", desc := "(II)I" } : Jvm.MethodName)) ∈ lw_all := lw_g (lw_at lw_m11 157 rfl) rfl
theorem q2673 : (Jvm.Cond.code ({ cls := "RepeatFreeModel", name := "countBy", desc := "(II)I" } : Jvm.MethodName) prog_13_method_76_code (4 : Nat) (Option.some Jvm.ClassFile.FieldType.int)) ∈ lw_all := lw_g (lw_at lw_m11 158 rfl) rfl
theorem q2675 : (Jvm.Cond.instanceMethod ({ cls := "RepeatFreeModel", name := "growth", desc := "(I)I" } : Jvm.MethodName)) ∈ lw_all := lw_g (lw_at lw_m11 160 rfl) rfl
theorem q2676 : (Jvm.Cond.selects "RepeatFreeModel" ({ cls := "RepeatFreeModel", name := "growth", desc := "(I)I" } : Jvm.MethodName) ({ cls := "RepeatFreeModel", name := "growth", desc := "(I)I" } : Jvm.MethodName)) ∈ lw_all := lw_g (lw_at lw_m11 161 rfl) rfl
theorem q2677 : (Jvm.Cond.code ({ cls := "RepeatFreeModel", name := "growth", desc := "(I)I" } : Jvm.MethodName) prog_13_method_78_code (4 : Nat) (Option.some Jvm.ClassFile.FieldType.int)) ∈ lw_all := lw_g (lw_at lw_m11 162 rfl) rfl
theorem q2679 : (Jvm.Cond.instanceMethod ({ cls := "RepeatFreeModel", name := "longest", desc := "()I" } : Jvm.MethodName)) ∈ lw_all := lw_g (lw_at lw_m11 164 rfl) rfl
theorem q2680 : (Jvm.Cond.selects "RepeatFreeModel" ({ cls := "RepeatFreeModel", name := "longest", desc := "()I" } : Jvm.MethodName) ({ cls := "RepeatFreeModel", name := "longest", desc := "()I" } : Jvm.MethodName)) ∈ lw_all := lw_g (lw_at lw_m11 165 rfl) rfl
theorem q2681 : (Jvm.Cond.code ({ cls := "RepeatFreeModel", name := "longest", desc := "()I" } : Jvm.MethodName) prog_13_method_79_code (3 : Nat) (Option.some Jvm.ClassFile.FieldType.int)) ∈ lw_all := lw_g (lw_at lw_m11 166 rfl) rfl
theorem q2683 : (Jvm.Cond.instanceMethod ({ cls := "RepeatFreeModel", name := "further", desc := "()I" } : Jvm.MethodName)) ∈ lw_all := lw_g (lw_at lw_m11 168 rfl) rfl
theorem q2684 : (Jvm.Cond.selects "RepeatFreeModel" ({ cls := "RepeatFreeModel", name := "further", desc := "()I" } : Jvm.MethodName) ({ cls := "RepeatFreeModel", name := "further", desc := "()I" } : Jvm.MethodName)) ∈ lw_all := lw_g (lw_at lw_m11 169 rfl) rfl
theorem q2685 : (Jvm.Cond.code ({ cls := "RepeatFreeModel", name := "further", desc := "()I" } : Jvm.MethodName) prog_13_method_80_code (4 : Nat) (Option.some Jvm.ClassFile.FieldType.int)) ∈ lw_all := lw_g (lw_at lw_m11 170 rfl) rfl
theorem q2686 : (Jvm.Cond.methodLink "RepeatFreeModel" (302 : Nat) ({ cls := "java/lang/Math", name := "min", desc := "(II)I" } : Jvm.MethodName)) ∈ lw_all := lw_g (lw_at lw_m11 171 rfl) rfl
theorem q2688 : (Jvm.Cond.instanceMethod ({ cls := "RepeatFreeModel", name := "stuck", desc := "(I)I" } : Jvm.MethodName)) ∈ lw_all := lw_g (lw_at lw_m11 173 rfl) rfl
theorem q2689 : (Jvm.Cond.selects "RepeatFreeModel" ({ cls := "RepeatFreeModel", name := "stuck", desc := "(I)I" } : Jvm.MethodName) ({ cls := "RepeatFreeModel", name := "stuck", desc := "(I)I" } : Jvm.MethodName)) ∈ lw_all := lw_g (lw_at lw_m11 174 rfl) rfl
theorem q2690 : (Jvm.Cond.code ({ cls := "RepeatFreeModel", name := "stuck", desc := "(I)I" } : Jvm.MethodName) prog_13_method_81_code (2 : Nat) (Option.some Jvm.ClassFile.FieldType.int)) ∈ lw_all := lw_g (lw_at lw_m11 175 rfl) rfl
theorem q2692 : (Jvm.Cond.instanceMethod ({ cls := "RepeatFreeModel", name := "rank", desc := "()I" } : Jvm.MethodName)) ∈ lw_all := lw_g (lw_at lw_m11 177 rfl) rfl
theorem q2693 : (Jvm.Cond.selects "RepeatFreeModel" ({ cls := "RepeatFreeModel", name := "rank", desc := "()I" } : Jvm.MethodName) ({ cls := "RepeatFreeModel", name := "rank", desc := "()I" } : Jvm.MethodName)) ∈ lw_all := lw_g (lw_at lw_m11 178 rfl) rfl
theorem q2694 : (Jvm.Cond.code ({ cls := "RepeatFreeModel", name := "rank", desc := "()I" } : Jvm.MethodName) prog_13_method_82_code (1 : Nat) (Option.some Jvm.ClassFile.FieldType.int)) ∈ lw_all := lw_g (lw_at lw_m11 179 rfl) rfl
theorem q2696 : (Jvm.Cond.instanceMethod ({ cls := "RepeatFreeModel", name := "nth", desc := "(II)I" } : Jvm.MethodName)) ∈ lw_all := lw_g (lw_at lw_m11 181 rfl) rfl
theorem q2697 : (Jvm.Cond.selects "RepeatFreeModel" ({ cls := "RepeatFreeModel", name := "nth", desc := "(II)I" } : Jvm.MethodName) ({ cls := "RepeatFreeModel", name := "nth", desc := "(II)I" } : Jvm.MethodName)) ∈ lw_all := lw_g (lw_at lw_m11 182 rfl) rfl
theorem q2698 : (Jvm.Cond.code ({ cls := "RepeatFreeModel", name := "nth", desc := "(II)I" } : Jvm.MethodName) prog_13_method_83_code (4 : Nat) (Option.some Jvm.ClassFile.FieldType.int)) ∈ lw_all := lw_g (lw_at lw_m11 183 rfl) rfl
theorem q2700 : (Jvm.Cond.instanceMethod ({ cls := "RepeatFreeModel", name := "image", desc := "(I)I" } : Jvm.MethodName)) ∈ lw_all := lw_g (lw_at lw_m11 185 rfl) rfl
theorem q2701 : (Jvm.Cond.selects "RepeatFreeModel" ({ cls := "RepeatFreeModel", name := "image", desc := "(I)I" } : Jvm.MethodName) ({ cls := "RepeatFreeModel", name := "image", desc := "(I)I" } : Jvm.MethodName)) ∈ lw_all := lw_g (lw_at lw_m11 186 rfl) rfl
theorem q2702 : (Jvm.Cond.code ({ cls := "RepeatFreeModel", name := "image", desc := "(I)I" } : Jvm.MethodName) prog_13_method_89_code (4 : Nat) (Option.some Jvm.ClassFile.FieldType.int)) ∈ lw_all := lw_g (lw_at lw_m11 187 rfl) rfl
theorem q2703 : (Jvm.Cond.methodLink "RepeatFreeModel" (319 : Nat) ({ cls := "RepeatFreeModel", name := "noMap", desc := "(I)Z" } : Jvm.MethodName)) ∈ lw_all := lw_g (lw_at lw_m11 188 rfl) rfl
theorem q2704 : (Jvm.Cond.privateMethod ({ cls := "RepeatFreeModel", name := "noMap", desc := "(I)Z" } : Jvm.MethodName)) ∈ lw_tbl := lw_at lw_m11 189 rfl
theorem q2705 : (Jvm.Cond.instanceMethod ({ cls := "RepeatFreeModel", name := "noMap", desc := "(I)Z" } : Jvm.MethodName)) ∈ lw_all := lw_g (lw_at lw_m11 190 rfl) rfl
theorem q2706 : (Jvm.Cond.code ({ cls := "RepeatFreeModel", name := "noMap", desc := "(I)Z" } : Jvm.MethodName) prog_13_method_84_code (2 : Nat) (Option.some Jvm.ClassFile.FieldType.boolean)) ∈ lw_all := lw_g (lw_at lw_m11 191 rfl) rfl
theorem q2708 : (Jvm.Cond.instanceMethod ({ cls := "RepeatFreeModel", name := "imaged", desc := "(III)I" } : Jvm.MethodName)) ∈ lw_all := lw_g (lw_at lw_m11 193 rfl) rfl
theorem q2709 : (Jvm.Cond.selects "RepeatFreeModel" ({ cls := "RepeatFreeModel", name := "imaged", desc := "(III)I" } : Jvm.MethodName) ({ cls := "RepeatFreeModel", name := "imaged", desc := "(III)I" } : Jvm.MethodName)) ∈ lw_all := lw_g (lw_at lw_m11 194 rfl) rfl
theorem q2710 : (Jvm.Cond.code ({ cls := "RepeatFreeModel", name := "imaged", desc := "(III)I" } : Jvm.MethodName) prog_13_method_90_code (4 : Nat) (Option.some Jvm.ClassFile.FieldType.int)) ∈ lw_all := lw_g (lw_at lw_m11 195 rfl) rfl
theorem q2712 : (Jvm.Cond.instanceMethod ({ cls := "RepeatFreeModel", name := "length", desc := "(III)J" } : Jvm.MethodName)) ∈ lw_all := lw_g (lw_at lw_m11 197 rfl) rfl
theorem q2713 : (Jvm.Cond.selects "RepeatFreeModel" ({ cls := "RepeatFreeModel", name := "length", desc := "(III)J" } : Jvm.MethodName) ({ cls := "RepeatFreeModel", name := "length", desc := "(III)J" } : Jvm.MethodName)) ∈ lw_all := lw_g (lw_at lw_m11 198 rfl) rfl
theorem q2714 : (Jvm.Cond.code ({ cls := "RepeatFreeModel", name := "length", desc := "(III)J" } : Jvm.MethodName) prog_13_method_95_code (4 : Nat) (Option.some Jvm.ClassFile.FieldType.long)) ∈ lw_all := lw_g (lw_at lw_m11 199 rfl) rfl
theorem q2715 : (Jvm.Cond.methodLink "RepeatFreeModel" (325 : Nat) ({ cls := "RepeatFreeModel", name := "noPower", desc := "(III)Z" } : Jvm.MethodName)) ∈ lw_all := lw_g (lw_at lw_m11 200 rfl) rfl
theorem q2716 : (Jvm.Cond.privateMethod ({ cls := "RepeatFreeModel", name := "noPower", desc := "(III)Z" } : Jvm.MethodName)) ∈ lw_tbl := lw_at lw_m11 201 rfl
theorem q2717 : (Jvm.Cond.instanceMethod ({ cls := "RepeatFreeModel", name := "noPower", desc := "(III)Z" } : Jvm.MethodName)) ∈ lw_all := lw_g (lw_at lw_m11 202 rfl) rfl
theorem q2718 : (Jvm.Cond.code ({ cls := "RepeatFreeModel", name := "noPower", desc := "(III)Z" } : Jvm.MethodName) prog_13_method_94_code (4 : Nat) (Option.some Jvm.ClassFile.FieldType.boolean)) ∈ lw_all := lw_g (lw_at lw_m11 203 rfl) rfl
theorem q2719 : (Jvm.Cond.methodLink "RepeatFreeModel" (328 : Nat) ({ cls := "RepeatFreeModel", name := "laysCounts", desc := "(II)V" } : Jvm.MethodName)) ∈ lw_all := lw_g (lw_at lw_m11 204 rfl) rfl
theorem q2720 : (Jvm.Cond.privateMethod ({ cls := "RepeatFreeModel", name := "laysCounts", desc := "(II)V" } : Jvm.MethodName)) ∈ lw_tbl := lw_at lw_m11 205 rfl
theorem q2721 : (Jvm.Cond.instanceMethod ({ cls := "RepeatFreeModel", name := "laysCounts", desc := "(II)V" } : Jvm.MethodName)) ∈ lw_all := lw_g (lw_at lw_m11 206 rfl) rfl
theorem q2722 : (Jvm.Cond.code ({ cls := "RepeatFreeModel", name := "laysCounts", desc := "(II)V" } : Jvm.MethodName) prog_13_method_92_code (7 : Nat) (Option.none : Option Jvm.ClassFile.FieldType)) ∈ lw_all := lw_g (lw_at lw_m11 207 rfl) rfl
theorem q2723 : (Jvm.Cond.methodLink "RepeatFreeModel" (322 : Nat) ({ cls := "RepeatFreeModel", name := "at", desc := "(III)I" } : Jvm.MethodName)) ∈ lw_all := lw_g (lw_at lw_m11 208 rfl) rfl
theorem q2724 : (Jvm.Cond.static ({ cls := "RepeatFreeModel", name := "at", desc := "(III)I" } : Jvm.MethodName)) ∈ lw_all := lw_g (lw_at lw_m11 209 rfl) rfl
theorem q2725 : (Jvm.Cond.code ({ cls := "RepeatFreeModel", name := "at", desc := "(III)I" } : Jvm.MethodName) prog_13_method_91_code (3 : Nat) (Option.some Jvm.ClassFile.FieldType.int)) ∈ lw_all := lw_g (lw_at lw_m11 210 rfl) rfl
theorem q2726 : (Jvm.Cond.methodLink "RepeatFreeModel" (332 : Nat) ({ cls := "RepeatFreeModel", name := "lengthOf", desc := "(II)J" } : Jvm.MethodName)) ∈ lw_all := lw_g (lw_at lw_m11 211 rfl) rfl
theorem q2727 : (Jvm.Cond.privateMethod ({ cls := "RepeatFreeModel", name := "lengthOf", desc := "(II)J" } : Jvm.MethodName)) ∈ lw_tbl := lw_at lw_m11 212 rfl
theorem q2728 : (Jvm.Cond.instanceMethod ({ cls := "RepeatFreeModel", name := "lengthOf", desc := "(II)J" } : Jvm.MethodName)) ∈ lw_all := lw_g (lw_at lw_m11 213 rfl) rfl
theorem q2729 : (Jvm.Cond.code ({ cls := "RepeatFreeModel", name := "lengthOf", desc := "(II)J" } : Jvm.MethodName) prog_13_method_93_code (6 : Nat) (Option.some Jvm.ClassFile.FieldType.long)) ∈ lw_all := lw_g (lw_at lw_m11 214 rfl) rfl
theorem q2731 : (Jvm.Cond.instanceMethod ({ cls := "RepeatFreeModel", name := "power", desc := "(IIIJ)I" } : Jvm.MethodName)) ∈ lw_all := lw_g (lw_at lw_m11 216 rfl) rfl
theorem q2732 : (Jvm.Cond.selects "RepeatFreeModel" ({ cls := "RepeatFreeModel", name := "power", desc := "(IIIJ)I" } : Jvm.MethodName) ({ cls := "RepeatFreeModel", name := "power", desc := "(IIIJ)I" } : Jvm.MethodName)) ∈ lw_all := lw_g (lw_at lw_m11 217 rfl) rfl
theorem q2733 : (Jvm.Cond.code ({ cls := "RepeatFreeModel", name := "power", desc := "(IIIJ)I" } : Jvm.MethodName) prog_13_method_96_code (6 : Nat) (Option.some Jvm.ClassFile.FieldType.int)) ∈ lw_all := lw_g (lw_at lw_m11 218 rfl) rfl
theorem q2734 : (Jvm.Cond.methodLink "RepeatFreeModel" (336 : Nat) ({ cls := "RepeatFreeModel", name := "placed", desc := "(IIIJ)I" } : Jvm.MethodName)) ∈ lw_all := lw_g (lw_at lw_m11 219 rfl) rfl
theorem q2735 : (Jvm.Cond.privateMethod ({ cls := "RepeatFreeModel", name := "placed", desc := "(IIIJ)I" } : Jvm.MethodName)) ∈ lw_tbl := lw_at lw_m11 220 rfl
theorem q2736 : (Jvm.Cond.instanceMethod ({ cls := "RepeatFreeModel", name := "placed", desc := "(IIIJ)I" } : Jvm.MethodName)) ∈ lw_all := lw_g (lw_at lw_m11 221 rfl) rfl
theorem q2737 : (Jvm.Cond.code ({ cls := "RepeatFreeModel", name := "placed", desc := "(IIIJ)I" } : Jvm.MethodName) prog_13_method_97_code (11 : Nat) (Option.some Jvm.ClassFile.FieldType.int)) ∈ lw_all := lw_g (lw_at lw_m11 222 rfl) rfl
theorem q2739 : (Jvm.Cond.instanceMethod ({ cls := "RepeatFreeModel", name := "often", desc := "(IIII)J" } : Jvm.MethodName)) ∈ lw_all := lw_g (lw_at lw_m11 224 rfl) rfl
theorem q2740 : (Jvm.Cond.selects "RepeatFreeModel" ({ cls := "RepeatFreeModel", name := "often", desc := "(IIII)J" } : Jvm.MethodName) ({ cls := "RepeatFreeModel", name := "often", desc := "(IIII)J" } : Jvm.MethodName)) ∈ lw_all := lw_g (lw_at lw_m11 225 rfl) rfl
theorem q2741 : (Jvm.Cond.code ({ cls := "RepeatFreeModel", name := "often", desc := "(IIII)J" } : Jvm.MethodName) prog_13_method_98_code (5 : Nat) (Option.some Jvm.ClassFile.FieldType.long)) ∈ lw_all := lw_g (lw_at lw_m11 226 rfl) rfl
theorem q2743 : (Jvm.Cond.instanceMethod ({ cls := "RepeatFreeModel", name := "keeps", desc := "(II)I" } : Jvm.MethodName)) ∈ lw_all := lw_g (lw_at lw_m11 228 rfl) rfl
theorem q2744 : (Jvm.Cond.selects "RepeatFreeModel" ({ cls := "RepeatFreeModel", name := "keeps", desc := "(II)I" } : Jvm.MethodName) ({ cls := "RepeatFreeModel", name := "keeps", desc := "(II)I" } : Jvm.MethodName)) ∈ lw_all := lw_g (lw_at lw_m11 229 rfl) rfl
theorem q2745 : (Jvm.Cond.code ({ cls := "RepeatFreeModel", name := "keeps", desc := "(II)I" } : Jvm.MethodName) prog_13_method_100_code (3 : Nat) (Option.some Jvm.ClassFile.FieldType.int)) ∈ lw_all := lw_g (lw_at lw_m11 230 rfl) rfl
theorem q2746 : (Jvm.Cond.methodLink "RepeatFreeModel" (340 : Nat) ({ cls := "RepeatFreeModel", name := "laysBreak", desc := "(II)V" } : Jvm.MethodName)) ∈ lw_all := lw_g (lw_at lw_m11 231 rfl) rfl
theorem q2747 : (Jvm.Cond.privateMethod ({ cls := "RepeatFreeModel", name := "laysBreak", desc := "(II)V" } : Jvm.MethodName)) ∈ lw_tbl := lw_at lw_m11 232 rfl
theorem q2748 : (Jvm.Cond.instanceMethod ({ cls := "RepeatFreeModel", name := "laysBreak", desc := "(II)V" } : Jvm.MethodName)) ∈ lw_all := lw_g (lw_at lw_m11 233 rfl) rfl
theorem q2749 : (Jvm.Cond.code ({ cls := "RepeatFreeModel", name := "laysBreak", desc := "(II)V" } : Jvm.MethodName) prog_13_method_99_code (5 : Nat) (Option.none : Option Jvm.ClassFile.FieldType)) ∈ lw_all := lw_g (lw_at lw_m11 234 rfl) rfl
theorem q2751 : (Jvm.Cond.instanceMethod ({ cls := "RepeatFreeModel", name := "breaks", desc := "(II)I" } : Jvm.MethodName)) ∈ lw_all := lw_g (lw_at lw_m11 236 rfl) rfl
theorem q2752 : (Jvm.Cond.selects "RepeatFreeModel" ({ cls := "RepeatFreeModel", name := "breaks", desc := "(II)I" } : Jvm.MethodName) ({ cls := "RepeatFreeModel", name := "breaks", desc := "(II)I" } : Jvm.MethodName)) ∈ lw_all := lw_g (lw_at lw_m11 237 rfl) rfl
theorem q2753 : (Jvm.Cond.code ({ cls := "RepeatFreeModel", name := "breaks", desc := "(II)I" } : Jvm.MethodName) prog_13_method_101_code (5 : Nat) (Option.some Jvm.ClassFile.FieldType.int)) ∈ lw_all := lw_g (lw_at lw_m11 238 rfl) rfl
theorem q2755 : (Jvm.Cond.instanceMethod ({ cls := "RepeatFreeModel", name := "grows", desc := "(I)I" } : Jvm.MethodName)) ∈ lw_all := lw_g (lw_at lw_m12 0 rfl) rfl
theorem q2756 : (Jvm.Cond.selects "RepeatFreeModel" ({ cls := "RepeatFreeModel", name := "grows", desc := "(I)I" } : Jvm.MethodName) ({ cls := "RepeatFreeModel", name := "grows", desc := "(I)I" } : Jvm.MethodName)) ∈ lw_all := lw_g (lw_at lw_m12 1 rfl) rfl
theorem q2757 : (Jvm.Cond.code ({ cls := "RepeatFreeModel", name := "grows", desc := "(I)I" } : Jvm.MethodName) prog_13_method_103_code (4 : Nat) (Option.some Jvm.ClassFile.FieldType.int)) ∈ lw_all := lw_g (lw_at lw_m12 2 rfl) rfl
theorem q2758 : (Jvm.Cond.methodLink "RepeatFreeModel" (343 : Nat) ({ cls := "RepeatFreeModel", name := "doesGrow", desc := "(II)Z" } : Jvm.MethodName)) ∈ lw_all := lw_g (lw_at lw_m12 3 rfl) rfl
theorem q2759 : (Jvm.Cond.privateMethod ({ cls := "RepeatFreeModel", name := "doesGrow", desc := "(II)Z" } : Jvm.MethodName)) ∈ lw_tbl := lw_at lw_m12 4 rfl
theorem q2760 : (Jvm.Cond.instanceMethod ({ cls := "RepeatFreeModel", name := "doesGrow", desc := "(II)Z" } : Jvm.MethodName)) ∈ lw_all := lw_g (lw_at lw_m12 5 rfl) rfl
theorem q2761 : (Jvm.Cond.code ({ cls := "RepeatFreeModel", name := "doesGrow", desc := "(II)Z" } : Jvm.MethodName) prog_13_method_102_code (3 : Nat) (Option.some Jvm.ClassFile.FieldType.boolean)) ∈ lw_all := lw_g (lw_at lw_m12 6 rfl) rfl
theorem q2763 : (Jvm.Cond.instanceMethod ({ cls := "RepeatFreeModel", name := "uniform", desc := "(I)I" } : Jvm.MethodName)) ∈ lw_all := lw_g (lw_at lw_m12 8 rfl) rfl
theorem q2764 : (Jvm.Cond.selects "RepeatFreeModel" ({ cls := "RepeatFreeModel", name := "uniform", desc := "(I)I" } : Jvm.MethodName) ({ cls := "RepeatFreeModel", name := "uniform", desc := "(I)I" } : Jvm.MethodName)) ∈ lw_all := lw_g (lw_at lw_m12 9 rfl) rfl
theorem q2765 : (Jvm.Cond.code ({ cls := "RepeatFreeModel", name := "uniform", desc := "(I)I" } : Jvm.MethodName) prog_13_method_104_code (3 : Nat) (Option.some Jvm.ClassFile.FieldType.int)) ∈ lw_all := lw_g (lw_at lw_m12 10 rfl) rfl
theorem q2767 : (Jvm.Cond.instanceMethod ({ cls := "RepeatFreeModel", name := "fill", desc := "(III)I" } : Jvm.MethodName)) ∈ lw_all := lw_g (lw_at lw_m12 12 rfl) rfl
theorem q2768 : (Jvm.Cond.selects "RepeatFreeModel" ({ cls := "RepeatFreeModel", name := "fill", desc := "(III)I" } : Jvm.MethodName) ({ cls := "RepeatFreeModel", name := "fill", desc := "(III)I" } : Jvm.MethodName)) ∈ lw_all := lw_g (lw_at lw_m12 13 rfl) rfl
theorem q2769 : (Jvm.Cond.code ({ cls := "RepeatFreeModel", name := "fill", desc := "(III)I" } : Jvm.MethodName) prog_13_method_105_code (7 : Nat) (Option.some Jvm.ClassFile.FieldType.int)) ∈ lw_all := lw_g (lw_at lw_m12 14 rfl) rfl
theorem q2771 : (Jvm.Cond.instanceMethod ({ cls := "RepeatFreeModel", name := "sources", desc := "(I)J" } : Jvm.MethodName)) ∈ lw_all := lw_g (lw_at lw_m12 16 rfl) rfl
theorem q2772 : (Jvm.Cond.selects "RepeatFreeModel" ({ cls := "RepeatFreeModel", name := "sources", desc := "(I)J" } : Jvm.MethodName) ({ cls := "RepeatFreeModel", name := "sources", desc := "(I)J" } : Jvm.MethodName)) ∈ lw_all := lw_g (lw_at lw_m12 17 rfl) rfl
theorem q2773 : (Jvm.Cond.code ({ cls := "RepeatFreeModel", name := "sources", desc := "(I)J" } : Jvm.MethodName) prog_13_method_106_code (7 : Nat) (Option.some Jvm.ClassFile.FieldType.long)) ∈ lw_all := lw_g (lw_at lw_m12 18 rfl) rfl
theorem q2775 : (Jvm.Cond.instanceMethod ({ cls := "RepeatFreeModel", name := "code", desc := "(I)Z" } : Jvm.MethodName)) ∈ lw_all := lw_g (lw_at lw_m12 20 rfl) rfl
theorem q2776 : (Jvm.Cond.selects "RepeatFreeModel" ({ cls := "RepeatFreeModel", name := "code", desc := "(I)Z" } : Jvm.MethodName) ({ cls := "RepeatFreeModel", name := "code", desc := "(I)Z" } : Jvm.MethodName)) ∈ lw_all := lw_g (lw_at lw_m12 21 rfl) rfl
theorem q2777 : (Jvm.Cond.code ({ cls := "RepeatFreeModel", name := "code", desc := "(I)Z" } : Jvm.MethodName) prog_13_method_108_code (6 : Nat) (Option.some Jvm.ClassFile.FieldType.boolean)) ∈ lw_all := lw_g (lw_at lw_m12 22 rfl) rfl
theorem q2778 : (Jvm.Cond.methodLink "RepeatFreeModel" (349 : Nat) ({ cls := "RepeatFreeModel", name := "against", desc := "(IIII)Z" } : Jvm.MethodName)) ∈ lw_all := lw_g (lw_at lw_m12 23 rfl) rfl
theorem q2779 : (Jvm.Cond.privateMethod ({ cls := "RepeatFreeModel", name := "against", desc := "(IIII)Z" } : Jvm.MethodName)) ∈ lw_tbl := lw_at lw_m12 24 rfl
theorem q2780 : (Jvm.Cond.instanceMethod ({ cls := "RepeatFreeModel", name := "against", desc := "(IIII)Z" } : Jvm.MethodName)) ∈ lw_all := lw_g (lw_at lw_m12 25 rfl) rfl
theorem q2781 : (Jvm.Cond.code ({ cls := "RepeatFreeModel", name := "against", desc := "(IIII)Z" } : Jvm.MethodName) prog_13_method_107_code (9 : Nat) (Option.some Jvm.ClassFile.FieldType.boolean)) ∈ lw_all := lw_g (lw_at lw_m12 26 rfl) rfl
theorem q2783 : (Jvm.Cond.instanceMethod ({ cls := "RepeatFreeModel", name := "met", desc := "(II)I" } : Jvm.MethodName)) ∈ lw_all := lw_g (lw_at lw_m12 28 rfl) rfl
theorem q2784 : (Jvm.Cond.selects "RepeatFreeModel" ({ cls := "RepeatFreeModel", name := "met", desc := "(II)I" } : Jvm.MethodName) ({ cls := "RepeatFreeModel", name := "met", desc := "(II)I" } : Jvm.MethodName)) ∈ lw_all := lw_g (lw_at lw_m12 29 rfl) rfl
theorem q2785 : (Jvm.Cond.code ({ cls := "RepeatFreeModel", name := "met", desc := "(II)I" } : Jvm.MethodName) prog_13_method_110_code (5 : Nat) (Option.some Jvm.ClassFile.FieldType.int)) ∈ lw_all := lw_g (lw_at lw_m12 30 rfl) rfl
theorem q2786 : (Jvm.Cond.methodLink "RepeatFreeModel" (353 : Nat) ({ cls := "RepeatFreeModel", name := "noPattern", desc := "(I)Z" } : Jvm.MethodName)) ∈ lw_all := lw_g (lw_at lw_m12 31 rfl) rfl
theorem q2787 : (Jvm.Cond.privateMethod ({ cls := "RepeatFreeModel", name := "noPattern", desc := "(I)Z" } : Jvm.MethodName)) ∈ lw_tbl := lw_at lw_m12 32 rfl
theorem q2788 : (Jvm.Cond.instanceMethod ({ cls := "RepeatFreeModel", name := "noPattern", desc := "(I)Z" } : Jvm.MethodName)) ∈ lw_all := lw_g (lw_at lw_m12 33 rfl) rfl
theorem q2789 : (Jvm.Cond.code ({ cls := "RepeatFreeModel", name := "noPattern", desc := "(I)Z" } : Jvm.MethodName) prog_13_method_109_code (2 : Nat) (Option.some Jvm.ClassFile.FieldType.boolean)) ∈ lw_all := lw_g (lw_at lw_m12 34 rfl) rfl
theorem q2791 : (Jvm.Cond.instanceMethod ({ cls := "RepeatFreeModel", name := "whole", desc := "(III)I" } : Jvm.MethodName)) ∈ lw_all := lw_g (lw_at lw_m12 36 rfl) rfl
theorem q2792 : (Jvm.Cond.selects "RepeatFreeModel" ({ cls := "RepeatFreeModel", name := "whole", desc := "(III)I" } : Jvm.MethodName) ({ cls := "RepeatFreeModel", name := "whole", desc := "(III)I" } : Jvm.MethodName)) ∈ lw_all := lw_g (lw_at lw_m12 37 rfl) rfl
theorem q2793 : (Jvm.Cond.code ({ cls := "RepeatFreeModel", name := "whole", desc := "(III)I" } : Jvm.MethodName) prog_13_method_111_code (6 : Nat) (Option.some Jvm.ClassFile.FieldType.int)) ∈ lw_all := lw_g (lw_at lw_m12 38 rfl) rfl
theorem q2795 : (Jvm.Cond.instanceMethod ({ cls := "RepeatFreeModel", name := "cannot", desc := "(I)Z" } : Jvm.MethodName)) ∈ lw_all := lw_g (lw_at lw_m12 40 rfl) rfl
theorem q2796 : (Jvm.Cond.selects "RepeatFreeModel" ({ cls := "RepeatFreeModel", name := "cannot", desc := "(I)Z" } : Jvm.MethodName) ({ cls := "RepeatFreeModel", name := "cannot", desc := "(I)Z" } : Jvm.MethodName)) ∈ lw_all := lw_g (lw_at lw_m12 41 rfl) rfl
theorem q2797 : (Jvm.Cond.code ({ cls := "RepeatFreeModel", name := "cannot", desc := "(I)Z" } : Jvm.MethodName) prog_13_method_116_code (2 : Nat) (Option.some Jvm.ClassFile.FieldType.boolean)) ∈ lw_all := lw_g (lw_at lw_m12 42 rfl) rfl
theorem q2798 : (Jvm.Cond.methodLink "RepeatFreeModel" (365 : Nat) ({ cls := "RepeatFreeModel", name := "cannotBe", desc := "(II)Z" } : Jvm.MethodName)) ∈ lw_all := lw_g (lw_at lw_m12 43 rfl) rfl
theorem q2799 : (Jvm.Cond.privateMethod ({ cls := "RepeatFreeModel", name := "cannotBe", desc := "(II)Z" } : Jvm.MethodName)) ∈ lw_tbl := lw_at lw_m12 44 rfl
theorem q2800 : (Jvm.Cond.instanceMethod ({ cls := "RepeatFreeModel", name := "cannotBe", desc := "(II)Z" } : Jvm.MethodName)) ∈ lw_all := lw_g (lw_at lw_m12 45 rfl) rfl
theorem q2801 : (Jvm.Cond.code ({ cls := "RepeatFreeModel", name := "cannotBe", desc := "(II)Z" } : Jvm.MethodName) prog_13_method_115_code (6 : Nat) (Option.some Jvm.ClassFile.FieldType.boolean)) ∈ lw_all := lw_g (lw_at lw_m12 46 rfl) rfl
theorem q2802 : (Jvm.Cond.methodLink "RepeatFreeModel" (359 : Nat) ({ cls := "RepeatFreeModel", name := "lettersOf", desc := "(I)I" } : Jvm.MethodName)) ∈ lw_all := lw_g (lw_at lw_m12 47 rfl) rfl
theorem q2803 : (Jvm.Cond.privateMethod ({ cls := "RepeatFreeModel", name := "lettersOf", desc := "(I)I" } : Jvm.MethodName)) ∈ lw_tbl := lw_at lw_m12 48 rfl
theorem q2804 : (Jvm.Cond.instanceMethod ({ cls := "RepeatFreeModel", name := "lettersOf", desc := "(I)I" } : Jvm.MethodName)) ∈ lw_all := lw_g (lw_at lw_m12 49 rfl) rfl
theorem q2805 : (Jvm.Cond.code ({ cls := "RepeatFreeModel", name := "lettersOf", desc := "(I)I" } : Jvm.MethodName) prog_13_method_112_code (4 : Nat) (Option.some Jvm.ClassFile.FieldType.int)) ∈ lw_all := lw_g (lw_at lw_m12 50 rfl) rfl
theorem q2806 : (Jvm.Cond.methodLink "RepeatFreeModel" (362 : Nat) ({ cls := "RepeatFreeModel", name := "isLoose", desc := "(III)Z" } : Jvm.MethodName)) ∈ lw_all := lw_g (lw_at lw_m12 51 rfl) rfl
theorem q2807 : (Jvm.Cond.privateMethod ({ cls := "RepeatFreeModel", name := "isLoose", desc := "(III)Z" } : Jvm.MethodName)) ∈ lw_tbl := lw_at lw_m12 52 rfl
theorem q2808 : (Jvm.Cond.instanceMethod ({ cls := "RepeatFreeModel", name := "isLoose", desc := "(III)Z" } : Jvm.MethodName)) ∈ lw_all := lw_g (lw_at lw_m12 53 rfl) rfl
theorem q2809 : (Jvm.Cond.code ({ cls := "RepeatFreeModel", name := "isLoose", desc := "(III)Z" } : Jvm.MethodName) prog_13_method_114_code (7 : Nat) (Option.some Jvm.ClassFile.FieldType.boolean)) ∈ lw_all := lw_g (lw_at lw_m12 54 rfl) rfl
theorem q2810 : (Jvm.Cond.methodLink "RepeatFreeModel" (356 : Nat) ({ cls := "RepeatFreeModel", name := "endOf", desc := "(I)I" } : Jvm.MethodName)) ∈ lw_all := lw_g (lw_at lw_m12 55 rfl) rfl
theorem q2811 : (Jvm.Cond.privateMethod ({ cls := "RepeatFreeModel", name := "endOf", desc := "(I)I" } : Jvm.MethodName)) ∈ lw_tbl := lw_at lw_m12 56 rfl
theorem q2812 : (Jvm.Cond.instanceMethod ({ cls := "RepeatFreeModel", name := "endOf", desc := "(I)I" } : Jvm.MethodName)) ∈ lw_all := lw_g (lw_at lw_m12 57 rfl) rfl
theorem q2813 : (Jvm.Cond.code ({ cls := "RepeatFreeModel", name := "endOf", desc := "(I)I" } : Jvm.MethodName) prog_13_method_113_code (3 : Nat) (Option.some Jvm.ClassFile.FieldType.int)) ∈ lw_all := lw_g (lw_at lw_m12 58 rfl) rfl
theorem q2815 : (Jvm.Cond.instanceMethod ({ cls := "RepeatFreeModel", name := "loose", desc := "(II)I" } : Jvm.MethodName)) ∈ lw_all := lw_g (lw_at lw_m12 60 rfl) rfl
theorem q2816 : (Jvm.Cond.selects "RepeatFreeModel" ({ cls := "RepeatFreeModel", name := "loose", desc := "(II)I" } : Jvm.MethodName) ({ cls := "RepeatFreeModel", name := "loose", desc := "(II)I" } : Jvm.MethodName)) ∈ lw_all := lw_g (lw_at lw_m12 61 rfl) rfl
theorem q2817 : (Jvm.Cond.code ({ cls := "RepeatFreeModel", name := "loose", desc := "(II)I" } : Jvm.MethodName) prog_13_method_117_code (5 : Nat) (Option.some Jvm.ClassFile.FieldType.int)) ∈ lw_all := lw_g (lw_at lw_m12 62 rfl) rfl
theorem q2819 : (Jvm.Cond.instanceMethod ({ cls := "RepeatFreeModel", name := "pattern", desc := "(II)I" } : Jvm.MethodName)) ∈ lw_all := lw_g (lw_at lw_m12 64 rfl) rfl
theorem q2820 : (Jvm.Cond.selects "RepeatFreeModel" ({ cls := "RepeatFreeModel", name := "pattern", desc := "(II)I" } : Jvm.MethodName) ({ cls := "RepeatFreeModel", name := "pattern", desc := "(II)I" } : Jvm.MethodName)) ∈ lw_all := lw_g (lw_at lw_m12 65 rfl) rfl
theorem q2821 : (Jvm.Cond.code ({ cls := "RepeatFreeModel", name := "pattern", desc := "(II)I" } : Jvm.MethodName) prog_13_method_118_code (3 : Nat) (Option.some Jvm.ClassFile.FieldType.int)) ∈ lw_all := lw_g (lw_at lw_m12 66 rfl) rfl
theorem q2823 : (Jvm.Cond.instanceMethod ({ cls := "RepeatFreeModel", name := "limit", desc := "(III)I" } : Jvm.MethodName)) ∈ lw_all := lw_g (lw_at lw_m12 68 rfl) rfl
theorem q2824 : (Jvm.Cond.selects "RepeatFreeModel" ({ cls := "RepeatFreeModel", name := "limit", desc := "(III)I" } : Jvm.MethodName) ({ cls := "RepeatFreeModel", name := "limit", desc := "(III)I" } : Jvm.MethodName)) ∈ lw_all := lw_g (lw_at lw_m12 69 rfl) rfl
theorem q2825 : (Jvm.Cond.code ({ cls := "RepeatFreeModel", name := "limit", desc := "(III)I" } : Jvm.MethodName) prog_13_method_119_code (5 : Nat) (Option.some Jvm.ClassFile.FieldType.int)) ∈ lw_all := lw_g (lw_at lw_m12 70 rfl) rfl
theorem q2827 : (Jvm.Cond.instanceMethod ({ cls := "RepeatFreeModel", name := "avoid", desc := "(IZ)Z" } : Jvm.MethodName)) ∈ lw_all := lw_g (lw_at lw_m12 72 rfl) rfl
theorem q2828 : (Jvm.Cond.selects "RepeatFreeModel" ({ cls := "RepeatFreeModel", name := "avoid", desc := "(IZ)Z" } : Jvm.MethodName) ({ cls := "RepeatFreeModel", name := "avoid", desc := "(IZ)Z" } : Jvm.MethodName)) ∈ lw_all := lw_g (lw_at lw_m12 73 rfl) rfl
theorem q2829 : (Jvm.Cond.code ({ cls := "RepeatFreeModel", name := "avoid", desc := "(IZ)Z" } : Jvm.MethodName) prog_13_method_120_code (4 : Nat) (Option.some Jvm.ClassFile.FieldType.boolean)) ∈ lw_all := lw_g (lw_at lw_m12 74 rfl) rfl
theorem q2831 : (Jvm.Cond.instanceMethod ({ cls := "RepeatFreeModel", name := "count", desc := "(I)I" } : Jvm.MethodName)) ∈ lw_all := lw_g (lw_at lw_m12 76 rfl) rfl
theorem q2832 : (Jvm.Cond.selects "RepeatFreeModel" ({ cls := "RepeatFreeModel", name := "count", desc := "(I)I" } : Jvm.MethodName) ({ cls := "RepeatFreeModel", name := "count", desc := "(I)I" } : Jvm.MethodName)) ∈ lw_all := lw_g (lw_at lw_m12 77 rfl) rfl
theorem q2833 : (Jvm.Cond.code ({ cls := "RepeatFreeModel", name := "count", desc := "(I)I" } : Jvm.MethodName) prog_13_method_121_code (4 : Nat) (Option.some Jvm.ClassFile.FieldType.int)) ∈ lw_all := lw_g (lw_at lw_m12 78 rfl) rfl
theorem q2858 : (Jvm.Cond.castable "RepeatFreeModel" "java/lang/Object") ∈ lw_tbl := lw_at lw_m12 103 rfl
theorem in_X4 : ∀ w ∈ wsX40, w ∈ lw_all := lw_in wsX40 [2294, 2296, 2298, 2300, 2302, 2304, 2306, 2308, 2310, 2312, 2314, 2316, 2318, 2320, 2322, 2324, 2326, 2328, 2330, 2332, 2334, 2336, 2338, 2340, 2342, 2344, 2346, 2348, 2350, 2352, 2354, 2356] (by decide +kernel) (by decide +kernel)
