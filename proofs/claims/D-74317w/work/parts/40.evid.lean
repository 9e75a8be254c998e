/-! Which real method each method is; helpers of the evidence. -/
theorem rI {x : Int} (h : (decide (-2147483648 ≤ x) && decide (x ≤ 2147483647)) = true) : -2147483648 ≤ x ∧ x ≤ 2147483647 := by
  rw [Bool.and_eq_true, decide_eq_true_eq, decide_eq_true_eq] at h; exact h
theorem rL {x : Int} (h : (decide (-9223372036854775808 ≤ x) && decide (x ≤ 9223372036854775807)) = true) : -9223372036854775808 ≤ x ∧ x ≤ 9223372036854775807 := by
  rw [Bool.and_eq_true, decide_eq_true_eq, decide_eq_true_eq] at h; exact h
theorem b8 {x : Int} (h : (decide (-128 ≤ x) && decide (x ≤ 127)) = true) : (Int8.ofInt x).toInt32 = Int32.ofInt x := by
  rw [Bool.and_eq_true, decide_eq_true_eq, decide_eq_true_eq] at h
  rw [← Int32.toInt_inj, Int8.toInt_toInt32, o32 (by omega), Int8.toInt_ofInt]
  simp only [Int.bmod, Int8.size]
  split <;> omega
theorem b16 {x : Int} (h : (decide (-32768 ≤ x) && decide (x ≤ 32767)) = true) : (Int16.ofInt x).toInt32 = Int32.ofInt x := by
  rw [Bool.and_eq_true, decide_eq_true_eq, decide_eq_true_eq] at h
  rw [← Int32.toInt_inj, Int16.toInt_toInt32, o32 (by omega), Int16.toInt_ofInt]
  simp only [Int.bmod, Int16.size]
  split <;> omega
theorem jO {a b t : Int} (h : (decide (a + b = t) && decide (0 ≤ t)) = true) : a + b = t ∧ 0 ≤ t := by
  rw [Bool.and_eq_true, decide_eq_true_eq, decide_eq_true_eq] at h; exact h
theorem fa {α : Type} {P : α → Prop} {a : α} {l : List α} (h : P a) (t : ∀ x, x ∈ l → P x) : ∀ x, x ∈ a :: l → P x := by
  intro x hx
  rcases List.mem_cons.mp hx with rfl | hx
  · exact h
  · exact t x hx
theorem fn {α : Type} {P : α → Prop} : ∀ x, x ∈ ([] : List α) → P x := fun x hx => by cases hx
def zSR : List (String × Nat × String × Nat) := [("RepeatFree", 456, "", 36), ("RepeatFree$Reader", 9, "letters", 4), ("RepeatFree$Reader", 11, "limit", 6), ("RepeatFree$Reader", 13, "under", 8), ("RepeatFree$Reader", 15, "upto", 10), ("RepeatFree$Reader", 17, "over", 12), ("RepeatFree$Reader", 19, "map", 14), ("RepeatFree$Reader", 21, "pattern", 16), ("RepeatFree$Reader", 23, "avoid", 18), ("RepeatFreeModel", 118, "letters", 4), ("RepeatFreeModel", 120, "limit", 6), ("RepeatFreeModel", 122, "under", 8), ("RepeatFreeModel", 124, "upto", 10), ("RepeatFreeModel", 126, "over", 12), ("RepeatFreeModel", 128, "map", 14), ("RepeatFreeModel", 130, "pattern", 16), ("RepeatFreeModel", 132, "avoid", 18), ("java/lang/StringLatin1", 151, "", 36), ("java/lang/StringUTF16", 295, "", 36), ("java/lang/Throwable", 81, ": ", 28), ("java/util/ArrayDeque", 35, "Sorry, deque too big", 30), ("java/util/Arrays", 337, " > ", 20), ("java/util/BitSet", 144, "fromIndex < 0: ", 34), ("java/util/BitSet", 153, "bitIndex < 0: ", 32), ("java/util/LinkedList", 100, "Index: ", 24), ("java/util/LinkedList", 109, ", Size: ", 26), ("jdk/internal/util/ArraysSupport", 92, "unrecognized basic type: ", 22)]
theorem sr0 : ("RepeatFree", 456, "", 36) ∈ zSR := List.mem_of_getElem? (i := 0) rfl
theorem sr1 : ("RepeatFree$Reader", 9, "letters", 4) ∈ zSR := List.mem_of_getElem? (i := 1) rfl
theorem sr2 : ("RepeatFree$Reader", 11, "limit", 6) ∈ zSR := List.mem_of_getElem? (i := 2) rfl
theorem sr3 : ("RepeatFree$Reader", 13, "under", 8) ∈ zSR := List.mem_of_getElem? (i := 3) rfl
theorem sr4 : ("RepeatFree$Reader", 15, "upto", 10) ∈ zSR := List.mem_of_getElem? (i := 4) rfl
theorem sr5 : ("RepeatFree$Reader", 17, "over", 12) ∈ zSR := List.mem_of_getElem? (i := 5) rfl
theorem sr6 : ("RepeatFree$Reader", 19, "map", 14) ∈ zSR := List.mem_of_getElem? (i := 6) rfl
theorem sr7 : ("RepeatFree$Reader", 21, "pattern", 16) ∈ zSR := List.mem_of_getElem? (i := 7) rfl
theorem sr8 : ("RepeatFree$Reader", 23, "avoid", 18) ∈ zSR := List.mem_of_getElem? (i := 8) rfl
theorem sr9 : ("RepeatFreeModel", 118, "letters", 4) ∈ zSR := List.mem_of_getElem? (i := 9) rfl
theorem sr10 : ("RepeatFreeModel", 120, "limit", 6) ∈ zSR := List.mem_of_getElem? (i := 10) rfl
theorem sr11 : ("RepeatFreeModel", 122, "under", 8) ∈ zSR := List.mem_of_getElem? (i := 11) rfl
theorem sr12 : ("RepeatFreeModel", 124, "upto", 10) ∈ zSR := List.mem_of_getElem? (i := 12) rfl
theorem sr13 : ("RepeatFreeModel", 126, "over", 12) ∈ zSR := List.mem_of_getElem? (i := 13) rfl
theorem sr14 : ("RepeatFreeModel", 128, "map", 14) ∈ zSR := List.mem_of_getElem? (i := 14) rfl
theorem sr15 : ("RepeatFreeModel", 130, "pattern", 16) ∈ zSR := List.mem_of_getElem? (i := 15) rfl
theorem sr16 : ("RepeatFreeModel", 132, "avoid", 18) ∈ zSR := List.mem_of_getElem? (i := 16) rfl
theorem sr17 : ("java/lang/StringLatin1", 151, "", 36) ∈ zSR := List.mem_of_getElem? (i := 17) rfl
theorem sr18 : ("java/lang/StringUTF16", 295, "", 36) ∈ zSR := List.mem_of_getElem? (i := 18) rfl
theorem sr19 : ("java/lang/Throwable", 81, ": ", 28) ∈ zSR := List.mem_of_getElem? (i := 19) rfl
theorem sr20 : ("java/util/ArrayDeque", 35, "Sorry, deque too big", 30) ∈ zSR := List.mem_of_getElem? (i := 20) rfl
theorem sr21 : ("java/util/Arrays", 337, " > ", 20) ∈ zSR := List.mem_of_getElem? (i := 21) rfl
theorem sr22 : ("java/util/BitSet", 144, "fromIndex < 0: ", 34) ∈ zSR := List.mem_of_getElem? (i := 22) rfl
theorem sr23 : ("java/util/BitSet", 153, "bitIndex < 0: ", 32) ∈ zSR := List.mem_of_getElem? (i := 23) rfl
theorem sr24 : ("java/util/LinkedList", 100, "Index: ", 24) ∈ zSR := List.mem_of_getElem? (i := 24) rfl
theorem sr25 : ("java/util/LinkedList", 109, ", Size: ", 26) ∈ zSR := List.mem_of_getElem? (i := 25) rfl
theorem sr26 : ("jdk/internal/util/ArraysSupport", 92, "unrecognized basic type: ", 22) ∈ zSR := List.mem_of_getElem? (i := 26) rfl
theorem fw_0 : ("java/util/LinkedList$ListItr", (⟨"java/util/Iterator", "hasNext", "()Z"⟩ : MethodName), (⟨"java/util/LinkedList$ListItr", "hasNext", "()Z"⟩ : MethodName)) ∈ zFws := List.mem_of_getElem? (i := 0) rfl
theorem fw_1 : ("java/util/LinkedList$ListItr", (⟨"java/util/Iterator", "next", "()Ljava/lang/Object;"⟩ : MethodName), (⟨"java/util/LinkedList$ListItr", "next", "()Ljava/lang/Object;"⟩ : MethodName)) ∈ zFws := List.mem_of_getElem? (i := 1) rfl
theorem fw_2 : ("java/util/LinkedList$ListItr", (⟨"java/util/Iterator", "remove", "()V"⟩ : MethodName), (⟨"java/util/LinkedList$ListItr", "remove", "()V"⟩ : MethodName)) ∈ zFws := List.mem_of_getElem? (i := 2) rfl
theorem fw_3 : ("java/util/LinkedList", (⟨"java/util/List", "contains", "(Ljava/lang/Object;)Z"⟩ : MethodName), (⟨"java/util/LinkedList", "contains", "(Ljava/lang/Object;)Z"⟩ : MethodName)) ∈ zFws := List.mem_of_getElem? (i := 3) rfl
theorem fw_4 : ("java/util/ImmutableCollections$ListN", (⟨"java/util/List", "contains", "(Ljava/lang/Object;)Z"⟩ : MethodName), (⟨"java/util/ImmutableCollections$AbstractImmutableList", "contains", "(Ljava/lang/Object;)Z"⟩ : MethodName)) ∈ zFws := List.mem_of_getElem? (i := 4) rfl
def zI0 : zIs := (yX1_adds, cX1_adds, none, [])
def zI1 : zIs := (yX1_ahead, cX1_ahead, (some .int), [])
def zI2 : zIs := (yX1_around, cX1_around, (some .int), [])
def zI3 : zIs := (yX1_avoid, cX1_avoid, (some .boolean), [])
def zI4 : zIs := (yX1_becomes, cX1_becomes, none, [])
def zI5 : zIs := (yX1_begins, cX1_begins, (some .boolean), [])
def zI6 : zIs := (yX1_border, cX1_border, (some .int), [])
def zI7 : zIs := (yX1_breaks, cX1_breaks, (some .int), [])
def zI8 : zIs := (yX1_breaksBy, cX1_breaksBy, (some .int), [])
def zI9 : zIs := (yX1_can, cX1_can, none, [])
def zI10 : zIs := (yX1_cannot, cX1_cannot, (some .boolean), [])
def zI11 : zIs := (yX1_cannot_2, cX1_cannot_2, (some .boolean), [])
def zI12 : zIs := (yX1_code, cX1_code, (some .boolean), [])
def zI13 : zIs := (yX1_count, cX1_count, (some .int), [])
def zI14 : zIs := (yX1_counts, cX1_counts, (some (.array .long)), [])
def zI15 : zIs := (yX1_end, cX1_end, (some .boolean), [])
def zI16 : zIs := (yX1_ends, cX1_ends, (some .int), [])
def zI17 : zIs := (yX1_endsOf, cX1_endsOf, (some .int), [])
def zI18 : zIs := (yX1_factors, cX1_factors, (some .int), [])
def zI19 : zIs := (yX1_fault, cX1_fault, (some .int), [])
def zI20 : zIs := (yX1_feed, cX1_feed, (some .int), [])
def zI21 : zIs := (yX1_figures, cX1_figures, (some .int), [])
def zI22 : zIs := (yX1_fill, cX1_fill, (some .int), [])
def zI23 : zIs := (yX1_first, cX1_first, (some .int), [])
def zI24 : zIs := (yX1_free, cX1_free, (some .boolean), [])
def zI25 : zIs := (yX1_further, cX1_further, (some .int), [])
def zI26 : zIs := (yX1_goes, cX1_goes, (some .int), [])
def zI27 : zIs := (yX1_greatest, cX1_greatest, (some .int), [])
def zI28 : zIs := (yX1_grows, cX1_grows, (some .int), [])
def zI29 : zIs := (yX1_growth, cX1_growth, (some .int), [])
def zI30 : zIs := (yX1_has, cX1_has, (some .boolean), [])
def zI31 : zIs := (yX1_howMany, cX1_howMany, (some .int), [])
def zI32 : zIs := (yX1_image, cX1_image, (some .int), [])
def zI33 : zIs := (yX1_imaged, cX1_imaged, (some .int), [])
def zI34 : zIs := (yX1_init, cX1_init, none, [])
def zI35 : zIs := (yX1_isAll, cX1_isAll, (some .boolean), [])
def zI36 : zIs := (yX1_isBlank, cX1_isBlank, (some .boolean), [])
def zI37 : zIs := (yX1_isFreeAtEnd, cX1_isFreeAtEnd, (some .boolean), [])
def zI38 : zIs := (yX1_isIn, cX1_isIn, (some .boolean), [])
def zI39 : zIs := (yX1_isLess, cX1_isLess, (some .boolean), [])
def zI40 : zIs := (yX1_isLetter, cX1_isLetter, (some .boolean), [])
def zI41 : zIs := (yX1_isLocal, cX1_isLocal, (some .boolean), [])
def zI42 : zIs := (yX1_isLoose, cX1_isLoose, (some .boolean), [])
def zI43 : zIs := (yX1_isStuck, cX1_isStuck, (some .boolean), [])
def zI44 : zIs := (yX1_isWrong, cX1_isWrong, (some (.object "java/lang/IllegalArgumentException")), [])
def zI45 : zIs := (yX1_keeps, cX1_keeps, (some .int), [])
def zI46 : zIs := (yX1_lays, cX1_lays, none, [])
def zI47 : zIs := (yX1_laysAvoided, cX1_laysAvoided, none, [])
def zI48 : zIs := (yX1_laysImage, cX1_laysImage, (some .boolean), [])
def zI49 : zIs := (yX1_leastPeriod, cX1_leastPeriod, (some .int), [])
def zI50 : zIs := (yX1_length, cX1_length, (some .long), [])
def zI51 : zIs := (yX1_letter, cX1_letter, (some .int), [])
def zI52 : zIs := (yX1_limit, cX1_limit, (some .int), [])
def zI53 : zIs := (yX1_local, cX1_local, (some .int), [])
def zI54 : zIs := (yX1_longest, cX1_longest, (some .int), [])
def zI55 : zIs := (yX1_loose, cX1_loose, (some (.object "java/util/LinkedList")), [])
def zI56 : zIs := (yX1_loose_2, cX1_loose_2, (some .int), [])
def zI57 : zIs := (yX1_lyndon, cX1_lyndon, (some .int), [])
def zI58 : zIs := (yX1_many, cX1_many, (some .int), [])
def zI59 : zIs := (yX1_mapAt, cX1_mapAt, (some (.object "RepeatFree$Mapping")), [])
def zI60 : zIs := (yX1_met, cX1_met, (some .int), [])
def zI61 : zIs := (yX1_mirror, cX1_mirror, (some .int), [])
def zI62 : zIs := (yX1_must, cX1_must, none, [])
def zI63 : zIs := (yX1_mustBe, cX1_mustBe, none, [])
def zI64 : zIs := (yX1_next, cX1_next, (some .int), [])
def zI65 : zIs := (yX1_nth, cX1_nth, (some .int), [])
def zI66 : zIs := (yX1_often, cX1_often, (some .long), [])
def zI67 : zIs := (yX1_order, cX1_order, (some .int), [])
def zI68 : zIs := (yX1_pattern, cX1_pattern, (some .int), [])
def zI69 : zIs := (yX1_patternAt, cX1_patternAt, (some (.object "RepeatFree$Pattern")), [])
def zI70 : zIs := (yX1_period, cX1_period, (some .int), [])
def zI71 : zIs := (yX1_pop, cX1_pop, (some .int), [])
def zI72 : zIs := (yX1_power, cX1_power, (some (.object "RepeatFree$Mapping")), [])
def zI73 : zIs := (yX1_power_2, cX1_power_2, (some .int), [])
def zI74 : zIs := (yX1_push, cX1_push, (some .int), [])
def zI75 : zIs := (yX1_rank, cX1_rank, (some .int), [])
def zI76 : zIs := (yX1_read, cX1_read, (some .int), [(5, 24, 27, 82)])
def zI77 : zIs := (yX1_rest, cX1_rest, (some (.object "java/lang/String")), [])
def zI78 : zIs := (yX1_run, cX1_run, (some .int), [])
def zI79 : zIs := (yX1_runs, cX1_runs, (some (.object "java/util/LinkedList")), [])
def zI80 : zIs := (yX1_sources, cX1_sources, (some .long), [])
def zI81 : zIs := (yX1_stands, cX1_stands, (some .boolean), [])
def zI82 : zIs := (yX1_stuck, cX1_stuck, (some .int), [])
def zI83 : zIs := (yX1_sum, cX1_sum, (some .long), [])
def zI84 : zIs := (yX1_text, cX1_text, (some (.object "java/lang/String")), [])
def zI85 : zIs := (yX1_thereIs, cX1_thereIs, none, [])
def zI86 : zIs := (yX1_took, cX1_took, (some .int), [])
def zI87 : zIs := (yX1_turned, cX1_turned, (some .int), [])
def zI88 : zIs := (yX1_undo, cX1_undo, (some .int), [])
def zI89 : zIs := (yX1_uniform, cX1_uniform, (some .int), [])
def zI90 : zIs := (yX1_whole, cX1_whole, (some .int), [])
def zI91 : zIs := (yX1_without, cX1_without, (some (.object "java/lang/String")), [])
def zI92 : zIs := (yX1_word, cX1_word, (some .int), [])
def zI93 : zIs := (yX2_init, cX2_init, none, [])
def zI94 : zIs := (yX2_isNamed, cX2_isNamed, (some .boolean), [])
def zI95 : zIs := (yX2_patternOf, cX2_patternOf, (some (.object "RepeatFree$Pattern")), [])
def zI96 : zIs := (yX3_alike, cX3_alike, (some .int), [])
def zI97 : zIs := (yX3_comes, cX3_comes, none, [])
def zI98 : zIs := (yX3_endBy, cX3_endBy, (some .int), [])
def zI99 : zIs := (yX3_goes, cX3_goes, (some .int), [])
def zI100 : zIs := (yX3_init, cX3_init, none, [])
def zI101 : zIs := (yX3_isSame, cX3_isSame, (some .boolean), [])
def zI102 : zIs := (yX3_same, cX3_same, (some (.object "RepeatFree$Word")), [])
def zI103 : zIs := (yX7_init, cX7_init, none, [])
def zI104 : zIs := (yX7_isBeyond, cX7_isBeyond, (some .boolean), [])
def zI105 : zIs := (yX9_counts, cX9_counts, (some (.array .long)), [])
def zI106 : zIs := (yX9_init, cX9_init, none, [])
def zI107 : zIs := (yX10_begins, cX10_begins, (some .boolean), [])
def zI108 : zIs := (yX10_firstIn, cX10_firstIn, (some .int), [])
def zI109 : zIs := (yX10_fits, cX10_fits, (some .boolean), [])
def zI110 : zIs := (yX10_fitsBy, cX10_fitsBy, (some .boolean), [])
def zI111 : zIs := (yX10_init, cX10_init, none, [])
def zI112 : zIs := (yX10_isAtEnd, cX10_isAtEnd, (some .boolean), [])
def zI113 : zIs := (yX10_letters, cX10_letters, (some .int), [])
def zI114 : zIs := (yX10_sizesIn, cX10_sizesIn, (some (.array .int)), [])
def zI115 : zIs := (yX12_finds, cX12_finds, (some .boolean), [])
def zI116 : zIs := (yX12_findsNext, cX12_findsNext, (some .boolean), [])
def zI117 : zIs := (yX12_init, cX12_init, none, [])
def zI118 : zIs := (yX11_compareTo, cX11_compareTo, (some .int), [])
def zI119 : zIs := (yX11_init, cX11_init, none, [])
def zI120 : zIs := (yX5_ends, cX5_ends, none, [])
def zI121 : zIs := (yX5_here, cX5_here, (some .int), [])
def zI122 : zIs := (yX5_init, cX5_init, none, [])
def zI123 : zIs := (yX5_letters, cX5_letters, (some (.object "java/lang/String")), [])
def zI124 : zIs := (yX5_limit, cX5_limit, none, [])
def zI125 : zIs := (yX5_line, cX5_line, none, [])
def zI126 : zIs := (yX5_map, cX5_map, none, [])
def zI127 : zIs := (yX5_name, cX5_name, (some (.object "java/lang/String")), [])
def zI128 : zIs := (yX5_needs, cX5_needs, none, [])
def zI129 : zIs := (yX5_number, cX5_number, (some .int), [])
def zI130 : zIs := (yX5_takes, cX5_takes, (some .boolean), [])
def zI131 : zIs := (yX5_whole, cX5_whole, (some (.object "RepeatFree$Told")), [])
def zI132 : zIs := (yX5_word, cX5_word, (some (.object "java/lang/String")), [])
def zI133 : zIs := (yX6_init, cX6_init, none, [])
def zI134 : zIs := (yX4_against, cX4_against, (some .boolean), [])
def zI135 : zIs := (yX4_ahead, cX4_ahead, (some .int), [])
def zI136 : zIs := (yX4_areAlike, cX4_areAlike, (some .boolean), [])
def zI137 : zIs := (yX4_asksSign, cX4_asksSign, none, [])
def zI138 : zIs := (yX4_asksWord, cX4_asksWord, none, [])
def zI139 : zIs := (yX4_at, cX4_at, (some .int), [])
def zI140 : zIs := (yX4_avoid, cX4_avoid, (some .boolean), [])
def zI141 : zIs := (yX4_avoidLine, cX4_avoidLine, none, [])
def zI142 : zIs := (yX4_becomes, cX4_becomes, none, [])
def zI143 : zIs := (yX4_becomesFound, cX4_becomesFound, none, [])
def zI144 : zIs := (yX4_begins, cX4_begins, none, [])
def zI145 : zIs := (yX4_blanks, cX4_blanks, none, [])
def zI146 : zIs := (yX4_border, cX4_border, (some .int), [])
def zI147 : zIs := (yX4_breaks, cX4_breaks, (some .int), [])
def zI148 : zIs := (yX4_cannot, cX4_cannot, (some .boolean), [])
def zI149 : zIs := (yX4_cannotBe, cX4_cannotBe, (some .boolean), [])
def zI150 : zIs := (yX4_code, cX4_code, (some .boolean), [])
def zI151 : zIs := (yX4_count, cX4_count, (some .int), [])
def zI152 : zIs := (yX4_countBy, cX4_countBy, (some .int), [])
def zI153 : zIs := (yX4_doesBreak, cX4_doesBreak, (some .boolean), [])
def zI154 : zIs := (yX4_doesGrow, cX4_doesGrow, (some .boolean), [])
def zI155 : zIs := (yX4_end, cX4_end, (some .boolean), [])
def zI156 : zIs := (yX4_endOf, cX4_endOf, (some .int), [])
def zI157 : zIs := (yX4_ends, cX4_ends, (some .int), [])
def zI158 : zIs := (yX4_endsAt, cX4_endsAt, (some .int), [])
def zI159 : zIs := (yX4_endsBy, cX4_endsBy, (some .boolean), [])
def zI160 : zIs := (yX4_factors, cX4_factors, (some .int), [])
def zI161 : zIs := (yX4_fails, cX4_fails, none, [])
def zI162 : zIs := (yX4_fault, cX4_fault, (some .int), [])
def zI163 : zIs := (yX4_feed, cX4_feed, (some .int), [])
def zI164 : zIs := (yX4_fill, cX4_fill, (some .int), [])
def zI165 : zIs := (yX4_first, cX4_first, (some .int), [])
def zI166 : zIs := (yX4_firstSizes, cX4_firstSizes, (some .boolean), [])
def zI167 : zIs := (yX4_fitsAt, cX4_fitsAt, (some .boolean), [])
def zI168 : zIs := (yX4_free, cX4_free, (some .boolean), [])
def zI169 : zIs := (yX4_freeOf, cX4_freeOf, (some .int), [])
def zI170 : zIs := (yX4_freshName, cX4_freshName, none, [])
def zI171 : zIs := (yX4_further, cX4_further, (some .int), [])
def zI172 : zIs := (yX4_goes, cX4_goes, (some .int), [])
def zI173 : zIs := (yX4_goesOn, cX4_goesOn, (some .boolean), [])
def zI174 : zIs := (yX4_greatest, cX4_greatest, (some .int), [])
def zI175 : zIs := (yX4_grows, cX4_grows, (some .int), [])
def zI176 : zIs := (yX4_growth, cX4_growth, (some .int), [])
def zI177 : zIs := (yX4_hasFailed, cX4_hasFailed, (some .boolean), [])
def zI178 : zIs := (yX4_hasLetter, cX4_hasLetter, (some .boolean), [])
def zI179 : zIs := (yX4_image, cX4_image, (some .int), [])
def zI180 : zIs := (yX4_imageOf, cX4_imageOf, (some .int), [])
def zI181 : zIs := (yX4_imaged, cX4_imaged, (some .int), [])
def zI182 : zIs := (yX4_images, cX4_images, (some .int), [])
def zI183 : zIs := (yX4_in, cX4_in, (some .boolean), [])
def zI184 : zIs := (yX4_init, cX4_init, none, [])
def zI185 : zIs := (yX4_isAheadOf, cX4_isAheadOf, (some .boolean), [])
def zI186 : zIs := (yX4_isAt, cX4_isAt, (some .boolean), [])
def zI187 : zIs := (yX4_isBeyond, cX4_isBeyond, (some .boolean), [])
def zI188 : zIs := (yX4_isFree, cX4_isFree, (some .boolean), [])
def zI189 : zIs := (yX4_isLoose, cX4_isLoose, (some .boolean), [])
def zI190 : zIs := (yX4_isName, cX4_isName, (some .boolean), [])
def zI191 : zIs := (yX4_isRepeated, cX4_isRepeated, (some .boolean), [])
def zI192 : zIs := (yX4_isStuck, cX4_isStuck, (some .boolean), [])
def zI193 : zIs := (yX4_isWord, cX4_isWord, (some .boolean), [])
def zI194 : zIs := (yX4_keeps, cX4_keeps, (some .int), [])
def zI195 : zIs := (yX4_laysAside, cX4_laysAside, none, [])
def zI196 : zIs := (yX4_laysBreak, cX4_laysBreak, none, [])
def zI197 : zIs := (yX4_laysCounts, cX4_laysCounts, none, [])
def zI198 : zIs := (yX4_laysGiven, cX4_laysGiven, none, [])
def zI199 : zIs := (yX4_length, cX4_length, (some .long), [])
def zI200 : zIs := (yX4_lengthOf, cX4_lengthOf, (some .long), [])
def zI201 : zIs := (yX4_letter, cX4_letter, (some .int), [])
def zI202 : zIs := (yX4_letterOf, cX4_letterOf, (some .int), [])
def zI203 : zIs := (yX4_letters, cX4_letters, (some .int), [])
def zI204 : zIs := (yX4_lettersOf, cX4_lettersOf, (some .int), [])
def zI205 : zIs := (yX4_limit, cX4_limit, (some .int), [])
def zI206 : zIs := (yX4_limitLine, cX4_limitLine, none, [])
def zI207 : zIs := (yX4_line, cX4_line, none, [])
def zI208 : zIs := (yX4_local, cX4_local, (some .int), [])
def zI209 : zIs := (yX4_longBy, cX4_longBy, (some .int), [])
def zI210 : zIs := (yX4_longOf, cX4_longOf, (some .int), [])
def zI211 : zIs := (yX4_longest, cX4_longest, (some .int), [])
def zI212 : zIs := (yX4_loose, cX4_loose, (some .int), [])
def zI213 : zIs := (yX4_lyndon, cX4_lyndon, (some .int), [])
def zI214 : zIs := (yX4_many, cX4_many, (some .int), [])
def zI215 : zIs := (yX4_mapLine, cX4_mapLine, none, [])
def zI216 : zIs := (yX4_meets, cX4_meets, (some .boolean), [])
def zI217 : zIs := (yX4_met, cX4_met, (some .int), [])
def zI218 : zIs := (yX4_mirror, cX4_mirror, (some .int), [])
def zI219 : zIs := (yX4_named, cX4_named, (some .int), [])
def zI220 : zIs := (yX4_next, cX4_next, (some .int), [])
def zI221 : zIs := (yX4_nextSizes, cX4_nextSizes, (some .boolean), [])
def zI222 : zIs := (yX4_noLetter, cX4_noLetter, (some .boolean), [])
def zI223 : zIs := (yX4_noMap, cX4_noMap, (some .boolean), [])
def zI224 : zIs := (yX4_noPattern, cX4_noPattern, (some .boolean), [])
def zI225 : zIs := (yX4_noPower, cX4_noPower, (some .boolean), [])
def zI226 : zIs := (yX4_nth, cX4_nth, (some .int), [])
def zI227 : zIs := (yX4_number, cX4_number, (some .int), [])
def zI228 : zIs := (yX4_often, cX4_often, (some .long), [])
def zI229 : zIs := (yX4_pattern, cX4_pattern, (some .int), [])
def zI230 : zIs := (yX4_patternLine, cX4_patternLine, none, [])
def zI231 : zIs := (yX4_period, cX4_period, (some .int), [])
def zI232 : zIs := (yX4_periodOf, cX4_periodOf, (some .int), [])
def zI233 : zIs := (yX4_placed, cX4_placed, (some .int), [])
def zI234 : zIs := (yX4_pop, cX4_pop, (some .int), [])
def zI235 : zIs := (yX4_power, cX4_power, (some .int), [])
def zI236 : zIs := (yX4_push, cX4_push, (some .int), [])
def zI237 : zIs := (yX4_rank, cX4_rank, (some .int), [])
def zI238 : zIs := (yX4_read, cX4_read, (some .int), [])
def zI239 : zIs := (yX4_run, cX4_run, (some .int), [])
def zI240 : zIs := (yX4_runAt, cX4_runAt, (some .int), [])
def zI241 : zIs := (yX4_searches, cX4_searches, (some .boolean), [])
def zI242 : zIs := (yX4_sources, cX4_sources, (some .long), [])
def zI243 : zIs := (yX4_startsSearch, cX4_startsSearch, none, [])
def zI244 : zIs := (yX4_stuck, cX4_stuck, (some .int), [])
def zI245 : zIs := (yX4_takes, cX4_takes, none, [])
def zI246 : zIs := (yX4_takesWord, cX4_takesWord, (some .boolean), [])
def zI247 : zIs := (yX4_thrown, cX4_thrown, (some .int), [])
def zI248 : zIs := (yX4_throwsIf, cX4_throwsIf, (some .boolean), [])
def zI249 : zIs := (yX4_turned, cX4_turned, (some .int), [])
def zI250 : zIs := (yX4_undo, cX4_undo, (some .int), [])
def zI251 : zIs := (yX4_uniform, cX4_uniform, (some .int), [])
def zI252 : zIs := (yX4_whole, cX4_whole, (some .int), [])
def zI253 : zIs := (yX4_word, cX4_word, (some .int), [])
def zI254 : zIs := (yX4_wordMany, cX4_wordMany, (some .int), [])
def zI255 : zIs := (yJ3_add, cJ3_add, (some .boolean), [])
def zI256 : zIs := (yJ3_add_2, cJ3_add_2, none, [])
def zI257 : zIs := (yJ3_checkElementIndex, cJ3_checkElementIndex, none, [])
def zI258 : zIs := (yJ3_checkPositionIndex, cJ3_checkPositionIndex, none, [])
def zI259 : zIs := (yJ3_contains, cJ3_contains, (some .boolean), [])
def zI260 : zIs := (yJ3_get, cJ3_get, (some (.object "java/lang/Object")), [])
def zI261 : zIs := (yJ3_indexOf, cJ3_indexOf, (some .int), [])
def zI262 : zIs := (yJ3_init, cJ3_init, none, [])
def zI263 : zIs := (yJ3_isElementIndex, cJ3_isElementIndex, (some .boolean), [])
def zI264 : zIs := (yJ3_isPositionIndex, cJ3_isPositionIndex, (some .boolean), [])
def zI265 : zIs := (yJ3_linkBefore, cJ3_linkBefore, none, [])
def zI266 : zIs := (yJ3_linkLast, cJ3_linkLast, none, [])
def zI267 : zIs := (yJ3_listIterator, cJ3_listIterator, (some (.object "java/util/ListIterator")), [])
def zI268 : zIs := (yJ3_node, cJ3_node, (some (.object "java/util/LinkedList$Node")), [])
def zI269 : zIs := (yJ3_remove, cJ3_remove, (some (.object "java/lang/Object")), [])
def zI270 : zIs := (yJ3_size, cJ3_size, (some .int), [])
def zI271 : zIs := (yJ3_unlink, cJ3_unlink, (some (.object "java/lang/Object")), [])
def zI272 : zIs := (yJ31_init, cJ31_init, none, [])
def zI273 : zIs := (yJ29_checkForComodification, cJ29_checkForComodification, none, [])
def zI274 : zIs := (yJ29_hasNext, cJ29_hasNext, (some .boolean), [])
def zI275 : zIs := (yJ29_init, cJ29_init, none, [])
def zI276 : zIs := (yJ29_next, cJ29_next, (some (.object "java/lang/Object")), [])
def zI277 : zIs := (yJ29_remove, cJ29_remove, none, [])
def zI278 : zIs := (yJ4_addLast, cJ4_addLast, none, [])
def zI279 : zIs := (yJ4_circularClear, cJ4_circularClear, none, [])
def zI280 : zIs := (yJ4_clear, cJ4_clear, none, [])
def zI281 : zIs := (yJ4_dec, cJ4_dec, (some .int), [])
def zI282 : zIs := (yJ4_elementAt, cJ4_elementAt, (some (.object "java/lang/Object")), [])
def zI283 : zIs := (yJ4_inc, cJ4_inc, (some .int), [])
def zI284 : zIs := (yJ4_init, cJ4_init, none, [])
def zI285 : zIs := (yJ4_isEmpty, cJ4_isEmpty, (some .boolean), [])
def zI286 : zIs := (yJ4_newCapacity, cJ4_newCapacity, (some .int), [])
def zI287 : zIs := (yJ4_pollFirst, cJ4_pollFirst, (some (.object "java/lang/Object")), [])
def zI288 : zIs := (yJ4_pollLast, cJ4_pollLast, (some (.object "java/lang/Object")), [])
def zI289 : zIs := (yJ4_removeFirst, cJ4_removeFirst, (some (.object "java/lang/Object")), [])
def zI290 : zIs := (yJ4_removeLast, cJ4_removeLast, (some (.object "java/lang/Object")), [])
def zI291 : zIs := (yJ4_size, cJ4_size, (some .int), [])
def zI292 : zIs := (yJ4_sub, cJ4_sub, (some .int), [])
def zI293 : zIs := (yJ33_cardinality, cJ33_cardinality, (some .int), [])
def zI294 : zIs := (yJ33_checkInvariants, cJ33_checkInvariants, none, [])
def zI295 : zIs := (yJ33_ensureCapacity, cJ33_ensureCapacity, none, [])
def zI296 : zIs := (yJ33_expandTo, cJ33_expandTo, none, [])
def zI297 : zIs := (yJ33_get, cJ33_get, (some .boolean), [])
def zI298 : zIs := (yJ33_init, cJ33_init, none, [])
def zI299 : zIs := (yJ33_initWords, cJ33_initWords, none, [])
def zI300 : zIs := (yJ33_nextClearBit, cJ33_nextClearBit, (some .int), [])
def zI301 : zIs := (yJ33_nextSetBit, cJ33_nextSetBit, (some .int), [])
def zI302 : zIs := (yJ33_set, cJ33_set, none, [])
def zI303 : zIs := (yJ33_wordIndex, cJ33_wordIndex, (some .int), [])
def zI304 : zIs := (yJ13_append, cJ13_append, (some (.object "java/lang/StringBuilder")), [])
def zI305 : zIs := (yJ13_append_2, cJ13_append_2, (some (.object "java/lang/StringBuilder")), [])
def zI306 : zIs := (yJ13_append_3, cJ13_append_3, (some (.object "java/lang/StringBuilder")), [])
def zI307 : zIs := (yJ13_init, cJ13_init, none, [])
def zI308 : zIs := (yJ13_length, cJ13_length, (some .int), [])
def zI309 : zIs := (yJ13_toString, cJ13_toString, (some (.object "java/lang/String")), [])
def zI310 : zIs := (yJ14_charAt, cJ14_charAt, (some .char), [])
def zI311 : zIs := (yJ14_checkBoundsBeginEnd, cJ14_checkBoundsBeginEnd, none, [])
def zI312 : zIs := (yJ14_checkBoundsOffCount, cJ14_checkBoundsOffCount, (some .int), [])
def zI313 : zIs := (yJ14_checkIndex, cJ14_checkIndex, none, [])
def zI314 : zIs := (yJ14_coder, cJ14_coder, (some .byte), [])
def zI315 : zIs := (yJ14_equals, cJ14_equals, (some .boolean), [])
def zI316 : zIs := (yJ14_getBytes, cJ14_getBytes, none, [])
def zI317 : zIs := (yJ14_hashCode, cJ14_hashCode, (some .int), [])
def zI318 : zIs := (yJ14_init, cJ14_init, none, [])
def zI319 : zIs := (yJ14_init_2, cJ14_init_2, none, [])
def zI320 : zIs := (yJ14_init_3, cJ14_init_3, none, [])
def zI321 : zIs := (yJ14_isEmpty, cJ14_isEmpty, (some .boolean), [])
def zI322 : zIs := (yJ14_isLatin1, cJ14_isLatin1, (some .boolean), [])
def zI323 : zIs := (yJ14_length, cJ14_length, (some .int), [])
def zI324 : zIs := (yJ14_substring, cJ14_substring, (some (.object "java/lang/String")), [])
def zI325 : zIs := (yJ14_substring_2, cJ14_substring_2, (some (.object "java/lang/String")), [])
def zI326 : zIs := (yJ26_compare, cJ26_compare, (some .int), [])
def zI327 : zIs := (yJ26_equals, cJ26_equals, (some .boolean), [])
def zI328 : zIs := (yJ26_init, cJ26_init, none, [])
def zI329 : zIs := (yJ26_intValue, cJ26_intValue, (some .int), [])
def zI330 : zIs := (yJ26_numberOfTrailingZeros, cJ26_numberOfTrailingZeros, (some .int), [])
def zI331 : zIs := (yJ26_valueOf, cJ26_valueOf, (some (.object "java/lang/Integer")), [])
def zI332 : zIs := (yJ11_indexOf, cJ11_indexOf, (some .int), [])
def zI333 : zIs := (yJ11_init, cJ11_init, none, [])
def zI334 : zIs := (yX8_init, cX8_init, none, [])
def zI335 : zIs := (⟨"RepeatFreeLaw", "law", "([I)Z"⟩, cL_law, (some .boolean), [])
def zI336 : zIs := (yX0_avoid, cX0_avoid, (some .int), [(0, 17, 20, 42)])
def zI337 : zIs := (yX0_breaks, cX0_breaks, (some .int), [(0, 10, 13, 42), (0, 10, 17, 13)])
def zI338 : zIs := (yX0_cannot, cX0_cannot, (some .int), [(0, 16, 19, 42)])
def zI339 : zIs := (yX0_code, cX0_code, (some .int), [(0, 16, 19, 42)])
def zI340 : zIs := (yX0_factors, cX0_factors, (some .int), [(0, 9, 12, 13)])
def zI341 : zIs := (yX0_fill, cX0_fill, (some .int), [(0, 12, 15, 42), (0, 12, 19, 13), (0, 12, 23, 22)])
def zI342 : zIs := (yX0_first, cX0_first, (some .int), [(0, 9, 12, 13)])
def zI343 : zIs := (yX0_greatest, cX0_greatest, (some .int), [(0, 9, 12, 30)])
def zI344 : zIs := (yX0_grows, cX0_grows, (some .int), [(0, 9, 12, 42)])
def zI345 : zIs := (yX0_growth, cX0_growth, (some .int), [(0, 9, 12, 13)])
def zI346 : zIs := (yX0_image, cX0_image, (some .int), [(0, 9, 12, 42), (0, 9, 15, 22)])
def zI347 : zIs := (yX0_imaged, cX0_imaged, (some .int), [(0, 12, 15, 42), (0, 12, 19, 13)])
def zI348 : zIs := (yX0_keeps, cX0_keeps, (some .int), [(0, 10, 13, 42), (0, 10, 17, 13)])
def zI349 : zIs := (yX0_length, cX0_length, (some .int), [(0, 11, 14, 42), (0, 11, 18, 13)])
def zI350 : zIs := (yX0_limit, cX0_limit, (some .int), [(0, 12, 15, 13)])
def zI351 : zIs := (yX0_local, cX0_local, (some .int), [(0, 9, 12, 13)])
def zI352 : zIs := (yX0_loose, cX0_loose, (some .int), [(0, 10, 13, 42)])
def zI353 : zIs := (yX0_many, cX0_many, (some .int), [(0, 9, 12, 13)])
def zI354 : zIs := (yX0_met, cX0_met, (some .int), [(0, 10, 13, 42), (0, 10, 17, 30)])
def zI355 : zIs := (yX0_next, cX0_next, (some .int), [(0, 8, 11, 22)])
def zI356 : zIs := (yX0_nth, cX0_nth, (some .int), [(0, 10, 13, 13)])
def zI357 : zIs := (yX0_often, cX0_often, (some .int), [(0, 13, 16, 42), (0, 13, 20, 13)])
def zI358 : zIs := (yX0_pattern, cX0_pattern, (some .int), [(0, 10, 13, 42), (0, 10, 17, 30)])
def zI359 : zIs := (yX0_pop, cX0_pop, (some .int), [(0, 8, 11, 22)])
def zI360 : zIs := (yX0_power, cX0_power, (some .int), [(0, 14, 17, 42), (0, 14, 21, 13)])
def zI361 : zIs := (yX0_push, cX0_push, (some .int), [(0, 9, 12, 13), (0, 9, 15, 22)])
def zI362 : zIs := (yX0_rank, cX0_rank, (some .int), [(0, 8, 11, 22)])
def zI363 : zIs := (yX0_read, cX0_read, (some .int), [(0, 8, 11, 13)])
def zI364 : zIs := (yX0_run, cX0_run, (some .int), [(0, 10, 13, 30)])
def zI365 : zIs := (yX0_sources, cX0_sources, (some .int), [(0, 8, 11, 42)])
def zI366 : zIs := (yX0_stuck, cX0_stuck, (some .int), [(0, 9, 12, 13)])
def zI367 : zIs := (yX0_uniform, cX0_uniform, (some .int), [(0, 9, 12, 42)])
def zI368 : zIs := (yX0_whole, cX0_whole, (some .int), [(0, 12, 15, 42), (0, 12, 19, 30)])
def zI369 : zIs := (yX0_word, cX0_word, (some .int), [(0, 8, 11, 13)])
def zI370 : zIs := (yJ12_append, cJ12_append, (some (.object "java/lang/AbstractStringBuilder")), [])
def zI371 : zIs := (yJ12_append_2, cJ12_append_2, (some (.object "java/lang/AbstractStringBuilder")), [])
def zI372 : zIs := (yJ12_append_3, cJ12_append_3, (some (.object "java/lang/AbstractStringBuilder")), [])
def zI373 : zIs := (yJ12_ensureCapacityInternal, cJ12_ensureCapacityInternal, none, [])
def zI374 : zIs := (yJ12_getValue, cJ12_getValue, (some (.array .byte)), [])
def zI375 : zIs := (yJ12_init, cJ12_init, none, [])
def zI376 : zIs := (yJ12_isLatin1, cJ12_isLatin1, (some .boolean), [])
def zI377 : zIs := (yJ12_length, cJ12_length, (some .int), [])
def zI378 : zIs := (yJ12_newCapacity, cJ12_newCapacity, (some .int), [])
def zI379 : zIs := (yJ12_putStringAt, cJ12_putStringAt, none, [])
def zI380 : zIs := (yJ22_init_3, cJ22_init_3, none, [])
def zI381 : zIs := (yJ34_bitCount, cJ34_bitCount, (some .int), [])
def zI382 : zIs := (yJ34_numberOfTrailingZeros, cJ34_numberOfTrailingZeros, (some .int), [])
def zI383 : zIs := (yJ17_max, cJ17_max, (some .int), [])
def zI384 : zIs := (yJ17_min, cJ17_min, (some .int), [])
def zI385 : zIs := (yJ25_init, cJ25_init, none, [])
def zI386 : zIs := (yJ37_equals, cJ37_equals, (some .boolean), [])
def zI387 : zIs := (yJ37_init, cJ37_init, none, [])
def zI388 : zIs := (yJ19_canEncode, cJ19_canEncode, (some .boolean), [])
def zI389 : zIs := (yJ19_charAt, cJ19_charAt, (some .char), [])
def zI390 : zIs := (yJ19_equals, cJ19_equals, (some .boolean), [])
def zI391 : zIs := (yJ19_hashCode, cJ19_hashCode, (some .int), [])
def zI392 : zIs := (yJ19_newString, cJ19_newString, (some (.object "java/lang/String")), [])
def zI393 : zIs := (yJ21_init_3, cJ21_init_3, none, [])
def zI394 : zIs := (yJ0_init, cJ0_init, none, [])
def zI395 : zIs := (yJ1_init, cJ1_init, none, [])
def zI396 : zIs := (yJ1_listIterator, cJ1_listIterator, (some (.object "java/util/ListIterator")), [])
def zI397 : zIs := (yJ2_init, cJ2_init, none, [])
def zI398 : zIs := (yJ2_iterator, cJ2_iterator, (some (.object "java/util/Iterator")), [])
def zI399 : zIs := (yJ18_checkLength, cJ18_checkLength, none, [])
def zI400 : zIs := (yJ18_copyOf, cJ18_copyOf, (some (.array .byte)), [])
def zI401 : zIs := (yJ18_copyOfRange, cJ18_copyOfRange, (some (.array .byte)), [])
def zI402 : zIs := (yJ18_copyOfRangeByte, cJ18_copyOfRangeByte, (some (.array .byte)), [])
def zI403 : zIs := (yJ18_copyOf_2, cJ18_copyOf_2, (some (.array (.object "java/lang/Object"))), [])
def zI404 : zIs := (yJ18_copyOf_3, cJ18_copyOf_3, (some (.array (.object "java/lang/Object"))), [])
def zI405 : zIs := (yJ18_copyOf_4, cJ18_copyOf_4, (some (.array .long)), [])
def zI406 : zIs := (yJ6_listFromTrustedArray, cJ6_listFromTrustedArray, (some (.object "java/util/List")), [])
def zI407 : zIs := (yJ8_init, cJ8_init, none, [])
def zI408 : zIs := (yJ9_contains, cJ9_contains, (some .boolean), [])
def zI409 : zIs := (yJ9_init, cJ9_init, none, [])
def zI410 : zIs := (yJ5_of, cJ5_of, (some (.object "java/util/List")), [])
def zI411 : zIs := (yJ7_equals, cJ7_equals, (some .boolean), [])
def zI412 : zIs := (yJ7_requireNonNull, cJ7_requireNonNull, (some (.object "java/lang/Object")), [])
def zI413 : zIs := (yJ16_hashCode, cJ16_hashCode, (some .int), [])
def zI414 : zIs := (yJ16_hashCode_2, cJ16_hashCode_2, (some .int), [])
def zI415 : zIs := (yJ16_hashCode_3, cJ16_hashCode_3, (some .int), [])
def zI416 : zIs := (yJ16_hashCode_4, cJ16_hashCode_4, (some .int), [])
def zI417 : zIs := (yJ16_newLength, cJ16_newLength, (some .int), [])
def zI418 : zIs := (yJ16_signedHashCode, cJ16_signedHashCode, (some .int), [])
def zI419 : zIs := (yJ16_vectorizedHashCode, cJ16_vectorizedHashCode, (some .int), [])
def zI420 : zIs := (yJ20_checkFromIndexSize, cJ20_checkFromIndexSize, (some .int), [])
def zI421 : zIs := (yJ20_checkFromToIndex, cJ20_checkFromToIndex, (some .int), [])
def zI422 : zIs := (yJ20_checkIndex, cJ20_checkIndex, (some .int), [])
def zMl0 : List (Nat × zIs) := [(0, zI0), (1, zI1), (2, zI2), (3, zI3), (4, zI4), (5, zI5), (6, zI6), (7, zI7), (8, zI8), (9, zI9), (10, zI10), (11, zI11), (12, zI12), (13, zI13), (14, zI14), (15, zI15)]
def zMl1 : List (Nat × zIs) := [(16, zI16), (17, zI17), (18, zI18), (19, zI19), (20, zI20), (21, zI21), (22, zI22), (23, zI23), (24, zI24), (25, zI25), (26, zI26), (27, zI27), (28, zI28), (29, zI29), (30, zI30), (31, zI31)]
def zMl2 : List (Nat × zIs) := [(32, zI32), (33, zI33), (34, zI34), (35, zI35), (36, zI36), (37, zI37), (38, zI38), (39, zI39), (40, zI40), (41, zI41), (42, zI42), (43, zI43), (44, zI44), (45, zI45), (46, zI46), (47, zI47)]
def zMl3 : List (Nat × zIs) := [(48, zI48), (49, zI49), (50, zI50), (51, zI51), (52, zI52), (53, zI53), (54, zI54), (55, zI55), (56, zI56), (57, zI57), (58, zI58), (59, zI59), (60, zI60), (61, zI61), (62, zI62), (63, zI63)]
def zMl4 : List (Nat × zIs) := [(64, zI64), (65, zI65), (66, zI66), (67, zI67), (68, zI68), (69, zI69), (70, zI70), (71, zI71), (72, zI72), (73, zI73), (74, zI74), (75, zI75), (76, zI76), (77, zI77), (78, zI78), (79, zI79)]
def zMl5 : List (Nat × zIs) := [(80, zI80), (81, zI81), (82, zI82), (83, zI83), (84, zI84), (85, zI85), (86, zI86), (87, zI87), (88, zI88), (89, zI89), (90, zI90), (91, zI91), (92, zI92), (93, zI93), (94, zI94), (95, zI95)]
def zMl6 : List (Nat × zIs) := [(96, zI96), (97, zI97), (98, zI98), (99, zI99), (100, zI100), (101, zI101), (102, zI102), (103, zI103), (104, zI104), (105, zI105), (106, zI106), (107, zI107), (108, zI108), (109, zI109), (110, zI110), (111, zI111)]
def zMl7 : List (Nat × zIs) := [(112, zI112), (113, zI113), (114, zI114), (115, zI115), (116, zI116), (117, zI117), (118, zI118), (119, zI119), (120, zI120), (121, zI121), (122, zI122), (123, zI123), (124, zI124), (125, zI125), (126, zI126), (127, zI127)]
def zMl8 : List (Nat × zIs) := [(128, zI128), (129, zI129), (130, zI130), (131, zI131), (132, zI132), (133, zI133), (134, zI134), (135, zI135), (136, zI136), (137, zI137), (138, zI138), (139, zI139), (140, zI140), (141, zI141), (142, zI142), (143, zI143)]
def zMl9 : List (Nat × zIs) := [(144, zI144), (145, zI145), (146, zI146), (147, zI147), (148, zI148), (149, zI149), (150, zI150), (151, zI151), (152, zI152), (153, zI153), (154, zI154), (155, zI155), (156, zI156), (157, zI157), (158, zI158), (159, zI159)]
def zMl10 : List (Nat × zIs) := [(160, zI160), (161, zI161), (162, zI162), (163, zI163), (164, zI164), (165, zI165), (166, zI166), (167, zI167), (168, zI168), (169, zI169), (170, zI170), (171, zI171), (172, zI172), (173, zI173), (174, zI174), (175, zI175)]
def zMl11 : List (Nat × zIs) := [(176, zI176), (177, zI177), (178, zI178), (179, zI179), (180, zI180), (181, zI181), (182, zI182), (183, zI183), (184, zI184), (185, zI185), (186, zI186), (187, zI187), (188, zI188), (189, zI189), (190, zI190), (191, zI191)]
def zMl12 : List (Nat × zIs) := [(192, zI192), (193, zI193), (194, zI194), (195, zI195), (196, zI196), (197, zI197), (198, zI198), (199, zI199), (200, zI200), (201, zI201), (202, zI202), (203, zI203), (204, zI204), (205, zI205), (206, zI206), (207, zI207)]
def zMl13 : List (Nat × zIs) := [(208, zI208), (209, zI209), (210, zI210), (211, zI211), (212, zI212), (213, zI213), (214, zI214), (215, zI215), (216, zI216), (217, zI217), (218, zI218), (219, zI219), (220, zI220), (221, zI221), (222, zI222), (223, zI223)]
def zMl14 : List (Nat × zIs) := [(224, zI224), (225, zI225), (226, zI226), (227, zI227), (228, zI228), (229, zI229), (230, zI230), (231, zI231), (232, zI232), (233, zI233), (234, zI234), (235, zI235), (236, zI236), (237, zI237), (238, zI238), (239, zI239)]
def zMl15 : List (Nat × zIs) := [(240, zI240), (241, zI241), (242, zI242), (243, zI243), (244, zI244), (245, zI245), (246, zI246), (247, zI247), (248, zI248), (249, zI249), (250, zI250), (251, zI251), (252, zI252), (253, zI253), (254, zI254), (255, zI255)]
def zMl16 : List (Nat × zIs) := [(256, zI256), (257, zI257), (258, zI258), (259, zI259), (260, zI260), (261, zI261), (262, zI262), (263, zI263), (264, zI264), (265, zI265), (266, zI266), (267, zI267), (268, zI268), (269, zI269), (270, zI270), (271, zI271)]
def zMl17 : List (Nat × zIs) := [(272, zI272), (273, zI273), (274, zI274), (275, zI275), (276, zI276), (277, zI277), (278, zI278), (279, zI279), (280, zI280), (281, zI281), (282, zI282), (283, zI283), (284, zI284), (285, zI285), (286, zI286), (287, zI287)]
def zMl18 : List (Nat × zIs) := [(288, zI288), (289, zI289), (290, zI290), (291, zI291), (292, zI292), (293, zI293), (294, zI294), (295, zI295), (296, zI296), (297, zI297), (298, zI298), (299, zI299), (300, zI300), (301, zI301), (302, zI302), (303, zI303)]
def zMl19 : List (Nat × zIs) := [(304, zI304), (305, zI305), (306, zI306), (307, zI307), (308, zI308), (309, zI309), (310, zI310), (311, zI311), (312, zI312), (313, zI313), (314, zI314), (315, zI315), (316, zI316), (317, zI317), (318, zI318), (319, zI319)]
def zMl20 : List (Nat × zIs) := [(320, zI320), (321, zI321), (322, zI322), (323, zI323), (324, zI324), (325, zI325), (326, zI326), (327, zI327), (328, zI328), (329, zI329), (330, zI330), (331, zI331), (332, zI332), (333, zI333), (334, zI334)]
def zMl21 : List (Nat × zIs) := [(336, zI336), (337, zI337), (338, zI338), (339, zI339), (340, zI340), (341, zI341), (342, zI342), (343, zI343), (344, zI344), (345, zI345), (346, zI346), (347, zI347), (348, zI348), (349, zI349), (350, zI350), (351, zI351)]
def zMl22 : List (Nat × zIs) := [(352, zI352), (353, zI353), (354, zI354), (355, zI355), (356, zI356), (357, zI357), (358, zI358), (359, zI359), (360, zI360), (361, zI361), (362, zI362), (363, zI363), (364, zI364), (365, zI365), (366, zI366), (367, zI367)]
def zMl23 : List (Nat × zIs) := [(368, zI368), (369, zI369), (370, zI370), (371, zI371), (372, zI372), (373, zI373), (374, zI374), (375, zI375), (376, zI376), (377, zI377), (378, zI378), (379, zI379), (380, zI380), (381, zI381), (382, zI382), (383, zI383)]
def zMl24 : List (Nat × zIs) := [(384, zI384), (385, zI385), (386, zI386), (388, zI388), (389, zI389), (390, zI390), (391, zI391), (392, zI392), (393, zI393), (394, zI394), (395, zI395), (396, zI396), (397, zI397), (398, zI398), (399, zI399)]
def zMl25 : List (Nat × zIs) := [(400, zI400), (401, zI401), (402, zI402), (403, zI403), (404, zI404), (405, zI405), (406, zI406), (407, zI407), (408, zI408), (409, zI409), (410, zI410), (411, zI411), (412, zI412), (413, zI413), (414, zI414), (415, zI415)]
def zMl26 : List (Nat × zIs) := [(416, zI416), (417, zI417), (418, zI418), (419, zI419), (420, zI420), (421, zI421), (422, zI422)]
def zMls : List (List (Nat × zIs)) := [zMl0, zMl1, zMl2, zMl3, zMl4, zMl5, zMl6, zMl7, zMl8, zMl9, zMl10, zMl11, zMl12, zMl13, zMl14, zMl15, zMl16, zMl17, zMl18, zMl19, zMl20, zMl21, zMl22, zMl23, zMl24, zMl25, zMl26]
def zMl : List (Nat × zIs) := zMls.flatten
theorem zMl_in {e : Nat × zIs} (g i : Nat) {l : List (Nat × zIs)} (h1 : zMls[g]? = some l) (h2 : l[i]? = some e) : e ∈ zMl := List.mem_flatten.mpr ⟨l, List.mem_of_getElem? h1, List.mem_of_getElem? h2⟩
theorem mm0 : (0, zI0) ∈ zMl := zMl_in 0 0 rfl rfl
theorem pn0 : (parseMethodDescriptor zI0.1.desc).map (fun d => d.parameters.length) = some 2 := by decide +kernel
theorem mm1 : (1, zI1) ∈ zMl := zMl_in 0 1 rfl rfl
theorem pn1 : (parseMethodDescriptor zI1.1.desc).map (fun d => d.parameters.length) = some 0 := by decide +kernel
theorem mm2 : (2, zI2) ∈ zMl := zMl_in 0 2 rfl rfl
theorem pn2 : (parseMethodDescriptor zI2.1.desc).map (fun d => d.parameters.length) = some 2 := by decide +kernel
theorem mm3 : (3, zI3) ∈ zMl := zMl_in 0 3 rfl rfl
theorem pn3 : (parseMethodDescriptor zI3.1.desc).map (fun d => d.parameters.length) = some 2 := by decide +kernel
theorem mm4 : (4, zI4) ∈ zMl := zMl_in 0 4 rfl rfl
theorem pn4 : (parseMethodDescriptor zI4.1.desc).map (fun d => d.parameters.length) = some 1 := by decide +kernel
theorem mm5 : (5, zI5) ∈ zMl := zMl_in 0 5 rfl rfl
theorem pn5 : (parseMethodDescriptor zI5.1.desc).map (fun d => d.parameters.length) = some 2 := by decide +kernel
theorem mm6 : (6, zI6) ∈ zMl := zMl_in 0 6 rfl rfl
theorem pn6 : (parseMethodDescriptor zI6.1.desc).map (fun d => d.parameters.length) = some 1 := by decide +kernel
theorem mm7 : (7, zI7) ∈ zMl := zMl_in 0 7 rfl rfl
theorem pn7 : (parseMethodDescriptor zI7.1.desc).map (fun d => d.parameters.length) = some 2 := by decide +kernel
theorem mm8 : (8, zI8) ∈ zMl := zMl_in 0 8 rfl rfl
theorem pn8 : (parseMethodDescriptor zI8.1.desc).map (fun d => d.parameters.length) = some 2 := by decide +kernel
theorem mm9 : (9, zI9) ∈ zMl := zMl_in 0 9 rfl rfl
theorem pn9 : (parseMethodDescriptor zI9.1.desc).map (fun d => d.parameters.length) = some 1 := by decide +kernel
theorem mm10 : (10, zI10) ∈ zMl := zMl_in 0 10 rfl rfl
theorem pn10 : (parseMethodDescriptor zI10.1.desc).map (fun d => d.parameters.length) = some 1 := by decide +kernel
theorem mm11 : (11, zI11) ∈ zMl := zMl_in 0 11 rfl rfl
theorem pn11 : (parseMethodDescriptor zI11.1.desc).map (fun d => d.parameters.length) = some 1 := by decide +kernel
theorem mm12 : (12, zI12) ∈ zMl := zMl_in 0 12 rfl rfl
theorem pn12 : (parseMethodDescriptor zI12.1.desc).map (fun d => d.parameters.length) = some 1 := by decide +kernel
theorem mm13 : (13, zI13) ∈ zMl := zMl_in 0 13 rfl rfl
theorem pn13 : (parseMethodDescriptor zI13.1.desc).map (fun d => d.parameters.length) = some 1 := by decide +kernel
theorem mm14 : (14, zI14) ∈ zMl := zMl_in 0 14 rfl rfl
theorem pn14 : (parseMethodDescriptor zI14.1.desc).map (fun d => d.parameters.length) = some 3 := by decide +kernel
theorem mm15 : (15, zI15) ∈ zMl := zMl_in 0 15 rfl rfl
theorem pn15 : (parseMethodDescriptor zI15.1.desc).map (fun d => d.parameters.length) = some 1 := by decide +kernel
theorem mm16 : (16, zI16) ∈ zMl := zMl_in 1 0 rfl rfl
theorem pn16 : (parseMethodDescriptor zI16.1.desc).map (fun d => d.parameters.length) = some 0 := by decide +kernel
theorem mm17 : (17, zI17) ∈ zMl := zMl_in 1 1 rfl rfl
theorem pn17 : (parseMethodDescriptor zI17.1.desc).map (fun d => d.parameters.length) = some 1 := by decide +kernel
theorem mm18 : (18, zI18) ∈ zMl := zMl_in 1 2 rfl rfl
theorem pn18 : (parseMethodDescriptor zI18.1.desc).map (fun d => d.parameters.length) = some 1 := by decide +kernel
theorem mm19 : (19, zI19) ∈ zMl := zMl_in 1 3 rfl rfl
theorem pn19 : (parseMethodDescriptor zI19.1.desc).map (fun d => d.parameters.length) = some 0 := by decide +kernel
theorem mm20 : (20, zI20) ∈ zMl := zMl_in 1 4 rfl rfl
theorem pn20 : (parseMethodDescriptor zI20.1.desc).map (fun d => d.parameters.length) = some 5 := by decide +kernel
theorem mm21 : (21, zI21) ∈ zMl := zMl_in 1 5 rfl rfl
theorem pn21 : (parseMethodDescriptor zI21.1.desc).map (fun d => d.parameters.length) = some 1 := by decide +kernel
theorem mm22 : (22, zI22) ∈ zMl := zMl_in 1 6 rfl rfl
theorem pn22 : (parseMethodDescriptor zI22.1.desc).map (fun d => d.parameters.length) = some 3 := by decide +kernel
theorem mm23 : (23, zI23) ∈ zMl := zMl_in 1 7 rfl rfl
theorem pn23 : (parseMethodDescriptor zI23.1.desc).map (fun d => d.parameters.length) = some 1 := by decide +kernel
theorem mm24 : (24, zI24) ∈ zMl := zMl_in 1 8 rfl rfl
theorem pn24 : (parseMethodDescriptor zI24.1.desc).map (fun d => d.parameters.length) = some 0 := by decide +kernel
theorem mm25 : (25, zI25) ∈ zMl := zMl_in 1 9 rfl rfl
theorem pn25 : (parseMethodDescriptor zI25.1.desc).map (fun d => d.parameters.length) = some 0 := by decide +kernel
theorem mm26 : (26, zI26) ∈ zMl := zMl_in 1 10 rfl rfl
theorem pn26 : (parseMethodDescriptor zI26.1.desc).map (fun d => d.parameters.length) = some 0 := by decide +kernel
theorem mm27 : (27, zI27) ∈ zMl := zMl_in 1 11 rfl rfl
theorem pn27 : (parseMethodDescriptor zI27.1.desc).map (fun d => d.parameters.length) = some 1 := by decide +kernel
theorem mm28 : (28, zI28) ∈ zMl := zMl_in 1 12 rfl rfl
theorem pn28 : (parseMethodDescriptor zI28.1.desc).map (fun d => d.parameters.length) = some 1 := by decide +kernel
theorem mm29 : (29, zI29) ∈ zMl := zMl_in 1 13 rfl rfl
theorem pn29 : (parseMethodDescriptor zI29.1.desc).map (fun d => d.parameters.length) = some 1 := by decide +kernel
theorem mm30 : (30, zI30) ∈ zMl := zMl_in 1 14 rfl rfl
theorem pn30 : (parseMethodDescriptor zI30.1.desc).map (fun d => d.parameters.length) = some 2 := by decide +kernel
theorem mm31 : (31, zI31) ∈ zMl := zMl_in 1 15 rfl rfl
theorem pn31 : (parseMethodDescriptor zI31.1.desc).map (fun d => d.parameters.length) = some 1 := by decide +kernel
theorem mm32 : (32, zI32) ∈ zMl := zMl_in 2 0 rfl rfl
theorem pn32 : (parseMethodDescriptor zI32.1.desc).map (fun d => d.parameters.length) = some 1 := by decide +kernel
theorem mm33 : (33, zI33) ∈ zMl := zMl_in 2 1 rfl rfl
theorem pn33 : (parseMethodDescriptor zI33.1.desc).map (fun d => d.parameters.length) = some 3 := by decide +kernel
theorem mm34 : (34, zI34) ∈ zMl := zMl_in 2 2 rfl rfl
theorem pn34 : (parseMethodDescriptor zI34.1.desc).map (fun d => d.parameters.length) = some 0 := by decide +kernel
theorem mm35 : (35, zI35) ∈ zMl := zMl_in 2 3 rfl rfl
theorem pn35 : (parseMethodDescriptor zI35.1.desc).map (fun d => d.parameters.length) = some 3 := by decide +kernel
theorem mm36 : (36, zI36) ∈ zMl := zMl_in 2 4 rfl rfl
theorem pn36 : (parseMethodDescriptor zI36.1.desc).map (fun d => d.parameters.length) = some 1 := by decide +kernel
theorem mm37 : (37, zI37) ∈ zMl := zMl_in 2 5 rfl rfl
theorem pn37 : (parseMethodDescriptor zI37.1.desc).map (fun d => d.parameters.length) = some 1 := by decide +kernel
theorem mm38 : (38, zI38) ∈ zMl := zMl_in 2 6 rfl rfl
theorem pn38 : (parseMethodDescriptor zI38.1.desc).map (fun d => d.parameters.length) = some 3 := by decide +kernel
theorem mm39 : (39, zI39) ∈ zMl := zMl_in 2 7 rfl rfl
theorem pn39 : (parseMethodDescriptor zI39.1.desc).map (fun d => d.parameters.length) = some 2 := by decide +kernel
theorem mm40 : (40, zI40) ∈ zMl := zMl_in 2 8 rfl rfl
theorem pn40 : (parseMethodDescriptor zI40.1.desc).map (fun d => d.parameters.length) = some 1 := by decide +kernel
theorem mm41 : (41, zI41) ∈ zMl := zMl_in 2 9 rfl rfl
theorem pn41 : (parseMethodDescriptor zI41.1.desc).map (fun d => d.parameters.length) = some 2 := by decide +kernel
theorem mm42 : (42, zI42) ∈ zMl := zMl_in 2 10 rfl rfl
theorem pn42 : (parseMethodDescriptor zI42.1.desc).map (fun d => d.parameters.length) = some 2 := by decide +kernel
theorem mm43 : (43, zI43) ∈ zMl := zMl_in 2 11 rfl rfl
theorem pn43 : (parseMethodDescriptor zI43.1.desc).map (fun d => d.parameters.length) = some 1 := by decide +kernel
theorem mm44 : (44, zI44) ∈ zMl := zMl_in 2 12 rfl rfl
theorem pn44 : (parseMethodDescriptor zI44.1.desc).map (fun d => d.parameters.length) = some 1 := by decide +kernel
theorem mm45 : (45, zI45) ∈ zMl := zMl_in 2 13 rfl rfl
theorem pn45 : (parseMethodDescriptor zI45.1.desc).map (fun d => d.parameters.length) = some 2 := by decide +kernel
theorem mm46 : (46, zI46) ∈ zMl := zMl_in 2 14 rfl rfl
theorem pn46 : (parseMethodDescriptor zI46.1.desc).map (fun d => d.parameters.length) = some 1 := by decide +kernel
theorem mm47 : (47, zI47) ∈ zMl := zMl_in 2 15 rfl rfl
theorem pn47 : (parseMethodDescriptor zI47.1.desc).map (fun d => d.parameters.length) = some 0 := by decide +kernel
theorem mm48 : (48, zI48) ∈ zMl := zMl_in 3 0 rfl rfl
theorem pn48 : (parseMethodDescriptor zI48.1.desc).map (fun d => d.parameters.length) = some 2 := by decide +kernel
theorem mm49 : (49, zI49) ∈ zMl := zMl_in 3 1 rfl rfl
theorem pn49 : (parseMethodDescriptor zI49.1.desc).map (fun d => d.parameters.length) = some 2 := by decide +kernel
theorem mm50 : (50, zI50) ∈ zMl := zMl_in 3 2 rfl rfl
theorem pn50 : (parseMethodDescriptor zI50.1.desc).map (fun d => d.parameters.length) = some 3 := by decide +kernel
theorem mm51 : (51, zI51) ∈ zMl := zMl_in 3 3 rfl rfl
theorem pn51 : (parseMethodDescriptor zI51.1.desc).map (fun d => d.parameters.length) = some 1 := by decide +kernel
theorem mm52 : (52, zI52) ∈ zMl := zMl_in 3 4 rfl rfl
theorem pn52 : (parseMethodDescriptor zI52.1.desc).map (fun d => d.parameters.length) = some 3 := by decide +kernel
theorem mm53 : (53, zI53) ∈ zMl := zMl_in 3 5 rfl rfl
theorem pn53 : (parseMethodDescriptor zI53.1.desc).map (fun d => d.parameters.length) = some 1 := by decide +kernel
theorem mm54 : (54, zI54) ∈ zMl := zMl_in 3 6 rfl rfl
theorem pn54 : (parseMethodDescriptor zI54.1.desc).map (fun d => d.parameters.length) = some 0 := by decide +kernel
theorem mm55 : (55, zI55) ∈ zMl := zMl_in 3 7 rfl rfl
theorem pn55 : (parseMethodDescriptor zI55.1.desc).map (fun d => d.parameters.length) = some 1 := by decide +kernel
theorem mm56 : (56, zI56) ∈ zMl := zMl_in 3 8 rfl rfl
theorem pn56 : (parseMethodDescriptor zI56.1.desc).map (fun d => d.parameters.length) = some 2 := by decide +kernel
theorem mm57 : (57, zI57) ∈ zMl := zMl_in 3 9 rfl rfl
theorem pn57 : (parseMethodDescriptor zI57.1.desc).map (fun d => d.parameters.length) = some 1 := by decide +kernel
theorem mm58 : (58, zI58) ∈ zMl := zMl_in 3 10 rfl rfl
theorem pn58 : (parseMethodDescriptor zI58.1.desc).map (fun d => d.parameters.length) = some 1 := by decide +kernel
theorem mm59 : (59, zI59) ∈ zMl := zMl_in 3 11 rfl rfl
theorem pn59 : (parseMethodDescriptor zI59.1.desc).map (fun d => d.parameters.length) = some 1 := by decide +kernel
theorem mm60 : (60, zI60) ∈ zMl := zMl_in 3 12 rfl rfl
theorem pn60 : (parseMethodDescriptor zI60.1.desc).map (fun d => d.parameters.length) = some 2 := by decide +kernel
theorem mm61 : (61, zI61) ∈ zMl := zMl_in 3 13 rfl rfl
theorem pn61 : (parseMethodDescriptor zI61.1.desc).map (fun d => d.parameters.length) = some 0 := by decide +kernel
theorem mm62 : (62, zI62) ∈ zMl := zMl_in 3 14 rfl rfl
theorem pn62 : (parseMethodDescriptor zI62.1.desc).map (fun d => d.parameters.length) = some 1 := by decide +kernel
theorem mm63 : (63, zI63) ∈ zMl := zMl_in 3 15 rfl rfl
theorem pn63 : (parseMethodDescriptor zI63.1.desc).map (fun d => d.parameters.length) = some 1 := by decide +kernel
theorem mm64 : (64, zI64) ∈ zMl := zMl_in 4 0 rfl rfl
theorem pn64 : (parseMethodDescriptor zI64.1.desc).map (fun d => d.parameters.length) = some 0 := by decide +kernel
theorem mm65 : (65, zI65) ∈ zMl := zMl_in 4 1 rfl rfl
theorem pn65 : (parseMethodDescriptor zI65.1.desc).map (fun d => d.parameters.length) = some 2 := by decide +kernel
theorem mm66 : (66, zI66) ∈ zMl := zMl_in 4 2 rfl rfl
theorem pn66 : (parseMethodDescriptor zI66.1.desc).map (fun d => d.parameters.length) = some 4 := by decide +kernel
theorem mm67 : (67, zI67) ∈ zMl := zMl_in 4 3 rfl rfl
theorem pn67 : (parseMethodDescriptor zI67.1.desc).map (fun d => d.parameters.length) = some 2 := by decide +kernel
theorem mm68 : (68, zI68) ∈ zMl := zMl_in 4 4 rfl rfl
theorem pn68 : (parseMethodDescriptor zI68.1.desc).map (fun d => d.parameters.length) = some 2 := by decide +kernel
theorem mm69 : (69, zI69) ∈ zMl := zMl_in 4 5 rfl rfl
theorem pn69 : (parseMethodDescriptor zI69.1.desc).map (fun d => d.parameters.length) = some 1 := by decide +kernel
theorem mm70 : (70, zI70) ∈ zMl := zMl_in 4 6 rfl rfl
theorem pn70 : (parseMethodDescriptor zI70.1.desc).map (fun d => d.parameters.length) = some 0 := by decide +kernel
theorem mm71 : (71, zI71) ∈ zMl := zMl_in 4 7 rfl rfl
theorem pn71 : (parseMethodDescriptor zI71.1.desc).map (fun d => d.parameters.length) = some 0 := by decide +kernel
theorem mm72 : (72, zI72) ∈ zMl := zMl_in 4 8 rfl rfl
theorem pn72 : (parseMethodDescriptor zI72.1.desc).map (fun d => d.parameters.length) = some 3 := by decide +kernel
theorem mm73 : (73, zI73) ∈ zMl := zMl_in 4 9 rfl rfl
theorem pn73 : (parseMethodDescriptor zI73.1.desc).map (fun d => d.parameters.length) = some 4 := by decide +kernel
theorem mm74 : (74, zI74) ∈ zMl := zMl_in 4 10 rfl rfl
theorem pn74 : (parseMethodDescriptor zI74.1.desc).map (fun d => d.parameters.length) = some 1 := by decide +kernel
theorem mm75 : (75, zI75) ∈ zMl := zMl_in 4 11 rfl rfl
theorem pn75 : (parseMethodDescriptor zI75.1.desc).map (fun d => d.parameters.length) = some 0 := by decide +kernel
theorem mm76 : (76, zI76) ∈ zMl := zMl_in 4 12 rfl rfl
theorem pn76 : (parseMethodDescriptor zI76.1.desc).map (fun d => d.parameters.length) = some 0 := by decide +kernel
theorem mm77 : (77, zI77) ∈ zMl := zMl_in 4 13 rfl rfl
theorem pn77 : (parseMethodDescriptor zI77.1.desc).map (fun d => d.parameters.length) = some 2 := by decide +kernel
theorem mm78 : (78, zI78) ∈ zMl := zMl_in 4 14 rfl rfl
theorem pn78 : (parseMethodDescriptor zI78.1.desc).map (fun d => d.parameters.length) = some 2 := by decide +kernel
theorem mm79 : (79, zI79) ∈ zMl := zMl_in 4 15 rfl rfl
theorem pn79 : (parseMethodDescriptor zI79.1.desc).map (fun d => d.parameters.length) = some 0 := by decide +kernel
theorem mm80 : (80, zI80) ∈ zMl := zMl_in 5 0 rfl rfl
theorem pn80 : (parseMethodDescriptor zI80.1.desc).map (fun d => d.parameters.length) = some 1 := by decide +kernel
theorem mm81 : (81, zI81) ∈ zMl := zMl_in 5 1 rfl rfl
theorem pn81 : (parseMethodDescriptor zI81.1.desc).map (fun d => d.parameters.length) = some 2 := by decide +kernel
theorem mm82 : (82, zI82) ∈ zMl := zMl_in 5 2 rfl rfl
theorem pn82 : (parseMethodDescriptor zI82.1.desc).map (fun d => d.parameters.length) = some 1 := by decide +kernel
theorem mm83 : (83, zI83) ∈ zMl := zMl_in 5 3 rfl rfl
theorem pn83 : (parseMethodDescriptor zI83.1.desc).map (fun d => d.parameters.length) = some 1 := by decide +kernel
theorem mm84 : (84, zI84) ∈ zMl := zMl_in 5 4 rfl rfl
theorem pn84 : (parseMethodDescriptor zI84.1.desc).map (fun d => d.parameters.length) = some 1 := by decide +kernel
theorem mm85 : (85, zI85) ∈ zMl := zMl_in 5 5 rfl rfl
theorem pn85 : (parseMethodDescriptor zI85.1.desc).map (fun d => d.parameters.length) = some 1 := by decide +kernel
theorem mm86 : (86, zI86) ∈ zMl := zMl_in 5 6 rfl rfl
theorem pn86 : (parseMethodDescriptor zI86.1.desc).map (fun d => d.parameters.length) = some 0 := by decide +kernel
theorem mm87 : (87, zI87) ∈ zMl := zMl_in 5 7 rfl rfl
theorem pn87 : (parseMethodDescriptor zI87.1.desc).map (fun d => d.parameters.length) = some 0 := by decide +kernel
theorem mm88 : (88, zI88) ∈ zMl := zMl_in 5 8 rfl rfl
theorem pn88 : (parseMethodDescriptor zI88.1.desc).map (fun d => d.parameters.length) = some 0 := by decide +kernel
theorem mm89 : (89, zI89) ∈ zMl := zMl_in 5 9 rfl rfl
theorem pn89 : (parseMethodDescriptor zI89.1.desc).map (fun d => d.parameters.length) = some 1 := by decide +kernel
theorem mm90 : (90, zI90) ∈ zMl := zMl_in 5 10 rfl rfl
theorem pn90 : (parseMethodDescriptor zI90.1.desc).map (fun d => d.parameters.length) = some 3 := by decide +kernel
theorem mm91 : (91, zI91) ∈ zMl := zMl_in 5 11 rfl rfl
theorem pn91 : (parseMethodDescriptor zI91.1.desc).map (fun d => d.parameters.length) = some 2 := by decide +kernel
theorem mm92 : (92, zI92) ∈ zMl := zMl_in 5 12 rfl rfl
theorem pn92 : (parseMethodDescriptor zI92.1.desc).map (fun d => d.parameters.length) = some 0 := by decide +kernel
theorem mm93 : (93, zI93) ∈ zMl := zMl_in 5 13 rfl rfl
theorem pn93 : (parseMethodDescriptor zI93.1.desc).map (fun d => d.parameters.length) = some 0 := by decide +kernel
theorem mm94 : (94, zI94) ∈ zMl := zMl_in 5 14 rfl rfl
theorem pn94 : (parseMethodDescriptor zI94.1.desc).map (fun d => d.parameters.length) = some 1 := by decide +kernel
theorem mm95 : (95, zI95) ∈ zMl := zMl_in 5 15 rfl rfl
theorem pn95 : (parseMethodDescriptor zI95.1.desc).map (fun d => d.parameters.length) = some 1 := by decide +kernel
theorem mm96 : (96, zI96) ∈ zMl := zMl_in 6 0 rfl rfl
theorem pn96 : (parseMethodDescriptor zI96.1.desc).map (fun d => d.parameters.length) = some 2 := by decide +kernel
theorem mm97 : (97, zI97) ∈ zMl := zMl_in 6 1 rfl rfl
theorem pn97 : (parseMethodDescriptor zI97.1.desc).map (fun d => d.parameters.length) = some 1 := by decide +kernel
theorem mm98 : (98, zI98) ∈ zMl := zMl_in 6 2 rfl rfl
theorem pn98 : (parseMethodDescriptor zI98.1.desc).map (fun d => d.parameters.length) = some 1 := by decide +kernel
theorem mm99 : (99, zI99) ∈ zMl := zMl_in 6 3 rfl rfl
theorem pn99 : (parseMethodDescriptor zI99.1.desc).map (fun d => d.parameters.length) = some 0 := by decide +kernel
theorem mm100 : (100, zI100) ∈ zMl := zMl_in 6 4 rfl rfl
theorem pn100 : (parseMethodDescriptor zI100.1.desc).map (fun d => d.parameters.length) = some 0 := by decide +kernel
theorem mm101 : (101, zI101) ∈ zMl := zMl_in 6 5 rfl rfl
theorem pn101 : (parseMethodDescriptor zI101.1.desc).map (fun d => d.parameters.length) = some 3 := by decide +kernel
theorem mm102 : (102, zI102) ∈ zMl := zMl_in 6 6 rfl rfl
theorem pn102 : (parseMethodDescriptor zI102.1.desc).map (fun d => d.parameters.length) = some 0 := by decide +kernel
theorem mm103 : (103, zI103) ∈ zMl := zMl_in 6 7 rfl rfl
theorem pn103 : (parseMethodDescriptor zI103.1.desc).map (fun d => d.parameters.length) = some 3 := by decide +kernel
theorem mm104 : (104, zI104) ∈ zMl := zMl_in 6 8 rfl rfl
theorem pn104 : (parseMethodDescriptor zI104.1.desc).map (fun d => d.parameters.length) = some 2 := by decide +kernel
theorem mm105 : (105, zI105) ∈ zMl := zMl_in 6 9 rfl rfl
theorem pn105 : (parseMethodDescriptor zI105.1.desc).map (fun d => d.parameters.length) = some 1 := by decide +kernel
theorem mm106 : (106, zI106) ∈ zMl := zMl_in 6 10 rfl rfl
theorem pn106 : (parseMethodDescriptor zI106.1.desc).map (fun d => d.parameters.length) = some 1 := by decide +kernel
theorem mm107 : (107, zI107) ∈ zMl := zMl_in 6 11 rfl rfl
theorem pn107 : (parseMethodDescriptor zI107.1.desc).map (fun d => d.parameters.length) = some 3 := by decide +kernel
theorem mm108 : (108, zI108) ∈ zMl := zMl_in 6 12 rfl rfl
theorem pn108 : (parseMethodDescriptor zI108.1.desc).map (fun d => d.parameters.length) = some 1 := by decide +kernel
theorem mm109 : (109, zI109) ∈ zMl := zMl_in 6 13 rfl rfl
theorem pn109 : (parseMethodDescriptor zI109.1.desc).map (fun d => d.parameters.length) = some 3 := by decide +kernel
theorem mm110 : (110, zI110) ∈ zMl := zMl_in 6 14 rfl rfl
theorem pn110 : (parseMethodDescriptor zI110.1.desc).map (fun d => d.parameters.length) = some 3 := by decide +kernel
theorem mm111 : (111, zI111) ∈ zMl := zMl_in 6 15 rfl rfl
theorem pn111 : (parseMethodDescriptor zI111.1.desc).map (fun d => d.parameters.length) = some 2 := by decide +kernel
theorem mm112 : (112, zI112) ∈ zMl := zMl_in 7 0 rfl rfl
theorem pn112 : (parseMethodDescriptor zI112.1.desc).map (fun d => d.parameters.length) = some 1 := by decide +kernel
theorem mm113 : (113, zI113) ∈ zMl := zMl_in 7 1 rfl rfl
theorem pn113 : (parseMethodDescriptor zI113.1.desc).map (fun d => d.parameters.length) = some 0 := by decide +kernel
theorem mm114 : (114, zI114) ∈ zMl := zMl_in 7 2 rfl rfl
theorem pn114 : (parseMethodDescriptor zI114.1.desc).map (fun d => d.parameters.length) = some 2 := by decide +kernel
theorem mm115 : (115, zI115) ∈ zMl := zMl_in 7 3 rfl rfl
theorem pn115 : (parseMethodDescriptor zI115.1.desc).map (fun d => d.parameters.length) = some 3 := by decide +kernel
theorem mm116 : (116, zI116) ∈ zMl := zMl_in 7 4 rfl rfl
theorem pn116 : (parseMethodDescriptor zI116.1.desc).map (fun d => d.parameters.length) = some 2 := by decide +kernel
theorem mm117 : (117, zI117) ∈ zMl := zMl_in 7 5 rfl rfl
theorem pn117 : (parseMethodDescriptor zI117.1.desc).map (fun d => d.parameters.length) = some 2 := by decide +kernel
theorem mm118 : (118, zI118) ∈ zMl := zMl_in 7 6 rfl rfl
theorem pn118 : (parseMethodDescriptor zI118.1.desc).map (fun d => d.parameters.length) = some 1 := by decide +kernel
theorem mm119 : (119, zI119) ∈ zMl := zMl_in 7 7 rfl rfl
theorem pn119 : (parseMethodDescriptor zI119.1.desc).map (fun d => d.parameters.length) = some 3 := by decide +kernel
theorem mm120 : (120, zI120) ∈ zMl := zMl_in 7 8 rfl rfl
theorem pn120 : (parseMethodDescriptor zI120.1.desc).map (fun d => d.parameters.length) = some 0 := by decide +kernel
theorem mm121 : (121, zI121) ∈ zMl := zMl_in 7 9 rfl rfl
theorem pn121 : (parseMethodDescriptor zI121.1.desc).map (fun d => d.parameters.length) = some 0 := by decide +kernel
theorem mm122 : (122, zI122) ∈ zMl := zMl_in 7 10 rfl rfl
theorem pn122 : (parseMethodDescriptor zI122.1.desc).map (fun d => d.parameters.length) = some 2 := by decide +kernel
theorem mm123 : (123, zI123) ∈ zMl := zMl_in 7 11 rfl rfl
theorem pn123 : (parseMethodDescriptor zI123.1.desc).map (fun d => d.parameters.length) = some 3 := by decide +kernel
theorem mm124 : (124, zI124) ∈ zMl := zMl_in 7 12 rfl rfl
theorem pn124 : (parseMethodDescriptor zI124.1.desc).map (fun d => d.parameters.length) = some 0 := by decide +kernel
theorem mm125 : (125, zI125) ∈ zMl := zMl_in 7 13 rfl rfl
theorem pn125 : (parseMethodDescriptor zI125.1.desc).map (fun d => d.parameters.length) = some 0 := by decide +kernel
theorem mm126 : (126, zI126) ∈ zMl := zMl_in 7 14 rfl rfl
theorem pn126 : (parseMethodDescriptor zI126.1.desc).map (fun d => d.parameters.length) = some 0 := by decide +kernel
theorem mm127 : (127, zI127) ∈ zMl := zMl_in 7 15 rfl rfl
theorem pn127 : (parseMethodDescriptor zI127.1.desc).map (fun d => d.parameters.length) = some 0 := by decide +kernel
theorem mm128 : (128, zI128) ∈ zMl := zMl_in 8 0 rfl rfl
theorem pn128 : (parseMethodDescriptor zI128.1.desc).map (fun d => d.parameters.length) = some 1 := by decide +kernel
theorem mm129 : (129, zI129) ∈ zMl := zMl_in 8 1 rfl rfl
theorem pn129 : (parseMethodDescriptor zI129.1.desc).map (fun d => d.parameters.length) = some 3 := by decide +kernel
theorem mm130 : (130, zI130) ∈ zMl := zMl_in 8 2 rfl rfl
theorem pn130 : (parseMethodDescriptor zI130.1.desc).map (fun d => d.parameters.length) = some 1 := by decide +kernel
theorem mm131 : (131, zI131) ∈ zMl := zMl_in 8 3 rfl rfl
theorem pn131 : (parseMethodDescriptor zI131.1.desc).map (fun d => d.parameters.length) = some 0 := by decide +kernel
theorem mm132 : (132, zI132) ∈ zMl := zMl_in 8 4 rfl rfl
theorem pn132 : (parseMethodDescriptor zI132.1.desc).map (fun d => d.parameters.length) = some 0 := by decide +kernel
theorem mm133 : (133, zI133) ∈ zMl := zMl_in 8 5 rfl rfl
theorem pn133 : (parseMethodDescriptor zI133.1.desc).map (fun d => d.parameters.length) = some 1 := by decide +kernel
theorem mm134 : (134, zI134) ∈ zMl := zMl_in 8 6 rfl rfl
theorem pn134 : (parseMethodDescriptor zI134.1.desc).map (fun d => d.parameters.length) = some 4 := by decide +kernel
theorem mm135 : (135, zI135) ∈ zMl := zMl_in 8 7 rfl rfl
theorem pn135 : (parseMethodDescriptor zI135.1.desc).map (fun d => d.parameters.length) = some 0 := by decide +kernel
theorem mm136 : (136, zI136) ∈ zMl := zMl_in 8 8 rfl rfl
theorem pn136 : (parseMethodDescriptor zI136.1.desc).map (fun d => d.parameters.length) = some 3 := by decide +kernel
theorem mm137 : (137, zI137) ∈ zMl := zMl_in 8 9 rfl rfl
theorem pn137 : (parseMethodDescriptor zI137.1.desc).map (fun d => d.parameters.length) = some 1 := by decide +kernel
theorem mm138 : (138, zI138) ∈ zMl := zMl_in 8 10 rfl rfl
theorem pn138 : (parseMethodDescriptor zI138.1.desc).map (fun d => d.parameters.length) = some 1 := by decide +kernel
theorem mm139 : (139, zI139) ∈ zMl := zMl_in 8 11 rfl rfl
theorem pn139 : (parseMethodDescriptor zI139.1.desc).map (fun d => d.parameters.length) = some 3 := by decide +kernel
theorem mm140 : (140, zI140) ∈ zMl := zMl_in 8 12 rfl rfl
theorem pn140 : (parseMethodDescriptor zI140.1.desc).map (fun d => d.parameters.length) = some 2 := by decide +kernel
theorem mm141 : (141, zI141) ∈ zMl := zMl_in 8 13 rfl rfl
theorem pn141 : (parseMethodDescriptor zI141.1.desc).map (fun d => d.parameters.length) = some 0 := by decide +kernel
theorem mm142 : (142, zI142) ∈ zMl := zMl_in 8 14 rfl rfl
theorem pn142 : (parseMethodDescriptor zI142.1.desc).map (fun d => d.parameters.length) = some 1 := by decide +kernel
theorem mm143 : (143, zI143) ∈ zMl := zMl_in 8 15 rfl rfl
theorem pn143 : (parseMethodDescriptor zI143.1.desc).map (fun d => d.parameters.length) = some 1 := by decide +kernel
theorem mm144 : (144, zI144) ∈ zMl := zMl_in 9 0 rfl rfl
theorem pn144 : (parseMethodDescriptor zI144.1.desc).map (fun d => d.parameters.length) = some 0 := by decide +kernel
theorem mm145 : (145, zI145) ∈ zMl := zMl_in 9 1 rfl rfl
theorem pn145 : (parseMethodDescriptor zI145.1.desc).map (fun d => d.parameters.length) = some 0 := by decide +kernel
theorem mm146 : (146, zI146) ∈ zMl := zMl_in 9 2 rfl rfl
theorem pn146 : (parseMethodDescriptor zI146.1.desc).map (fun d => d.parameters.length) = some 1 := by decide +kernel
theorem mm147 : (147, zI147) ∈ zMl := zMl_in 9 3 rfl rfl
theorem pn147 : (parseMethodDescriptor zI147.1.desc).map (fun d => d.parameters.length) = some 2 := by decide +kernel
theorem mm148 : (148, zI148) ∈ zMl := zMl_in 9 4 rfl rfl
theorem pn148 : (parseMethodDescriptor zI148.1.desc).map (fun d => d.parameters.length) = some 1 := by decide +kernel
theorem mm149 : (149, zI149) ∈ zMl := zMl_in 9 5 rfl rfl
theorem pn149 : (parseMethodDescriptor zI149.1.desc).map (fun d => d.parameters.length) = some 2 := by decide +kernel
theorem mm150 : (150, zI150) ∈ zMl := zMl_in 9 6 rfl rfl
theorem pn150 : (parseMethodDescriptor zI150.1.desc).map (fun d => d.parameters.length) = some 1 := by decide +kernel
theorem mm151 : (151, zI151) ∈ zMl := zMl_in 9 7 rfl rfl
theorem pn151 : (parseMethodDescriptor zI151.1.desc).map (fun d => d.parameters.length) = some 1 := by decide +kernel
theorem mm152 : (152, zI152) ∈ zMl := zMl_in 9 8 rfl rfl
theorem pn152 : (parseMethodDescriptor zI152.1.desc).map (fun d => d.parameters.length) = some 2 := by decide +kernel
theorem mm153 : (153, zI153) ∈ zMl := zMl_in 9 9 rfl rfl
theorem pn153 : (parseMethodDescriptor zI153.1.desc).map (fun d => d.parameters.length) = some 1 := by decide +kernel
theorem mm154 : (154, zI154) ∈ zMl := zMl_in 9 10 rfl rfl
theorem pn154 : (parseMethodDescriptor zI154.1.desc).map (fun d => d.parameters.length) = some 2 := by decide +kernel
theorem mm155 : (155, zI155) ∈ zMl := zMl_in 9 11 rfl rfl
theorem pn155 : (parseMethodDescriptor zI155.1.desc).map (fun d => d.parameters.length) = some 1 := by decide +kernel
theorem mm156 : (156, zI156) ∈ zMl := zMl_in 9 12 rfl rfl
theorem pn156 : (parseMethodDescriptor zI156.1.desc).map (fun d => d.parameters.length) = some 1 := by decide +kernel
theorem mm157 : (157, zI157) ∈ zMl := zMl_in 9 13 rfl rfl
theorem pn157 : (parseMethodDescriptor zI157.1.desc).map (fun d => d.parameters.length) = some 0 := by decide +kernel
theorem mm158 : (158, zI158) ∈ zMl := zMl_in 9 14 rfl rfl
theorem pn158 : (parseMethodDescriptor zI158.1.desc).map (fun d => d.parameters.length) = some 0 := by decide +kernel
theorem mm159 : (159, zI159) ∈ zMl := zMl_in 9 15 rfl rfl
theorem pn159 : (parseMethodDescriptor zI159.1.desc).map (fun d => d.parameters.length) = some 3 := by decide +kernel
theorem mm160 : (160, zI160) ∈ zMl := zMl_in 10 0 rfl rfl
theorem pn160 : (parseMethodDescriptor zI160.1.desc).map (fun d => d.parameters.length) = some 1 := by decide +kernel
theorem mm161 : (161, zI161) ∈ zMl := zMl_in 10 1 rfl rfl
theorem pn161 : (parseMethodDescriptor zI161.1.desc).map (fun d => d.parameters.length) = some 0 := by decide +kernel
theorem mm162 : (162, zI162) ∈ zMl := zMl_in 10 2 rfl rfl
theorem pn162 : (parseMethodDescriptor zI162.1.desc).map (fun d => d.parameters.length) = some 0 := by decide +kernel
theorem mm163 : (163, zI163) ∈ zMl := zMl_in 10 3 rfl rfl
theorem pn163 : (parseMethodDescriptor zI163.1.desc).map (fun d => d.parameters.length) = some 5 := by decide +kernel
theorem mm164 : (164, zI164) ∈ zMl := zMl_in 10 4 rfl rfl
theorem pn164 : (parseMethodDescriptor zI164.1.desc).map (fun d => d.parameters.length) = some 3 := by decide +kernel
theorem mm165 : (165, zI165) ∈ zMl := zMl_in 10 5 rfl rfl
theorem pn165 : (parseMethodDescriptor zI165.1.desc).map (fun d => d.parameters.length) = some 1 := by decide +kernel
theorem mm166 : (166, zI166) ∈ zMl := zMl_in 10 6 rfl rfl
theorem pn166 : (parseMethodDescriptor zI166.1.desc).map (fun d => d.parameters.length) = some 2 := by decide +kernel
theorem mm167 : (167, zI167) ∈ zMl := zMl_in 10 7 rfl rfl
theorem pn167 : (parseMethodDescriptor zI167.1.desc).map (fun d => d.parameters.length) = some 3 := by decide +kernel
theorem mm168 : (168, zI168) ∈ zMl := zMl_in 10 8 rfl rfl
theorem pn168 : (parseMethodDescriptor zI168.1.desc).map (fun d => d.parameters.length) = some 0 := by decide +kernel
theorem mm169 : (169, zI169) ∈ zMl := zMl_in 10 9 rfl rfl
theorem pn169 : (parseMethodDescriptor zI169.1.desc).map (fun d => d.parameters.length) = some 2 := by decide +kernel
theorem mm170 : (170, zI170) ∈ zMl := zMl_in 10 10 rfl rfl
theorem pn170 : (parseMethodDescriptor zI170.1.desc).map (fun d => d.parameters.length) = some 1 := by decide +kernel
theorem mm171 : (171, zI171) ∈ zMl := zMl_in 10 11 rfl rfl
theorem pn171 : (parseMethodDescriptor zI171.1.desc).map (fun d => d.parameters.length) = some 0 := by decide +kernel
theorem mm172 : (172, zI172) ∈ zMl := zMl_in 10 12 rfl rfl
theorem pn172 : (parseMethodDescriptor zI172.1.desc).map (fun d => d.parameters.length) = some 0 := by decide +kernel
theorem mm173 : (173, zI173) ∈ zMl := zMl_in 10 13 rfl rfl
theorem pn173 : (parseMethodDescriptor zI173.1.desc).map (fun d => d.parameters.length) = some 2 := by decide +kernel
theorem mm174 : (174, zI174) ∈ zMl := zMl_in 10 14 rfl rfl
theorem pn174 : (parseMethodDescriptor zI174.1.desc).map (fun d => d.parameters.length) = some 1 := by decide +kernel
theorem mm175 : (175, zI175) ∈ zMl := zMl_in 10 15 rfl rfl
theorem pn175 : (parseMethodDescriptor zI175.1.desc).map (fun d => d.parameters.length) = some 1 := by decide +kernel
theorem mm176 : (176, zI176) ∈ zMl := zMl_in 11 0 rfl rfl
theorem pn176 : (parseMethodDescriptor zI176.1.desc).map (fun d => d.parameters.length) = some 1 := by decide +kernel
theorem mm177 : (177, zI177) ∈ zMl := zMl_in 11 1 rfl rfl
theorem pn177 : (parseMethodDescriptor zI177.1.desc).map (fun d => d.parameters.length) = some 0 := by decide +kernel
theorem mm178 : (178, zI178) ∈ zMl := zMl_in 11 2 rfl rfl
theorem pn178 : (parseMethodDescriptor zI178.1.desc).map (fun d => d.parameters.length) = some 2 := by decide +kernel
theorem mm179 : (179, zI179) ∈ zMl := zMl_in 11 3 rfl rfl
theorem pn179 : (parseMethodDescriptor zI179.1.desc).map (fun d => d.parameters.length) = some 1 := by decide +kernel
theorem mm180 : (180, zI180) ∈ zMl := zMl_in 11 4 rfl rfl
theorem pn180 : (parseMethodDescriptor zI180.1.desc).map (fun d => d.parameters.length) = some 3 := by decide +kernel
theorem mm181 : (181, zI181) ∈ zMl := zMl_in 11 5 rfl rfl
theorem pn181 : (parseMethodDescriptor zI181.1.desc).map (fun d => d.parameters.length) = some 3 := by decide +kernel
theorem mm182 : (182, zI182) ∈ zMl := zMl_in 11 6 rfl rfl
theorem pn182 : (parseMethodDescriptor zI182.1.desc).map (fun d => d.parameters.length) = some 3 := by decide +kernel
theorem mm183 : (183, zI183) ∈ zMl := zMl_in 11 7 rfl rfl
theorem pn183 : (parseMethodDescriptor zI183.1.desc).map (fun d => d.parameters.length) = some 3 := by decide +kernel
theorem mm184 : (184, zI184) ∈ zMl := zMl_in 11 8 rfl rfl
theorem pn184 : (parseMethodDescriptor zI184.1.desc).map (fun d => d.parameters.length) = some 0 := by decide +kernel
theorem mm185 : (185, zI185) ∈ zMl := zMl_in 11 9 rfl rfl
theorem pn185 : (parseMethodDescriptor zI185.1.desc).map (fun d => d.parameters.length) = some 1 := by decide +kernel
theorem mm186 : (186, zI186) ∈ zMl := zMl_in 11 10 rfl rfl
theorem pn186 : (parseMethodDescriptor zI186.1.desc).map (fun d => d.parameters.length) = some 2 := by decide +kernel
theorem mm187 : (187, zI187) ∈ zMl := zMl_in 11 11 rfl rfl
theorem pn187 : (parseMethodDescriptor zI187.1.desc).map (fun d => d.parameters.length) = some 2 := by decide +kernel
theorem mm188 : (188, zI188) ∈ zMl := zMl_in 11 12 rfl rfl
theorem pn188 : (parseMethodDescriptor zI188.1.desc).map (fun d => d.parameters.length) = some 0 := by decide +kernel
theorem mm189 : (189, zI189) ∈ zMl := zMl_in 11 13 rfl rfl
theorem pn189 : (parseMethodDescriptor zI189.1.desc).map (fun d => d.parameters.length) = some 3 := by decide +kernel
theorem mm190 : (190, zI190) ∈ zMl := zMl_in 11 14 rfl rfl
theorem pn190 : (parseMethodDescriptor zI190.1.desc).map (fun d => d.parameters.length) = some 0 := by decide +kernel
theorem mm191 : (191, zI191) ∈ zMl := zMl_in 11 15 rfl rfl
theorem pn191 : (parseMethodDescriptor zI191.1.desc).map (fun d => d.parameters.length) = some 2 := by decide +kernel
theorem mm192 : (192, zI192) ∈ zMl := zMl_in 12 0 rfl rfl
theorem pn192 : (parseMethodDescriptor zI192.1.desc).map (fun d => d.parameters.length) = some 1 := by decide +kernel
theorem mm193 : (193, zI193) ∈ zMl := zMl_in 12 1 rfl rfl
theorem pn193 : (parseMethodDescriptor zI193.1.desc).map (fun d => d.parameters.length) = some 1 := by decide +kernel
theorem mm194 : (194, zI194) ∈ zMl := zMl_in 12 2 rfl rfl
theorem pn194 : (parseMethodDescriptor zI194.1.desc).map (fun d => d.parameters.length) = some 2 := by decide +kernel
theorem mm195 : (195, zI195) ∈ zMl := zMl_in 12 3 rfl rfl
theorem pn195 : (parseMethodDescriptor zI195.1.desc).map (fun d => d.parameters.length) = some 0 := by decide +kernel
theorem mm196 : (196, zI196) ∈ zMl := zMl_in 12 4 rfl rfl
theorem pn196 : (parseMethodDescriptor zI196.1.desc).map (fun d => d.parameters.length) = some 2 := by decide +kernel
theorem mm197 : (197, zI197) ∈ zMl := zMl_in 12 5 rfl rfl
theorem pn197 : (parseMethodDescriptor zI197.1.desc).map (fun d => d.parameters.length) = some 2 := by decide +kernel
theorem mm198 : (198, zI198) ∈ zMl := zMl_in 12 6 rfl rfl
theorem pn198 : (parseMethodDescriptor zI198.1.desc).map (fun d => d.parameters.length) = some 1 := by decide +kernel
theorem mm199 : (199, zI199) ∈ zMl := zMl_in 12 7 rfl rfl
theorem pn199 : (parseMethodDescriptor zI199.1.desc).map (fun d => d.parameters.length) = some 3 := by decide +kernel
theorem mm200 : (200, zI200) ∈ zMl := zMl_in 12 8 rfl rfl
theorem pn200 : (parseMethodDescriptor zI200.1.desc).map (fun d => d.parameters.length) = some 2 := by decide +kernel
theorem mm201 : (201, zI201) ∈ zMl := zMl_in 12 9 rfl rfl
theorem pn201 : (parseMethodDescriptor zI201.1.desc).map (fun d => d.parameters.length) = some 1 := by decide +kernel
theorem mm202 : (202, zI202) ∈ zMl := zMl_in 12 10 rfl rfl
theorem pn202 : (parseMethodDescriptor zI202.1.desc).map (fun d => d.parameters.length) = some 2 := by decide +kernel
theorem mm203 : (203, zI203) ∈ zMl := zMl_in 12 11 rfl rfl
theorem pn203 : (parseMethodDescriptor zI203.1.desc).map (fun d => d.parameters.length) = some 4 := by decide +kernel
theorem mm204 : (204, zI204) ∈ zMl := zMl_in 12 12 rfl rfl
theorem pn204 : (parseMethodDescriptor zI204.1.desc).map (fun d => d.parameters.length) = some 1 := by decide +kernel
theorem mm205 : (205, zI205) ∈ zMl := zMl_in 12 13 rfl rfl
theorem pn205 : (parseMethodDescriptor zI205.1.desc).map (fun d => d.parameters.length) = some 3 := by decide +kernel
theorem mm206 : (206, zI206) ∈ zMl := zMl_in 12 14 rfl rfl
theorem pn206 : (parseMethodDescriptor zI206.1.desc).map (fun d => d.parameters.length) = some 0 := by decide +kernel
theorem mm207 : (207, zI207) ∈ zMl := zMl_in 12 15 rfl rfl
theorem pn207 : (parseMethodDescriptor zI207.1.desc).map (fun d => d.parameters.length) = some 0 := by decide +kernel
theorem mm208 : (208, zI208) ∈ zMl := zMl_in 13 0 rfl rfl
theorem pn208 : (parseMethodDescriptor zI208.1.desc).map (fun d => d.parameters.length) = some 1 := by decide +kernel
theorem mm209 : (209, zI209) ∈ zMl := zMl_in 13 1 rfl rfl
theorem pn209 : (parseMethodDescriptor zI209.1.desc).map (fun d => d.parameters.length) = some 1 := by decide +kernel
theorem mm210 : (210, zI210) ∈ zMl := zMl_in 13 2 rfl rfl
theorem pn210 : (parseMethodDescriptor zI210.1.desc).map (fun d => d.parameters.length) = some 2 := by decide +kernel
theorem mm211 : (211, zI211) ∈ zMl := zMl_in 13 3 rfl rfl
theorem pn211 : (parseMethodDescriptor zI211.1.desc).map (fun d => d.parameters.length) = some 0 := by decide +kernel
theorem mm212 : (212, zI212) ∈ zMl := zMl_in 13 4 rfl rfl
theorem pn212 : (parseMethodDescriptor zI212.1.desc).map (fun d => d.parameters.length) = some 2 := by decide +kernel
theorem mm213 : (213, zI213) ∈ zMl := zMl_in 13 5 rfl rfl
theorem pn213 : (parseMethodDescriptor zI213.1.desc).map (fun d => d.parameters.length) = some 1 := by decide +kernel
theorem mm214 : (214, zI214) ∈ zMl := zMl_in 13 6 rfl rfl
theorem pn214 : (parseMethodDescriptor zI214.1.desc).map (fun d => d.parameters.length) = some 1 := by decide +kernel
theorem mm215 : (215, zI215) ∈ zMl := zMl_in 13 7 rfl rfl
theorem pn215 : (parseMethodDescriptor zI215.1.desc).map (fun d => d.parameters.length) = some 0 := by decide +kernel
theorem mm216 : (216, zI216) ∈ zMl := zMl_in 13 8 rfl rfl
theorem pn216 : (parseMethodDescriptor zI216.1.desc).map (fun d => d.parameters.length) = some 2 := by decide +kernel
theorem mm217 : (217, zI217) ∈ zMl := zMl_in 13 9 rfl rfl
theorem pn217 : (parseMethodDescriptor zI217.1.desc).map (fun d => d.parameters.length) = some 2 := by decide +kernel
theorem mm218 : (218, zI218) ∈ zMl := zMl_in 13 10 rfl rfl
theorem pn218 : (parseMethodDescriptor zI218.1.desc).map (fun d => d.parameters.length) = some 0 := by decide +kernel
theorem mm219 : (219, zI219) ∈ zMl := zMl_in 13 11 rfl rfl
theorem pn219 : (parseMethodDescriptor zI219.1.desc).map (fun d => d.parameters.length) = some 2 := by decide +kernel
theorem mm220 : (220, zI220) ∈ zMl := zMl_in 13 12 rfl rfl
theorem pn220 : (parseMethodDescriptor zI220.1.desc).map (fun d => d.parameters.length) = some 0 := by decide +kernel
theorem mm221 : (221, zI221) ∈ zMl := zMl_in 13 13 rfl rfl
theorem pn221 : (parseMethodDescriptor zI221.1.desc).map (fun d => d.parameters.length) = some 2 := by decide +kernel
theorem mm222 : (222, zI222) ∈ zMl := zMl_in 13 14 rfl rfl
theorem pn222 : (parseMethodDescriptor zI222.1.desc).map (fun d => d.parameters.length) = some 2 := by decide +kernel
theorem mm223 : (223, zI223) ∈ zMl := zMl_in 13 15 rfl rfl
theorem pn223 : (parseMethodDescriptor zI223.1.desc).map (fun d => d.parameters.length) = some 1 := by decide +kernel
theorem mm224 : (224, zI224) ∈ zMl := zMl_in 14 0 rfl rfl
theorem pn224 : (parseMethodDescriptor zI224.1.desc).map (fun d => d.parameters.length) = some 1 := by decide +kernel
theorem mm225 : (225, zI225) ∈ zMl := zMl_in 14 1 rfl rfl
theorem pn225 : (parseMethodDescriptor zI225.1.desc).map (fun d => d.parameters.length) = some 3 := by decide +kernel
theorem mm226 : (226, zI226) ∈ zMl := zMl_in 14 2 rfl rfl
theorem pn226 : (parseMethodDescriptor zI226.1.desc).map (fun d => d.parameters.length) = some 2 := by decide +kernel
theorem mm227 : (227, zI227) ∈ zMl := zMl_in 14 3 rfl rfl
theorem pn227 : (parseMethodDescriptor zI227.1.desc).map (fun d => d.parameters.length) = some 2 := by decide +kernel
theorem mm228 : (228, zI228) ∈ zMl := zMl_in 14 4 rfl rfl
theorem pn228 : (parseMethodDescriptor zI228.1.desc).map (fun d => d.parameters.length) = some 4 := by decide +kernel
theorem mm229 : (229, zI229) ∈ zMl := zMl_in 14 5 rfl rfl
theorem pn229 : (parseMethodDescriptor zI229.1.desc).map (fun d => d.parameters.length) = some 2 := by decide +kernel
theorem mm230 : (230, zI230) ∈ zMl := zMl_in 14 6 rfl rfl
theorem pn230 : (parseMethodDescriptor zI230.1.desc).map (fun d => d.parameters.length) = some 0 := by decide +kernel
theorem mm231 : (231, zI231) ∈ zMl := zMl_in 14 7 rfl rfl
theorem pn231 : (parseMethodDescriptor zI231.1.desc).map (fun d => d.parameters.length) = some 0 := by decide +kernel
theorem mm232 : (232, zI232) ∈ zMl := zMl_in 14 8 rfl rfl
theorem pn232 : (parseMethodDescriptor zI232.1.desc).map (fun d => d.parameters.length) = some 2 := by decide +kernel
theorem mm233 : (233, zI233) ∈ zMl := zMl_in 14 9 rfl rfl
theorem pn233 : (parseMethodDescriptor zI233.1.desc).map (fun d => d.parameters.length) = some 4 := by decide +kernel
theorem mm234 : (234, zI234) ∈ zMl := zMl_in 14 10 rfl rfl
theorem pn234 : (parseMethodDescriptor zI234.1.desc).map (fun d => d.parameters.length) = some 0 := by decide +kernel
theorem mm235 : (235, zI235) ∈ zMl := zMl_in 14 11 rfl rfl
theorem pn235 : (parseMethodDescriptor zI235.1.desc).map (fun d => d.parameters.length) = some 4 := by decide +kernel
theorem mm236 : (236, zI236) ∈ zMl := zMl_in 14 12 rfl rfl
theorem pn236 : (parseMethodDescriptor zI236.1.desc).map (fun d => d.parameters.length) = some 1 := by decide +kernel
theorem mm237 : (237, zI237) ∈ zMl := zMl_in 14 13 rfl rfl
theorem pn237 : (parseMethodDescriptor zI237.1.desc).map (fun d => d.parameters.length) = some 0 := by decide +kernel
theorem mm238 : (238, zI238) ∈ zMl := zMl_in 14 14 rfl rfl
theorem pn238 : (parseMethodDescriptor zI238.1.desc).map (fun d => d.parameters.length) = some 0 := by decide +kernel
theorem mm239 : (239, zI239) ∈ zMl := zMl_in 14 15 rfl rfl
theorem pn239 : (parseMethodDescriptor zI239.1.desc).map (fun d => d.parameters.length) = some 2 := by decide +kernel
theorem mm240 : (240, zI240) ∈ zMl := zMl_in 15 0 rfl rfl
theorem pn240 : (parseMethodDescriptor zI240.1.desc).map (fun d => d.parameters.length) = some 2 := by decide +kernel
theorem mm241 : (241, zI241) ∈ zMl := zMl_in 15 1 rfl rfl
theorem pn241 : (parseMethodDescriptor zI241.1.desc).map (fun d => d.parameters.length) = some 3 := by decide +kernel
theorem mm242 : (242, zI242) ∈ zMl := zMl_in 15 2 rfl rfl
theorem pn242 : (parseMethodDescriptor zI242.1.desc).map (fun d => d.parameters.length) = some 1 := by decide +kernel
theorem mm243 : (243, zI243) ∈ zMl := zMl_in 15 3 rfl rfl
theorem pn243 : (parseMethodDescriptor zI243.1.desc).map (fun d => d.parameters.length) = some 0 := by decide +kernel
theorem mm244 : (244, zI244) ∈ zMl := zMl_in 15 4 rfl rfl
theorem pn244 : (parseMethodDescriptor zI244.1.desc).map (fun d => d.parameters.length) = some 1 := by decide +kernel
theorem mm245 : (245, zI245) ∈ zMl := zMl_in 15 5 rfl rfl
theorem pn245 : (parseMethodDescriptor zI245.1.desc).map (fun d => d.parameters.length) = some 0 := by decide +kernel
theorem mm246 : (246, zI246) ∈ zMl := zMl_in 15 6 rfl rfl
theorem pn246 : (parseMethodDescriptor zI246.1.desc).map (fun d => d.parameters.length) = some 1 := by decide +kernel
theorem mm247 : (247, zI247) ∈ zMl := zMl_in 15 7 rfl rfl
theorem pn247 : (parseMethodDescriptor zI247.1.desc).map (fun d => d.parameters.length) = some 0 := by decide +kernel
theorem mm248 : (248, zI248) ∈ zMl := zMl_in 15 8 rfl rfl
theorem pn248 : (parseMethodDescriptor zI248.1.desc).map (fun d => d.parameters.length) = some 2 := by decide +kernel
theorem mm249 : (249, zI249) ∈ zMl := zMl_in 15 9 rfl rfl
theorem pn249 : (parseMethodDescriptor zI249.1.desc).map (fun d => d.parameters.length) = some 0 := by decide +kernel
theorem mm250 : (250, zI250) ∈ zMl := zMl_in 15 10 rfl rfl
theorem pn250 : (parseMethodDescriptor zI250.1.desc).map (fun d => d.parameters.length) = some 0 := by decide +kernel
theorem mm251 : (251, zI251) ∈ zMl := zMl_in 15 11 rfl rfl
theorem pn251 : (parseMethodDescriptor zI251.1.desc).map (fun d => d.parameters.length) = some 1 := by decide +kernel
theorem mm252 : (252, zI252) ∈ zMl := zMl_in 15 12 rfl rfl
theorem pn252 : (parseMethodDescriptor zI252.1.desc).map (fun d => d.parameters.length) = some 3 := by decide +kernel
theorem mm253 : (253, zI253) ∈ zMl := zMl_in 15 13 rfl rfl
theorem pn253 : (parseMethodDescriptor zI253.1.desc).map (fun d => d.parameters.length) = some 0 := by decide +kernel
theorem mm254 : (254, zI254) ∈ zMl := zMl_in 15 14 rfl rfl
theorem pn254 : (parseMethodDescriptor zI254.1.desc).map (fun d => d.parameters.length) = some 0 := by decide +kernel
theorem mm255 : (255, zI255) ∈ zMl := zMl_in 15 15 rfl rfl
theorem pn255 : (parseMethodDescriptor zI255.1.desc).map (fun d => d.parameters.length) = some 1 := by decide +kernel
theorem mm256 : (256, zI256) ∈ zMl := zMl_in 16 0 rfl rfl
theorem pn256 : (parseMethodDescriptor zI256.1.desc).map (fun d => d.parameters.length) = some 2 := by decide +kernel
theorem mm257 : (257, zI257) ∈ zMl := zMl_in 16 1 rfl rfl
theorem pn257 : (parseMethodDescriptor zI257.1.desc).map (fun d => d.parameters.length) = some 1 := by decide +kernel
theorem mm258 : (258, zI258) ∈ zMl := zMl_in 16 2 rfl rfl
theorem pn258 : (parseMethodDescriptor zI258.1.desc).map (fun d => d.parameters.length) = some 1 := by decide +kernel
theorem mm259 : (259, zI259) ∈ zMl := zMl_in 16 3 rfl rfl
theorem pn259 : (parseMethodDescriptor zI259.1.desc).map (fun d => d.parameters.length) = some 1 := by decide +kernel
theorem mm260 : (260, zI260) ∈ zMl := zMl_in 16 4 rfl rfl
theorem pn260 : (parseMethodDescriptor zI260.1.desc).map (fun d => d.parameters.length) = some 1 := by decide +kernel
theorem mm261 : (261, zI261) ∈ zMl := zMl_in 16 5 rfl rfl
theorem pn261 : (parseMethodDescriptor zI261.1.desc).map (fun d => d.parameters.length) = some 1 := by decide +kernel
theorem mm262 : (262, zI262) ∈ zMl := zMl_in 16 6 rfl rfl
theorem pn262 : (parseMethodDescriptor zI262.1.desc).map (fun d => d.parameters.length) = some 0 := by decide +kernel
theorem mm263 : (263, zI263) ∈ zMl := zMl_in 16 7 rfl rfl
theorem pn263 : (parseMethodDescriptor zI263.1.desc).map (fun d => d.parameters.length) = some 1 := by decide +kernel
theorem mm264 : (264, zI264) ∈ zMl := zMl_in 16 8 rfl rfl
theorem pn264 : (parseMethodDescriptor zI264.1.desc).map (fun d => d.parameters.length) = some 1 := by decide +kernel
theorem mm265 : (265, zI265) ∈ zMl := zMl_in 16 9 rfl rfl
theorem pn265 : (parseMethodDescriptor zI265.1.desc).map (fun d => d.parameters.length) = some 2 := by decide +kernel
theorem mm266 : (266, zI266) ∈ zMl := zMl_in 16 10 rfl rfl
theorem pn266 : (parseMethodDescriptor zI266.1.desc).map (fun d => d.parameters.length) = some 1 := by decide +kernel
theorem mm267 : (267, zI267) ∈ zMl := zMl_in 16 11 rfl rfl
theorem pn267 : (parseMethodDescriptor zI267.1.desc).map (fun d => d.parameters.length) = some 1 := by decide +kernel
theorem mm268 : (268, zI268) ∈ zMl := zMl_in 16 12 rfl rfl
theorem pn268 : (parseMethodDescriptor zI268.1.desc).map (fun d => d.parameters.length) = some 1 := by decide +kernel
theorem mm269 : (269, zI269) ∈ zMl := zMl_in 16 13 rfl rfl
theorem pn269 : (parseMethodDescriptor zI269.1.desc).map (fun d => d.parameters.length) = some 1 := by decide +kernel
theorem mm270 : (270, zI270) ∈ zMl := zMl_in 16 14 rfl rfl
theorem pn270 : (parseMethodDescriptor zI270.1.desc).map (fun d => d.parameters.length) = some 0 := by decide +kernel
theorem mm271 : (271, zI271) ∈ zMl := zMl_in 16 15 rfl rfl
theorem pn271 : (parseMethodDescriptor zI271.1.desc).map (fun d => d.parameters.length) = some 1 := by decide +kernel
theorem mm272 : (272, zI272) ∈ zMl := zMl_in 17 0 rfl rfl
theorem pn272 : (parseMethodDescriptor zI272.1.desc).map (fun d => d.parameters.length) = some 3 := by decide +kernel
theorem mm273 : (273, zI273) ∈ zMl := zMl_in 17 1 rfl rfl
theorem pn273 : (parseMethodDescriptor zI273.1.desc).map (fun d => d.parameters.length) = some 0 := by decide +kernel
theorem mm274 : (274, zI274) ∈ zMl := zMl_in 17 2 rfl rfl
theorem pn274 : (parseMethodDescriptor zI274.1.desc).map (fun d => d.parameters.length) = some 0 := by decide +kernel
theorem mm275 : (275, zI275) ∈ zMl := zMl_in 17 3 rfl rfl
theorem pn275 : (parseMethodDescriptor zI275.1.desc).map (fun d => d.parameters.length) = some 2 := by decide +kernel
theorem mm276 : (276, zI276) ∈ zMl := zMl_in 17 4 rfl rfl
theorem pn276 : (parseMethodDescriptor zI276.1.desc).map (fun d => d.parameters.length) = some 0 := by decide +kernel
theorem mm277 : (277, zI277) ∈ zMl := zMl_in 17 5 rfl rfl
theorem pn277 : (parseMethodDescriptor zI277.1.desc).map (fun d => d.parameters.length) = some 0 := by decide +kernel
theorem mm278 : (278, zI278) ∈ zMl := zMl_in 17 6 rfl rfl
theorem pn278 : (parseMethodDescriptor zI278.1.desc).map (fun d => d.parameters.length) = some 1 := by decide +kernel
theorem mm279 : (279, zI279) ∈ zMl := zMl_in 17 7 rfl rfl
theorem pn279 : (parseMethodDescriptor zI279.1.desc).map (fun d => d.parameters.length) = some 3 := by decide +kernel
theorem mm280 : (280, zI280) ∈ zMl := zMl_in 17 8 rfl rfl
theorem pn280 : (parseMethodDescriptor zI280.1.desc).map (fun d => d.parameters.length) = some 0 := by decide +kernel
theorem mm281 : (281, zI281) ∈ zMl := zMl_in 17 9 rfl rfl
theorem pn281 : (parseMethodDescriptor zI281.1.desc).map (fun d => d.parameters.length) = some 2 := by decide +kernel
theorem mm282 : (282, zI282) ∈ zMl := zMl_in 17 10 rfl rfl
theorem pn282 : (parseMethodDescriptor zI282.1.desc).map (fun d => d.parameters.length) = some 2 := by decide +kernel
theorem mm283 : (283, zI283) ∈ zMl := zMl_in 17 11 rfl rfl
theorem pn283 : (parseMethodDescriptor zI283.1.desc).map (fun d => d.parameters.length) = some 2 := by decide +kernel
theorem mm284 : (284, zI284) ∈ zMl := zMl_in 17 12 rfl rfl
theorem pn284 : (parseMethodDescriptor zI284.1.desc).map (fun d => d.parameters.length) = some 0 := by decide +kernel
theorem mm285 : (285, zI285) ∈ zMl := zMl_in 17 13 rfl rfl
theorem pn285 : (parseMethodDescriptor zI285.1.desc).map (fun d => d.parameters.length) = some 0 := by decide +kernel
theorem mm286 : (286, zI286) ∈ zMl := zMl_in 17 14 rfl rfl
theorem pn286 : (parseMethodDescriptor zI286.1.desc).map (fun d => d.parameters.length) = some 2 := by decide +kernel
theorem mm287 : (287, zI287) ∈ zMl := zMl_in 17 15 rfl rfl
theorem pn287 : (parseMethodDescriptor zI287.1.desc).map (fun d => d.parameters.length) = some 0 := by decide +kernel
theorem mm288 : (288, zI288) ∈ zMl := zMl_in 18 0 rfl rfl
theorem pn288 : (parseMethodDescriptor zI288.1.desc).map (fun d => d.parameters.length) = some 0 := by decide +kernel
theorem mm289 : (289, zI289) ∈ zMl := zMl_in 18 1 rfl rfl
theorem pn289 : (parseMethodDescriptor zI289.1.desc).map (fun d => d.parameters.length) = some 0 := by decide +kernel
theorem mm290 : (290, zI290) ∈ zMl := zMl_in 18 2 rfl rfl
theorem pn290 : (parseMethodDescriptor zI290.1.desc).map (fun d => d.parameters.length) = some 0 := by decide +kernel
theorem mm291 : (291, zI291) ∈ zMl := zMl_in 18 3 rfl rfl
theorem pn291 : (parseMethodDescriptor zI291.1.desc).map (fun d => d.parameters.length) = some 0 := by decide +kernel
theorem mm292 : (292, zI292) ∈ zMl := zMl_in 18 4 rfl rfl
theorem pn292 : (parseMethodDescriptor zI292.1.desc).map (fun d => d.parameters.length) = some 3 := by decide +kernel
theorem mm293 : (293, zI293) ∈ zMl := zMl_in 18 5 rfl rfl
theorem pn293 : (parseMethodDescriptor zI293.1.desc).map (fun d => d.parameters.length) = some 0 := by decide +kernel
theorem mm294 : (294, zI294) ∈ zMl := zMl_in 18 6 rfl rfl
theorem pn294 : (parseMethodDescriptor zI294.1.desc).map (fun d => d.parameters.length) = some 0 := by decide +kernel
theorem mm295 : (295, zI295) ∈ zMl := zMl_in 18 7 rfl rfl
theorem pn295 : (parseMethodDescriptor zI295.1.desc).map (fun d => d.parameters.length) = some 1 := by decide +kernel
theorem mm296 : (296, zI296) ∈ zMl := zMl_in 18 8 rfl rfl
theorem pn296 : (parseMethodDescriptor zI296.1.desc).map (fun d => d.parameters.length) = some 1 := by decide +kernel
theorem mm297 : (297, zI297) ∈ zMl := zMl_in 18 9 rfl rfl
theorem pn297 : (parseMethodDescriptor zI297.1.desc).map (fun d => d.parameters.length) = some 1 := by decide +kernel
theorem mm298 : (298, zI298) ∈ zMl := zMl_in 18 10 rfl rfl
theorem pn298 : (parseMethodDescriptor zI298.1.desc).map (fun d => d.parameters.length) = some 0 := by decide +kernel
theorem mm299 : (299, zI299) ∈ zMl := zMl_in 18 11 rfl rfl
theorem pn299 : (parseMethodDescriptor zI299.1.desc).map (fun d => d.parameters.length) = some 1 := by decide +kernel
theorem mm300 : (300, zI300) ∈ zMl := zMl_in 18 12 rfl rfl
theorem pn300 : (parseMethodDescriptor zI300.1.desc).map (fun d => d.parameters.length) = some 1 := by decide +kernel
theorem mm301 : (301, zI301) ∈ zMl := zMl_in 18 13 rfl rfl
theorem pn301 : (parseMethodDescriptor zI301.1.desc).map (fun d => d.parameters.length) = some 1 := by decide +kernel
theorem mm302 : (302, zI302) ∈ zMl := zMl_in 18 14 rfl rfl
theorem pn302 : (parseMethodDescriptor zI302.1.desc).map (fun d => d.parameters.length) = some 1 := by decide +kernel
theorem mm303 : (303, zI303) ∈ zMl := zMl_in 18 15 rfl rfl
theorem pn303 : (parseMethodDescriptor zI303.1.desc).map (fun d => d.parameters.length) = some 1 := by decide +kernel
theorem mm304 : (304, zI304) ∈ zMl := zMl_in 19 0 rfl rfl
theorem pn304 : (parseMethodDescriptor zI304.1.desc).map (fun d => d.parameters.length) = some 1 := by decide +kernel
theorem mm305 : (305, zI305) ∈ zMl := zMl_in 19 1 rfl rfl
theorem pn305 : (parseMethodDescriptor zI305.1.desc).map (fun d => d.parameters.length) = some 1 := by decide +kernel
theorem mm306 : (306, zI306) ∈ zMl := zMl_in 19 2 rfl rfl
theorem pn306 : (parseMethodDescriptor zI306.1.desc).map (fun d => d.parameters.length) = some 1 := by decide +kernel
theorem mm307 : (307, zI307) ∈ zMl := zMl_in 19 3 rfl rfl
theorem pn307 : (parseMethodDescriptor zI307.1.desc).map (fun d => d.parameters.length) = some 0 := by decide +kernel
theorem mm308 : (308, zI308) ∈ zMl := zMl_in 19 4 rfl rfl
theorem pn308 : (parseMethodDescriptor zI308.1.desc).map (fun d => d.parameters.length) = some 0 := by decide +kernel
theorem mm309 : (309, zI309) ∈ zMl := zMl_in 19 5 rfl rfl
theorem pn309 : (parseMethodDescriptor zI309.1.desc).map (fun d => d.parameters.length) = some 0 := by decide +kernel
theorem mm310 : (310, zI310) ∈ zMl := zMl_in 19 6 rfl rfl
theorem pn310 : (parseMethodDescriptor zI310.1.desc).map (fun d => d.parameters.length) = some 1 := by decide +kernel
theorem mm311 : (311, zI311) ∈ zMl := zMl_in 19 7 rfl rfl
theorem pn311 : (parseMethodDescriptor zI311.1.desc).map (fun d => d.parameters.length) = some 3 := by decide +kernel
theorem mm312 : (312, zI312) ∈ zMl := zMl_in 19 8 rfl rfl
theorem pn312 : (parseMethodDescriptor zI312.1.desc).map (fun d => d.parameters.length) = some 3 := by decide +kernel
theorem mm313 : (313, zI313) ∈ zMl := zMl_in 19 9 rfl rfl
theorem pn313 : (parseMethodDescriptor zI313.1.desc).map (fun d => d.parameters.length) = some 2 := by decide +kernel
theorem mm314 : (314, zI314) ∈ zMl := zMl_in 19 10 rfl rfl
theorem pn314 : (parseMethodDescriptor zI314.1.desc).map (fun d => d.parameters.length) = some 0 := by decide +kernel
theorem mm315 : (315, zI315) ∈ zMl := zMl_in 19 11 rfl rfl
theorem pn315 : (parseMethodDescriptor zI315.1.desc).map (fun d => d.parameters.length) = some 1 := by decide +kernel
theorem mm316 : (316, zI316) ∈ zMl := zMl_in 19 12 rfl rfl
theorem pn316 : (parseMethodDescriptor zI316.1.desc).map (fun d => d.parameters.length) = some 3 := by decide +kernel
theorem mm317 : (317, zI317) ∈ zMl := zMl_in 19 13 rfl rfl
theorem pn317 : (parseMethodDescriptor zI317.1.desc).map (fun d => d.parameters.length) = some 0 := by decide +kernel
theorem mm318 : (318, zI318) ∈ zMl := zMl_in 19 14 rfl rfl
theorem pn318 : (parseMethodDescriptor zI318.1.desc).map (fun d => d.parameters.length) = some 1 := by decide +kernel
theorem mm319 : (319, zI319) ∈ zMl := zMl_in 19 15 rfl rfl
theorem pn319 : (parseMethodDescriptor zI319.1.desc).map (fun d => d.parameters.length) = some 2 := by decide +kernel
theorem mm320 : (320, zI320) ∈ zMl := zMl_in 20 0 rfl rfl
theorem pn320 : (parseMethodDescriptor zI320.1.desc).map (fun d => d.parameters.length) = some 2 := by decide +kernel
theorem mm321 : (321, zI321) ∈ zMl := zMl_in 20 1 rfl rfl
theorem pn321 : (parseMethodDescriptor zI321.1.desc).map (fun d => d.parameters.length) = some 0 := by decide +kernel
theorem mm322 : (322, zI322) ∈ zMl := zMl_in 20 2 rfl rfl
theorem pn322 : (parseMethodDescriptor zI322.1.desc).map (fun d => d.parameters.length) = some 0 := by decide +kernel
theorem mm323 : (323, zI323) ∈ zMl := zMl_in 20 3 rfl rfl
theorem pn323 : (parseMethodDescriptor zI323.1.desc).map (fun d => d.parameters.length) = some 0 := by decide +kernel
theorem mm324 : (324, zI324) ∈ zMl := zMl_in 20 4 rfl rfl
theorem pn324 : (parseMethodDescriptor zI324.1.desc).map (fun d => d.parameters.length) = some 1 := by decide +kernel
theorem mm325 : (325, zI325) ∈ zMl := zMl_in 20 5 rfl rfl
theorem pn325 : (parseMethodDescriptor zI325.1.desc).map (fun d => d.parameters.length) = some 2 := by decide +kernel
theorem mm326 : (326, zI326) ∈ zMl := zMl_in 20 6 rfl rfl
theorem pn326 : (parseMethodDescriptor zI326.1.desc).map (fun d => d.parameters.length) = some 2 := by decide +kernel
theorem mm327 : (327, zI327) ∈ zMl := zMl_in 20 7 rfl rfl
theorem pn327 : (parseMethodDescriptor zI327.1.desc).map (fun d => d.parameters.length) = some 1 := by decide +kernel
theorem mm328 : (328, zI328) ∈ zMl := zMl_in 20 8 rfl rfl
theorem pn328 : (parseMethodDescriptor zI328.1.desc).map (fun d => d.parameters.length) = some 1 := by decide +kernel
theorem mm329 : (329, zI329) ∈ zMl := zMl_in 20 9 rfl rfl
theorem pn329 : (parseMethodDescriptor zI329.1.desc).map (fun d => d.parameters.length) = some 0 := by decide +kernel
theorem mm330 : (330, zI330) ∈ zMl := zMl_in 20 10 rfl rfl
theorem pn330 : (parseMethodDescriptor zI330.1.desc).map (fun d => d.parameters.length) = some 1 := by decide +kernel
theorem mm331 : (331, zI331) ∈ zMl := zMl_in 20 11 rfl rfl
theorem pn331 : (parseMethodDescriptor zI331.1.desc).map (fun d => d.parameters.length) = some 1 := by decide +kernel
theorem mm332 : (332, zI332) ∈ zMl := zMl_in 20 12 rfl rfl
theorem pn332 : (parseMethodDescriptor zI332.1.desc).map (fun d => d.parameters.length) = some 1 := by decide +kernel
theorem mm333 : (333, zI333) ∈ zMl := zMl_in 20 13 rfl rfl
theorem pn333 : (parseMethodDescriptor zI333.1.desc).map (fun d => d.parameters.length) = some 2 := by decide +kernel
theorem mm334 : (334, zI334) ∈ zMl := zMl_in 20 14 rfl rfl
theorem pn334 : (parseMethodDescriptor zI334.1.desc).map (fun d => d.parameters.length) = some 1 := by decide +kernel
theorem pn335 : (parseMethodDescriptor zI335.1.desc).map (fun d => d.parameters.length) = some 1 := by decide +kernel
theorem mm336 : (336, zI336) ∈ zMl := zMl_in 21 0 rfl rfl
theorem pn336 : (parseMethodDescriptor zI336.1.desc).map (fun d => d.parameters.length) = some 4 := by decide +kernel
theorem mm337 : (337, zI337) ∈ zMl := zMl_in 21 1 rfl rfl
theorem pn337 : (parseMethodDescriptor zI337.1.desc).map (fun d => d.parameters.length) = some 4 := by decide +kernel
theorem mm338 : (338, zI338) ∈ zMl := zMl_in 21 2 rfl rfl
theorem pn338 : (parseMethodDescriptor zI338.1.desc).map (fun d => d.parameters.length) = some 3 := by decide +kernel
theorem mm339 : (339, zI339) ∈ zMl := zMl_in 21 3 rfl rfl
theorem pn339 : (parseMethodDescriptor zI339.1.desc).map (fun d => d.parameters.length) = some 3 := by decide +kernel
theorem mm340 : (340, zI340) ∈ zMl := zMl_in 21 4 rfl rfl
theorem pn340 : (parseMethodDescriptor zI340.1.desc).map (fun d => d.parameters.length) = some 3 := by decide +kernel
theorem mm341 : (341, zI341) ∈ zMl := zMl_in 21 5 rfl rfl
theorem pn341 : (parseMethodDescriptor zI341.1.desc).map (fun d => d.parameters.length) = some 5 := by decide +kernel
theorem mm342 : (342, zI342) ∈ zMl := zMl_in 21 6 rfl rfl
theorem pn342 : (parseMethodDescriptor zI342.1.desc).map (fun d => d.parameters.length) = some 3 := by decide +kernel
theorem mm343 : (343, zI343) ∈ zMl := zMl_in 21 7 rfl rfl
theorem pn343 : (parseMethodDescriptor zI343.1.desc).map (fun d => d.parameters.length) = some 3 := by decide +kernel
theorem mm344 : (344, zI344) ∈ zMl := zMl_in 21 8 rfl rfl
theorem pn344 : (parseMethodDescriptor zI344.1.desc).map (fun d => d.parameters.length) = some 3 := by decide +kernel
theorem mm345 : (345, zI345) ∈ zMl := zMl_in 21 9 rfl rfl
theorem pn345 : (parseMethodDescriptor zI345.1.desc).map (fun d => d.parameters.length) = some 3 := by decide +kernel
theorem mm346 : (346, zI346) ∈ zMl := zMl_in 21 10 rfl rfl
theorem pn346 : (parseMethodDescriptor zI346.1.desc).map (fun d => d.parameters.length) = some 3 := by decide +kernel
theorem mm347 : (347, zI347) ∈ zMl := zMl_in 21 11 rfl rfl
theorem pn347 : (parseMethodDescriptor zI347.1.desc).map (fun d => d.parameters.length) = some 5 := by decide +kernel
theorem mm348 : (348, zI348) ∈ zMl := zMl_in 21 12 rfl rfl
theorem pn348 : (parseMethodDescriptor zI348.1.desc).map (fun d => d.parameters.length) = some 4 := by decide +kernel
theorem mm349 : (349, zI349) ∈ zMl := zMl_in 21 13 rfl rfl
theorem pn349 : (parseMethodDescriptor zI349.1.desc).map (fun d => d.parameters.length) = some 5 := by decide +kernel
theorem mm350 : (350, zI350) ∈ zMl := zMl_in 21 14 rfl rfl
theorem pn350 : (parseMethodDescriptor zI350.1.desc).map (fun d => d.parameters.length) = some 5 := by decide +kernel
theorem mm351 : (351, zI351) ∈ zMl := zMl_in 21 15 rfl rfl
theorem pn351 : (parseMethodDescriptor zI351.1.desc).map (fun d => d.parameters.length) = some 3 := by decide +kernel
theorem mm352 : (352, zI352) ∈ zMl := zMl_in 22 0 rfl rfl
theorem pn352 : (parseMethodDescriptor zI352.1.desc).map (fun d => d.parameters.length) = some 4 := by decide +kernel
theorem mm353 : (353, zI353) ∈ zMl := zMl_in 22 1 rfl rfl
theorem pn353 : (parseMethodDescriptor zI353.1.desc).map (fun d => d.parameters.length) = some 3 := by decide +kernel
theorem mm354 : (354, zI354) ∈ zMl := zMl_in 22 2 rfl rfl
theorem pn354 : (parseMethodDescriptor zI354.1.desc).map (fun d => d.parameters.length) = some 4 := by decide +kernel
theorem mm355 : (355, zI355) ∈ zMl := zMl_in 22 3 rfl rfl
theorem pn355 : (parseMethodDescriptor zI355.1.desc).map (fun d => d.parameters.length) = some 2 := by decide +kernel
theorem mm356 : (356, zI356) ∈ zMl := zMl_in 22 4 rfl rfl
theorem pn356 : (parseMethodDescriptor zI356.1.desc).map (fun d => d.parameters.length) = some 4 := by decide +kernel
theorem mm357 : (357, zI357) ∈ zMl := zMl_in 22 5 rfl rfl
theorem pn357 : (parseMethodDescriptor zI357.1.desc).map (fun d => d.parameters.length) = some 6 := by decide +kernel
theorem mm358 : (358, zI358) ∈ zMl := zMl_in 22 6 rfl rfl
theorem pn358 : (parseMethodDescriptor zI358.1.desc).map (fun d => d.parameters.length) = some 4 := by decide +kernel
theorem mm359 : (359, zI359) ∈ zMl := zMl_in 22 7 rfl rfl
theorem pn359 : (parseMethodDescriptor zI359.1.desc).map (fun d => d.parameters.length) = some 2 := by decide +kernel
theorem mm360 : (360, zI360) ∈ zMl := zMl_in 22 8 rfl rfl
theorem pn360 : (parseMethodDescriptor zI360.1.desc).map (fun d => d.parameters.length) = some 6 := by decide +kernel
theorem mm361 : (361, zI361) ∈ zMl := zMl_in 22 9 rfl rfl
theorem pn361 : (parseMethodDescriptor zI361.1.desc).map (fun d => d.parameters.length) = some 3 := by decide +kernel
theorem mm362 : (362, zI362) ∈ zMl := zMl_in 22 10 rfl rfl
theorem pn362 : (parseMethodDescriptor zI362.1.desc).map (fun d => d.parameters.length) = some 2 := by decide +kernel
theorem mm363 : (363, zI363) ∈ zMl := zMl_in 22 11 rfl rfl
theorem pn363 : (parseMethodDescriptor zI363.1.desc).map (fun d => d.parameters.length) = some 2 := by decide +kernel
theorem mm364 : (364, zI364) ∈ zMl := zMl_in 22 12 rfl rfl
theorem pn364 : (parseMethodDescriptor zI364.1.desc).map (fun d => d.parameters.length) = some 4 := by decide +kernel
theorem mm365 : (365, zI365) ∈ zMl := zMl_in 22 13 rfl rfl
theorem pn365 : (parseMethodDescriptor zI365.1.desc).map (fun d => d.parameters.length) = some 3 := by decide +kernel
theorem mm366 : (366, zI366) ∈ zMl := zMl_in 22 14 rfl rfl
theorem pn366 : (parseMethodDescriptor zI366.1.desc).map (fun d => d.parameters.length) = some 3 := by decide +kernel
theorem mm367 : (367, zI367) ∈ zMl := zMl_in 22 15 rfl rfl
theorem pn367 : (parseMethodDescriptor zI367.1.desc).map (fun d => d.parameters.length) = some 3 := by decide +kernel
theorem mm368 : (368, zI368) ∈ zMl := zMl_in 23 0 rfl rfl
theorem pn368 : (parseMethodDescriptor zI368.1.desc).map (fun d => d.parameters.length) = some 5 := by decide +kernel
theorem mm369 : (369, zI369) ∈ zMl := zMl_in 23 1 rfl rfl
theorem pn369 : (parseMethodDescriptor zI369.1.desc).map (fun d => d.parameters.length) = some 2 := by decide +kernel
theorem mm370 : (370, zI370) ∈ zMl := zMl_in 23 2 rfl rfl
theorem pn370 : (parseMethodDescriptor zI370.1.desc).map (fun d => d.parameters.length) = some 1 := by decide +kernel
theorem mm371 : (371, zI371) ∈ zMl := zMl_in 23 3 rfl rfl
theorem pn371 : (parseMethodDescriptor zI371.1.desc).map (fun d => d.parameters.length) = some 1 := by decide +kernel
theorem mm372 : (372, zI372) ∈ zMl := zMl_in 23 4 rfl rfl
theorem pn372 : (parseMethodDescriptor zI372.1.desc).map (fun d => d.parameters.length) = some 1 := by decide +kernel
theorem mm373 : (373, zI373) ∈ zMl := zMl_in 23 5 rfl rfl
theorem pn373 : (parseMethodDescriptor zI373.1.desc).map (fun d => d.parameters.length) = some 1 := by decide +kernel
theorem mm374 : (374, zI374) ∈ zMl := zMl_in 23 6 rfl rfl
theorem pn374 : (parseMethodDescriptor zI374.1.desc).map (fun d => d.parameters.length) = some 0 := by decide +kernel
theorem mm375 : (375, zI375) ∈ zMl := zMl_in 23 7 rfl rfl
theorem pn375 : (parseMethodDescriptor zI375.1.desc).map (fun d => d.parameters.length) = some 1 := by decide +kernel
theorem mm376 : (376, zI376) ∈ zMl := zMl_in 23 8 rfl rfl
theorem pn376 : (parseMethodDescriptor zI376.1.desc).map (fun d => d.parameters.length) = some 0 := by decide +kernel
theorem mm377 : (377, zI377) ∈ zMl := zMl_in 23 9 rfl rfl
theorem pn377 : (parseMethodDescriptor zI377.1.desc).map (fun d => d.parameters.length) = some 0 := by decide +kernel
theorem mm378 : (378, zI378) ∈ zMl := zMl_in 23 10 rfl rfl
theorem pn378 : (parseMethodDescriptor zI378.1.desc).map (fun d => d.parameters.length) = some 1 := by decide +kernel
theorem mm379 : (379, zI379) ∈ zMl := zMl_in 23 11 rfl rfl
theorem pn379 : (parseMethodDescriptor zI379.1.desc).map (fun d => d.parameters.length) = some 2 := by decide +kernel
theorem mm380 : (380, zI380) ∈ zMl := zMl_in 23 12 rfl rfl
theorem pn380 : (parseMethodDescriptor zI380.1.desc).map (fun d => d.parameters.length) = some 4 := by decide +kernel
theorem mm381 : (381, zI381) ∈ zMl := zMl_in 23 13 rfl rfl
theorem pn381 : (parseMethodDescriptor zI381.1.desc).map (fun d => d.parameters.length) = some 1 := by decide +kernel
theorem mm382 : (382, zI382) ∈ zMl := zMl_in 23 14 rfl rfl
theorem pn382 : (parseMethodDescriptor zI382.1.desc).map (fun d => d.parameters.length) = some 1 := by decide +kernel
theorem mm383 : (383, zI383) ∈ zMl := zMl_in 23 15 rfl rfl
theorem pn383 : (parseMethodDescriptor zI383.1.desc).map (fun d => d.parameters.length) = some 2 := by decide +kernel
theorem mm384 : (384, zI384) ∈ zMl := zMl_in 24 0 rfl rfl
theorem pn384 : (parseMethodDescriptor zI384.1.desc).map (fun d => d.parameters.length) = some 2 := by decide +kernel
theorem mm385 : (385, zI385) ∈ zMl := zMl_in 24 1 rfl rfl
theorem pn385 : (parseMethodDescriptor zI385.1.desc).map (fun d => d.parameters.length) = some 0 := by decide +kernel
theorem mm386 : (386, zI386) ∈ zMl := zMl_in 24 2 rfl rfl
theorem pn386 : (parseMethodDescriptor zI386.1.desc).map (fun d => d.parameters.length) = some 1 := by decide +kernel
theorem pn387 : (parseMethodDescriptor zI387.1.desc).map (fun d => d.parameters.length) = some 0 := by decide +kernel
theorem mm388 : (388, zI388) ∈ zMl := zMl_in 24 3 rfl rfl
theorem pn388 : (parseMethodDescriptor zI388.1.desc).map (fun d => d.parameters.length) = some 1 := by decide +kernel
theorem mm389 : (389, zI389) ∈ zMl := zMl_in 24 4 rfl rfl
theorem pn389 : (parseMethodDescriptor zI389.1.desc).map (fun d => d.parameters.length) = some 2 := by decide +kernel
theorem mm390 : (390, zI390) ∈ zMl := zMl_in 24 5 rfl rfl
theorem pn390 : (parseMethodDescriptor zI390.1.desc).map (fun d => d.parameters.length) = some 2 := by decide +kernel
theorem mm391 : (391, zI391) ∈ zMl := zMl_in 24 6 rfl rfl
theorem pn391 : (parseMethodDescriptor zI391.1.desc).map (fun d => d.parameters.length) = some 1 := by decide +kernel
theorem mm392 : (392, zI392) ∈ zMl := zMl_in 24 7 rfl rfl
theorem pn392 : (parseMethodDescriptor zI392.1.desc).map (fun d => d.parameters.length) = some 3 := by decide +kernel
theorem mm393 : (393, zI393) ∈ zMl := zMl_in 24 8 rfl rfl
theorem pn393 : (parseMethodDescriptor zI393.1.desc).map (fun d => d.parameters.length) = some 4 := by decide +kernel
theorem mm394 : (394, zI394) ∈ zMl := zMl_in 24 9 rfl rfl
theorem pn394 : (parseMethodDescriptor zI394.1.desc).map (fun d => d.parameters.length) = some 0 := by decide +kernel
theorem mm395 : (395, zI395) ∈ zMl := zMl_in 24 10 rfl rfl
theorem pn395 : (parseMethodDescriptor zI395.1.desc).map (fun d => d.parameters.length) = some 0 := by decide +kernel
theorem mm396 : (396, zI396) ∈ zMl := zMl_in 24 11 rfl rfl
theorem pn396 : (parseMethodDescriptor zI396.1.desc).map (fun d => d.parameters.length) = some 0 := by decide +kernel
theorem mm397 : (397, zI397) ∈ zMl := zMl_in 24 12 rfl rfl
theorem pn397 : (parseMethodDescriptor zI397.1.desc).map (fun d => d.parameters.length) = some 0 := by decide +kernel
theorem mm398 : (398, zI398) ∈ zMl := zMl_in 24 13 rfl rfl
theorem pn398 : (parseMethodDescriptor zI398.1.desc).map (fun d => d.parameters.length) = some 0 := by decide +kernel
theorem mm399 : (399, zI399) ∈ zMl := zMl_in 24 14 rfl rfl
theorem pn399 : (parseMethodDescriptor zI399.1.desc).map (fun d => d.parameters.length) = some 2 := by decide +kernel
theorem mm400 : (400, zI400) ∈ zMl := zMl_in 25 0 rfl rfl
theorem pn400 : (parseMethodDescriptor zI400.1.desc).map (fun d => d.parameters.length) = some 2 := by decide +kernel
theorem mm401 : (401, zI401) ∈ zMl := zMl_in 25 1 rfl rfl
theorem pn401 : (parseMethodDescriptor zI401.1.desc).map (fun d => d.parameters.length) = some 3 := by decide +kernel
theorem mm402 : (402, zI402) ∈ zMl := zMl_in 25 2 rfl rfl
theorem pn402 : (parseMethodDescriptor zI402.1.desc).map (fun d => d.parameters.length) = some 3 := by decide +kernel
theorem mm403 : (403, zI403) ∈ zMl := zMl_in 25 3 rfl rfl
theorem pn403 : (parseMethodDescriptor zI403.1.desc).map (fun d => d.parameters.length) = some 2 := by decide +kernel
theorem mm404 : (404, zI404) ∈ zMl := zMl_in 25 4 rfl rfl
theorem pn404 : (parseMethodDescriptor zI404.1.desc).map (fun d => d.parameters.length) = some 3 := by decide +kernel
theorem mm405 : (405, zI405) ∈ zMl := zMl_in 25 5 rfl rfl
theorem pn405 : (parseMethodDescriptor zI405.1.desc).map (fun d => d.parameters.length) = some 2 := by decide +kernel
theorem mm406 : (406, zI406) ∈ zMl := zMl_in 25 6 rfl rfl
theorem pn406 : (parseMethodDescriptor zI406.1.desc).map (fun d => d.parameters.length) = some 1 := by decide +kernel
theorem mm407 : (407, zI407) ∈ zMl := zMl_in 25 7 rfl rfl
theorem pn407 : (parseMethodDescriptor zI407.1.desc).map (fun d => d.parameters.length) = some 0 := by decide +kernel
theorem mm408 : (408, zI408) ∈ zMl := zMl_in 25 8 rfl rfl
theorem pn408 : (parseMethodDescriptor zI408.1.desc).map (fun d => d.parameters.length) = some 1 := by decide +kernel
theorem mm409 : (409, zI409) ∈ zMl := zMl_in 25 9 rfl rfl
theorem pn409 : (parseMethodDescriptor zI409.1.desc).map (fun d => d.parameters.length) = some 0 := by decide +kernel
theorem mm410 : (410, zI410) ∈ zMl := zMl_in 25 10 rfl rfl
theorem pn410 : (parseMethodDescriptor zI410.1.desc).map (fun d => d.parameters.length) = some 8 := by decide +kernel
theorem mm411 : (411, zI411) ∈ zMl := zMl_in 25 11 rfl rfl
theorem pn411 : (parseMethodDescriptor zI411.1.desc).map (fun d => d.parameters.length) = some 2 := by decide +kernel
theorem mm412 : (412, zI412) ∈ zMl := zMl_in 25 12 rfl rfl
theorem pn412 : (parseMethodDescriptor zI412.1.desc).map (fun d => d.parameters.length) = some 1 := by decide +kernel
theorem mm413 : (413, zI413) ∈ zMl := zMl_in 25 13 rfl rfl
theorem pn413 : (parseMethodDescriptor zI413.1.desc).map (fun d => d.parameters.length) = some 4 := by decide +kernel
theorem mm414 : (414, zI414) ∈ zMl := zMl_in 25 14 rfl rfl
theorem pn414 : (parseMethodDescriptor zI414.1.desc).map (fun d => d.parameters.length) = some 4 := by decide +kernel
theorem mm415 : (415, zI415) ∈ zMl := zMl_in 25 15 rfl rfl
theorem pn415 : (parseMethodDescriptor zI415.1.desc).map (fun d => d.parameters.length) = some 4 := by decide +kernel
theorem mm416 : (416, zI416) ∈ zMl := zMl_in 26 0 rfl rfl
theorem pn416 : (parseMethodDescriptor zI416.1.desc).map (fun d => d.parameters.length) = some 4 := by decide +kernel
theorem mm417 : (417, zI417) ∈ zMl := zMl_in 26 1 rfl rfl
theorem pn417 : (parseMethodDescriptor zI417.1.desc).map (fun d => d.parameters.length) = some 3 := by decide +kernel
theorem mm418 : (418, zI418) ∈ zMl := zMl_in 26 2 rfl rfl
theorem pn418 : (parseMethodDescriptor zI418.1.desc).map (fun d => d.parameters.length) = some 4 := by decide +kernel
theorem mm419 : (419, zI419) ∈ zMl := zMl_in 26 3 rfl rfl
theorem pn419 : (parseMethodDescriptor zI419.1.desc).map (fun d => d.parameters.length) = some 5 := by decide +kernel
theorem mm420 : (420, zI420) ∈ zMl := zMl_in 26 4 rfl rfl
theorem pn420 : (parseMethodDescriptor zI420.1.desc).map (fun d => d.parameters.length) = some 4 := by decide +kernel
theorem mm421 : (421, zI421) ∈ zMl := zMl_in 26 5 rfl rfl
theorem pn421 : (parseMethodDescriptor zI421.1.desc).map (fun d => d.parameters.length) = some 4 := by decide +kernel
theorem mm422 : (422, zI422) ∈ zMl := zMl_in 26 6 rfl rfl
theorem pn422 : (parseMethodDescriptor zI422.1.desc).map (fun d => d.parameters.length) = some 3 := by decide +kernel
theorem px0 : (parseMethodDescriptor (⟨"java/util/LinkedList", "iterator", "()Ljava/util/Iterator;"⟩ : MethodName).desc).map (fun d => d.parameters.length) = some 0 := by decide +kernel
theorem px1 : (parseMethodDescriptor (⟨"java/util/Iterator", "hasNext", "()Z"⟩ : MethodName).desc).map (fun d => d.parameters.length) = some 0 := by decide +kernel
theorem px2 : (parseMethodDescriptor (⟨"java/util/Iterator", "next", "()Ljava/lang/Object;"⟩ : MethodName).desc).map (fun d => d.parameters.length) = some 0 := by decide +kernel
theorem px3 : (parseMethodDescriptor (⟨"java/util/Iterator", "remove", "()V"⟩ : MethodName).desc).map (fun d => d.parameters.length) = some 0 := by decide +kernel
theorem px4 : (parseMethodDescriptor (⟨"java/util/List", "contains", "(Ljava/lang/Object;)Z"⟩ : MethodName).desc).map (fun d => d.parameters.length) = some 1 := by decide +kernel
theorem px5 : (parseMethodDescriptor (⟨"java/util/AbstractList", "listIterator", "(I)Ljava/util/ListIterator;"⟩ : MethodName).desc).map (fun d => d.parameters.length) = some 1 := by decide +kernel
theorem px6 : (parseMethodDescriptor (⟨"java/util/AbstractSequentialList", "listIterator", "()Ljava/util/ListIterator;"⟩ : MethodName).desc).map (fun d => d.parameters.length) = some 0 := by decide +kernel
theorem px7 : (parseMethodDescriptor (⟨"java/util/List", "indexOf", "(Ljava/lang/Object;)I"⟩ : MethodName).desc).map (fun d => d.parameters.length) = some 1 := by decide +kernel
def zEvC (m : Nat) (I : zIs) (c : List (List (Nat × Nat × Instr))) : Prop := ∀ g, g ∈ c → ∀ e, e ∈ g → zEv zMl zSR m I.1 I.2.2.1 I.2.1 e.1 e.2.1 e.2.2
def zcodeT (k : Nat) : Option (List (List (Nat × Nat × Instr))) := (cgs[k / 16]?).bind (fun g => g[k % 16]?)
theorem zas_mem {pc : Nat} {q : Nat × Instr} : ∀ (l : List (Nat × Nat × Instr)), zas pc l = some q → (pc, q) ∈ l := by
  intro l
  induction l with
  | nil => intro h; cases h
  | cons e l ih =>
    intro h
    have h : (bif Nat.beq e.1 pc then some e.2 else zas pc l) = some q := h
    cases hb : Nat.beq e.1 pc with
    | true =>
      rw [hb] at h
      have h1 := Nat.eq_of_beq_eq_true hb
      have h2 : e.2 = q := Option.some.inj h
      rw [← h1, ← h2]
      exact List.mem_cons_self
    | false =>
      rw [hb] at h
      exact List.mem_cons_of_mem _ (ih h)
theorem zEvC_ok {m : Nat} {I : zIs} {c : List (List (Nat × Nat × Instr))} (hc : zcodeT m = some c) (h : zEvC m I c) : ∀ pc nx i, zcode m pc = some (nx, i) → zEv zMl zSR m I.1 I.2.2.1 I.2.1 pc nx i := by
  intro pc nx i q
  have q : (((zcodeT m).bind (fun c => c[pc / 32]?)).bind (zas pc)) = some (nx, i) := q
  rw [hc] at q
  have q : ((c[pc / 32]?).bind (zas pc)) = some (nx, i) := q
  cases hg : c[pc / 32]? with
  | none => rw [hg] at q; cases q
  | some g =>
    rw [hg] at q
    exact h g (List.mem_of_getElem? hg) (pc, nx, i) (zas_mem g q)
def zOkM (e : Nat × zIs) : Prop := zHdr e.1 e.2 ∧ (∃ c, zcodeT e.1 = some c ∧ zEvC e.1 e.2 c) ∧ 8 ≤ zRK e.1
