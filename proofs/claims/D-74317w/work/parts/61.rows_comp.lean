/-! Rows by place, printed by tools/gen3.py. -/
section
variable {a0 a1 a2 a3 a4 a5 a6 a7 a8 a9 a10 a11 a12 a13 a14 a15 a16 a17 a18 a19 : V} {x y z x0 x1 x2 x3 x4 x5 x6 x7 x8 : Int} {r q r0 r1 r2 r3 r4 r5 r6 r7 r8 : Option Nat} {a b lv : Nat} {L S : List V} {h : MH} {Q : ZO → MH → Prop}
/-! RepeatFree.adds(Ljava/util/LinkedList;Ljava/lang/String;)V -/
theorem s0_0 : WP 0 0 0 [a0, vA r] S h Q ↔ WP 0 0 1 [a0, vA r] (vA r :: S) h Q := wp_aload rfl rfl
theorem s0_1n : WP 0 0 1 L (vA none :: S) h Q ↔ WP 0 0 18 L S h Q := wp_pl rfl rfl rfl
theorem s0_1 : WP 0 0 1 L (vA (some a) :: S) h Q ↔ (3 ≤ a ∧ WP 0 0 4 L S h Q) := wp_if rfl rfl rfl
theorem s0_4 : WP 0 0 4 [vA r, a1] S h Q ↔ WP 0 0 5 [vA r, a1] (vA r :: S) h Q := wp_aload rfl rfl
theorem s0_5 : WP 0 0 5 [a0, vA r] S h Q ↔ WP 0 0 6 [a0, vA r] (vA r :: S) h Q := wp_aload rfl rfl
theorem s0_6 : WP 0 0 6 L (vA r0 :: vA (some a) :: S) h Q ↔ ((hk h a).1 = 111 ∧ (zw S ≤ 8 ∧ WP 259 0 0 [vA (some a), vA r0] [] h (zret 0 0 6 9 L S Q))) := wp_V1 (c := 111) rfl rfl (fun _ => rfl) rfl rfl (zcan_of rfl rfl) rfl rfl rfl
theorem s0_9 : WP 0 0 9 L (vI x :: S) h Q ↔ zif (x = 0) (WP 0 0 12 L S h Q) (WP 0 0 18 L S h Q) := wp_bN zc_eq rfl rfl rfl
theorem s0_12 : WP 0 0 12 [vA r, a1] S h Q ↔ WP 0 0 13 [vA r, a1] (vA r :: S) h Q := wp_aload rfl rfl
theorem s0_13 : WP 0 0 13 [a0, vA r] S h Q ↔ WP 0 0 14 [a0, vA r] (vA r :: S) h Q := wp_aload rfl rfl
theorem s0_14 : WP 0 0 14 L (vA r0 :: vA (some a) :: S) h Q ↔ ((hk h a).1 = 111 ∧ (zw S ≤ 8 ∧ WP 255 0 0 [vA (some a), vA r0] [] h (zret 0 0 14 17 L S Q))) := wp_V1 (c := 111) rfl rfl (fun _ => rfl) rfl rfl (zcan_of rfl rfl) rfl rfl rfl
theorem s0_17 : WP 0 0 17 L (vA r :: S) h Q ↔ WP 0 0 18 L S h Q := wp_pl rfl rfl rfl
theorem s0_17i : WP 0 0 17 L (vI x :: S) h Q ↔ WP 0 0 18 L S h Q := wp_pl rfl rfl rfl
theorem s0_18 : WP 0 0 18 L [] h Q ↔ Q (.inl none) h := wp_ret rfl
/-! RepeatFree.ahead()I -/
theorem s1_0 : WP 1 0 0 [vA r, a1, a2, a3] S h Q ↔ WP 1 0 1 [vA r, a1, a2, a3] (vA r :: S) h Q := wp_aload rfl rfl
theorem s1_1 : WP 1 0 1 L (vA (some a) :: S) h Q ↔ (zhas 6 (hk h a) = true ∧ WP 1 0 4 L (hm h a 6 :: S) h Q) := wp_if rfl rfl rfl
theorem s1_4 : WP 1 0 4 L (vA (some a) :: S) h Q ↔ (zhas 15 (hk h a) = true ∧ WP 1 0 7 L (hm h a 15 :: S) h Q) := wp_if rfl rfl rfl
theorem s1_7 : WP 1 0 7 L S h Q ↔ WP 1 0 9 L (vI 64 :: S) h Q := wp_pl rfl rfl rfl
theorem s1_9 : WP 1 0 9 L (vI y :: vI x :: S) h Q ↔ zif (x = y) (WP 1 0 12 L S h Q) (WP 1 0 14 L S h Q) := wp_bN zc_eq rfl rfl rfl
theorem s1_12 : WP 1 0 12 L S h Q ↔ WP 1 0 13 L (vI 0 :: S) h Q := wp_pl rfl rfl rfl
theorem s1_13 : WP 1 0 13 L [vI x] h Q ↔ Q (.inl (some (vI x))) h := wp_iret0 rfl rfl
theorem s1_14 : WP 1 0 14 L S h Q ↔ WP 1 0 15 L (vI 0 :: S) h Q := wp_pl rfl rfl rfl
theorem s1_15 : WP 1 0 15 [a0, a1, a2, a3] (vI x :: S) h Q ↔ WP 1 0 16 [a0, vI x, a2, a3] S h Q := wp_istore rfl rfl rfl
theorem s1_16 : WP 1 0 16 L S h Q ↔ WP 1 0 17 L (vI 0 :: S) h Q := wp_pl rfl rfl rfl
theorem s1_17 : WP 1 0 17 [a0, a1, a2, a3] (vI x :: S) h Q ↔ WP 1 0 18 [a0, a1, vI x, a3] S h Q := wp_istore rfl rfl rfl
theorem s1_18 : WP 1 0 18 [a0, a1, vI x, a3] S h Q ↔ WP 1 0 19 [a0, a1, vI x, a3] (vI x :: S) h Q := wp_iload rfl rfl
theorem s1_19 : WP 1 0 19 [vA r, a1, a2, a3] S h Q ↔ WP 1 0 20 [vA r, a1, a2, a3] (vA r :: S) h Q := wp_aload rfl rfl
theorem s1_20 : WP 1 0 20 L (vA (some a) :: S) h Q ↔ (zhas 4 (hk h a) = true ∧ WP 1 0 23 L (hm h a 4 :: S) h Q) := wp_if rfl rfl rfl
theorem s1_23 : WP 1 0 23 L (vA (some a) :: S) h Q ↔ (zhas 12 (hk h a) = true ∧ WP 1 0 26 L (hm h a 12 :: S) h Q) := wp_if rfl rfl rfl
theorem s1_26 : WP 1 0 26 L (vI y :: vI x :: S) h Q ↔ zif (x < y) (WP 1 0 29 L S h Q) (WP 1 0 108 L S h Q) := wp_bN zc_lt rfl rfl rfl
theorem s1_29 : WP 1 0 29 [vA r, a1, a2, a3] S h Q ↔ WP 1 0 30 [vA r, a1, a2, a3] (vA r :: S) h Q := wp_aload rfl rfl
theorem s1_30 : WP 1 0 30 L (vA (some a) :: S) h Q ↔ (zhas 9 (hk h a) = true ∧ WP 1 0 33 L (hm h a 9 :: S) h Q) := wp_if rfl rfl rfl
theorem s1_33 : WP 1 0 33 L S h Q ↔ WP 1 0 34 L (vI 0 :: S) h Q := wp_pl rfl rfl rfl
theorem s1_34 : WP 1 0 34 L (vI x :: vA (some a) :: S) h Q ↔ ((zNC ≤ a ∧ zhas 15 (hk h a) = true) ∧ WP 1 0 37 L S (hput h a 15 (vI x)) Q) := wp_put0 rfl rfl
theorem s1_37 : WP 1 0 37 [vA r, a1, a2, a3] S h Q ↔ WP 1 0 38 [vA r, a1, a2, a3] (vA r :: S) h Q := wp_aload rfl rfl
theorem s1_38 : WP 1 0 38 L (vA (some a) :: S) h Q ↔ (zhas 9 (hk h a) = true ∧ WP 1 0 41 L (hm h a 9 :: S) h Q) := wp_if rfl rfl rfl
theorem s1_41 : WP 1 0 41 [a0, a1, vI x, a3] S h Q ↔ WP 1 0 42 [a0, a1, vI x, a3] (vI x :: S) h Q := wp_iload rfl rfl
theorem s1_42 : WP 1 0 42 L (vI x0 :: vA (some a) :: S) h Q ↔ ((hk h a).1 = 102 ∧ (zw S ≤ 8 ∧ WP 97 0 0 [vA (some a), vI x0] [] h (zret 1 0 42 45 L S Q))) := wp_V1 (c := 102) rfl rfl (fun _ => rfl) rfl rfl (zcan_of rfl rfl) rfl rfl rfl
theorem s1_45 : WP 1 0 45 L S h Q ↔ WP 1 0 46 L (vI 0 :: S) h Q := wp_pl rfl rfl rfl
theorem s1_46 : WP 1 0 46 [a0, a1, a2, a3] (vI x :: S) h Q ↔ WP 1 0 47 [a0, a1, a2, vI x] S h Q := wp_istore rfl rfl rfl
theorem s1_47 : WP 1 0 47 [a0, a1, a2, vI x] S h Q ↔ WP 1 0 48 [a0, a1, a2, vI x] (vI x :: S) h Q := wp_iload rfl rfl
theorem s1_48 : WP 1 0 48 [vA r, a1, a2, a3] S h Q ↔ WP 1 0 49 [vA r, a1, a2, a3] (vA r :: S) h Q := wp_aload rfl rfl
theorem s1_49 : WP 1 0 49 L (vA (some a) :: S) h Q ↔ (zhas 6 (hk h a) = true ∧ WP 1 0 52 L (hm h a 6 :: S) h Q) := wp_if rfl rfl rfl
theorem s1_52 : WP 1 0 52 L (vA (some a) :: S) h Q ↔ (zhas 15 (hk h a) = true ∧ WP 1 0 55 L (hm h a 15 :: S) h Q) := wp_if rfl rfl rfl
theorem s1_55 : WP 1 0 55 L (vI y :: vI x :: S) h Q ↔ zif (x < y) (WP 1 0 58 L S h Q) (WP 1 0 80 L S h Q) := wp_bN zc_lt rfl rfl rfl
theorem s1_58 : WP 1 0 58 [vA r, a1, a2, a3] S h Q ↔ WP 1 0 59 [vA r, a1, a2, a3] (vA r :: S) h Q := wp_aload rfl rfl
theorem s1_59 : WP 1 0 59 L (vA (some a) :: S) h Q ↔ (zhas 9 (hk h a) = true ∧ WP 1 0 62 L (hm h a 9 :: S) h Q) := wp_if rfl rfl rfl
theorem s1_62 : WP 1 0 62 [vA r, a1, a2, a3] S h Q ↔ WP 1 0 63 [vA r, a1, a2, a3] (vA r :: S) h Q := wp_aload rfl rfl
theorem s1_63 : WP 1 0 63 L (vA (some a) :: S) h Q ↔ (zhas 6 (hk h a) = true ∧ WP 1 0 66 L (hm h a 6 :: S) h Q) := wp_if rfl rfl rfl
theorem s1_66 : WP 1 0 66 L (vA (some a) :: S) h Q ↔ (zhas 14 (hk h a) = true ∧ WP 1 0 69 L (hm h a 14 :: S) h Q) := wp_if rfl rfl rfl
theorem s1_69 : WP 1 0 69 [a0, a1, a2, vI x] S h Q ↔ WP 1 0 70 [a0, a1, a2, vI x] (vI x :: S) h Q := wp_iload rfl rfl
theorem s1_70 : WP 1 0 70 L (vI x :: vA (some a) :: S) h Q ↔ ((((hk h a).1 = 2 ∨ (hk h a).1 = 3) ∧ 0 ≤ x ∧ x < ((hk h a).2 : Int)) ∧ WP 1 0 71 L (hm h a x.toNat :: S) h Q) := wp_if rfl rfl rfl
theorem s1_71 : WP 1 0 71 L (vI x0 :: vA (some a) :: S) h Q ↔ ((hk h a).1 = 102 ∧ (zw S ≤ 8 ∧ WP 97 0 0 [vA (some a), vI x0] [] h (zret 1 0 71 74 L S Q))) := wp_V1 (c := 102) rfl rfl (fun _ => rfl) rfl rfl (zcan_of rfl rfl) rfl rfl rfl
theorem s1_74 : WP 1 0 74 [a0, a1, a2, vI x] S h Q ↔ WP 1 0 77 [a0, a1, a2, vI (wr (x + 1))] S h Q := wp_iinc rfl rfl rfl
theorem s1_77 : WP 1 0 77 L S h Q ↔ WP 1 0 47 L S h Q := wp_pl rfl rfl rfl
theorem s1_80 : WP 1 0 80 [a0, vI x, a2, a3] S h Q ↔ WP 1 0 81 [a0, vI x, a2, a3] (vI x :: S) h Q := wp_iload rfl rfl
theorem s1_81 : WP 1 0 81 [vA r, a1, a2, a3] S h Q ↔ WP 1 0 82 [vA r, a1, a2, a3] (vA r :: S) h Q := wp_aload rfl rfl
theorem s1_82 : WP 1 0 82 [vA r, a1, a2, a3] S h Q ↔ WP 1 0 83 [vA r, a1, a2, a3] (vA r :: S) h Q := wp_aload rfl rfl
theorem s1_83 : WP 1 0 83 L (vA (some a) :: S) h Q ↔ (zhas 9 (hk h a) = true ∧ WP 1 0 86 L (hm h a 9 :: S) h Q) := wp_if rfl rfl rfl
theorem s1_86 : WP 1 0 86 L (vA r0 :: vA (some a) :: S) h Q ↔ ((hk h a).1 = 100 ∧ (zw S ≤ 8 ∧ WP 17 0 0 [vA (some a), vA r0, vJ] [] h (zret 1 0 86 89 L S Q))) := wp_V1 (c := 100) rfl rfl (fun _ => rfl) rfl rfl (zcan_of rfl rfl) rfl rfl rfl
theorem s1_89 : WP 1 0 89 L S h Q ↔ WP 1 0 90 L (vI (-1) :: S) h Q := wp_pl rfl rfl rfl
theorem s1_90 : WP 1 0 90 L (vI y :: vI x :: S) h Q ↔ zif (x = y) (WP 1 0 93 L S h Q) (WP 1 0 99 L S h Q) := wp_bN zc_eq rfl rfl rfl
theorem s1_93 : WP 1 0 93 L S h Q ↔ WP 1 0 94 L (vI 1 :: S) h Q := wp_pl rfl rfl rfl
theorem s1_94 : WP 1 0 94 [a0, a1, vI x, a3] S h Q ↔ WP 1 0 95 [a0, a1, vI x, a3] (vI x :: S) h Q := wp_iload rfl rfl
theorem s1_95 : WP 1 0 95 L (vI y :: vI x :: S) h Q ↔ WP 1 0 96 L (vI (zshl x y) :: S) h Q := wp_pl rfl rfl rfl
theorem s1_96 : WP 1 0 96 L S h Q ↔ WP 1 0 100 L S h Q := wp_pl rfl rfl rfl
theorem s1_99 : WP 1 0 99 L S h Q ↔ WP 1 0 100 L (vI 0 :: S) h Q := wp_pl rfl rfl rfl
theorem s1_100 : WP 1 0 100 L (vI y :: vI x :: S) h Q ↔ WP 1 0 101 L (vI (zor x y) :: S) h Q := wp_pl rfl rfl rfl
theorem s1_101 : WP 1 0 101 [a0, a1, a2, a3] (vI x :: S) h Q ↔ WP 1 0 102 [a0, vI x, a2, a3] S h Q := wp_istore rfl rfl rfl
theorem s1_102 : WP 1 0 102 [a0, a1, vI x, a3] S h Q ↔ WP 1 0 105 [a0, a1, vI (wr (x + 1)), a3] S h Q := wp_iinc rfl rfl rfl
theorem s1_105 : WP 1 0 105 L S h Q ↔ WP 1 0 18 L S h Q := wp_pl rfl rfl rfl
theorem s1_108 : WP 1 0 108 [a0, vI x, a2, a3] S h Q ↔ WP 1 0 109 [a0, vI x, a2, a3] (vI x :: S) h Q := wp_iload rfl rfl
theorem s1_109 : WP 1 0 109 L [vI x] h Q ↔ Q (.inl (some (vI x))) h := wp_iret0 rfl rfl
/-! RepeatFree.around(II)I -/
theorem s2_0 : WP 2 0 0 [a0, vI x, a2, a3, a4] S h Q ↔ WP 2 0 1 [a0, vI x, a2, a3, a4] (vI x :: S) h Q := wp_iload rfl rfl
theorem s2_1 : WP 2 0 1 [a0, a1, a2, a3, a4] (vI x :: S) h Q ↔ WP 2 0 2 [a0, a1, a2, vI x, a4] S h Q := wp_istore rfl rfl rfl
theorem s2_2 : WP 2 0 2 [a0, a1, vI x, a3, a4] S h Q ↔ WP 2 0 3 [a0, a1, vI x, a3, a4] (vI x :: S) h Q := wp_iload rfl rfl
theorem s2_3 : WP 2 0 3 [a0, a1, a2, a3, a4] (vI x :: S) h Q ↔ WP 2 0 5 [a0, a1, a2, a3, vI x] S h Q := wp_istore rfl rfl rfl
theorem s2_5 : WP 2 0 5 [a0, a1, a2, vI x, a4] S h Q ↔ WP 2 0 6 [a0, a1, a2, vI x, a4] (vI x :: S) h Q := wp_iload rfl rfl
theorem s2_6 : WP 2 0 6 L (vI x :: S) h Q ↔ zif (x < 0) (WP 2 0 52 L S h Q) (WP 2 0 9 L S h Q) := wp_bE zc_lt rfl rfl rfl
theorem s2_9 : WP 2 0 9 [a0, a1, a2, a3, vI x] S h Q ↔ WP 2 0 11 [a0, a1, a2, a3, vI x] (vI x :: S) h Q := wp_iload rfl rfl
theorem s2_11 : WP 2 0 11 [vA r, a1, a2, a3, a4] S h Q ↔ WP 2 0 12 [vA r, a1, a2, a3, a4] (vA r :: S) h Q := wp_aload rfl rfl
theorem s2_12 : WP 2 0 12 L (vA (some a) :: S) h Q ↔ (zhas 6 (hk h a) = true ∧ WP 2 0 15 L (hm h a 6 :: S) h Q) := wp_if rfl rfl rfl
theorem s2_15 : WP 2 0 15 L (vA (some a) :: S) h Q ↔ (zhas 15 (hk h a) = true ∧ WP 2 0 18 L (hm h a 15 :: S) h Q) := wp_if rfl rfl rfl
theorem s2_18 : WP 2 0 18 L (vI y :: vI x :: S) h Q ↔ zif (x < y) (WP 2 0 21 L S h Q) (WP 2 0 52 L S h Q) := wp_bN zc_lt rfl rfl rfl
theorem s2_21 : WP 2 0 21 [vA r, a1, a2, a3, a4] S h Q ↔ WP 2 0 22 [vA r, a1, a2, a3, a4] (vA r :: S) h Q := wp_aload rfl rfl
theorem s2_22 : WP 2 0 22 L (vA (some a) :: S) h Q ↔ (zhas 6 (hk h a) = true ∧ WP 2 0 25 L (hm h a 6 :: S) h Q) := wp_if rfl rfl rfl
theorem s2_25 : WP 2 0 25 L (vA (some a) :: S) h Q ↔ (zhas 14 (hk h a) = true ∧ WP 2 0 28 L (hm h a 14 :: S) h Q) := wp_if rfl rfl rfl
theorem s2_28 : WP 2 0 28 [a0, a1, a2, vI x, a4] S h Q ↔ WP 2 0 29 [a0, a1, a2, vI x, a4] (vI x :: S) h Q := wp_iload rfl rfl
theorem s2_29 : WP 2 0 29 L (vI x :: vA (some a) :: S) h Q ↔ ((((hk h a).1 = 2 ∨ (hk h a).1 = 3) ∧ 0 ≤ x ∧ x < ((hk h a).2 : Int)) ∧ WP 2 0 30 L (hm h a x.toNat :: S) h Q) := wp_if rfl rfl rfl
theorem s2_30 : WP 2 0 30 [vA r, a1, a2, a3, a4] S h Q ↔ WP 2 0 31 [vA r, a1, a2, a3, a4] (vA r :: S) h Q := wp_aload rfl rfl
theorem s2_31 : WP 2 0 31 L (vA (some a) :: S) h Q ↔ (zhas 6 (hk h a) = true ∧ WP 2 0 34 L (hm h a 6 :: S) h Q) := wp_if rfl rfl rfl
theorem s2_34 : WP 2 0 34 L (vA (some a) :: S) h Q ↔ (zhas 14 (hk h a) = true ∧ WP 2 0 37 L (hm h a 14 :: S) h Q) := wp_if rfl rfl rfl
theorem s2_37 : WP 2 0 37 [a0, a1, a2, a3, vI x] S h Q ↔ WP 2 0 39 [a0, a1, a2, a3, vI x] (vI x :: S) h Q := wp_iload rfl rfl
theorem s2_39 : WP 2 0 39 L (vI x :: vA (some a) :: S) h Q ↔ ((((hk h a).1 = 2 ∨ (hk h a).1 = 3) ∧ 0 ≤ x ∧ x < ((hk h a).2 : Int)) ∧ WP 2 0 40 L (hm h a x.toNat :: S) h Q) := wp_if rfl rfl rfl
theorem s2_40 : WP 2 0 40 L (vI y :: vI x :: S) h Q ↔ zif (x = y) (WP 2 0 43 L S h Q) (WP 2 0 52 L S h Q) := wp_bN zc_eq rfl rfl rfl
theorem s2_43 : WP 2 0 43 [a0, a1, a2, vI x, a4] S h Q ↔ WP 2 0 46 [a0, a1, a2, vI (wr (x + (-1))), a4] S h Q := wp_iinc rfl rfl rfl
theorem s2_46 : WP 2 0 46 [a0, a1, a2, a3, vI x] S h Q ↔ WP 2 0 49 [a0, a1, a2, a3, vI (wr (x + 1))] S h Q := wp_iinc rfl rfl rfl
theorem s2_49 : WP 2 0 49 L S h Q ↔ WP 2 0 5 L S h Q := wp_pl rfl rfl rfl
theorem s2_52 : WP 2 0 52 [a0, a1, a2, a3, vI x] S h Q ↔ WP 2 0 54 [a0, a1, a2, a3, vI x] (vI x :: S) h Q := wp_iload rfl rfl
theorem s2_54 : WP 2 0 54 [a0, a1, a2, vI x, a4] S h Q ↔ WP 2 0 55 [a0, a1, a2, vI x, a4] (vI x :: S) h Q := wp_iload rfl rfl
theorem s2_55 : WP 2 0 55 L (vI y :: vI x :: S) h Q ↔ WP 2 0 56 L (vI (wr (x - y)) :: S) h Q := wp_pl rfl rfl rfl
theorem s2_56 : WP 2 0 56 L S h Q ↔ WP 2 0 57 L (vI 1 :: S) h Q := wp_pl rfl rfl rfl
theorem s2_57 : WP 2 0 57 L (vI y :: vI x :: S) h Q ↔ WP 2 0 58 L (vI (wr (x - y)) :: S) h Q := wp_pl rfl rfl rfl
theorem s2_58 : WP 2 0 58 L [vI x] h Q ↔ Q (.inl (some (vI x))) h := wp_iret0 rfl rfl
/-! RepeatFree.avoid(IZ)Z -/
theorem s3_0 : WP 3 0 0 [vA r, a1, a2, a3, a4] S h Q ↔ WP 3 0 1 [vA r, a1, a2, a3, a4] (vA r :: S) h Q := wp_aload rfl rfl
theorem s3_1 : WP 3 0 1 [a0, vI x, a2, a3, a4] S h Q ↔ WP 3 0 2 [a0, vI x, a2, a3, a4] (vI x :: S) h Q := wp_iload rfl rfl
theorem s3_2 : WP 3 0 2 L (vI x0 :: vA (some a) :: S) h Q ↔ ((hk h a).1 = 100 ∧ (zw S ≤ 8 ∧ WP 69 0 0 [vA (some a), vI x0] [] h (zret 3 0 2 5 L S Q))) := wp_V1 (c := 100) rfl rfl (fun _ => rfl) rfl rfl (zcan_of rfl rfl) rfl rfl rfl
theorem s3_5 : WP 3 0 5 [a0, a1, a2, a3, a4] (vA r :: S) h Q ↔ WP 3 0 6 [a0, a1, a2, vA r, a4] S h Q := wp_astore rfl rfl rfl
theorem s3_6 : WP 3 0 6 [a0, a1, a2, vA r, a4] S h Q ↔ WP 3 0 7 [a0, a1, a2, vA r, a4] (vA r :: S) h Q := wp_aload rfl rfl
theorem s3_7 : WP 3 0 7 L (vA (some a) :: S) h Q ↔ (zhas 22 (hk h a) = true ∧ WP 3 0 10 L (hm h a 22 :: S) h Q) := wp_if rfl rfl rfl
theorem s3_10 : WP 3 0 10 [a0, a1, a2, a3, a4] (vI x :: S) h Q ↔ WP 3 0 12 [a0, a1, a2, a3, vI x] S h Q := wp_istore rfl rfl rfl
theorem s3_12 : WP 3 0 12 [a0, a1, a2, vA r, a4] S h Q ↔ WP 3 0 13 [a0, a1, a2, vA r, a4] (vA r :: S) h Q := wp_aload rfl rfl
theorem s3_13 : WP 3 0 13 [a0, a1, vI x, a3, a4] S h Q ↔ WP 3 0 14 [a0, a1, vI x, a3, a4] (vI x :: S) h Q := wp_iload rfl rfl
theorem s3_14 : WP 3 0 14 L (vI x :: vA (some a) :: S) h Q ↔ ((zNC ≤ a ∧ zhas 22 (hk h a) = true ∧ (x = 0 ∨ x = 1)) ∧ WP 3 0 17 L S (hput h a 22 (vI x)) Q) := wp_put1 rfl rfl
theorem s3_17 : WP 3 0 17 [vA r, a1, a2, a3, a4] S h Q ↔ WP 3 0 18 [vA r, a1, a2, a3, a4] (vA r :: S) h Q := wp_aload rfl rfl
theorem s3_18 : WP 3 0 18 L (vA (some a) :: S) h Q ↔ ((hk h a).1 = 100 ∧ (zw S ≤ 8 ∧ WP 47 0 0 [vA (some a), vJ, vJ, vJ] [] h (zret 3 0 18 21 L S Q))) := wp_V1 (c := 100) rfl rfl (fun _ => rfl) rfl rfl (zcan_of rfl rfl) rfl rfl rfl
theorem s3_21 : WP 3 0 21 [a0, a1, a2, a3, vI x] S h Q ↔ WP 3 0 23 [a0, a1, a2, a3, vI x] (vI x :: S) h Q := wp_iload rfl rfl
theorem s3_23 : WP 3 0 23 L [vI x] h Q ↔ ((x = 0 ∨ x = 1) ∧ Q (.inl (some (vI x))) h) := wp_iret rfl rfl
/-! RepeatFree.becomes(LRepeatFree$Word;)V -/
theorem s4_0 : WP 4 0 0 [vA r, a1] S h Q ↔ WP 4 0 1 [vA r, a1] (vA r :: S) h Q := wp_aload rfl rfl
theorem s4_1 : WP 4 0 1 L (vA (some a) :: S) h Q ↔ (zhas 7 (hk h a) = true ∧ WP 4 0 4 L (hm h a 7 :: S) h Q) := wp_if rfl rfl rfl
theorem s4_4 : WP 4 0 4 [vA r, a1] S h Q ↔ WP 4 0 5 [vA r, a1] (vA r :: S) h Q := wp_aload rfl rfl
theorem s4_5 : WP 4 0 5 L (vA (some a) :: S) h Q ↔ (zhas 6 (hk h a) = true ∧ WP 4 0 8 L (hm h a 6 :: S) h Q) := wp_if rfl rfl rfl
theorem s4_8 : WP 4 0 8 L (vA r0 :: vA (some a) :: S) h Q ↔ ((hk h a).1 = 114 ∧ (zw S ≤ 8 ∧ WP 278 0 0 [vA (some a), vA r0, vJ] [] h (zret 4 0 8 11 L S Q))) := wp_V1 (c := 114) rfl rfl (fun _ => rfl) rfl rfl (zcan_of rfl rfl) rfl rfl rfl
theorem s4_11 : WP 4 0 11 [vA r, a1] S h Q ↔ WP 4 0 12 [vA r, a1] (vA r :: S) h Q := wp_aload rfl rfl
theorem s4_12 : WP 4 0 12 L (vA (some a) :: S) h Q ↔ (zhas 7 (hk h a) = true ∧ WP 4 0 15 L (hm h a 7 :: S) h Q) := wp_if rfl rfl rfl
theorem s4_15 : WP 4 0 15 L (vA (some a) :: S) h Q ↔ ((hk h a).1 = 114 ∧ (zw S ≤ 8 ∧ WP 291 0 0 [vA (some a)] [] h (zret 4 0 15 18 L S Q))) := wp_V1 (c := 114) rfl rfl (fun _ => rfl) rfl rfl (zcan_of rfl rfl) rfl rfl rfl
theorem s4_18 : WP 4 0 18 L S h Q ↔ WP 4 0 20 L (vI 10 :: S) h Q := wp_pl rfl rfl rfl
theorem s4_20 : WP 4 0 20 L (vI y :: vI x :: S) h Q ↔ zif (y < x) (WP 4 0 23 L S h Q) (WP 4 0 31 L S h Q) := wp_bN zc_gt rfl rfl rfl
theorem s4_23 : WP 4 0 23 [vA r, a1] S h Q ↔ WP 4 0 24 [vA r, a1] (vA r :: S) h Q := wp_aload rfl rfl
theorem s4_24 : WP 4 0 24 L (vA (some a) :: S) h Q ↔ (zhas 7 (hk h a) = true ∧ WP 4 0 27 L (hm h a 7 :: S) h Q) := wp_if rfl rfl rfl
theorem s4_27 : WP 4 0 27 L (vA (some a) :: S) h Q ↔ ((hk h a).1 = 114 ∧ (zw S ≤ 8 ∧ WP 289 0 0 [vA (some a), vJ] [] h (zret 4 0 27 30 L S Q))) := wp_V1 (c := 114) rfl rfl (fun _ => rfl) rfl rfl (zcan_of rfl rfl) rfl rfl rfl
theorem s4_30 : WP 4 0 30 L (vA r :: S) h Q ↔ WP 4 0 31 L S h Q := wp_pl rfl rfl rfl
theorem s4_30i : WP 4 0 30 L (vI x :: S) h Q ↔ WP 4 0 31 L S h Q := wp_pl rfl rfl rfl
theorem s4_31 : WP 4 0 31 [vA r, a1] S h Q ↔ WP 4 0 32 [vA r, a1] (vA r :: S) h Q := wp_aload rfl rfl
theorem s4_32 : WP 4 0 32 [a0, vA r] S h Q ↔ WP 4 0 33 [a0, vA r] (vA r :: S) h Q := wp_aload rfl rfl
theorem s4_33 : WP 4 0 33 L (vA r :: vA (some a) :: S) h Q ↔ ((zNC ≤ a ∧ zhas 6 (hk h a) = true) ∧ WP 4 0 36 L S (hput h a 6 (vA r)) Q) := wp_put3 rfl rfl
theorem s4_36 : WP 4 0 36 L [] h Q ↔ Q (.inl none) h := wp_ret rfl
/-! RepeatFree.begins(Ljava/lang/String;Ljava/lang/String;)Z -/
theorem s5_0 : WP 5 0 0 [a0, vA r, a2, a3] S h Q ↔ WP 5 0 1 [a0, vA r, a2, a3] (vA r :: S) h Q := wp_aload rfl rfl
theorem s5_1 : WP 5 0 1 L (vA (some a) :: S) h Q ↔ ((hk h a).1 = 117 ∧ (zw S ≤ 8 ∧ WP 323 0 0 [vA (some a)] [] h (zret 5 0 1 4 L S Q))) := wp_V1 (c := 117) rfl rfl (fun _ => rfl) rfl rfl (zcan_of rfl rfl) rfl rfl rfl
theorem s5_4 : WP 5 0 4 [vA r, a1, a2, a3] S h Q ↔ WP 5 0 5 [vA r, a1, a2, a3] (vA r :: S) h Q := wp_aload rfl rfl
theorem s5_5 : WP 5 0 5 L (vA (some a) :: S) h Q ↔ ((hk h a).1 = 117 ∧ (zw S ≤ 8 ∧ WP 323 0 0 [vA (some a)] [] h (zret 5 0 5 8 L S Q))) := wp_V1 (c := 117) rfl rfl (fun _ => rfl) rfl rfl (zcan_of rfl rfl) rfl rfl rfl
theorem s5_8 : WP 5 0 8 L (vI y :: vI x :: S) h Q ↔ zif (y < x) (WP 5 0 15 L S h Q) (WP 5 0 11 L S h Q) := wp_bE zc_gt rfl rfl rfl
theorem s5_11 : WP 5 0 11 L S h Q ↔ WP 5 0 12 L (vI 1 :: S) h Q := wp_pl rfl rfl rfl
theorem s5_12 : WP 5 0 12 L S h Q ↔ WP 5 0 16 L S h Q := wp_pl rfl rfl rfl
theorem s5_15 : WP 5 0 15 L S h Q ↔ WP 5 0 16 L (vI 0 :: S) h Q := wp_pl rfl rfl rfl
theorem s5_16 : WP 5 0 16 [a0, a1, a2, a3] (vI x :: S) h Q ↔ WP 5 0 17 [a0, a1, vI x, a3] S h Q := wp_istore rfl rfl rfl
theorem s5_17 : WP 5 0 17 L S h Q ↔ WP 5 0 18 L (vI 0 :: S) h Q := wp_pl rfl rfl rfl
theorem s5_18 : WP 5 0 18 [a0, a1, a2, a3] (vI x :: S) h Q ↔ WP 5 0 19 [a0, a1, a2, vI x] S h Q := wp_istore rfl rfl rfl
theorem s5_19 : WP 5 0 19 [a0, a1, a2, vI x] S h Q ↔ WP 5 0 20 [a0, a1, a2, vI x] (vI x :: S) h Q := wp_iload rfl rfl
theorem s5_20 : WP 5 0 20 [a0, vA r, a2, a3] S h Q ↔ WP 5 0 21 [a0, vA r, a2, a3] (vA r :: S) h Q := wp_aload rfl rfl
theorem s5_21 : WP 5 0 21 L (vA (some a) :: S) h Q ↔ ((hk h a).1 = 117 ∧ (zw S ≤ 8 ∧ WP 323 0 0 [vA (some a)] [] h (zret 5 0 21 24 L S Q))) := wp_V1 (c := 117) rfl rfl (fun _ => rfl) rfl rfl (zcan_of rfl rfl) rfl rfl rfl
theorem s5_24 : WP 5 0 24 L (vI y :: vI x :: S) h Q ↔ zif (x < y) (WP 5 0 27 L S h Q) (WP 5 0 56 L S h Q) := wp_bN zc_lt rfl rfl rfl
theorem s5_27 : WP 5 0 27 [a0, a1, vI x, a3] S h Q ↔ WP 5 0 28 [a0, a1, vI x, a3] (vI x :: S) h Q := wp_iload rfl rfl
theorem s5_28 : WP 5 0 28 L (vI x :: S) h Q ↔ zif (x = 0) (WP 5 0 56 L S h Q) (WP 5 0 31 L S h Q) := wp_bE zc_eq rfl rfl rfl
theorem s5_31 : WP 5 0 31 [vA r, a1, a2, a3] S h Q ↔ WP 5 0 32 [vA r, a1, a2, a3] (vA r :: S) h Q := wp_aload rfl rfl
theorem s5_32 : WP 5 0 32 [a0, a1, a2, vI x] S h Q ↔ WP 5 0 33 [a0, a1, a2, vI x] (vI x :: S) h Q := wp_iload rfl rfl
theorem s5_33 : WP 5 0 33 L (vI x0 :: vA (some a) :: S) h Q ↔ ((hk h a).1 = 117 ∧ (zw S ≤ 8 ∧ WP 310 0 0 [vA (some a), vI x0] [] h (zret 5 0 33 36 L S Q))) := wp_V1 (c := 117) rfl rfl (fun _ => rfl) rfl rfl (zcan_of rfl rfl) rfl rfl rfl
theorem s5_36 : WP 5 0 36 [a0, vA r, a2, a3] S h Q ↔ WP 5 0 37 [a0, vA r, a2, a3] (vA r :: S) h Q := wp_aload rfl rfl
theorem s5_37 : WP 5 0 37 [a0, a1, a2, vI x] S h Q ↔ WP 5 0 38 [a0, a1, a2, vI x] (vI x :: S) h Q := wp_iload rfl rfl
theorem s5_38 : WP 5 0 38 L (vI x0 :: vA (some a) :: S) h Q ↔ ((hk h a).1 = 117 ∧ (zw S ≤ 8 ∧ WP 310 0 0 [vA (some a), vI x0] [] h (zret 5 0 38 41 L S Q))) := wp_V1 (c := 117) rfl rfl (fun _ => rfl) rfl rfl (zcan_of rfl rfl) rfl rfl rfl
theorem s5_41 : WP 5 0 41 L (vI y :: vI x :: S) h Q ↔ zif (x = y) (WP 5 0 44 L S h Q) (WP 5 0 48 L S h Q) := wp_bN zc_eq rfl rfl rfl
theorem s5_44 : WP 5 0 44 L S h Q ↔ WP 5 0 45 L (vI 1 :: S) h Q := wp_pl rfl rfl rfl
theorem s5_45 : WP 5 0 45 L S h Q ↔ WP 5 0 49 L S h Q := wp_pl rfl rfl rfl
theorem s5_48 : WP 5 0 48 L S h Q ↔ WP 5 0 49 L (vI 0 :: S) h Q := wp_pl rfl rfl rfl
theorem s5_49 : WP 5 0 49 [a0, a1, a2, a3] (vI x :: S) h Q ↔ WP 5 0 50 [a0, a1, vI x, a3] S h Q := wp_istore rfl rfl rfl
theorem s5_50 : WP 5 0 50 [a0, a1, a2, vI x] S h Q ↔ WP 5 0 53 [a0, a1, a2, vI (wr (x + 1))] S h Q := wp_iinc rfl rfl rfl
theorem s5_53 : WP 5 0 53 L S h Q ↔ WP 5 0 19 L S h Q := wp_pl rfl rfl rfl
theorem s5_56 : WP 5 0 56 [a0, a1, vI x, a3] S h Q ↔ WP 5 0 57 [a0, a1, vI x, a3] (vI x :: S) h Q := wp_iload rfl rfl
theorem s5_57 : WP 5 0 57 L [vI x] h Q ↔ ((x = 0 ∨ x = 1) ∧ Q (.inl (some (vI x))) h) := wp_iret rfl rfl
/-! RepeatFree.border(I)I -/
theorem s6_0 : WP 6 0 0 [a0, vI x, a2, a3] S h Q ↔ WP 6 0 1 [a0, vI x, a2, a3] (vI x :: S) h Q := wp_iload rfl rfl
theorem s6_1 : WP 6 0 1 [a0, a1, a2, a3] (vI x :: S) h Q ↔ WP 6 0 2 [a0, a1, vI x, a3] S h Q := wp_istore rfl rfl rfl
theorem s6_2 : WP 6 0 2 L S h Q ↔ WP 6 0 3 L (vI 1 :: S) h Q := wp_pl rfl rfl rfl
theorem s6_3 : WP 6 0 3 [a0, a1, a2, a3] (vI x :: S) h Q ↔ WP 6 0 4 [a0, a1, a2, vI x] S h Q := wp_istore rfl rfl rfl
theorem s6_4 : WP 6 0 4 [a0, a1, a2, vI x] S h Q ↔ WP 6 0 5 [a0, a1, a2, vI x] (vI x :: S) h Q := wp_iload rfl rfl
theorem s6_5 : WP 6 0 5 [vA r, a1, a2, a3] S h Q ↔ WP 6 0 6 [vA r, a1, a2, a3] (vA r :: S) h Q := wp_aload rfl rfl
theorem s6_6 : WP 6 0 6 L (vA (some a) :: S) h Q ↔ (zhas 6 (hk h a) = true ∧ WP 6 0 9 L (hm h a 6 :: S) h Q) := wp_if rfl rfl rfl
theorem s6_9 : WP 6 0 9 L (vA (some a) :: S) h Q ↔ (zhas 15 (hk h a) = true ∧ WP 6 0 12 L (hm h a 15 :: S) h Q) := wp_if rfl rfl rfl
theorem s6_12 : WP 6 0 12 L (vI y :: vI x :: S) h Q ↔ zif (x < y) (WP 6 0 15 L S h Q) (WP 6 0 66 L S h Q) := wp_bN zc_lt rfl rfl rfl
theorem s6_15 : WP 6 0 15 [a0, vI x, a2, a3] S h Q ↔ WP 6 0 16 [a0, vI x, a2, a3] (vI x :: S) h Q := wp_iload rfl rfl
theorem s6_16 : WP 6 0 16 L (vI x :: S) h Q ↔ zif (x < 0) (WP 6 0 66 L S h Q) (WP 6 0 19 L S h Q) := wp_bE zc_lt rfl rfl rfl
theorem s6_19 : WP 6 0 19 [vA r, a1, a2, a3] S h Q ↔ WP 6 0 20 [vA r, a1, a2, a3] (vA r :: S) h Q := wp_aload rfl rfl
theorem s6_20 : WP 6 0 20 L (vA (some a) :: S) h Q ↔ (zhas 6 (hk h a) = true ∧ WP 6 0 23 L (hm h a 6 :: S) h Q) := wp_if rfl rfl rfl
theorem s6_23 : WP 6 0 23 L S h Q ↔ WP 6 0 24 L (vI 0 :: S) h Q := wp_pl rfl rfl rfl
theorem s6_24 : WP 6 0 24 [a0, a1, a2, vI x] S h Q ↔ WP 6 0 25 [a0, a1, a2, vI x] (vI x :: S) h Q := wp_iload rfl rfl
theorem s6_25 : WP 6 0 25 L (vI x1 :: vI x0 :: vA (some a) :: S) h Q ↔ ((hk h a).1 = 102 ∧ (zw S ≤ 8 ∧ WP 96 0 0 [vA (some a), vI x0, vI x1, vJ] [] h (zret 6 0 25 28 L S Q))) := wp_V1 (c := 102) rfl rfl (fun _ => rfl) rfl rfl (zcan_of rfl rfl) rfl rfl rfl
theorem s6_28 : WP 6 0 28 [vA r, a1, a2, a3] S h Q ↔ WP 6 0 29 [vA r, a1, a2, a3] (vA r :: S) h Q := wp_aload rfl rfl
theorem s6_29 : WP 6 0 29 L (vA (some a) :: S) h Q ↔ (zhas 6 (hk h a) = true ∧ WP 6 0 32 L (hm h a 6 :: S) h Q) := wp_if rfl rfl rfl
theorem s6_32 : WP 6 0 32 L (vA (some a) :: S) h Q ↔ (zhas 15 (hk h a) = true ∧ WP 6 0 35 L (hm h a 15 :: S) h Q) := wp_if rfl rfl rfl
theorem s6_35 : WP 6 0 35 [a0, a1, a2, vI x] S h Q ↔ WP 6 0 36 [a0, a1, a2, vI x] (vI x :: S) h Q := wp_iload rfl rfl
theorem s6_36 : WP 6 0 36 L (vI y :: vI x :: S) h Q ↔ WP 6 0 37 L (vI (wr (x - y)) :: S) h Q := wp_pl rfl rfl rfl
theorem s6_37 : WP 6 0 37 L (vI y :: vI x :: S) h Q ↔ zif (x = y) (WP 6 0 43 L S h Q) (WP 6 0 40 L S h Q) := wp_bE zc_eq rfl rfl rfl
theorem s6_40 : WP 6 0 40 L S h Q ↔ WP 6 0 60 L S h Q := wp_pl rfl rfl rfl
theorem s6_43 : WP 6 0 43 [a0, a1, vI x, a3] S h Q ↔ WP 6 0 44 [a0, a1, vI x, a3] (vI x :: S) h Q := wp_iload rfl rfl
theorem s6_44 : WP 6 0 44 L (vI x :: S) h Q ↔ zif (x = 0) (WP 6 0 47 L S h Q) (WP 6 0 57 L S h Q) := wp_bN zc_eq rfl rfl rfl
theorem s6_47 : WP 6 0 47 [vA r, a1, a2, a3] S h Q ↔ WP 6 0 48 [vA r, a1, a2, a3] (vA r :: S) h Q := wp_aload rfl rfl
theorem s6_48 : WP 6 0 48 L (vA (some a) :: S) h Q ↔ (zhas 6 (hk h a) = true ∧ WP 6 0 51 L (hm h a 6 :: S) h Q) := wp_if rfl rfl rfl
theorem s6_51 : WP 6 0 51 L (vA (some a) :: S) h Q ↔ (zhas 15 (hk h a) = true ∧ WP 6 0 54 L (hm h a 15 :: S) h Q) := wp_if rfl rfl rfl
theorem s6_54 : WP 6 0 54 [a0, a1, a2, vI x] S h Q ↔ WP 6 0 55 [a0, a1, a2, vI x] (vI x :: S) h Q := wp_iload rfl rfl
theorem s6_55 : WP 6 0 55 L (vI y :: vI x :: S) h Q ↔ WP 6 0 56 L (vI (wr (x - y)) :: S) h Q := wp_pl rfl rfl rfl
theorem s6_56 : WP 6 0 56 L [vI x] h Q ↔ Q (.inl (some (vI x))) h := wp_iret0 rfl rfl
theorem s6_57 : WP 6 0 57 [a0, a1, vI x, a3] S h Q ↔ WP 6 0 60 [a0, a1, vI (wr (x + (-1))), a3] S h Q := wp_iinc rfl rfl rfl
theorem s6_60 : WP 6 0 60 [a0, a1, a2, vI x] S h Q ↔ WP 6 0 63 [a0, a1, a2, vI (wr (x + 1))] S h Q := wp_iinc rfl rfl rfl
theorem s6_63 : WP 6 0 63 L S h Q ↔ WP 6 0 4 L S h Q := wp_pl rfl rfl rfl
theorem s6_66 : WP 6 0 66 L S h Q ↔ WP 6 0 67 L (vI (-1) :: S) h Q := wp_pl rfl rfl rfl
theorem s6_67 : WP 6 0 67 L [vI x] h Q ↔ Q (.inl (some (vI x))) h := wp_iret0 rfl rfl
/-! RepeatFree.breaks(II)I -/
theorem s7_0 : WP 7 0 0 [vA r, a1, a2, a3] S h Q ↔ WP 7 0 1 [vA r, a1, a2, a3] (vA r :: S) h Q := wp_aload rfl rfl
theorem s7_1 : WP 7 0 1 [a0, vI x, a2, a3] S h Q ↔ WP 7 0 2 [a0, vI x, a2, a3] (vI x :: S) h Q := wp_iload rfl rfl
theorem s7_2 : WP 7 0 2 L (vI x0 :: vA (some a) :: S) h Q ↔ ((hk h a).1 = 100 ∧ (zw S ≤ 8 ∧ WP 59 0 0 [vA (some a), vI x0] [] h (zret 7 0 2 5 L S Q))) := wp_V1 (c := 100) rfl rfl (fun _ => rfl) rfl rfl (zcan_of rfl rfl) rfl rfl rfl
theorem s7_5 : WP 7 0 5 [a0, a1, a2, a3] (vA r :: S) h Q ↔ WP 7 0 6 [a0, a1, a2, vA r] S h Q := wp_astore rfl rfl rfl
theorem s7_6 : WP 7 0 6 [a0, a1, vI x, a3] S h Q ↔ WP 7 0 7 [a0, a1, vI x, a3] (vI x :: S) h Q := wp_iload rfl rfl
theorem s7_7 : WP 7 0 7 L (vI x :: S) h Q ↔ WP 7 0 8 L (vL x :: S) h Q := wp_pl rfl rfl rfl
theorem s7_8 : WP 7 0 8 L S h Q ↔ WP 7 0 9 L (vL 1 :: S) h Q := wp_pl rfl rfl rfl
theorem s7_9 : WP 7 0 9 L S h Q ↔ WP 7 0 12 L (vL (6) :: S) h Q := wp_pl rfl rfl rfl
theorem s7_12 : WP 7 0 12 L (vL x2 :: vL x1 :: vL x0 :: S) h Q ↔ (zw S ≤ 8 ∧ WP 38 0 0 [vL x0, vJ, vL x1, vJ, vL x2, vJ] [] h (zret 7 0 12 15 L S Q)) := wp_S rfl rfl (zcan_of rfl rfl) rfl rfl rfl
theorem s7_15 : WP 7 0 15 L (vI x0 :: S) h Q ↔ (zw S ≤ 8 ∧ WP 62 0 0 [vI x0] [] h (zret 7 0 15 18 L S Q)) := wp_S rfl rfl (zcan_of rfl rfl) rfl rfl rfl
theorem s7_18 : WP 7 0 18 [vA r, a1, a2, a3] S h Q ↔ WP 7 0 19 [vA r, a1, a2, a3] (vA r :: S) h Q := wp_aload rfl rfl
theorem s7_19 : WP 7 0 19 [a0, a1, a2, vA r] S h Q ↔ WP 7 0 20 [a0, a1, a2, vA r] (vA r :: S) h Q := wp_aload rfl rfl
theorem s7_20 : WP 7 0 20 [a0, a1, vI x, a3] S h Q ↔ WP 7 0 21 [a0, a1, vI x, a3] (vI x :: S) h Q := wp_iload rfl rfl
theorem s7_21 : WP 7 0 21 L (vI x1 :: vA r0 :: vA (some a) :: S) h Q ↔ ((hk h a).1 = 100 ∧ (zw S ≤ 8 ∧ WP 8 0 0 [vA (some a), vA r0, vI x1, vJ, vJ, vJ, vJ] [] h (zret 7 0 21 24 L S Q))) := wp_V1 (c := 100) rfl rfl (fun _ => rfl) rfl rfl (zcan_of rfl rfl) rfl rfl rfl
theorem s7_24 : WP 7 0 24 L [vI x] h Q ↔ Q (.inl (some (vI x))) h := wp_iret0 rfl rfl
/-! RepeatFree.breaksBy(LRepeatFree$Mapping;I)I -/
theorem s8_0 : WP 8 0 0 L S h Q ↔ WP 8 0 3 L (vA (some (hn h)) :: S) (hnew h (106, 0) 4 zdf) Q := wp_pl rfl rfl rfl
theorem s8_3 : WP 8 0 3 L (vA r :: S) h Q ↔ WP 8 0 4 L (vA r :: vA r :: S) h Q := wp_pl rfl rfl rfl
theorem s8_3i : WP 8 0 3 L (vI x :: S) h Q ↔ WP 8 0 4 L (vI x :: vI x :: S) h Q := wp_pl rfl rfl rfl
theorem s8_4 : WP 8 0 4 [vA r, a1, a2, a3, a4, a5, a6] S h Q ↔ WP 8 0 5 [vA r, a1, a2, a3, a4, a5, a6] (vA r :: S) h Q := wp_aload rfl rfl
theorem s8_5 : WP 8 0 5 L S h Q ↔ WP 8 0 8 L (vA (some (hn h)) :: S) (hnew h (102, 0) 2 zdf) Q := wp_pl rfl rfl rfl
theorem s8_8 : WP 8 0 8 L (vA r :: S) h Q ↔ WP 8 0 9 L (vA r :: vA r :: S) h Q := wp_pl rfl rfl rfl
theorem s8_8i : WP 8 0 8 L (vI x :: S) h Q ↔ WP 8 0 9 L (vI x :: vI x :: S) h Q := wp_pl rfl rfl rfl
theorem s8_9 : WP 8 0 9 L (vA (some a) :: S) h Q ↔ ((zNC ≤ a ∧ 100 ≤ (hk h a).1) ∧ zw S ≤ 8 ∧ WP 100 0 0 [vA (some a)] [] h (zret 8 0 9 12 L S Q)) := wp_I rfl rfl rfl (zcan_of rfl rfl) rfl rfl rfl
theorem s8_12 : WP 8 0 12 L (vA r1 :: vA r0 :: vA (some a) :: S) h Q ↔ ((zNC ≤ a ∧ 100 ≤ (hk h a).1) ∧ zw S ≤ 8 ∧ WP 117 0 0 [vA (some a), vA r0, vA r1] [] h (zret 8 0 12 15 L S Q)) := wp_I rfl rfl rfl (zcan_of rfl rfl) rfl rfl rfl
theorem s8_15 : WP 8 0 15 [a0, a1, a2, a3, a4, a5, a6] (vA r :: S) h Q ↔ WP 8 0 16 [a0, a1, a2, vA r, a4, a5, a6] S h Q := wp_astore rfl rfl rfl
theorem s8_16 : WP 8 0 16 L S h Q ↔ WP 8 0 17 L (vI 1 :: S) h Q := wp_pl rfl rfl rfl
theorem s8_17 : WP 8 0 17 [a0, a1, a2, a3, a4, a5, a6] (vI x :: S) h Q ↔ WP 8 0 19 [a0, a1, a2, a3, vI x, a5, a6] S h Q := wp_istore rfl rfl rfl
theorem s8_19 : WP 8 0 19 [a0, a1, a2, a3, vI x, a5, a6] S h Q ↔ WP 8 0 21 [a0, a1, a2, a3, vI x, a5, a6] (vI x :: S) h Q := wp_iload rfl rfl
theorem s8_21 : WP 8 0 21 [a0, a1, vI x, a3, a4, a5, a6] S h Q ↔ WP 8 0 22 [a0, a1, vI x, a3, a4, a5, a6] (vI x :: S) h Q := wp_iload rfl rfl
theorem s8_22 : WP 8 0 22 L (vI y :: vI x :: S) h Q ↔ zif (y < x) (WP 8 0 99 L S h Q) (WP 8 0 25 L S h Q) := wp_bE zc_gt rfl rfl rfl
theorem s8_25 : WP 8 0 25 [a0, a1, a2, vA r, a4, a5, a6] S h Q ↔ WP 8 0 26 [a0, a1, a2, vA r, a4, a5, a6] (vA r :: S) h Q := wp_aload rfl rfl
theorem s8_26 : WP 8 0 26 [a0, a1, a2, a3, vI x, a5, a6] S h Q ↔ WP 8 0 28 [a0, a1, a2, a3, vI x, a5, a6] (vI x :: S) h Q := wp_iload rfl rfl
theorem s8_28 : WP 8 0 28 L S h Q ↔ WP 8 0 29 L (vI 0 :: S) h Q := wp_pl rfl rfl rfl
theorem s8_29 : WP 8 0 29 L S h Q ↔ WP 8 0 30 L (vI 0 :: S) h Q := wp_pl rfl rfl rfl
theorem s8_30 : WP 8 0 30 L (vI x2 :: vI x1 :: vI x0 :: vA (some a) :: S) h Q ↔ ((hk h a).1 = 106 ∧ (zw S ≤ 8 ∧ WP 115 0 0 [vA (some a), vI x0, vI x1, vI x2, vJ, vJ] [] h (zret 8 0 30 33 L S Q))) := wp_V1 (c := 106) rfl rfl (fun _ => rfl) rfl rfl (zcan_of rfl rfl) rfl rfl rfl
theorem s8_33 : WP 8 0 33 [a0, a1, a2, a3, a4, a5, a6] (vI x :: S) h Q ↔ WP 8 0 35 [a0, a1, a2, a3, a4, vI x, a6] S h Q := wp_istore rfl rfl rfl
theorem s8_35 : WP 8 0 35 [a0, a1, a2, a3, a4, vI x, a6] S h Q ↔ WP 8 0 37 [a0, a1, a2, a3, a4, vI x, a6] (vI x :: S) h Q := wp_iload rfl rfl
theorem s8_37 : WP 8 0 37 L (vI x :: S) h Q ↔ zif (x = 0) (WP 8 0 83 L S h Q) (WP 8 0 40 L S h Q) := wp_bE zc_eq rfl rfl rfl
theorem s8_40 : WP 8 0 40 [vA r, a1, a2, a3, a4, a5, a6] S h Q ↔ WP 8 0 41 [vA r, a1, a2, a3, a4, a5, a6] (vA r :: S) h Q := wp_aload rfl rfl
theorem s8_41 : WP 8 0 41 [a0, vA r, a2, a3, a4, a5, a6] S h Q ↔ WP 8 0 42 [a0, vA r, a2, a3, a4, a5, a6] (vA r :: S) h Q := wp_aload rfl rfl
theorem s8_42 : WP 8 0 42 [a0, a1, a2, vA r, a4, a5, a6] S h Q ↔ WP 8 0 43 [a0, a1, a2, vA r, a4, a5, a6] (vA r :: S) h Q := wp_aload rfl rfl
theorem s8_43 : WP 8 0 43 L (vA (some a) :: S) h Q ↔ (zhas 26 (hk h a) = true ∧ WP 8 0 46 L (hm h a 26 :: S) h Q) := wp_if rfl rfl rfl
theorem s8_46 : WP 8 0 46 L (vA r1 :: vA r0 :: vA (some a) :: S) h Q ↔ ((hk h a).1 = 100 ∧ (zw S ≤ 8 ∧ WP 48 0 0 [vA (some a), vA r0, vA r1, vJ, vJ, vJ] [] h (zret 8 0 46 49 L S Q))) := wp_V1 (c := 100) rfl rfl (fun _ => rfl) rfl rfl (zcan_of rfl rfl) rfl rfl rfl
theorem s8_49 : WP 8 0 49 [a0, a1, a2, a3, a4, a5, a6] (vI x :: S) h Q ↔ WP 8 0 51 [a0, a1, a2, a3, a4, a5, vI x] S h Q := wp_istore rfl rfl rfl
theorem s8_51 : WP 8 0 51 [vA r, a1, a2, a3, a4, a5, a6] S h Q ↔ WP 8 0 52 [vA r, a1, a2, a3, a4, a5, a6] (vA r :: S) h Q := wp_aload rfl rfl
theorem s8_52 : WP 8 0 52 [vA r, a1, a2, a3, a4, a5, a6] S h Q ↔ WP 8 0 53 [vA r, a1, a2, a3, a4, a5, a6] (vA r :: S) h Q := wp_aload rfl rfl
theorem s8_53 : WP 8 0 53 L (vA (some a) :: S) h Q ↔ (zhas 9 (hk h a) = true ∧ WP 8 0 56 L (hm h a 9 :: S) h Q) := wp_if rfl rfl rfl
theorem s8_56 : WP 8 0 56 L (vA r0 :: vA (some a) :: S) h Q ↔ ((hk h a).1 = 100 ∧ (zw S ≤ 8 ∧ WP 17 0 0 [vA (some a), vA r0, vJ] [] h (zret 8 0 56 59 L S Q))) := wp_V1 (c := 100) rfl rfl (fun _ => rfl) rfl rfl (zcan_of rfl rfl) rfl rfl rfl
theorem s8_59 : WP 8 0 59 L S h Q ↔ WP 8 0 60 L (vI (-1) :: S) h Q := wp_pl rfl rfl rfl
theorem s8_60 : WP 8 0 60 L (vI y :: vI x :: S) h Q ↔ zif (x = y) (WP 8 0 71 L S h Q) (WP 8 0 63 L S h Q) := wp_bE zc_eq rfl rfl rfl
theorem s8_63 : WP 8 0 63 [a0, a1, a2, vA r, a4, a5, a6] S h Q ↔ WP 8 0 64 [a0, a1, a2, vA r, a4, a5, a6] (vA r :: S) h Q := wp_aload rfl rfl
theorem s8_64 : WP 8 0 64 L (vA (some a) :: S) h Q ↔ (zhas 26 (hk h a) = true ∧ WP 8 0 67 L (hm h a 26 :: S) h Q) := wp_if rfl rfl rfl
theorem s8_67 : WP 8 0 67 L (vA r0 :: S) h Q ↔ (zw S ≤ 8 ∧ WP 21 0 0 [vA r0, vJ, vJ] [] h (zret 8 0 67 70 L S Q)) := wp_S rfl rfl (zcan_of rfl rfl) rfl rfl rfl
theorem s8_70 : WP 8 0 70 L [vI x] h Q ↔ Q (.inl (some (vI x))) h := wp_iret0 rfl rfl
theorem s8_71 : WP 8 0 71 [a0, a1, a2, vA r, a4, a5, a6] S h Q ↔ WP 8 0 72 [a0, a1, a2, vA r, a4, a5, a6] (vA r :: S) h Q := wp_aload rfl rfl
theorem s8_72 : WP 8 0 72 [a0, a1, a2, a3, vI x, a5, a6] S h Q ↔ WP 8 0 74 [a0, a1, a2, a3, vI x, a5, a6] (vI x :: S) h Q := wp_iload rfl rfl
theorem s8_74 : WP 8 0 74 L S h Q ↔ WP 8 0 75 L (vI 0 :: S) h Q := wp_pl rfl rfl rfl
theorem s8_75 : WP 8 0 75 L (vI x1 :: vI x0 :: vA (some a) :: S) h Q ↔ ((hk h a).1 = 106 ∧ (zw S ≤ 8 ∧ WP 116 0 0 [vA (some a), vI x0, vI x1] [] h (zret 8 0 75 78 L S Q))) := wp_V1 (c := 106) rfl rfl (fun _ => rfl) rfl rfl (zcan_of rfl rfl) rfl rfl rfl
theorem s8_78 : WP 8 0 78 [a0, a1, a2, a3, a4, a5, a6] (vI x :: S) h Q ↔ WP 8 0 80 [a0, a1, a2, a3, a4, vI x, a6] S h Q := wp_istore rfl rfl rfl
theorem s8_80 : WP 8 0 80 L S h Q ↔ WP 8 0 35 L S h Q := wp_pl rfl rfl rfl
theorem s8_83 : WP 8 0 83 [a0, a1, a2, vA r, a4, a5, a6] S h Q ↔ WP 8 0 84 [a0, a1, a2, vA r, a4, a5, a6] (vA r :: S) h Q := wp_aload rfl rfl
theorem s8_84 : WP 8 0 84 L (vA (some a) :: S) h Q ↔ (zhas 28 (hk h a) = true ∧ WP 8 0 87 L (hm h a 28 :: S) h Q) := wp_if rfl rfl rfl
theorem s8_87 : WP 8 0 87 L (vI x :: S) h Q ↔ zif (x = 0) (WP 8 0 93 L S h Q) (WP 8 0 90 L S h Q) := wp_bE zc_eq rfl rfl rfl
theorem s8_90 : WP 8 0 90 L S h Q ↔ WP 8 0 92 L (vI (-2) :: S) h Q := wp_pl rfl rfl rfl
theorem s8_92 : WP 8 0 92 L [vI x] h Q ↔ Q (.inl (some (vI x))) h := wp_iret0 rfl rfl
theorem s8_93 : WP 8 0 93 [a0, a1, a2, a3, vI x, a5, a6] S h Q ↔ WP 8 0 96 [a0, a1, a2, a3, vI (wr (x + 1)), a5, a6] S h Q := wp_iinc rfl rfl rfl
theorem s8_96 : WP 8 0 96 L S h Q ↔ WP 8 0 19 L S h Q := wp_pl rfl rfl rfl
theorem s8_99 : WP 8 0 99 L S h Q ↔ WP 8 0 100 L (vI (-1) :: S) h Q := wp_pl rfl rfl rfl
theorem s8_100 : WP 8 0 100 L [vI x] h Q ↔ Q (.inl (some (vI x))) h := wp_iret0 rfl rfl
/-! RepeatFree.can(Z)V -/
theorem s9_0 : WP 9 0 0 [vI x] S h Q ↔ WP 9 0 1 [vI x] (vI x :: S) h Q := wp_iload rfl rfl
theorem s9_1 : WP 9 0 1 L (vI x :: S) h Q ↔ zif (x = 0) (WP 9 0 4 L S h Q) (WP 9 0 12 L S h Q) := wp_bN zc_eq rfl rfl rfl
theorem s9_4 : WP 9 0 4 L S h Q ↔ (zw S ≤ 8 ∧ WP 9 0 11 L (vA (some (hn h)) :: S) (hnew h (121, 0) 6 zdf) Q) := wp_if rfl rfl rfl
theorem s9_11 : WP 9 0 11 L (vA (some a) :: S) h Q ↔ ((((120 ≤ (hk h a).1 ∧ (hk h a).1 ≤ 123) ∨ (hk h a).1 = 109)) ∧ Q (.inr a) h) := wp_athrow (fun _ => rfl) rfl
theorem s9_12 : WP 9 0 12 L [] h Q ↔ Q (.inl none) h := wp_ret rfl
/-! RepeatFree.cannot(I)Z -/
theorem s10_0 : WP 10 0 0 [vA r, a1] S h Q ↔ WP 10 0 1 [vA r, a1] (vA r :: S) h Q := wp_aload rfl rfl
theorem s10_1 : WP 10 0 1 [a0, vI x] S h Q ↔ WP 10 0 2 [a0, vI x] (vI x :: S) h Q := wp_iload rfl rfl
theorem s10_2 : WP 10 0 2 L (vI x0 :: vA (some a) :: S) h Q ↔ ((hk h a).1 = 100 ∧ (zw S ≤ 8 ∧ WP 69 0 0 [vA (some a), vI x0] [] h (zret 10 0 2 5 L S Q))) := wp_V1 (c := 100) rfl rfl (fun _ => rfl) rfl rfl (zcan_of rfl rfl) rfl rfl rfl
theorem s10_5 : WP 10 0 5 L (vA (some a) :: S) h Q ↔ (zhas 21 (hk h a) = true ∧ WP 10 0 8 L (hm h a 21 :: S) h Q) := wp_if rfl rfl rfl
theorem s10_8 : WP 10 0 8 L (vA r0 :: S) h Q ↔ (zw S ≤ 8 ∧ WP 11 9 0 [vA r0, vJ, vJ] [] h (zret 10 0 8 11 L S Q)) := wp_S rfl rfl (zcan_of rfl rfl) rfl rfl rfl
theorem s10_11 : WP 10 0 11 L [vI x] h Q ↔ ((x = 0 ∨ x = 1) ∧ Q (.inl (some (vI x))) h) := wp_iret rfl rfl
/-! RepeatFree.cannot(Ljava/lang/String;)Z -/
theorem s11_0 : WP 11 lv 0 [vA r, a1, a2] S h Q ↔ WP 11 lv 1 [vA r, a1, a2] (vA r :: S) h Q := wp_aload rfl rfl
theorem s11_1 : WP 11 lv 1 L (vA (some a) :: S) h Q ↔ ((hk h a).1 = 117 ∧ (zw S ≤ 8 ∧ WP 323 0 0 [vA (some a)] [] h (zret 11 lv 1 4 L S Q))) := wp_V1 (c := 117) rfl rfl (fun _ => rfl) rfl rfl (zcan_of rfl rfl) rfl rfl rfl
theorem s11_4 : WP 11 lv 4 L S h Q ↔ WP 11 lv 5 L (vI 2 :: S) h Q := wp_pl rfl rfl rfl
theorem s11_5 : WP 11 lv 5 L (vI y :: vI x :: S) h Q ↔ zif (x < y) (WP 11 lv 8 L S h Q) (WP 11 lv 22 L S h Q) := wp_bN zc_lt rfl rfl rfl
theorem s11_8 : WP 11 lv 8 [vA r, a1, a2] S h Q ↔ WP 11 lv 9 [vA r, a1, a2] (vA r :: S) h Q := wp_aload rfl rfl
theorem s11_9 : WP 11 lv 9 L (vA (some a) :: S) h Q ↔ ((hk h a).1 = 117 ∧ (zw S ≤ 8 ∧ WP 323 0 0 [vA (some a)] [] h (zret 11 lv 9 12 L S Q))) := wp_V1 (c := 117) rfl rfl (fun _ => rfl) rfl rfl (zcan_of rfl rfl) rfl rfl rfl
theorem s11_12 : WP 11 lv 12 L S h Q ↔ WP 11 lv 13 L (vI 1 :: S) h Q := wp_pl rfl rfl rfl
theorem s11_13 : WP 11 lv 13 L (vI y :: vI x :: S) h Q ↔ zif (x = y) (WP 11 lv 16 L S h Q) (WP 11 lv 20 L S h Q) := wp_bN zc_eq rfl rfl rfl
theorem s11_16 : WP 11 lv 16 L S h Q ↔ WP 11 lv 17 L (vI 1 :: S) h Q := wp_pl rfl rfl rfl
theorem s11_17 : WP 11 lv 17 L S h Q ↔ WP 11 lv 21 L S h Q := wp_pl rfl rfl rfl
theorem s11_20 : WP 11 lv 20 L S h Q ↔ WP 11 lv 21 L (vI 0 :: S) h Q := wp_pl rfl rfl rfl
theorem s11_21 : WP 11 lv 21 L [vI x] h Q ↔ ((x = 0 ∨ x = 1) ∧ Q (.inl (some (vI x))) h) := wp_iret rfl rfl
theorem s11_22 : WP 11 lv 22 [vA r, a1, a2] S h Q ↔ WP 11 lv 23 [vA r, a1, a2] (vA r :: S) h Q := wp_aload rfl rfl
theorem s11_23 : WP 11 lv 23 L (vA r0 :: S) h Q ↔ (zw S ≤ 8 ∧ WP 55 0 0 [vA r0, vJ, vJ, vJ] [] h (zret 11 lv 23 26 L S Q)) := wp_S rfl rfl (zcan_of rfl rfl) rfl rfl rfl
theorem s11_26 : WP 11 lv 26 L (vA (some a) :: S) h Q ↔ ((hk h a).1 = 111 ∧ (zw S ≤ 8 ∧ WP 398 0 0 [vA (some a)] [] h (zret 11 lv 26 29 L S Q))) := wp_V1 (c := 111) rfl rfl (fun _ => rfl) rfl rfl (zcan_of rfl rfl) rfl rfl rfl
theorem s11_29 : WP 11 lv 29 [a0, a1, a2] (vA r :: S) h Q ↔ WP 11 lv 30 [a0, vA r, a2] S h Q := wp_astore rfl rfl rfl
theorem s11_30 : WP 11 lv 30 [a0, vA r, a2] S h Q ↔ WP 11 lv 31 [a0, vA r, a2] (vA r :: S) h Q := wp_aload rfl rfl
theorem s11_31 : WP 11 lv 31 L (vA (some a) :: S) h Q ↔ ((hk h a).1 = 113 ∧ (zw S ≤ 8 ∧ WP 274 0 0 [vA (some a)] [] h (zret 11 lv 31 36 L S Q))) := wp_F1 (c := 113) rfl rfl (fun _ => rfl) rfl rfl (zcan_of rfl rfl) rfl rfl rfl
theorem s11_36 : WP 11 lv 36 L (vI x :: S) h Q ↔ zif (x = 0) (WP 11 lv 68 L S h Q) (WP 11 lv 39 L S h Q) := wp_bE zc_eq rfl rfl rfl
theorem s11_39 : WP 11 lv 39 [a0, vA r, a2] S h Q ↔ WP 11 lv 40 [a0, vA r, a2] (vA r :: S) h Q := wp_aload rfl rfl
theorem s11_40 : WP 11 lv 40 L (vA (some a) :: S) h Q ↔ ((hk h a).1 = 113 ∧ (zw S ≤ 8 ∧ WP 276 0 0 [vA (some a)] [] h (zret 11 lv 40 45 L S Q))) := wp_F1 (c := 113) rfl rfl (fun _ => rfl) rfl rfl (zcan_of rfl rfl) rfl rfl rfl
theorem s11_45n : WP 11 lv 45 L (vA none :: S) h Q ↔ WP 11 lv 48 L (vA none :: S) h Q := wp_pl rfl rfl rfl
theorem s11_45 : WP 11 lv 45 L (vA (some a) :: S) h Q ↔ (zCX 1 (hk h a).1 a = true ∧ WP 11 lv 48 L (vA (some a) :: S) h Q) := wp_if rfl rfl rfl
theorem s11_48 : WP 11 lv 48 L (vA (some a) :: S) h Q ↔ ((hk h a).1 = 118 ∧ (zw S ≤ 8 ∧ WP 329 0 0 [vA (some a)] [] h (zret 11 lv 48 51 L S Q))) := wp_V1 (c := 118) rfl rfl (fun _ => rfl) rfl rfl (zcan_of rfl rfl) rfl rfl rfl
theorem s11_51 : WP 11 lv 51 [a0, a1, a2] (vI x :: S) h Q ↔ WP 11 lv 52 [a0, a1, vI x] S h Q := wp_istore rfl rfl rfl
theorem s11_52 : WP 11 lv 52 [vA r, a1, a2] S h Q ↔ WP 11 lv 53 [vA r, a1, a2] (vA r :: S) h Q := wp_aload rfl rfl
theorem s11_53 : WP 11 lv 53 [a0, a1, vI x] S h Q ↔ WP 11 lv 54 [a0, a1, vI x] (vI x :: S) h Q := wp_iload rfl rfl
theorem s11_54 : WP 11 lv 54 L (vI x1 :: vA r0 :: S) h Q ↔ (zw S ≤ 8 ∧ WP 91 0 0 [vA r0, vI x1, vJ, vJ] [] h (zret 11 lv 54 57 L S Q)) := wp_S rfl rfl (zcan_of rfl rfl) rfl rfl rfl
theorem s11_57 : WP 11 (lv + 1) 57 L (vA r0 :: S) h Q ↔ (zw S ≤ 8 ∧ WP 11 lv 0 [vA r0, vJ, vJ] [] h (zret 11 (lv + 1) 57 60 L S Q)) := wp_S rfl rfl zcan_self rfl rfl rfl
theorem s11_60 : WP 11 lv 60 L (vI x :: S) h Q ↔ zif (x = 0) (WP 11 lv 65 L S h Q) (WP 11 lv 63 L S h Q) := wp_bE zc_eq rfl rfl rfl
theorem s11_63 : WP 11 lv 63 L S h Q ↔ WP 11 lv 64 L (vI 1 :: S) h Q := wp_pl rfl rfl rfl
theorem s11_64 : WP 11 lv 64 L [vI x] h Q ↔ ((x = 0 ∨ x = 1) ∧ Q (.inl (some (vI x))) h) := wp_iret rfl rfl
theorem s11_65 : WP 11 lv 65 L S h Q ↔ WP 11 lv 30 L S h Q := wp_pl rfl rfl rfl
theorem s11_68 : WP 11 lv 68 L S h Q ↔ WP 11 lv 69 L (vI 0 :: S) h Q := wp_pl rfl rfl rfl
theorem s11_69 : WP 11 lv 69 L [vI x] h Q ↔ ((x = 0 ∨ x = 1) ∧ Q (.inl (some (vI x))) h) := wp_iret rfl rfl
/-! RepeatFree.code(I)Z -/
theorem s12_0 : WP 12 0 0 [vA r, a1, a2, a3, a4, a5, a6, a7] S h Q ↔ WP 12 0 1 [vA r, a1, a2, a3, a4, a5, a6, a7] (vA r :: S) h Q := wp_aload rfl rfl
theorem s12_1 : WP 12 0 1 [a0, vI x, a2, a3, a4, a5, a6, a7] S h Q ↔ WP 12 0 2 [a0, vI x, a2, a3, a4, a5, a6, a7] (vI x :: S) h Q := wp_iload rfl rfl
theorem s12_2 : WP 12 0 2 L (vI x0 :: vA (some a) :: S) h Q ↔ ((hk h a).1 = 100 ∧ (zw S ≤ 8 ∧ WP 59 0 0 [vA (some a), vI x0] [] h (zret 12 0 2 5 L S Q))) := wp_V1 (c := 100) rfl rfl (fun _ => rfl) rfl rfl (zcan_of rfl rfl) rfl rfl rfl
theorem s12_5 : WP 12 0 5 [a0, a1, a2, a3, a4, a5, a6, a7] (vA r :: S) h Q ↔ WP 12 0 6 [a0, a1, vA r, a3, a4, a5, a6, a7] S h Q := wp_astore rfl rfl rfl
theorem s12_6 : WP 12 0 6 L S h Q ↔ WP 12 0 9 L (vA (some (hn h)) :: S) (hnew h (111, 0) 4 zdf) Q := wp_pl rfl rfl rfl
theorem s12_9 : WP 12 0 9 L (vA r :: S) h Q ↔ WP 12 0 10 L (vA r :: vA r :: S) h Q := wp_pl rfl rfl rfl
theorem s12_9i : WP 12 0 9 L (vI x :: S) h Q ↔ WP 12 0 10 L (vI x :: vI x :: S) h Q := wp_pl rfl rfl rfl
theorem s12_10 : WP 12 0 10 L (vA (some a) :: S) h Q ↔ ((zNC ≤ a ∧ 100 ≤ (hk h a).1) ∧ zw S ≤ 8 ∧ WP 262 0 0 [vA (some a)] [] h (zret 12 0 10 13 L S Q)) := wp_I rfl rfl rfl (zcan_of rfl rfl) rfl rfl rfl
theorem s12_13 : WP 12 0 13 [a0, a1, a2, a3, a4, a5, a6, a7] (vA r :: S) h Q ↔ WP 12 0 14 [a0, a1, a2, vA r, a4, a5, a6, a7] S h Q := wp_astore rfl rfl rfl
theorem s12_14 : WP 12 0 14 L S h Q ↔ WP 12 0 15 L (vI 0 :: S) h Q := wp_pl rfl rfl rfl
theorem s12_15 : WP 12 0 15 [a0, a1, a2, a3, a4, a5, a6, a7] (vI x :: S) h Q ↔ WP 12 0 17 [a0, a1, a2, a3, vI x, a5, a6, a7] S h Q := wp_istore rfl rfl rfl
theorem s12_17 : WP 12 0 17 [a0, a1, a2, a3, vI x, a5, a6, a7] S h Q ↔ WP 12 0 19 [a0, a1, a2, a3, vI x, a5, a6, a7] (vI x :: S) h Q := wp_iload rfl rfl
theorem s12_19 : WP 12 0 19 [vA r, a1, a2, a3, a4, a5, a6, a7] S h Q ↔ WP 12 0 20 [vA r, a1, a2, a3, a4, a5, a6, a7] (vA r :: S) h Q := wp_aload rfl rfl
theorem s12_20 : WP 12 0 20 L (vA (some a) :: S) h Q ↔ (zhas 4 (hk h a) = true ∧ WP 12 0 23 L (hm h a 4 :: S) h Q) := wp_if rfl rfl rfl
theorem s12_23 : WP 12 0 23 L (vA (some a) :: S) h Q ↔ (zhas 12 (hk h a) = true ∧ WP 12 0 26 L (hm h a 12 :: S) h Q) := wp_if rfl rfl rfl
theorem s12_26 : WP 12 0 26 L (vI y :: vI x :: S) h Q ↔ zif (x < y) (WP 12 0 29 L S h Q) (WP 12 0 50 L S h Q) := wp_bN zc_lt rfl rfl rfl
theorem s12_29 : WP 12 0 29 [a0, a1, a2, vA r, a4, a5, a6, a7] S h Q ↔ WP 12 0 30 [a0, a1, a2, vA r, a4, a5, a6, a7] (vA r :: S) h Q := wp_aload rfl rfl
theorem s12_30 : WP 12 0 30 [a0, a1, vA r, a3, a4, a5, a6, a7] S h Q ↔ WP 12 0 31 [a0, a1, vA r, a3, a4, a5, a6, a7] (vA r :: S) h Q := wp_aload rfl rfl
theorem s12_31 : WP 12 0 31 L (vA (some a) :: S) h Q ↔ (zhas 20 (hk h a) = true ∧ WP 12 0 34 L (hm h a 20 :: S) h Q) := wp_if rfl rfl rfl
theorem s12_34 : WP 12 0 34 [a0, a1, a2, a3, vI x, a5, a6, a7] S h Q ↔ WP 12 0 36 [a0, a1, a2, a3, vI x, a5, a6, a7] (vI x :: S) h Q := wp_iload rfl rfl
theorem s12_36 : WP 12 0 36 L (vI x :: vA (some a) :: S) h Q ↔ ((((5 ≤ (hk h a).1 ∧ (hk h a).1 ≤ 7) ∧ 0 ≤ x ∧ x < ((hk h a).2 : Int)) ∨ ((hk h a).1 = 8 ∧ 128 ≤ x ∧ x < 144)) ∧ WP 12 0 37 L (hm h a x.toNat :: S) h Q) := wp_if rfl rfl rfl
theorem s12_37 : WP 12 0 37 L (vA r0 :: S) h Q ↔ (zw S ≤ 8 ∧ WP 84 0 0 [vA r0, vJ, vJ, vJ, vJ, vJ] [] h (zret 12 0 37 40 L S Q)) := wp_S rfl rfl (zcan_of rfl rfl) rfl rfl rfl
theorem s12_40 : WP 12 0 40 L (vA r0 :: vA (some a) :: S) h Q ↔ ((hk h a).1 = 111 ∧ (zw S ≤ 8 ∧ WP 255 0 0 [vA (some a), vA r0] [] h (zret 12 0 40 43 L S Q))) := wp_V1 (c := 111) rfl rfl (fun _ => rfl) rfl rfl (zcan_of rfl rfl) rfl rfl rfl
theorem s12_43 : WP 12 0 43 L (vA r :: S) h Q ↔ WP 12 0 44 L S h Q := wp_pl rfl rfl rfl
theorem s12_43i : WP 12 0 43 L (vI x :: S) h Q ↔ WP 12 0 44 L S h Q := wp_pl rfl rfl rfl
theorem s12_44 : WP 12 0 44 [a0, a1, a2, a3, vI x, a5, a6, a7] S h Q ↔ WP 12 0 47 [a0, a1, a2, a3, vI (wr (x + 1)), a5, a6, a7] S h Q := wp_iinc rfl rfl rfl
theorem s12_47 : WP 12 0 47 L S h Q ↔ WP 12 0 17 L S h Q := wp_pl rfl rfl rfl
theorem s12_50 : WP 12 0 50 L S h Q ↔ WP 12 0 53 L (vA (some (hn h)) :: S) (hnew h (111, 0) 4 zdf) Q := wp_pl rfl rfl rfl
theorem s12_53 : WP 12 0 53 L (vA r :: S) h Q ↔ WP 12 0 54 L (vA r :: vA r :: S) h Q := wp_pl rfl rfl rfl
theorem s12_53i : WP 12 0 53 L (vI x :: S) h Q ↔ WP 12 0 54 L (vI x :: vI x :: S) h Q := wp_pl rfl rfl rfl
theorem s12_54 : WP 12 0 54 L (vA (some a) :: S) h Q ↔ ((zNC ≤ a ∧ 100 ≤ (hk h a).1) ∧ zw S ≤ 8 ∧ WP 262 0 0 [vA (some a)] [] h (zret 12 0 54 57 L S Q)) := wp_I rfl rfl rfl (zcan_of rfl rfl) rfl rfl rfl
theorem s12_57 : WP 12 0 57 [a0, a1, a2, a3, a4, a5, a6, a7] (vA r :: S) h Q ↔ WP 12 0 59 [a0, a1, a2, a3, vA r, a5, a6, a7] S h Q := wp_astore rfl rfl rfl
theorem s12_59 : WP 12 0 59 L S h Q ↔ WP 12 0 60 L (vI 0 :: S) h Q := wp_pl rfl rfl rfl
theorem s12_60 : WP 12 0 60 [a0, a1, a2, a3, a4, a5, a6, a7] (vI x :: S) h Q ↔ WP 12 0 62 [a0, a1, a2, a3, a4, vI x, a6, a7] S h Q := wp_istore rfl rfl rfl
theorem s12_62 : WP 12 0 62 [a0, a1, a2, a3, a4, vI x, a6, a7] S h Q ↔ WP 12 0 64 [a0, a1, a2, a3, a4, vI x, a6, a7] (vI x :: S) h Q := wp_iload rfl rfl
theorem s12_64 : WP 12 0 64 [vA r, a1, a2, a3, a4, a5, a6, a7] S h Q ↔ WP 12 0 65 [vA r, a1, a2, a3, a4, a5, a6, a7] (vA r :: S) h Q := wp_aload rfl rfl
theorem s12_65 : WP 12 0 65 L (vA (some a) :: S) h Q ↔ (zhas 4 (hk h a) = true ∧ WP 12 0 68 L (hm h a 4 :: S) h Q) := wp_if rfl rfl rfl
theorem s12_68 : WP 12 0 68 L (vA (some a) :: S) h Q ↔ (zhas 12 (hk h a) = true ∧ WP 12 0 71 L (hm h a 12 :: S) h Q) := wp_if rfl rfl rfl
theorem s12_71 : WP 12 0 71 L (vI y :: vI x :: S) h Q ↔ zif (x < y) (WP 12 0 74 L S h Q) (WP 12 0 134 L S h Q) := wp_bN zc_lt rfl rfl rfl
theorem s12_74 : WP 12 0 74 L S h Q ↔ WP 12 0 75 L (vI 0 :: S) h Q := wp_pl rfl rfl rfl
theorem s12_75 : WP 12 0 75 [a0, a1, a2, a3, a4, a5, a6, a7] (vI x :: S) h Q ↔ WP 12 0 77 [a0, a1, a2, a3, a4, a5, vI x, a7] S h Q := wp_istore rfl rfl rfl
theorem s12_77 : WP 12 0 77 [a0, a1, a2, a3, a4, a5, vI x, a7] S h Q ↔ WP 12 0 79 [a0, a1, a2, a3, a4, a5, vI x, a7] (vI x :: S) h Q := wp_iload rfl rfl
theorem s12_79 : WP 12 0 79 [vA r, a1, a2, a3, a4, a5, a6, a7] S h Q ↔ WP 12 0 80 [vA r, a1, a2, a3, a4, a5, a6, a7] (vA r :: S) h Q := wp_aload rfl rfl
theorem s12_80 : WP 12 0 80 L (vA (some a) :: S) h Q ↔ (zhas 4 (hk h a) = true ∧ WP 12 0 83 L (hm h a 4 :: S) h Q) := wp_if rfl rfl rfl
theorem s12_83 : WP 12 0 83 L (vA (some a) :: S) h Q ↔ (zhas 12 (hk h a) = true ∧ WP 12 0 86 L (hm h a 12 :: S) h Q) := wp_if rfl rfl rfl
theorem s12_86 : WP 12 0 86 L (vI y :: vI x :: S) h Q ↔ zif (x < y) (WP 12 0 89 L S h Q) (WP 12 0 128 L S h Q) := wp_bN zc_lt rfl rfl rfl
theorem s12_89 : WP 12 0 89 [a0, a1, a2, a3, a4, vI x, a6, a7] S h Q ↔ WP 12 0 91 [a0, a1, a2, a3, a4, vI x, a6, a7] (vI x :: S) h Q := wp_iload rfl rfl
theorem s12_91 : WP 12 0 91 [a0, a1, a2, a3, a4, a5, vI x, a7] S h Q ↔ WP 12 0 93 [a0, a1, a2, a3, a4, a5, vI x, a7] (vI x :: S) h Q := wp_iload rfl rfl
theorem s12_93 : WP 12 0 93 L (vI y :: vI x :: S) h Q ↔ zif (x = y) (WP 12 0 122 L S h Q) (WP 12 0 96 L S h Q) := wp_bE zc_eq rfl rfl rfl
theorem s12_96 : WP 12 0 96 [a0, a1, a2, a3, vA r, a5, a6, a7] S h Q ↔ WP 12 0 98 [a0, a1, a2, a3, vA r, a5, a6, a7] (vA r :: S) h Q := wp_aload rfl rfl
theorem s12_98 : WP 12 0 98 [a0, a1, a2, vA r, a4, a5, a6, a7] S h Q ↔ WP 12 0 99 [a0, a1, a2, vA r, a4, a5, a6, a7] (vA r :: S) h Q := wp_aload rfl rfl
theorem s12_99 : WP 12 0 99 [a0, a1, a2, a3, a4, vI x, a6, a7] S h Q ↔ WP 12 0 101 [a0, a1, a2, a3, a4, vI x, a6, a7] (vI x :: S) h Q := wp_iload rfl rfl
theorem s12_101 : WP 12 0 101 L (vI x0 :: vA (some a) :: S) h Q ↔ ((hk h a).1 = 111 ∧ (zw S ≤ 8 ∧ WP 260 0 0 [vA (some a), vI x0] [] h (zret 12 0 101 104 L S Q))) := wp_V1 (c := 111) rfl rfl (fun _ => rfl) rfl rfl (zcan_of rfl rfl) rfl rfl rfl
theorem s12_104n : WP 12 0 104 L (vA none :: S) h Q ↔ WP 12 0 107 L (vA none :: S) h Q := wp_pl rfl rfl rfl
theorem s12_104 : WP 12 0 104 L (vA (some a) :: S) h Q ↔ (zCX 2 (hk h a).1 a = true ∧ WP 12 0 107 L (vA (some a) :: S) h Q) := wp_if rfl rfl rfl
theorem s12_107 : WP 12 0 107 [a0, a1, a2, vA r, a4, a5, a6, a7] S h Q ↔ WP 12 0 108 [a0, a1, a2, vA r, a4, a5, a6, a7] (vA r :: S) h Q := wp_aload rfl rfl
theorem s12_108 : WP 12 0 108 [a0, a1, a2, a3, a4, a5, vI x, a7] S h Q ↔ WP 12 0 110 [a0, a1, a2, a3, a4, a5, vI x, a7] (vI x :: S) h Q := wp_iload rfl rfl
theorem s12_110 : WP 12 0 110 L (vI x0 :: vA (some a) :: S) h Q ↔ ((hk h a).1 = 111 ∧ (zw S ≤ 8 ∧ WP 260 0 0 [vA (some a), vI x0] [] h (zret 12 0 110 113 L S Q))) := wp_V1 (c := 111) rfl rfl (fun _ => rfl) rfl rfl (zcan_of rfl rfl) rfl rfl rfl
theorem s12_113n : WP 12 0 113 L (vA none :: S) h Q ↔ WP 12 0 116 L (vA none :: S) h Q := wp_pl rfl rfl rfl
theorem s12_113 : WP 12 0 113 L (vA (some a) :: S) h Q ↔ (zCX 2 (hk h a).1 a = true ∧ WP 12 0 116 L (vA (some a) :: S) h Q) := wp_if rfl rfl rfl
theorem s12_116 : WP 12 0 116 L (vA r1 :: vA r0 :: S) h Q ↔ (zw S ≤ 8 ∧ WP 77 0 0 [vA r0, vA r1] [] h (zret 12 0 116 119 L S Q)) := wp_S rfl rfl (zcan_of rfl rfl) rfl rfl rfl
theorem s12_119 : WP 12 0 119 L (vA r1 :: vA r0 :: S) h Q ↔ (zw S ≤ 8 ∧ WP 0 0 0 [vA r0, vA r1] [] h (zret 12 0 119 122 L S Q)) := wp_S rfl rfl (zcan_of rfl rfl) rfl rfl rfl
theorem s12_122 : WP 12 0 122 [a0, a1, a2, a3, a4, a5, vI x, a7] S h Q ↔ WP 12 0 125 [a0, a1, a2, a3, a4, a5, vI (wr (x + 1)), a7] S h Q := wp_iinc rfl rfl rfl
theorem s12_125 : WP 12 0 125 L S h Q ↔ WP 12 0 77 L S h Q := wp_pl rfl rfl rfl
theorem s12_128 : WP 12 0 128 [a0, a1, a2, a3, a4, vI x, a6, a7] S h Q ↔ WP 12 0 131 [a0, a1, a2, a3, a4, vI (wr (x + 1)), a6, a7] S h Q := wp_iinc rfl rfl rfl
theorem s12_131 : WP 12 0 131 L S h Q ↔ WP 12 0 62 L S h Q := wp_pl rfl rfl rfl
theorem s12_134 : WP 12 0 134 L S h Q ↔ WP 12 0 135 L (vI 0 :: S) h Q := wp_pl rfl rfl rfl
theorem s12_135 : WP 12 0 135 [a0, a1, a2, a3, a4, a5, a6, a7] (vI x :: S) h Q ↔ WP 12 0 137 [a0, a1, a2, a3, a4, vI x, a6, a7] S h Q := wp_istore rfl rfl rfl
theorem s12_137 : WP 12 0 137 [a0, a1, a2, a3, a4, vI x, a6, a7] S h Q ↔ WP 12 0 139 [a0, a1, a2, a3, a4, vI x, a6, a7] (vI x :: S) h Q := wp_iload rfl rfl
theorem s12_139 : WP 12 0 139 [a0, a1, a2, a3, vA r, a5, a6, a7] S h Q ↔ WP 12 0 141 [a0, a1, a2, a3, vA r, a5, a6, a7] (vA r :: S) h Q := wp_aload rfl rfl
theorem s12_141 : WP 12 0 141 L (vA (some a) :: S) h Q ↔ ((hk h a).1 = 111 ∧ (zw S ≤ 8 ∧ WP 270 0 0 [vA (some a)] [] h (zret 12 0 141 144 L S Q))) := wp_V1 (c := 111) rfl rfl (fun _ => rfl) rfl rfl (zcan_of rfl rfl) rfl rfl rfl
theorem s12_144 : WP 12 0 144 L (vI y :: vI x :: S) h Q ↔ zif (x < y) (WP 12 0 147 L S h Q) (WP 12 0 234 L S h Q) := wp_bN zc_lt rfl rfl rfl
theorem s12_147 : WP 12 0 147 [a0, a1, a2, a3, vA r, a5, a6, a7] S h Q ↔ WP 12 0 149 [a0, a1, a2, a3, vA r, a5, a6, a7] (vA r :: S) h Q := wp_aload rfl rfl
theorem s12_149 : WP 12 0 149 [a0, a1, a2, a3, a4, vI x, a6, a7] S h Q ↔ WP 12 0 151 [a0, a1, a2, a3, a4, vI x, a6, a7] (vI x :: S) h Q := wp_iload rfl rfl
theorem s12_151 : WP 12 0 151 L (vI x0 :: vA (some a) :: S) h Q ↔ ((hk h a).1 = 111 ∧ (zw S ≤ 8 ∧ WP 260 0 0 [vA (some a), vI x0] [] h (zret 12 0 151 154 L S Q))) := wp_V1 (c := 111) rfl rfl (fun _ => rfl) rfl rfl (zcan_of rfl rfl) rfl rfl rfl
theorem s12_154n : WP 12 0 154 L (vA none :: S) h Q ↔ WP 12 0 157 L (vA none :: S) h Q := wp_pl rfl rfl rfl
theorem s12_154 : WP 12 0 154 L (vA (some a) :: S) h Q ↔ (zCX 2 (hk h a).1 a = true ∧ WP 12 0 157 L (vA (some a) :: S) h Q) := wp_if rfl rfl rfl
theorem s12_157 : WP 12 0 157 [a0, a1, a2, a3, a4, a5, a6, a7] (vA r :: S) h Q ↔ WP 12 0 159 [a0, a1, a2, a3, a4, a5, vA r, a7] S h Q := wp_astore rfl rfl rfl
theorem s12_159 : WP 12 0 159 [a0, a1, a2, a3, a4, a5, vA r, a7] S h Q ↔ WP 12 0 161 [a0, a1, a2, a3, a4, a5, vA r, a7] (vA r :: S) h Q := wp_aload rfl rfl
theorem s12_161 : WP 12 0 161 L (vA (some a) :: S) h Q ↔ ((hk h a).1 = 117 ∧ (zw S ≤ 8 ∧ WP 321 0 0 [vA (some a)] [] h (zret 12 0 161 164 L S Q))) := wp_V1 (c := 117) rfl rfl (fun _ => rfl) rfl rfl (zcan_of rfl rfl) rfl rfl rfl
theorem s12_164 : WP 12 0 164 L (vI x :: S) h Q ↔ zif (x = 0) (WP 12 0 169 L S h Q) (WP 12 0 167 L S h Q) := wp_bE zc_eq rfl rfl rfl
theorem s12_167 : WP 12 0 167 L S h Q ↔ WP 12 0 168 L (vI 0 :: S) h Q := wp_pl rfl rfl rfl
theorem s12_168 : WP 12 0 168 L [vI x] h Q ↔ ((x = 0 ∨ x = 1) ∧ Q (.inl (some (vI x))) h) := wp_iret rfl rfl
theorem s12_169 : WP 12 0 169 L S h Q ↔ WP 12 0 170 L (vI 0 :: S) h Q := wp_pl rfl rfl rfl
theorem s12_170 : WP 12 0 170 [a0, a1, a2, a3, a4, a5, a6, a7] (vI x :: S) h Q ↔ WP 12 0 172 [a0, a1, a2, a3, a4, a5, a6, vI x] S h Q := wp_istore rfl rfl rfl
theorem s12_172 : WP 12 0 172 [a0, a1, a2, a3, a4, a5, a6, vI x] S h Q ↔ WP 12 0 174 [a0, a1, a2, a3, a4, a5, a6, vI x] (vI x :: S) h Q := wp_iload rfl rfl
theorem s12_174 : WP 12 0 174 [vA r, a1, a2, a3, a4, a5, a6, a7] S h Q ↔ WP 12 0 175 [vA r, a1, a2, a3, a4, a5, a6, a7] (vA r :: S) h Q := wp_aload rfl rfl
theorem s12_175 : WP 12 0 175 L (vA (some a) :: S) h Q ↔ (zhas 4 (hk h a) = true ∧ WP 12 0 178 L (hm h a 4 :: S) h Q) := wp_if rfl rfl rfl
theorem s12_178 : WP 12 0 178 L (vA (some a) :: S) h Q ↔ (zhas 12 (hk h a) = true ∧ WP 12 0 181 L (hm h a 12 :: S) h Q) := wp_if rfl rfl rfl
theorem s12_181 : WP 12 0 181 L (vI y :: vI x :: S) h Q ↔ zif (x < y) (WP 12 0 184 L S h Q) (WP 12 0 228 L S h Q) := wp_bN zc_lt rfl rfl rfl
theorem s12_184 : WP 12 0 184 [a0, a1, a2, a3, vA r, a5, a6, a7] S h Q ↔ WP 12 0 186 [a0, a1, a2, a3, vA r, a5, a6, a7] (vA r :: S) h Q := wp_aload rfl rfl
theorem s12_186 : WP 12 0 186 [a0, a1, a2, vA r, a4, a5, a6, a7] S h Q ↔ WP 12 0 187 [a0, a1, a2, vA r, a4, a5, a6, a7] (vA r :: S) h Q := wp_aload rfl rfl
theorem s12_187 : WP 12 0 187 [a0, a1, a2, a3, a4, a5, a6, vI x] S h Q ↔ WP 12 0 189 [a0, a1, a2, a3, a4, a5, a6, vI x] (vI x :: S) h Q := wp_iload rfl rfl
theorem s12_189 : WP 12 0 189 L (vI x0 :: vA (some a) :: S) h Q ↔ ((hk h a).1 = 111 ∧ (zw S ≤ 8 ∧ WP 260 0 0 [vA (some a), vI x0] [] h (zret 12 0 189 192 L S Q))) := wp_V1 (c := 111) rfl rfl (fun _ => rfl) rfl rfl (zcan_of rfl rfl) rfl rfl rfl
theorem s12_192n : WP 12 0 192 L (vA none :: S) h Q ↔ WP 12 0 195 L (vA none :: S) h Q := wp_pl rfl rfl rfl
theorem s12_192 : WP 12 0 192 L (vA (some a) :: S) h Q ↔ (zCX 2 (hk h a).1 a = true ∧ WP 12 0 195 L (vA (some a) :: S) h Q) := wp_if rfl rfl rfl
theorem s12_195 : WP 12 0 195 [a0, a1, a2, a3, a4, a5, vA r, a7] S h Q ↔ WP 12 0 197 [a0, a1, a2, a3, a4, a5, vA r, a7] (vA r :: S) h Q := wp_aload rfl rfl
theorem s12_197 : WP 12 0 197 L (vA r1 :: vA r0 :: S) h Q ↔ (zw S ≤ 8 ∧ WP 77 0 0 [vA r0, vA r1] [] h (zret 12 0 197 200 L S Q)) := wp_S rfl rfl (zcan_of rfl rfl) rfl rfl rfl
theorem s12_200 : WP 12 0 200 L (vA r1 :: vA r0 :: S) h Q ↔ (zw S ≤ 8 ∧ WP 0 0 0 [vA r0, vA r1] [] h (zret 12 0 200 203 L S Q)) := wp_S rfl rfl (zcan_of rfl rfl) rfl rfl rfl
theorem s12_203 : WP 12 0 203 [a0, a1, a2, a3, vA r, a5, a6, a7] S h Q ↔ WP 12 0 205 [a0, a1, a2, a3, vA r, a5, a6, a7] (vA r :: S) h Q := wp_aload rfl rfl
theorem s12_205 : WP 12 0 205 [a0, a1, a2, a3, a4, a5, vA r, a7] S h Q ↔ WP 12 0 207 [a0, a1, a2, a3, a4, a5, vA r, a7] (vA r :: S) h Q := wp_aload rfl rfl
theorem s12_207 : WP 12 0 207 [a0, a1, a2, vA r, a4, a5, a6, a7] S h Q ↔ WP 12 0 208 [a0, a1, a2, vA r, a4, a5, a6, a7] (vA r :: S) h Q := wp_aload rfl rfl
theorem s12_208 : WP 12 0 208 [a0, a1, a2, a3, a4, a5, a6, vI x] S h Q ↔ WP 12 0 210 [a0, a1, a2, a3, a4, a5, a6, vI x] (vI x :: S) h Q := wp_iload rfl rfl
theorem s12_210 : WP 12 0 210 L (vI x0 :: vA (some a) :: S) h Q ↔ ((hk h a).1 = 111 ∧ (zw S ≤ 8 ∧ WP 260 0 0 [vA (some a), vI x0] [] h (zret 12 0 210 213 L S Q))) := wp_V1 (c := 111) rfl rfl (fun _ => rfl) rfl rfl (zcan_of rfl rfl) rfl rfl rfl
theorem s12_213n : WP 12 0 213 L (vA none :: S) h Q ↔ WP 12 0 216 L (vA none :: S) h Q := wp_pl rfl rfl rfl
theorem s12_213 : WP 12 0 213 L (vA (some a) :: S) h Q ↔ (zCX 2 (hk h a).1 a = true ∧ WP 12 0 216 L (vA (some a) :: S) h Q) := wp_if rfl rfl rfl
theorem s12_216 : WP 12 0 216 L (vA r1 :: vA r0 :: S) h Q ↔ (zw S ≤ 8 ∧ WP 77 0 0 [vA r0, vA r1] [] h (zret 12 0 216 219 L S Q)) := wp_S rfl rfl (zcan_of rfl rfl) rfl rfl rfl
theorem s12_219 : WP 12 0 219 L (vA r1 :: vA r0 :: S) h Q ↔ (zw S ≤ 8 ∧ WP 0 0 0 [vA r0, vA r1] [] h (zret 12 0 219 222 L S Q)) := wp_S rfl rfl (zcan_of rfl rfl) rfl rfl rfl
theorem s12_222 : WP 12 0 222 [a0, a1, a2, a3, a4, a5, a6, vI x] S h Q ↔ WP 12 0 225 [a0, a1, a2, a3, a4, a5, a6, vI (wr (x + 1))] S h Q := wp_iinc rfl rfl rfl
theorem s12_225 : WP 12 0 225 L S h Q ↔ WP 12 0 172 L S h Q := wp_pl rfl rfl rfl
theorem s12_228 : WP 12 0 228 [a0, a1, a2, a3, a4, vI x, a6, a7] S h Q ↔ WP 12 0 231 [a0, a1, a2, a3, a4, vI (wr (x + 1)), a6, a7] S h Q := wp_iinc rfl rfl rfl
theorem s12_231 : WP 12 0 231 L S h Q ↔ WP 12 0 137 L S h Q := wp_pl rfl rfl rfl
theorem s12_234 : WP 12 0 234 L S h Q ↔ WP 12 0 235 L (vI 1 :: S) h Q := wp_pl rfl rfl rfl
theorem s12_235 : WP 12 0 235 L [vI x] h Q ↔ ((x = 0 ∨ x = 1) ∧ Q (.inl (some (vI x))) h) := wp_iret rfl rfl
/-! RepeatFree.count(I)I -/
theorem s13_0 : WP 13 0 0 [vA r, a1, a2] S h Q ↔ WP 13 0 1 [vA r, a1, a2] (vA r :: S) h Q := wp_aload rfl rfl
theorem s13_1 : WP 13 0 1 L (vA (some a) :: S) h Q ↔ (zhas 4 (hk h a) = true ∧ WP 13 0 4 L (hm h a 4 :: S) h Q) := wp_if rfl rfl rfl
theorem s13_4 : WP 13 0 4 L (vA (some a) :: S) h Q ↔ (zhas 13 (hk h a) = true ∧ WP 13 0 7 L (hm h a 13 :: S) h Q) := wp_if rfl rfl rfl
theorem s13_7 : WP 13 0 7 [a0, a1, a2] (vA r :: S) h Q ↔ WP 13 0 8 [a0, a1, vA r] S h Q := wp_astore rfl rfl rfl
theorem s13_8 : WP 13 0 8 [a0, vI x, a2] S h Q ↔ WP 13 0 9 [a0, vI x, a2] (vI x :: S) h Q := wp_iload rfl rfl
theorem s13_9 : WP 13 0 9 L (vI x :: S) h Q ↔ WP 13 0 (if 8 < x then 151 else zsw x 0 151 [60, 68, 79, 90, 96, 104, 112, 125, 138]) L S h Q := wp_pl rfl rfl rfl
theorem s13_60 : WP 13 0 60 [vA r, a1, a2] S h Q ↔ WP 13 0 61 [vA r, a1, a2] (vA r :: S) h Q := wp_aload rfl rfl
theorem s13_61 : WP 13 0 61 L (vA (some a) :: S) h Q ↔ (zhas 4 (hk h a) = true ∧ WP 13 0 64 L (hm h a 4 :: S) h Q) := wp_if rfl rfl rfl
theorem s13_64 : WP 13 0 64 L (vA (some a) :: S) h Q ↔ (zhas 12 (hk h a) = true ∧ WP 13 0 67 L (hm h a 12 :: S) h Q) := wp_if rfl rfl rfl
theorem s13_67 : WP 13 0 67 L [vI x] h Q ↔ Q (.inl (some (vI x))) h := wp_iret0 rfl rfl
theorem s13_68 : WP 13 0 68 [vA r, a1, a2] S h Q ↔ WP 13 0 69 [vA r, a1, a2] (vA r :: S) h Q := wp_aload rfl rfl
theorem s13_69 : WP 13 0 69 L (vA (some a) :: S) h Q ↔ (zhas 4 (hk h a) = true ∧ WP 13 0 72 L (hm h a 4 :: S) h Q) := wp_if rfl rfl rfl
theorem s13_72 : WP 13 0 72 L (vA (some a) :: S) h Q ↔ (zhas 10 (hk h a) = true ∧ WP 13 0 75 L (hm h a 10 :: S) h Q) := wp_if rfl rfl rfl
theorem s13_75 : WP 13 0 75 L (vA (some a) :: S) h Q ↔ ((hk h a).1 = 111 ∧ (zw S ≤ 8 ∧ WP 270 0 0 [vA (some a)] [] h (zret 13 0 75 78 L S Q))) := wp_V1 (c := 111) rfl rfl (fun _ => rfl) rfl rfl (zcan_of rfl rfl) rfl rfl rfl
theorem s13_78 : WP 13 0 78 L [vI x] h Q ↔ Q (.inl (some (vI x))) h := wp_iret0 rfl rfl
theorem s13_79 : WP 13 0 79 [vA r, a1, a2] S h Q ↔ WP 13 0 80 [vA r, a1, a2] (vA r :: S) h Q := wp_aload rfl rfl
theorem s13_80 : WP 13 0 80 L (vA (some a) :: S) h Q ↔ (zhas 4 (hk h a) = true ∧ WP 13 0 83 L (hm h a 4 :: S) h Q) := wp_if rfl rfl rfl
theorem s13_83 : WP 13 0 83 L (vA (some a) :: S) h Q ↔ (zhas 11 (hk h a) = true ∧ WP 13 0 86 L (hm h a 11 :: S) h Q) := wp_if rfl rfl rfl
theorem s13_86 : WP 13 0 86 L (vA (some a) :: S) h Q ↔ ((hk h a).1 = 111 ∧ (zw S ≤ 8 ∧ WP 270 0 0 [vA (some a)] [] h (zret 13 0 86 89 L S Q))) := wp_V1 (c := 111) rfl rfl (fun _ => rfl) rfl rfl (zcan_of rfl rfl) rfl rfl rfl
theorem s13_89 : WP 13 0 89 L [vI x] h Q ↔ Q (.inl (some (vI x))) h := wp_iret0 rfl rfl
theorem s13_90 : WP 13 0 90 [vA r, a1, a2] S h Q ↔ WP 13 0 91 [vA r, a1, a2] (vA r :: S) h Q := wp_aload rfl rfl
theorem s13_91 : WP 13 0 91 L (vA (some a) :: S) h Q ↔ (zhas 5 (hk h a) = true ∧ WP 13 0 94 L (hm h a 5 :: S) h Q) := wp_if rfl rfl rfl
theorem s13_94 : WP 13 0 94 L (vA (some a) :: S) h Q ↔ ((1 ≤ (hk h a).1 ∧ (hk h a).1 ≤ 7) ∧ WP 13 0 95 L (vI ((hk h a).2 : Int) :: S) h Q) := wp_if rfl rfl rfl
theorem s13_95 : WP 13 0 95 L [vI x] h Q ↔ Q (.inl (some (vI x))) h := wp_iret0 rfl rfl
theorem s13_96 : WP 13 0 96 [vA r, a1, a2] S h Q ↔ WP 13 0 97 [vA r, a1, a2] (vA r :: S) h Q := wp_aload rfl rfl
theorem s13_97 : WP 13 0 97 L (vA (some a) :: S) h Q ↔ (zhas 6 (hk h a) = true ∧ WP 13 0 100 L (hm h a 6 :: S) h Q) := wp_if rfl rfl rfl
theorem s13_100 : WP 13 0 100 L (vA (some a) :: S) h Q ↔ (zhas 15 (hk h a) = true ∧ WP 13 0 103 L (hm h a 15 :: S) h Q) := wp_if rfl rfl rfl
theorem s13_103 : WP 13 0 103 L [vI x] h Q ↔ Q (.inl (some (vI x))) h := wp_iret0 rfl rfl
theorem s13_104 : WP 13 0 104 [vA r, a1, a2] S h Q ↔ WP 13 0 105 [vA r, a1, a2] (vA r :: S) h Q := wp_aload rfl rfl
theorem s13_105 : WP 13 0 105 L (vA (some a) :: S) h Q ↔ (zhas 7 (hk h a) = true ∧ WP 13 0 108 L (hm h a 7 :: S) h Q) := wp_if rfl rfl rfl
theorem s13_108 : WP 13 0 108 L (vA (some a) :: S) h Q ↔ ((hk h a).1 = 114 ∧ (zw S ≤ 8 ∧ WP 291 0 0 [vA (some a)] [] h (zret 13 0 108 111 L S Q))) := wp_V1 (c := 114) rfl rfl (fun _ => rfl) rfl rfl (zcan_of rfl rfl) rfl rfl rfl
theorem s13_111 : WP 13 0 111 L [vI x] h Q ↔ Q (.inl (some (vI x))) h := wp_iret0 rfl rfl
theorem s13_112 : WP 13 0 112 [a0, a1, vA r] S h Q ↔ WP 13 0 113 [a0, a1, vA r] (vA r :: S) h Q := wp_aload rfl rfl
theorem s13_113n : WP 13 0 113 L (vA none :: S) h Q ↔ WP 13 0 116 L S h Q := wp_pl rfl rfl rfl
theorem s13_113 : WP 13 0 113 L (vA (some a) :: S) h Q ↔ (3 ≤ a ∧ WP 13 0 120 L S h Q) := wp_if rfl rfl rfl
theorem s13_116 : WP 13 0 116 L S h Q ↔ WP 13 0 117 L (vI 0 :: S) h Q := wp_pl rfl rfl rfl
theorem s13_117 : WP 13 0 117 L S h Q ↔ WP 13 0 124 L S h Q := wp_pl rfl rfl rfl
theorem s13_120 : WP 13 0 120 [a0, a1, vA r] S h Q ↔ WP 13 0 121 [a0, a1, vA r] (vA r :: S) h Q := wp_aload rfl rfl
theorem s13_121 : WP 13 0 121 L (vA (some a) :: S) h Q ↔ (zhas 17 (hk h a) = true ∧ WP 13 0 124 L (hm h a 17 :: S) h Q) := wp_if rfl rfl rfl
theorem s13_124 : WP 13 0 124 L [vI x] h Q ↔ Q (.inl (some (vI x))) h := wp_iret0 rfl rfl
theorem s13_125 : WP 13 0 125 [a0, a1, vA r] S h Q ↔ WP 13 0 126 [a0, a1, vA r] (vA r :: S) h Q := wp_aload rfl rfl
theorem s13_126n : WP 13 0 126 L (vA none :: S) h Q ↔ WP 13 0 129 L S h Q := wp_pl rfl rfl rfl
theorem s13_126 : WP 13 0 126 L (vA (some a) :: S) h Q ↔ (3 ≤ a ∧ WP 13 0 133 L S h Q) := wp_if rfl rfl rfl
theorem s13_129 : WP 13 0 129 L S h Q ↔ WP 13 0 130 L (vI 0 :: S) h Q := wp_pl rfl rfl rfl
theorem s13_130 : WP 13 0 130 L S h Q ↔ WP 13 0 137 L S h Q := wp_pl rfl rfl rfl
theorem s13_133 : WP 13 0 133 [a0, a1, vA r] S h Q ↔ WP 13 0 134 [a0, a1, vA r] (vA r :: S) h Q := wp_aload rfl rfl
theorem s13_134 : WP 13 0 134 L (vA (some a) :: S) h Q ↔ (zhas 18 (hk h a) = true ∧ WP 13 0 137 L (hm h a 18 :: S) h Q) := wp_if rfl rfl rfl
theorem s13_137 : WP 13 0 137 L [vI x] h Q ↔ Q (.inl (some (vI x))) h := wp_iret0 rfl rfl
theorem s13_138 : WP 13 0 138 [a0, a1, vA r] S h Q ↔ WP 13 0 139 [a0, a1, vA r] (vA r :: S) h Q := wp_aload rfl rfl
theorem s13_139n : WP 13 0 139 L (vA none :: S) h Q ↔ WP 13 0 142 L S h Q := wp_pl rfl rfl rfl
theorem s13_139 : WP 13 0 139 L (vA (some a) :: S) h Q ↔ (3 ≤ a ∧ WP 13 0 146 L S h Q) := wp_if rfl rfl rfl
theorem s13_142 : WP 13 0 142 L S h Q ↔ WP 13 0 143 L (vI 0 :: S) h Q := wp_pl rfl rfl rfl
theorem s13_143 : WP 13 0 143 L S h Q ↔ WP 13 0 150 L S h Q := wp_pl rfl rfl rfl
theorem s13_146 : WP 13 0 146 [a0, a1, vA r] S h Q ↔ WP 13 0 147 [a0, a1, vA r] (vA r :: S) h Q := wp_aload rfl rfl
theorem s13_147 : WP 13 0 147 L (vA (some a) :: S) h Q ↔ (zhas 16 (hk h a) = true ∧ WP 13 0 150 L (hm h a 16 :: S) h Q) := wp_if rfl rfl rfl
theorem s13_150 : WP 13 0 150 L [vI x] h Q ↔ Q (.inl (some (vI x))) h := wp_iret0 rfl rfl
theorem s13_151 : WP 13 0 151 L S h Q ↔ WP 13 0 152 L (vI (-1) :: S) h Q := wp_pl rfl rfl rfl
theorem s13_152 : WP 13 0 152 L [vI x] h Q ↔ Q (.inl (some (vI x))) h := wp_iret0 rfl rfl
/-! RepeatFree.counts(LRepeatFree$Mapping;II)[J -/
theorem s14_0 : WP 14 0 0 L S h Q ↔ WP 14 0 1 L (vI 4 :: S) h Q := wp_pl rfl rfl rfl
theorem s14_1 : WP 14 0 1 L (vI x :: S) h Q ↔ ((0 ≤ x ∧ x ≤ 1000000) ∧ WP 14 0 3 L (vA (some (hn h)) :: S) (hnew h (4, x.toNat) x.toNat (fun _ => vL 0)) Q) := wp_if rfl rfl rfl
theorem s14_3 : WP 14 0 3 [a0, a1, a2, a3, a4, a5, a6, a7, a8, a9] (vA r :: S) h Q ↔ WP 14 0 5 [a0, a1, a2, a3, vA r, a5, a6, a7, a8, a9] S h Q := wp_astore rfl rfl rfl
theorem s14_5 : WP 14 0 5 [a0, a1, a2, a3, vA r, a5, a6, a7, a8, a9] S h Q ↔ WP 14 0 7 [a0, a1, a2, a3, vA r, a5, a6, a7, a8, a9] (vA r :: S) h Q := wp_aload rfl rfl
theorem s14_7 : WP 14 0 7 [a0, a1, vI x, a3, a4, a5, a6, a7, a8, a9] S h Q ↔ WP 14 0 8 [a0, a1, vI x, a3, a4, a5, a6, a7, a8, a9] (vI x :: S) h Q := wp_iload rfl rfl
theorem s14_8 : WP 14 0 8 L S h Q ↔ WP 14 0 9 L (vL 1 :: S) h Q := wp_pl rfl rfl rfl
theorem s14_9 : WP 14 0 9 L (vL y :: vI x :: vA (some a) :: S) h Q ↔ (((hk h a).1 = 4 ∧ (0 ≤ x ∧ x < ((hk h a).2 : Int)) ∧ zNC ≤ a) ∧ WP 14 0 10 L S (hput h a x.toNat (vL y)) Q) := wp_if rfl rfl rfl
theorem s14_10 : WP 14 0 10 L S h Q ↔ WP 14 0 11 L (vI 0 :: S) h Q := wp_pl rfl rfl rfl
theorem s14_11 : WP 14 0 11 [a0, a1, a2, a3, a4, a5, a6, a7, a8, a9] (vI x :: S) h Q ↔ WP 14 0 13 [a0, a1, a2, a3, a4, vI x, a6, a7, a8, a9] S h Q := wp_istore rfl rfl rfl
theorem s14_13 : WP 14 0 13 [a0, a1, a2, a3, a4, vI x, a6, a7, a8, a9] S h Q ↔ WP 14 0 15 [a0, a1, a2, a3, a4, vI x, a6, a7, a8, a9] (vI x :: S) h Q := wp_iload rfl rfl
theorem s14_15 : WP 14 0 15 [a0, a1, a2, vI x, a4, a5, a6, a7, a8, a9] S h Q ↔ WP 14 0 16 [a0, a1, a2, vI x, a4, a5, a6, a7, a8, a9] (vI x :: S) h Q := wp_iload rfl rfl
theorem s14_16 : WP 14 0 16 L (vI y :: vI x :: S) h Q ↔ zif (x < y) (WP 14 0 19 L S h Q) (WP 14 0 97 L S h Q) := wp_bN zc_lt rfl rfl rfl
theorem s14_19 : WP 14 0 19 L S h Q ↔ WP 14 0 20 L (vI 4 :: S) h Q := wp_pl rfl rfl rfl
theorem s14_20 : WP 14 0 20 L (vI x :: S) h Q ↔ ((0 ≤ x ∧ x ≤ 1000000) ∧ WP 14 0 22 L (vA (some (hn h)) :: S) (hnew h (4, x.toNat) x.toNat (fun _ => vL 0)) Q) := wp_if rfl rfl rfl
theorem s14_22 : WP 14 0 22 [a0, a1, a2, a3, a4, a5, a6, a7, a8, a9] (vA r :: S) h Q ↔ WP 14 0 24 [a0, a1, a2, a3, a4, a5, vA r, a7, a8, a9] S h Q := wp_astore rfl rfl rfl
theorem s14_24 : WP 14 0 24 L S h Q ↔ WP 14 0 25 L (vI 0 :: S) h Q := wp_pl rfl rfl rfl
theorem s14_25 : WP 14 0 25 [a0, a1, a2, a3, a4, a5, a6, a7, a8, a9] (vI x :: S) h Q ↔ WP 14 0 27 [a0, a1, a2, a3, a4, a5, a6, vI x, a8, a9] S h Q := wp_istore rfl rfl rfl
theorem s14_27 : WP 14 0 27 [a0, a1, a2, a3, a4, a5, a6, vI x, a8, a9] S h Q ↔ WP 14 0 29 [a0, a1, a2, a3, a4, a5, a6, vI x, a8, a9] (vI x :: S) h Q := wp_iload rfl rfl
theorem s14_29 : WP 14 0 29 [vA r, a1, a2, a3, a4, a5, a6, a7, a8, a9] S h Q ↔ WP 14 0 30 [vA r, a1, a2, a3, a4, a5, a6, a7, a8, a9] (vA r :: S) h Q := wp_aload rfl rfl
theorem s14_30 : WP 14 0 30 L (vA (some a) :: S) h Q ↔ (zhas 4 (hk h a) = true ∧ WP 14 0 33 L (hm h a 4 :: S) h Q) := wp_if rfl rfl rfl
theorem s14_33 : WP 14 0 33 L (vA (some a) :: S) h Q ↔ (zhas 12 (hk h a) = true ∧ WP 14 0 36 L (hm h a 12 :: S) h Q) := wp_if rfl rfl rfl
theorem s14_36 : WP 14 0 36 L (vI y :: vI x :: S) h Q ↔ zif (x < y) (WP 14 0 39 L S h Q) (WP 14 0 87 L S h Q) := wp_bN zc_lt rfl rfl rfl
theorem s14_39 : WP 14 0 39 [a0, vA r, a2, a3, a4, a5, a6, a7, a8, a9] S h Q ↔ WP 14 0 40 [a0, vA r, a2, a3, a4, a5, a6, a7, a8, a9] (vA r :: S) h Q := wp_aload rfl rfl
theorem s14_40 : WP 14 0 40 [a0, a1, a2, a3, a4, a5, a6, vI x, a8, a9] S h Q ↔ WP 14 0 42 [a0, a1, a2, a3, a4, a5, a6, vI x, a8, a9] (vI x :: S) h Q := wp_iload rfl rfl
theorem s14_42 : WP 14 0 42 L (vI x0 :: vA (some a) :: S) h Q ↔ ((hk h a).1 = 104 ∧ (zw S ≤ 8 ∧ WP 105 0 0 [vA (some a), vI x0, vJ, vJ, vJ, vJ, vJ] [] h (zret 14 0 42 45 L S Q))) := wp_V1 (c := 104) rfl rfl (fun _ => rfl) rfl rfl (zcan_of rfl rfl) rfl rfl rfl
theorem s14_45 : WP 14 0 45 [a0, a1, a2, a3, a4, a5, a6, a7, a8, a9] (vA r :: S) h Q ↔ WP 14 0 47 [a0, a1, a2, a3, a4, a5, a6, a7, vA r, a9] S h Q := wp_astore rfl rfl rfl
theorem s14_47 : WP 14 0 47 L S h Q ↔ WP 14 0 48 L (vI 0 :: S) h Q := wp_pl rfl rfl rfl
theorem s14_48 : WP 14 0 48 [a0, a1, a2, a3, a4, a5, a6, a7, a8, a9] (vI x :: S) h Q ↔ WP 14 0 50 [a0, a1, a2, a3, a4, a5, a6, a7, a8, vI x] S h Q := wp_istore rfl rfl rfl
theorem s14_50 : WP 14 0 50 [a0, a1, a2, a3, a4, a5, a6, a7, a8, vI x] S h Q ↔ WP 14 0 52 [a0, a1, a2, a3, a4, a5, a6, a7, a8, vI x] (vI x :: S) h Q := wp_iload rfl rfl
theorem s14_52 : WP 14 0 52 L S h Q ↔ WP 14 0 53 L (vI 4 :: S) h Q := wp_pl rfl rfl rfl
theorem s14_53 : WP 14 0 53 L (vI y :: vI x :: S) h Q ↔ zif (x < y) (WP 14 0 56 L S h Q) (WP 14 0 81 L S h Q) := wp_bN zc_lt rfl rfl rfl
theorem s14_56 : WP 14 0 56 [a0, a1, a2, a3, a4, a5, vA r, a7, a8, a9] S h Q ↔ WP 14 0 58 [a0, a1, a2, a3, a4, a5, vA r, a7, a8, a9] (vA r :: S) h Q := wp_aload rfl rfl
theorem s14_58 : WP 14 0 58 [a0, a1, a2, a3, a4, a5, a6, a7, a8, vI x] S h Q ↔ WP 14 0 60 [a0, a1, a2, a3, a4, a5, a6, a7, a8, vI x] (vI x :: S) h Q := wp_iload rfl rfl
theorem s14_60 : WP 14 0 60 L (vI y :: vA r :: S) h Q ↔ WP 14 0 61 L (vI y :: vA r :: vI y :: vA r :: S) h Q := wp_pl rfl rfl rfl
theorem s14_60l : WP 14 0 60 L (vL x :: S) h Q ↔ WP 14 0 61 L (vL x :: vL x :: S) h Q := wp_pl rfl rfl rfl
theorem s14_61 : WP 14 0 61 L (vI x :: vA (some a) :: S) h Q ↔ (((hk h a).1 = 4 ∧ 0 ≤ x ∧ x < ((hk h a).2 : Int)) ∧ WP 14 0 62 L (hm h a x.toNat :: S) h Q) := wp_if rfl rfl rfl
theorem s14_62 : WP 14 0 62 [a0, a1, a2, a3, vA r, a5, a6, a7, a8, a9] S h Q ↔ WP 14 0 64 [a0, a1, a2, a3, vA r, a5, a6, a7, a8, a9] (vA r :: S) h Q := wp_aload rfl rfl
theorem s14_64 : WP 14 0 64 [a0, a1, a2, a3, a4, a5, a6, vI x, a8, a9] S h Q ↔ WP 14 0 66 [a0, a1, a2, a3, a4, a5, a6, vI x, a8, a9] (vI x :: S) h Q := wp_iload rfl rfl
theorem s14_66 : WP 14 0 66 L (vI x :: vA (some a) :: S) h Q ↔ (((hk h a).1 = 4 ∧ 0 ≤ x ∧ x < ((hk h a).2 : Int)) ∧ WP 14 0 67 L (hm h a x.toNat :: S) h Q) := wp_if rfl rfl rfl
theorem s14_67 : WP 14 0 67 [a0, a1, a2, a3, a4, a5, a6, a7, vA r, a9] S h Q ↔ WP 14 0 69 [a0, a1, a2, a3, a4, a5, a6, a7, vA r, a9] (vA r :: S) h Q := wp_aload rfl rfl
theorem s14_69 : WP 14 0 69 [a0, a1, a2, a3, a4, a5, a6, a7, a8, vI x] S h Q ↔ WP 14 0 71 [a0, a1, a2, a3, a4, a5, a6, a7, a8, vI x] (vI x :: S) h Q := wp_iload rfl rfl
theorem s14_71 : WP 14 0 71 L (vI x :: vA (some a) :: S) h Q ↔ (((hk h a).1 = 4 ∧ 0 ≤ x ∧ x < ((hk h a).2 : Int)) ∧ WP 14 0 72 L (hm h a x.toNat :: S) h Q) := wp_if rfl rfl rfl
theorem s14_72 : WP 14 0 72 L (vL y :: vL x :: S) h Q ↔ WP 14 0 73 L (vL (wl (x * y)) :: S) h Q := wp_pl rfl rfl rfl
theorem s14_73 : WP 14 0 73 L (vL y :: vL x :: S) h Q ↔ WP 14 0 74 L (vL (wl (x + y)) :: S) h Q := wp_pl rfl rfl rfl
theorem s14_74 : WP 14 0 74 L (vL y :: vI x :: vA (some a) :: S) h Q ↔ (((hk h a).1 = 4 ∧ (0 ≤ x ∧ x < ((hk h a).2 : Int)) ∧ zNC ≤ a) ∧ WP 14 0 75 L S (hput h a x.toNat (vL y)) Q) := wp_if rfl rfl rfl
theorem s14_75 : WP 14 0 75 [a0, a1, a2, a3, a4, a5, a6, a7, a8, vI x] S h Q ↔ WP 14 0 78 [a0, a1, a2, a3, a4, a5, a6, a7, a8, vI (wr (x + 1))] S h Q := wp_iinc rfl rfl rfl
theorem s14_78 : WP 14 0 78 L S h Q ↔ WP 14 0 50 L S h Q := wp_pl rfl rfl rfl
theorem s14_81 : WP 14 0 81 [a0, a1, a2, a3, a4, a5, a6, vI x, a8, a9] S h Q ↔ WP 14 0 84 [a0, a1, a2, a3, a4, a5, a6, vI (wr (x + 1)), a8, a9] S h Q := wp_iinc rfl rfl rfl
theorem s14_84 : WP 14 0 84 L S h Q ↔ WP 14 0 27 L S h Q := wp_pl rfl rfl rfl
theorem s14_87 : WP 14 0 87 [a0, a1, a2, a3, a4, a5, vA r, a7, a8, a9] S h Q ↔ WP 14 0 89 [a0, a1, a2, a3, a4, a5, vA r, a7, a8, a9] (vA r :: S) h Q := wp_aload rfl rfl
theorem s14_89 : WP 14 0 89 [a0, a1, a2, a3, a4, a5, a6, a7, a8, a9] (vA r :: S) h Q ↔ WP 14 0 91 [a0, a1, a2, a3, vA r, a5, a6, a7, a8, a9] S h Q := wp_astore rfl rfl rfl
theorem s14_91 : WP 14 0 91 [a0, a1, a2, a3, a4, vI x, a6, a7, a8, a9] S h Q ↔ WP 14 0 94 [a0, a1, a2, a3, a4, vI (wr (x + 1)), a6, a7, a8, a9] S h Q := wp_iinc rfl rfl rfl
theorem s14_94 : WP 14 0 94 L S h Q ↔ WP 14 0 13 L S h Q := wp_pl rfl rfl rfl
theorem s14_97 : WP 14 0 97 [a0, a1, a2, a3, vA r, a5, a6, a7, a8, a9] S h Q ↔ WP 14 0 99 [a0, a1, a2, a3, vA r, a5, a6, a7, a8, a9] (vA r :: S) h Q := wp_aload rfl rfl
theorem s14_99 : WP 14 0 99 L [vA r] h Q ↔ Q (.inl (some (vA r))) h := wp_aret rfl
/-! RepeatFree.end(I)Z -/
theorem s15_0 : WP 15 0 0 [a0, vI x] S h Q ↔ WP 15 0 1 [a0, vI x] (vI x :: S) h Q := wp_iload rfl rfl
theorem s15_1 : WP 15 0 1 L (vI x :: S) h Q ↔ zif (x < 0) (WP 15 0 12 L S h Q) (WP 15 0 4 L S h Q) := wp_bE zc_lt rfl rfl rfl
theorem s15_4 : WP 15 0 4 [a0, vI x] S h Q ↔ WP 15 0 5 [a0, vI x] (vI x :: S) h Q := wp_iload rfl rfl
theorem s15_5 : WP 15 0 5 [vA r, a1] S h Q ↔ WP 15 0 6 [vA r, a1] (vA r :: S) h Q := wp_aload rfl rfl
theorem s15_6 : WP 15 0 6 L (vA (some a) :: S) h Q ↔ (zhas 2 (hk h a) = true ∧ WP 15 0 9 L (hm h a 2 :: S) h Q) := wp_if rfl rfl rfl
theorem s15_9 : WP 15 0 9 L (vI y :: vI x :: S) h Q ↔ zif (y < x) (WP 15 0 12 L S h Q) (WP 15 0 14 L S h Q) := wp_bN zc_gt rfl rfl rfl
theorem s15_12 : WP 15 0 12 L S h Q ↔ WP 15 0 13 L (vI 0 :: S) h Q := wp_pl rfl rfl rfl
theorem s15_13 : WP 15 0 13 L [vI x] h Q ↔ ((x = 0 ∨ x = 1) ∧ Q (.inl (some (vI x))) h) := wp_iret rfl rfl
theorem s15_14 : WP 15 0 14 [vA r, a1] S h Q ↔ WP 15 0 15 [vA r, a1] (vA r :: S) h Q := wp_aload rfl rfl
theorem s15_15 : WP 15 0 15 [a0, vI x] S h Q ↔ WP 15 0 16 [a0, vI x] (vI x :: S) h Q := wp_iload rfl rfl
theorem s15_16 : WP 15 0 16 L (vI x :: vA (some a) :: S) h Q ↔ ((zNC ≤ a ∧ zhas 2 (hk h a) = true) ∧ WP 15 0 19 L S (hput h a 2 (vI x)) Q) := wp_put0 rfl rfl
theorem s15_19 : WP 15 0 19 L S h Q ↔ WP 15 0 20 L (vI 1 :: S) h Q := wp_pl rfl rfl rfl
theorem s15_20 : WP 15 0 20 L [vI x] h Q ↔ ((x = 0 ∨ x = 1) ∧ Q (.inl (some (vI x))) h) := wp_iret rfl rfl
/-! RepeatFree.ends()I -/
theorem s16_0 : WP 16 0 0 [vA r] S h Q ↔ WP 16 0 1 [vA r] (vA r :: S) h Q := wp_aload rfl rfl
theorem s16_1 : WP 16 0 1 [vA r] S h Q ↔ WP 16 0 2 [vA r] (vA r :: S) h Q := wp_aload rfl rfl
theorem s16_2 : WP 16 0 2 L (vA (some a) :: S) h Q ↔ (zhas 6 (hk h a) = true ∧ WP 16 0 5 L (hm h a 6 :: S) h Q) := wp_if rfl rfl rfl
theorem s16_5 : WP 16 0 5 L (vA r0 :: vA (some a) :: S) h Q ↔ ((hk h a).1 = 100 ∧ (zw S ≤ 8 ∧ WP 17 0 0 [vA (some a), vA r0, vJ] [] h (zret 16 0 5 8 L S Q))) := wp_V1 (c := 100) rfl rfl (fun _ => rfl) rfl rfl (zcan_of rfl rfl) rfl rfl rfl
theorem s16_8 : WP 16 0 8 L [vI x] h Q ↔ Q (.inl (some (vI x))) h := wp_iret0 rfl rfl
/-! RepeatFree.endsOf(LRepeatFree$Word;)I -/
theorem s17_0 : WP 17 0 0 [vA r, a1, a2] S h Q ↔ WP 17 0 1 [vA r, a1, a2] (vA r :: S) h Q := wp_aload rfl rfl
theorem s17_1 : WP 17 0 1 L (vA (some a) :: S) h Q ↔ (zhas 8 (hk h a) = true ∧ WP 17 0 4 L (hm h a 8 :: S) h Q) := wp_if rfl rfl rfl
theorem s17_4 : WP 17 0 4 L S h Q ↔ WP 17 0 5 L (vI 0 :: S) h Q := wp_pl rfl rfl rfl
theorem s17_5 : WP 17 0 5 L (vI x :: vA (some a) :: S) h Q ↔ ((zNC ≤ a ∧ zhas 15 (hk h a) = true) ∧ WP 17 0 8 L S (hput h a 15 (vI x)) Q) := wp_put0 rfl rfl
theorem s17_8 : WP 17 0 8 L S h Q ↔ WP 17 0 9 L (vI 0 :: S) h Q := wp_pl rfl rfl rfl
theorem s17_9 : WP 17 0 9 [a0, a1, a2] (vI x :: S) h Q ↔ WP 17 0 10 [a0, a1, vI x] S h Q := wp_istore rfl rfl rfl
theorem s17_10 : WP 17 0 10 [a0, a1, vI x] S h Q ↔ WP 17 0 11 [a0, a1, vI x] (vI x :: S) h Q := wp_iload rfl rfl
theorem s17_11 : WP 17 0 11 [a0, vA r, a2] S h Q ↔ WP 17 0 12 [a0, vA r, a2] (vA r :: S) h Q := wp_aload rfl rfl
theorem s17_12 : WP 17 0 12 L (vA (some a) :: S) h Q ↔ (zhas 15 (hk h a) = true ∧ WP 17 0 15 L (hm h a 15 :: S) h Q) := wp_if rfl rfl rfl
theorem s17_15 : WP 17 0 15 L (vI y :: vI x :: S) h Q ↔ zif (x < y) (WP 17 0 18 L S h Q) (WP 17 0 50 L S h Q) := wp_bN zc_lt rfl rfl rfl
theorem s17_18 : WP 17 0 18 [vA r, a1, a2] S h Q ↔ WP 17 0 19 [vA r, a1, a2] (vA r :: S) h Q := wp_aload rfl rfl
theorem s17_19 : WP 17 0 19 L (vA (some a) :: S) h Q ↔ (zhas 8 (hk h a) = true ∧ WP 17 0 22 L (hm h a 8 :: S) h Q) := wp_if rfl rfl rfl
theorem s17_22 : WP 17 0 22 [a0, vA r, a2] S h Q ↔ WP 17 0 23 [a0, vA r, a2] (vA r :: S) h Q := wp_aload rfl rfl
theorem s17_23 : WP 17 0 23 L (vA (some a) :: S) h Q ↔ (zhas 14 (hk h a) = true ∧ WP 17 0 26 L (hm h a 14 :: S) h Q) := wp_if rfl rfl rfl
theorem s17_26 : WP 17 0 26 [a0, a1, vI x] S h Q ↔ WP 17 0 27 [a0, a1, vI x] (vI x :: S) h Q := wp_iload rfl rfl
theorem s17_27 : WP 17 0 27 L (vI x :: vA (some a) :: S) h Q ↔ ((((hk h a).1 = 2 ∨ (hk h a).1 = 3) ∧ 0 ≤ x ∧ x < ((hk h a).2 : Int)) ∧ WP 17 0 28 L (hm h a x.toNat :: S) h Q) := wp_if rfl rfl rfl
theorem s17_28 : WP 17 0 28 L (vI x0 :: vA (some a) :: S) h Q ↔ ((hk h a).1 = 102 ∧ (zw S ≤ 8 ∧ WP 97 0 0 [vA (some a), vI x0] [] h (zret 17 0 28 31 L S Q))) := wp_V1 (c := 102) rfl rfl (fun _ => rfl) rfl rfl (zcan_of rfl rfl) rfl rfl rfl
theorem s17_31 : WP 17 0 31 [vA r, a1, a2] S h Q ↔ WP 17 0 32 [vA r, a1, a2] (vA r :: S) h Q := wp_aload rfl rfl
theorem s17_32 : WP 17 0 32 [vA r, a1, a2] S h Q ↔ WP 17 0 33 [vA r, a1, a2] (vA r :: S) h Q := wp_aload rfl rfl
theorem s17_33 : WP 17 0 33 L (vA (some a) :: S) h Q ↔ (zhas 8 (hk h a) = true ∧ WP 17 0 36 L (hm h a 8 :: S) h Q) := wp_if rfl rfl rfl
theorem s17_36 : WP 17 0 36 L (vA r0 :: vA (some a) :: S) h Q ↔ ((hk h a).1 = 100 ∧ (zw S ≤ 8 ∧ WP 37 0 0 [vA (some a), vA r0, vJ] [] h (zret 17 0 36 39 L S Q))) := wp_V1 (c := 100) rfl rfl (fun _ => rfl) rfl rfl (zcan_of rfl rfl) rfl rfl rfl
theorem s17_39 : WP 17 0 39 L (vI x :: S) h Q ↔ zif (x = 0) (WP 17 0 42 L S h Q) (WP 17 0 44 L S h Q) := wp_bN zc_eq rfl rfl rfl
theorem s17_42 : WP 17 0 42 [a0, a1, vI x] S h Q ↔ WP 17 0 43 [a0, a1, vI x] (vI x :: S) h Q := wp_iload rfl rfl
theorem s17_43 : WP 17 0 43 L [vI x] h Q ↔ Q (.inl (some (vI x))) h := wp_iret0 rfl rfl
theorem s17_44 : WP 17 0 44 [a0, a1, vI x] S h Q ↔ WP 17 0 47 [a0, a1, vI (wr (x + 1))] S h Q := wp_iinc rfl rfl rfl
theorem s17_47 : WP 17 0 47 L S h Q ↔ WP 17 0 10 L S h Q := wp_pl rfl rfl rfl
theorem s17_50 : WP 17 0 50 L S h Q ↔ WP 17 0 51 L (vI (-1) :: S) h Q := wp_pl rfl rfl rfl
theorem s17_51 : WP 17 0 51 L [vI x] h Q ↔ Q (.inl (some (vI x))) h := wp_iret0 rfl rfl
/-! RepeatFree.factors(I)I -/
theorem s18_0 : WP 18 0 0 [a0, vI x, a2, a3, a4, a5] S h Q ↔ WP 18 0 1 [a0, vI x, a2, a3, a4, a5] (vI x :: S) h Q := wp_iload rfl rfl
theorem s18_1 : WP 18 0 1 L (vI x :: S) h Q ↔ WP 18 0 2 L (vL x :: S) h Q := wp_pl rfl rfl rfl
theorem s18_2 : WP 18 0 2 L S h Q ↔ WP 18 0 3 L (vL 1 :: S) h Q := wp_pl rfl rfl rfl
theorem s18_3 : WP 18 0 3 L S h Q ↔ WP 18 0 6 L (vL (64) :: S) h Q := wp_pl rfl rfl rfl
theorem s18_6 : WP 18 0 6 L (vL x2 :: vL x1 :: vL x0 :: S) h Q ↔ (zw S ≤ 8 ∧ WP 38 0 0 [vL x0, vJ, vL x1, vJ, vL x2, vJ] [] h (zret 18 0 6 9 L S Q)) := wp_S rfl rfl (zcan_of rfl rfl) rfl rfl rfl
theorem s18_9 : WP 18 0 9 L (vI x0 :: S) h Q ↔ (zw S ≤ 8 ∧ WP 62 0 0 [vI x0] [] h (zret 18 0 9 12 L S Q)) := wp_S rfl rfl (zcan_of rfl rfl) rfl rfl rfl
theorem s18_12 : WP 18 0 12 L S h Q ↔ WP 18 0 13 L (vI 0 :: S) h Q := wp_pl rfl rfl rfl
theorem s18_13 : WP 18 0 13 [a0, a1, a2, a3, a4, a5] (vI x :: S) h Q ↔ WP 18 0 14 [a0, a1, vI x, a3, a4, a5] S h Q := wp_istore rfl rfl rfl
theorem s18_14 : WP 18 0 14 L S h Q ↔ WP 18 0 15 L (vI 0 :: S) h Q := wp_pl rfl rfl rfl
theorem s18_15 : WP 18 0 15 [a0, a1, a2, a3, a4, a5] (vI x :: S) h Q ↔ WP 18 0 16 [a0, a1, a2, vI x, a4, a5] S h Q := wp_istore rfl rfl rfl
theorem s18_16 : WP 18 0 16 [a0, a1, a2, vI x, a4, a5] S h Q ↔ WP 18 0 17 [a0, a1, a2, vI x, a4, a5] (vI x :: S) h Q := wp_iload rfl rfl
theorem s18_17 : WP 18 0 17 [a0, vI x, a2, a3, a4, a5] S h Q ↔ WP 18 0 18 [a0, vI x, a2, a3, a4, a5] (vI x :: S) h Q := wp_iload rfl rfl
theorem s18_18 : WP 18 0 18 L (vI y :: vI x :: S) h Q ↔ WP 18 0 19 L (vI (wr (x + y)) :: S) h Q := wp_pl rfl rfl rfl
theorem s18_19 : WP 18 0 19 [vA r, a1, a2, a3, a4, a5] S h Q ↔ WP 18 0 20 [vA r, a1, a2, a3, a4, a5] (vA r :: S) h Q := wp_aload rfl rfl
theorem s18_20 : WP 18 0 20 L (vA (some a) :: S) h Q ↔ (zhas 6 (hk h a) = true ∧ WP 18 0 23 L (hm h a 6 :: S) h Q) := wp_if rfl rfl rfl
theorem s18_23 : WP 18 0 23 L (vA (some a) :: S) h Q ↔ (zhas 15 (hk h a) = true ∧ WP 18 0 26 L (hm h a 15 :: S) h Q) := wp_if rfl rfl rfl
theorem s18_26 : WP 18 0 26 L (vI y :: vI x :: S) h Q ↔ zif (y < x) (WP 18 0 92 L S h Q) (WP 18 0 29 L S h Q) := wp_bE zc_gt rfl rfl rfl
theorem s18_29 : WP 18 0 29 L S h Q ↔ WP 18 0 30 L (vI 1 :: S) h Q := wp_pl rfl rfl rfl
theorem s18_30 : WP 18 0 30 [a0, a1, a2, a3, a4, a5] (vI x :: S) h Q ↔ WP 18 0 32 [a0, a1, a2, a3, vI x, a5] S h Q := wp_istore rfl rfl rfl
theorem s18_32 : WP 18 0 32 L S h Q ↔ WP 18 0 33 L (vI 0 :: S) h Q := wp_pl rfl rfl rfl
theorem s18_33 : WP 18 0 33 [a0, a1, a2, a3, a4, a5] (vI x :: S) h Q ↔ WP 18 0 35 [a0, a1, a2, a3, a4, vI x] S h Q := wp_istore rfl rfl rfl
theorem s18_35 : WP 18 0 35 [a0, a1, a2, a3, a4, vI x] S h Q ↔ WP 18 0 37 [a0, a1, a2, a3, a4, vI x] (vI x :: S) h Q := wp_iload rfl rfl
theorem s18_37 : WP 18 0 37 [a0, a1, a2, vI x, a4, a5] S h Q ↔ WP 18 0 38 [a0, a1, a2, vI x, a4, a5] (vI x :: S) h Q := wp_iload rfl rfl
theorem s18_38 : WP 18 0 38 L (vI y :: vI x :: S) h Q ↔ zif (x < y) (WP 18 0 41 L S h Q) (WP 18 0 73 L S h Q) := wp_bN zc_lt rfl rfl rfl
theorem s18_41 : WP 18 0 41 [a0, a1, a2, a3, vI x, a5] S h Q ↔ WP 18 0 43 [a0, a1, a2, a3, vI x, a5] (vI x :: S) h Q := wp_iload rfl rfl
theorem s18_43 : WP 18 0 43 L (vI x :: S) h Q ↔ zif (x = 0) (WP 18 0 73 L S h Q) (WP 18 0 46 L S h Q) := wp_bE zc_eq rfl rfl rfl
theorem s18_46 : WP 18 0 46 [vA r, a1, a2, a3, a4, a5] S h Q ↔ WP 18 0 47 [vA r, a1, a2, a3, a4, a5] (vA r :: S) h Q := wp_aload rfl rfl
theorem s18_47 : WP 18 0 47 L (vA (some a) :: S) h Q ↔ (zhas 6 (hk h a) = true ∧ WP 18 0 50 L (hm h a 6 :: S) h Q) := wp_if rfl rfl rfl
theorem s18_50 : WP 18 0 50 [a0, a1, a2, a3, a4, vI x] S h Q ↔ WP 18 0 52 [a0, a1, a2, a3, a4, vI x] (vI x :: S) h Q := wp_iload rfl rfl
theorem s18_52 : WP 18 0 52 [a0, a1, a2, vI x, a4, a5] S h Q ↔ WP 18 0 53 [a0, a1, a2, vI x, a4, a5] (vI x :: S) h Q := wp_iload rfl rfl
theorem s18_53 : WP 18 0 53 [a0, vI x, a2, a3, a4, a5] S h Q ↔ WP 18 0 54 [a0, vI x, a2, a3, a4, a5] (vI x :: S) h Q := wp_iload rfl rfl
theorem s18_54 : WP 18 0 54 L (vI x2 :: vI x1 :: vI x0 :: vA (some a) :: S) h Q ↔ ((hk h a).1 = 102 ∧ (zw S ≤ 8 ∧ WP 101 0 0 [vA (some a), vI x0, vI x1, vI x2, vJ] [] h (zret 18 0 54 57 L S Q))) := wp_V1 (c := 102) rfl rfl (fun _ => rfl) rfl rfl (zcan_of rfl rfl) rfl rfl rfl
theorem s18_57 : WP 18 0 57 L (vI x :: S) h Q ↔ zif (x = 0) (WP 18 0 60 L S h Q) (WP 18 0 64 L S h Q) := wp_bN zc_eq rfl rfl rfl
theorem s18_60 : WP 18 0 60 L S h Q ↔ WP 18 0 61 L (vI 1 :: S) h Q := wp_pl rfl rfl rfl
theorem s18_61 : WP 18 0 61 L S h Q ↔ WP 18 0 65 L S h Q := wp_pl rfl rfl rfl
theorem s18_64 : WP 18 0 64 L S h Q ↔ WP 18 0 65 L (vI 0 :: S) h Q := wp_pl rfl rfl rfl
theorem s18_65 : WP 18 0 65 [a0, a1, a2, a3, a4, a5] (vI x :: S) h Q ↔ WP 18 0 67 [a0, a1, a2, a3, vI x, a5] S h Q := wp_istore rfl rfl rfl
theorem s18_67 : WP 18 0 67 [a0, a1, a2, a3, a4, vI x] S h Q ↔ WP 18 0 70 [a0, a1, a2, a3, a4, vI (wr (x + 1))] S h Q := wp_iinc rfl rfl rfl
theorem s18_70 : WP 18 0 70 L S h Q ↔ WP 18 0 35 L S h Q := wp_pl rfl rfl rfl
theorem s18_73 : WP 18 0 73 [a0, a1, vI x, a3, a4, a5] S h Q ↔ WP 18 0 74 [a0, a1, vI x, a3, a4, a5] (vI x :: S) h Q := wp_iload rfl rfl
theorem s18_74 : WP 18 0 74 [a0, a1, a2, a3, vI x, a5] S h Q ↔ WP 18 0 76 [a0, a1, a2, a3, vI x, a5] (vI x :: S) h Q := wp_iload rfl rfl
theorem s18_76 : WP 18 0 76 L (vI x :: S) h Q ↔ zif (x = 0) (WP 18 0 83 L S h Q) (WP 18 0 79 L S h Q) := wp_bE zc_eq rfl rfl rfl
theorem s18_79 : WP 18 0 79 L S h Q ↔ WP 18 0 80 L (vI 1 :: S) h Q := wp_pl rfl rfl rfl
theorem s18_80 : WP 18 0 80 L S h Q ↔ WP 18 0 84 L S h Q := wp_pl rfl rfl rfl
theorem s18_83 : WP 18 0 83 L S h Q ↔ WP 18 0 84 L (vI 0 :: S) h Q := wp_pl rfl rfl rfl
theorem s18_84 : WP 18 0 84 L (vI y :: vI x :: S) h Q ↔ WP 18 0 85 L (vI (wr (x + y)) :: S) h Q := wp_pl rfl rfl rfl
theorem s18_85 : WP 18 0 85 [a0, a1, a2, a3, a4, a5] (vI x :: S) h Q ↔ WP 18 0 86 [a0, a1, vI x, a3, a4, a5] S h Q := wp_istore rfl rfl rfl
theorem s18_86 : WP 18 0 86 [a0, a1, a2, vI x, a4, a5] S h Q ↔ WP 18 0 89 [a0, a1, a2, vI (wr (x + 1)), a4, a5] S h Q := wp_iinc rfl rfl rfl
theorem s18_89 : WP 18 0 89 L S h Q ↔ WP 18 0 16 L S h Q := wp_pl rfl rfl rfl
theorem s18_92 : WP 18 0 92 [a0, a1, vI x, a3, a4, a5] S h Q ↔ WP 18 0 93 [a0, a1, vI x, a3, a4, a5] (vI x :: S) h Q := wp_iload rfl rfl
theorem s18_93 : WP 18 0 93 L [vI x] h Q ↔ Q (.inl (some (vI x))) h := wp_iret0 rfl rfl
/-! RepeatFree.fault()I -/
theorem s19_0 : WP 19 0 0 [vA r] S h Q ↔ WP 19 0 1 [vA r] (vA r :: S) h Q := wp_aload rfl rfl
theorem s19_1 : WP 19 0 1 L (vA (some a) :: S) h Q ↔ (zhas 3 (hk h a) = true ∧ WP 19 0 4 L (hm h a 3 :: S) h Q) := wp_if rfl rfl rfl
theorem s19_4 : WP 19 0 4 L [vI x] h Q ↔ Q (.inl (some (vI x))) h := wp_iret0 rfl rfl
/-! RepeatFree.feed(IIIII)I -/
theorem s20_0 : WP 20 0 0 [vA r, a1, a2, a3, a4, a5] S h Q ↔ WP 20 0 1 [vA r, a1, a2, a3, a4, a5] (vA r :: S) h Q := wp_aload rfl rfl
theorem s20_1 : WP 20 0 1 L (vA (some a) :: S) h Q ↔ (zhas 2 (hk h a) = true ∧ WP 20 0 4 L (hm h a 2 :: S) h Q) := wp_if rfl rfl rfl
theorem s20_4 : WP 20 0 4 L S h Q ↔ WP 20 0 6 L (vI 20 :: S) h Q := wp_pl rfl rfl rfl
theorem s20_6 : WP 20 0 6 L (vI y :: vI x :: S) h Q ↔ WP 20 0 7 L (vI (wr (x + y)) :: S) h Q := wp_pl rfl rfl rfl
theorem s20_7 : WP 20 0 7 L S h Q ↔ WP 20 0 10 L (vI 400 :: S) h Q := wp_pl rfl rfl rfl
theorem s20_10 : WP 20 0 10 L (vI y :: vI x :: S) h Q ↔ zif (y < x) (WP 20 0 13 L S h Q) (WP 20 0 15 L S h Q) := wp_bN zc_gt rfl rfl rfl
theorem s20_13 : WP 20 0 13 L S h Q ↔ WP 20 0 14 L (vI (-1) :: S) h Q := wp_pl rfl rfl rfl
theorem s20_14 : WP 20 0 14 L [vI x] h Q ↔ Q (.inl (some (vI x))) h := wp_iret0 rfl rfl
theorem s20_15 : WP 20 0 15 [vA r, a1, a2, a3, a4, a5] S h Q ↔ WP 20 0 16 [vA r, a1, a2, a3, a4, a5] (vA r :: S) h Q := wp_aload rfl rfl
theorem s20_16 : WP 20 0 16 [a0, vI x, a2, a3, a4, a5] S h Q ↔ WP 20 0 17 [a0, vI x, a2, a3, a4, a5] (vI x :: S) h Q := wp_iload rfl rfl
theorem s20_17 : WP 20 0 17 L (vI x0 :: vA (some a) :: S) h Q ↔ ((hk h a).1 = 100 ∧ (zw S ≤ 8 ∧ WP 46 0 0 [vA (some a), vI x0, vJ] [] h (zret 20 0 17 20 L S Q))) := wp_V1 (c := 100) rfl rfl (fun _ => rfl) rfl rfl (zcan_of rfl rfl) rfl rfl rfl
theorem s20_20 : WP 20 0 20 [vA r, a1, a2, a3, a4, a5] S h Q ↔ WP 20 0 21 [vA r, a1, a2, a3, a4, a5] (vA r :: S) h Q := wp_aload rfl rfl
theorem s20_21 : WP 20 0 21 [a0, a1, vI x, a3, a4, a5] S h Q ↔ WP 20 0 22 [a0, a1, vI x, a3, a4, a5] (vI x :: S) h Q := wp_iload rfl rfl
theorem s20_22 : WP 20 0 22 L (vI x0 :: vA (some a) :: S) h Q ↔ ((hk h a).1 = 100 ∧ (zw S ≤ 8 ∧ WP 46 0 0 [vA (some a), vI x0, vJ] [] h (zret 20 0 22 25 L S Q))) := wp_V1 (c := 100) rfl rfl (fun _ => rfl) rfl rfl (zcan_of rfl rfl) rfl rfl rfl
theorem s20_25 : WP 20 0 25 [vA r, a1, a2, a3, a4, a5] S h Q ↔ WP 20 0 26 [vA r, a1, a2, a3, a4, a5] (vA r :: S) h Q := wp_aload rfl rfl
theorem s20_26 : WP 20 0 26 [a0, a1, a2, vI x, a4, a5] S h Q ↔ WP 20 0 27 [a0, a1, a2, vI x, a4, a5] (vI x :: S) h Q := wp_iload rfl rfl
theorem s20_27 : WP 20 0 27 L (vI x0 :: vA (some a) :: S) h Q ↔ ((hk h a).1 = 100 ∧ (zw S ≤ 8 ∧ WP 46 0 0 [vA (some a), vI x0, vJ] [] h (zret 20 0 27 30 L S Q))) := wp_V1 (c := 100) rfl rfl (fun _ => rfl) rfl rfl (zcan_of rfl rfl) rfl rfl rfl
theorem s20_30 : WP 20 0 30 [vA r, a1, a2, a3, a4, a5] S h Q ↔ WP 20 0 31 [vA r, a1, a2, a3, a4, a5] (vA r :: S) h Q := wp_aload rfl rfl
theorem s20_31 : WP 20 0 31 [a0, a1, a2, a3, vI x, a5] S h Q ↔ WP 20 0 33 [a0, a1, a2, a3, vI x, a5] (vI x :: S) h Q := wp_iload rfl rfl
theorem s20_33 : WP 20 0 33 L (vI x0 :: vA (some a) :: S) h Q ↔ ((hk h a).1 = 100 ∧ (zw S ≤ 8 ∧ WP 46 0 0 [vA (some a), vI x0, vJ] [] h (zret 20 0 33 36 L S Q))) := wp_V1 (c := 100) rfl rfl (fun _ => rfl) rfl rfl (zcan_of rfl rfl) rfl rfl rfl
theorem s20_36 : WP 20 0 36 [vA r, a1, a2, a3, a4, a5] S h Q ↔ WP 20 0 37 [vA r, a1, a2, a3, a4, a5] (vA r :: S) h Q := wp_aload rfl rfl
theorem s20_37 : WP 20 0 37 [a0, a1, a2, a3, a4, vI x] S h Q ↔ WP 20 0 39 [a0, a1, a2, a3, a4, vI x] (vI x :: S) h Q := wp_iload rfl rfl
theorem s20_39 : WP 20 0 39 L (vI x0 :: vA (some a) :: S) h Q ↔ ((hk h a).1 = 100 ∧ (zw S ≤ 8 ∧ WP 46 0 0 [vA (some a), vI x0, vJ] [] h (zret 20 0 39 42 L S Q))) := wp_V1 (c := 100) rfl rfl (fun _ => rfl) rfl rfl (zcan_of rfl rfl) rfl rfl rfl
theorem s20_42 : WP 20 0 42 [vA r, a1, a2, a3, a4, a5] S h Q ↔ WP 20 0 43 [vA r, a1, a2, a3, a4, a5] (vA r :: S) h Q := wp_aload rfl rfl
theorem s20_43 : WP 20 0 43 L (vA (some a) :: S) h Q ↔ (zhas 2 (hk h a) = true ∧ WP 20 0 46 L (hm h a 2 :: S) h Q) := wp_if rfl rfl rfl
theorem s20_46 : WP 20 0 46 L [vI x] h Q ↔ Q (.inl (some (vI x))) h := wp_iret0 rfl rfl
/-! RepeatFree.figures(LRepeatFree$Word;)I -/
theorem s21_0 : WP 21 0 0 L S h Q ↔ WP 21 0 1 L (vI 0 :: S) h Q := wp_pl rfl rfl rfl
theorem s21_1 : WP 21 0 1 [a0, a1, a2] (vI x :: S) h Q ↔ WP 21 0 2 [a0, vI x, a2] S h Q := wp_istore rfl rfl rfl
theorem s21_2 : WP 21 0 2 L S h Q ↔ WP 21 0 3 L (vI 0 :: S) h Q := wp_pl rfl rfl rfl
theorem s21_3 : WP 21 0 3 [a0, a1, a2] (vI x :: S) h Q ↔ WP 21 0 4 [a0, a1, vI x] S h Q := wp_istore rfl rfl rfl
theorem s21_4 : WP 21 0 4 [a0, a1, vI x] S h Q ↔ WP 21 0 5 [a0, a1, vI x] (vI x :: S) h Q := wp_iload rfl rfl
theorem s21_5 : WP 21 0 5 [vA r, a1, a2] S h Q ↔ WP 21 0 6 [vA r, a1, a2] (vA r :: S) h Q := wp_aload rfl rfl
theorem s21_6 : WP 21 0 6 L (vA (some a) :: S) h Q ↔ (zhas 15 (hk h a) = true ∧ WP 21 0 9 L (hm h a 15 :: S) h Q) := wp_if rfl rfl rfl
theorem s21_9 : WP 21 0 9 L (vI y :: vI x :: S) h Q ↔ zif (x < y) (WP 21 0 12 L S h Q) (WP 21 0 32 L S h Q) := wp_bN zc_lt rfl rfl rfl
theorem s21_12 : WP 21 0 12 L S h Q ↔ WP 21 0 14 L (vI 10 :: S) h Q := wp_pl rfl rfl rfl
theorem s21_14 : WP 21 0 14 [a0, vI x, a2] S h Q ↔ WP 21 0 15 [a0, vI x, a2] (vI x :: S) h Q := wp_iload rfl rfl
theorem s21_15 : WP 21 0 15 L (vI y :: vI x :: S) h Q ↔ WP 21 0 16 L (vI (wr (x * y)) :: S) h Q := wp_pl rfl rfl rfl
theorem s21_16 : WP 21 0 16 [vA r, a1, a2] S h Q ↔ WP 21 0 17 [vA r, a1, a2] (vA r :: S) h Q := wp_aload rfl rfl
theorem s21_17 : WP 21 0 17 L (vA (some a) :: S) h Q ↔ (zhas 14 (hk h a) = true ∧ WP 21 0 20 L (hm h a 14 :: S) h Q) := wp_if rfl rfl rfl
theorem s21_20 : WP 21 0 20 [a0, a1, vI x] S h Q ↔ WP 21 0 21 [a0, a1, vI x] (vI x :: S) h Q := wp_iload rfl rfl
theorem s21_21 : WP 21 0 21 L (vI x :: vA (some a) :: S) h Q ↔ ((((hk h a).1 = 2 ∨ (hk h a).1 = 3) ∧ 0 ≤ x ∧ x < ((hk h a).2 : Int)) ∧ WP 21 0 22 L (hm h a x.toNat :: S) h Q) := wp_if rfl rfl rfl
theorem s21_22 : WP 21 0 22 L (vI y :: vI x :: S) h Q ↔ WP 21 0 23 L (vI (wr (x + y)) :: S) h Q := wp_pl rfl rfl rfl
theorem s21_23 : WP 21 0 23 L S h Q ↔ WP 21 0 24 L (vI 1 :: S) h Q := wp_pl rfl rfl rfl
theorem s21_24 : WP 21 0 24 L (vI y :: vI x :: S) h Q ↔ WP 21 0 25 L (vI (wr (x + y)) :: S) h Q := wp_pl rfl rfl rfl
theorem s21_25 : WP 21 0 25 [a0, a1, a2] (vI x :: S) h Q ↔ WP 21 0 26 [a0, vI x, a2] S h Q := wp_istore rfl rfl rfl
theorem s21_26 : WP 21 0 26 [a0, a1, vI x] S h Q ↔ WP 21 0 29 [a0, a1, vI (wr (x + 1))] S h Q := wp_iinc rfl rfl rfl
theorem s21_29 : WP 21 0 29 L S h Q ↔ WP 21 0 4 L S h Q := wp_pl rfl rfl rfl
theorem s21_32 : WP 21 0 32 [a0, vI x, a2] S h Q ↔ WP 21 0 33 [a0, vI x, a2] (vI x :: S) h Q := wp_iload rfl rfl
theorem s21_33 : WP 21 0 33 L [vI x] h Q ↔ Q (.inl (some (vI x))) h := wp_iret0 rfl rfl
/-! RepeatFree.fill(III)I -/
theorem s22_0 : WP 22 0 0 [vA r, a1, a2, a3, a4, a5, a6, a7, a8] S h Q ↔ WP 22 0 1 [vA r, a1, a2, a3, a4, a5, a6, a7, a8] (vA r :: S) h Q := wp_aload rfl rfl
theorem s22_1 : WP 22 0 1 [a0, vI x, a2, a3, a4, a5, a6, a7, a8] S h Q ↔ WP 22 0 2 [a0, vI x, a2, a3, a4, a5, a6, a7, a8] (vI x :: S) h Q := wp_iload rfl rfl
theorem s22_2 : WP 22 0 2 L (vI x0 :: vA (some a) :: S) h Q ↔ ((hk h a).1 = 100 ∧ (zw S ≤ 8 ∧ WP 59 0 0 [vA (some a), vI x0] [] h (zret 22 0 2 5 L S Q))) := wp_V1 (c := 100) rfl rfl (fun _ => rfl) rfl rfl (zcan_of rfl rfl) rfl rfl rfl
theorem s22_5 : WP 22 0 5 [a0, a1, a2, a3, a4, a5, a6, a7, a8] (vA r :: S) h Q ↔ WP 22 0 7 [a0, a1, a2, a3, vA r, a5, a6, a7, a8] S h Q := wp_astore rfl rfl rfl
theorem s22_7 : WP 22 0 7 [vA r, a1, a2, a3, a4, a5, a6, a7, a8] S h Q ↔ WP 22 0 8 [vA r, a1, a2, a3, a4, a5, a6, a7, a8] (vA r :: S) h Q := wp_aload rfl rfl
theorem s22_8 : WP 22 0 8 [a0, a1, vI x, a3, a4, a5, a6, a7, a8] S h Q ↔ WP 22 0 9 [a0, a1, vI x, a3, a4, a5, a6, a7, a8] (vI x :: S) h Q := wp_iload rfl rfl
theorem s22_9 : WP 22 0 9 L (vI x0 :: vA (some a) :: S) h Q ↔ ((hk h a).1 = 100 ∧ (zw S ≤ 8 ∧ WP 40 0 0 [vA (some a), vI x0] [] h (zret 22 0 9 12 L S Q))) := wp_V1 (c := 100) rfl rfl (fun _ => rfl) rfl rfl (zcan_of rfl rfl) rfl rfl rfl
theorem s22_12 : WP 22 0 12 L (vI x :: S) h Q ↔ zif (x = 0) (WP 22 0 31 L S h Q) (WP 22 0 15 L S h Q) := wp_bE zc_eq rfl rfl rfl
theorem s22_15 : WP 22 0 15 [a0, a1, a2, vI x, a4, a5, a6, a7, a8] S h Q ↔ WP 22 0 16 [a0, a1, a2, vI x, a4, a5, a6, a7, a8] (vI x :: S) h Q := wp_iload rfl rfl
theorem s22_16 : WP 22 0 16 L (vI x :: S) h Q ↔ WP 22 0 17 L (vL x :: S) h Q := wp_pl rfl rfl rfl
theorem s22_17 : WP 22 0 17 L S h Q ↔ WP 22 0 18 L (vL 1 :: S) h Q := wp_pl rfl rfl rfl
theorem s22_18 : WP 22 0 18 L S h Q ↔ WP 22 0 21 L (vL (64) :: S) h Q := wp_pl rfl rfl rfl
theorem s22_21 : WP 22 0 21 L (vL x2 :: vL x1 :: vL x0 :: S) h Q ↔ (zw S ≤ 8 ∧ WP 38 0 0 [vL x0, vJ, vL x1, vJ, vL x2, vJ] [] h (zret 22 0 21 24 L S Q)) := wp_S rfl rfl (zcan_of rfl rfl) rfl rfl rfl
theorem s22_24 : WP 22 0 24 L (vI x :: S) h Q ↔ zif (x = 0) (WP 22 0 31 L S h Q) (WP 22 0 27 L S h Q) := wp_bE zc_eq rfl rfl rfl
theorem s22_27 : WP 22 0 27 L S h Q ↔ WP 22 0 28 L (vI 1 :: S) h Q := wp_pl rfl rfl rfl
theorem s22_28 : WP 22 0 28 L S h Q ↔ WP 22 0 32 L S h Q := wp_pl rfl rfl rfl
theorem s22_31 : WP 22 0 31 L S h Q ↔ WP 22 0 32 L (vI 0 :: S) h Q := wp_pl rfl rfl rfl
theorem s22_32 : WP 22 0 32 L (vI x0 :: S) h Q ↔ (zw S ≤ 8 ∧ WP 62 0 0 [vI x0] [] h (zret 22 0 32 35 L S Q)) := wp_S rfl rfl (zcan_of rfl rfl) rfl rfl rfl
theorem s22_35 : WP 22 0 35 [vA r, a1, a2, a3, a4, a5, a6, a7, a8] S h Q ↔ WP 22 0 36 [vA r, a1, a2, a3, a4, a5, a6, a7, a8] (vA r :: S) h Q := wp_aload rfl rfl
theorem s22_36 : WP 22 0 36 [a0, vI x, a2, a3, a4, a5, a6, a7, a8] S h Q ↔ WP 22 0 37 [a0, vI x, a2, a3, a4, a5, a6, a7, a8] (vI x :: S) h Q := wp_iload rfl rfl
theorem s22_37 : WP 22 0 37 L (vI x0 :: vA (some a) :: S) h Q ↔ ((hk h a).1 = 100 ∧ (zw S ≤ 8 ∧ WP 28 0 0 [vA (some a), vI x0, vJ, vJ, vJ] [] h (zret 22 0 37 40 L S Q))) := wp_V1 (c := 100) rfl rfl (fun _ => rfl) rfl rfl (zcan_of rfl rfl) rfl rfl rfl
theorem s22_40 : WP 22 0 40 [a0, a1, vI x, a3, a4, a5, a6, a7, a8] S h Q ↔ WP 22 0 41 [a0, a1, vI x, a3, a4, a5, a6, a7, a8] (vI x :: S) h Q := wp_iload rfl rfl
theorem s22_41 : WP 22 0 41 L (vI x1 :: vI x0 :: S) h Q ↔ (zw S ≤ 8 ∧ WP 30 0 0 [vI x0, vI x1] [] h (zret 22 0 41 44 L S Q)) := wp_S rfl rfl (zcan_of rfl rfl) rfl rfl rfl
theorem s22_44 : WP 22 0 44 L (vI x0 :: S) h Q ↔ (zw S ≤ 8 ∧ WP 9 0 0 [vI x0] [] h (zret 22 0 44 47 L S Q)) := wp_S rfl rfl (zcan_of rfl rfl) rfl rfl rfl
theorem s22_47 : WP 22 0 47 L S h Q ↔ WP 22 0 50 L (vA (some (hn h)) :: S) (hnew h (102, 0) 2 zdf) Q := wp_pl rfl rfl rfl
theorem s22_50 : WP 22 0 50 L (vA r :: S) h Q ↔ WP 22 0 51 L (vA r :: vA r :: S) h Q := wp_pl rfl rfl rfl
theorem s22_50i : WP 22 0 50 L (vI x :: S) h Q ↔ WP 22 0 51 L (vI x :: vI x :: S) h Q := wp_pl rfl rfl rfl
theorem s22_51 : WP 22 0 51 L (vA (some a) :: S) h Q ↔ ((zNC ≤ a ∧ 100 ≤ (hk h a).1) ∧ zw S ≤ 8 ∧ WP 100 0 0 [vA (some a)] [] h (zret 22 0 51 54 L S Q)) := wp_I rfl rfl rfl (zcan_of rfl rfl) rfl rfl rfl
theorem s22_54 : WP 22 0 54 [a0, a1, a2, a3, a4, a5, a6, a7, a8] (vA r :: S) h Q ↔ WP 22 0 56 [a0, a1, a2, a3, a4, vA r, a6, a7, a8] S h Q := wp_astore rfl rfl rfl
theorem s22_56 : WP 22 0 56 [a0, a1, a2, a3, a4, vA r, a6, a7, a8] S h Q ↔ WP 22 0 58 [a0, a1, a2, a3, a4, vA r, a6, a7, a8] (vA r :: S) h Q := wp_aload rfl rfl
theorem s22_58 : WP 22 0 58 [a0, a1, vI x, a3, a4, a5, a6, a7, a8] S h Q ↔ WP 22 0 59 [a0, a1, vI x, a3, a4, a5, a6, a7, a8] (vI x :: S) h Q := wp_iload rfl rfl
theorem s22_59 : WP 22 0 59 L (vI x0 :: vA (some a) :: S) h Q ↔ ((hk h a).1 = 102 ∧ (zw S ≤ 8 ∧ WP 97 0 0 [vA (some a), vI x0] [] h (zret 22 0 59 62 L S Q))) := wp_V1 (c := 102) rfl rfl (fun _ => rfl) rfl rfl (zcan_of rfl rfl) rfl rfl rfl
theorem s22_62 : WP 22 0 62 L S h Q ↔ WP 22 0 63 L (vI 0 :: S) h Q := wp_pl rfl rfl rfl
theorem s22_63 : WP 22 0 63 [a0, a1, a2, a3, a4, a5, a6, a7, a8] (vI x :: S) h Q ↔ WP 22 0 65 [a0, a1, a2, a3, a4, a5, vI x, a7, a8] S h Q := wp_istore rfl rfl rfl
theorem s22_65 : WP 22 0 65 [a0, a1, a2, a3, a4, vA r, a6, a7, a8] S h Q ↔ WP 22 0 67 [a0, a1, a2, a3, a4, vA r, a6, a7, a8] (vA r :: S) h Q := wp_aload rfl rfl
theorem s22_67 : WP 22 0 67 L (vA (some a) :: S) h Q ↔ (zhas 15 (hk h a) = true ∧ WP 22 0 70 L (hm h a 15 :: S) h Q) := wp_if rfl rfl rfl
theorem s22_70 : WP 22 0 70 [a0, a1, a2, vI x, a4, a5, a6, a7, a8] S h Q ↔ WP 22 0 71 [a0, a1, a2, vI x, a4, a5, a6, a7, a8] (vI x :: S) h Q := wp_iload rfl rfl
theorem s22_71 : WP 22 0 71 L (vI y :: vI x :: S) h Q ↔ zif (x < y) (WP 22 0 74 L S h Q) (WP 22 0 141 L S h Q) := wp_bN zc_lt rfl rfl rfl
theorem s22_74 : WP 22 0 74 [a0, a1, a2, a3, vA r, a5, a6, a7, a8] S h Q ↔ WP 22 0 76 [a0, a1, a2, a3, vA r, a5, a6, a7, a8] (vA r :: S) h Q := wp_aload rfl rfl
theorem s22_76 : WP 22 0 76 L (vA (some a) :: S) h Q ↔ (zhas 20 (hk h a) = true ∧ WP 22 0 79 L (hm h a 20 :: S) h Q) := wp_if rfl rfl rfl
theorem s22_79 : WP 22 0 79 [a0, a1, a2, a3, a4, vA r, a6, a7, a8] S h Q ↔ WP 22 0 81 [a0, a1, a2, a3, a4, vA r, a6, a7, a8] (vA r :: S) h Q := wp_aload rfl rfl
theorem s22_81 : WP 22 0 81 L (vA (some a) :: S) h Q ↔ (zhas 14 (hk h a) = true ∧ WP 22 0 84 L (hm h a 14 :: S) h Q) := wp_if rfl rfl rfl
theorem s22_84 : WP 22 0 84 [a0, a1, a2, a3, a4, a5, vI x, a7, a8] S h Q ↔ WP 22 0 86 [a0, a1, a2, a3, a4, a5, vI x, a7, a8] (vI x :: S) h Q := wp_iload rfl rfl
theorem s22_86 : WP 22 0 86 L (vI x :: vA (some a) :: S) h Q ↔ ((((hk h a).1 = 2 ∨ (hk h a).1 = 3) ∧ 0 ≤ x ∧ x < ((hk h a).2 : Int)) ∧ WP 22 0 87 L (hm h a x.toNat :: S) h Q) := wp_if rfl rfl rfl
theorem s22_87 : WP 22 0 87 L (vI x :: vA (some a) :: S) h Q ↔ ((((5 ≤ (hk h a).1 ∧ (hk h a).1 ≤ 7) ∧ 0 ≤ x ∧ x < ((hk h a).2 : Int)) ∨ ((hk h a).1 = 8 ∧ 128 ≤ x ∧ x < 144)) ∧ WP 22 0 88 L (hm h a x.toNat :: S) h Q) := wp_if rfl rfl rfl
theorem s22_88 : WP 22 0 88 [a0, a1, a2, a3, a4, a5, a6, a7, a8] (vA r :: S) h Q ↔ WP 22 0 90 [a0, a1, a2, a3, a4, a5, a6, vA r, a8] S h Q := wp_astore rfl rfl rfl
theorem s22_90 : WP 22 0 90 [a0, a1, a2, a3, a4, a5, vI x, a7, a8] S h Q ↔ WP 22 0 92 [a0, a1, a2, a3, a4, a5, vI x, a7, a8] (vI x :: S) h Q := wp_iload rfl rfl
theorem s22_92 : WP 22 0 92 L (vI x :: S) h Q ↔ zif (x = 0) (WP 22 0 95 L S h Q) (WP 22 0 99 L S h Q) := wp_bN zc_eq rfl rfl rfl
theorem s22_95 : WP 22 0 95 L S h Q ↔ WP 22 0 96 L (vI 1 :: S) h Q := wp_pl rfl rfl rfl
theorem s22_96 : WP 22 0 96 L S h Q ↔ WP 22 0 100 L S h Q := wp_pl rfl rfl rfl
theorem s22_99 : WP 22 0 99 L S h Q ↔ WP 22 0 100 L (vI 0 :: S) h Q := wp_pl rfl rfl rfl
theorem s22_100 : WP 22 0 100 [a0, a1, a2, a3, a4, a5, a6, a7, a8] (vI x :: S) h Q ↔ WP 22 0 102 [a0, a1, a2, a3, a4, a5, a6, a7, vI x] S h Q := wp_istore rfl rfl rfl
theorem s22_102 : WP 22 0 102 [a0, a1, a2, a3, a4, a5, a6, a7, vI x] S h Q ↔ WP 22 0 104 [a0, a1, a2, a3, a4, a5, a6, a7, vI x] (vI x :: S) h Q := wp_iload rfl rfl
theorem s22_104 : WP 22 0 104 [a0, a1, a2, a3, a4, a5, a6, vA r, a8] S h Q ↔ WP 22 0 106 [a0, a1, a2, a3, a4, a5, a6, vA r, a8] (vA r :: S) h Q := wp_aload rfl rfl
theorem s22_106 : WP 22 0 106 L (vA (some a) :: S) h Q ↔ ((1 ≤ (hk h a).1 ∧ (hk h a).1 ≤ 7) ∧ WP 22 0 107 L (vI ((hk h a).2 : Int) :: S) h Q) := wp_if rfl rfl rfl
theorem s22_107 : WP 22 0 107 L (vI y :: vI x :: S) h Q ↔ zif (x < y) (WP 22 0 110 L S h Q) (WP 22 0 135 L S h Q) := wp_bN zc_lt rfl rfl rfl
theorem s22_110 : WP 22 0 110 [a0, a1, a2, a3, a4, vA r, a6, a7, a8] S h Q ↔ WP 22 0 112 [a0, a1, a2, a3, a4, vA r, a6, a7, a8] (vA r :: S) h Q := wp_aload rfl rfl
theorem s22_112 : WP 22 0 112 L (vA (some a) :: S) h Q ↔ (zhas 15 (hk h a) = true ∧ WP 22 0 115 L (hm h a 15 :: S) h Q) := wp_if rfl rfl rfl
theorem s22_115 : WP 22 0 115 [a0, a1, a2, vI x, a4, a5, a6, a7, a8] S h Q ↔ WP 22 0 116 [a0, a1, a2, vI x, a4, a5, a6, a7, a8] (vI x :: S) h Q := wp_iload rfl rfl
theorem s22_116 : WP 22 0 116 L (vI y :: vI x :: S) h Q ↔ zif (x < y) (WP 22 0 119 L S h Q) (WP 22 0 135 L S h Q) := wp_bN zc_lt rfl rfl rfl
theorem s22_119 : WP 22 0 119 [a0, a1, a2, a3, a4, vA r, a6, a7, a8] S h Q ↔ WP 22 0 121 [a0, a1, a2, a3, a4, vA r, a6, a7, a8] (vA r :: S) h Q := wp_aload rfl rfl
theorem s22_121 : WP 22 0 121 [a0, a1, a2, a3, a4, a5, a6, vA r, a8] S h Q ↔ WP 22 0 123 [a0, a1, a2, a3, a4, a5, a6, vA r, a8] (vA r :: S) h Q := wp_aload rfl rfl
theorem s22_123 : WP 22 0 123 [a0, a1, a2, a3, a4, a5, a6, a7, vI x] S h Q ↔ WP 22 0 125 [a0, a1, a2, a3, a4, a5, a6, a7, vI x] (vI x :: S) h Q := wp_iload rfl rfl
theorem s22_125 : WP 22 0 125 L (vI x :: vA (some a) :: S) h Q ↔ ((((hk h a).1 = 2 ∨ (hk h a).1 = 3) ∧ 0 ≤ x ∧ x < ((hk h a).2 : Int)) ∧ WP 22 0 126 L (hm h a x.toNat :: S) h Q) := wp_if rfl rfl rfl
theorem s22_126 : WP 22 0 126 L (vI x0 :: vA (some a) :: S) h Q ↔ ((hk h a).1 = 102 ∧ (zw S ≤ 8 ∧ WP 97 0 0 [vA (some a), vI x0] [] h (zret 22 0 126 129 L S Q))) := wp_V1 (c := 102) rfl rfl (fun _ => rfl) rfl rfl (zcan_of rfl rfl) rfl rfl rfl
theorem s22_129 : WP 22 0 129 [a0, a1, a2, a3, a4, a5, a6, a7, vI x] S h Q ↔ WP 22 0 132 [a0, a1, a2, a3, a4, a5, a6, a7, vI (wr (x + 1))] S h Q := wp_iinc rfl rfl rfl
theorem s22_132 : WP 22 0 132 L S h Q ↔ WP 22 0 102 L S h Q := wp_pl rfl rfl rfl
theorem s22_135 : WP 22 0 135 [a0, a1, a2, a3, a4, a5, vI x, a7, a8] S h Q ↔ WP 22 0 138 [a0, a1, a2, a3, a4, a5, vI (wr (x + 1)), a7, a8] S h Q := wp_iinc rfl rfl rfl
theorem s22_138 : WP 22 0 138 L S h Q ↔ WP 22 0 65 L S h Q := wp_pl rfl rfl rfl
theorem s22_141 : WP 22 0 141 [vA r, a1, a2, a3, a4, a5, a6, a7, a8] S h Q ↔ WP 22 0 142 [vA r, a1, a2, a3, a4, a5, a6, a7, a8] (vA r :: S) h Q := wp_aload rfl rfl
theorem s22_142 : WP 22 0 142 [a0, a1, a2, a3, a4, vA r, a6, a7, a8] S h Q ↔ WP 22 0 144 [a0, a1, a2, a3, a4, vA r, a6, a7, a8] (vA r :: S) h Q := wp_aload rfl rfl
theorem s22_144 : WP 22 0 144 L (vA r0 :: vA (some a) :: S) h Q ↔ ((hk h a).1 = 100 ∧ (zw S ≤ 8 ∧ WP 4 0 0 [vA (some a), vA r0] [] h (zret 22 0 144 147 L S Q))) := wp_V1 (c := 100) rfl rfl (fun _ => rfl) rfl rfl (zcan_of rfl rfl) rfl rfl rfl
theorem s22_147 : WP 22 0 147 [vA r, a1, a2, a3, a4, a5, a6, a7, a8] S h Q ↔ WP 22 0 148 [vA r, a1, a2, a3, a4, a5, a6, a7, a8] (vA r :: S) h Q := wp_aload rfl rfl
theorem s22_148 : WP 22 0 148 [vA r, a1, a2, a3, a4, a5, a6, a7, a8] S h Q ↔ WP 22 0 149 [vA r, a1, a2, a3, a4, a5, a6, a7, a8] (vA r :: S) h Q := wp_aload rfl rfl
theorem s22_149 : WP 22 0 149 L (vA (some a) :: S) h Q ↔ (zhas 6 (hk h a) = true ∧ WP 22 0 152 L (hm h a 6 :: S) h Q) := wp_if rfl rfl rfl
theorem s22_152 : WP 22 0 152 L (vA r0 :: vA (some a) :: S) h Q ↔ ((hk h a).1 = 100 ∧ (zw S ≤ 8 ∧ WP 17 0 0 [vA (some a), vA r0, vJ] [] h (zret 22 0 152 155 L S Q))) := wp_V1 (c := 100) rfl rfl (fun _ => rfl) rfl rfl (zcan_of rfl rfl) rfl rfl rfl
theorem s22_155 : WP 22 0 155 L [vI x] h Q ↔ Q (.inl (some (vI x))) h := wp_iret0 rfl rfl
/-! RepeatFree.first(I)I -/
theorem s23_0 : WP 23 0 0 [a0, vI x, a2] S h Q ↔ WP 23 0 1 [a0, vI x, a2] (vI x :: S) h Q := wp_iload rfl rfl
theorem s23_1 : WP 23 0 1 L (vI x :: S) h Q ↔ WP 23 0 2 L (vL x :: S) h Q := wp_pl rfl rfl rfl
theorem s23_2 : WP 23 0 2 L S h Q ↔ WP 23 0 3 L (vL 1 :: S) h Q := wp_pl rfl rfl rfl
theorem s23_3 : WP 23 0 3 L S h Q ↔ WP 23 0 6 L (vL (40) :: S) h Q := wp_pl rfl rfl rfl
theorem s23_6 : WP 23 0 6 L (vL x2 :: vL x1 :: vL x0 :: S) h Q ↔ (zw S ≤ 8 ∧ WP 38 0 0 [vL x0, vJ, vL x1, vJ, vL x2, vJ] [] h (zret 23 0 6 9 L S Q)) := wp_S rfl rfl (zcan_of rfl rfl) rfl rfl rfl
theorem s23_9 : WP 23 0 9 L (vI x0 :: S) h Q ↔ (zw S ≤ 8 ∧ WP 62 0 0 [vI x0] [] h (zret 23 0 9 12 L S Q)) := wp_S rfl rfl (zcan_of rfl rfl) rfl rfl rfl
theorem s23_12 : WP 23 0 12 L S h Q ↔ WP 23 0 15 L (vA (some (hn h)) :: S) (hnew h (106, 0) 4 zdf) Q := wp_pl rfl rfl rfl
theorem s23_15 : WP 23 0 15 L (vA r :: S) h Q ↔ WP 23 0 16 L (vA r :: vA r :: S) h Q := wp_pl rfl rfl rfl
theorem s23_15i : WP 23 0 15 L (vI x :: S) h Q ↔ WP 23 0 16 L (vI x :: vI x :: S) h Q := wp_pl rfl rfl rfl
theorem s23_16 : WP 23 0 16 [vA r, a1, a2] S h Q ↔ WP 23 0 17 [vA r, a1, a2] (vA r :: S) h Q := wp_aload rfl rfl
theorem s23_17 : WP 23 0 17 L S h Q ↔ WP 23 0 20 L (vA (some (hn h)) :: S) (hnew h (102, 0) 2 zdf) Q := wp_pl rfl rfl rfl
theorem s23_20 : WP 23 0 20 L (vA r :: S) h Q ↔ WP 23 0 21 L (vA r :: vA r :: S) h Q := wp_pl rfl rfl rfl
theorem s23_20i : WP 23 0 20 L (vI x :: S) h Q ↔ WP 23 0 21 L (vI x :: vI x :: S) h Q := wp_pl rfl rfl rfl
theorem s23_21 : WP 23 0 21 L (vA (some a) :: S) h Q ↔ ((zNC ≤ a ∧ 100 ≤ (hk h a).1) ∧ zw S ≤ 8 ∧ WP 100 0 0 [vA (some a)] [] h (zret 23 0 21 24 L S Q)) := wp_I rfl rfl rfl (zcan_of rfl rfl) rfl rfl rfl
theorem s23_24 : WP 23 0 24 L (vA r1 :: vA r0 :: vA (some a) :: S) h Q ↔ ((zNC ≤ a ∧ 100 ≤ (hk h a).1) ∧ zw S ≤ 8 ∧ WP 117 0 0 [vA (some a), vA r0, vA r1] [] h (zret 23 0 24 27 L S Q)) := wp_I rfl rfl rfl (zcan_of rfl rfl) rfl rfl rfl
theorem s23_27 : WP 23 0 27 [a0, a1, a2] (vA r :: S) h Q ↔ WP 23 0 28 [a0, a1, vA r] S h Q := wp_astore rfl rfl rfl
theorem s23_28 : WP 23 0 28 [a0, a1, vA r] S h Q ↔ WP 23 0 29 [a0, a1, vA r] (vA r :: S) h Q := wp_aload rfl rfl
theorem s23_29 : WP 23 0 29 [a0, vI x, a2] S h Q ↔ WP 23 0 30 [a0, vI x, a2] (vI x :: S) h Q := wp_iload rfl rfl
theorem s23_30 : WP 23 0 30 L S h Q ↔ WP 23 0 31 L (vI 0 :: S) h Q := wp_pl rfl rfl rfl
theorem s23_31 : WP 23 0 31 L S h Q ↔ WP 23 0 32 L (vI 0 :: S) h Q := wp_pl rfl rfl rfl
theorem s23_32 : WP 23 0 32 L (vI x2 :: vI x1 :: vI x0 :: vA (some a) :: S) h Q ↔ ((hk h a).1 = 106 ∧ (zw S ≤ 8 ∧ WP 115 0 0 [vA (some a), vI x0, vI x1, vI x2, vJ, vJ] [] h (zret 23 0 32 35 L S Q))) := wp_V1 (c := 106) rfl rfl (fun _ => rfl) rfl rfl (zcan_of rfl rfl) rfl rfl rfl
theorem s23_35 : WP 23 0 35 L (vI x :: S) h Q ↔ zif (x = 0) (WP 23 0 38 L S h Q) (WP 23 0 52 L S h Q) := wp_bN zc_eq rfl rfl rfl
theorem s23_38 : WP 23 0 38 [a0, a1, vA r] S h Q ↔ WP 23 0 39 [a0, a1, vA r] (vA r :: S) h Q := wp_aload rfl rfl
theorem s23_39 : WP 23 0 39 L (vA (some a) :: S) h Q ↔ (zhas 28 (hk h a) = true ∧ WP 23 0 42 L (hm h a 28 :: S) h Q) := wp_if rfl rfl rfl
theorem s23_42 : WP 23 0 42 L (vI x :: S) h Q ↔ zif (x = 0) (WP 23 0 50 L S h Q) (WP 23 0 45 L S h Q) := wp_bE zc_eq rfl rfl rfl
theorem s23_45 : WP 23 0 45 L S h Q ↔ WP 23 0 47 L (vI (-2) :: S) h Q := wp_pl rfl rfl rfl
theorem s23_47 : WP 23 0 47 L S h Q ↔ WP 23 0 51 L S h Q := wp_pl rfl rfl rfl
theorem s23_50 : WP 23 0 50 L S h Q ↔ WP 23 0 51 L (vI (-1) :: S) h Q := wp_pl rfl rfl rfl
theorem s23_51 : WP 23 0 51 L [vI x] h Q ↔ Q (.inl (some (vI x))) h := wp_iret0 rfl rfl
theorem s23_52 : WP 23 0 52 [vA r, a1, a2] S h Q ↔ WP 23 0 53 [vA r, a1, a2] (vA r :: S) h Q := wp_aload rfl rfl
theorem s23_53 : WP 23 0 53 [a0, a1, vA r] S h Q ↔ WP 23 0 54 [a0, a1, vA r] (vA r :: S) h Q := wp_aload rfl rfl
theorem s23_54 : WP 23 0 54 L (vA (some a) :: S) h Q ↔ (zhas 26 (hk h a) = true ∧ WP 23 0 57 L (hm h a 26 :: S) h Q) := wp_if rfl rfl rfl
theorem s23_57 : WP 23 0 57 L (vA r0 :: vA (some a) :: S) h Q ↔ ((hk h a).1 = 100 ∧ (zw S ≤ 8 ∧ WP 4 0 0 [vA (some a), vA r0] [] h (zret 23 0 57 60 L S Q))) := wp_V1 (c := 100) rfl rfl (fun _ => rfl) rfl rfl (zcan_of rfl rfl) rfl rfl rfl
theorem s23_60 : WP 23 0 60 [a0, a1, vA r] S h Q ↔ WP 23 0 61 [a0, a1, vA r] (vA r :: S) h Q := wp_aload rfl rfl
theorem s23_61 : WP 23 0 61 L (vA (some a) :: S) h Q ↔ (zhas 27 (hk h a) = true ∧ WP 23 0 64 L (hm h a 27 :: S) h Q) := wp_if rfl rfl rfl
theorem s23_64 : WP 23 0 64 L [vI x] h Q ↔ Q (.inl (some (vI x))) h := wp_iret0 rfl rfl
/-! RepeatFree.free()Z -/
theorem s24_0 : WP 24 0 0 [vA r] S h Q ↔ WP 24 0 1 [vA r] (vA r :: S) h Q := wp_aload rfl rfl
theorem s24_1 : WP 24 0 1 [vA r] S h Q ↔ WP 24 0 2 [vA r] (vA r :: S) h Q := wp_aload rfl rfl
theorem s24_2 : WP 24 0 2 L (vA (some a) :: S) h Q ↔ (zhas 6 (hk h a) = true ∧ WP 24 0 5 L (hm h a 6 :: S) h Q) := wp_if rfl rfl rfl
theorem s24_5 : WP 24 0 5 L (vA r0 :: vA (some a) :: S) h Q ↔ ((hk h a).1 = 100 ∧ (zw S ≤ 8 ∧ WP 17 0 0 [vA (some a), vA r0, vJ] [] h (zret 24 0 5 8 L S Q))) := wp_V1 (c := 100) rfl rfl (fun _ => rfl) rfl rfl (zcan_of rfl rfl) rfl rfl rfl
theorem s24_8 : WP 24 0 8 L S h Q ↔ WP 24 0 9 L (vI (-1) :: S) h Q := wp_pl rfl rfl rfl
theorem s24_9 : WP 24 0 9 L (vI y :: vI x :: S) h Q ↔ zif (x = y) (WP 24 0 12 L S h Q) (WP 24 0 16 L S h Q) := wp_bN zc_eq rfl rfl rfl
theorem s24_12 : WP 24 0 12 L S h Q ↔ WP 24 0 13 L (vI 1 :: S) h Q := wp_pl rfl rfl rfl
theorem s24_13 : WP 24 0 13 L S h Q ↔ WP 24 0 17 L S h Q := wp_pl rfl rfl rfl
theorem s24_16 : WP 24 0 16 L S h Q ↔ WP 24 0 17 L (vI 0 :: S) h Q := wp_pl rfl rfl rfl
theorem s24_17 : WP 24 0 17 L [vI x] h Q ↔ ((x = 0 ∨ x = 1) ∧ Q (.inl (some (vI x))) h) := wp_iret rfl rfl
/-! RepeatFree.further()I -/
theorem s25_0 : WP 25 0 0 [vA r, a1, a2, a3] S h Q ↔ WP 25 0 1 [vA r, a1, a2, a3] (vA r :: S) h Q := wp_aload rfl rfl
theorem s25_1 : WP 25 0 1 L (vA (some a) :: S) h Q ↔ ((hk h a).1 = 100 ∧ (zw S ≤ 8 ∧ WP 24 0 0 [vA (some a)] [] h (zret 25 0 1 4 L S Q))) := wp_V1 (c := 100) rfl rfl (fun _ => rfl) rfl rfl (zcan_of rfl rfl) rfl rfl rfl
theorem s25_4 : WP 25 0 4 L (vI x :: S) h Q ↔ zif (x = 0) (WP 25 0 7 L S h Q) (WP 25 0 9 L S h Q) := wp_bN zc_eq rfl rfl rfl
theorem s25_7 : WP 25 0 7 L S h Q ↔ WP 25 0 8 L (vI 0 :: S) h Q := wp_pl rfl rfl rfl
theorem s25_8 : WP 25 0 8 L [vI x] h Q ↔ Q (.inl (some (vI x))) h := wp_iret0 rfl rfl
theorem s25_9 : WP 25 0 9 L S h Q ↔ WP 25 0 11 L (vI 20 :: S) h Q := wp_pl rfl rfl rfl
theorem s25_11 : WP 25 0 11 L S h Q ↔ WP 25 0 13 L (vI 64 :: S) h Q := wp_pl rfl rfl rfl
theorem s25_13 : WP 25 0 13 [vA r, a1, a2, a3] S h Q ↔ WP 25 0 14 [vA r, a1, a2, a3] (vA r :: S) h Q := wp_aload rfl rfl
theorem s25_14 : WP 25 0 14 L (vA (some a) :: S) h Q ↔ (zhas 6 (hk h a) = true ∧ WP 25 0 17 L (hm h a 6 :: S) h Q) := wp_if rfl rfl rfl
theorem s25_17 : WP 25 0 17 L (vA (some a) :: S) h Q ↔ (zhas 15 (hk h a) = true ∧ WP 25 0 20 L (hm h a 15 :: S) h Q) := wp_if rfl rfl rfl
theorem s25_20 : WP 25 0 20 L (vI y :: vI x :: S) h Q ↔ WP 25 0 21 L (vI (wr (x - y)) :: S) h Q := wp_pl rfl rfl rfl
theorem s25_21 : WP 25 0 21 L (vI x1 :: vI x0 :: S) h Q ↔ (zw S ≤ 8 ∧ WP 384 0 0 [vI x0, vI x1] [] h (zret 25 0 21 24 L S Q)) := wp_S rfl rfl (zcan_of rfl rfl) rfl rfl rfl
theorem s25_24 : WP 25 0 24 [a0, a1, a2, a3] (vI x :: S) h Q ↔ WP 25 0 25 [a0, vI x, a2, a3] S h Q := wp_istore rfl rfl rfl
theorem s25_25 : WP 25 0 25 L S h Q ↔ WP 25 0 26 L (vI 1 :: S) h Q := wp_pl rfl rfl rfl
theorem s25_26 : WP 25 0 26 [a0, a1, a2, a3] (vI x :: S) h Q ↔ WP 25 0 27 [a0, a1, vI x, a3] S h Q := wp_istore rfl rfl rfl
theorem s25_27 : WP 25 0 27 [a0, a1, vI x, a3] S h Q ↔ WP 25 0 28 [a0, a1, vI x, a3] (vI x :: S) h Q := wp_iload rfl rfl
theorem s25_28 : WP 25 0 28 [a0, vI x, a2, a3] S h Q ↔ WP 25 0 29 [a0, vI x, a2, a3] (vI x :: S) h Q := wp_iload rfl rfl
theorem s25_29 : WP 25 0 29 L (vI y :: vI x :: S) h Q ↔ zif (y < x) (WP 25 0 94 L S h Q) (WP 25 0 32 L S h Q) := wp_bE zc_gt rfl rfl rfl
theorem s25_32 : WP 25 0 32 L S h Q ↔ WP 25 0 35 L (vA (some (hn h)) :: S) (hnew h (106, 0) 4 zdf) Q := wp_pl rfl rfl rfl
theorem s25_35 : WP 25 0 35 L (vA r :: S) h Q ↔ WP 25 0 36 L (vA r :: vA r :: S) h Q := wp_pl rfl rfl rfl
theorem s25_35i : WP 25 0 35 L (vI x :: S) h Q ↔ WP 25 0 36 L (vI x :: vI x :: S) h Q := wp_pl rfl rfl rfl
theorem s25_36 : WP 25 0 36 [vA r, a1, a2, a3] S h Q ↔ WP 25 0 37 [vA r, a1, a2, a3] (vA r :: S) h Q := wp_aload rfl rfl
theorem s25_37 : WP 25 0 37 [vA r, a1, a2, a3] S h Q ↔ WP 25 0 38 [vA r, a1, a2, a3] (vA r :: S) h Q := wp_aload rfl rfl
theorem s25_38 : WP 25 0 38 L (vA (some a) :: S) h Q ↔ (zhas 6 (hk h a) = true ∧ WP 25 0 41 L (hm h a 6 :: S) h Q) := wp_if rfl rfl rfl
theorem s25_41 : WP 25 0 41 L (vA (some a) :: S) h Q ↔ ((hk h a).1 = 102 ∧ (zw S ≤ 8 ∧ WP 102 0 0 [vA (some a), vJ] [] h (zret 25 0 41 44 L S Q))) := wp_V1 (c := 102) rfl rfl (fun _ => rfl) rfl rfl (zcan_of rfl rfl) rfl rfl rfl
theorem s25_44 : WP 25 0 44 L (vA r1 :: vA r0 :: vA (some a) :: S) h Q ↔ ((zNC ≤ a ∧ 100 ≤ (hk h a).1) ∧ zw S ≤ 8 ∧ WP 117 0 0 [vA (some a), vA r0, vA r1] [] h (zret 25 0 44 47 L S Q)) := wp_I rfl rfl rfl (zcan_of rfl rfl) rfl rfl rfl
theorem s25_47 : WP 25 0 47 [a0, a1, a2, a3] (vA r :: S) h Q ↔ WP 25 0 48 [a0, a1, a2, vA r] S h Q := wp_astore rfl rfl rfl
theorem s25_48 : WP 25 0 48 [a0, a1, a2, vA r] S h Q ↔ WP 25 0 49 [a0, a1, a2, vA r] (vA r :: S) h Q := wp_aload rfl rfl
theorem s25_49 : WP 25 0 49 [vA r, a1, a2, a3] S h Q ↔ WP 25 0 50 [vA r, a1, a2, a3] (vA r :: S) h Q := wp_aload rfl rfl
theorem s25_50 : WP 25 0 50 L (vA (some a) :: S) h Q ↔ (zhas 6 (hk h a) = true ∧ WP 25 0 53 L (hm h a 6 :: S) h Q) := wp_if rfl rfl rfl
theorem s25_53 : WP 25 0 53 L (vA (some a) :: S) h Q ↔ (zhas 15 (hk h a) = true ∧ WP 25 0 56 L (hm h a 15 :: S) h Q) := wp_if rfl rfl rfl
theorem s25_56 : WP 25 0 56 [a0, a1, vI x, a3] S h Q ↔ WP 25 0 57 [a0, a1, vI x, a3] (vI x :: S) h Q := wp_iload rfl rfl
theorem s25_57 : WP 25 0 57 L (vI y :: vI x :: S) h Q ↔ WP 25 0 58 L (vI (wr (x + y)) :: S) h Q := wp_pl rfl rfl rfl
theorem s25_58 : WP 25 0 58 [vA r, a1, a2, a3] S h Q ↔ WP 25 0 59 [vA r, a1, a2, a3] (vA r :: S) h Q := wp_aload rfl rfl
theorem s25_59 : WP 25 0 59 L (vA (some a) :: S) h Q ↔ (zhas 6 (hk h a) = true ∧ WP 25 0 62 L (hm h a 6 :: S) h Q) := wp_if rfl rfl rfl
theorem s25_62 : WP 25 0 62 L (vA (some a) :: S) h Q ↔ (zhas 15 (hk h a) = true ∧ WP 25 0 65 L (hm h a 15 :: S) h Q) := wp_if rfl rfl rfl
theorem s25_65 : WP 25 0 65 L S h Q ↔ WP 25 0 66 L (vI 0 :: S) h Q := wp_pl rfl rfl rfl
theorem s25_66 : WP 25 0 66 L (vI x2 :: vI x1 :: vI x0 :: vA (some a) :: S) h Q ↔ ((hk h a).1 = 106 ∧ (zw S ≤ 8 ∧ WP 115 0 0 [vA (some a), vI x0, vI x1, vI x2, vJ, vJ] [] h (zret 25 0 66 69 L S Q))) := wp_V1 (c := 106) rfl rfl (fun _ => rfl) rfl rfl (zcan_of rfl rfl) rfl rfl rfl
theorem s25_69 : WP 25 0 69 L (vI x :: S) h Q ↔ zif (x = 0) (WP 25 0 72 L S h Q) (WP 25 0 88 L S h Q) := wp_bN zc_eq rfl rfl rfl
theorem s25_72 : WP 25 0 72 [a0, a1, a2, vA r] S h Q ↔ WP 25 0 73 [a0, a1, a2, vA r] (vA r :: S) h Q := wp_aload rfl rfl
theorem s25_73 : WP 25 0 73 L (vA (some a) :: S) h Q ↔ (zhas 28 (hk h a) = true ∧ WP 25 0 76 L (hm h a 28 :: S) h Q) := wp_if rfl rfl rfl
theorem s25_76 : WP 25 0 76 L (vI x :: S) h Q ↔ zif (x = 0) (WP 25 0 84 L S h Q) (WP 25 0 79 L S h Q) := wp_bE zc_eq rfl rfl rfl
theorem s25_79 : WP 25 0 79 L S h Q ↔ WP 25 0 81 L (vI (-2) :: S) h Q := wp_pl rfl rfl rfl
theorem s25_81 : WP 25 0 81 L S h Q ↔ WP 25 0 87 L S h Q := wp_pl rfl rfl rfl
theorem s25_84 : WP 25 0 84 [a0, a1, vI x, a3] S h Q ↔ WP 25 0 85 [a0, a1, vI x, a3] (vI x :: S) h Q := wp_iload rfl rfl
theorem s25_85 : WP 25 0 85 L S h Q ↔ WP 25 0 86 L (vI 1 :: S) h Q := wp_pl rfl rfl rfl
theorem s25_86 : WP 25 0 86 L (vI y :: vI x :: S) h Q ↔ WP 25 0 87 L (vI (wr (x - y)) :: S) h Q := wp_pl rfl rfl rfl
theorem s25_87 : WP 25 0 87 L [vI x] h Q ↔ Q (.inl (some (vI x))) h := wp_iret0 rfl rfl
theorem s25_88 : WP 25 0 88 [a0, a1, vI x, a3] S h Q ↔ WP 25 0 91 [a0, a1, vI (wr (x + 1)), a3] S h Q := wp_iinc rfl rfl rfl
theorem s25_91 : WP 25 0 91 L S h Q ↔ WP 25 0 27 L S h Q := wp_pl rfl rfl rfl
theorem s25_94 : WP 25 0 94 [a0, vI x, a2, a3] S h Q ↔ WP 25 0 95 [a0, vI x, a2, a3] (vI x :: S) h Q := wp_iload rfl rfl
theorem s25_95 : WP 25 0 95 L [vI x] h Q ↔ Q (.inl (some (vI x))) h := wp_iret0 rfl rfl
/-! RepeatFree.goes()I -/
theorem s26_0 : WP 26 0 0 [vA r, a1, a2, a3, a4] S h Q ↔ WP 26 0 1 [vA r, a1, a2, a3, a4] (vA r :: S) h Q := wp_aload rfl rfl
theorem s26_1 : WP 26 0 1 L (vA (some a) :: S) h Q ↔ (zhas 6 (hk h a) = true ∧ WP 26 0 4 L (hm h a 6 :: S) h Q) := wp_if rfl rfl rfl
theorem s26_4 : WP 26 0 4 L (vA (some a) :: S) h Q ↔ (zhas 15 (hk h a) = true ∧ WP 26 0 7 L (hm h a 15 :: S) h Q) := wp_if rfl rfl rfl
theorem s26_7 : WP 26 0 7 L S h Q ↔ WP 26 0 9 L (vI 64 :: S) h Q := wp_pl rfl rfl rfl
theorem s26_9 : WP 26 0 9 L (vI y :: vI x :: S) h Q ↔ zif (x = y) (WP 26 0 19 L S h Q) (WP 26 0 12 L S h Q) := wp_bE zc_eq rfl rfl rfl
theorem s26_12 : WP 26 0 12 [vA r, a1, a2, a3, a4] S h Q ↔ WP 26 0 13 [vA r, a1, a2, a3, a4] (vA r :: S) h Q := wp_aload rfl rfl
theorem s26_13 : WP 26 0 13 L (vA (some a) :: S) h Q ↔ ((hk h a).1 = 100 ∧ (zw S ≤ 8 ∧ WP 24 0 0 [vA (some a)] [] h (zret 26 0 13 16 L S Q))) := wp_V1 (c := 100) rfl rfl (fun _ => rfl) rfl rfl (zcan_of rfl rfl) rfl rfl rfl
theorem s26_16 : WP 26 0 16 L (vI x :: S) h Q ↔ zif (x = 0) (WP 26 0 19 L S h Q) (WP 26 0 21 L S h Q) := wp_bN zc_eq rfl rfl rfl
theorem s26_19 : WP 26 0 19 L S h Q ↔ WP 26 0 20 L (vI 0 :: S) h Q := wp_pl rfl rfl rfl
theorem s26_20 : WP 26 0 20 L [vI x] h Q ↔ Q (.inl (some (vI x))) h := wp_iret0 rfl rfl
theorem s26_21 : WP 26 0 21 L S h Q ↔ WP 26 0 22 L (vI 0 :: S) h Q := wp_pl rfl rfl rfl
theorem s26_22 : WP 26 0 22 [a0, a1, a2, a3, a4] (vI x :: S) h Q ↔ WP 26 0 23 [a0, vI x, a2, a3, a4] S h Q := wp_istore rfl rfl rfl
theorem s26_23 : WP 26 0 23 [vA r, a1, a2, a3, a4] S h Q ↔ WP 26 0 24 [vA r, a1, a2, a3, a4] (vA r :: S) h Q := wp_aload rfl rfl
theorem s26_24 : WP 26 0 24 L (vA (some a) :: S) h Q ↔ (zhas 6 (hk h a) = true ∧ WP 26 0 27 L (hm h a 6 :: S) h Q) := wp_if rfl rfl rfl
theorem s26_27 : WP 26 0 27 L (vA (some a) :: S) h Q ↔ ((hk h a).1 = 102 ∧ (zw S ≤ 8 ∧ WP 102 0 0 [vA (some a), vJ] [] h (zret 26 0 27 30 L S Q))) := wp_V1 (c := 102) rfl rfl (fun _ => rfl) rfl rfl (zcan_of rfl rfl) rfl rfl rfl
theorem s26_30 : WP 26 0 30 [a0, a1, a2, a3, a4] (vA r :: S) h Q ↔ WP 26 0 31 [a0, a1, vA r, a3, a4] S h Q := wp_astore rfl rfl rfl
theorem s26_31 : WP 26 0 31 L S h Q ↔ WP 26 0 32 L (vI 0 :: S) h Q := wp_pl rfl rfl rfl
theorem s26_32 : WP 26 0 32 [a0, a1, a2, a3, a4] (vI x :: S) h Q ↔ WP 26 0 33 [a0, a1, a2, vI x, a4] S h Q := wp_istore rfl rfl rfl
theorem s26_33 : WP 26 0 33 [a0, a1, a2, vI x, a4] S h Q ↔ WP 26 0 34 [a0, a1, a2, vI x, a4] (vI x :: S) h Q := wp_iload rfl rfl
theorem s26_34 : WP 26 0 34 [vA r, a1, a2, a3, a4] S h Q ↔ WP 26 0 35 [vA r, a1, a2, a3, a4] (vA r :: S) h Q := wp_aload rfl rfl
theorem s26_35 : WP 26 0 35 L (vA (some a) :: S) h Q ↔ (zhas 4 (hk h a) = true ∧ WP 26 0 38 L (hm h a 4 :: S) h Q) := wp_if rfl rfl rfl
theorem s26_38 : WP 26 0 38 L (vA (some a) :: S) h Q ↔ (zhas 12 (hk h a) = true ∧ WP 26 0 41 L (hm h a 12 :: S) h Q) := wp_if rfl rfl rfl
theorem s26_41 : WP 26 0 41 L (vI y :: vI x :: S) h Q ↔ zif (x < y) (WP 26 0 44 L S h Q) (WP 26 0 79 L S h Q) := wp_bN zc_lt rfl rfl rfl
theorem s26_44 : WP 26 0 44 [a0, a1, vA r, a3, a4] S h Q ↔ WP 26 0 45 [a0, a1, vA r, a3, a4] (vA r :: S) h Q := wp_aload rfl rfl
theorem s26_45 : WP 26 0 45 [a0, a1, a2, vI x, a4] S h Q ↔ WP 26 0 46 [a0, a1, a2, vI x, a4] (vI x :: S) h Q := wp_iload rfl rfl
theorem s26_46 : WP 26 0 46 L (vI x0 :: vA (some a) :: S) h Q ↔ ((hk h a).1 = 102 ∧ (zw S ≤ 8 ∧ WP 97 0 0 [vA (some a), vI x0] [] h (zret 26 0 46 49 L S Q))) := wp_V1 (c := 102) rfl rfl (fun _ => rfl) rfl rfl (zcan_of rfl rfl) rfl rfl rfl
theorem s26_49 : WP 26 0 49 [a0, vI x, a2, a3, a4] S h Q ↔ WP 26 0 50 [a0, vI x, a2, a3, a4] (vI x :: S) h Q := wp_iload rfl rfl
theorem s26_50 : WP 26 0 50 [vA r, a1, a2, a3, a4] S h Q ↔ WP 26 0 51 [vA r, a1, a2, a3, a4] (vA r :: S) h Q := wp_aload rfl rfl
theorem s26_51 : WP 26 0 51 [a0, a1, vA r, a3, a4] S h Q ↔ WP 26 0 52 [a0, a1, vA r, a3, a4] (vA r :: S) h Q := wp_aload rfl rfl
theorem s26_52 : WP 26 0 52 L (vA r0 :: vA (some a) :: S) h Q ↔ ((hk h a).1 = 100 ∧ (zw S ≤ 8 ∧ WP 37 0 0 [vA (some a), vA r0, vJ] [] h (zret 26 0 52 55 L S Q))) := wp_V1 (c := 100) rfl rfl (fun _ => rfl) rfl rfl (zcan_of rfl rfl) rfl rfl rfl
theorem s26_55 : WP 26 0 55 L (vI x :: S) h Q ↔ zif (x = 0) (WP 26 0 64 L S h Q) (WP 26 0 58 L S h Q) := wp_bE zc_eq rfl rfl rfl
theorem s26_58 : WP 26 0 58 L S h Q ↔ WP 26 0 59 L (vI 1 :: S) h Q := wp_pl rfl rfl rfl
theorem s26_59 : WP 26 0 59 [a0, a1, a2, vI x, a4] S h Q ↔ WP 26 0 60 [a0, a1, a2, vI x, a4] (vI x :: S) h Q := wp_iload rfl rfl
theorem s26_60 : WP 26 0 60 L (vI y :: vI x :: S) h Q ↔ WP 26 0 61 L (vI (zshl x y) :: S) h Q := wp_pl rfl rfl rfl
theorem s26_61 : WP 26 0 61 L S h Q ↔ WP 26 0 65 L S h Q := wp_pl rfl rfl rfl
theorem s26_64 : WP 26 0 64 L S h Q ↔ WP 26 0 65 L (vI 0 :: S) h Q := wp_pl rfl rfl rfl
theorem s26_65 : WP 26 0 65 L (vI y :: vI x :: S) h Q ↔ WP 26 0 66 L (vI (zor x y) :: S) h Q := wp_pl rfl rfl rfl
theorem s26_66 : WP 26 0 66 [a0, a1, a2, a3, a4] (vI x :: S) h Q ↔ WP 26 0 67 [a0, vI x, a2, a3, a4] S h Q := wp_istore rfl rfl rfl
theorem s26_67 : WP 26 0 67 [a0, a1, vA r, a3, a4] S h Q ↔ WP 26 0 68 [a0, a1, vA r, a3, a4] (vA r :: S) h Q := wp_aload rfl rfl
theorem s26_68 : WP 26 0 68 L (vA (some a) :: S) h Q ↔ ((hk h a).1 = 102 ∧ (zw S ≤ 8 ∧ WP 99 0 0 [vA (some a)] [] h (zret 26 0 68 71 L S Q))) := wp_V1 (c := 102) rfl rfl (fun _ => rfl) rfl rfl (zcan_of rfl rfl) rfl rfl rfl
theorem s26_71 : WP 26 0 71 [a0, a1, a2, a3, a4] (vI x :: S) h Q ↔ WP 26 0 73 [a0, a1, a2, a3, vI x] S h Q := wp_istore rfl rfl rfl
theorem s26_73 : WP 26 0 73 [a0, a1, a2, vI x, a4] S h Q ↔ WP 26 0 76 [a0, a1, a2, vI (wr (x + 1)), a4] S h Q := wp_iinc rfl rfl rfl
theorem s26_76 : WP 26 0 76 L S h Q ↔ WP 26 0 33 L S h Q := wp_pl rfl rfl rfl
theorem s26_79 : WP 26 0 79 [a0, vI x, a2, a3, a4] S h Q ↔ WP 26 0 80 [a0, vI x, a2, a3, a4] (vI x :: S) h Q := wp_iload rfl rfl
theorem s26_80 : WP 26 0 80 L [vI x] h Q ↔ Q (.inl (some (vI x))) h := wp_iret0 rfl rfl
/-! RepeatFree.greatest(I)I -/
theorem s27_0 : WP 27 0 0 [a0, vI x, a2, a3, a4, a5, a6, a7, a8] S h Q ↔ WP 27 0 1 [a0, vI x, a2, a3, a4, a5, a6, a7, a8] (vI x :: S) h Q := wp_iload rfl rfl
theorem s27_1 : WP 27 0 1 L (vI x :: S) h Q ↔ WP 27 0 2 L (vL x :: S) h Q := wp_pl rfl rfl rfl
theorem s27_2 : WP 27 0 2 L S h Q ↔ WP 27 0 3 L (vL 0 :: S) h Q := wp_pl rfl rfl rfl
theorem s27_3 : WP 27 0 3 L S h Q ↔ WP 27 0 6 L (vL (2) :: S) h Q := wp_pl rfl rfl rfl
theorem s27_6 : WP 27 0 6 L (vL x2 :: vL x1 :: vL x0 :: S) h Q ↔ (zw S ≤ 8 ∧ WP 38 0 0 [vL x0, vJ, vL x1, vJ, vL x2, vJ] [] h (zret 27 0 6 9 L S Q)) := wp_S rfl rfl (zcan_of rfl rfl) rfl rfl rfl
theorem s27_9 : WP 27 0 9 L (vI x0 :: S) h Q ↔ (zw S ≤ 8 ∧ WP 85 0 0 [vI x0] [] h (zret 27 0 9 12 L S Q)) := wp_S rfl rfl (zcan_of rfl rfl) rfl rfl rfl
theorem s27_12 : WP 27 0 12 L S h Q ↔ WP 27 0 13 L (vI (-1) :: S) h Q := wp_pl rfl rfl rfl
theorem s27_13 : WP 27 0 13 [a0, a1, a2, a3, a4, a5, a6, a7, a8] (vI x :: S) h Q ↔ WP 27 0 14 [a0, a1, vI x, a3, a4, a5, a6, a7, a8] S h Q := wp_istore rfl rfl rfl
theorem s27_14 : WP 27 0 14 L S h Q ↔ WP 27 0 15 L (vI 1 :: S) h Q := wp_pl rfl rfl rfl
theorem s27_15 : WP 27 0 15 [a0, a1, a2, a3, a4, a5, a6, a7, a8] (vI x :: S) h Q ↔ WP 27 0 16 [a0, a1, a2, vI x, a4, a5, a6, a7, a8] S h Q := wp_istore rfl rfl rfl
theorem s27_16 : WP 27 0 16 L S h Q ↔ WP 27 0 17 L (vI (-1) :: S) h Q := wp_pl rfl rfl rfl
theorem s27_17 : WP 27 0 17 [a0, a1, a2, a3, a4, a5, a6, a7, a8] (vI x :: S) h Q ↔ WP 27 0 19 [a0, a1, a2, a3, vI x, a5, a6, a7, a8] S h Q := wp_istore rfl rfl rfl
theorem s27_19 : WP 27 0 19 L S h Q ↔ WP 27 0 20 L (vI 0 :: S) h Q := wp_pl rfl rfl rfl
theorem s27_20 : WP 27 0 20 [a0, a1, a2, a3, a4, a5, a6, a7, a8] (vI x :: S) h Q ↔ WP 27 0 22 [a0, a1, a2, a3, a4, vI x, a6, a7, a8] S h Q := wp_istore rfl rfl rfl
theorem s27_22 : WP 27 0 22 [a0, a1, a2, a3, a4, vI x, a6, a7, a8] S h Q ↔ WP 27 0 24 [a0, a1, a2, a3, a4, vI x, a6, a7, a8] (vI x :: S) h Q := wp_iload rfl rfl
theorem s27_24 : WP 27 0 24 [vA r, a1, a2, a3, a4, a5, a6, a7, a8] S h Q ↔ WP 27 0 25 [vA r, a1, a2, a3, a4, a5, a6, a7, a8] (vA r :: S) h Q := wp_aload rfl rfl
theorem s27_25 : WP 27 0 25 L (vA (some a) :: S) h Q ↔ (zhas 6 (hk h a) = true ∧ WP 27 0 28 L (hm h a 6 :: S) h Q) := wp_if rfl rfl rfl
theorem s27_28 : WP 27 0 28 L (vA (some a) :: S) h Q ↔ (zhas 15 (hk h a) = true ∧ WP 27 0 31 L (hm h a 15 :: S) h Q) := wp_if rfl rfl rfl
theorem s27_31 : WP 27 0 31 L (vI y :: vI x :: S) h Q ↔ zif (x < y) (WP 27 0 34 L S h Q) (WP 27 0 130 L S h Q) := wp_bN zc_lt rfl rfl rfl
theorem s27_34 : WP 27 0 34 L S h Q ↔ WP 27 0 35 L (vI 1 :: S) h Q := wp_pl rfl rfl rfl
theorem s27_35 : WP 27 0 35 [a0, a1, a2, a3, a4, a5, a6, a7, a8] (vI x :: S) h Q ↔ WP 27 0 37 [a0, a1, a2, a3, a4, a5, vI x, a7, a8] S h Q := wp_istore rfl rfl rfl
theorem s27_37 : WP 27 0 37 [a0, a1, a2, a3, a4, vI x, a6, a7, a8] S h Q ↔ WP 27 0 39 [a0, a1, a2, a3, a4, vI x, a6, a7, a8] (vI x :: S) h Q := wp_iload rfl rfl
theorem s27_39 : WP 27 0 39 [a0, a1, a2, a3, a4, a5, vI x, a7, a8] S h Q ↔ WP 27 0 41 [a0, a1, a2, a3, a4, a5, vI x, a7, a8] (vI x :: S) h Q := wp_iload rfl rfl
theorem s27_41 : WP 27 0 41 L (vI y :: vI x :: S) h Q ↔ WP 27 0 42 L (vI (wr (x + y)) :: S) h Q := wp_pl rfl rfl rfl
theorem s27_42 : WP 27 0 42 [vA r, a1, a2, a3, a4, a5, a6, a7, a8] S h Q ↔ WP 27 0 43 [vA r, a1, a2, a3, a4, a5, a6, a7, a8] (vA r :: S) h Q := wp_aload rfl rfl
theorem s27_43 : WP 27 0 43 L (vA (some a) :: S) h Q ↔ (zhas 6 (hk h a) = true ∧ WP 27 0 46 L (hm h a 6 :: S) h Q) := wp_if rfl rfl rfl
theorem s27_46 : WP 27 0 46 L (vA (some a) :: S) h Q ↔ (zhas 15 (hk h a) = true ∧ WP 27 0 49 L (hm h a 15 :: S) h Q) := wp_if rfl rfl rfl
theorem s27_49 : WP 27 0 49 L (vI y :: vI x :: S) h Q ↔ zif (y < x) (WP 27 0 124 L S h Q) (WP 27 0 52 L S h Q) := wp_bE zc_gt rfl rfl rfl
theorem s27_52 : WP 27 0 52 [a0, a1, a2, a3, a4, a5, vI x, a7, a8] S h Q ↔ WP 27 0 54 [a0, a1, a2, a3, a4, a5, vI x, a7, a8] (vI x :: S) h Q := wp_iload rfl rfl
theorem s27_54 : WP 27 0 54 [vA r, a1, a2, a3, a4, a5, a6, a7, a8] S h Q ↔ WP 27 0 55 [vA r, a1, a2, a3, a4, a5, a6, a7, a8] (vA r :: S) h Q := wp_aload rfl rfl
theorem s27_55 : WP 27 0 55 L (vA (some a) :: S) h Q ↔ (zhas 6 (hk h a) = true ∧ WP 27 0 58 L (hm h a 6 :: S) h Q) := wp_if rfl rfl rfl
theorem s27_58 : WP 27 0 58 [a0, a1, a2, a3, a4, vI x, a6, a7, a8] S h Q ↔ WP 27 0 60 [a0, a1, a2, a3, a4, vI x, a6, a7, a8] (vI x :: S) h Q := wp_iload rfl rfl
theorem s27_60 : WP 27 0 60 [a0, a1, a2, a3, a4, vI x, a6, a7, a8] S h Q ↔ WP 27 0 62 [a0, a1, a2, a3, a4, vI x, a6, a7, a8] (vI x :: S) h Q := wp_iload rfl rfl
theorem s27_62 : WP 27 0 62 [a0, a1, a2, a3, a4, a5, vI x, a7, a8] S h Q ↔ WP 27 0 64 [a0, a1, a2, a3, a4, a5, vI x, a7, a8] (vI x :: S) h Q := wp_iload rfl rfl
theorem s27_64 : WP 27 0 64 L (vI y :: vI x :: S) h Q ↔ WP 27 0 65 L (vI (wr (x + y)) :: S) h Q := wp_pl rfl rfl rfl
theorem s27_65 : WP 27 0 65 L (vI x1 :: vI x0 :: vA (some a) :: S) h Q ↔ ((hk h a).1 = 102 ∧ (zw S ≤ 8 ∧ WP 96 0 0 [vA (some a), vI x0, vI x1, vJ] [] h (zret 27 0 65 68 L S Q))) := wp_V1 (c := 102) rfl rfl (fun _ => rfl) rfl rfl (zcan_of rfl rfl) rfl rfl rfl
theorem s27_68 : WP 27 0 68 L (vI y :: vI x :: S) h Q ↔ WP 27 0 69 L (vI (wr (x + y)) :: S) h Q := wp_pl rfl rfl rfl
theorem s27_69 : WP 27 0 69 [a0, a1, a2, a3, a4, a5, a6, a7, a8] (vI x :: S) h Q ↔ WP 27 0 71 [a0, a1, a2, a3, a4, a5, a6, vI x, a8] S h Q := wp_istore rfl rfl rfl
theorem s27_71 : WP 27 0 71 [a0, a1, a2, a3, a4, a5, a6, vI x, a8] S h Q ↔ WP 27 0 73 [a0, a1, a2, a3, a4, a5, a6, vI x, a8] (vI x :: S) h Q := wp_iload rfl rfl
theorem s27_73 : WP 27 0 73 [a0, a1, a2, vI x, a4, a5, a6, a7, a8] S h Q ↔ WP 27 0 74 [a0, a1, a2, vI x, a4, a5, a6, a7, a8] (vI x :: S) h Q := wp_iload rfl rfl
theorem s27_74 : WP 27 0 74 L (vI y :: vI x :: S) h Q ↔ WP 27 0 75 L (vI (wr (x * y)) :: S) h Q := wp_pl rfl rfl rfl
theorem s27_75 : WP 27 0 75 [a0, a1, vI x, a3, a4, a5, a6, a7, a8] S h Q ↔ WP 27 0 76 [a0, a1, vI x, a3, a4, a5, a6, a7, a8] (vI x :: S) h Q := wp_iload rfl rfl
theorem s27_76 : WP 27 0 76 [a0, a1, a2, a3, a4, a5, vI x, a7, a8] S h Q ↔ WP 27 0 78 [a0, a1, a2, a3, a4, a5, vI x, a7, a8] (vI x :: S) h Q := wp_iload rfl rfl
theorem s27_78 : WP 27 0 78 L (vI y :: vI x :: S) h Q ↔ WP 27 0 79 L (vI (wr (x * y)) :: S) h Q := wp_pl rfl rfl rfl
theorem s27_79 : WP 27 0 79 L (vI y :: vI x :: S) h Q ↔ WP 27 0 80 L (vI (wr (x - y)) :: S) h Q := wp_pl rfl rfl rfl
theorem s27_80 : WP 27 0 80 [a0, a1, a2, a3, a4, a5, a6, a7, a8] (vI x :: S) h Q ↔ WP 27 0 82 [a0, a1, a2, a3, a4, a5, a6, a7, vI x] S h Q := wp_istore rfl rfl rfl
theorem s27_82 : WP 27 0 82 [a0, a1, a2, a3, a4, a5, a6, a7, vI x] S h Q ↔ WP 27 0 84 [a0, a1, a2, a3, a4, a5, a6, a7, vI x] (vI x :: S) h Q := wp_iload rfl rfl
theorem s27_84 : WP 27 0 84 L (vI x :: S) h Q ↔ zif (x < 0) (WP 27 0 118 L S h Q) (WP 27 0 87 L S h Q) := wp_bE zc_lt rfl rfl rfl
theorem s27_87 : WP 27 0 87 [a0, a1, a2, a3, a4, a5, a6, a7, vI x] S h Q ↔ WP 27 0 89 [a0, a1, a2, a3, a4, a5, a6, a7, vI x] (vI x :: S) h Q := wp_iload rfl rfl
theorem s27_89 : WP 27 0 89 L (vI x :: S) h Q ↔ zif (x = 0) (WP 27 0 92 L S h Q) (WP 27 0 108 L S h Q) := wp_bN zc_eq rfl rfl rfl
theorem s27_92 : WP 27 0 92 [a0, a1, a2, a3, a4, vI x, a6, a7, a8] S h Q ↔ WP 27 0 94 [a0, a1, a2, a3, a4, vI x, a6, a7, a8] (vI x :: S) h Q := wp_iload rfl rfl
theorem s27_94 : WP 27 0 94 [a0, a1, a2, a3, vI x, a5, a6, a7, a8] S h Q ↔ WP 27 0 96 [a0, a1, a2, a3, vI x, a5, a6, a7, a8] (vI x :: S) h Q := wp_iload rfl rfl
theorem s27_96 : WP 27 0 96 L (vI y :: vI x :: S) h Q ↔ zif (y < x) (WP 27 0 118 L S h Q) (WP 27 0 99 L S h Q) := wp_bE zc_gt rfl rfl rfl
theorem s27_99 : WP 27 0 99 [a0, a1, a2, a3, a4, a5, a6, vI x, a8] S h Q ↔ WP 27 0 101 [a0, a1, a2, a3, a4, a5, a6, vI x, a8] (vI x :: S) h Q := wp_iload rfl rfl
theorem s27_101 : WP 27 0 101 [a0, a1, vI x, a3, a4, a5, a6, a7, a8] S h Q ↔ WP 27 0 102 [a0, a1, vI x, a3, a4, a5, a6, a7, a8] (vI x :: S) h Q := wp_iload rfl rfl
theorem s27_102 : WP 27 0 102 L (vI y :: vI x :: S) h Q ↔ zif (y < x) (WP 27 0 108 L S h Q) (WP 27 0 105 L S h Q) := wp_bE zc_gt rfl rfl rfl
theorem s27_105 : WP 27 0 105 L S h Q ↔ WP 27 0 118 L S h Q := wp_pl rfl rfl rfl
theorem s27_108 : WP 27 0 108 [a0, a1, a2, a3, a4, a5, a6, vI x, a8] S h Q ↔ WP 27 0 110 [a0, a1, a2, a3, a4, a5, a6, vI x, a8] (vI x :: S) h Q := wp_iload rfl rfl
theorem s27_110 : WP 27 0 110 [a0, a1, a2, a3, a4, a5, a6, a7, a8] (vI x :: S) h Q ↔ WP 27 0 111 [a0, a1, vI x, a3, a4, a5, a6, a7, a8] S h Q := wp_istore rfl rfl rfl
theorem s27_111 : WP 27 0 111 [a0, a1, a2, a3, a4, a5, vI x, a7, a8] S h Q ↔ WP 27 0 113 [a0, a1, a2, a3, a4, a5, vI x, a7, a8] (vI x :: S) h Q := wp_iload rfl rfl
theorem s27_113 : WP 27 0 113 [a0, a1, a2, a3, a4, a5, a6, a7, a8] (vI x :: S) h Q ↔ WP 27 0 114 [a0, a1, a2, vI x, a4, a5, a6, a7, a8] S h Q := wp_istore rfl rfl rfl
theorem s27_114 : WP 27 0 114 [a0, a1, a2, a3, a4, vI x, a6, a7, a8] S h Q ↔ WP 27 0 116 [a0, a1, a2, a3, a4, vI x, a6, a7, a8] (vI x :: S) h Q := wp_iload rfl rfl
theorem s27_116 : WP 27 0 116 [a0, a1, a2, a3, a4, a5, a6, a7, a8] (vI x :: S) h Q ↔ WP 27 0 118 [a0, a1, a2, a3, vI x, a5, a6, a7, a8] S h Q := wp_istore rfl rfl rfl
theorem s27_118 : WP 27 0 118 [a0, a1, a2, a3, a4, a5, vI x, a7, a8] S h Q ↔ WP 27 0 121 [a0, a1, a2, a3, a4, a5, vI (wr (x + 1)), a7, a8] S h Q := wp_iinc rfl rfl rfl
theorem s27_121 : WP 27 0 121 L S h Q ↔ WP 27 0 37 L S h Q := wp_pl rfl rfl rfl
theorem s27_124 : WP 27 0 124 [a0, a1, a2, a3, a4, vI x, a6, a7, a8] S h Q ↔ WP 27 0 127 [a0, a1, a2, a3, a4, vI (wr (x + 1)), a6, a7, a8] S h Q := wp_iinc rfl rfl rfl
theorem s27_127 : WP 27 0 127 L S h Q ↔ WP 27 0 22 L S h Q := wp_pl rfl rfl rfl
theorem s27_130 : WP 27 0 130 [a0, vI x, a2, a3, a4, a5, a6, a7, a8] S h Q ↔ WP 27 0 131 [a0, vI x, a2, a3, a4, a5, a6, a7, a8] (vI x :: S) h Q := wp_iload rfl rfl
theorem s27_131 : WP 27 0 131 L (vI x :: S) h Q ↔ zif (x = 0) (WP 27 0 134 L S h Q) (WP 27 0 138 L S h Q) := wp_bN zc_eq rfl rfl rfl
theorem s27_134 : WP 27 0 134 [a0, a1, vI x, a3, a4, a5, a6, a7, a8] S h Q ↔ WP 27 0 135 [a0, a1, vI x, a3, a4, a5, a6, a7, a8] (vI x :: S) h Q := wp_iload rfl rfl
theorem s27_135 : WP 27 0 135 L S h Q ↔ WP 27 0 159 L S h Q := wp_pl rfl rfl rfl
theorem s27_138 : WP 27 0 138 [a0, vI x, a2, a3, a4, a5, a6, a7, a8] S h Q ↔ WP 27 0 139 [a0, vI x, a2, a3, a4, a5, a6, a7, a8] (vI x :: S) h Q := wp_iload rfl rfl
theorem s27_139 : WP 27 0 139 L S h Q ↔ WP 27 0 140 L (vI 2 :: S) h Q := wp_pl rfl rfl rfl
theorem s27_140 : WP 27 0 140 L (vI y :: vI x :: S) h Q ↔ zif (x = y) (WP 27 0 143 L S h Q) (WP 27 0 148 L S h Q) := wp_bN zc_eq rfl rfl rfl
theorem s27_143 : WP 27 0 143 [a0, a1, a2, a3, vI x, a5, a6, a7, a8] S h Q ↔ WP 27 0 145 [a0, a1, a2, a3, vI x, a5, a6, a7, a8] (vI x :: S) h Q := wp_iload rfl rfl
theorem s27_145 : WP 27 0 145 L S h Q ↔ WP 27 0 159 L S h Q := wp_pl rfl rfl rfl
theorem s27_148 : WP 27 0 148 [a0, a1, a2, a3, vI x, a5, a6, a7, a8] S h Q ↔ WP 27 0 150 [a0, a1, a2, a3, vI x, a5, a6, a7, a8] (vI x :: S) h Q := wp_iload rfl rfl
theorem s27_150 : WP 27 0 150 L S h Q ↔ WP 27 0 151 L (vI (-1) :: S) h Q := wp_pl rfl rfl rfl
theorem s27_151 : WP 27 0 151 L (vI y :: vI x :: S) h Q ↔ zif (x = y) (WP 27 0 154 L S h Q) (WP 27 0 158 L S h Q) := wp_bN zc_eq rfl rfl rfl
theorem s27_154 : WP 27 0 154 L S h Q ↔ WP 27 0 155 L (vI (-1) :: S) h Q := wp_pl rfl rfl rfl
theorem s27_155 : WP 27 0 155 L S h Q ↔ WP 27 0 159 L S h Q := wp_pl rfl rfl rfl
theorem s27_158 : WP 27 0 158 [a0, a1, a2, vI x, a4, a5, a6, a7, a8] S h Q ↔ WP 27 0 159 [a0, a1, a2, vI x, a4, a5, a6, a7, a8] (vI x :: S) h Q := wp_iload rfl rfl
theorem s27_159 : WP 27 0 159 L [vI x] h Q ↔ Q (.inl (some (vI x))) h := wp_iret0 rfl rfl
/-! RepeatFree.grows(I)I -/
theorem s28_0 : WP 28 0 0 [vA r, a1, a2, a3, a4] S h Q ↔ WP 28 0 1 [vA r, a1, a2, a3, a4] (vA r :: S) h Q := wp_aload rfl rfl
theorem s28_1 : WP 28 0 1 [a0, vI x, a2, a3, a4] S h Q ↔ WP 28 0 2 [a0, vI x, a2, a3, a4] (vI x :: S) h Q := wp_iload rfl rfl
theorem s28_2 : WP 28 0 2 L (vI x0 :: vA (some a) :: S) h Q ↔ ((hk h a).1 = 100 ∧ (zw S ≤ 8 ∧ WP 59 0 0 [vA (some a), vI x0] [] h (zret 28 0 2 5 L S Q))) := wp_V1 (c := 100) rfl rfl (fun _ => rfl) rfl rfl (zcan_of rfl rfl) rfl rfl rfl
theorem s28_5 : WP 28 0 5 [a0, a1, a2, a3, a4] (vA r :: S) h Q ↔ WP 28 0 6 [a0, a1, vA r, a3, a4] S h Q := wp_astore rfl rfl rfl
theorem s28_6 : WP 28 0 6 L S h Q ↔ WP 28 0 7 L (vI 0 :: S) h Q := wp_pl rfl rfl rfl
theorem s28_7 : WP 28 0 7 [a0, a1, a2, a3, a4] (vI x :: S) h Q ↔ WP 28 0 8 [a0, a1, a2, vI x, a4] S h Q := wp_istore rfl rfl rfl
theorem s28_8 : WP 28 0 8 L S h Q ↔ WP 28 0 9 L (vI 0 :: S) h Q := wp_pl rfl rfl rfl
theorem s28_9 : WP 28 0 9 [a0, a1, a2, a3, a4] (vI x :: S) h Q ↔ WP 28 0 11 [a0, a1, a2, a3, vI x] S h Q := wp_istore rfl rfl rfl
theorem s28_11 : WP 28 0 11 [a0, a1, a2, a3, vI x] S h Q ↔ WP 28 0 13 [a0, a1, a2, a3, vI x] (vI x :: S) h Q := wp_iload rfl rfl
theorem s28_13 : WP 28 0 13 [vA r, a1, a2, a3, a4] S h Q ↔ WP 28 0 14 [vA r, a1, a2, a3, a4] (vA r :: S) h Q := wp_aload rfl rfl
theorem s28_14 : WP 28 0 14 L (vA (some a) :: S) h Q ↔ (zhas 4 (hk h a) = true ∧ WP 28 0 17 L (hm h a 4 :: S) h Q) := wp_if rfl rfl rfl
theorem s28_17 : WP 28 0 17 L (vA (some a) :: S) h Q ↔ (zhas 12 (hk h a) = true ∧ WP 28 0 20 L (hm h a 12 :: S) h Q) := wp_if rfl rfl rfl
theorem s28_20 : WP 28 0 20 L (vI y :: vI x :: S) h Q ↔ zif (x < y) (WP 28 0 23 L S h Q) (WP 28 0 66 L S h Q) := wp_bN zc_lt rfl rfl rfl
theorem s28_23 : WP 28 0 23 [a0, a1, a2, vI x, a4] S h Q ↔ WP 28 0 24 [a0, a1, a2, vI x, a4] (vI x :: S) h Q := wp_iload rfl rfl
theorem s28_24 : WP 28 0 24 [a0, a1, vA r, a3, a4] S h Q ↔ WP 28 0 25 [a0, a1, vA r, a3, a4] (vA r :: S) h Q := wp_aload rfl rfl
theorem s28_25 : WP 28 0 25 L (vA (some a) :: S) h Q ↔ (zhas 20 (hk h a) = true ∧ WP 28 0 28 L (hm h a 20 :: S) h Q) := wp_if rfl rfl rfl
theorem s28_28 : WP 28 0 28 [a0, a1, a2, a3, vI x] S h Q ↔ WP 28 0 30 [a0, a1, a2, a3, vI x] (vI x :: S) h Q := wp_iload rfl rfl
theorem s28_30 : WP 28 0 30 L (vI x :: vA (some a) :: S) h Q ↔ ((((5 ≤ (hk h a).1 ∧ (hk h a).1 ≤ 7) ∧ 0 ≤ x ∧ x < ((hk h a).2 : Int)) ∨ ((hk h a).1 = 8 ∧ 128 ≤ x ∧ x < 144)) ∧ WP 28 0 31 L (hm h a x.toNat :: S) h Q) := wp_if rfl rfl rfl
theorem s28_31 : WP 28 0 31 L S h Q ↔ WP 28 0 32 L (vI 0 :: S) h Q := wp_pl rfl rfl rfl
theorem s28_32 : WP 28 0 32 L (vI x :: vA (some a) :: S) h Q ↔ ((((hk h a).1 = 2 ∨ (hk h a).1 = 3) ∧ 0 ≤ x ∧ x < ((hk h a).2 : Int)) ∧ WP 28 0 33 L (hm h a x.toNat :: S) h Q) := wp_if rfl rfl rfl
theorem s28_33 : WP 28 0 33 [a0, a1, a2, a3, vI x] S h Q ↔ WP 28 0 35 [a0, a1, a2, a3, vI x] (vI x :: S) h Q := wp_iload rfl rfl
theorem s28_35 : WP 28 0 35 L (vI y :: vI x :: S) h Q ↔ zif (x = y) (WP 28 0 38 L S h Q) (WP 28 0 57 L S h Q) := wp_bN zc_eq rfl rfl rfl
theorem s28_38 : WP 28 0 38 [a0, a1, vA r, a3, a4] S h Q ↔ WP 28 0 39 [a0, a1, vA r, a3, a4] (vA r :: S) h Q := wp_aload rfl rfl
theorem s28_39 : WP 28 0 39 L (vA (some a) :: S) h Q ↔ (zhas 20 (hk h a) = true ∧ WP 28 0 42 L (hm h a 20 :: S) h Q) := wp_if rfl rfl rfl
theorem s28_42 : WP 28 0 42 [a0, a1, a2, a3, vI x] S h Q ↔ WP 28 0 44 [a0, a1, a2, a3, vI x] (vI x :: S) h Q := wp_iload rfl rfl
theorem s28_44 : WP 28 0 44 L (vI x :: vA (some a) :: S) h Q ↔ ((((5 ≤ (hk h a).1 ∧ (hk h a).1 ≤ 7) ∧ 0 ≤ x ∧ x < ((hk h a).2 : Int)) ∨ ((hk h a).1 = 8 ∧ 128 ≤ x ∧ x < 144)) ∧ WP 28 0 45 L (hm h a x.toNat :: S) h Q) := wp_if rfl rfl rfl
theorem s28_45 : WP 28 0 45 L (vA (some a) :: S) h Q ↔ ((1 ≤ (hk h a).1 ∧ (hk h a).1 ≤ 7) ∧ WP 28 0 46 L (vI ((hk h a).2 : Int) :: S) h Q) := wp_if rfl rfl rfl
theorem s28_46 : WP 28 0 46 L S h Q ↔ WP 28 0 47 L (vI 1 :: S) h Q := wp_pl rfl rfl rfl
theorem s28_47 : WP 28 0 47 L (vI y :: vI x :: S) h Q ↔ zif (y < x) (WP 28 0 50 L S h Q) (WP 28 0 57 L S h Q) := wp_bN zc_gt rfl rfl rfl
theorem s28_50 : WP 28 0 50 L S h Q ↔ WP 28 0 51 L (vI 1 :: S) h Q := wp_pl rfl rfl rfl
theorem s28_51 : WP 28 0 51 [a0, a1, a2, a3, vI x] S h Q ↔ WP 28 0 53 [a0, a1, a2, a3, vI x] (vI x :: S) h Q := wp_iload rfl rfl
theorem s28_53 : WP 28 0 53 L (vI y :: vI x :: S) h Q ↔ WP 28 0 54 L (vI (zshl x y) :: S) h Q := wp_pl rfl rfl rfl
theorem s28_54 : WP 28 0 54 L S h Q ↔ WP 28 0 58 L S h Q := wp_pl rfl rfl rfl
theorem s28_57 : WP 28 0 57 L S h Q ↔ WP 28 0 58 L (vI 0 :: S) h Q := wp_pl rfl rfl rfl
theorem s28_58 : WP 28 0 58 L (vI y :: vI x :: S) h Q ↔ WP 28 0 59 L (vI (zor x y) :: S) h Q := wp_pl rfl rfl rfl
theorem s28_59 : WP 28 0 59 [a0, a1, a2, a3, a4] (vI x :: S) h Q ↔ WP 28 0 60 [a0, a1, a2, vI x, a4] S h Q := wp_istore rfl rfl rfl
theorem s28_60 : WP 28 0 60 [a0, a1, a2, a3, vI x] S h Q ↔ WP 28 0 63 [a0, a1, a2, a3, vI (wr (x + 1))] S h Q := wp_iinc rfl rfl rfl
theorem s28_63 : WP 28 0 63 L S h Q ↔ WP 28 0 11 L S h Q := wp_pl rfl rfl rfl
theorem s28_66 : WP 28 0 66 [a0, a1, a2, vI x, a4] S h Q ↔ WP 28 0 67 [a0, a1, a2, vI x, a4] (vI x :: S) h Q := wp_iload rfl rfl
theorem s28_67 : WP 28 0 67 L [vI x] h Q ↔ Q (.inl (some (vI x))) h := wp_iret0 rfl rfl
/-! RepeatFree.growth(I)I -/
theorem s29_0 : WP 29 0 0 [a0, vI x, a2, a3] S h Q ↔ WP 29 0 1 [a0, vI x, a2, a3] (vI x :: S) h Q := wp_iload rfl rfl
theorem s29_1 : WP 29 0 1 L (vI x :: S) h Q ↔ WP 29 0 2 L (vL x :: S) h Q := wp_pl rfl rfl rfl
theorem s29_2 : WP 29 0 2 L S h Q ↔ WP 29 0 3 L (vL 0 :: S) h Q := wp_pl rfl rfl rfl
theorem s29_3 : WP 29 0 3 L S h Q ↔ WP 29 0 6 L (vL (39) :: S) h Q := wp_pl rfl rfl rfl
theorem s29_6 : WP 29 0 6 L (vL x2 :: vL x1 :: vL x0 :: S) h Q ↔ (zw S ≤ 8 ∧ WP 38 0 0 [vL x0, vJ, vL x1, vJ, vL x2, vJ] [] h (zret 29 0 6 9 L S Q)) := wp_S rfl rfl (zcan_of rfl rfl) rfl rfl rfl
theorem s29_9 : WP 29 0 9 L (vI x0 :: S) h Q ↔ (zw S ≤ 8 ∧ WP 62 0 0 [vI x0] [] h (zret 29 0 9 12 L S Q)) := wp_S rfl rfl (zcan_of rfl rfl) rfl rfl rfl
theorem s29_12 : WP 29 0 12 [vA r, a1, a2, a3] S h Q ↔ WP 29 0 13 [vA r, a1, a2, a3] (vA r :: S) h Q := wp_aload rfl rfl
theorem s29_13 : WP 29 0 13 [a0, vI x, a2, a3] S h Q ↔ WP 29 0 14 [a0, vI x, a2, a3] (vI x :: S) h Q := wp_iload rfl rfl
theorem s29_14 : WP 29 0 14 L (vI x0 :: vA (some a) :: S) h Q ↔ ((hk h a).1 = 100 ∧ (zw S ≤ 8 ∧ WP 31 0 0 [vA (some a), vI x0, vJ, vJ, vJ] [] h (zret 29 0 14 17 L S Q))) := wp_V1 (c := 100) rfl rfl (fun _ => rfl) rfl rfl (zcan_of rfl rfl) rfl rfl rfl
theorem s29_17 : WP 29 0 17 [a0, a1, a2, a3] (vI x :: S) h Q ↔ WP 29 0 18 [a0, a1, vI x, a3] S h Q := wp_istore rfl rfl rfl
theorem s29_18 : WP 29 0 18 [a0, a1, vI x, a3] S h Q ↔ WP 29 0 19 [a0, a1, vI x, a3] (vI x :: S) h Q := wp_iload rfl rfl
theorem s29_19 : WP 29 0 19 L (vI x :: S) h Q ↔ zif (0 < x) (WP 29 0 33 L S h Q) (WP 29 0 22 L S h Q) := wp_bE zc_gt rfl rfl rfl
theorem s29_22 : WP 29 0 22 [a0, a1, vI x, a3] S h Q ↔ WP 29 0 23 [a0, a1, vI x, a3] (vI x :: S) h Q := wp_iload rfl rfl
theorem s29_23 : WP 29 0 23 L (vI x :: S) h Q ↔ zif (x = 0) (WP 29 0 26 L S h Q) (WP 29 0 30 L S h Q) := wp_bN zc_eq rfl rfl rfl
theorem s29_26 : WP 29 0 26 L S h Q ↔ WP 29 0 27 L (vI (-1) :: S) h Q := wp_pl rfl rfl rfl
theorem s29_27 : WP 29 0 27 L S h Q ↔ WP 29 0 32 L S h Q := wp_pl rfl rfl rfl
theorem s29_30 : WP 29 0 30 L S h Q ↔ WP 29 0 32 L (vI (-2) :: S) h Q := wp_pl rfl rfl rfl
theorem s29_32 : WP 29 0 32 L [vI x] h Q ↔ Q (.inl (some (vI x))) h := wp_iret0 rfl rfl
theorem s29_33 : WP 29 0 33 [vA r, a1, a2, a3] S h Q ↔ WP 29 0 34 [vA r, a1, a2, a3] (vA r :: S) h Q := wp_aload rfl rfl
theorem s29_34 : WP 29 0 34 [a0, vI x, a2, a3] S h Q ↔ WP 29 0 35 [a0, vI x, a2, a3] (vI x :: S) h Q := wp_iload rfl rfl
theorem s29_35 : WP 29 0 35 L S h Q ↔ WP 29 0 36 L (vI 1 :: S) h Q := wp_pl rfl rfl rfl
theorem s29_36 : WP 29 0 36 L (vI y :: vI x :: S) h Q ↔ WP 29 0 37 L (vI (wr (x + y)) :: S) h Q := wp_pl rfl rfl rfl
theorem s29_37 : WP 29 0 37 L (vI x0 :: vA (some a) :: S) h Q ↔ ((hk h a).1 = 100 ∧ (zw S ≤ 8 ∧ WP 31 0 0 [vA (some a), vI x0, vJ, vJ, vJ] [] h (zret 29 0 37 40 L S Q))) := wp_V1 (c := 100) rfl rfl (fun _ => rfl) rfl rfl (zcan_of rfl rfl) rfl rfl rfl
theorem s29_40 : WP 29 0 40 [a0, a1, a2, a3] (vI x :: S) h Q ↔ WP 29 0 41 [a0, a1, a2, vI x] S h Q := wp_istore rfl rfl rfl
theorem s29_41 : WP 29 0 41 [a0, a1, a2, vI x] S h Q ↔ WP 29 0 42 [a0, a1, a2, vI x] (vI x :: S) h Q := wp_iload rfl rfl
theorem s29_42 : WP 29 0 42 L S h Q ↔ WP 29 0 44 L (vI (-2) :: S) h Q := wp_pl rfl rfl rfl
theorem s29_44 : WP 29 0 44 L (vI y :: vI x :: S) h Q ↔ zif (x = y) (WP 29 0 47 L S h Q) (WP 29 0 52 L S h Q) := wp_bN zc_eq rfl rfl rfl
theorem s29_47 : WP 29 0 47 L S h Q ↔ WP 29 0 49 L (vI (-2) :: S) h Q := wp_pl rfl rfl rfl
theorem s29_49 : WP 29 0 49 L S h Q ↔ WP 29 0 59 L S h Q := wp_pl rfl rfl rfl
theorem s29_52 : WP 29 0 52 L S h Q ↔ WP 29 0 55 L (vI 1000 :: S) h Q := wp_pl rfl rfl rfl
theorem s29_55 : WP 29 0 55 [a0, a1, a2, vI x] S h Q ↔ WP 29 0 56 [a0, a1, a2, vI x] (vI x :: S) h Q := wp_iload rfl rfl
theorem s29_56 : WP 29 0 56 L (vI y :: vI x :: S) h Q ↔ WP 29 0 57 L (vI (wr (x * y)) :: S) h Q := wp_pl rfl rfl rfl
theorem s29_57 : WP 29 0 57 [a0, a1, vI x, a3] S h Q ↔ WP 29 0 58 [a0, a1, vI x, a3] (vI x :: S) h Q := wp_iload rfl rfl
theorem s29_58 : WP 29 0 58 L (vI y :: vI x :: S) h Q ↔ (¬ y = 0 ∧ WP 29 0 59 L (vI (wr (x.tdiv y)) :: S) h Q) := wp_ifx rfl rfl rfl
theorem s29_59 : WP 29 0 59 L [vI x] h Q ↔ Q (.inl (some (vI x))) h := wp_iret0 rfl rfl
/-! RepeatFree.has(II)Z -/
theorem s30_0 : WP 30 0 0 [vI x, a1] S h Q ↔ WP 30 0 1 [vI x, a1] (vI x :: S) h Q := wp_iload rfl rfl
theorem s30_1 : WP 30 0 1 [a0, vI x] S h Q ↔ WP 30 0 2 [a0, vI x] (vI x :: S) h Q := wp_iload rfl rfl
theorem s30_2 : WP 30 0 2 L (vI y :: vI x :: S) h Q ↔ WP 30 0 3 L (vI (zshr x y) :: S) h Q := wp_pl rfl rfl rfl
theorem s30_3 : WP 30 0 3 L S h Q ↔ WP 30 0 4 L (vI 1 :: S) h Q := wp_pl rfl rfl rfl
theorem s30_4 : WP 30 0 4 L (vI y :: vI x :: S) h Q ↔ WP 30 0 5 L (vI (zand x y) :: S) h Q := wp_pl rfl rfl rfl
theorem s30_5 : WP 30 0 5 L S h Q ↔ WP 30 0 6 L (vI 1 :: S) h Q := wp_pl rfl rfl rfl
theorem s30_6 : WP 30 0 6 L (vI y :: vI x :: S) h Q ↔ zif (x = y) (WP 30 0 9 L S h Q) (WP 30 0 13 L S h Q) := wp_bN zc_eq rfl rfl rfl
theorem s30_9 : WP 30 0 9 L S h Q ↔ WP 30 0 10 L (vI 1 :: S) h Q := wp_pl rfl rfl rfl
theorem s30_10 : WP 30 0 10 L S h Q ↔ WP 30 0 14 L S h Q := wp_pl rfl rfl rfl
theorem s30_13 : WP 30 0 13 L S h Q ↔ WP 30 0 14 L (vI 0 :: S) h Q := wp_pl rfl rfl rfl
theorem s30_14 : WP 30 0 14 L [vI x] h Q ↔ ((x = 0 ∨ x = 1) ∧ Q (.inl (some (vI x))) h) := wp_iret rfl rfl
/-! RepeatFree.howMany(I)I -/
theorem s31_0 : WP 31 0 0 [a0, vI x, a2, a3, a4] S h Q ↔ WP 31 0 1 [a0, vI x, a2, a3, a4] (vI x :: S) h Q := wp_iload rfl rfl
theorem s31_1 : WP 31 0 1 L (vI x :: S) h Q ↔ zif (x = 0) (WP 31 0 4 L S h Q) (WP 31 0 6 L S h Q) := wp_bN zc_eq rfl rfl rfl
theorem s31_4 : WP 31 0 4 L S h Q ↔ WP 31 0 5 L (vI 1 :: S) h Q := wp_pl rfl rfl rfl
theorem s31_5 : WP 31 0 5 L [vI x] h Q ↔ Q (.inl (some (vI x))) h := wp_iret0 rfl rfl
theorem s31_6 : WP 31 0 6 L S h Q ↔ WP 31 0 9 L (vA (some (hn h)) :: S) (hnew h (106, 0) 4 zdf) Q := wp_pl rfl rfl rfl
theorem s31_9 : WP 31 0 9 L (vA r :: S) h Q ↔ WP 31 0 10 L (vA r :: vA r :: S) h Q := wp_pl rfl rfl rfl
theorem s31_9i : WP 31 0 9 L (vI x :: S) h Q ↔ WP 31 0 10 L (vI x :: vI x :: S) h Q := wp_pl rfl rfl rfl
theorem s31_10 : WP 31 0 10 [vA r, a1, a2, a3, a4] S h Q ↔ WP 31 0 11 [vA r, a1, a2, a3, a4] (vA r :: S) h Q := wp_aload rfl rfl
theorem s31_11 : WP 31 0 11 L S h Q ↔ WP 31 0 14 L (vA (some (hn h)) :: S) (hnew h (102, 0) 2 zdf) Q := wp_pl rfl rfl rfl
theorem s31_14 : WP 31 0 14 L (vA r :: S) h Q ↔ WP 31 0 15 L (vA r :: vA r :: S) h Q := wp_pl rfl rfl rfl
theorem s31_14i : WP 31 0 14 L (vI x :: S) h Q ↔ WP 31 0 15 L (vI x :: vI x :: S) h Q := wp_pl rfl rfl rfl
theorem s31_15 : WP 31 0 15 L (vA (some a) :: S) h Q ↔ ((zNC ≤ a ∧ 100 ≤ (hk h a).1) ∧ zw S ≤ 8 ∧ WP 100 0 0 [vA (some a)] [] h (zret 31 0 15 18 L S Q)) := wp_I rfl rfl rfl (zcan_of rfl rfl) rfl rfl rfl
theorem s31_18 : WP 31 0 18 L (vA r1 :: vA r0 :: vA (some a) :: S) h Q ↔ ((zNC ≤ a ∧ 100 ≤ (hk h a).1) ∧ zw S ≤ 8 ∧ WP 117 0 0 [vA (some a), vA r0, vA r1] [] h (zret 31 0 18 21 L S Q)) := wp_I rfl rfl rfl (zcan_of rfl rfl) rfl rfl rfl
theorem s31_21 : WP 31 0 21 [a0, a1, a2, a3, a4] (vA r :: S) h Q ↔ WP 31 0 22 [a0, a1, vA r, a3, a4] S h Q := wp_astore rfl rfl rfl
theorem s31_22 : WP 31 0 22 L S h Q ↔ WP 31 0 23 L (vI 0 :: S) h Q := wp_pl rfl rfl rfl
theorem s31_23 : WP 31 0 23 [a0, a1, a2, a3, a4] (vI x :: S) h Q ↔ WP 31 0 24 [a0, a1, a2, vI x, a4] S h Q := wp_istore rfl rfl rfl
theorem s31_24 : WP 31 0 24 [a0, a1, vA r, a3, a4] S h Q ↔ WP 31 0 25 [a0, a1, vA r, a3, a4] (vA r :: S) h Q := wp_aload rfl rfl
theorem s31_25 : WP 31 0 25 [a0, vI x, a2, a3, a4] S h Q ↔ WP 31 0 26 [a0, vI x, a2, a3, a4] (vI x :: S) h Q := wp_iload rfl rfl
theorem s31_26 : WP 31 0 26 L S h Q ↔ WP 31 0 27 L (vI 0 :: S) h Q := wp_pl rfl rfl rfl
theorem s31_27 : WP 31 0 27 L S h Q ↔ WP 31 0 28 L (vI 0 :: S) h Q := wp_pl rfl rfl rfl
theorem s31_28 : WP 31 0 28 L (vI x2 :: vI x1 :: vI x0 :: vA (some a) :: S) h Q ↔ ((hk h a).1 = 106 ∧ (zw S ≤ 8 ∧ WP 115 0 0 [vA (some a), vI x0, vI x1, vI x2, vJ, vJ] [] h (zret 31 0 28 31 L S Q))) := wp_V1 (c := 106) rfl rfl (fun _ => rfl) rfl rfl (zcan_of rfl rfl) rfl rfl rfl
theorem s31_31 : WP 31 0 31 [a0, a1, a2, a3, a4] (vI x :: S) h Q ↔ WP 31 0 33 [a0, a1, a2, a3, vI x] S h Q := wp_istore rfl rfl rfl
theorem s31_33 : WP 31 0 33 [a0, a1, a2, a3, vI x] S h Q ↔ WP 31 0 35 [a0, a1, a2, a3, vI x] (vI x :: S) h Q := wp_iload rfl rfl
theorem s31_35 : WP 31 0 35 L (vI x :: S) h Q ↔ zif (x = 0) (WP 31 0 52 L S h Q) (WP 31 0 38 L S h Q) := wp_bE zc_eq rfl rfl rfl
theorem s31_38 : WP 31 0 38 [a0, a1, a2, vI x, a4] S h Q ↔ WP 31 0 41 [a0, a1, a2, vI (wr (x + 1)), a4] S h Q := wp_iinc rfl rfl rfl
theorem s31_41 : WP 31 0 41 [a0, a1, vA r, a3, a4] S h Q ↔ WP 31 0 42 [a0, a1, vA r, a3, a4] (vA r :: S) h Q := wp_aload rfl rfl
theorem s31_42 : WP 31 0 42 [a0, vI x, a2, a3, a4] S h Q ↔ WP 31 0 43 [a0, vI x, a2, a3, a4] (vI x :: S) h Q := wp_iload rfl rfl
theorem s31_43 : WP 31 0 43 L S h Q ↔ WP 31 0 44 L (vI 0 :: S) h Q := wp_pl rfl rfl rfl
theorem s31_44 : WP 31 0 44 L (vI x1 :: vI x0 :: vA (some a) :: S) h Q ↔ ((hk h a).1 = 106 ∧ (zw S ≤ 8 ∧ WP 116 0 0 [vA (some a), vI x0, vI x1] [] h (zret 31 0 44 47 L S Q))) := wp_V1 (c := 106) rfl rfl (fun _ => rfl) rfl rfl (zcan_of rfl rfl) rfl rfl rfl
theorem s31_47 : WP 31 0 47 [a0, a1, a2, a3, a4] (vI x :: S) h Q ↔ WP 31 0 49 [a0, a1, a2, a3, vI x] S h Q := wp_istore rfl rfl rfl
theorem s31_49 : WP 31 0 49 L S h Q ↔ WP 31 0 33 L S h Q := wp_pl rfl rfl rfl
theorem s31_52 : WP 31 0 52 [a0, a1, vA r, a3, a4] S h Q ↔ WP 31 0 53 [a0, a1, vA r, a3, a4] (vA r :: S) h Q := wp_aload rfl rfl
theorem s31_53 : WP 31 0 53 L (vA (some a) :: S) h Q ↔ (zhas 28 (hk h a) = true ∧ WP 31 0 56 L (hm h a 28 :: S) h Q) := wp_if rfl rfl rfl
theorem s31_56 : WP 31 0 56 L (vI x :: S) h Q ↔ zif (x = 0) (WP 31 0 64 L S h Q) (WP 31 0 59 L S h Q) := wp_bE zc_eq rfl rfl rfl
theorem s31_59 : WP 31 0 59 L S h Q ↔ WP 31 0 61 L (vI (-2) :: S) h Q := wp_pl rfl rfl rfl
theorem s31_61 : WP 31 0 61 L S h Q ↔ WP 31 0 65 L S h Q := wp_pl rfl rfl rfl
theorem s31_64 : WP 31 0 64 [a0, a1, a2, vI x, a4] S h Q ↔ WP 31 0 65 [a0, a1, a2, vI x, a4] (vI x :: S) h Q := wp_iload rfl rfl
theorem s31_65 : WP 31 0 65 L [vI x] h Q ↔ Q (.inl (some (vI x))) h := wp_iret0 rfl rfl
/-! RepeatFree.image(I)I -/
theorem s32_0 : WP 32 0 0 [vA r, a1, a2] S h Q ↔ WP 32 0 1 [vA r, a1, a2] (vA r :: S) h Q := wp_aload rfl rfl
theorem s32_1 : WP 32 0 1 [a0, vI x, a2] S h Q ↔ WP 32 0 2 [a0, vI x, a2] (vI x :: S) h Q := wp_iload rfl rfl
theorem s32_2 : WP 32 0 2 L (vI x0 :: vA (some a) :: S) h Q ↔ ((hk h a).1 = 100 ∧ (zw S ≤ 8 ∧ WP 59 0 0 [vA (some a), vI x0] [] h (zret 32 0 2 5 L S Q))) := wp_V1 (c := 100) rfl rfl (fun _ => rfl) rfl rfl (zcan_of rfl rfl) rfl rfl rfl
theorem s32_5 : WP 32 0 5 [a0, a1, a2] (vA r :: S) h Q ↔ WP 32 0 6 [a0, a1, vA r] S h Q := wp_astore rfl rfl rfl
theorem s32_6 : WP 32 0 6 [vA r, a1, a2] S h Q ↔ WP 32 0 7 [vA r, a1, a2] (vA r :: S) h Q := wp_aload rfl rfl
theorem s32_7 : WP 32 0 7 [a0, a1, vA r] S h Q ↔ WP 32 0 8 [a0, a1, vA r] (vA r :: S) h Q := wp_aload rfl rfl
theorem s32_8 : WP 32 0 8 [vA r, a1, a2] S h Q ↔ WP 32 0 9 [vA r, a1, a2] (vA r :: S) h Q := wp_aload rfl rfl
theorem s32_9 : WP 32 0 9 L (vA (some a) :: S) h Q ↔ (zhas 6 (hk h a) = true ∧ WP 32 0 12 L (hm h a 6 :: S) h Q) := wp_if rfl rfl rfl
theorem s32_12 : WP 32 0 12 L (vA r1 :: vA r0 :: vA (some a) :: S) h Q ↔ ((hk h a).1 = 100 ∧ (zw S ≤ 8 ∧ WP 48 0 0 [vA (some a), vA r0, vA r1, vJ, vJ, vJ] [] h (zret 32 0 12 15 L S Q))) := wp_V1 (c := 100) rfl rfl (fun _ => rfl) rfl rfl (zcan_of rfl rfl) rfl rfl rfl
theorem s32_15 : WP 32 0 15 L (vI x0 :: S) h Q ↔ (zw S ≤ 8 ∧ WP 9 0 0 [vI x0] [] h (zret 32 0 15 18 L S Q)) := wp_S rfl rfl (zcan_of rfl rfl) rfl rfl rfl
theorem s32_18 : WP 32 0 18 [vA r, a1, a2] S h Q ↔ WP 32 0 19 [vA r, a1, a2] (vA r :: S) h Q := wp_aload rfl rfl
theorem s32_19 : WP 32 0 19 [vA r, a1, a2] S h Q ↔ WP 32 0 20 [vA r, a1, a2] (vA r :: S) h Q := wp_aload rfl rfl
theorem s32_20 : WP 32 0 20 L (vA (some a) :: S) h Q ↔ (zhas 9 (hk h a) = true ∧ WP 32 0 23 L (hm h a 9 :: S) h Q) := wp_if rfl rfl rfl
theorem s32_23 : WP 32 0 23 L (vA (some a) :: S) h Q ↔ ((hk h a).1 = 102 ∧ (zw S ≤ 8 ∧ WP 102 0 0 [vA (some a), vJ] [] h (zret 32 0 23 26 L S Q))) := wp_V1 (c := 102) rfl rfl (fun _ => rfl) rfl rfl (zcan_of rfl rfl) rfl rfl rfl
theorem s32_26 : WP 32 0 26 L (vA r0 :: vA (some a) :: S) h Q ↔ ((hk h a).1 = 100 ∧ (zw S ≤ 8 ∧ WP 4 0 0 [vA (some a), vA r0] [] h (zret 32 0 26 29 L S Q))) := wp_V1 (c := 100) rfl rfl (fun _ => rfl) rfl rfl (zcan_of rfl rfl) rfl rfl rfl
theorem s32_29 : WP 32 0 29 [vA r, a1, a2] S h Q ↔ WP 32 0 30 [vA r, a1, a2] (vA r :: S) h Q := wp_aload rfl rfl
theorem s32_30 : WP 32 0 30 L (vA (some a) :: S) h Q ↔ (zhas 6 (hk h a) = true ∧ WP 32 0 33 L (hm h a 6 :: S) h Q) := wp_if rfl rfl rfl
theorem s32_33 : WP 32 0 33 L (vA (some a) :: S) h Q ↔ (zhas 15 (hk h a) = true ∧ WP 32 0 36 L (hm h a 15 :: S) h Q) := wp_if rfl rfl rfl
theorem s32_36 : WP 32 0 36 L [vI x] h Q ↔ Q (.inl (some (vI x))) h := wp_iret0 rfl rfl
/-! RepeatFree.imaged(III)I -/
theorem s33_0 : WP 33 0 0 [vA r, a1, a2, a3, a4, a5] S h Q ↔ WP 33 0 1 [vA r, a1, a2, a3, a4, a5] (vA r :: S) h Q := wp_aload rfl rfl
theorem s33_1 : WP 33 0 1 [a0, vI x, a2, a3, a4, a5] S h Q ↔ WP 33 0 2 [a0, vI x, a2, a3, a4, a5] (vI x :: S) h Q := wp_iload rfl rfl
theorem s33_2 : WP 33 0 2 L (vI x0 :: vA (some a) :: S) h Q ↔ ((hk h a).1 = 100 ∧ (zw S ≤ 8 ∧ WP 59 0 0 [vA (some a), vI x0] [] h (zret 33 0 2 5 L S Q))) := wp_V1 (c := 100) rfl rfl (fun _ => rfl) rfl rfl (zcan_of rfl rfl) rfl rfl rfl
theorem s33_5 : WP 33 0 5 [a0, a1, a2, a3, a4, a5] (vA r :: S) h Q ↔ WP 33 0 7 [a0, a1, a2, a3, vA r, a5] S h Q := wp_astore rfl rfl rfl
theorem s33_7 : WP 33 0 7 [vA r, a1, a2, a3, a4, a5] S h Q ↔ WP 33 0 8 [vA r, a1, a2, a3, a4, a5] (vA r :: S) h Q := wp_aload rfl rfl
theorem s33_8 : WP 33 0 8 [a0, a1, vI x, a3, a4, a5] S h Q ↔ WP 33 0 9 [a0, a1, vI x, a3, a4, a5] (vI x :: S) h Q := wp_iload rfl rfl
theorem s33_9 : WP 33 0 9 L (vI x0 :: vA (some a) :: S) h Q ↔ ((hk h a).1 = 100 ∧ (zw S ≤ 8 ∧ WP 40 0 0 [vA (some a), vI x0] [] h (zret 33 0 9 12 L S Q))) := wp_V1 (c := 100) rfl rfl (fun _ => rfl) rfl rfl (zcan_of rfl rfl) rfl rfl rfl
theorem s33_12 : WP 33 0 12 L (vI x0 :: S) h Q ↔ (zw S ≤ 8 ∧ WP 62 0 0 [vI x0] [] h (zret 33 0 12 15 L S Q)) := wp_S rfl rfl (zcan_of rfl rfl) rfl rfl rfl
theorem s33_15 : WP 33 0 15 [a0, a1, a2, a3, vA r, a5] S h Q ↔ WP 33 0 17 [a0, a1, a2, a3, vA r, a5] (vA r :: S) h Q := wp_aload rfl rfl
theorem s33_17 : WP 33 0 17 L (vA (some a) :: S) h Q ↔ (zhas 20 (hk h a) = true ∧ WP 33 0 20 L (hm h a 20 :: S) h Q) := wp_if rfl rfl rfl
theorem s33_20 : WP 33 0 20 [a0, a1, vI x, a3, a4, a5] S h Q ↔ WP 33 0 21 [a0, a1, vI x, a3, a4, a5] (vI x :: S) h Q := wp_iload rfl rfl
theorem s33_21 : WP 33 0 21 L (vI x :: vA (some a) :: S) h Q ↔ ((((5 ≤ (hk h a).1 ∧ (hk h a).1 ≤ 7) ∧ 0 ≤ x ∧ x < ((hk h a).2 : Int)) ∨ ((hk h a).1 = 8 ∧ 128 ≤ x ∧ x < 144)) ∧ WP 33 0 22 L (hm h a x.toNat :: S) h Q) := wp_if rfl rfl rfl
theorem s33_22 : WP 33 0 22 [a0, a1, a2, a3, a4, a5] (vA r :: S) h Q ↔ WP 33 0 24 [a0, a1, a2, a3, a4, vA r] S h Q := wp_astore rfl rfl rfl
theorem s33_24 : WP 33 0 24 [a0, a1, a2, vI x, a4, a5] S h Q ↔ WP 33 0 25 [a0, a1, a2, vI x, a4, a5] (vI x :: S) h Q := wp_iload rfl rfl
theorem s33_25 : WP 33 0 25 L S h Q ↔ WP 33 0 26 L (vI (-1) :: S) h Q := wp_pl rfl rfl rfl
theorem s33_26 : WP 33 0 26 L (vI y :: vI x :: S) h Q ↔ zif (x = y) (WP 33 0 29 L S h Q) (WP 33 0 35 L S h Q) := wp_bN zc_eq rfl rfl rfl
theorem s33_29 : WP 33 0 29 [a0, a1, a2, a3, a4, vA r] S h Q ↔ WP 33 0 31 [a0, a1, a2, a3, a4, vA r] (vA r :: S) h Q := wp_aload rfl rfl
theorem s33_31 : WP 33 0 31 L (vA (some a) :: S) h Q ↔ ((1 ≤ (hk h a).1 ∧ (hk h a).1 ≤ 7) ∧ WP 33 0 32 L (vI ((hk h a).2 : Int) :: S) h Q) := wp_if rfl rfl rfl
theorem s33_32 : WP 33 0 32 L S h Q ↔ WP 33 0 58 L S h Q := wp_pl rfl rfl rfl
theorem s33_35 : WP 33 0 35 [a0, a1, a2, vI x, a4, a5] S h Q ↔ WP 33 0 36 [a0, a1, a2, vI x, a4, a5] (vI x :: S) h Q := wp_iload rfl rfl
theorem s33_36 : WP 33 0 36 L (vI x :: S) h Q ↔ WP 33 0 37 L (vL x :: S) h Q := wp_pl rfl rfl rfl
theorem s33_37 : WP 33 0 37 L S h Q ↔ WP 33 0 38 L (vL 0 :: S) h Q := wp_pl rfl rfl rfl
theorem s33_38 : WP 33 0 38 [a0, a1, a2, a3, a4, vA r] S h Q ↔ WP 33 0 40 [a0, a1, a2, a3, a4, vA r] (vA r :: S) h Q := wp_aload rfl rfl
theorem s33_40 : WP 33 0 40 L (vA (some a) :: S) h Q ↔ ((1 ≤ (hk h a).1 ∧ (hk h a).1 ≤ 7) ∧ WP 33 0 41 L (vI ((hk h a).2 : Int) :: S) h Q) := wp_if rfl rfl rfl
theorem s33_41 : WP 33 0 41 L S h Q ↔ WP 33 0 42 L (vI 1 :: S) h Q := wp_pl rfl rfl rfl
theorem s33_42 : WP 33 0 42 L (vI y :: vI x :: S) h Q ↔ WP 33 0 43 L (vI (wr (x - y)) :: S) h Q := wp_pl rfl rfl rfl
theorem s33_43 : WP 33 0 43 L (vI x :: S) h Q ↔ WP 33 0 44 L (vL x :: S) h Q := wp_pl rfl rfl rfl
theorem s33_44 : WP 33 0 44 L (vL x2 :: vL x1 :: vL x0 :: S) h Q ↔ (zw S ≤ 8 ∧ WP 38 0 0 [vL x0, vJ, vL x1, vJ, vL x2, vJ] [] h (zret 33 0 44 47 L S Q)) := wp_S rfl rfl (zcan_of rfl rfl) rfl rfl rfl
theorem s33_47 : WP 33 0 47 L (vI x :: S) h Q ↔ zif (x = 0) (WP 33 0 57 L S h Q) (WP 33 0 50 L S h Q) := wp_bE zc_eq rfl rfl rfl
theorem s33_50 : WP 33 0 50 [a0, a1, a2, a3, a4, vA r] S h Q ↔ WP 33 0 52 [a0, a1, a2, a3, a4, vA r] (vA r :: S) h Q := wp_aload rfl rfl
theorem s33_52 : WP 33 0 52 [a0, a1, a2, vI x, a4, a5] S h Q ↔ WP 33 0 53 [a0, a1, a2, vI x, a4, a5] (vI x :: S) h Q := wp_iload rfl rfl
theorem s33_53 : WP 33 0 53 L (vI x :: vA (some a) :: S) h Q ↔ ((((hk h a).1 = 2 ∨ (hk h a).1 = 3) ∧ 0 ≤ x ∧ x < ((hk h a).2 : Int)) ∧ WP 33 0 54 L (hm h a x.toNat :: S) h Q) := wp_if rfl rfl rfl
theorem s33_54 : WP 33 0 54 L S h Q ↔ WP 33 0 58 L S h Q := wp_pl rfl rfl rfl
theorem s33_57 : WP 33 0 57 L S h Q ↔ WP 33 0 58 L (vI (-1) :: S) h Q := wp_pl rfl rfl rfl
theorem s33_58 : WP 33 0 58 L [vI x] h Q ↔ Q (.inl (some (vI x))) h := wp_iret0 rfl rfl
/-! RepeatFree.<init>()V -/
theorem s34_0 : WP 34 0 0 [vA r] S h Q ↔ WP 34 0 1 [vA r] (vA r :: S) h Q := wp_aload rfl rfl
theorem s34_1 : WP 34 0 1 L (vA (some a) :: S) h Q ↔ ((zw S ≤ 8 ∧ zNC ≤ a) ∧ WP 34 0 4 L S h Q) := wp_if rfl rfl rfl
theorem s34_4 : WP 34 0 4 [vA r] S h Q ↔ WP 34 0 5 [vA r] (vA r :: S) h Q := wp_aload rfl rfl
theorem s34_5 : WP 34 0 5 L S h Q ↔ WP 34 0 8 L (vI 400 :: S) h Q := wp_pl rfl rfl rfl
theorem s34_8 : WP 34 0 8 L (vI x :: S) h Q ↔ ((0 ≤ x ∧ x ≤ 1000000) ∧ WP 34 0 10 L (vA (some (hn h)) :: S) (hnew h (2, x.toNat) x.toNat (fun _ => vI 0)) Q) := wp_if rfl rfl rfl
theorem s34_10 : WP 34 0 10 L (vA r :: vA (some a) :: S) h Q ↔ ((zNC ≤ a ∧ zhas 1 (hk h a) = true) ∧ WP 34 0 13 L S (hput h a 1 (vA r)) Q) := wp_put3 rfl rfl
theorem s34_13 : WP 34 0 13 [vA r] S h Q ↔ WP 34 0 14 [vA r] (vA r :: S) h Q := wp_aload rfl rfl
theorem s34_14 : WP 34 0 14 L S h Q ↔ WP 34 0 15 L (vI (-1) :: S) h Q := wp_pl rfl rfl rfl
theorem s34_15 : WP 34 0 15 L (vI x :: vA (some a) :: S) h Q ↔ ((zNC ≤ a ∧ zhas 3 (hk h a) = true) ∧ WP 34 0 18 L S (hput h a 3 (vI x)) Q) := wp_put0 rfl rfl
theorem s34_18 : WP 34 0 18 [vA r] S h Q ↔ WP 34 0 19 [vA r] (vA r :: S) h Q := wp_aload rfl rfl
theorem s34_19 : WP 34 0 19 L S h Q ↔ WP 34 0 22 L (vA (some (hn h)) :: S) (hnew h (101, 0) 4 zdf) Q := wp_pl rfl rfl rfl
theorem s34_22 : WP 34 0 22 L (vA r :: S) h Q ↔ WP 34 0 23 L (vA r :: vA r :: S) h Q := wp_pl rfl rfl rfl
theorem s34_22i : WP 34 0 22 L (vI x :: S) h Q ↔ WP 34 0 23 L (vI x :: vI x :: S) h Q := wp_pl rfl rfl rfl
theorem s34_23 : WP 34 0 23 L (vA (some a) :: S) h Q ↔ ((zNC ≤ a ∧ 100 ≤ (hk h a).1) ∧ zw S ≤ 8 ∧ WP 93 0 0 [vA (some a)] [] h (zret 34 0 23 26 L S Q)) := wp_I rfl rfl rfl (zcan_of rfl rfl) rfl rfl rfl
theorem s34_26 : WP 34 0 26 L (vA r :: vA (some a) :: S) h Q ↔ ((zNC ≤ a ∧ zhas 4 (hk h a) = true) ∧ WP 34 0 29 L S (hput h a 4 (vA r)) Q) := wp_put3 rfl rfl
theorem s34_29 : WP 34 0 29 [vA r] S h Q ↔ WP 34 0 30 [vA r] (vA r :: S) h Q := wp_aload rfl rfl
theorem s34_30 : WP 34 0 30 L S h Q ↔ WP 34 0 31 L (vI 0 :: S) h Q := wp_pl rfl rfl rfl
theorem s34_31 : WP 34 0 31 L (vI x :: S) h Q ↔ ((0 ≤ x ∧ x ≤ 1000000) ∧ WP 34 0 34 L (vA (some (hn h)) :: S) (hnew h (6, x.toNat) x.toNat (fun _ => vA none)) Q) := wp_anew rfl rfl rfl
theorem s34_34 : WP 34 0 34 L (vA r :: vA (some a) :: S) h Q ↔ ((zNC ≤ a ∧ zhas 5 (hk h a) = true) ∧ WP 34 0 37 L S (hput h a 5 (vA r)) Q) := wp_put3 rfl rfl
theorem s34_37 : WP 34 0 37 [vA r] S h Q ↔ WP 34 0 38 [vA r] (vA r :: S) h Q := wp_aload rfl rfl
theorem s34_38 : WP 34 0 38 L S h Q ↔ WP 34 0 41 L (vA (some (hn h)) :: S) (hnew h (102, 0) 2 zdf) Q := wp_pl rfl rfl rfl
theorem s34_41 : WP 34 0 41 L (vA r :: S) h Q ↔ WP 34 0 42 L (vA r :: vA r :: S) h Q := wp_pl rfl rfl rfl
theorem s34_41i : WP 34 0 41 L (vI x :: S) h Q ↔ WP 34 0 42 L (vI x :: vI x :: S) h Q := wp_pl rfl rfl rfl
theorem s34_42 : WP 34 0 42 L (vA (some a) :: S) h Q ↔ ((zNC ≤ a ∧ 100 ≤ (hk h a).1) ∧ zw S ≤ 8 ∧ WP 100 0 0 [vA (some a)] [] h (zret 34 0 42 45 L S Q)) := wp_I rfl rfl rfl (zcan_of rfl rfl) rfl rfl rfl
theorem s34_45 : WP 34 0 45 L (vA r :: vA (some a) :: S) h Q ↔ ((zNC ≤ a ∧ zhas 6 (hk h a) = true) ∧ WP 34 0 48 L S (hput h a 6 (vA r)) Q) := wp_put3 rfl rfl
theorem s34_48 : WP 34 0 48 [vA r] S h Q ↔ WP 34 0 49 [vA r] (vA r :: S) h Q := wp_aload rfl rfl
theorem s34_49 : WP 34 0 49 L S h Q ↔ WP 34 0 52 L (vA (some (hn h)) :: S) (hnew h (114, 0) 3 zdf) Q := wp_pl rfl rfl rfl
theorem s34_52 : WP 34 0 52 L (vA r :: S) h Q ↔ WP 34 0 53 L (vA r :: vA r :: S) h Q := wp_pl rfl rfl rfl
theorem s34_52i : WP 34 0 52 L (vI x :: S) h Q ↔ WP 34 0 53 L (vI x :: vI x :: S) h Q := wp_pl rfl rfl rfl
theorem s34_53 : WP 34 0 53 L (vA (some a) :: S) h Q ↔ ((zNC ≤ a ∧ 100 ≤ (hk h a).1) ∧ zw S ≤ 8 ∧ WP 284 0 0 [vA (some a)] [] h (zret 34 0 53 56 L S Q)) := wp_I rfl rfl rfl (zcan_of rfl rfl) rfl rfl rfl
theorem s34_56 : WP 34 0 56 L (vA r :: vA (some a) :: S) h Q ↔ ((zNC ≤ a ∧ zhas 7 (hk h a) = true) ∧ WP 34 0 59 L S (hput h a 7 (vA r)) Q) := wp_put3 rfl rfl
theorem s34_59 : WP 34 0 59 [vA r] S h Q ↔ WP 34 0 60 [vA r] (vA r :: S) h Q := wp_aload rfl rfl
theorem s34_60 : WP 34 0 60 L S h Q ↔ WP 34 0 63 L (vA (some (hn h)) :: S) (hnew h (102, 0) 2 zdf) Q := wp_pl rfl rfl rfl
theorem s34_63 : WP 34 0 63 L (vA r :: S) h Q ↔ WP 34 0 64 L (vA r :: vA r :: S) h Q := wp_pl rfl rfl rfl
theorem s34_63i : WP 34 0 63 L (vI x :: S) h Q ↔ WP 34 0 64 L (vI x :: vI x :: S) h Q := wp_pl rfl rfl rfl
theorem s34_64 : WP 34 0 64 L (vA (some a) :: S) h Q ↔ ((zNC ≤ a ∧ 100 ≤ (hk h a).1) ∧ zw S ≤ 8 ∧ WP 100 0 0 [vA (some a)] [] h (zret 34 0 64 67 L S Q)) := wp_I rfl rfl rfl (zcan_of rfl rfl) rfl rfl rfl
theorem s34_67 : WP 34 0 67 L (vA r :: vA (some a) :: S) h Q ↔ ((zNC ≤ a ∧ zhas 8 (hk h a) = true) ∧ WP 34 0 70 L S (hput h a 8 (vA r)) Q) := wp_put3 rfl rfl
theorem s34_70 : WP 34 0 70 [vA r] S h Q ↔ WP 34 0 71 [vA r] (vA r :: S) h Q := wp_aload rfl rfl
theorem s34_71 : WP 34 0 71 L S h Q ↔ WP 34 0 74 L (vA (some (hn h)) :: S) (hnew h (102, 0) 2 zdf) Q := wp_pl rfl rfl rfl
theorem s34_74 : WP 34 0 74 L (vA r :: S) h Q ↔ WP 34 0 75 L (vA r :: vA r :: S) h Q := wp_pl rfl rfl rfl
theorem s34_74i : WP 34 0 74 L (vI x :: S) h Q ↔ WP 34 0 75 L (vI x :: vI x :: S) h Q := wp_pl rfl rfl rfl
theorem s34_75 : WP 34 0 75 L (vA (some a) :: S) h Q ↔ ((zNC ≤ a ∧ 100 ≤ (hk h a).1) ∧ zw S ≤ 8 ∧ WP 100 0 0 [vA (some a)] [] h (zret 34 0 75 78 L S Q)) := wp_I rfl rfl rfl (zcan_of rfl rfl) rfl rfl rfl
theorem s34_78 : WP 34 0 78 L (vA r :: vA (some a) :: S) h Q ↔ ((zNC ≤ a ∧ zhas 9 (hk h a) = true) ∧ WP 34 0 81 L S (hput h a 9 (vA r)) Q) := wp_put3 rfl rfl
theorem s34_81 : WP 34 0 81 L [] h Q ↔ Q (.inl none) h := wp_ret rfl
/-! RepeatFree.isAll(LRepeatFree$Pattern;I[I)Z -/
theorem s35_0 : WP 35 0 0 L S h Q ↔ WP 35 0 1 L (vI 0 :: S) h Q := wp_pl rfl rfl rfl
theorem s35_1 : WP 35 0 1 [a0, a1, a2, a3, a4, a5] (vI x :: S) h Q ↔ WP 35 0 3 [a0, a1, a2, a3, vI x, a5] S h Q := wp_istore rfl rfl rfl
theorem s35_3 : WP 35 0 3 L S h Q ↔ WP 35 0 4 L (vI 0 :: S) h Q := wp_pl rfl rfl rfl
theorem s35_4 : WP 35 0 4 [a0, a1, a2, a3, a4, a5] (vI x :: S) h Q ↔ WP 35 0 6 [a0, a1, a2, a3, a4, vI x] S h Q := wp_istore rfl rfl rfl
theorem s35_6 : WP 35 0 6 [a0, a1, a2, a3, a4, vI x] S h Q ↔ WP 35 0 8 [a0, a1, a2, a3, a4, vI x] (vI x :: S) h Q := wp_iload rfl rfl
theorem s35_8 : WP 35 0 8 L S h Q ↔ WP 35 0 9 L (vI 3 :: S) h Q := wp_pl rfl rfl rfl
theorem s35_9 : WP 35 0 9 L (vI y :: vI x :: S) h Q ↔ zif (x < y) (WP 35 0 12 L S h Q) (WP 35 0 41 L S h Q) := wp_bN zc_lt rfl rfl rfl
theorem s35_12 : WP 35 0 12 [a0, a1, a2, vA r, a4, a5] S h Q ↔ WP 35 0 13 [a0, a1, a2, vA r, a4, a5] (vA r :: S) h Q := wp_aload rfl rfl
theorem s35_13 : WP 35 0 13 [a0, a1, a2, a3, a4, vI x] S h Q ↔ WP 35 0 15 [a0, a1, a2, a3, a4, vI x] (vI x :: S) h Q := wp_iload rfl rfl
theorem s35_15 : WP 35 0 15 L (vI x :: vA (some a) :: S) h Q ↔ (((hk h a).1 = 1 ∧ 0 ≤ x ∧ x < ((hk h a).2 : Int)) ∧ WP 35 0 16 L (hm h a x.toNat :: S) h Q) := wp_if rfl rfl rfl
theorem s35_16 : WP 35 0 16 L (vI x :: S) h Q ↔ zif (0 < x) (WP 35 0 19 L S h Q) (WP 35 0 23 L S h Q) := wp_bN zc_gt rfl rfl rfl
theorem s35_19 : WP 35 0 19 L S h Q ↔ WP 35 0 20 L (vI 1 :: S) h Q := wp_pl rfl rfl rfl
theorem s35_20 : WP 35 0 20 L S h Q ↔ WP 35 0 24 L S h Q := wp_pl rfl rfl rfl
theorem s35_23 : WP 35 0 23 L S h Q ↔ WP 35 0 24 L (vI 0 :: S) h Q := wp_pl rfl rfl rfl
theorem s35_24 : WP 35 0 24 [a0, a1, vI x, a3, a4, a5] S h Q ↔ WP 35 0 25 [a0, a1, vI x, a3, a4, a5] (vI x :: S) h Q := wp_iload rfl rfl
theorem s35_25 : WP 35 0 25 [a0, a1, a2, a3, a4, vI x] S h Q ↔ WP 35 0 27 [a0, a1, a2, a3, a4, vI x] (vI x :: S) h Q := wp_iload rfl rfl
theorem s35_27 : WP 35 0 27 L (vI x1 :: vI x0 :: S) h Q ↔ (zw S ≤ 8 ∧ WP 30 0 0 [vI x0, vI x1] [] h (zret 35 0 27 30 L S Q)) := wp_S rfl rfl (zcan_of rfl rfl) rfl rfl rfl
theorem s35_30 : WP 35 0 30 L (vI y :: vI x :: S) h Q ↔ zif (x = y) (WP 35 0 35 L S h Q) (WP 35 0 33 L S h Q) := wp_bE zc_eq rfl rfl rfl
theorem s35_33 : WP 35 0 33 L S h Q ↔ WP 35 0 34 L (vI 0 :: S) h Q := wp_pl rfl rfl rfl
theorem s35_34 : WP 35 0 34 L [vI x] h Q ↔ ((x = 0 ∨ x = 1) ∧ Q (.inl (some (vI x))) h) := wp_iret rfl rfl
theorem s35_35 : WP 35 0 35 [a0, a1, a2, a3, a4, vI x] S h Q ↔ WP 35 0 38 [a0, a1, a2, a3, a4, vI (wr (x + 1))] S h Q := wp_iinc rfl rfl rfl
theorem s35_38 : WP 35 0 38 L S h Q ↔ WP 35 0 6 L S h Q := wp_pl rfl rfl rfl
theorem s35_41 : WP 35 0 41 L S h Q ↔ WP 35 0 42 L (vI 0 :: S) h Q := wp_pl rfl rfl rfl
theorem s35_42 : WP 35 0 42 [a0, a1, a2, a3, a4, a5] (vI x :: S) h Q ↔ WP 35 0 44 [a0, a1, a2, a3, a4, vI x] S h Q := wp_istore rfl rfl rfl
theorem s35_44 : WP 35 0 44 [a0, a1, a2, a3, a4, vI x] S h Q ↔ WP 35 0 46 [a0, a1, a2, a3, a4, vI x] (vI x :: S) h Q := wp_iload rfl rfl
theorem s35_46 : WP 35 0 46 [a0, vA r, a2, a3, a4, a5] S h Q ↔ WP 35 0 47 [a0, vA r, a2, a3, a4, a5] (vA r :: S) h Q := wp_aload rfl rfl
theorem s35_47 : WP 35 0 47 L (vA (some a) :: S) h Q ↔ (zhas 21 (hk h a) = true ∧ WP 35 0 50 L (hm h a 21 :: S) h Q) := wp_if rfl rfl rfl
theorem s35_50 : WP 35 0 50 L (vA (some a) :: S) h Q ↔ ((hk h a).1 = 117 ∧ (zw S ≤ 8 ∧ WP 323 0 0 [vA (some a)] [] h (zret 35 0 50 53 L S Q))) := wp_V1 (c := 117) rfl rfl (fun _ => rfl) rfl rfl (zcan_of rfl rfl) rfl rfl rfl
theorem s35_53 : WP 35 0 53 L (vI y :: vI x :: S) h Q ↔ zif (x < y) (WP 35 0 56 L S h Q) (WP 35 0 81 L S h Q) := wp_bN zc_lt rfl rfl rfl
theorem s35_56 : WP 35 0 56 [a0, a1, a2, a3, vI x, a5] S h Q ↔ WP 35 0 58 [a0, a1, a2, a3, vI x, a5] (vI x :: S) h Q := wp_iload rfl rfl
theorem s35_58 : WP 35 0 58 [a0, a1, a2, vA r, a4, a5] S h Q ↔ WP 35 0 59 [a0, a1, a2, vA r, a4, a5] (vA r :: S) h Q := wp_aload rfl rfl
theorem s35_59 : WP 35 0 59 [a0, vA r, a2, a3, a4, a5] S h Q ↔ WP 35 0 60 [a0, vA r, a2, a3, a4, a5] (vA r :: S) h Q := wp_aload rfl rfl
theorem s35_60 : WP 35 0 60 L (vA (some a) :: S) h Q ↔ (zhas 21 (hk h a) = true ∧ WP 35 0 63 L (hm h a 21 :: S) h Q) := wp_if rfl rfl rfl
theorem s35_63 : WP 35 0 63 [a0, a1, a2, a3, a4, vI x] S h Q ↔ WP 35 0 65 [a0, a1, a2, a3, a4, vI x] (vI x :: S) h Q := wp_iload rfl rfl
theorem s35_65 : WP 35 0 65 L (vI x0 :: vA (some a) :: S) h Q ↔ ((hk h a).1 = 117 ∧ (zw S ≤ 8 ∧ WP 310 0 0 [vA (some a), vI x0] [] h (zret 35 0 65 68 L S Q))) := wp_V1 (c := 117) rfl rfl (fun _ => rfl) rfl rfl (zcan_of rfl rfl) rfl rfl rfl
theorem s35_68 : WP 35 0 68 L S h Q ↔ WP 35 0 70 L (vI 120 :: S) h Q := wp_pl rfl rfl rfl
theorem s35_70 : WP 35 0 70 L (vI y :: vI x :: S) h Q ↔ WP 35 0 71 L (vI (wr (x - y)) :: S) h Q := wp_pl rfl rfl rfl
theorem s35_71 : WP 35 0 71 L (vI x :: vA (some a) :: S) h Q ↔ (((hk h a).1 = 1 ∧ 0 ≤ x ∧ x < ((hk h a).2 : Int)) ∧ WP 35 0 72 L (hm h a x.toNat :: S) h Q) := wp_if rfl rfl rfl
theorem s35_72 : WP 35 0 72 L (vI y :: vI x :: S) h Q ↔ WP 35 0 73 L (vI (wr (x + y)) :: S) h Q := wp_pl rfl rfl rfl
theorem s35_73 : WP 35 0 73 [a0, a1, a2, a3, a4, a5] (vI x :: S) h Q ↔ WP 35 0 75 [a0, a1, a2, a3, vI x, a5] S h Q := wp_istore rfl rfl rfl
theorem s35_75 : WP 35 0 75 [a0, a1, a2, a3, a4, vI x] S h Q ↔ WP 35 0 78 [a0, a1, a2, a3, a4, vI (wr (x + 1))] S h Q := wp_iinc rfl rfl rfl
theorem s35_78 : WP 35 0 78 L S h Q ↔ WP 35 0 44 L S h Q := wp_pl rfl rfl rfl
theorem s35_81 : WP 35 0 81 [a0, a1, a2, a3, vI x, a5] S h Q ↔ WP 35 0 83 [a0, a1, a2, a3, vI x, a5] (vI x :: S) h Q := wp_iload rfl rfl
theorem s35_83 : WP 35 0 83 [vA r, a1, a2, a3, a4, a5] S h Q ↔ WP 35 0 84 [vA r, a1, a2, a3, a4, a5] (vA r :: S) h Q := wp_aload rfl rfl
theorem s35_84 : WP 35 0 84 L (vA (some a) :: S) h Q ↔ (zhas 6 (hk h a) = true ∧ WP 35 0 87 L (hm h a 6 :: S) h Q) := wp_if rfl rfl rfl
theorem s35_87 : WP 35 0 87 L (vA (some a) :: S) h Q ↔ (zhas 15 (hk h a) = true ∧ WP 35 0 90 L (hm h a 15 :: S) h Q) := wp_if rfl rfl rfl
theorem s35_90 : WP 35 0 90 L (vI y :: vI x :: S) h Q ↔ zif (x = y) (WP 35 0 93 L S h Q) (WP 35 0 110 L S h Q) := wp_bN zc_eq rfl rfl rfl
theorem s35_93 : WP 35 0 93 [a0, vA r, a2, a3, a4, a5] S h Q ↔ WP 35 0 94 [a0, vA r, a2, a3, a4, a5] (vA r :: S) h Q := wp_aload rfl rfl
theorem s35_94 : WP 35 0 94 [vA r, a1, a2, a3, a4, a5] S h Q ↔ WP 35 0 95 [vA r, a1, a2, a3, a4, a5] (vA r :: S) h Q := wp_aload rfl rfl
theorem s35_95 : WP 35 0 95 L (vA (some a) :: S) h Q ↔ (zhas 6 (hk h a) = true ∧ WP 35 0 98 L (hm h a 6 :: S) h Q) := wp_if rfl rfl rfl
theorem s35_98 : WP 35 0 98 L S h Q ↔ WP 35 0 99 L (vI 0 :: S) h Q := wp_pl rfl rfl rfl
theorem s35_99 : WP 35 0 99 [a0, a1, a2, vA r, a4, a5] S h Q ↔ WP 35 0 100 [a0, a1, a2, vA r, a4, a5] (vA r :: S) h Q := wp_aload rfl rfl
theorem s35_100 : WP 35 0 100 L (vA r2 :: vI x1 :: vA r0 :: vA (some a) :: S) h Q ↔ ((hk h a).1 = 105 ∧ (zw S ≤ 8 ∧ WP 110 0 0 [vA (some a), vA r0, vI x1, vA r2, vJ, vJ, vJ] [] h (zret 35 0 100 103 L S Q))) := wp_V1 (c := 105) rfl rfl (fun _ => rfl) rfl rfl (zcan_of rfl rfl) rfl rfl rfl
theorem s35_103 : WP 35 0 103 L (vI x :: S) h Q ↔ zif (x = 0) (WP 35 0 110 L S h Q) (WP 35 0 106 L S h Q) := wp_bE zc_eq rfl rfl rfl
theorem s35_106 : WP 35 0 106 L S h Q ↔ WP 35 0 107 L (vI 1 :: S) h Q := wp_pl rfl rfl rfl
theorem s35_107 : WP 35 0 107 L S h Q ↔ WP 35 0 111 L S h Q := wp_pl rfl rfl rfl
theorem s35_110 : WP 35 0 110 L S h Q ↔ WP 35 0 111 L (vI 0 :: S) h Q := wp_pl rfl rfl rfl
theorem s35_111 : WP 35 0 111 L [vI x] h Q ↔ ((x = 0 ∨ x = 1) ∧ Q (.inl (some (vI x))) h) := wp_iret rfl rfl
/-! RepeatFree.isBlank(I)Z -/
theorem s36_0 : WP 36 0 0 [vI x] S h Q ↔ WP 36 0 1 [vI x] (vI x :: S) h Q := wp_iload rfl rfl
theorem s36_1 : WP 36 0 1 L S h Q ↔ WP 36 0 3 L (vI 32 :: S) h Q := wp_pl rfl rfl rfl
theorem s36_3 : WP 36 0 3 L (vI y :: vI x :: S) h Q ↔ zif (x = y) (WP 36 0 18 L S h Q) (WP 36 0 6 L S h Q) := wp_bE zc_eq rfl rfl rfl
theorem s36_6 : WP 36 0 6 [vI x] S h Q ↔ WP 36 0 7 [vI x] (vI x :: S) h Q := wp_iload rfl rfl
theorem s36_7 : WP 36 0 7 L S h Q ↔ WP 36 0 9 L (vI 9 :: S) h Q := wp_pl rfl rfl rfl
theorem s36_9 : WP 36 0 9 L (vI y :: vI x :: S) h Q ↔ zif (x = y) (WP 36 0 18 L S h Q) (WP 36 0 12 L S h Q) := wp_bE zc_eq rfl rfl rfl
theorem s36_12 : WP 36 0 12 [vI x] S h Q ↔ WP 36 0 13 [vI x] (vI x :: S) h Q := wp_iload rfl rfl
theorem s36_13 : WP 36 0 13 L S h Q ↔ WP 36 0 15 L (vI 10 :: S) h Q := wp_pl rfl rfl rfl
theorem s36_15 : WP 36 0 15 L (vI y :: vI x :: S) h Q ↔ zif (x = y) (WP 36 0 18 L S h Q) (WP 36 0 22 L S h Q) := wp_bN zc_eq rfl rfl rfl
theorem s36_18 : WP 36 0 18 L S h Q ↔ WP 36 0 19 L (vI 1 :: S) h Q := wp_pl rfl rfl rfl
theorem s36_19 : WP 36 0 19 L S h Q ↔ WP 36 0 23 L S h Q := wp_pl rfl rfl rfl
theorem s36_22 : WP 36 0 22 L S h Q ↔ WP 36 0 23 L (vI 0 :: S) h Q := wp_pl rfl rfl rfl
theorem s36_23 : WP 36 0 23 L [vI x] h Q ↔ ((x = 0 ∨ x = 1) ∧ Q (.inl (some (vI x))) h) := wp_iret rfl rfl
/-! RepeatFree.isFreeAtEnd(LRepeatFree$Word;)Z -/
theorem s37_0 : WP 37 0 0 [vA r, a1, a2] S h Q ↔ WP 37 0 1 [vA r, a1, a2] (vA r :: S) h Q := wp_aload rfl rfl
theorem s37_1 : WP 37 0 1 L (vA (some a) :: S) h Q ↔ (zhas 4 (hk h a) = true ∧ WP 37 0 4 L (hm h a 4 :: S) h Q) := wp_if rfl rfl rfl
theorem s37_4 : WP 37 0 4 L (vA (some a) :: S) h Q ↔ (zhas 13 (hk h a) = true ∧ WP 37 0 7 L (hm h a 13 :: S) h Q) := wp_if rfl rfl rfl
theorem s37_7n : WP 37 0 7 L (vA none :: S) h Q ↔ WP 37 0 47 L S h Q := wp_pl rfl rfl rfl
theorem s37_7 : WP 37 0 7 L (vA (some a) :: S) h Q ↔ (3 ≤ a ∧ WP 37 0 10 L S h Q) := wp_if rfl rfl rfl
theorem s37_10 : WP 37 0 10 L S h Q ↔ WP 37 0 11 L (vI 1 :: S) h Q := wp_pl rfl rfl rfl
theorem s37_11 : WP 37 0 11 [a0, a1, a2] (vI x :: S) h Q ↔ WP 37 0 12 [a0, a1, vI x] S h Q := wp_istore rfl rfl rfl
theorem s37_12 : WP 37 0 12 [a0, a1, vI x] S h Q ↔ WP 37 0 13 [a0, a1, vI x] (vI x :: S) h Q := wp_iload rfl rfl
theorem s37_13 : WP 37 0 13 [a0, vA r, a2] S h Q ↔ WP 37 0 14 [a0, vA r, a2] (vA r :: S) h Q := wp_aload rfl rfl
theorem s37_14 : WP 37 0 14 L (vA (some a) :: S) h Q ↔ (zhas 15 (hk h a) = true ∧ WP 37 0 17 L (hm h a 15 :: S) h Q) := wp_if rfl rfl rfl
theorem s37_17 : WP 37 0 17 L (vI y :: vI x :: S) h Q ↔ zif (y < x) (WP 37 0 47 L S h Q) (WP 37 0 20 L S h Q) := wp_bE zc_gt rfl rfl rfl
theorem s37_20 : WP 37 0 20 [vA r, a1, a2] S h Q ↔ WP 37 0 21 [vA r, a1, a2] (vA r :: S) h Q := wp_aload rfl rfl
theorem s37_21 : WP 37 0 21 L (vA (some a) :: S) h Q ↔ (zhas 4 (hk h a) = true ∧ WP 37 0 24 L (hm h a 4 :: S) h Q) := wp_if rfl rfl rfl
theorem s37_24 : WP 37 0 24 L (vA (some a) :: S) h Q ↔ (zhas 13 (hk h a) = true ∧ WP 37 0 27 L (hm h a 13 :: S) h Q) := wp_if rfl rfl rfl
theorem s37_27 : WP 37 0 27 [a0, vA r, a2] S h Q ↔ WP 37 0 28 [a0, vA r, a2] (vA r :: S) h Q := wp_aload rfl rfl
theorem s37_28 : WP 37 0 28 [a0, a1, vI x] S h Q ↔ WP 37 0 29 [a0, a1, vI x] (vI x :: S) h Q := wp_iload rfl rfl
theorem s37_29 : WP 37 0 29 L (vI x0 :: vA (some a) :: S) h Q ↔ ((hk h a).1 = 102 ∧ (zw S ≤ 8 ∧ WP 98 0 0 [vA (some a), vI x0, vJ] [] h (zret 37 0 29 32 L S Q))) := wp_V1 (c := 102) rfl rfl (fun _ => rfl) rfl rfl (zcan_of rfl rfl) rfl rfl rfl
theorem s37_32 : WP 37 0 32 [a0, a1, vI x] S h Q ↔ WP 37 0 33 [a0, a1, vI x] (vI x :: S) h Q := wp_iload rfl rfl
theorem s37_33 : WP 37 0 33 L (vI x1 :: vI x0 :: vA (some a) :: S) h Q ↔ ((hk h a).1 = 103 ∧ (zw S ≤ 8 ∧ WP 104 0 0 [vA (some a), vI x0, vI x1] [] h (zret 37 0 33 36 L S Q))) := wp_V1 (c := 103) rfl rfl (fun _ => rfl) rfl rfl (zcan_of rfl rfl) rfl rfl rfl
theorem s37_36 : WP 37 0 36 L (vI x :: S) h Q ↔ zif (x = 0) (WP 37 0 41 L S h Q) (WP 37 0 39 L S h Q) := wp_bE zc_eq rfl rfl rfl
theorem s37_39 : WP 37 0 39 L S h Q ↔ WP 37 0 40 L (vI 0 :: S) h Q := wp_pl rfl rfl rfl
theorem s37_40 : WP 37 0 40 L [vI x] h Q ↔ ((x = 0 ∨ x = 1) ∧ Q (.inl (some (vI x))) h) := wp_iret rfl rfl
theorem s37_41 : WP 37 0 41 [a0, a1, vI x] S h Q ↔ WP 37 0 44 [a0, a1, vI (wr (x + 1))] S h Q := wp_iinc rfl rfl rfl
theorem s37_44 : WP 37 0 44 L S h Q ↔ WP 37 0 12 L S h Q := wp_pl rfl rfl rfl
theorem s37_47 : WP 37 0 47 L S h Q ↔ WP 37 0 48 L (vI 0 :: S) h Q := wp_pl rfl rfl rfl
theorem s37_48 : WP 37 0 48 [a0, a1, a2] (vI x :: S) h Q ↔ WP 37 0 49 [a0, a1, vI x] S h Q := wp_istore rfl rfl rfl
theorem s37_49 : WP 37 0 49 [a0, a1, vI x] S h Q ↔ WP 37 0 50 [a0, a1, vI x] (vI x :: S) h Q := wp_iload rfl rfl
theorem s37_50 : WP 37 0 50 [vA r, a1, a2] S h Q ↔ WP 37 0 51 [vA r, a1, a2] (vA r :: S) h Q := wp_aload rfl rfl
theorem s37_51 : WP 37 0 51 L (vA (some a) :: S) h Q ↔ (zhas 5 (hk h a) = true ∧ WP 37 0 54 L (hm h a 5 :: S) h Q) := wp_if rfl rfl rfl
theorem s37_54 : WP 37 0 54 L (vA (some a) :: S) h Q ↔ ((1 ≤ (hk h a).1 ∧ (hk h a).1 ≤ 7) ∧ WP 37 0 55 L (vI ((hk h a).2 : Int) :: S) h Q) := wp_if rfl rfl rfl
theorem s37_55 : WP 37 0 55 L (vI y :: vI x :: S) h Q ↔ zif (x < y) (WP 37 0 58 L S h Q) (WP 37 0 79 L S h Q) := wp_bN zc_lt rfl rfl rfl
theorem s37_58 : WP 37 0 58 [vA r, a1, a2] S h Q ↔ WP 37 0 59 [vA r, a1, a2] (vA r :: S) h Q := wp_aload rfl rfl
theorem s37_59 : WP 37 0 59 L (vA (some a) :: S) h Q ↔ (zhas 5 (hk h a) = true ∧ WP 37 0 62 L (hm h a 5 :: S) h Q) := wp_if rfl rfl rfl
theorem s37_62 : WP 37 0 62 [a0, a1, vI x] S h Q ↔ WP 37 0 63 [a0, a1, vI x] (vI x :: S) h Q := wp_iload rfl rfl
theorem s37_63 : WP 37 0 63 L (vI x :: vA (some a) :: S) h Q ↔ ((((5 ≤ (hk h a).1 ∧ (hk h a).1 ≤ 7) ∧ 0 ≤ x ∧ x < ((hk h a).2 : Int)) ∨ ((hk h a).1 = 8 ∧ 128 ≤ x ∧ x < 144)) ∧ WP 37 0 64 L (hm h a x.toNat :: S) h Q) := wp_if rfl rfl rfl
theorem s37_64 : WP 37 0 64 [a0, vA r, a2] S h Q ↔ WP 37 0 65 [a0, vA r, a2] (vA r :: S) h Q := wp_aload rfl rfl
theorem s37_65 : WP 37 0 65 L (vA r0 :: vA (some a) :: S) h Q ↔ ((hk h a).1 = 105 ∧ (zw S ≤ 8 ∧ WP 112 0 0 [vA (some a), vA r0, vJ] [] h (zret 37 0 65 68 L S Q))) := wp_V1 (c := 105) rfl rfl (fun _ => rfl) rfl rfl (zcan_of rfl rfl) rfl rfl rfl
theorem s37_68 : WP 37 0 68 L (vI x :: S) h Q ↔ zif (x = 0) (WP 37 0 73 L S h Q) (WP 37 0 71 L S h Q) := wp_bE zc_eq rfl rfl rfl
theorem s37_71 : WP 37 0 71 L S h Q ↔ WP 37 0 72 L (vI 0 :: S) h Q := wp_pl rfl rfl rfl
theorem s37_72 : WP 37 0 72 L [vI x] h Q ↔ ((x = 0 ∨ x = 1) ∧ Q (.inl (some (vI x))) h) := wp_iret rfl rfl
theorem s37_73 : WP 37 0 73 [a0, a1, vI x] S h Q ↔ WP 37 0 76 [a0, a1, vI (wr (x + 1))] S h Q := wp_iinc rfl rfl rfl
theorem s37_76 : WP 37 0 76 L S h Q ↔ WP 37 0 49 L S h Q := wp_pl rfl rfl rfl
theorem s37_79 : WP 37 0 79 L S h Q ↔ WP 37 0 80 L (vI 1 :: S) h Q := wp_pl rfl rfl rfl
theorem s37_80 : WP 37 0 80 L [vI x] h Q ↔ ((x = 0 ∨ x = 1) ∧ Q (.inl (some (vI x))) h) := wp_iret rfl rfl
/-! RepeatFree.isIn(JJJ)Z -/
theorem s38_0 : WP 38 0 0 [vL x, vJ, a2, a3, a4, a5] S h Q ↔ WP 38 0 1 [vL x, vJ, a2, a3, a4, a5] (vL x :: S) h Q := wp_lload rfl rfl rfl
theorem s38_1 : WP 38 0 1 [a0, a1, vL x, vJ, a4, a5] S h Q ↔ WP 38 0 2 [a0, a1, vL x, vJ, a4, a5] (vL x :: S) h Q := wp_lload rfl rfl rfl
theorem s38_2 : WP 38 0 2 L (vL y :: vL x :: S) h Q ↔ WP 38 0 3 L (vI (zlc x y) :: S) h Q := wp_pl rfl rfl rfl
theorem s38_3 : WP 38 0 3 L (vI x :: S) h Q ↔ zif (x < 0) (WP 38 0 17 L S h Q) (WP 38 0 6 L S h Q) := wp_bE zc_lt rfl rfl rfl
theorem s38_6 : WP 38 0 6 [vL x, vJ, a2, a3, a4, a5] S h Q ↔ WP 38 0 7 [vL x, vJ, a2, a3, a4, a5] (vL x :: S) h Q := wp_lload rfl rfl rfl
theorem s38_7 : WP 38 0 7 [a0, a1, a2, a3, vL x, vJ] S h Q ↔ WP 38 0 9 [a0, a1, a2, a3, vL x, vJ] (vL x :: S) h Q := wp_lload rfl rfl rfl
theorem s38_9 : WP 38 0 9 L (vL y :: vL x :: S) h Q ↔ WP 38 0 10 L (vI (zlc x y) :: S) h Q := wp_pl rfl rfl rfl
theorem s38_10 : WP 38 0 10 L (vI x :: S) h Q ↔ zif (0 < x) (WP 38 0 17 L S h Q) (WP 38 0 13 L S h Q) := wp_bE zc_gt rfl rfl rfl
theorem s38_13 : WP 38 0 13 L S h Q ↔ WP 38 0 14 L (vI 1 :: S) h Q := wp_pl rfl rfl rfl
theorem s38_14 : WP 38 0 14 L S h Q ↔ WP 38 0 18 L S h Q := wp_pl rfl rfl rfl
theorem s38_17 : WP 38 0 17 L S h Q ↔ WP 38 0 18 L (vI 0 :: S) h Q := wp_pl rfl rfl rfl
theorem s38_18 : WP 38 0 18 L [vI x] h Q ↔ ((x = 0 ∨ x = 1) ∧ Q (.inl (some (vI x))) h) := wp_iret rfl rfl
/-! RepeatFree.isLess(II)Z -/
theorem s39_0 : WP 39 0 0 L S h Q ↔ WP 39 0 1 L (vI 0 :: S) h Q := wp_pl rfl rfl rfl
theorem s39_1 : WP 39 0 1 [a0, a1, a2, a3, a4] (vI x :: S) h Q ↔ WP 39 0 2 [a0, a1, a2, vI x, a4] S h Q := wp_istore rfl rfl rfl
theorem s39_2 : WP 39 0 2 [a0, a1, a2, vI x, a4] S h Q ↔ WP 39 0 3 [a0, a1, a2, vI x, a4] (vI x :: S) h Q := wp_iload rfl rfl
theorem s39_3 : WP 39 0 3 [vA r, a1, a2, a3, a4] S h Q ↔ WP 39 0 4 [vA r, a1, a2, a3, a4] (vA r :: S) h Q := wp_aload rfl rfl
theorem s39_4 : WP 39 0 4 L (vA (some a) :: S) h Q ↔ (zhas 6 (hk h a) = true ∧ WP 39 0 7 L (hm h a 6 :: S) h Q) := wp_if rfl rfl rfl
theorem s39_7 : WP 39 0 7 L (vA (some a) :: S) h Q ↔ (zhas 15 (hk h a) = true ∧ WP 39 0 10 L (hm h a 15 :: S) h Q) := wp_if rfl rfl rfl
theorem s39_10 : WP 39 0 10 L (vI y :: vI x :: S) h Q ↔ zif (x < y) (WP 39 0 13 L S h Q) (WP 39 0 76 L S h Q) := wp_bN zc_lt rfl rfl rfl
theorem s39_13 : WP 39 0 13 [vA r, a1, a2, a3, a4] S h Q ↔ WP 39 0 14 [vA r, a1, a2, a3, a4] (vA r :: S) h Q := wp_aload rfl rfl
theorem s39_14 : WP 39 0 14 L (vA (some a) :: S) h Q ↔ (zhas 6 (hk h a) = true ∧ WP 39 0 17 L (hm h a 6 :: S) h Q) := wp_if rfl rfl rfl
theorem s39_17 : WP 39 0 17 L (vA (some a) :: S) h Q ↔ (zhas 14 (hk h a) = true ∧ WP 39 0 20 L (hm h a 14 :: S) h Q) := wp_if rfl rfl rfl
theorem s39_20 : WP 39 0 20 [a0, vI x, a2, a3, a4] S h Q ↔ WP 39 0 21 [a0, vI x, a2, a3, a4] (vI x :: S) h Q := wp_iload rfl rfl
theorem s39_21 : WP 39 0 21 [a0, a1, a2, vI x, a4] S h Q ↔ WP 39 0 22 [a0, a1, a2, vI x, a4] (vI x :: S) h Q := wp_iload rfl rfl
theorem s39_22 : WP 39 0 22 L (vI y :: vI x :: S) h Q ↔ WP 39 0 23 L (vI (wr (x + y)) :: S) h Q := wp_pl rfl rfl rfl
theorem s39_23 : WP 39 0 23 [vA r, a1, a2, a3, a4] S h Q ↔ WP 39 0 24 [vA r, a1, a2, a3, a4] (vA r :: S) h Q := wp_aload rfl rfl
theorem s39_24 : WP 39 0 24 L (vA (some a) :: S) h Q ↔ (zhas 6 (hk h a) = true ∧ WP 39 0 27 L (hm h a 6 :: S) h Q) := wp_if rfl rfl rfl
theorem s39_27 : WP 39 0 27 L (vA (some a) :: S) h Q ↔ (zhas 15 (hk h a) = true ∧ WP 39 0 30 L (hm h a 15 :: S) h Q) := wp_if rfl rfl rfl
theorem s39_30 : WP 39 0 30 L (vI y :: vI x :: S) h Q ↔ (¬ y = 0 ∧ WP 39 0 31 L (vI (x.tmod y) :: S) h Q) := wp_ifx rfl rfl rfl
theorem s39_31 : WP 39 0 31 L (vI x :: vA (some a) :: S) h Q ↔ ((((hk h a).1 = 2 ∨ (hk h a).1 = 3) ∧ 0 ≤ x ∧ x < ((hk h a).2 : Int)) ∧ WP 39 0 32 L (hm h a x.toNat :: S) h Q) := wp_if rfl rfl rfl
theorem s39_32 : WP 39 0 32 [vA r, a1, a2, a3, a4] S h Q ↔ WP 39 0 33 [vA r, a1, a2, a3, a4] (vA r :: S) h Q := wp_aload rfl rfl
theorem s39_33 : WP 39 0 33 L (vA (some a) :: S) h Q ↔ (zhas 6 (hk h a) = true ∧ WP 39 0 36 L (hm h a 6 :: S) h Q) := wp_if rfl rfl rfl
theorem s39_36 : WP 39 0 36 L (vA (some a) :: S) h Q ↔ (zhas 14 (hk h a) = true ∧ WP 39 0 39 L (hm h a 14 :: S) h Q) := wp_if rfl rfl rfl
theorem s39_39 : WP 39 0 39 [a0, a1, vI x, a3, a4] S h Q ↔ WP 39 0 40 [a0, a1, vI x, a3, a4] (vI x :: S) h Q := wp_iload rfl rfl
theorem s39_40 : WP 39 0 40 [a0, a1, a2, vI x, a4] S h Q ↔ WP 39 0 41 [a0, a1, a2, vI x, a4] (vI x :: S) h Q := wp_iload rfl rfl
theorem s39_41 : WP 39 0 41 L (vI y :: vI x :: S) h Q ↔ WP 39 0 42 L (vI (wr (x + y)) :: S) h Q := wp_pl rfl rfl rfl
theorem s39_42 : WP 39 0 42 [vA r, a1, a2, a3, a4] S h Q ↔ WP 39 0 43 [vA r, a1, a2, a3, a4] (vA r :: S) h Q := wp_aload rfl rfl
theorem s39_43 : WP 39 0 43 L (vA (some a) :: S) h Q ↔ (zhas 6 (hk h a) = true ∧ WP 39 0 46 L (hm h a 6 :: S) h Q) := wp_if rfl rfl rfl
theorem s39_46 : WP 39 0 46 L (vA (some a) :: S) h Q ↔ (zhas 15 (hk h a) = true ∧ WP 39 0 49 L (hm h a 15 :: S) h Q) := wp_if rfl rfl rfl
theorem s39_49 : WP 39 0 49 L (vI y :: vI x :: S) h Q ↔ (¬ y = 0 ∧ WP 39 0 50 L (vI (x.tmod y) :: S) h Q) := wp_ifx rfl rfl rfl
theorem s39_50 : WP 39 0 50 L (vI x :: vA (some a) :: S) h Q ↔ ((((hk h a).1 = 2 ∨ (hk h a).1 = 3) ∧ 0 ≤ x ∧ x < ((hk h a).2 : Int)) ∧ WP 39 0 51 L (hm h a x.toNat :: S) h Q) := wp_if rfl rfl rfl
theorem s39_51 : WP 39 0 51 L (vI y :: vI x :: S) h Q ↔ WP 39 0 52 L (vI (wr (x - y)) :: S) h Q := wp_pl rfl rfl rfl
theorem s39_52 : WP 39 0 52 [a0, a1, a2, a3, a4] (vI x :: S) h Q ↔ WP 39 0 54 [a0, a1, a2, a3, vI x] S h Q := wp_istore rfl rfl rfl
theorem s39_54 : WP 39 0 54 [a0, a1, a2, a3, vI x] S h Q ↔ WP 39 0 56 [a0, a1, a2, a3, vI x] (vI x :: S) h Q := wp_iload rfl rfl
theorem s39_56 : WP 39 0 56 L (vI x :: S) h Q ↔ zif (x = 0) (WP 39 0 70 L S h Q) (WP 39 0 59 L S h Q) := wp_bE zc_eq rfl rfl rfl
theorem s39_59 : WP 39 0 59 [a0, a1, a2, a3, vI x] S h Q ↔ WP 39 0 61 [a0, a1, a2, a3, vI x] (vI x :: S) h Q := wp_iload rfl rfl
theorem s39_61 : WP 39 0 61 L (vI x :: S) h Q ↔ zif (x < 0) (WP 39 0 64 L S h Q) (WP 39 0 68 L S h Q) := wp_bN zc_lt rfl rfl rfl
theorem s39_64 : WP 39 0 64 L S h Q ↔ WP 39 0 65 L (vI 1 :: S) h Q := wp_pl rfl rfl rfl
theorem s39_65 : WP 39 0 65 L S h Q ↔ WP 39 0 69 L S h Q := wp_pl rfl rfl rfl
theorem s39_68 : WP 39 0 68 L S h Q ↔ WP 39 0 69 L (vI 0 :: S) h Q := wp_pl rfl rfl rfl
theorem s39_69 : WP 39 0 69 L [vI x] h Q ↔ ((x = 0 ∨ x = 1) ∧ Q (.inl (some (vI x))) h) := wp_iret rfl rfl
theorem s39_70 : WP 39 0 70 [a0, a1, a2, vI x, a4] S h Q ↔ WP 39 0 73 [a0, a1, a2, vI (wr (x + 1)), a4] S h Q := wp_iinc rfl rfl rfl
theorem s39_73 : WP 39 0 73 L S h Q ↔ WP 39 0 2 L S h Q := wp_pl rfl rfl rfl
theorem s39_76 : WP 39 0 76 L S h Q ↔ WP 39 0 77 L (vI 0 :: S) h Q := wp_pl rfl rfl rfl
theorem s39_77 : WP 39 0 77 L [vI x] h Q ↔ ((x = 0 ∨ x = 1) ∧ Q (.inl (some (vI x))) h) := wp_iret rfl rfl
/-! RepeatFree.isLetter(I)Z -/
theorem s40_0 : WP 40 0 0 [a0, vI x] S h Q ↔ WP 40 0 1 [a0, vI x] (vI x :: S) h Q := wp_iload rfl rfl
theorem s40_1 : WP 40 0 1 L (vI x :: S) h Q ↔ WP 40 0 2 L (vL x :: S) h Q := wp_pl rfl rfl rfl
theorem s40_2 : WP 40 0 2 L S h Q ↔ WP 40 0 3 L (vL 0 :: S) h Q := wp_pl rfl rfl rfl
theorem s40_3 : WP 40 0 3 [vA r, a1] S h Q ↔ WP 40 0 4 [vA r, a1] (vA r :: S) h Q := wp_aload rfl rfl
theorem s40_4 : WP 40 0 4 L (vA (some a) :: S) h Q ↔ (zhas 4 (hk h a) = true ∧ WP 40 0 7 L (hm h a 4 :: S) h Q) := wp_if rfl rfl rfl
theorem s40_7 : WP 40 0 7 L (vA (some a) :: S) h Q ↔ (zhas 12 (hk h a) = true ∧ WP 40 0 10 L (hm h a 12 :: S) h Q) := wp_if rfl rfl rfl
theorem s40_10 : WP 40 0 10 L S h Q ↔ WP 40 0 11 L (vI 1 :: S) h Q := wp_pl rfl rfl rfl
theorem s40_11 : WP 40 0 11 L (vI y :: vI x :: S) h Q ↔ WP 40 0 12 L (vI (wr (x - y)) :: S) h Q := wp_pl rfl rfl rfl
theorem s40_12 : WP 40 0 12 L (vI x :: S) h Q ↔ WP 40 0 13 L (vL x :: S) h Q := wp_pl rfl rfl rfl
theorem s40_13 : WP 40 0 13 L (vL x2 :: vL x1 :: vL x0 :: S) h Q ↔ (zw S ≤ 8 ∧ WP 38 0 0 [vL x0, vJ, vL x1, vJ, vL x2, vJ] [] h (zret 40 0 13 16 L S Q)) := wp_S rfl rfl (zcan_of rfl rfl) rfl rfl rfl
theorem s40_16 : WP 40 0 16 L [vI x] h Q ↔ ((x = 0 ∨ x = 1) ∧ Q (.inl (some (vI x))) h) := wp_iret rfl rfl
/-! RepeatFree.isLocal(II)Z -/
theorem s41_0 : WP 41 0 0 L S h Q ↔ WP 41 0 1 L (vI 0 :: S) h Q := wp_pl rfl rfl rfl
theorem s41_1 : WP 41 0 1 [a0, vI x, a2, a3] S h Q ↔ WP 41 0 2 [a0, vI x, a2, a3] (vI x :: S) h Q := wp_iload rfl rfl
theorem s41_2 : WP 41 0 2 [a0, a1, vI x, a3] S h Q ↔ WP 41 0 3 [a0, a1, vI x, a3] (vI x :: S) h Q := wp_iload rfl rfl
theorem s41_3 : WP 41 0 3 L (vI y :: vI x :: S) h Q ↔ WP 41 0 4 L (vI (wr (x - y)) :: S) h Q := wp_pl rfl rfl rfl
theorem s41_4 : WP 41 0 4 L (vI x1 :: vI x0 :: S) h Q ↔ (zw S ≤ 8 ∧ WP 383 0 0 [vI x0, vI x1] [] h (zret 41 0 4 7 L S Q)) := wp_S rfl rfl (zcan_of rfl rfl) rfl rfl rfl
theorem s41_7 : WP 41 0 7 [a0, a1, a2, a3] (vI x :: S) h Q ↔ WP 41 0 8 [a0, a1, a2, vI x] S h Q := wp_istore rfl rfl rfl
theorem s41_8 : WP 41 0 8 [a0, a1, a2, vI x] S h Q ↔ WP 41 0 9 [a0, a1, a2, vI x] (vI x :: S) h Q := wp_iload rfl rfl
theorem s41_9 : WP 41 0 9 [a0, vI x, a2, a3] S h Q ↔ WP 41 0 10 [a0, vI x, a2, a3] (vI x :: S) h Q := wp_iload rfl rfl
theorem s41_10 : WP 41 0 10 L (vI y :: vI x :: S) h Q ↔ zif (x < y) (WP 41 0 13 L S h Q) (WP 41 0 57 L S h Q) := wp_bN zc_lt rfl rfl rfl
theorem s41_13 : WP 41 0 13 [a0, a1, a2, vI x] S h Q ↔ WP 41 0 14 [a0, a1, a2, vI x] (vI x :: S) h Q := wp_iload rfl rfl
theorem s41_14 : WP 41 0 14 [a0, a1, vI x, a3] S h Q ↔ WP 41 0 15 [a0, a1, vI x, a3] (vI x :: S) h Q := wp_iload rfl rfl
theorem s41_15 : WP 41 0 15 L (vI y :: vI x :: S) h Q ↔ WP 41 0 16 L (vI (wr (x + y)) :: S) h Q := wp_pl rfl rfl rfl
theorem s41_16 : WP 41 0 16 [vA r, a1, a2, a3] S h Q ↔ WP 41 0 17 [vA r, a1, a2, a3] (vA r :: S) h Q := wp_aload rfl rfl
theorem s41_17 : WP 41 0 17 L (vA (some a) :: S) h Q ↔ (zhas 6 (hk h a) = true ∧ WP 41 0 20 L (hm h a 6 :: S) h Q) := wp_if rfl rfl rfl
theorem s41_20 : WP 41 0 20 L (vA (some a) :: S) h Q ↔ (zhas 15 (hk h a) = true ∧ WP 41 0 23 L (hm h a 15 :: S) h Q) := wp_if rfl rfl rfl
theorem s41_23 : WP 41 0 23 L (vI y :: vI x :: S) h Q ↔ zif (x < y) (WP 41 0 26 L S h Q) (WP 41 0 57 L S h Q) := wp_bN zc_lt rfl rfl rfl
theorem s41_26 : WP 41 0 26 [vA r, a1, a2, a3] S h Q ↔ WP 41 0 27 [vA r, a1, a2, a3] (vA r :: S) h Q := wp_aload rfl rfl
theorem s41_27 : WP 41 0 27 L (vA (some a) :: S) h Q ↔ (zhas 6 (hk h a) = true ∧ WP 41 0 30 L (hm h a 6 :: S) h Q) := wp_if rfl rfl rfl
theorem s41_30 : WP 41 0 30 L (vA (some a) :: S) h Q ↔ (zhas 14 (hk h a) = true ∧ WP 41 0 33 L (hm h a 14 :: S) h Q) := wp_if rfl rfl rfl
theorem s41_33 : WP 41 0 33 [a0, a1, a2, vI x] S h Q ↔ WP 41 0 34 [a0, a1, a2, vI x] (vI x :: S) h Q := wp_iload rfl rfl
theorem s41_34 : WP 41 0 34 L (vI x :: vA (some a) :: S) h Q ↔ ((((hk h a).1 = 2 ∨ (hk h a).1 = 3) ∧ 0 ≤ x ∧ x < ((hk h a).2 : Int)) ∧ WP 41 0 35 L (hm h a x.toNat :: S) h Q) := wp_if rfl rfl rfl
theorem s41_35 : WP 41 0 35 [vA r, a1, a2, a3] S h Q ↔ WP 41 0 36 [vA r, a1, a2, a3] (vA r :: S) h Q := wp_aload rfl rfl
theorem s41_36 : WP 41 0 36 L (vA (some a) :: S) h Q ↔ (zhas 6 (hk h a) = true ∧ WP 41 0 39 L (hm h a 6 :: S) h Q) := wp_if rfl rfl rfl
theorem s41_39 : WP 41 0 39 L (vA (some a) :: S) h Q ↔ (zhas 14 (hk h a) = true ∧ WP 41 0 42 L (hm h a 14 :: S) h Q) := wp_if rfl rfl rfl
theorem s41_42 : WP 41 0 42 [a0, a1, a2, vI x] S h Q ↔ WP 41 0 43 [a0, a1, a2, vI x] (vI x :: S) h Q := wp_iload rfl rfl
theorem s41_43 : WP 41 0 43 [a0, a1, vI x, a3] S h Q ↔ WP 41 0 44 [a0, a1, vI x, a3] (vI x :: S) h Q := wp_iload rfl rfl
theorem s41_44 : WP 41 0 44 L (vI y :: vI x :: S) h Q ↔ WP 41 0 45 L (vI (wr (x + y)) :: S) h Q := wp_pl rfl rfl rfl
theorem s41_45 : WP 41 0 45 L (vI x :: vA (some a) :: S) h Q ↔ ((((hk h a).1 = 2 ∨ (hk h a).1 = 3) ∧ 0 ≤ x ∧ x < ((hk h a).2 : Int)) ∧ WP 41 0 46 L (hm h a x.toNat :: S) h Q) := wp_if rfl rfl rfl
theorem s41_46 : WP 41 0 46 L (vI y :: vI x :: S) h Q ↔ zif (x = y) (WP 41 0 51 L S h Q) (WP 41 0 49 L S h Q) := wp_bE zc_eq rfl rfl rfl
theorem s41_49 : WP 41 0 49 L S h Q ↔ WP 41 0 50 L (vI 0 :: S) h Q := wp_pl rfl rfl rfl
theorem s41_50 : WP 41 0 50 L [vI x] h Q ↔ ((x = 0 ∨ x = 1) ∧ Q (.inl (some (vI x))) h) := wp_iret rfl rfl
theorem s41_51 : WP 41 0 51 [a0, a1, a2, vI x] S h Q ↔ WP 41 0 54 [a0, a1, a2, vI (wr (x + 1))] S h Q := wp_iinc rfl rfl rfl
theorem s41_54 : WP 41 0 54 L S h Q ↔ WP 41 0 8 L S h Q := wp_pl rfl rfl rfl
theorem s41_57 : WP 41 0 57 L S h Q ↔ WP 41 0 58 L (vI 1 :: S) h Q := wp_pl rfl rfl rfl
theorem s41_58 : WP 41 0 58 L [vI x] h Q ↔ ((x = 0 ∨ x = 1) ∧ Q (.inl (some (vI x))) h) := wp_iret rfl rfl
/-! RepeatFree.isLoose(Ljava/lang/String;I)Z -/
theorem s42_0 : WP 42 0 0 L S h Q ↔ WP 42 0 3 L (vA (some (hn h)) :: S) (hnew h (115, 0) 3 zdf) Q := wp_pl rfl rfl rfl
theorem s42_3 : WP 42 0 3 L (vA r :: S) h Q ↔ WP 42 0 4 L (vA r :: vA r :: S) h Q := wp_pl rfl rfl rfl
theorem s42_3i : WP 42 0 3 L (vI x :: S) h Q ↔ WP 42 0 4 L (vI x :: vI x :: S) h Q := wp_pl rfl rfl rfl
theorem s42_4 : WP 42 0 4 L (vA (some a) :: S) h Q ↔ ((zNC ≤ a ∧ 100 ≤ (hk h a).1) ∧ zw S ≤ 8 ∧ WP 298 0 0 [vA (some a)] [] h (zret 42 0 4 7 L S Q)) := wp_I rfl rfl rfl (zcan_of rfl rfl) rfl rfl rfl
theorem s42_7 : WP 42 0 7 [a0, a1, a2, a3, a4, a5, a6] (vA r :: S) h Q ↔ WP 42 0 8 [a0, a1, vA r, a3, a4, a5, a6] S h Q := wp_astore rfl rfl rfl
theorem s42_8 : WP 42 0 8 L S h Q ↔ WP 42 0 9 L (vI 0 :: S) h Q := wp_pl rfl rfl rfl
theorem s42_9 : WP 42 0 9 [a0, a1, a2, a3, a4, a5, a6] (vI x :: S) h Q ↔ WP 42 0 10 [a0, a1, a2, vI x, a4, a5, a6] S h Q := wp_istore rfl rfl rfl
theorem s42_10 : WP 42 0 10 [a0, a1, a2, vI x, a4, a5, a6] S h Q ↔ WP 42 0 11 [a0, a1, a2, vI x, a4, a5, a6] (vI x :: S) h Q := wp_iload rfl rfl
theorem s42_11 : WP 42 0 11 L S h Q ↔ WP 42 0 12 L (vI 3 :: S) h Q := wp_pl rfl rfl rfl
theorem s42_12 : WP 42 0 12 L (vI y :: vI x :: S) h Q ↔ zif (x < y) (WP 42 0 15 L S h Q) (WP 42 0 34 L S h Q) := wp_bN zc_lt rfl rfl rfl
theorem s42_15 : WP 42 0 15 [a0, vI x, a2, a3, a4, a5, a6] S h Q ↔ WP 42 0 16 [a0, vI x, a2, a3, a4, a5, a6] (vI x :: S) h Q := wp_iload rfl rfl
theorem s42_16 : WP 42 0 16 [a0, a1, a2, vI x, a4, a5, a6] S h Q ↔ WP 42 0 17 [a0, a1, a2, vI x, a4, a5, a6] (vI x :: S) h Q := wp_iload rfl rfl
theorem s42_17 : WP 42 0 17 L (vI x1 :: vI x0 :: S) h Q ↔ (zw S ≤ 8 ∧ WP 30 0 0 [vI x0, vI x1] [] h (zret 42 0 17 20 L S Q)) := wp_S rfl rfl (zcan_of rfl rfl) rfl rfl rfl
theorem s42_20 : WP 42 0 20 L (vI x :: S) h Q ↔ zif (x = 0) (WP 42 0 28 L S h Q) (WP 42 0 23 L S h Q) := wp_bE zc_eq rfl rfl rfl
theorem s42_23 : WP 42 0 23 [a0, a1, vA r, a3, a4, a5, a6] S h Q ↔ WP 42 0 24 [a0, a1, vA r, a3, a4, a5, a6] (vA r :: S) h Q := wp_aload rfl rfl
theorem s42_24 : WP 42 0 24 [a0, a1, a2, vI x, a4, a5, a6] S h Q ↔ WP 42 0 25 [a0, a1, a2, vI x, a4, a5, a6] (vI x :: S) h Q := wp_iload rfl rfl
theorem s42_25 : WP 42 0 25 L (vI x0 :: vA (some a) :: S) h Q ↔ ((hk h a).1 = 115 ∧ (zw S ≤ 8 ∧ WP 302 0 0 [vA (some a), vI x0, vJ] [] h (zret 42 0 25 28 L S Q))) := wp_V1 (c := 115) rfl rfl (fun _ => rfl) rfl rfl (zcan_of rfl rfl) rfl rfl rfl
theorem s42_28 : WP 42 0 28 [a0, a1, a2, vI x, a4, a5, a6] S h Q ↔ WP 42 0 31 [a0, a1, a2, vI (wr (x + 1)), a4, a5, a6] S h Q := wp_iinc rfl rfl rfl
theorem s42_31 : WP 42 0 31 L S h Q ↔ WP 42 0 10 L S h Q := wp_pl rfl rfl rfl
theorem s42_34 : WP 42 0 34 L S h Q ↔ WP 42 0 35 L (vI (-1) :: S) h Q := wp_pl rfl rfl rfl
theorem s42_35 : WP 42 0 35 [a0, a1, a2, a3, a4, a5, a6] (vI x :: S) h Q ↔ WP 42 0 36 [a0, a1, a2, vI x, a4, a5, a6] S h Q := wp_istore rfl rfl rfl
theorem s42_36 : WP 42 0 36 [a0, a1, a2, vI x, a4, a5, a6] S h Q ↔ WP 42 0 37 [a0, a1, a2, vI x, a4, a5, a6] (vI x :: S) h Q := wp_iload rfl rfl
theorem s42_37 : WP 42 0 37 [a0, a1, vA r, a3, a4, a5, a6] S h Q ↔ WP 42 0 38 [a0, a1, vA r, a3, a4, a5, a6] (vA r :: S) h Q := wp_aload rfl rfl
theorem s42_38 : WP 42 0 38 L (vA (some a) :: S) h Q ↔ ((hk h a).1 = 115 ∧ (zw S ≤ 8 ∧ WP 293 0 0 [vA (some a), vJ, vJ] [] h (zret 42 0 38 41 L S Q))) := wp_V1 (c := 115) rfl rfl (fun _ => rfl) rfl rfl (zcan_of rfl rfl) rfl rfl rfl
theorem s42_41 : WP 42 0 41 L (vI y :: vI x :: S) h Q ↔ zif (x = y) (WP 42 0 128 L S h Q) (WP 42 0 44 L S h Q) := wp_bE zc_eq rfl rfl rfl
theorem s42_44 : WP 42 0 44 [a0, a1, vA r, a3, a4, a5, a6] S h Q ↔ WP 42 0 45 [a0, a1, vA r, a3, a4, a5, a6] (vA r :: S) h Q := wp_aload rfl rfl
theorem s42_45 : WP 42 0 45 L (vA (some a) :: S) h Q ↔ ((hk h a).1 = 115 ∧ (zw S ≤ 8 ∧ WP 293 0 0 [vA (some a), vJ, vJ] [] h (zret 42 0 45 48 L S Q))) := wp_V1 (c := 115) rfl rfl (fun _ => rfl) rfl rfl (zcan_of rfl rfl) rfl rfl rfl
theorem s42_48 : WP 42 0 48 [a0, a1, a2, a3, a4, a5, a6] (vI x :: S) h Q ↔ WP 42 0 49 [a0, a1, a2, vI x, a4, a5, a6] S h Q := wp_istore rfl rfl rfl
theorem s42_49 : WP 42 0 49 L S h Q ↔ WP 42 0 50 L (vI 0 :: S) h Q := wp_pl rfl rfl rfl
theorem s42_50 : WP 42 0 50 [a0, a1, a2, a3, a4, a5, a6] (vI x :: S) h Q ↔ WP 42 0 52 [a0, a1, a2, a3, vI x, a5, a6] S h Q := wp_istore rfl rfl rfl
theorem s42_52 : WP 42 0 52 [a0, a1, a2, a3, vI x, a5, a6] S h Q ↔ WP 42 0 54 [a0, a1, a2, a3, vI x, a5, a6] (vI x :: S) h Q := wp_iload rfl rfl
theorem s42_54 : WP 42 0 54 L S h Q ↔ WP 42 0 55 L (vI 1 :: S) h Q := wp_pl rfl rfl rfl
theorem s42_55 : WP 42 0 55 L (vI y :: vI x :: S) h Q ↔ WP 42 0 56 L (vI (wr (x + y)) :: S) h Q := wp_pl rfl rfl rfl
theorem s42_56 : WP 42 0 56 [vA r, a1, a2, a3, a4, a5, a6] S h Q ↔ WP 42 0 57 [vA r, a1, a2, a3, a4, a5, a6] (vA r :: S) h Q := wp_aload rfl rfl
theorem s42_57 : WP 42 0 57 L (vA (some a) :: S) h Q ↔ ((hk h a).1 = 117 ∧ (zw S ≤ 8 ∧ WP 323 0 0 [vA (some a)] [] h (zret 42 0 57 60 L S Q))) := wp_V1 (c := 117) rfl rfl (fun _ => rfl) rfl rfl (zcan_of rfl rfl) rfl rfl rfl
theorem s42_60 : WP 42 0 60 L (vI y :: vI x :: S) h Q ↔ zif (x < y) (WP 42 0 63 L S h Q) (WP 42 0 125 L S h Q) := wp_bN zc_lt rfl rfl rfl
theorem s42_63 : WP 42 0 63 [vA r, a1, a2, a3, a4, a5, a6] S h Q ↔ WP 42 0 64 [vA r, a1, a2, a3, a4, a5, a6] (vA r :: S) h Q := wp_aload rfl rfl
theorem s42_64 : WP 42 0 64 [a0, a1, a2, a3, vI x, a5, a6] S h Q ↔ WP 42 0 66 [a0, a1, a2, a3, vI x, a5, a6] (vI x :: S) h Q := wp_iload rfl rfl
theorem s42_66 : WP 42 0 66 L (vI x0 :: vA (some a) :: S) h Q ↔ ((hk h a).1 = 117 ∧ (zw S ≤ 8 ∧ WP 310 0 0 [vA (some a), vI x0] [] h (zret 42 0 66 69 L S Q))) := wp_V1 (c := 117) rfl rfl (fun _ => rfl) rfl rfl (zcan_of rfl rfl) rfl rfl rfl
theorem s42_69 : WP 42 0 69 L S h Q ↔ WP 42 0 71 L (vI 120 :: S) h Q := wp_pl rfl rfl rfl
theorem s42_71 : WP 42 0 71 L (vI y :: vI x :: S) h Q ↔ WP 42 0 72 L (vI (wr (x - y)) :: S) h Q := wp_pl rfl rfl rfl
theorem s42_72 : WP 42 0 72 [a0, a1, a2, a3, a4, a5, a6] (vI x :: S) h Q ↔ WP 42 0 74 [a0, a1, a2, a3, a4, vI x, a6] S h Q := wp_istore rfl rfl rfl
theorem s42_74 : WP 42 0 74 L S h Q ↔ WP 42 0 75 L (vI 3 :: S) h Q := wp_pl rfl rfl rfl
theorem s42_75 : WP 42 0 75 [vA r, a1, a2, a3, a4, a5, a6] S h Q ↔ WP 42 0 76 [vA r, a1, a2, a3, a4, a5, a6] (vA r :: S) h Q := wp_aload rfl rfl
theorem s42_76 : WP 42 0 76 [a0, a1, a2, a3, vI x, a5, a6] S h Q ↔ WP 42 0 78 [a0, a1, a2, a3, vI x, a5, a6] (vI x :: S) h Q := wp_iload rfl rfl
theorem s42_78 : WP 42 0 78 L S h Q ↔ WP 42 0 79 L (vI 1 :: S) h Q := wp_pl rfl rfl rfl
theorem s42_79 : WP 42 0 79 L (vI y :: vI x :: S) h Q ↔ WP 42 0 80 L (vI (wr (x + y)) :: S) h Q := wp_pl rfl rfl rfl
theorem s42_80 : WP 42 0 80 L (vI x0 :: vA (some a) :: S) h Q ↔ ((hk h a).1 = 117 ∧ (zw S ≤ 8 ∧ WP 310 0 0 [vA (some a), vI x0] [] h (zret 42 0 80 83 L S Q))) := wp_V1 (c := 117) rfl rfl (fun _ => rfl) rfl rfl (zcan_of rfl rfl) rfl rfl rfl
theorem s42_83 : WP 42 0 83 L (vI y :: vI x :: S) h Q ↔ WP 42 0 84 L (vI (wr (x + y)) :: S) h Q := wp_pl rfl rfl rfl
theorem s42_84 : WP 42 0 84 L S h Q ↔ WP 42 0 86 L (vI 120 :: S) h Q := wp_pl rfl rfl rfl
theorem s42_86 : WP 42 0 86 L (vI y :: vI x :: S) h Q ↔ WP 42 0 87 L (vI (wr (x - y)) :: S) h Q := wp_pl rfl rfl rfl
theorem s42_87 : WP 42 0 87 [a0, a1, a2, a3, a4, a5, a6] (vI x :: S) h Q ↔ WP 42 0 89 [a0, a1, a2, a3, a4, a5, vI x] S h Q := wp_istore rfl rfl rfl
theorem s42_89 : WP 42 0 89 [a0, a1, vA r, a3, a4, a5, a6] S h Q ↔ WP 42 0 90 [a0, a1, vA r, a3, a4, a5, a6] (vA r :: S) h Q := wp_aload rfl rfl
theorem s42_90 : WP 42 0 90 [a0, a1, a2, a3, a4, vI x, a6] S h Q ↔ WP 42 0 92 [a0, a1, a2, a3, a4, vI x, a6] (vI x :: S) h Q := wp_iload rfl rfl
theorem s42_92 : WP 42 0 92 L (vI x0 :: vA (some a) :: S) h Q ↔ ((hk h a).1 = 115 ∧ (zw S ≤ 8 ∧ WP 297 0 0 [vA (some a), vI x0, vJ] [] h (zret 42 0 92 95 L S Q))) := wp_V1 (c := 115) rfl rfl (fun _ => rfl) rfl rfl (zcan_of rfl rfl) rfl rfl rfl
theorem s42_95 : WP 42 0 95 L (vI x :: S) h Q ↔ zif (x = 0) (WP 42 0 98 L S h Q) (WP 42 0 107 L S h Q) := wp_bN zc_eq rfl rfl rfl
theorem s42_98 : WP 42 0 98 [a0, a1, vA r, a3, a4, a5, a6] S h Q ↔ WP 42 0 99 [a0, a1, vA r, a3, a4, a5, a6] (vA r :: S) h Q := wp_aload rfl rfl
theorem s42_99 : WP 42 0 99 [a0, a1, a2, a3, a4, a5, vI x] S h Q ↔ WP 42 0 101 [a0, a1, a2, a3, a4, a5, vI x] (vI x :: S) h Q := wp_iload rfl rfl
theorem s42_101 : WP 42 0 101 L (vI x0 :: vA (some a) :: S) h Q ↔ ((hk h a).1 = 115 ∧ (zw S ≤ 8 ∧ WP 297 0 0 [vA (some a), vI x0, vJ] [] h (zret 42 0 101 104 L S Q))) := wp_V1 (c := 115) rfl rfl (fun _ => rfl) rfl rfl (zcan_of rfl rfl) rfl rfl rfl
theorem s42_104 : WP 42 0 104 L (vI x :: S) h Q ↔ zif (x = 0) (WP 42 0 119 L S h Q) (WP 42 0 107 L S h Q) := wp_bE zc_eq rfl rfl rfl
theorem s42_107 : WP 42 0 107 [a0, a1, vA r, a3, a4, a5, a6] S h Q ↔ WP 42 0 108 [a0, a1, vA r, a3, a4, a5, a6] (vA r :: S) h Q := wp_aload rfl rfl
theorem s42_108 : WP 42 0 108 [a0, a1, a2, a3, a4, vI x, a6] S h Q ↔ WP 42 0 110 [a0, a1, a2, a3, a4, vI x, a6] (vI x :: S) h Q := wp_iload rfl rfl
theorem s42_110 : WP 42 0 110 L (vI x0 :: vA (some a) :: S) h Q ↔ ((hk h a).1 = 115 ∧ (zw S ≤ 8 ∧ WP 302 0 0 [vA (some a), vI x0, vJ] [] h (zret 42 0 110 113 L S Q))) := wp_V1 (c := 115) rfl rfl (fun _ => rfl) rfl rfl (zcan_of rfl rfl) rfl rfl rfl
theorem s42_113 : WP 42 0 113 [a0, a1, vA r, a3, a4, a5, a6] S h Q ↔ WP 42 0 114 [a0, a1, vA r, a3, a4, a5, a6] (vA r :: S) h Q := wp_aload rfl rfl
theorem s42_114 : WP 42 0 114 [a0, a1, a2, a3, a4, a5, vI x] S h Q ↔ WP 42 0 116 [a0, a1, a2, a3, a4, a5, vI x] (vI x :: S) h Q := wp_iload rfl rfl
theorem s42_116 : WP 42 0 116 L (vI x0 :: vA (some a) :: S) h Q ↔ ((hk h a).1 = 115 ∧ (zw S ≤ 8 ∧ WP 302 0 0 [vA (some a), vI x0, vJ] [] h (zret 42 0 116 119 L S Q))) := wp_V1 (c := 115) rfl rfl (fun _ => rfl) rfl rfl (zcan_of rfl rfl) rfl rfl rfl
theorem s42_119 : WP 42 0 119 [a0, a1, a2, a3, vI x, a5, a6] S h Q ↔ WP 42 0 122 [a0, a1, a2, a3, vI (wr (x + 1)), a5, a6] S h Q := wp_iinc rfl rfl rfl
theorem s42_122 : WP 42 0 122 L S h Q ↔ WP 42 0 52 L S h Q := wp_pl rfl rfl rfl
theorem s42_125 : WP 42 0 125 L S h Q ↔ WP 42 0 36 L S h Q := wp_pl rfl rfl rfl
theorem s42_128 : WP 42 0 128 L S h Q ↔ WP 42 0 129 L (vI 0 :: S) h Q := wp_pl rfl rfl rfl
theorem s42_129 : WP 42 0 129 [a0, a1, a2, a3, a4, a5, a6] (vI x :: S) h Q ↔ WP 42 0 131 [a0, a1, a2, a3, vI x, a5, a6] S h Q := wp_istore rfl rfl rfl
theorem s42_131 : WP 42 0 131 [a0, a1, a2, a3, vI x, a5, a6] S h Q ↔ WP 42 0 133 [a0, a1, a2, a3, vI x, a5, a6] (vI x :: S) h Q := wp_iload rfl rfl
theorem s42_133 : WP 42 0 133 L S h Q ↔ WP 42 0 134 L (vI 3 :: S) h Q := wp_pl rfl rfl rfl
theorem s42_134 : WP 42 0 134 L (vI y :: vI x :: S) h Q ↔ zif (x < y) (WP 42 0 137 L S h Q) (WP 42 0 165 L S h Q) := wp_bN zc_lt rfl rfl rfl
theorem s42_137 : WP 42 0 137 [a0, vI x, a2, a3, a4, a5, a6] S h Q ↔ WP 42 0 138 [a0, vI x, a2, a3, a4, a5, a6] (vI x :: S) h Q := wp_iload rfl rfl
theorem s42_138 : WP 42 0 138 [a0, a1, a2, a3, vI x, a5, a6] S h Q ↔ WP 42 0 140 [a0, a1, a2, a3, vI x, a5, a6] (vI x :: S) h Q := wp_iload rfl rfl
theorem s42_140 : WP 42 0 140 L (vI x1 :: vI x0 :: S) h Q ↔ (zw S ≤ 8 ∧ WP 30 0 0 [vI x0, vI x1] [] h (zret 42 0 140 143 L S Q)) := wp_S rfl rfl (zcan_of rfl rfl) rfl rfl rfl
theorem s42_143 : WP 42 0 143 L (vI x :: S) h Q ↔ zif (x = 0) (WP 42 0 159 L S h Q) (WP 42 0 146 L S h Q) := wp_bE zc_eq rfl rfl rfl
theorem s42_146 : WP 42 0 146 [a0, a1, vA r, a3, a4, a5, a6] S h Q ↔ WP 42 0 147 [a0, a1, vA r, a3, a4, a5, a6] (vA r :: S) h Q := wp_aload rfl rfl
theorem s42_147 : WP 42 0 147 L S h Q ↔ WP 42 0 148 L (vI 3 :: S) h Q := wp_pl rfl rfl rfl
theorem s42_148 : WP 42 0 148 [a0, a1, a2, a3, vI x, a5, a6] S h Q ↔ WP 42 0 150 [a0, a1, a2, a3, vI x, a5, a6] (vI x :: S) h Q := wp_iload rfl rfl
theorem s42_150 : WP 42 0 150 L (vI y :: vI x :: S) h Q ↔ WP 42 0 151 L (vI (wr (x + y)) :: S) h Q := wp_pl rfl rfl rfl
theorem s42_151 : WP 42 0 151 L (vI x0 :: vA (some a) :: S) h Q ↔ ((hk h a).1 = 115 ∧ (zw S ≤ 8 ∧ WP 297 0 0 [vA (some a), vI x0, vJ] [] h (zret 42 0 151 154 L S Q))) := wp_V1 (c := 115) rfl rfl (fun _ => rfl) rfl rfl (zcan_of rfl rfl) rfl rfl rfl
theorem s42_154 : WP 42 0 154 L (vI x :: S) h Q ↔ zif (x = 0) (WP 42 0 159 L S h Q) (WP 42 0 157 L S h Q) := wp_bE zc_eq rfl rfl rfl
theorem s42_157 : WP 42 0 157 L S h Q ↔ WP 42 0 158 L (vI 0 :: S) h Q := wp_pl rfl rfl rfl
theorem s42_158 : WP 42 0 158 L [vI x] h Q ↔ ((x = 0 ∨ x = 1) ∧ Q (.inl (some (vI x))) h) := wp_iret rfl rfl
theorem s42_159 : WP 42 0 159 [a0, a1, a2, a3, vI x, a5, a6] S h Q ↔ WP 42 0 162 [a0, a1, a2, a3, vI (wr (x + 1)), a5, a6] S h Q := wp_iinc rfl rfl rfl
theorem s42_162 : WP 42 0 162 L S h Q ↔ WP 42 0 131 L S h Q := wp_pl rfl rfl rfl
theorem s42_165 : WP 42 0 165 L S h Q ↔ WP 42 0 166 L (vI 1 :: S) h Q := wp_pl rfl rfl rfl
theorem s42_166 : WP 42 0 166 L [vI x] h Q ↔ ((x = 0 ∨ x = 1) ∧ Q (.inl (some (vI x))) h) := wp_iret rfl rfl
/-! RepeatFree.isStuck(LRepeatFree$Word;)Z -/
theorem s43_0 : WP 43 0 0 L S h Q ↔ WP 43 0 1 L (vI 1 :: S) h Q := wp_pl rfl rfl rfl
theorem s43_1 : WP 43 0 1 [a0, a1, a2, a3, a4] (vI x :: S) h Q ↔ WP 43 0 2 [a0, a1, vI x, a3, a4] S h Q := wp_istore rfl rfl rfl
theorem s43_2 : WP 43 0 2 L S h Q ↔ WP 43 0 3 L (vI 0 :: S) h Q := wp_pl rfl rfl rfl
theorem s43_3 : WP 43 0 3 [a0, a1, a2, a3, a4] (vI x :: S) h Q ↔ WP 43 0 4 [a0, a1, a2, vI x, a4] S h Q := wp_istore rfl rfl rfl
theorem s43_4 : WP 43 0 4 [a0, a1, a2, vI x, a4] S h Q ↔ WP 43 0 5 [a0, a1, a2, vI x, a4] (vI x :: S) h Q := wp_iload rfl rfl
theorem s43_5 : WP 43 0 5 [vA r, a1, a2, a3, a4] S h Q ↔ WP 43 0 6 [vA r, a1, a2, a3, a4] (vA r :: S) h Q := wp_aload rfl rfl
theorem s43_6 : WP 43 0 6 L (vA (some a) :: S) h Q ↔ (zhas 4 (hk h a) = true ∧ WP 43 0 9 L (hm h a 4 :: S) h Q) := wp_if rfl rfl rfl
theorem s43_9 : WP 43 0 9 L (vA (some a) :: S) h Q ↔ (zhas 12 (hk h a) = true ∧ WP 43 0 12 L (hm h a 12 :: S) h Q) := wp_if rfl rfl rfl
theorem s43_12 : WP 43 0 12 L (vI y :: vI x :: S) h Q ↔ zif (x < y) (WP 43 0 15 L S h Q) (WP 43 0 50 L S h Q) := wp_bN zc_lt rfl rfl rfl
theorem s43_15 : WP 43 0 15 [a0, a1, vI x, a3, a4] S h Q ↔ WP 43 0 16 [a0, a1, vI x, a3, a4] (vI x :: S) h Q := wp_iload rfl rfl
theorem s43_16 : WP 43 0 16 L (vI x :: S) h Q ↔ zif (x = 0) (WP 43 0 50 L S h Q) (WP 43 0 19 L S h Q) := wp_bE zc_eq rfl rfl rfl
theorem s43_19 : WP 43 0 19 [a0, vA r, a2, a3, a4] S h Q ↔ WP 43 0 20 [a0, vA r, a2, a3, a4] (vA r :: S) h Q := wp_aload rfl rfl
theorem s43_20 : WP 43 0 20 [a0, a1, a2, vI x, a4] S h Q ↔ WP 43 0 21 [a0, a1, a2, vI x, a4] (vI x :: S) h Q := wp_iload rfl rfl
theorem s43_21 : WP 43 0 21 L (vI x0 :: vA (some a) :: S) h Q ↔ ((hk h a).1 = 102 ∧ (zw S ≤ 8 ∧ WP 97 0 0 [vA (some a), vI x0] [] h (zret 43 0 21 24 L S Q))) := wp_V1 (c := 102) rfl rfl (fun _ => rfl) rfl rfl (zcan_of rfl rfl) rfl rfl rfl
theorem s43_24 : WP 43 0 24 [vA r, a1, a2, a3, a4] S h Q ↔ WP 43 0 25 [vA r, a1, a2, a3, a4] (vA r :: S) h Q := wp_aload rfl rfl
theorem s43_25 : WP 43 0 25 [a0, vA r, a2, a3, a4] S h Q ↔ WP 43 0 26 [a0, vA r, a2, a3, a4] (vA r :: S) h Q := wp_aload rfl rfl
theorem s43_26 : WP 43 0 26 L (vA r0 :: vA (some a) :: S) h Q ↔ ((hk h a).1 = 100 ∧ (zw S ≤ 8 ∧ WP 37 0 0 [vA (some a), vA r0, vJ] [] h (zret 43 0 26 29 L S Q))) := wp_V1 (c := 100) rfl rfl (fun _ => rfl) rfl rfl (zcan_of rfl rfl) rfl rfl rfl
theorem s43_29 : WP 43 0 29 L (vI x :: S) h Q ↔ zif (x = 0) (WP 43 0 32 L S h Q) (WP 43 0 36 L S h Q) := wp_bN zc_eq rfl rfl rfl
theorem s43_32 : WP 43 0 32 L S h Q ↔ WP 43 0 33 L (vI 1 :: S) h Q := wp_pl rfl rfl rfl
theorem s43_33 : WP 43 0 33 L S h Q ↔ WP 43 0 37 L S h Q := wp_pl rfl rfl rfl
theorem s43_36 : WP 43 0 36 L S h Q ↔ WP 43 0 37 L (vI 0 :: S) h Q := wp_pl rfl rfl rfl
theorem s43_37 : WP 43 0 37 [a0, a1, a2, a3, a4] (vI x :: S) h Q ↔ WP 43 0 38 [a0, a1, vI x, a3, a4] S h Q := wp_istore rfl rfl rfl
theorem s43_38 : WP 43 0 38 [a0, vA r, a2, a3, a4] S h Q ↔ WP 43 0 39 [a0, vA r, a2, a3, a4] (vA r :: S) h Q := wp_aload rfl rfl
theorem s43_39 : WP 43 0 39 L (vA (some a) :: S) h Q ↔ ((hk h a).1 = 102 ∧ (zw S ≤ 8 ∧ WP 99 0 0 [vA (some a)] [] h (zret 43 0 39 42 L S Q))) := wp_V1 (c := 102) rfl rfl (fun _ => rfl) rfl rfl (zcan_of rfl rfl) rfl rfl rfl
theorem s43_42 : WP 43 0 42 [a0, a1, a2, a3, a4] (vI x :: S) h Q ↔ WP 43 0 44 [a0, a1, a2, a3, vI x] S h Q := wp_istore rfl rfl rfl
theorem s43_44 : WP 43 0 44 [a0, a1, a2, vI x, a4] S h Q ↔ WP 43 0 47 [a0, a1, a2, vI (wr (x + 1)), a4] S h Q := wp_iinc rfl rfl rfl
theorem s43_47 : WP 43 0 47 L S h Q ↔ WP 43 0 4 L S h Q := wp_pl rfl rfl rfl
theorem s43_50 : WP 43 0 50 [a0, a1, vI x, a3, a4] S h Q ↔ WP 43 0 51 [a0, a1, vI x, a3, a4] (vI x :: S) h Q := wp_iload rfl rfl
theorem s43_51 : WP 43 0 51 L [vI x] h Q ↔ ((x = 0 ∨ x = 1) ∧ Q (.inl (some (vI x))) h) := wp_iret rfl rfl
/-! RepeatFree.isWrong(I)Ljava/lang/IllegalArgumentException; -/
theorem s44_0 : WP 44 0 0 [vA r, a1] S h Q ↔ WP 44 0 1 [vA r, a1] (vA r :: S) h Q := wp_aload rfl rfl
theorem s44_1 : WP 44 0 1 [a0, vI x] S h Q ↔ WP 44 0 2 [a0, vI x] (vI x :: S) h Q := wp_iload rfl rfl
theorem s44_2 : WP 44 0 2 L (vI x :: vA (some a) :: S) h Q ↔ ((zNC ≤ a ∧ zhas 3 (hk h a) = true) ∧ WP 44 0 5 L S (hput h a 3 (vI x)) Q) := wp_put0 rfl rfl
theorem s44_5 : WP 44 0 5 L S h Q ↔ (zw S ≤ 8 ∧ WP 44 0 12 L (vA (some (hn h)) :: S) (hnew h (120, 0) 6 zdf) Q) := wp_if rfl rfl rfl
theorem s44_12 : WP 44 0 12 L [vA r] h Q ↔ Q (.inl (some (vA r))) h := wp_aret rfl
/-! RepeatFree.keeps(II)I -/
theorem s45_0 : WP 45 0 0 [vA r, a1, a2, a3] S h Q ↔ WP 45 0 1 [vA r, a1, a2, a3] (vA r :: S) h Q := wp_aload rfl rfl
theorem s45_1 : WP 45 0 1 [a0, vI x, a2, a3] S h Q ↔ WP 45 0 2 [a0, vI x, a2, a3] (vI x :: S) h Q := wp_iload rfl rfl
theorem s45_2 : WP 45 0 2 [a0, a1, vI x, a3] S h Q ↔ WP 45 0 3 [a0, a1, vI x, a3] (vI x :: S) h Q := wp_iload rfl rfl
theorem s45_3 : WP 45 0 3 L (vI x1 :: vI x0 :: vA (some a) :: S) h Q ↔ ((hk h a).1 = 100 ∧ (zw S ≤ 8 ∧ WP 7 0 0 [vA (some a), vI x0, vI x1, vJ] [] h (zret 45 0 3 6 L S Q))) := wp_V1 (c := 100) rfl rfl (fun _ => rfl) rfl rfl (zcan_of rfl rfl) rfl rfl rfl
theorem s45_6 : WP 45 0 6 [a0, a1, a2, a3] (vI x :: S) h Q ↔ WP 45 0 7 [a0, a1, a2, vI x] S h Q := wp_istore rfl rfl rfl
theorem s45_7 : WP 45 0 7 [a0, a1, a2, vI x] S h Q ↔ WP 45 0 8 [a0, a1, a2, vI x] (vI x :: S) h Q := wp_iload rfl rfl
theorem s45_8 : WP 45 0 8 L S h Q ↔ WP 45 0 10 L (vI (-2) :: S) h Q := wp_pl rfl rfl rfl
theorem s45_10 : WP 45 0 10 L (vI y :: vI x :: S) h Q ↔ zif (x = y) (WP 45 0 13 L S h Q) (WP 45 0 18 L S h Q) := wp_bN zc_eq rfl rfl rfl
theorem s45_13 : WP 45 0 13 L S h Q ↔ WP 45 0 15 L (vI (-2) :: S) h Q := wp_pl rfl rfl rfl
theorem s45_15 : WP 45 0 15 L S h Q ↔ WP 45 0 28 L S h Q := wp_pl rfl rfl rfl
theorem s45_18 : WP 45 0 18 [a0, a1, a2, vI x] S h Q ↔ WP 45 0 19 [a0, a1, a2, vI x] (vI x :: S) h Q := wp_iload rfl rfl
theorem s45_19 : WP 45 0 19 L S h Q ↔ WP 45 0 20 L (vI (-1) :: S) h Q := wp_pl rfl rfl rfl
theorem s45_20 : WP 45 0 20 L (vI y :: vI x :: S) h Q ↔ zif (x = y) (WP 45 0 23 L S h Q) (WP 45 0 27 L S h Q) := wp_bN zc_eq rfl rfl rfl
theorem s45_23 : WP 45 0 23 L S h Q ↔ WP 45 0 24 L (vI 1 :: S) h Q := wp_pl rfl rfl rfl
theorem s45_24 : WP 45 0 24 L S h Q ↔ WP 45 0 28 L S h Q := wp_pl rfl rfl rfl
theorem s45_27 : WP 45 0 27 L S h Q ↔ WP 45 0 28 L (vI 0 :: S) h Q := wp_pl rfl rfl rfl
theorem s45_28 : WP 45 0 28 L [vI x] h Q ↔ Q (.inl (some (vI x))) h := wp_iret0 rfl rfl
/-! RepeatFree.lays(I)V -/
theorem s46_0 : WP 46 0 0 L S h Q ↔ WP 46 0 2 L (vI 24 :: S) h Q := wp_pl rfl rfl rfl
theorem s46_2 : WP 46 0 2 [a0, a1, a2] (vI x :: S) h Q ↔ WP 46 0 3 [a0, a1, vI x] S h Q := wp_istore rfl rfl rfl
theorem s46_3 : WP 46 0 3 [a0, a1, vI x] S h Q ↔ WP 46 0 4 [a0, a1, vI x] (vI x :: S) h Q := wp_iload rfl rfl
theorem s46_4 : WP 46 0 4 L (vI x :: S) h Q ↔ zif (x < 0) (WP 46 0 36 L S h Q) (WP 46 0 7 L S h Q) := wp_bE zc_lt rfl rfl rfl
theorem s46_7 : WP 46 0 7 [vA r, a1, a2] S h Q ↔ WP 46 0 8 [vA r, a1, a2] (vA r :: S) h Q := wp_aload rfl rfl
theorem s46_8 : WP 46 0 8 L (vA (some a) :: S) h Q ↔ (zhas 1 (hk h a) = true ∧ WP 46 0 11 L (hm h a 1 :: S) h Q) := wp_if rfl rfl rfl
theorem s46_11 : WP 46 0 11 [vA r, a1, a2] S h Q ↔ WP 46 0 12 [vA r, a1, a2] (vA r :: S) h Q := wp_aload rfl rfl
theorem s46_12 : WP 46 0 12 L (vA (some a) :: S) h Q ↔ (zhas 2 (hk h a) = true ∧ WP 46 0 15 L (hm h a 2 :: S) h Q) := wp_if rfl rfl rfl
theorem s46_15 : WP 46 0 15 [a0, vI x, a2] S h Q ↔ WP 46 0 16 [a0, vI x, a2] (vI x :: S) h Q := wp_iload rfl rfl
theorem s46_16 : WP 46 0 16 [a0, a1, vI x] S h Q ↔ WP 46 0 17 [a0, a1, vI x] (vI x :: S) h Q := wp_iload rfl rfl
theorem s46_17 : WP 46 0 17 L (vI y :: vI x :: S) h Q ↔ WP 46 0 18 L (vI (zshr x y) :: S) h Q := wp_pl rfl rfl rfl
theorem s46_18 : WP 46 0 18 L (vI x :: S) h Q ↔ WP 46 0 19 L (vI (wb x) :: S) h Q := wp_pl rfl rfl rfl
theorem s46_19 : WP 46 0 19 L (vI y :: vI x :: vA (some a) :: S) h Q ↔ ((((hk h a).1 = 2 ∨ (hk h a).1 = 3) ∧ (0 ≤ x ∧ x < ((hk h a).2 : Int)) ∧ zNC ≤ a ∧ ((hk h a).1 = 3 → y = 0 ∨ y = 1)) ∧ WP 46 0 20 L S (hput h a x.toNat (vI (if (hk h a).1 = 2 then wb y else y))) Q) := wp_if rfl rfl rfl
theorem s46_20 : WP 46 0 20 [vA r, a1, a2] S h Q ↔ WP 46 0 21 [vA r, a1, a2] (vA r :: S) h Q := wp_aload rfl rfl
theorem s46_21 : WP 46 0 21 L (vA r :: S) h Q ↔ WP 46 0 22 L (vA r :: vA r :: S) h Q := wp_pl rfl rfl rfl
theorem s46_21i : WP 46 0 21 L (vI x :: S) h Q ↔ WP 46 0 22 L (vI x :: vI x :: S) h Q := wp_pl rfl rfl rfl
theorem s46_22 : WP 46 0 22 L (vA (some a) :: S) h Q ↔ (zhas 2 (hk h a) = true ∧ WP 46 0 25 L (hm h a 2 :: S) h Q) := wp_if rfl rfl rfl
theorem s46_25 : WP 46 0 25 L S h Q ↔ WP 46 0 26 L (vI 1 :: S) h Q := wp_pl rfl rfl rfl
theorem s46_26 : WP 46 0 26 L (vI y :: vI x :: S) h Q ↔ WP 46 0 27 L (vI (wr (x + y)) :: S) h Q := wp_pl rfl rfl rfl
theorem s46_27 : WP 46 0 27 L (vI x :: vA (some a) :: S) h Q ↔ ((zNC ≤ a ∧ zhas 2 (hk h a) = true) ∧ WP 46 0 30 L S (hput h a 2 (vI x)) Q) := wp_put0 rfl rfl
theorem s46_30 : WP 46 0 30 [a0, a1, vI x] S h Q ↔ WP 46 0 33 [a0, a1, vI (wr (x + (-8)))] S h Q := wp_iinc rfl rfl rfl
theorem s46_33 : WP 46 0 33 L S h Q ↔ WP 46 0 3 L S h Q := wp_pl rfl rfl rfl
theorem s46_36 : WP 46 0 36 L [] h Q ↔ Q (.inl none) h := wp_ret rfl
/-! RepeatFree.laysAvoided()V -/
theorem s47_0 : WP 47 0 0 L S h Q ↔ WP 47 0 1 L (vI 0 :: S) h Q := wp_pl rfl rfl rfl
theorem s47_1 : WP 47 0 1 [a0, a1, a2, a3] (vI x :: S) h Q ↔ WP 47 0 2 [a0, vI x, a2, a3] S h Q := wp_istore rfl rfl rfl
theorem s47_2 : WP 47 0 2 [vA r, a1, a2, a3] S h Q ↔ WP 47 0 3 [vA r, a1, a2, a3] (vA r :: S) h Q := wp_aload rfl rfl
theorem s47_3 : WP 47 0 3 L (vA (some a) :: S) h Q ↔ (zhas 4 (hk h a) = true ∧ WP 47 0 6 L (hm h a 4 :: S) h Q) := wp_if rfl rfl rfl
theorem s47_6 : WP 47 0 6 L (vA (some a) :: S) h Q ↔ (zhas 11 (hk h a) = true ∧ WP 47 0 9 L (hm h a 11 :: S) h Q) := wp_if rfl rfl rfl
theorem s47_9 : WP 47 0 9 L (vA (some a) :: S) h Q ↔ ((hk h a).1 = 111 ∧ (zw S ≤ 8 ∧ WP 398 0 0 [vA (some a)] [] h (zret 47 0 9 12 L S Q))) := wp_V1 (c := 111) rfl rfl (fun _ => rfl) rfl rfl (zcan_of rfl rfl) rfl rfl rfl
theorem s47_12 : WP 47 0 12 [a0, a1, a2, a3] (vA r :: S) h Q ↔ WP 47 0 13 [a0, a1, vA r, a3] S h Q := wp_astore rfl rfl rfl
theorem s47_13 : WP 47 0 13 [a0, a1, vA r, a3] S h Q ↔ WP 47 0 14 [a0, a1, vA r, a3] (vA r :: S) h Q := wp_aload rfl rfl
theorem s47_14 : WP 47 0 14 L (vA (some a) :: S) h Q ↔ ((hk h a).1 = 113 ∧ (zw S ≤ 8 ∧ WP 274 0 0 [vA (some a)] [] h (zret 47 0 14 19 L S Q))) := wp_F1 (c := 113) rfl rfl (fun _ => rfl) rfl rfl (zcan_of rfl rfl) rfl rfl rfl
theorem s47_19 : WP 47 0 19 L (vI x :: S) h Q ↔ zif (x = 0) (WP 47 0 50 L S h Q) (WP 47 0 22 L S h Q) := wp_bE zc_eq rfl rfl rfl
theorem s47_22 : WP 47 0 22 [a0, a1, vA r, a3] S h Q ↔ WP 47 0 23 [a0, a1, vA r, a3] (vA r :: S) h Q := wp_aload rfl rfl
theorem s47_23 : WP 47 0 23 L (vA (some a) :: S) h Q ↔ ((hk h a).1 = 113 ∧ (zw S ≤ 8 ∧ WP 276 0 0 [vA (some a)] [] h (zret 47 0 23 28 L S Q))) := wp_F1 (c := 113) rfl rfl (fun _ => rfl) rfl rfl (zcan_of rfl rfl) rfl rfl rfl
theorem s47_28n : WP 47 0 28 L (vA none :: S) h Q ↔ WP 47 0 31 L (vA none :: S) h Q := wp_pl rfl rfl rfl
theorem s47_28 : WP 47 0 28 L (vA (some a) :: S) h Q ↔ (zCX 3 (hk h a).1 a = true ∧ WP 47 0 31 L (vA (some a) :: S) h Q) := wp_if rfl rfl rfl
theorem s47_31 : WP 47 0 31 [a0, a1, a2, a3] (vA r :: S) h Q ↔ WP 47 0 32 [a0, a1, a2, vA r] S h Q := wp_astore rfl rfl rfl
theorem s47_32 : WP 47 0 32 [a0, vI x, a2, a3] S h Q ↔ WP 47 0 33 [a0, vI x, a2, a3] (vI x :: S) h Q := wp_iload rfl rfl
theorem s47_33 : WP 47 0 33 [a0, a1, a2, vA r] S h Q ↔ WP 47 0 34 [a0, a1, a2, vA r] (vA r :: S) h Q := wp_aload rfl rfl
theorem s47_34 : WP 47 0 34 L (vA (some a) :: S) h Q ↔ (zhas 22 (hk h a) = true ∧ WP 47 0 37 L (hm h a 22 :: S) h Q) := wp_if rfl rfl rfl
theorem s47_37 : WP 47 0 37 L (vI x :: S) h Q ↔ zif (x = 0) (WP 47 0 44 L S h Q) (WP 47 0 40 L S h Q) := wp_bE zc_eq rfl rfl rfl
theorem s47_40 : WP 47 0 40 L S h Q ↔ WP 47 0 41 L (vI 1 :: S) h Q := wp_pl rfl rfl rfl
theorem s47_41 : WP 47 0 41 L S h Q ↔ WP 47 0 45 L S h Q := wp_pl rfl rfl rfl
theorem s47_44 : WP 47 0 44 L S h Q ↔ WP 47 0 45 L (vI 0 :: S) h Q := wp_pl rfl rfl rfl
theorem s47_45 : WP 47 0 45 L (vI y :: vI x :: S) h Q ↔ WP 47 0 46 L (vI (wr (x + y)) :: S) h Q := wp_pl rfl rfl rfl
theorem s47_46 : WP 47 0 46 [a0, a1, a2, a3] (vI x :: S) h Q ↔ WP 47 0 47 [a0, vI x, a2, a3] S h Q := wp_istore rfl rfl rfl
theorem s47_47 : WP 47 0 47 L S h Q ↔ WP 47 0 13 L S h Q := wp_pl rfl rfl rfl
theorem s47_50 : WP 47 0 50 [vA r, a1, a2, a3] S h Q ↔ WP 47 0 51 [vA r, a1, a2, a3] (vA r :: S) h Q := wp_aload rfl rfl
theorem s47_51 : WP 47 0 51 [a0, vI x, a2, a3] S h Q ↔ WP 47 0 52 [a0, vI x, a2, a3] (vI x :: S) h Q := wp_iload rfl rfl
theorem s47_52 : WP 47 0 52 L (vI x :: S) h Q ↔ ((0 ≤ x ∧ x ≤ 1000000) ∧ WP 47 0 55 L (vA (some (hn h)) :: S) (hnew h (6, x.toNat) x.toNat (fun _ => vA none)) Q) := wp_anew rfl rfl rfl
theorem s47_55 : WP 47 0 55 L (vA r :: vA (some a) :: S) h Q ↔ ((zNC ≤ a ∧ zhas 5 (hk h a) = true) ∧ WP 47 0 58 L S (hput h a 5 (vA r)) Q) := wp_put3 rfl rfl
theorem s47_58 : WP 47 0 58 [vA r, a1, a2, a3] S h Q ↔ WP 47 0 59 [vA r, a1, a2, a3] (vA r :: S) h Q := wp_aload rfl rfl
theorem s47_59 : WP 47 0 59 L (vA (some a) :: S) h Q ↔ (zhas 4 (hk h a) = true ∧ WP 47 0 62 L (hm h a 4 :: S) h Q) := wp_if rfl rfl rfl
theorem s47_62 : WP 47 0 62 L (vA (some a) :: S) h Q ↔ (zhas 11 (hk h a) = true ∧ WP 47 0 65 L (hm h a 11 :: S) h Q) := wp_if rfl rfl rfl
theorem s47_65 : WP 47 0 65 L (vA (some a) :: S) h Q ↔ ((hk h a).1 = 111 ∧ (zw S ≤ 8 ∧ WP 398 0 0 [vA (some a)] [] h (zret 47 0 65 68 L S Q))) := wp_V1 (c := 111) rfl rfl (fun _ => rfl) rfl rfl (zcan_of rfl rfl) rfl rfl rfl
theorem s47_68 : WP 47 0 68 [a0, a1, a2, a3] (vA r :: S) h Q ↔ WP 47 0 69 [a0, a1, vA r, a3] S h Q := wp_astore rfl rfl rfl
theorem s47_69 : WP 47 0 69 [a0, a1, vA r, a3] S h Q ↔ WP 47 0 70 [a0, a1, vA r, a3] (vA r :: S) h Q := wp_aload rfl rfl
theorem s47_70 : WP 47 0 70 L (vA (some a) :: S) h Q ↔ ((hk h a).1 = 113 ∧ (zw S ≤ 8 ∧ WP 274 0 0 [vA (some a)] [] h (zret 47 0 70 75 L S Q))) := wp_F1 (c := 113) rfl rfl (fun _ => rfl) rfl rfl (zcan_of rfl rfl) rfl rfl rfl
theorem s47_75 : WP 47 0 75 L (vI x :: S) h Q ↔ zif (x = 0) (WP 47 0 111 L S h Q) (WP 47 0 78 L S h Q) := wp_bE zc_eq rfl rfl rfl
theorem s47_78 : WP 47 0 78 [a0, a1, vA r, a3] S h Q ↔ WP 47 0 79 [a0, a1, vA r, a3] (vA r :: S) h Q := wp_aload rfl rfl
theorem s47_79 : WP 47 0 79 L (vA (some a) :: S) h Q ↔ ((hk h a).1 = 113 ∧ (zw S ≤ 8 ∧ WP 276 0 0 [vA (some a)] [] h (zret 47 0 79 84 L S Q))) := wp_F1 (c := 113) rfl rfl (fun _ => rfl) rfl rfl (zcan_of rfl rfl) rfl rfl rfl
theorem s47_84n : WP 47 0 84 L (vA none :: S) h Q ↔ WP 47 0 87 L (vA none :: S) h Q := wp_pl rfl rfl rfl
theorem s47_84 : WP 47 0 84 L (vA (some a) :: S) h Q ↔ (zCX 3 (hk h a).1 a = true ∧ WP 47 0 87 L (vA (some a) :: S) h Q) := wp_if rfl rfl rfl
theorem s47_87 : WP 47 0 87 [a0, a1, a2, a3] (vA r :: S) h Q ↔ WP 47 0 88 [a0, a1, a2, vA r] S h Q := wp_astore rfl rfl rfl
theorem s47_88 : WP 47 0 88 [a0, a1, a2, vA r] S h Q ↔ WP 47 0 89 [a0, a1, a2, vA r] (vA r :: S) h Q := wp_aload rfl rfl
theorem s47_89 : WP 47 0 89 L (vA (some a) :: S) h Q ↔ (zhas 22 (hk h a) = true ∧ WP 47 0 92 L (hm h a 22 :: S) h Q) := wp_if rfl rfl rfl
theorem s47_92 : WP 47 0 92 L (vI x :: S) h Q ↔ zif (x = 0) (WP 47 0 95 L S h Q) (WP 47 0 98 L S h Q) := wp_bN zc_eq rfl rfl rfl
theorem s47_95 : WP 47 0 95 L S h Q ↔ WP 47 0 69 L S h Q := wp_pl rfl rfl rfl
theorem s47_98 : WP 47 0 98 [a0, vI x, a2, a3] S h Q ↔ WP 47 0 101 [a0, vI (wr (x + (-1))), a2, a3] S h Q := wp_iinc rfl rfl rfl
theorem s47_101 : WP 47 0 101 [vA r, a1, a2, a3] S h Q ↔ WP 47 0 102 [vA r, a1, a2, a3] (vA r :: S) h Q := wp_aload rfl rfl
theorem s47_102 : WP 47 0 102 L (vA (some a) :: S) h Q ↔ (zhas 5 (hk h a) = true ∧ WP 47 0 105 L (hm h a 5 :: S) h Q) := wp_if rfl rfl rfl
theorem s47_105 : WP 47 0 105 [a0, vI x, a2, a3] S h Q ↔ WP 47 0 106 [a0, vI x, a2, a3] (vI x :: S) h Q := wp_iload rfl rfl
theorem s47_106 : WP 47 0 106 [a0, a1, a2, vA r] S h Q ↔ WP 47 0 107 [a0, a1, a2, vA r] (vA r :: S) h Q := wp_aload rfl rfl
theorem s47_107 : WP 47 0 107 L (vA r :: vI x :: vA (some a) :: S) h Q ↔ (((5 ≤ (hk h a).1 ∧ (hk h a).1 ≤ 7) ∧ (0 ≤ x ∧ x < ((hk h a).2 : Int)) ∧ zNC ≤ a ∧ zref h a r) ∧ WP 47 0 108 L S (hput h a x.toNat (vA r)) Q) := wp_aast rfl
theorem s47_108 : WP 47 0 108 L S h Q ↔ WP 47 0 69 L S h Q := wp_pl rfl rfl rfl
theorem s47_111 : WP 47 0 111 L [] h Q ↔ Q (.inl none) h := wp_ret rfl
/-! RepeatFree.laysImage(LRepeatFree$Mapping;LRepeatFree$Word;)Z -/
theorem s48_0 : WP 48 0 0 [vA r, a1, a2, a3, a4, a5] S h Q ↔ WP 48 0 1 [vA r, a1, a2, a3, a4, a5] (vA r :: S) h Q := wp_aload rfl rfl
theorem s48_1 : WP 48 0 1 L (vA (some a) :: S) h Q ↔ (zhas 9 (hk h a) = true ∧ WP 48 0 4 L (hm h a 9 :: S) h Q) := wp_if rfl rfl rfl
theorem s48_4 : WP 48 0 4 L S h Q ↔ WP 48 0 5 L (vI 0 :: S) h Q := wp_pl rfl rfl rfl
theorem s48_5 : WP 48 0 5 L (vI x :: vA (some a) :: S) h Q ↔ ((zNC ≤ a ∧ zhas 15 (hk h a) = true) ∧ WP 48 0 8 L S (hput h a 15 (vI x)) Q) := wp_put0 rfl rfl
theorem s48_8 : WP 48 0 8 L S h Q ↔ WP 48 0 9 L (vI 0 :: S) h Q := wp_pl rfl rfl rfl
theorem s48_9 : WP 48 0 9 [a0, a1, a2, a3, a4, a5] (vI x :: S) h Q ↔ WP 48 0 10 [a0, a1, a2, vI x, a4, a5] S h Q := wp_istore rfl rfl rfl
theorem s48_10 : WP 48 0 10 [a0, a1, a2, vI x, a4, a5] S h Q ↔ WP 48 0 11 [a0, a1, a2, vI x, a4, a5] (vI x :: S) h Q := wp_iload rfl rfl
theorem s48_11 : WP 48 0 11 [a0, a1, vA r, a3, a4, a5] S h Q ↔ WP 48 0 12 [a0, a1, vA r, a3, a4, a5] (vA r :: S) h Q := wp_aload rfl rfl
theorem s48_12 : WP 48 0 12 L (vA (some a) :: S) h Q ↔ (zhas 15 (hk h a) = true ∧ WP 48 0 15 L (hm h a 15 :: S) h Q) := wp_if rfl rfl rfl
theorem s48_15 : WP 48 0 15 L (vI y :: vI x :: S) h Q ↔ zif (x < y) (WP 48 0 18 L S h Q) (WP 48 0 84 L S h Q) := wp_bN zc_lt rfl rfl rfl
theorem s48_18 : WP 48 0 18 [a0, vA r, a2, a3, a4, a5] S h Q ↔ WP 48 0 19 [a0, vA r, a2, a3, a4, a5] (vA r :: S) h Q := wp_aload rfl rfl
theorem s48_19 : WP 48 0 19 L (vA (some a) :: S) h Q ↔ (zhas 20 (hk h a) = true ∧ WP 48 0 22 L (hm h a 20 :: S) h Q) := wp_if rfl rfl rfl
theorem s48_22 : WP 48 0 22 [a0, a1, vA r, a3, a4, a5] S h Q ↔ WP 48 0 23 [a0, a1, vA r, a3, a4, a5] (vA r :: S) h Q := wp_aload rfl rfl
theorem s48_23 : WP 48 0 23 L (vA (some a) :: S) h Q ↔ (zhas 14 (hk h a) = true ∧ WP 48 0 26 L (hm h a 14 :: S) h Q) := wp_if rfl rfl rfl
theorem s48_26 : WP 48 0 26 [a0, a1, a2, vI x, a4, a5] S h Q ↔ WP 48 0 27 [a0, a1, a2, vI x, a4, a5] (vI x :: S) h Q := wp_iload rfl rfl
theorem s48_27 : WP 48 0 27 L (vI x :: vA (some a) :: S) h Q ↔ ((((hk h a).1 = 2 ∨ (hk h a).1 = 3) ∧ 0 ≤ x ∧ x < ((hk h a).2 : Int)) ∧ WP 48 0 28 L (hm h a x.toNat :: S) h Q) := wp_if rfl rfl rfl
theorem s48_28 : WP 48 0 28 L (vI x :: vA (some a) :: S) h Q ↔ ((((5 ≤ (hk h a).1 ∧ (hk h a).1 ≤ 7) ∧ 0 ≤ x ∧ x < ((hk h a).2 : Int)) ∨ ((hk h a).1 = 8 ∧ 128 ≤ x ∧ x < 144)) ∧ WP 48 0 29 L (hm h a x.toNat :: S) h Q) := wp_if rfl rfl rfl
theorem s48_29 : WP 48 0 29 [a0, a1, a2, a3, a4, a5] (vA r :: S) h Q ↔ WP 48 0 31 [a0, a1, a2, a3, vA r, a5] S h Q := wp_astore rfl rfl rfl
theorem s48_31 : WP 48 0 31 [vA r, a1, a2, a3, a4, a5] S h Q ↔ WP 48 0 32 [vA r, a1, a2, a3, a4, a5] (vA r :: S) h Q := wp_aload rfl rfl
theorem s48_32 : WP 48 0 32 L (vA (some a) :: S) h Q ↔ (zhas 9 (hk h a) = true ∧ WP 48 0 35 L (hm h a 9 :: S) h Q) := wp_if rfl rfl rfl
theorem s48_35 : WP 48 0 35 L (vA (some a) :: S) h Q ↔ (zhas 15 (hk h a) = true ∧ WP 48 0 38 L (hm h a 15 :: S) h Q) := wp_if rfl rfl rfl
theorem s48_38 : WP 48 0 38 [a0, a1, a2, a3, vA r, a5] S h Q ↔ WP 48 0 40 [a0, a1, a2, a3, vA r, a5] (vA r :: S) h Q := wp_aload rfl rfl
theorem s48_40 : WP 48 0 40 L (vA (some a) :: S) h Q ↔ ((1 ≤ (hk h a).1 ∧ (hk h a).1 ≤ 7) ∧ WP 48 0 41 L (vI ((hk h a).2 : Int) :: S) h Q) := wp_if rfl rfl rfl
theorem s48_41 : WP 48 0 41 L (vI y :: vI x :: S) h Q ↔ WP 48 0 42 L (vI (wr (x + y)) :: S) h Q := wp_pl rfl rfl rfl
theorem s48_42 : WP 48 0 42 L S h Q ↔ WP 48 0 44 L (vI 64 :: S) h Q := wp_pl rfl rfl rfl
theorem s48_44 : WP 48 0 44 L (vI y :: vI x :: S) h Q ↔ zif (y < x) (WP 48 0 47 L S h Q) (WP 48 0 49 L S h Q) := wp_bN zc_gt rfl rfl rfl
theorem s48_47 : WP 48 0 47 L S h Q ↔ WP 48 0 48 L (vI 0 :: S) h Q := wp_pl rfl rfl rfl
theorem s48_48 : WP 48 0 48 L [vI x] h Q ↔ ((x = 0 ∨ x = 1) ∧ Q (.inl (some (vI x))) h) := wp_iret rfl rfl
theorem s48_49 : WP 48 0 49 L S h Q ↔ WP 48 0 50 L (vI 0 :: S) h Q := wp_pl rfl rfl rfl
theorem s48_50 : WP 48 0 50 [a0, a1, a2, a3, a4, a5] (vI x :: S) h Q ↔ WP 48 0 52 [a0, a1, a2, a3, a4, vI x] S h Q := wp_istore rfl rfl rfl
theorem s48_52 : WP 48 0 52 [a0, a1, a2, a3, a4, vI x] S h Q ↔ WP 48 0 54 [a0, a1, a2, a3, a4, vI x] (vI x :: S) h Q := wp_iload rfl rfl
theorem s48_54 : WP 48 0 54 [a0, a1, a2, a3, vA r, a5] S h Q ↔ WP 48 0 56 [a0, a1, a2, a3, vA r, a5] (vA r :: S) h Q := wp_aload rfl rfl
theorem s48_56 : WP 48 0 56 L (vA (some a) :: S) h Q ↔ ((1 ≤ (hk h a).1 ∧ (hk h a).1 ≤ 7) ∧ WP 48 0 57 L (vI ((hk h a).2 : Int) :: S) h Q) := wp_if rfl rfl rfl
theorem s48_57 : WP 48 0 57 L (vI y :: vI x :: S) h Q ↔ zif (x < y) (WP 48 0 60 L S h Q) (WP 48 0 78 L S h Q) := wp_bN zc_lt rfl rfl rfl
theorem s48_60 : WP 48 0 60 [vA r, a1, a2, a3, a4, a5] S h Q ↔ WP 48 0 61 [vA r, a1, a2, a3, a4, a5] (vA r :: S) h Q := wp_aload rfl rfl
theorem s48_61 : WP 48 0 61 L (vA (some a) :: S) h Q ↔ (zhas 9 (hk h a) = true ∧ WP 48 0 64 L (hm h a 9 :: S) h Q) := wp_if rfl rfl rfl
theorem s48_64 : WP 48 0 64 [a0, a1, a2, a3, vA r, a5] S h Q ↔ WP 48 0 66 [a0, a1, a2, a3, vA r, a5] (vA r :: S) h Q := wp_aload rfl rfl
theorem s48_66 : WP 48 0 66 [a0, a1, a2, a3, a4, vI x] S h Q ↔ WP 48 0 68 [a0, a1, a2, a3, a4, vI x] (vI x :: S) h Q := wp_iload rfl rfl
theorem s48_68 : WP 48 0 68 L (vI x :: vA (some a) :: S) h Q ↔ ((((hk h a).1 = 2 ∨ (hk h a).1 = 3) ∧ 0 ≤ x ∧ x < ((hk h a).2 : Int)) ∧ WP 48 0 69 L (hm h a x.toNat :: S) h Q) := wp_if rfl rfl rfl
theorem s48_69 : WP 48 0 69 L (vI x0 :: vA (some a) :: S) h Q ↔ ((hk h a).1 = 102 ∧ (zw S ≤ 8 ∧ WP 97 0 0 [vA (some a), vI x0] [] h (zret 48 0 69 72 L S Q))) := wp_V1 (c := 102) rfl rfl (fun _ => rfl) rfl rfl (zcan_of rfl rfl) rfl rfl rfl
theorem s48_72 : WP 48 0 72 [a0, a1, a2, a3, a4, vI x] S h Q ↔ WP 48 0 75 [a0, a1, a2, a3, a4, vI (wr (x + 1))] S h Q := wp_iinc rfl rfl rfl
theorem s48_75 : WP 48 0 75 L S h Q ↔ WP 48 0 52 L S h Q := wp_pl rfl rfl rfl
theorem s48_78 : WP 48 0 78 [a0, a1, a2, vI x, a4, a5] S h Q ↔ WP 48 0 81 [a0, a1, a2, vI (wr (x + 1)), a4, a5] S h Q := wp_iinc rfl rfl rfl
theorem s48_81 : WP 48 0 81 L S h Q ↔ WP 48 0 10 L S h Q := wp_pl rfl rfl rfl
theorem s48_84 : WP 48 0 84 L S h Q ↔ WP 48 0 85 L (vI 1 :: S) h Q := wp_pl rfl rfl rfl
theorem s48_85 : WP 48 0 85 L [vI x] h Q ↔ ((x = 0 ∨ x = 1) ∧ Q (.inl (some (vI x))) h) := wp_iret rfl rfl
/-! RepeatFree.leastPeriod(II)I -/
theorem s49_0 : WP 49 0 0 L S h Q ↔ WP 49 0 1 L (vI 1 :: S) h Q := wp_pl rfl rfl rfl
theorem s49_1 : WP 49 0 1 [a0, a1, a2, a3] (vI x :: S) h Q ↔ WP 49 0 2 [a0, a1, a2, vI x] S h Q := wp_istore rfl rfl rfl
theorem s49_2 : WP 49 0 2 [a0, a1, a2, vI x] S h Q ↔ WP 49 0 3 [a0, a1, a2, vI x] (vI x :: S) h Q := wp_iload rfl rfl
theorem s49_3 : WP 49 0 3 [a0, a1, vI x, a3] S h Q ↔ WP 49 0 4 [a0, a1, vI x, a3] (vI x :: S) h Q := wp_iload rfl rfl
theorem s49_4 : WP 49 0 4 L (vI y :: vI x :: S) h Q ↔ zif (x < y) (WP 49 0 7 L S h Q) (WP 49 0 36 L S h Q) := wp_bN zc_lt rfl rfl rfl
theorem s49_7 : WP 49 0 7 [a0, a1, vI x, a3] S h Q ↔ WP 49 0 8 [a0, a1, vI x, a3] (vI x :: S) h Q := wp_iload rfl rfl
theorem s49_8 : WP 49 0 8 [a0, a1, a2, vI x] S h Q ↔ WP 49 0 9 [a0, a1, a2, vI x] (vI x :: S) h Q := wp_iload rfl rfl
theorem s49_9 : WP 49 0 9 L (vI y :: vI x :: S) h Q ↔ WP 49 0 10 L (vI (wr (x - y)) :: S) h Q := wp_pl rfl rfl rfl
theorem s49_10 : WP 49 0 10 [vA r, a1, a2, a3] S h Q ↔ WP 49 0 11 [vA r, a1, a2, a3] (vA r :: S) h Q := wp_aload rfl rfl
theorem s49_11 : WP 49 0 11 L (vA (some a) :: S) h Q ↔ (zhas 6 (hk h a) = true ∧ WP 49 0 14 L (hm h a 6 :: S) h Q) := wp_if rfl rfl rfl
theorem s49_14 : WP 49 0 14 [a0, vI x, a2, a3] S h Q ↔ WP 49 0 15 [a0, vI x, a2, a3] (vI x :: S) h Q := wp_iload rfl rfl
theorem s49_15 : WP 49 0 15 [a0, vI x, a2, a3] S h Q ↔ WP 49 0 16 [a0, vI x, a2, a3] (vI x :: S) h Q := wp_iload rfl rfl
theorem s49_16 : WP 49 0 16 [a0, a1, a2, vI x] S h Q ↔ WP 49 0 17 [a0, a1, a2, vI x] (vI x :: S) h Q := wp_iload rfl rfl
theorem s49_17 : WP 49 0 17 L (vI y :: vI x :: S) h Q ↔ WP 49 0 18 L (vI (wr (x + y)) :: S) h Q := wp_pl rfl rfl rfl
theorem s49_18 : WP 49 0 18 L (vI x1 :: vI x0 :: vA (some a) :: S) h Q ↔ ((hk h a).1 = 102 ∧ (zw S ≤ 8 ∧ WP 96 0 0 [vA (some a), vI x0, vI x1, vJ] [] h (zret 49 0 18 21 L S Q))) := wp_V1 (c := 102) rfl rfl (fun _ => rfl) rfl rfl (zcan_of rfl rfl) rfl rfl rfl
theorem s49_21 : WP 49 0 21 L (vI x1 :: vI x0 :: S) h Q ↔ (zw S ≤ 8 ∧ WP 384 0 0 [vI x0, vI x1] [] h (zret 49 0 21 24 L S Q)) := wp_S rfl rfl (zcan_of rfl rfl) rfl rfl rfl
theorem s49_24 : WP 49 0 24 [a0, a1, vI x, a3] S h Q ↔ WP 49 0 25 [a0, a1, vI x, a3] (vI x :: S) h Q := wp_iload rfl rfl
theorem s49_25 : WP 49 0 25 [a0, a1, a2, vI x] S h Q ↔ WP 49 0 26 [a0, a1, a2, vI x] (vI x :: S) h Q := wp_iload rfl rfl
theorem s49_26 : WP 49 0 26 L (vI y :: vI x :: S) h Q ↔ WP 49 0 27 L (vI (wr (x - y)) :: S) h Q := wp_pl rfl rfl rfl
theorem s49_27 : WP 49 0 27 L (vI y :: vI x :: S) h Q ↔ zif (x < y) (WP 49 0 30 L S h Q) (WP 49 0 36 L S h Q) := wp_bN zc_lt rfl rfl rfl
theorem s49_30 : WP 49 0 30 [a0, a1, a2, vI x] S h Q ↔ WP 49 0 33 [a0, a1, a2, vI (wr (x + 1))] S h Q := wp_iinc rfl rfl rfl
theorem s49_33 : WP 49 0 33 L S h Q ↔ WP 49 0 2 L S h Q := wp_pl rfl rfl rfl
theorem s49_36 : WP 49 0 36 [a0, a1, a2, vI x] S h Q ↔ WP 49 0 37 [a0, a1, a2, vI x] (vI x :: S) h Q := wp_iload rfl rfl
theorem s49_37 : WP 49 0 37 L [vI x] h Q ↔ Q (.inl (some (vI x))) h := wp_iret0 rfl rfl
/-! RepeatFree.length(III)J -/
theorem s50_0 : WP 50 0 0 [vA r, a1, a2, a3] S h Q ↔ WP 50 0 1 [vA r, a1, a2, a3] (vA r :: S) h Q := wp_aload rfl rfl
theorem s50_1 : WP 50 0 1 [vA r, a1, a2, a3] S h Q ↔ WP 50 0 2 [vA r, a1, a2, a3] (vA r :: S) h Q := wp_aload rfl rfl
theorem s50_2 : WP 50 0 2 [a0, vI x, a2, a3] S h Q ↔ WP 50 0 3 [a0, vI x, a2, a3] (vI x :: S) h Q := wp_iload rfl rfl
theorem s50_3 : WP 50 0 3 [a0, a1, vI x, a3] S h Q ↔ WP 50 0 4 [a0, a1, vI x, a3] (vI x :: S) h Q := wp_iload rfl rfl
theorem s50_4 : WP 50 0 4 [a0, a1, a2, vI x] S h Q ↔ WP 50 0 5 [a0, a1, a2, vI x] (vI x :: S) h Q := wp_iload rfl rfl
theorem s50_5 : WP 50 0 5 L (vI x2 :: vI x1 :: vI x0 :: vA (some a) :: S) h Q ↔ ((hk h a).1 = 100 ∧ (zw S ≤ 8 ∧ WP 72 0 0 [vA (some a), vI x0, vI x1, vI x2, vJ] [] h (zret 50 0 5 8 L S Q))) := wp_V1 (c := 100) rfl rfl (fun _ => rfl) rfl rfl (zcan_of rfl rfl) rfl rfl rfl
theorem s50_8 : WP 50 0 8 [a0, a1, vI x, a3] S h Q ↔ WP 50 0 9 [a0, a1, vI x, a3] (vI x :: S) h Q := wp_iload rfl rfl
theorem s50_9 : WP 50 0 9 [a0, a1, a2, vI x] S h Q ↔ WP 50 0 10 [a0, a1, a2, vI x] (vI x :: S) h Q := wp_iload rfl rfl
theorem s50_10 : WP 50 0 10 L (vI x2 :: vI x1 :: vA r0 :: vA (some a) :: S) h Q ↔ ((hk h a).1 = 100 ∧ (zw S ≤ 8 ∧ WP 14 0 0 [vA (some a), vA r0, vI x1, vI x2, vJ, vJ, vJ, vJ, vJ, vJ] [] h (zret 50 0 10 13 L S Q))) := wp_V1 (c := 100) rfl rfl (fun _ => rfl) rfl rfl (zcan_of rfl rfl) rfl rfl rfl
theorem s50_13 : WP 50 0 13 L (vA r0 :: S) h Q ↔ (zw S ≤ 8 ∧ WP 83 0 0 [vA r0, vJ, vJ, vJ, vJ, vJ, vJ, vJ] [] h (zret 50 0 13 16 L S Q)) := wp_S rfl rfl (zcan_of rfl rfl) rfl rfl rfl
theorem s50_16 : WP 50 0 16 L [vL x] h Q ↔ Q (.inl (some (vL x))) h := wp_lret rfl
/-! RepeatFree.letter(I)I -/
theorem s51_0 : WP 51 0 0 [a0, vI x] S h Q ↔ WP 51 0 1 [a0, vI x] (vI x :: S) h Q := wp_iload rfl rfl
theorem s51_1 : WP 51 0 1 L (vI x :: S) h Q ↔ WP 51 0 2 L (vL x :: S) h Q := wp_pl rfl rfl rfl
theorem s51_2 : WP 51 0 2 L S h Q ↔ WP 51 0 3 L (vL 0 :: S) h Q := wp_pl rfl rfl rfl
theorem s51_3 : WP 51 0 3 [vA r, a1] S h Q ↔ WP 51 0 4 [vA r, a1] (vA r :: S) h Q := wp_aload rfl rfl
theorem s51_4 : WP 51 0 4 L (vA (some a) :: S) h Q ↔ (zhas 6 (hk h a) = true ∧ WP 51 0 7 L (hm h a 6 :: S) h Q) := wp_if rfl rfl rfl
theorem s51_7 : WP 51 0 7 L (vA (some a) :: S) h Q ↔ (zhas 15 (hk h a) = true ∧ WP 51 0 10 L (hm h a 15 :: S) h Q) := wp_if rfl rfl rfl
theorem s51_10 : WP 51 0 10 L S h Q ↔ WP 51 0 11 L (vI 1 :: S) h Q := wp_pl rfl rfl rfl
theorem s51_11 : WP 51 0 11 L (vI y :: vI x :: S) h Q ↔ WP 51 0 12 L (vI (wr (x - y)) :: S) h Q := wp_pl rfl rfl rfl
theorem s51_12 : WP 51 0 12 L (vI x :: S) h Q ↔ WP 51 0 13 L (vL x :: S) h Q := wp_pl rfl rfl rfl
theorem s51_13 : WP 51 0 13 L (vL x2 :: vL x1 :: vL x0 :: S) h Q ↔ (zw S ≤ 8 ∧ WP 38 0 0 [vL x0, vJ, vL x1, vJ, vL x2, vJ] [] h (zret 51 0 13 16 L S Q)) := wp_S rfl rfl (zcan_of rfl rfl) rfl rfl rfl
theorem s51_16 : WP 51 0 16 L (vI x :: S) h Q ↔ zif (x = 0) (WP 51 0 31 L S h Q) (WP 51 0 19 L S h Q) := wp_bE zc_eq rfl rfl rfl
theorem s51_19 : WP 51 0 19 [vA r, a1] S h Q ↔ WP 51 0 20 [vA r, a1] (vA r :: S) h Q := wp_aload rfl rfl
theorem s51_20 : WP 51 0 20 L (vA (some a) :: S) h Q ↔ (zhas 6 (hk h a) = true ∧ WP 51 0 23 L (hm h a 6 :: S) h Q) := wp_if rfl rfl rfl
theorem s51_23 : WP 51 0 23 L (vA (some a) :: S) h Q ↔ (zhas 14 (hk h a) = true ∧ WP 51 0 26 L (hm h a 14 :: S) h Q) := wp_if rfl rfl rfl
theorem s51_26 : WP 51 0 26 [a0, vI x] S h Q ↔ WP 51 0 27 [a0, vI x] (vI x :: S) h Q := wp_iload rfl rfl
theorem s51_27 : WP 51 0 27 L (vI x :: vA (some a) :: S) h Q ↔ ((((hk h a).1 = 2 ∨ (hk h a).1 = 3) ∧ 0 ≤ x ∧ x < ((hk h a).2 : Int)) ∧ WP 51 0 28 L (hm h a x.toNat :: S) h Q) := wp_if rfl rfl rfl
theorem s51_28 : WP 51 0 28 L S h Q ↔ WP 51 0 32 L S h Q := wp_pl rfl rfl rfl
theorem s51_31 : WP 51 0 31 L S h Q ↔ WP 51 0 32 L (vI (-1) :: S) h Q := wp_pl rfl rfl rfl
theorem s51_32 : WP 51 0 32 L [vI x] h Q ↔ Q (.inl (some (vI x))) h := wp_iret0 rfl rfl
/-! RepeatFree.limit(III)I -/
theorem s52_0 : WP 52 0 0 [a0, vI x, a2, a3, a4] S h Q ↔ WP 52 0 1 [a0, vI x, a2, a3, a4] (vI x :: S) h Q := wp_iload rfl rfl
theorem s52_1 : WP 52 0 1 L (vI x :: S) h Q ↔ WP 52 0 2 L (vL x :: S) h Q := wp_pl rfl rfl rfl
theorem s52_2 : WP 52 0 2 L S h Q ↔ WP 52 0 3 L (vL 0 :: S) h Q := wp_pl rfl rfl rfl
theorem s52_3 : WP 52 0 3 L S h Q ↔ WP 52 0 6 L (vL (2) :: S) h Q := wp_pl rfl rfl rfl
theorem s52_6 : WP 52 0 6 L (vL x2 :: vL x1 :: vL x0 :: S) h Q ↔ (zw S ≤ 8 ∧ WP 38 0 0 [vL x0, vJ, vL x1, vJ, vL x2, vJ] [] h (zret 52 0 6 9 L S Q)) := wp_S rfl rfl (zcan_of rfl rfl) rfl rfl rfl
theorem s52_9 : WP 52 0 9 L (vI x :: S) h Q ↔ zif (x = 0) (WP 52 0 40 L S h Q) (WP 52 0 12 L S h Q) := wp_bE zc_eq rfl rfl rfl
theorem s52_12 : WP 52 0 12 [a0, a1, vI x, a3, a4] S h Q ↔ WP 52 0 13 [a0, a1, vI x, a3, a4] (vI x :: S) h Q := wp_iload rfl rfl
theorem s52_13 : WP 52 0 13 L (vI x :: S) h Q ↔ WP 52 0 14 L (vL x :: S) h Q := wp_pl rfl rfl rfl
theorem s52_14 : WP 52 0 14 L S h Q ↔ WP 52 0 15 L (vL 1 :: S) h Q := wp_pl rfl rfl rfl
theorem s52_15 : WP 52 0 15 L S h Q ↔ WP 52 0 18 L (vL (99) :: S) h Q := wp_pl rfl rfl rfl
theorem s52_18 : WP 52 0 18 L (vL x2 :: vL x1 :: vL x0 :: S) h Q ↔ (zw S ≤ 8 ∧ WP 38 0 0 [vL x0, vJ, vL x1, vJ, vL x2, vJ] [] h (zret 52 0 18 21 L S Q)) := wp_S rfl rfl (zcan_of rfl rfl) rfl rfl rfl
theorem s52_21 : WP 52 0 21 L (vI x :: S) h Q ↔ zif (x = 0) (WP 52 0 40 L S h Q) (WP 52 0 24 L S h Q) := wp_bE zc_eq rfl rfl rfl
theorem s52_24 : WP 52 0 24 [a0, a1, a2, vI x, a4] S h Q ↔ WP 52 0 25 [a0, a1, a2, vI x, a4] (vI x :: S) h Q := wp_iload rfl rfl
theorem s52_25 : WP 52 0 25 L (vI x :: S) h Q ↔ WP 52 0 26 L (vL x :: S) h Q := wp_pl rfl rfl rfl
theorem s52_26 : WP 52 0 26 L S h Q ↔ WP 52 0 27 L (vL 1 :: S) h Q := wp_pl rfl rfl rfl
theorem s52_27 : WP 52 0 27 L S h Q ↔ WP 52 0 30 L (vL (9) :: S) h Q := wp_pl rfl rfl rfl
theorem s52_30 : WP 52 0 30 L (vL x2 :: vL x1 :: vL x0 :: S) h Q ↔ (zw S ≤ 8 ∧ WP 38 0 0 [vL x0, vJ, vL x1, vJ, vL x2, vJ] [] h (zret 52 0 30 33 L S Q)) := wp_S rfl rfl (zcan_of rfl rfl) rfl rfl rfl
theorem s52_33 : WP 52 0 33 L (vI x :: S) h Q ↔ zif (x = 0) (WP 52 0 40 L S h Q) (WP 52 0 36 L S h Q) := wp_bE zc_eq rfl rfl rfl
theorem s52_36 : WP 52 0 36 L S h Q ↔ WP 52 0 37 L (vI 1 :: S) h Q := wp_pl rfl rfl rfl
theorem s52_37 : WP 52 0 37 L S h Q ↔ WP 52 0 41 L S h Q := wp_pl rfl rfl rfl
theorem s52_40 : WP 52 0 40 L S h Q ↔ WP 52 0 41 L (vI 0 :: S) h Q := wp_pl rfl rfl rfl
theorem s52_41 : WP 52 0 41 L (vI x0 :: S) h Q ↔ (zw S ≤ 8 ∧ WP 62 0 0 [vI x0] [] h (zret 52 0 41 44 L S Q)) := wp_S rfl rfl (zcan_of rfl rfl) rfl rfl rfl
theorem s52_44 : WP 52 0 44 [vA r, a1, a2, a3, a4] S h Q ↔ WP 52 0 45 [vA r, a1, a2, a3, a4] (vA r :: S) h Q := wp_aload rfl rfl
theorem s52_45 : WP 52 0 45 L (vA (some a) :: S) h Q ↔ (zhas 4 (hk h a) = true ∧ WP 52 0 48 L (hm h a 4 :: S) h Q) := wp_if rfl rfl rfl
theorem s52_48 : WP 52 0 48 L (vA (some a) :: S) h Q ↔ (zhas 13 (hk h a) = true ∧ WP 52 0 51 L (hm h a 13 :: S) h Q) := wp_if rfl rfl rfl
theorem s52_51n : WP 52 0 51 L (vA none :: S) h Q ↔ WP 52 0 54 L S h Q := wp_pl rfl rfl rfl
theorem s52_51 : WP 52 0 51 L (vA (some a) :: S) h Q ↔ (3 ≤ a ∧ WP 52 0 58 L S h Q) := wp_if rfl rfl rfl
theorem s52_54 : WP 52 0 54 L S h Q ↔ WP 52 0 55 L (vI 0 :: S) h Q := wp_pl rfl rfl rfl
theorem s52_55 : WP 52 0 55 L S h Q ↔ WP 52 0 68 L S h Q := wp_pl rfl rfl rfl
theorem s52_58 : WP 52 0 58 [vA r, a1, a2, a3, a4] S h Q ↔ WP 52 0 59 [vA r, a1, a2, a3, a4] (vA r :: S) h Q := wp_aload rfl rfl
theorem s52_59 : WP 52 0 59 L (vA (some a) :: S) h Q ↔ (zhas 4 (hk h a) = true ∧ WP 52 0 62 L (hm h a 4 :: S) h Q) := wp_if rfl rfl rfl
theorem s52_62 : WP 52 0 62 L (vA (some a) :: S) h Q ↔ (zhas 13 (hk h a) = true ∧ WP 52 0 65 L (hm h a 13 :: S) h Q) := wp_if rfl rfl rfl
theorem s52_65 : WP 52 0 65 L (vA (some a) :: S) h Q ↔ (zhas 16 (hk h a) = true ∧ WP 52 0 68 L (hm h a 16 :: S) h Q) := wp_if rfl rfl rfl
theorem s52_68 : WP 52 0 68 [a0, a1, a2, a3, a4] (vI x :: S) h Q ↔ WP 52 0 70 [a0, a1, a2, a3, vI x] S h Q := wp_istore rfl rfl rfl
theorem s52_70 : WP 52 0 70 [vA r, a1, a2, a3, a4] S h Q ↔ WP 52 0 71 [vA r, a1, a2, a3, a4] (vA r :: S) h Q := wp_aload rfl rfl
theorem s52_71 : WP 52 0 71 L (vA (some a) :: S) h Q ↔ (zhas 4 (hk h a) = true ∧ WP 52 0 74 L (hm h a 4 :: S) h Q) := wp_if rfl rfl rfl
theorem s52_74 : WP 52 0 74 [a0, vI x, a2, a3, a4] S h Q ↔ WP 52 0 75 [a0, vI x, a2, a3, a4] (vI x :: S) h Q := wp_iload rfl rfl
theorem s52_75 : WP 52 0 75 L (vI x :: S) h Q ↔ zif (x = 0) (WP 52 0 78 L S h Q) (WP 52 0 82 L S h Q) := wp_bN zc_eq rfl rfl rfl
theorem s52_78 : WP 52 0 78 L S h Q ↔ WP 52 0 79 L (vA none :: S) h Q := wp_pl rfl rfl rfl
theorem s52_79 : WP 52 0 79 L S h Q ↔ WP 52 0 92 L S h Q := wp_pl rfl rfl rfl
theorem s52_82 : WP 52 0 82 L S h Q ↔ WP 52 0 85 L (vA (some (hn h)) :: S) (hnew h (103, 0) 3 zdf) Q := wp_pl rfl rfl rfl
theorem s52_85 : WP 52 0 85 L (vA r :: S) h Q ↔ WP 52 0 86 L (vA r :: vA r :: S) h Q := wp_pl rfl rfl rfl
theorem s52_85i : WP 52 0 85 L (vI x :: S) h Q ↔ WP 52 0 86 L (vI x :: vI x :: S) h Q := wp_pl rfl rfl rfl
theorem s52_86 : WP 52 0 86 [a0, vI x, a2, a3, a4] S h Q ↔ WP 52 0 87 [a0, vI x, a2, a3, a4] (vI x :: S) h Q := wp_iload rfl rfl
theorem s52_87 : WP 52 0 87 [a0, a1, vI x, a3, a4] S h Q ↔ WP 52 0 88 [a0, a1, vI x, a3, a4] (vI x :: S) h Q := wp_iload rfl rfl
theorem s52_88 : WP 52 0 88 [a0, a1, a2, vI x, a4] S h Q ↔ WP 52 0 89 [a0, a1, a2, vI x, a4] (vI x :: S) h Q := wp_iload rfl rfl
theorem s52_89 : WP 52 0 89 L (vI x2 :: vI x1 :: vI x0 :: vA (some a) :: S) h Q ↔ ((zNC ≤ a ∧ 100 ≤ (hk h a).1) ∧ zw S ≤ 8 ∧ WP 103 0 0 [vA (some a), vI x0, vI x1, vI x2] [] h (zret 52 0 89 92 L S Q)) := wp_I rfl rfl rfl (zcan_of rfl rfl) rfl rfl rfl
theorem s52_92 : WP 52 0 92 L (vA r :: vA (some a) :: S) h Q ↔ ((zNC ≤ a ∧ zhas 13 (hk h a) = true) ∧ WP 52 0 95 L S (hput h a 13 (vA r)) Q) := wp_put3 rfl rfl
theorem s52_95 : WP 52 0 95 [a0, a1, a2, a3, vI x] S h Q ↔ WP 52 0 97 [a0, a1, a2, a3, vI x] (vI x :: S) h Q := wp_iload rfl rfl
theorem s52_97 : WP 52 0 97 L [vI x] h Q ↔ Q (.inl (some (vI x))) h := wp_iret0 rfl rfl
/-! RepeatFree.local(I)I -/
theorem s53_0 : WP 53 0 0 [a0, vI x, a2] S h Q ↔ WP 53 0 1 [a0, vI x, a2] (vI x :: S) h Q := wp_iload rfl rfl
theorem s53_1 : WP 53 0 1 L (vI x :: S) h Q ↔ WP 53 0 2 L (vL x :: S) h Q := wp_pl rfl rfl rfl
theorem s53_2 : WP 53 0 2 L S h Q ↔ WP 53 0 3 L (vL 1 :: S) h Q := wp_pl rfl rfl rfl
theorem s53_3 : WP 53 0 3 [vA r, a1, a2] S h Q ↔ WP 53 0 4 [vA r, a1, a2] (vA r :: S) h Q := wp_aload rfl rfl
theorem s53_4 : WP 53 0 4 L (vA (some a) :: S) h Q ↔ (zhas 6 (hk h a) = true ∧ WP 53 0 7 L (hm h a 6 :: S) h Q) := wp_if rfl rfl rfl
theorem s53_7 : WP 53 0 7 L (vA (some a) :: S) h Q ↔ (zhas 15 (hk h a) = true ∧ WP 53 0 10 L (hm h a 15 :: S) h Q) := wp_if rfl rfl rfl
theorem s53_10 : WP 53 0 10 L S h Q ↔ WP 53 0 11 L (vI 1 :: S) h Q := wp_pl rfl rfl rfl
theorem s53_11 : WP 53 0 11 L (vI y :: vI x :: S) h Q ↔ WP 53 0 12 L (vI (wr (x - y)) :: S) h Q := wp_pl rfl rfl rfl
theorem s53_12 : WP 53 0 12 L (vI x :: S) h Q ↔ WP 53 0 13 L (vL x :: S) h Q := wp_pl rfl rfl rfl
theorem s53_13 : WP 53 0 13 L (vL x2 :: vL x1 :: vL x0 :: S) h Q ↔ (zw S ≤ 8 ∧ WP 38 0 0 [vL x0, vJ, vL x1, vJ, vL x2, vJ] [] h (zret 53 0 13 16 L S Q)) := wp_S rfl rfl (zcan_of rfl rfl) rfl rfl rfl
theorem s53_16 : WP 53 0 16 L (vI x0 :: S) h Q ↔ (zw S ≤ 8 ∧ WP 62 0 0 [vI x0] [] h (zret 53 0 16 19 L S Q)) := wp_S rfl rfl (zcan_of rfl rfl) rfl rfl rfl
theorem s53_19 : WP 53 0 19 L S h Q ↔ WP 53 0 20 L (vI 1 :: S) h Q := wp_pl rfl rfl rfl
theorem s53_20 : WP 53 0 20 [a0, a1, a2] (vI x :: S) h Q ↔ WP 53 0 21 [a0, a1, vI x] S h Q := wp_istore rfl rfl rfl
theorem s53_21 : WP 53 0 21 [vA r, a1, a2] S h Q ↔ WP 53 0 22 [vA r, a1, a2] (vA r :: S) h Q := wp_aload rfl rfl
theorem s53_22 : WP 53 0 22 [a0, vI x, a2] S h Q ↔ WP 53 0 23 [a0, vI x, a2] (vI x :: S) h Q := wp_iload rfl rfl
theorem s53_23 : WP 53 0 23 [a0, a1, vI x] S h Q ↔ WP 53 0 24 [a0, a1, vI x] (vI x :: S) h Q := wp_iload rfl rfl
theorem s53_24 : WP 53 0 24 L (vI x1 :: vI x0 :: vA (some a) :: S) h Q ↔ ((hk h a).1 = 100 ∧ (zw S ≤ 8 ∧ WP 41 0 0 [vA (some a), vI x0, vI x1, vJ] [] h (zret 53 0 24 27 L S Q))) := wp_V1 (c := 100) rfl rfl (fun _ => rfl) rfl rfl (zcan_of rfl rfl) rfl rfl rfl
theorem s53_27 : WP 53 0 27 L (vI x :: S) h Q ↔ zif (x = 0) (WP 53 0 30 L S h Q) (WP 53 0 36 L S h Q) := wp_bN zc_eq rfl rfl rfl
theorem s53_30 : WP 53 0 30 [a0, a1, vI x] S h Q ↔ WP 53 0 33 [a0, a1, vI (wr (x + 1))] S h Q := wp_iinc rfl rfl rfl
theorem s53_33 : WP 53 0 33 L S h Q ↔ WP 53 0 21 L S h Q := wp_pl rfl rfl rfl
theorem s53_36 : WP 53 0 36 [a0, a1, vI x] S h Q ↔ WP 53 0 37 [a0, a1, vI x] (vI x :: S) h Q := wp_iload rfl rfl
theorem s53_37 : WP 53 0 37 L [vI x] h Q ↔ Q (.inl (some (vI x))) h := wp_iret0 rfl rfl
/-! RepeatFree.longest()I -/
theorem s54_0 : WP 54 0 0 L S h Q ↔ WP 54 0 1 L (vI 1 :: S) h Q := wp_pl rfl rfl rfl
theorem s54_1 : WP 54 0 1 [a0, a1, a2] (vI x :: S) h Q ↔ WP 54 0 2 [a0, vI x, a2] S h Q := wp_istore rfl rfl rfl
theorem s54_2 : WP 54 0 2 [a0, vI x, a2] S h Q ↔ WP 54 0 3 [a0, vI x, a2] (vI x :: S) h Q := wp_iload rfl rfl
theorem s54_3 : WP 54 0 3 L S h Q ↔ WP 54 0 5 L (vI 40 :: S) h Q := wp_pl rfl rfl rfl
theorem s54_5 : WP 54 0 5 L (vI y :: vI x :: S) h Q ↔ zif (y < x) (WP 54 0 56 L S h Q) (WP 54 0 8 L S h Q) := wp_bE zc_gt rfl rfl rfl
theorem s54_8 : WP 54 0 8 L S h Q ↔ WP 54 0 11 L (vA (some (hn h)) :: S) (hnew h (106, 0) 4 zdf) Q := wp_pl rfl rfl rfl
theorem s54_11 : WP 54 0 11 L (vA r :: S) h Q ↔ WP 54 0 12 L (vA r :: vA r :: S) h Q := wp_pl rfl rfl rfl
theorem s54_11i : WP 54 0 11 L (vI x :: S) h Q ↔ WP 54 0 12 L (vI x :: vI x :: S) h Q := wp_pl rfl rfl rfl
theorem s54_12 : WP 54 0 12 [vA r, a1, a2] S h Q ↔ WP 54 0 13 [vA r, a1, a2] (vA r :: S) h Q := wp_aload rfl rfl
theorem s54_13 : WP 54 0 13 L S h Q ↔ WP 54 0 16 L (vA (some (hn h)) :: S) (hnew h (102, 0) 2 zdf) Q := wp_pl rfl rfl rfl
theorem s54_16 : WP 54 0 16 L (vA r :: S) h Q ↔ WP 54 0 17 L (vA r :: vA r :: S) h Q := wp_pl rfl rfl rfl
theorem s54_16i : WP 54 0 16 L (vI x :: S) h Q ↔ WP 54 0 17 L (vI x :: vI x :: S) h Q := wp_pl rfl rfl rfl
theorem s54_17 : WP 54 0 17 L (vA (some a) :: S) h Q ↔ ((zNC ≤ a ∧ 100 ≤ (hk h a).1) ∧ zw S ≤ 8 ∧ WP 100 0 0 [vA (some a)] [] h (zret 54 0 17 20 L S Q)) := wp_I rfl rfl rfl (zcan_of rfl rfl) rfl rfl rfl
theorem s54_20 : WP 54 0 20 L (vA r1 :: vA r0 :: vA (some a) :: S) h Q ↔ ((zNC ≤ a ∧ 100 ≤ (hk h a).1) ∧ zw S ≤ 8 ∧ WP 117 0 0 [vA (some a), vA r0, vA r1] [] h (zret 54 0 20 23 L S Q)) := wp_I rfl rfl rfl (zcan_of rfl rfl) rfl rfl rfl
theorem s54_23 : WP 54 0 23 [a0, a1, a2] (vA r :: S) h Q ↔ WP 54 0 24 [a0, a1, vA r] S h Q := wp_astore rfl rfl rfl
theorem s54_24 : WP 54 0 24 [a0, a1, vA r] S h Q ↔ WP 54 0 25 [a0, a1, vA r] (vA r :: S) h Q := wp_aload rfl rfl
theorem s54_25 : WP 54 0 25 [a0, vI x, a2] S h Q ↔ WP 54 0 26 [a0, vI x, a2] (vI x :: S) h Q := wp_iload rfl rfl
theorem s54_26 : WP 54 0 26 L S h Q ↔ WP 54 0 27 L (vI 0 :: S) h Q := wp_pl rfl rfl rfl
theorem s54_27 : WP 54 0 27 L S h Q ↔ WP 54 0 28 L (vI 0 :: S) h Q := wp_pl rfl rfl rfl
theorem s54_28 : WP 54 0 28 L (vI x2 :: vI x1 :: vI x0 :: vA (some a) :: S) h Q ↔ ((hk h a).1 = 106 ∧ (zw S ≤ 8 ∧ WP 115 0 0 [vA (some a), vI x0, vI x1, vI x2, vJ, vJ] [] h (zret 54 0 28 31 L S Q))) := wp_V1 (c := 106) rfl rfl (fun _ => rfl) rfl rfl (zcan_of rfl rfl) rfl rfl rfl
theorem s54_31 : WP 54 0 31 L (vI x :: S) h Q ↔ zif (x = 0) (WP 54 0 34 L S h Q) (WP 54 0 50 L S h Q) := wp_bN zc_eq rfl rfl rfl
theorem s54_34 : WP 54 0 34 [a0, a1, vA r] S h Q ↔ WP 54 0 35 [a0, a1, vA r] (vA r :: S) h Q := wp_aload rfl rfl
theorem s54_35 : WP 54 0 35 L (vA (some a) :: S) h Q ↔ (zhas 28 (hk h a) = true ∧ WP 54 0 38 L (hm h a 28 :: S) h Q) := wp_if rfl rfl rfl
theorem s54_38 : WP 54 0 38 L (vI x :: S) h Q ↔ zif (x = 0) (WP 54 0 46 L S h Q) (WP 54 0 41 L S h Q) := wp_bE zc_eq rfl rfl rfl
theorem s54_41 : WP 54 0 41 L S h Q ↔ WP 54 0 43 L (vI (-2) :: S) h Q := wp_pl rfl rfl rfl
theorem s54_43 : WP 54 0 43 L S h Q ↔ WP 54 0 49 L S h Q := wp_pl rfl rfl rfl
theorem s54_46 : WP 54 0 46 [a0, vI x, a2] S h Q ↔ WP 54 0 47 [a0, vI x, a2] (vI x :: S) h Q := wp_iload rfl rfl
theorem s54_47 : WP 54 0 47 L S h Q ↔ WP 54 0 48 L (vI 1 :: S) h Q := wp_pl rfl rfl rfl
theorem s54_48 : WP 54 0 48 L (vI y :: vI x :: S) h Q ↔ WP 54 0 49 L (vI (wr (x - y)) :: S) h Q := wp_pl rfl rfl rfl
theorem s54_49 : WP 54 0 49 L [vI x] h Q ↔ Q (.inl (some (vI x))) h := wp_iret0 rfl rfl
theorem s54_50 : WP 54 0 50 [a0, vI x, a2] S h Q ↔ WP 54 0 53 [a0, vI (wr (x + 1)), a2] S h Q := wp_iinc rfl rfl rfl
theorem s54_53 : WP 54 0 53 L S h Q ↔ WP 54 0 2 L S h Q := wp_pl rfl rfl rfl
theorem s54_56 : WP 54 0 56 L S h Q ↔ WP 54 0 58 L (vI 40 :: S) h Q := wp_pl rfl rfl rfl
theorem s54_58 : WP 54 0 58 L [vI x] h Q ↔ Q (.inl (some (vI x))) h := wp_iret0 rfl rfl
/-! RepeatFree.loose(Ljava/lang/String;)Ljava/util/LinkedList; -/
theorem s55_0 : WP 55 0 0 L S h Q ↔ WP 55 0 3 L (vA (some (hn h)) :: S) (hnew h (105, 0) 6 zdf) Q := wp_pl rfl rfl rfl
theorem s55_3 : WP 55 0 3 L (vA r :: S) h Q ↔ WP 55 0 4 L (vA r :: vA r :: S) h Q := wp_pl rfl rfl rfl
theorem s55_3i : WP 55 0 3 L (vI x :: S) h Q ↔ WP 55 0 4 L (vI x :: vI x :: S) h Q := wp_pl rfl rfl rfl
theorem s55_4 : WP 55 0 4 L S h Q ↔ WP 55 0 7 L (vA (some 36) :: S) h Q := wp_pl rfl rfl rfl
theorem s55_7 : WP 55 0 7 [vA r, a1, a2, a3] S h Q ↔ WP 55 0 8 [vA r, a1, a2, a3] (vA r :: S) h Q := wp_aload rfl rfl
theorem s55_8 : WP 55 0 8 L (vA r1 :: vA r0 :: vA (some a) :: S) h Q ↔ ((zNC ≤ a ∧ 100 ≤ (hk h a).1) ∧ zw S ≤ 8 ∧ WP 111 0 0 [vA (some a), vA r0, vA r1] [] h (zret 55 0 8 11 L S Q)) := wp_I rfl rfl rfl (zcan_of rfl rfl) rfl rfl rfl
theorem s55_11 : WP 55 0 11 L (vA (some a) :: S) h Q ↔ ((hk h a).1 = 105 ∧ (zw S ≤ 8 ∧ WP 113 0 0 [vA (some a), vJ, vJ] [] h (zret 55 0 11 14 L S Q))) := wp_V1 (c := 105) rfl rfl (fun _ => rfl) rfl rfl (zcan_of rfl rfl) rfl rfl rfl
theorem s55_14 : WP 55 0 14 [a0, a1, a2, a3] (vI x :: S) h Q ↔ WP 55 0 15 [a0, vI x, a2, a3] S h Q := wp_istore rfl rfl rfl
theorem s55_15 : WP 55 0 15 L S h Q ↔ WP 55 0 18 L (vA (some (hn h)) :: S) (hnew h (111, 0) 4 zdf) Q := wp_pl rfl rfl rfl
theorem s55_18 : WP 55 0 18 L (vA r :: S) h Q ↔ WP 55 0 19 L (vA r :: vA r :: S) h Q := wp_pl rfl rfl rfl
theorem s55_18i : WP 55 0 18 L (vI x :: S) h Q ↔ WP 55 0 19 L (vI x :: vI x :: S) h Q := wp_pl rfl rfl rfl
theorem s55_19 : WP 55 0 19 L (vA (some a) :: S) h Q ↔ ((zNC ≤ a ∧ 100 ≤ (hk h a).1) ∧ zw S ≤ 8 ∧ WP 262 0 0 [vA (some a)] [] h (zret 55 0 19 22 L S Q)) := wp_I rfl rfl rfl (zcan_of rfl rfl) rfl rfl rfl
theorem s55_22 : WP 55 0 22 [a0, a1, a2, a3] (vA r :: S) h Q ↔ WP 55 0 23 [a0, a1, vA r, a3] S h Q := wp_astore rfl rfl rfl
theorem s55_23 : WP 55 0 23 L S h Q ↔ WP 55 0 24 L (vI 1 :: S) h Q := wp_pl rfl rfl rfl
theorem s55_24 : WP 55 0 24 [a0, a1, a2, a3] (vI x :: S) h Q ↔ WP 55 0 25 [a0, a1, a2, vI x] S h Q := wp_istore rfl rfl rfl
theorem s55_25 : WP 55 0 25 [a0, a1, a2, vI x] S h Q ↔ WP 55 0 26 [a0, a1, a2, vI x] (vI x :: S) h Q := wp_iload rfl rfl
theorem s55_26 : WP 55 0 26 [a0, vI x, a2, a3] S h Q ↔ WP 55 0 27 [a0, vI x, a2, a3] (vI x :: S) h Q := wp_iload rfl rfl
theorem s55_27 : WP 55 0 27 L (vI y :: vI x :: S) h Q ↔ zif (y < x) (WP 55 0 53 L S h Q) (WP 55 0 30 L S h Q) := wp_bE zc_gt rfl rfl rfl
theorem s55_30 : WP 55 0 30 [a0, a1, a2, vI x] S h Q ↔ WP 55 0 31 [a0, a1, a2, vI x] (vI x :: S) h Q := wp_iload rfl rfl
theorem s55_31 : WP 55 0 31 [a0, vI x, a2, a3] S h Q ↔ WP 55 0 32 [a0, vI x, a2, a3] (vI x :: S) h Q := wp_iload rfl rfl
theorem s55_32 : WP 55 0 32 L S h Q ↔ WP 55 0 33 L (vI (-1) :: S) h Q := wp_pl rfl rfl rfl
theorem s55_33 : WP 55 0 33 L (vI y :: vI x :: S) h Q ↔ WP 55 0 34 L (vI (zxor x y) :: S) h Q := wp_pl rfl rfl rfl
theorem s55_34 : WP 55 0 34 L (vI y :: vI x :: S) h Q ↔ WP 55 0 35 L (vI (zand x y) :: S) h Q := wp_pl rfl rfl rfl
theorem s55_35 : WP 55 0 35 L (vI x :: S) h Q ↔ zif (x = 0) (WP 55 0 38 L S h Q) (WP 55 0 47 L S h Q) := wp_bN zc_eq rfl rfl rfl
theorem s55_38 : WP 55 0 38 [a0, a1, vA r, a3] S h Q ↔ WP 55 0 39 [a0, a1, vA r, a3] (vA r :: S) h Q := wp_aload rfl rfl
theorem s55_39 : WP 55 0 39 [a0, a1, a2, vI x] S h Q ↔ WP 55 0 40 [a0, a1, a2, vI x] (vI x :: S) h Q := wp_iload rfl rfl
theorem s55_40 : WP 55 0 40 L (vI x0 :: S) h Q ↔ (zw S ≤ 8 ∧ WP 331 0 0 [vI x0] [] h (zret 55 0 40 43 L S Q)) := wp_S rfl rfl (zcan_of rfl rfl) rfl rfl rfl
theorem s55_43 : WP 55 0 43 L (vA r0 :: vA (some a) :: S) h Q ↔ ((hk h a).1 = 111 ∧ (zw S ≤ 8 ∧ WP 255 0 0 [vA (some a), vA r0] [] h (zret 55 0 43 46 L S Q))) := wp_V1 (c := 111) rfl rfl (fun _ => rfl) rfl rfl (zcan_of rfl rfl) rfl rfl rfl
theorem s55_46 : WP 55 0 46 L (vA r :: S) h Q ↔ WP 55 0 47 L S h Q := wp_pl rfl rfl rfl
theorem s55_46i : WP 55 0 46 L (vI x :: S) h Q ↔ WP 55 0 47 L S h Q := wp_pl rfl rfl rfl
theorem s55_47 : WP 55 0 47 [a0, a1, a2, vI x] S h Q ↔ WP 55 0 50 [a0, a1, a2, vI (wr (x + 1))] S h Q := wp_iinc rfl rfl rfl
theorem s55_50 : WP 55 0 50 L S h Q ↔ WP 55 0 25 L S h Q := wp_pl rfl rfl rfl
theorem s55_53 : WP 55 0 53 [a0, a1, vA r, a3] S h Q ↔ WP 55 0 54 [a0, a1, vA r, a3] (vA r :: S) h Q := wp_aload rfl rfl
theorem s55_54 : WP 55 0 54 L (vA (some a) :: S) h Q ↔ ((hk h a).1 = 111 ∧ (zw S ≤ 8 ∧ WP 398 0 0 [vA (some a)] [] h (zret 55 0 54 57 L S Q))) := wp_V1 (c := 111) rfl rfl (fun _ => rfl) rfl rfl (zcan_of rfl rfl) rfl rfl rfl
theorem s55_57 : WP 55 0 57 [a0, a1, a2, a3] (vA r :: S) h Q ↔ WP 55 0 58 [a0, a1, a2, vA r] S h Q := wp_astore rfl rfl rfl
theorem s55_58 : WP 55 0 58 [a0, a1, a2, vA r] S h Q ↔ WP 55 0 59 [a0, a1, a2, vA r] (vA r :: S) h Q := wp_aload rfl rfl
theorem s55_59 : WP 55 0 59 L (vA (some a) :: S) h Q ↔ ((hk h a).1 = 113 ∧ (zw S ≤ 8 ∧ WP 274 0 0 [vA (some a)] [] h (zret 55 0 59 64 L S Q))) := wp_F1 (c := 113) rfl rfl (fun _ => rfl) rfl rfl (zcan_of rfl rfl) rfl rfl rfl
theorem s55_64 : WP 55 0 64 L (vI x :: S) h Q ↔ zif (x = 0) (WP 55 0 95 L S h Q) (WP 55 0 67 L S h Q) := wp_bE zc_eq rfl rfl rfl
theorem s55_67 : WP 55 0 67 [vA r, a1, a2, a3] S h Q ↔ WP 55 0 68 [vA r, a1, a2, a3] (vA r :: S) h Q := wp_aload rfl rfl
theorem s55_68 : WP 55 0 68 [a0, a1, a2, vA r] S h Q ↔ WP 55 0 69 [a0, a1, a2, vA r] (vA r :: S) h Q := wp_aload rfl rfl
theorem s55_69 : WP 55 0 69 L (vA (some a) :: S) h Q ↔ ((hk h a).1 = 113 ∧ (zw S ≤ 8 ∧ WP 276 0 0 [vA (some a)] [] h (zret 55 0 69 74 L S Q))) := wp_F1 (c := 113) rfl rfl (fun _ => rfl) rfl rfl (zcan_of rfl rfl) rfl rfl rfl
theorem s55_74n : WP 55 0 74 L (vA none :: S) h Q ↔ WP 55 0 77 L (vA none :: S) h Q := wp_pl rfl rfl rfl
theorem s55_74 : WP 55 0 74 L (vA (some a) :: S) h Q ↔ (zCX 1 (hk h a).1 a = true ∧ WP 55 0 77 L (vA (some a) :: S) h Q) := wp_if rfl rfl rfl
theorem s55_77 : WP 55 0 77 L (vA (some a) :: S) h Q ↔ ((hk h a).1 = 118 ∧ (zw S ≤ 8 ∧ WP 329 0 0 [vA (some a)] [] h (zret 55 0 77 80 L S Q))) := wp_V1 (c := 118) rfl rfl (fun _ => rfl) rfl rfl (zcan_of rfl rfl) rfl rfl rfl
theorem s55_80 : WP 55 0 80 L (vI x1 :: vA r0 :: S) h Q ↔ (zw S ≤ 8 ∧ WP 42 0 0 [vA r0, vI x1, vJ, vJ, vJ, vJ, vJ] [] h (zret 55 0 80 83 L S Q)) := wp_S rfl rfl (zcan_of rfl rfl) rfl rfl rfl
theorem s55_83 : WP 55 0 83 L (vI x :: S) h Q ↔ zif (x = 0) (WP 55 0 86 L S h Q) (WP 55 0 58 L S h Q) := wp_bN zc_eq rfl rfl rfl
theorem s55_86 : WP 55 0 86 [a0, a1, a2, vA r] S h Q ↔ WP 55 0 87 [a0, a1, a2, vA r] (vA r :: S) h Q := wp_aload rfl rfl
theorem s55_87 : WP 55 0 87 L (vA (some a) :: S) h Q ↔ ((hk h a).1 = 113 ∧ (zw S ≤ 8 ∧ WP 277 0 0 [vA (some a), vJ] [] h (zret 55 0 87 92 L S Q))) := wp_F1 (c := 113) rfl rfl (fun _ => rfl) rfl rfl (zcan_of rfl rfl) rfl rfl rfl
theorem s55_92 : WP 55 0 92 L S h Q ↔ WP 55 0 58 L S h Q := wp_pl rfl rfl rfl
theorem s55_95 : WP 55 0 95 [a0, a1, vA r, a3] S h Q ↔ WP 55 0 96 [a0, a1, vA r, a3] (vA r :: S) h Q := wp_aload rfl rfl
theorem s55_96 : WP 55 0 96 L [vA r] h Q ↔ Q (.inl (some (vA r))) h := wp_aret rfl
/-! RepeatFree.loose(II)I -/
theorem s56_0 : WP 56 0 0 [vA r, a1, a2, a3] S h Q ↔ WP 56 0 1 [vA r, a1, a2, a3] (vA r :: S) h Q := wp_aload rfl rfl
theorem s56_1 : WP 56 0 1 [a0, vI x, a2, a3] S h Q ↔ WP 56 0 2 [a0, vI x, a2, a3] (vI x :: S) h Q := wp_iload rfl rfl
theorem s56_2 : WP 56 0 2 L (vI x0 :: vA (some a) :: S) h Q ↔ ((hk h a).1 = 100 ∧ (zw S ≤ 8 ∧ WP 69 0 0 [vA (some a), vI x0] [] h (zret 56 0 2 5 L S Q))) := wp_V1 (c := 100) rfl rfl (fun _ => rfl) rfl rfl (zcan_of rfl rfl) rfl rfl rfl
theorem s56_5 : WP 56 0 5 L (vA (some a) :: S) h Q ↔ (zhas 21 (hk h a) = true ∧ WP 56 0 8 L (hm h a 21 :: S) h Q) := wp_if rfl rfl rfl
theorem s56_8 : WP 56 0 8 L (vA r0 :: S) h Q ↔ (zw S ≤ 8 ∧ WP 55 0 0 [vA r0, vJ, vJ, vJ] [] h (zret 56 0 8 11 L S Q)) := wp_S rfl rfl (zcan_of rfl rfl) rfl rfl rfl
theorem s56_11 : WP 56 0 11 [a0, a1, a2, a3] (vA r :: S) h Q ↔ WP 56 0 12 [a0, a1, a2, vA r] S h Q := wp_astore rfl rfl rfl
theorem s56_12 : WP 56 0 12 [a0, a1, vI x, a3] S h Q ↔ WP 56 0 13 [a0, a1, vI x, a3] (vI x :: S) h Q := wp_iload rfl rfl
theorem s56_13 : WP 56 0 13 L S h Q ↔ WP 56 0 14 L (vI (-1) :: S) h Q := wp_pl rfl rfl rfl
theorem s56_14 : WP 56 0 14 L (vI y :: vI x :: S) h Q ↔ zif (x = y) (WP 56 0 17 L S h Q) (WP 56 0 24 L S h Q) := wp_bN zc_eq rfl rfl rfl
theorem s56_17 : WP 56 0 17 [a0, a1, a2, vA r] S h Q ↔ WP 56 0 18 [a0, a1, a2, vA r] (vA r :: S) h Q := wp_aload rfl rfl
theorem s56_18 : WP 56 0 18 L (vA (some a) :: S) h Q ↔ ((hk h a).1 = 111 ∧ (zw S ≤ 8 ∧ WP 270 0 0 [vA (some a)] [] h (zret 56 0 18 21 L S Q))) := wp_V1 (c := 111) rfl rfl (fun _ => rfl) rfl rfl (zcan_of rfl rfl) rfl rfl rfl
theorem s56_21 : WP 56 0 21 L S h Q ↔ WP 56 0 55 L S h Q := wp_pl rfl rfl rfl
theorem s56_24 : WP 56 0 24 [a0, a1, vI x, a3] S h Q ↔ WP 56 0 25 [a0, a1, vI x, a3] (vI x :: S) h Q := wp_iload rfl rfl
theorem s56_25 : WP 56 0 25 L (vI x :: S) h Q ↔ WP 56 0 26 L (vL x :: S) h Q := wp_pl rfl rfl rfl
theorem s56_26 : WP 56 0 26 L S h Q ↔ WP 56 0 27 L (vL 0 :: S) h Q := wp_pl rfl rfl rfl
theorem s56_27 : WP 56 0 27 [a0, a1, a2, vA r] S h Q ↔ WP 56 0 28 [a0, a1, a2, vA r] (vA r :: S) h Q := wp_aload rfl rfl
theorem s56_28 : WP 56 0 28 L (vA (some a) :: S) h Q ↔ ((hk h a).1 = 111 ∧ (zw S ≤ 8 ∧ WP 270 0 0 [vA (some a)] [] h (zret 56 0 28 31 L S Q))) := wp_V1 (c := 111) rfl rfl (fun _ => rfl) rfl rfl (zcan_of rfl rfl) rfl rfl rfl
theorem s56_31 : WP 56 0 31 L S h Q ↔ WP 56 0 32 L (vI 1 :: S) h Q := wp_pl rfl rfl rfl
theorem s56_32 : WP 56 0 32 L (vI y :: vI x :: S) h Q ↔ WP 56 0 33 L (vI (wr (x - y)) :: S) h Q := wp_pl rfl rfl rfl
theorem s56_33 : WP 56 0 33 L (vI x :: S) h Q ↔ WP 56 0 34 L (vL x :: S) h Q := wp_pl rfl rfl rfl
theorem s56_34 : WP 56 0 34 L (vL x2 :: vL x1 :: vL x0 :: S) h Q ↔ (zw S ≤ 8 ∧ WP 38 0 0 [vL x0, vJ, vL x1, vJ, vL x2, vJ] [] h (zret 56 0 34 37 L S Q)) := wp_S rfl rfl (zcan_of rfl rfl) rfl rfl rfl
theorem s56_37 : WP 56 0 37 L (vI x :: S) h Q ↔ zif (x = 0) (WP 56 0 54 L S h Q) (WP 56 0 40 L S h Q) := wp_bE zc_eq rfl rfl rfl
theorem s56_40 : WP 56 0 40 [a0, a1, a2, vA r] S h Q ↔ WP 56 0 41 [a0, a1, a2, vA r] (vA r :: S) h Q := wp_aload rfl rfl
theorem s56_41 : WP 56 0 41 [a0, a1, vI x, a3] S h Q ↔ WP 56 0 42 [a0, a1, vI x, a3] (vI x :: S) h Q := wp_iload rfl rfl
theorem s56_42 : WP 56 0 42 L (vI x0 :: vA (some a) :: S) h Q ↔ ((hk h a).1 = 111 ∧ (zw S ≤ 8 ∧ WP 260 0 0 [vA (some a), vI x0] [] h (zret 56 0 42 45 L S Q))) := wp_V1 (c := 111) rfl rfl (fun _ => rfl) rfl rfl (zcan_of rfl rfl) rfl rfl rfl
theorem s56_45n : WP 56 0 45 L (vA none :: S) h Q ↔ WP 56 0 48 L (vA none :: S) h Q := wp_pl rfl rfl rfl
theorem s56_45 : WP 56 0 45 L (vA (some a) :: S) h Q ↔ (zCX 1 (hk h a).1 a = true ∧ WP 56 0 48 L (vA (some a) :: S) h Q) := wp_if rfl rfl rfl
theorem s56_48 : WP 56 0 48 L (vA (some a) :: S) h Q ↔ ((hk h a).1 = 118 ∧ (zw S ≤ 8 ∧ WP 329 0 0 [vA (some a)] [] h (zret 56 0 48 51 L S Q))) := wp_V1 (c := 118) rfl rfl (fun _ => rfl) rfl rfl (zcan_of rfl rfl) rfl rfl rfl
theorem s56_51 : WP 56 0 51 L S h Q ↔ WP 56 0 55 L S h Q := wp_pl rfl rfl rfl
theorem s56_54 : WP 56 0 54 L S h Q ↔ WP 56 0 55 L (vI (-1) :: S) h Q := wp_pl rfl rfl rfl
theorem s56_55 : WP 56 0 55 L [vI x] h Q ↔ Q (.inl (some (vI x))) h := wp_iret0 rfl rfl
/-! RepeatFree.lyndon(I)I -/
theorem s57_0 : WP 57 0 0 L S h Q ↔ WP 57 0 1 L (vI 0 :: S) h Q := wp_pl rfl rfl rfl
theorem s57_1 : WP 57 0 1 [a0, a1, a2, a3, a4, a5] (vI x :: S) h Q ↔ WP 57 0 2 [a0, a1, vI x, a3, a4, a5] S h Q := wp_istore rfl rfl rfl
theorem s57_2 : WP 57 0 2 L S h Q ↔ WP 57 0 3 L (vI 0 :: S) h Q := wp_pl rfl rfl rfl
theorem s57_3 : WP 57 0 3 [a0, a1, a2, a3, a4, a5] (vI x :: S) h Q ↔ WP 57 0 4 [a0, a1, a2, vI x, a4, a5] S h Q := wp_istore rfl rfl rfl
theorem s57_4 : WP 57 0 4 [a0, a1, a2, vI x, a4, a5] S h Q ↔ WP 57 0 5 [a0, a1, a2, vI x, a4, a5] (vI x :: S) h Q := wp_iload rfl rfl
theorem s57_5 : WP 57 0 5 [vA r, a1, a2, a3, a4, a5] S h Q ↔ WP 57 0 6 [vA r, a1, a2, a3, a4, a5] (vA r :: S) h Q := wp_aload rfl rfl
theorem s57_6 : WP 57 0 6 L (vA (some a) :: S) h Q ↔ (zhas 6 (hk h a) = true ∧ WP 57 0 9 L (hm h a 6 :: S) h Q) := wp_if rfl rfl rfl
theorem s57_9 : WP 57 0 9 L (vA (some a) :: S) h Q ↔ (zhas 15 (hk h a) = true ∧ WP 57 0 12 L (hm h a 15 :: S) h Q) := wp_if rfl rfl rfl
theorem s57_12 : WP 57 0 12 L (vI y :: vI x :: S) h Q ↔ zif (x < y) (WP 57 0 15 L S h Q) (WP 57 0 131 L S h Q) := wp_bN zc_lt rfl rfl rfl
theorem s57_15 : WP 57 0 15 [a0, a1, a2, vI x, a4, a5] S h Q ↔ WP 57 0 16 [a0, a1, a2, vI x, a4, a5] (vI x :: S) h Q := wp_iload rfl rfl
theorem s57_16 : WP 57 0 16 [a0, a1, a2, a3, a4, a5] (vI x :: S) h Q ↔ WP 57 0 18 [a0, a1, a2, a3, vI x, a5] S h Q := wp_istore rfl rfl rfl
theorem s57_18 : WP 57 0 18 [a0, a1, a2, vI x, a4, a5] S h Q ↔ WP 57 0 19 [a0, a1, a2, vI x, a4, a5] (vI x :: S) h Q := wp_iload rfl rfl
theorem s57_19 : WP 57 0 19 L S h Q ↔ WP 57 0 20 L (vI 1 :: S) h Q := wp_pl rfl rfl rfl
theorem s57_20 : WP 57 0 20 L (vI y :: vI x :: S) h Q ↔ WP 57 0 21 L (vI (wr (x + y)) :: S) h Q := wp_pl rfl rfl rfl
theorem s57_21 : WP 57 0 21 [a0, a1, a2, a3, a4, a5] (vI x :: S) h Q ↔ WP 57 0 23 [a0, a1, a2, a3, a4, vI x] S h Q := wp_istore rfl rfl rfl
theorem s57_23 : WP 57 0 23 [a0, a1, a2, a3, a4, vI x] S h Q ↔ WP 57 0 25 [a0, a1, a2, a3, a4, vI x] (vI x :: S) h Q := wp_iload rfl rfl
theorem s57_25 : WP 57 0 25 [vA r, a1, a2, a3, a4, a5] S h Q ↔ WP 57 0 26 [vA r, a1, a2, a3, a4, a5] (vA r :: S) h Q := wp_aload rfl rfl
theorem s57_26 : WP 57 0 26 L (vA (some a) :: S) h Q ↔ (zhas 6 (hk h a) = true ∧ WP 57 0 29 L (hm h a 6 :: S) h Q) := wp_if rfl rfl rfl
theorem s57_29 : WP 57 0 29 L (vA (some a) :: S) h Q ↔ (zhas 15 (hk h a) = true ∧ WP 57 0 32 L (hm h a 15 :: S) h Q) := wp_if rfl rfl rfl
theorem s57_32 : WP 57 0 32 L (vI y :: vI x :: S) h Q ↔ zif (x < y) (WP 57 0 35 L S h Q) (WP 57 0 97 L S h Q) := wp_bN zc_lt rfl rfl rfl
theorem s57_35 : WP 57 0 35 [vA r, a1, a2, a3, a4, a5] S h Q ↔ WP 57 0 36 [vA r, a1, a2, a3, a4, a5] (vA r :: S) h Q := wp_aload rfl rfl
theorem s57_36 : WP 57 0 36 L (vA (some a) :: S) h Q ↔ (zhas 6 (hk h a) = true ∧ WP 57 0 39 L (hm h a 6 :: S) h Q) := wp_if rfl rfl rfl
theorem s57_39 : WP 57 0 39 L (vA (some a) :: S) h Q ↔ (zhas 14 (hk h a) = true ∧ WP 57 0 42 L (hm h a 14 :: S) h Q) := wp_if rfl rfl rfl
theorem s57_42 : WP 57 0 42 [a0, a1, a2, a3, vI x, a5] S h Q ↔ WP 57 0 44 [a0, a1, a2, a3, vI x, a5] (vI x :: S) h Q := wp_iload rfl rfl
theorem s57_44 : WP 57 0 44 L (vI x :: vA (some a) :: S) h Q ↔ ((((hk h a).1 = 2 ∨ (hk h a).1 = 3) ∧ 0 ≤ x ∧ x < ((hk h a).2 : Int)) ∧ WP 57 0 45 L (hm h a x.toNat :: S) h Q) := wp_if rfl rfl rfl
theorem s57_45 : WP 57 0 45 [vA r, a1, a2, a3, a4, a5] S h Q ↔ WP 57 0 46 [vA r, a1, a2, a3, a4, a5] (vA r :: S) h Q := wp_aload rfl rfl
theorem s57_46 : WP 57 0 46 L (vA (some a) :: S) h Q ↔ (zhas 6 (hk h a) = true ∧ WP 57 0 49 L (hm h a 6 :: S) h Q) := wp_if rfl rfl rfl
theorem s57_49 : WP 57 0 49 L (vA (some a) :: S) h Q ↔ (zhas 14 (hk h a) = true ∧ WP 57 0 52 L (hm h a 14 :: S) h Q) := wp_if rfl rfl rfl
theorem s57_52 : WP 57 0 52 [a0, a1, a2, a3, a4, vI x] S h Q ↔ WP 57 0 54 [a0, a1, a2, a3, a4, vI x] (vI x :: S) h Q := wp_iload rfl rfl
theorem s57_54 : WP 57 0 54 L (vI x :: vA (some a) :: S) h Q ↔ ((((hk h a).1 = 2 ∨ (hk h a).1 = 3) ∧ 0 ≤ x ∧ x < ((hk h a).2 : Int)) ∧ WP 57 0 55 L (hm h a x.toNat :: S) h Q) := wp_if rfl rfl rfl
theorem s57_55 : WP 57 0 55 L (vI y :: vI x :: S) h Q ↔ zif (y < x) (WP 57 0 97 L S h Q) (WP 57 0 58 L S h Q) := wp_bE zc_gt rfl rfl rfl
theorem s57_58 : WP 57 0 58 [vA r, a1, a2, a3, a4, a5] S h Q ↔ WP 57 0 59 [vA r, a1, a2, a3, a4, a5] (vA r :: S) h Q := wp_aload rfl rfl
theorem s57_59 : WP 57 0 59 L (vA (some a) :: S) h Q ↔ (zhas 6 (hk h a) = true ∧ WP 57 0 62 L (hm h a 6 :: S) h Q) := wp_if rfl rfl rfl
theorem s57_62 : WP 57 0 62 L (vA (some a) :: S) h Q ↔ (zhas 14 (hk h a) = true ∧ WP 57 0 65 L (hm h a 14 :: S) h Q) := wp_if rfl rfl rfl
theorem s57_65 : WP 57 0 65 [a0, a1, a2, a3, vI x, a5] S h Q ↔ WP 57 0 67 [a0, a1, a2, a3, vI x, a5] (vI x :: S) h Q := wp_iload rfl rfl
theorem s57_67 : WP 57 0 67 L (vI x :: vA (some a) :: S) h Q ↔ ((((hk h a).1 = 2 ∨ (hk h a).1 = 3) ∧ 0 ≤ x ∧ x < ((hk h a).2 : Int)) ∧ WP 57 0 68 L (hm h a x.toNat :: S) h Q) := wp_if rfl rfl rfl
theorem s57_68 : WP 57 0 68 [vA r, a1, a2, a3, a4, a5] S h Q ↔ WP 57 0 69 [vA r, a1, a2, a3, a4, a5] (vA r :: S) h Q := wp_aload rfl rfl
theorem s57_69 : WP 57 0 69 L (vA (some a) :: S) h Q ↔ (zhas 6 (hk h a) = true ∧ WP 57 0 72 L (hm h a 6 :: S) h Q) := wp_if rfl rfl rfl
theorem s57_72 : WP 57 0 72 L (vA (some a) :: S) h Q ↔ (zhas 14 (hk h a) = true ∧ WP 57 0 75 L (hm h a 14 :: S) h Q) := wp_if rfl rfl rfl
theorem s57_75 : WP 57 0 75 [a0, a1, a2, a3, a4, vI x] S h Q ↔ WP 57 0 77 [a0, a1, a2, a3, a4, vI x] (vI x :: S) h Q := wp_iload rfl rfl
theorem s57_77 : WP 57 0 77 L (vI x :: vA (some a) :: S) h Q ↔ ((((hk h a).1 = 2 ∨ (hk h a).1 = 3) ∧ 0 ≤ x ∧ x < ((hk h a).2 : Int)) ∧ WP 57 0 78 L (hm h a x.toNat :: S) h Q) := wp_if rfl rfl rfl
theorem s57_78 : WP 57 0 78 L (vI y :: vI x :: S) h Q ↔ zif (x < y) (WP 57 0 81 L S h Q) (WP 57 0 85 L S h Q) := wp_bN zc_lt rfl rfl rfl
theorem s57_81 : WP 57 0 81 [a0, a1, a2, vI x, a4, a5] S h Q ↔ WP 57 0 82 [a0, a1, a2, vI x, a4, a5] (vI x :: S) h Q := wp_iload rfl rfl
theorem s57_82 : WP 57 0 82 L S h Q ↔ WP 57 0 89 L S h Q := wp_pl rfl rfl rfl
theorem s57_85 : WP 57 0 85 [a0, a1, a2, a3, vI x, a5] S h Q ↔ WP 57 0 87 [a0, a1, a2, a3, vI x, a5] (vI x :: S) h Q := wp_iload rfl rfl
theorem s57_87 : WP 57 0 87 L S h Q ↔ WP 57 0 88 L (vI 1 :: S) h Q := wp_pl rfl rfl rfl
theorem s57_88 : WP 57 0 88 L (vI y :: vI x :: S) h Q ↔ WP 57 0 89 L (vI (wr (x + y)) :: S) h Q := wp_pl rfl rfl rfl
theorem s57_89 : WP 57 0 89 [a0, a1, a2, a3, a4, a5] (vI x :: S) h Q ↔ WP 57 0 91 [a0, a1, a2, a3, vI x, a5] S h Q := wp_istore rfl rfl rfl
theorem s57_91 : WP 57 0 91 [a0, a1, a2, a3, a4, vI x] S h Q ↔ WP 57 0 94 [a0, a1, a2, a3, a4, vI (wr (x + 1))] S h Q := wp_iinc rfl rfl rfl
theorem s57_94 : WP 57 0 94 L S h Q ↔ WP 57 0 23 L S h Q := wp_pl rfl rfl rfl
theorem s57_97 : WP 57 0 97 [a0, a1, a2, vI x, a4, a5] S h Q ↔ WP 57 0 98 [a0, a1, a2, vI x, a4, a5] (vI x :: S) h Q := wp_iload rfl rfl
theorem s57_98 : WP 57 0 98 [a0, a1, a2, a3, vI x, a5] S h Q ↔ WP 57 0 100 [a0, a1, a2, a3, vI x, a5] (vI x :: S) h Q := wp_iload rfl rfl
theorem s57_100 : WP 57 0 100 L (vI y :: vI x :: S) h Q ↔ zif (y < x) (WP 57 0 128 L S h Q) (WP 57 0 103 L S h Q) := wp_bE zc_gt rfl rfl rfl
theorem s57_103 : WP 57 0 103 [a0, a1, vI x, a3, a4, a5] S h Q ↔ WP 57 0 104 [a0, a1, vI x, a3, a4, a5] (vI x :: S) h Q := wp_iload rfl rfl
theorem s57_104 : WP 57 0 104 [a0, vI x, a2, a3, a4, a5] S h Q ↔ WP 57 0 105 [a0, vI x, a2, a3, a4, a5] (vI x :: S) h Q := wp_iload rfl rfl
theorem s57_105 : WP 57 0 105 L (vI y :: vI x :: S) h Q ↔ zif (x = y) (WP 57 0 108 L S h Q) (WP 57 0 114 L S h Q) := wp_bN zc_eq rfl rfl rfl
theorem s57_108 : WP 57 0 108 [a0, a1, a2, a3, a4, vI x] S h Q ↔ WP 57 0 110 [a0, a1, a2, a3, a4, vI x] (vI x :: S) h Q := wp_iload rfl rfl
theorem s57_110 : WP 57 0 110 [a0, a1, a2, a3, vI x, a5] S h Q ↔ WP 57 0 112 [a0, a1, a2, a3, vI x, a5] (vI x :: S) h Q := wp_iload rfl rfl
theorem s57_112 : WP 57 0 112 L (vI y :: vI x :: S) h Q ↔ WP 57 0 113 L (vI (wr (x - y)) :: S) h Q := wp_pl rfl rfl rfl
theorem s57_113 : WP 57 0 113 L [vI x] h Q ↔ Q (.inl (some (vI x))) h := wp_iret0 rfl rfl
theorem s57_114 : WP 57 0 114 [a0, a1, vI x, a3, a4, a5] S h Q ↔ WP 57 0 117 [a0, a1, vI (wr (x + 1)), a3, a4, a5] S h Q := wp_iinc rfl rfl rfl
theorem s57_117 : WP 57 0 117 [a0, a1, a2, vI x, a4, a5] S h Q ↔ WP 57 0 118 [a0, a1, a2, vI x, a4, a5] (vI x :: S) h Q := wp_iload rfl rfl
theorem s57_118 : WP 57 0 118 [a0, a1, a2, a3, a4, vI x] S h Q ↔ WP 57 0 120 [a0, a1, a2, a3, a4, vI x] (vI x :: S) h Q := wp_iload rfl rfl
theorem s57_120 : WP 57 0 120 [a0, a1, a2, a3, vI x, a5] S h Q ↔ WP 57 0 122 [a0, a1, a2, a3, vI x, a5] (vI x :: S) h Q := wp_iload rfl rfl
theorem s57_122 : WP 57 0 122 L (vI y :: vI x :: S) h Q ↔ WP 57 0 123 L (vI (wr (x - y)) :: S) h Q := wp_pl rfl rfl rfl
theorem s57_123 : WP 57 0 123 L (vI y :: vI x :: S) h Q ↔ WP 57 0 124 L (vI (wr (x + y)) :: S) h Q := wp_pl rfl rfl rfl
theorem s57_124 : WP 57 0 124 [a0, a1, a2, a3, a4, a5] (vI x :: S) h Q ↔ WP 57 0 125 [a0, a1, a2, vI x, a4, a5] S h Q := wp_istore rfl rfl rfl
theorem s57_125 : WP 57 0 125 L S h Q ↔ WP 57 0 97 L S h Q := wp_pl rfl rfl rfl
theorem s57_128 : WP 57 0 128 L S h Q ↔ WP 57 0 4 L S h Q := wp_pl rfl rfl rfl
theorem s57_131 : WP 57 0 131 [a0, vI x, a2, a3, a4, a5] S h Q ↔ WP 57 0 132 [a0, vI x, a2, a3, a4, a5] (vI x :: S) h Q := wp_iload rfl rfl
theorem s57_132 : WP 57 0 132 L S h Q ↔ WP 57 0 133 L (vI (-1) :: S) h Q := wp_pl rfl rfl rfl
theorem s57_133 : WP 57 0 133 L (vI y :: vI x :: S) h Q ↔ zif (x = y) (WP 57 0 136 L S h Q) (WP 57 0 140 L S h Q) := wp_bN zc_eq rfl rfl rfl
theorem s57_136 : WP 57 0 136 [a0, a1, vI x, a3, a4, a5] S h Q ↔ WP 57 0 137 [a0, a1, vI x, a3, a4, a5] (vI x :: S) h Q := wp_iload rfl rfl
theorem s57_137 : WP 57 0 137 L S h Q ↔ WP 57 0 141 L S h Q := wp_pl rfl rfl rfl
theorem s57_140 : WP 57 0 140 L S h Q ↔ WP 57 0 141 L (vI (-1) :: S) h Q := wp_pl rfl rfl rfl
theorem s57_141 : WP 57 0 141 L [vI x] h Q ↔ Q (.inl (some (vI x))) h := wp_iret0 rfl rfl
/-! RepeatFree.many(I)I -/
theorem s58_0 : WP 58 0 0 [a0, vI x] S h Q ↔ WP 58 0 1 [a0, vI x] (vI x :: S) h Q := wp_iload rfl rfl
theorem s58_1 : WP 58 0 1 L (vI x :: S) h Q ↔ WP 58 0 2 L (vL x :: S) h Q := wp_pl rfl rfl rfl
theorem s58_2 : WP 58 0 2 L S h Q ↔ WP 58 0 3 L (vL 0 :: S) h Q := wp_pl rfl rfl rfl
theorem s58_3 : WP 58 0 3 L S h Q ↔ WP 58 0 6 L (vL (40) :: S) h Q := wp_pl rfl rfl rfl
theorem s58_6 : WP 58 0 6 L (vL x2 :: vL x1 :: vL x0 :: S) h Q ↔ (zw S ≤ 8 ∧ WP 38 0 0 [vL x0, vJ, vL x1, vJ, vL x2, vJ] [] h (zret 58 0 6 9 L S Q)) := wp_S rfl rfl (zcan_of rfl rfl) rfl rfl rfl
theorem s58_9 : WP 58 0 9 L (vI x0 :: S) h Q ↔ (zw S ≤ 8 ∧ WP 62 0 0 [vI x0] [] h (zret 58 0 9 12 L S Q)) := wp_S rfl rfl (zcan_of rfl rfl) rfl rfl rfl
theorem s58_12 : WP 58 0 12 [vA r, a1] S h Q ↔ WP 58 0 13 [vA r, a1] (vA r :: S) h Q := wp_aload rfl rfl
theorem s58_13 : WP 58 0 13 [a0, vI x] S h Q ↔ WP 58 0 14 [a0, vI x] (vI x :: S) h Q := wp_iload rfl rfl
theorem s58_14 : WP 58 0 14 L (vI x0 :: vA (some a) :: S) h Q ↔ ((hk h a).1 = 100 ∧ (zw S ≤ 8 ∧ WP 31 0 0 [vA (some a), vI x0, vJ, vJ, vJ] [] h (zret 58 0 14 17 L S Q))) := wp_V1 (c := 100) rfl rfl (fun _ => rfl) rfl rfl (zcan_of rfl rfl) rfl rfl rfl
theorem s58_17 : WP 58 0 17 L [vI x] h Q ↔ Q (.inl (some (vI x))) h := wp_iret0 rfl rfl
/-! RepeatFree.mapAt(I)LRepeatFree$Mapping; -/
theorem s59_0 : WP 59 0 0 [a0, vI x] S h Q ↔ WP 59 0 1 [a0, vI x] (vI x :: S) h Q := wp_iload rfl rfl
theorem s59_1 : WP 59 0 1 L (vI x :: S) h Q ↔ WP 59 0 2 L (vL x :: S) h Q := wp_pl rfl rfl rfl
theorem s59_2 : WP 59 0 2 L S h Q ↔ WP 59 0 3 L (vL 0 :: S) h Q := wp_pl rfl rfl rfl
theorem s59_3 : WP 59 0 3 [vA r, a1] S h Q ↔ WP 59 0 4 [vA r, a1] (vA r :: S) h Q := wp_aload rfl rfl
theorem s59_4 : WP 59 0 4 L (vA (some a) :: S) h Q ↔ (zhas 4 (hk h a) = true ∧ WP 59 0 7 L (hm h a 4 :: S) h Q) := wp_if rfl rfl rfl
theorem s59_7 : WP 59 0 7 L (vA (some a) :: S) h Q ↔ (zhas 10 (hk h a) = true ∧ WP 59 0 10 L (hm h a 10 :: S) h Q) := wp_if rfl rfl rfl
theorem s59_10 : WP 59 0 10 L (vA (some a) :: S) h Q ↔ ((hk h a).1 = 111 ∧ (zw S ≤ 8 ∧ WP 270 0 0 [vA (some a)] [] h (zret 59 0 10 13 L S Q))) := wp_V1 (c := 111) rfl rfl (fun _ => rfl) rfl rfl (zcan_of rfl rfl) rfl rfl rfl
theorem s59_13 : WP 59 0 13 L S h Q ↔ WP 59 0 14 L (vI 1 :: S) h Q := wp_pl rfl rfl rfl
theorem s59_14 : WP 59 0 14 L (vI y :: vI x :: S) h Q ↔ WP 59 0 15 L (vI (wr (x - y)) :: S) h Q := wp_pl rfl rfl rfl
theorem s59_15 : WP 59 0 15 L (vI x :: S) h Q ↔ WP 59 0 16 L (vL x :: S) h Q := wp_pl rfl rfl rfl
theorem s59_16 : WP 59 0 16 L (vL x2 :: vL x1 :: vL x0 :: S) h Q ↔ (zw S ≤ 8 ∧ WP 38 0 0 [vL x0, vJ, vL x1, vJ, vL x2, vJ] [] h (zret 59 0 16 19 L S Q)) := wp_S rfl rfl (zcan_of rfl rfl) rfl rfl rfl
theorem s59_19 : WP 59 0 19 L (vI x0 :: S) h Q ↔ (zw S ≤ 8 ∧ WP 63 0 0 [vI x0] [] h (zret 59 0 19 22 L S Q)) := wp_S rfl rfl (zcan_of rfl rfl) rfl rfl rfl
theorem s59_22 : WP 59 0 22 [vA r, a1] S h Q ↔ WP 59 0 23 [vA r, a1] (vA r :: S) h Q := wp_aload rfl rfl
theorem s59_23 : WP 59 0 23 L (vA (some a) :: S) h Q ↔ (zhas 4 (hk h a) = true ∧ WP 59 0 26 L (hm h a 4 :: S) h Q) := wp_if rfl rfl rfl
theorem s59_26 : WP 59 0 26 L (vA (some a) :: S) h Q ↔ (zhas 10 (hk h a) = true ∧ WP 59 0 29 L (hm h a 10 :: S) h Q) := wp_if rfl rfl rfl
theorem s59_29 : WP 59 0 29 [a0, vI x] S h Q ↔ WP 59 0 30 [a0, vI x] (vI x :: S) h Q := wp_iload rfl rfl
theorem s59_30 : WP 59 0 30 L (vI x0 :: vA (some a) :: S) h Q ↔ ((hk h a).1 = 111 ∧ (zw S ≤ 8 ∧ WP 260 0 0 [vA (some a), vI x0] [] h (zret 59 0 30 33 L S Q))) := wp_V1 (c := 111) rfl rfl (fun _ => rfl) rfl rfl (zcan_of rfl rfl) rfl rfl rfl
theorem s59_33n : WP 59 0 33 L (vA none :: S) h Q ↔ WP 59 0 36 L (vA none :: S) h Q := wp_pl rfl rfl rfl
theorem s59_33 : WP 59 0 33 L (vA (some a) :: S) h Q ↔ (zCX 4 (hk h a).1 a = true ∧ WP 59 0 36 L (vA (some a) :: S) h Q) := wp_if rfl rfl rfl
theorem s59_36 : WP 59 0 36 L [vA r] h Q ↔ Q (.inl (some (vA r))) h := wp_aret rfl
/-! RepeatFree.met(II)I -/
theorem s60_0 : WP 60 0 0 [vA r, a1, a2, a3, a4] S h Q ↔ WP 60 0 1 [vA r, a1, a2, a3, a4] (vA r :: S) h Q := wp_aload rfl rfl
theorem s60_1 : WP 60 0 1 [a0, vI x, a2, a3, a4] S h Q ↔ WP 60 0 2 [a0, vI x, a2, a3, a4] (vI x :: S) h Q := wp_iload rfl rfl
theorem s60_2 : WP 60 0 2 L (vI x0 :: vA (some a) :: S) h Q ↔ ((hk h a).1 = 100 ∧ (zw S ≤ 8 ∧ WP 69 0 0 [vA (some a), vI x0] [] h (zret 60 0 2 5 L S Q))) := wp_V1 (c := 100) rfl rfl (fun _ => rfl) rfl rfl (zcan_of rfl rfl) rfl rfl rfl
theorem s60_5 : WP 60 0 5 [a0, a1, a2, a3, a4] (vA r :: S) h Q ↔ WP 60 0 6 [a0, a1, a2, vA r, a4] S h Q := wp_astore rfl rfl rfl
theorem s60_6 : WP 60 0 6 [a0, a1, vI x, a3, a4] S h Q ↔ WP 60 0 7 [a0, a1, vI x, a3, a4] (vI x :: S) h Q := wp_iload rfl rfl
theorem s60_7 : WP 60 0 7 L (vI x :: S) h Q ↔ WP 60 0 8 L (vL x :: S) h Q := wp_pl rfl rfl rfl
theorem s60_8 : WP 60 0 8 L S h Q ↔ WP 60 0 9 L (vL 0 :: S) h Q := wp_pl rfl rfl rfl
theorem s60_9 : WP 60 0 9 L S h Q ↔ WP 60 0 12 L (vL (3) :: S) h Q := wp_pl rfl rfl rfl
theorem s60_12 : WP 60 0 12 L (vL x2 :: vL x1 :: vL x0 :: S) h Q ↔ (zw S ≤ 8 ∧ WP 38 0 0 [vL x0, vJ, vL x1, vJ, vL x2, vJ] [] h (zret 60 0 12 15 L S Q)) := wp_S rfl rfl (zcan_of rfl rfl) rfl rfl rfl
theorem s60_15 : WP 60 0 15 L (vI x0 :: S) h Q ↔ (zw S ≤ 8 ∧ WP 85 0 0 [vI x0] [] h (zret 60 0 15 18 L S Q)) := wp_S rfl rfl (zcan_of rfl rfl) rfl rfl rfl
theorem s60_18 : WP 60 0 18 [a0, a1, a2, vA r, a4] S h Q ↔ WP 60 0 19 [a0, a1, a2, vA r, a4] (vA r :: S) h Q := wp_aload rfl rfl
theorem s60_19 : WP 60 0 19 [vA r, a1, a2, a3, a4] S h Q ↔ WP 60 0 20 [vA r, a1, a2, a3, a4] (vA r :: S) h Q := wp_aload rfl rfl
theorem s60_20 : WP 60 0 20 L (vA (some a) :: S) h Q ↔ (zhas 6 (hk h a) = true ∧ WP 60 0 23 L (hm h a 6 :: S) h Q) := wp_if rfl rfl rfl
theorem s60_23 : WP 60 0 23 L (vA r0 :: vA (some a) :: S) h Q ↔ ((hk h a).1 = 105 ∧ (zw S ≤ 8 ∧ WP 108 0 0 [vA (some a), vA r0, vJ] [] h (zret 60 0 23 26 L S Q))) := wp_V1 (c := 105) rfl rfl (fun _ => rfl) rfl rfl (zcan_of rfl rfl) rfl rfl rfl
theorem s60_26 : WP 60 0 26 [a0, a1, a2, a3, a4] (vI x :: S) h Q ↔ WP 60 0 28 [a0, a1, a2, a3, vI x] S h Q := wp_istore rfl rfl rfl
theorem s60_28 : WP 60 0 28 [a0, a1, vI x, a3, a4] S h Q ↔ WP 60 0 29 [a0, a1, vI x, a3, a4] (vI x :: S) h Q := wp_iload rfl rfl
theorem s60_29 : WP 60 0 29 L (vI x :: S) h Q ↔ zif (x = 0) (WP 60 0 38 L S h Q) (WP 60 0 32 L S h Q) := wp_bE zc_eq rfl rfl rfl
theorem s60_32 : WP 60 0 32 [a0, a1, a2, a3, vI x] S h Q ↔ WP 60 0 34 [a0, a1, a2, a3, vI x] (vI x :: S) h Q := wp_iload rfl rfl
theorem s60_34 : WP 60 0 34 L S h Q ↔ WP 60 0 35 L (vI (-1) :: S) h Q := wp_pl rfl rfl rfl
theorem s60_35 : WP 60 0 35 L (vI y :: vI x :: S) h Q ↔ zif (x = y) (WP 60 0 38 L S h Q) (WP 60 0 43 L S h Q) := wp_bN zc_eq rfl rfl rfl
theorem s60_38 : WP 60 0 38 [a0, a1, a2, a3, vI x] S h Q ↔ WP 60 0 40 [a0, a1, a2, a3, vI x] (vI x :: S) h Q := wp_iload rfl rfl
theorem s60_40 : WP 60 0 40 L S h Q ↔ WP 60 0 57 L S h Q := wp_pl rfl rfl rfl
theorem s60_43 : WP 60 0 43 [a0, a1, a2, vA r, a4] S h Q ↔ WP 60 0 44 [a0, a1, a2, vA r, a4] (vA r :: S) h Q := wp_aload rfl rfl
theorem s60_44 : WP 60 0 44 [vA r, a1, a2, a3, a4] S h Q ↔ WP 60 0 45 [vA r, a1, a2, a3, a4] (vA r :: S) h Q := wp_aload rfl rfl
theorem s60_45 : WP 60 0 45 L (vA (some a) :: S) h Q ↔ (zhas 6 (hk h a) = true ∧ WP 60 0 48 L (hm h a 6 :: S) h Q) := wp_if rfl rfl rfl
theorem s60_48 : WP 60 0 48 [a0, a1, a2, a3, vI x] S h Q ↔ WP 60 0 50 [a0, a1, a2, a3, vI x] (vI x :: S) h Q := wp_iload rfl rfl
theorem s60_50 : WP 60 0 50 L (vI x1 :: vA r0 :: vA (some a) :: S) h Q ↔ ((hk h a).1 = 105 ∧ (zw S ≤ 8 ∧ WP 114 0 0 [vA (some a), vA r0, vI x1, vJ, vJ, vJ, vJ, vJ] [] h (zret 60 0 50 53 L S Q))) := wp_V1 (c := 105) rfl rfl (fun _ => rfl) rfl rfl (zcan_of rfl rfl) rfl rfl rfl
theorem s60_53 : WP 60 0 53 [a0, a1, vI x, a3, a4] S h Q ↔ WP 60 0 54 [a0, a1, vI x, a3, a4] (vI x :: S) h Q := wp_iload rfl rfl
theorem s60_54 : WP 60 0 54 L S h Q ↔ WP 60 0 55 L (vI 1 :: S) h Q := wp_pl rfl rfl rfl
theorem s60_55 : WP 60 0 55 L (vI y :: vI x :: S) h Q ↔ WP 60 0 56 L (vI (wr (x - y)) :: S) h Q := wp_pl rfl rfl rfl
theorem s60_56 : WP 60 0 56 L (vI x :: vA (some a) :: S) h Q ↔ (((hk h a).1 = 1 ∧ 0 ≤ x ∧ x < ((hk h a).2 : Int)) ∧ WP 60 0 57 L (hm h a x.toNat :: S) h Q) := wp_if rfl rfl rfl
theorem s60_57 : WP 60 0 57 L [vI x] h Q ↔ Q (.inl (some (vI x))) h := wp_iret0 rfl rfl
/-! RepeatFree.mirror()I -/
theorem s61_0 : WP 61 0 0 L S h Q ↔ WP 61 0 1 L (vI 0 :: S) h Q := wp_pl rfl rfl rfl
theorem s61_1 : WP 61 0 1 [a0, a1, a2] (vI x :: S) h Q ↔ WP 61 0 2 [a0, vI x, a2] S h Q := wp_istore rfl rfl rfl
theorem s61_2 : WP 61 0 2 L S h Q ↔ WP 61 0 3 L (vI 0 :: S) h Q := wp_pl rfl rfl rfl
theorem s61_3 : WP 61 0 3 [a0, a1, a2] (vI x :: S) h Q ↔ WP 61 0 4 [a0, a1, vI x] S h Q := wp_istore rfl rfl rfl
theorem s61_4 : WP 61 0 4 [a0, a1, vI x] S h Q ↔ WP 61 0 5 [a0, a1, vI x] (vI x :: S) h Q := wp_iload rfl rfl
theorem s61_5 : WP 61 0 5 [vA r, a1, a2] S h Q ↔ WP 61 0 6 [vA r, a1, a2] (vA r :: S) h Q := wp_aload rfl rfl
theorem s61_6 : WP 61 0 6 L (vA (some a) :: S) h Q ↔ (zhas 6 (hk h a) = true ∧ WP 61 0 9 L (hm h a 6 :: S) h Q) := wp_if rfl rfl rfl
theorem s61_9 : WP 61 0 9 L (vA (some a) :: S) h Q ↔ (zhas 15 (hk h a) = true ∧ WP 61 0 12 L (hm h a 15 :: S) h Q) := wp_if rfl rfl rfl
theorem s61_12 : WP 61 0 12 L (vI y :: vI x :: S) h Q ↔ zif (x < y) (WP 61 0 15 L S h Q) (WP 61 0 43 L S h Q) := wp_bN zc_lt rfl rfl rfl
theorem s61_15 : WP 61 0 15 [a0, vI x, a2] S h Q ↔ WP 61 0 16 [a0, vI x, a2] (vI x :: S) h Q := wp_iload rfl rfl
theorem s61_16 : WP 61 0 16 [vA r, a1, a2] S h Q ↔ WP 61 0 17 [vA r, a1, a2] (vA r :: S) h Q := wp_aload rfl rfl
theorem s61_17 : WP 61 0 17 [a0, a1, vI x] S h Q ↔ WP 61 0 18 [a0, a1, vI x] (vI x :: S) h Q := wp_iload rfl rfl
theorem s61_18 : WP 61 0 18 [a0, a1, vI x] S h Q ↔ WP 61 0 19 [a0, a1, vI x] (vI x :: S) h Q := wp_iload rfl rfl
theorem s61_19 : WP 61 0 19 L (vI x1 :: vI x0 :: vA (some a) :: S) h Q ↔ ((hk h a).1 = 100 ∧ (zw S ≤ 8 ∧ WP 2 0 0 [vA (some a), vI x0, vI x1, vJ, vJ] [] h (zret 61 0 19 22 L S Q))) := wp_V1 (c := 100) rfl rfl (fun _ => rfl) rfl rfl (zcan_of rfl rfl) rfl rfl rfl
theorem s61_22 : WP 61 0 22 [vA r, a1, a2] S h Q ↔ WP 61 0 23 [vA r, a1, a2] (vA r :: S) h Q := wp_aload rfl rfl
theorem s61_23 : WP 61 0 23 [a0, a1, vI x] S h Q ↔ WP 61 0 24 [a0, a1, vI x] (vI x :: S) h Q := wp_iload rfl rfl
theorem s61_24 : WP 61 0 24 [a0, a1, vI x] S h Q ↔ WP 61 0 25 [a0, a1, vI x] (vI x :: S) h Q := wp_iload rfl rfl
theorem s61_25 : WP 61 0 25 L S h Q ↔ WP 61 0 26 L (vI 1 :: S) h Q := wp_pl rfl rfl rfl
theorem s61_26 : WP 61 0 26 L (vI y :: vI x :: S) h Q ↔ WP 61 0 27 L (vI (wr (x + y)) :: S) h Q := wp_pl rfl rfl rfl
theorem s61_27 : WP 61 0 27 L (vI x1 :: vI x0 :: vA (some a) :: S) h Q ↔ ((hk h a).1 = 100 ∧ (zw S ≤ 8 ∧ WP 2 0 0 [vA (some a), vI x0, vI x1, vJ, vJ] [] h (zret 61 0 27 30 L S Q))) := wp_V1 (c := 100) rfl rfl (fun _ => rfl) rfl rfl (zcan_of rfl rfl) rfl rfl rfl
theorem s61_30 : WP 61 0 30 L (vI x1 :: vI x0 :: S) h Q ↔ (zw S ≤ 8 ∧ WP 383 0 0 [vI x0, vI x1] [] h (zret 61 0 30 33 L S Q)) := wp_S rfl rfl (zcan_of rfl rfl) rfl rfl rfl
theorem s61_33 : WP 61 0 33 L (vI x1 :: vI x0 :: S) h Q ↔ (zw S ≤ 8 ∧ WP 383 0 0 [vI x0, vI x1] [] h (zret 61 0 33 36 L S Q)) := wp_S rfl rfl (zcan_of rfl rfl) rfl rfl rfl
theorem s61_36 : WP 61 0 36 [a0, a1, a2] (vI x :: S) h Q ↔ WP 61 0 37 [a0, vI x, a2] S h Q := wp_istore rfl rfl rfl
theorem s61_37 : WP 61 0 37 [a0, a1, vI x] S h Q ↔ WP 61 0 40 [a0, a1, vI (wr (x + 1))] S h Q := wp_iinc rfl rfl rfl
theorem s61_40 : WP 61 0 40 L S h Q ↔ WP 61 0 4 L S h Q := wp_pl rfl rfl rfl
theorem s61_43 : WP 61 0 43 [a0, vI x, a2] S h Q ↔ WP 61 0 44 [a0, vI x, a2] (vI x :: S) h Q := wp_iload rfl rfl
theorem s61_44 : WP 61 0 44 L [vI x] h Q ↔ Q (.inl (some (vI x))) h := wp_iret0 rfl rfl
/-! RepeatFree.must(Z)V -/
theorem s62_0 : WP 62 0 0 [vI x] S h Q ↔ WP 62 0 1 [vI x] (vI x :: S) h Q := wp_iload rfl rfl
theorem s62_1 : WP 62 0 1 L (vI x :: S) h Q ↔ zif (x = 0) (WP 62 0 4 L S h Q) (WP 62 0 12 L S h Q) := wp_bN zc_eq rfl rfl rfl
theorem s62_4 : WP 62 0 4 L S h Q ↔ (zw S ≤ 8 ∧ WP 62 0 11 L (vA (some (hn h)) :: S) (hnew h (120, 0) 6 zdf) Q) := wp_if rfl rfl rfl
theorem s62_11 : WP 62 0 11 L (vA (some a) :: S) h Q ↔ ((((120 ≤ (hk h a).1 ∧ (hk h a).1 ≤ 123) ∨ (hk h a).1 = 109)) ∧ Q (.inr a) h) := wp_athrow (fun _ => rfl) rfl
theorem s62_12 : WP 62 0 12 L [] h Q ↔ Q (.inl none) h := wp_ret rfl
/-! RepeatFree.mustBe(Z)V -/
theorem s63_0 : WP 63 0 0 [vI x] S h Q ↔ WP 63 0 1 [vI x] (vI x :: S) h Q := wp_iload rfl rfl
theorem s63_1 : WP 63 0 1 L (vI x :: S) h Q ↔ zif (x = 0) (WP 63 0 4 L S h Q) (WP 63 0 12 L S h Q) := wp_bN zc_eq rfl rfl rfl
theorem s63_4 : WP 63 0 4 L S h Q ↔ (zw S ≤ 8 ∧ WP 63 0 11 L (vA (some (hn h)) :: S) (hnew h (122, 0) 6 zdf) Q) := wp_if rfl rfl rfl
theorem s63_11 : WP 63 0 11 L (vA (some a) :: S) h Q ↔ ((((120 ≤ (hk h a).1 ∧ (hk h a).1 ≤ 123) ∨ (hk h a).1 = 109)) ∧ Q (.inr a) h) := wp_athrow (fun _ => rfl) rfl
theorem s63_12 : WP 63 0 12 L [] h Q ↔ Q (.inl none) h := wp_ret rfl
/-! RepeatFree.next()I -/
theorem s64_0 : WP 64 0 0 [vA r, a1, a2, a3, a4, a5, a6] S h Q ↔ WP 64 0 1 [vA r, a1, a2, a3, a4, a5, a6] (vA r :: S) h Q := wp_aload rfl rfl
theorem s64_1 : WP 64 0 1 L (vA (some a) :: S) h Q ↔ (zhas 6 (hk h a) = true ∧ WP 64 0 4 L (hm h a 6 :: S) h Q) := wp_if rfl rfl rfl
theorem s64_4 : WP 64 0 4 L (vA (some a) :: S) h Q ↔ (zhas 15 (hk h a) = true ∧ WP 64 0 7 L (hm h a 15 :: S) h Q) := wp_if rfl rfl rfl
theorem s64_7 : WP 64 0 7 L S h Q ↔ WP 64 0 9 L (vI 40 :: S) h Q := wp_pl rfl rfl rfl
theorem s64_9 : WP 64 0 9 L (vI y :: vI x :: S) h Q ↔ zif (y < x) (WP 64 0 16 L S h Q) (WP 64 0 12 L S h Q) := wp_bE zc_gt rfl rfl rfl
theorem s64_12 : WP 64 0 12 L S h Q ↔ WP 64 0 13 L (vI 1 :: S) h Q := wp_pl rfl rfl rfl
theorem s64_13 : WP 64 0 13 L S h Q ↔ WP 64 0 17 L S h Q := wp_pl rfl rfl rfl
theorem s64_16 : WP 64 0 16 L S h Q ↔ WP 64 0 17 L (vI 0 :: S) h Q := wp_pl rfl rfl rfl
theorem s64_17 : WP 64 0 17 L (vI x0 :: S) h Q ↔ (zw S ≤ 8 ∧ WP 9 0 0 [vI x0] [] h (zret 64 0 17 20 L S Q)) := wp_S rfl rfl (zcan_of rfl rfl) rfl rfl rfl
theorem s64_20 : WP 64 0 20 [vA r, a1, a2, a3, a4, a5, a6] S h Q ↔ WP 64 0 21 [vA r, a1, a2, a3, a4, a5, a6] (vA r :: S) h Q := wp_aload rfl rfl
theorem s64_21 : WP 64 0 21 L (vA (some a) :: S) h Q ↔ (zhas 6 (hk h a) = true ∧ WP 64 0 24 L (hm h a 6 :: S) h Q) := wp_if rfl rfl rfl
theorem s64_24 : WP 64 0 24 L (vA (some a) :: S) h Q ↔ (zhas 15 (hk h a) = true ∧ WP 64 0 27 L (hm h a 15 :: S) h Q) := wp_if rfl rfl rfl
theorem s64_27 : WP 64 0 27 [a0, a1, a2, a3, a4, a5, a6] (vI x :: S) h Q ↔ WP 64 0 28 [a0, vI x, a2, a3, a4, a5, a6] S h Q := wp_istore rfl rfl rfl
theorem s64_28 : WP 64 0 28 [vA r, a1, a2, a3, a4, a5, a6] S h Q ↔ WP 64 0 29 [vA r, a1, a2, a3, a4, a5, a6] (vA r :: S) h Q := wp_aload rfl rfl
theorem s64_29 : WP 64 0 29 [vA r, a1, a2, a3, a4, a5, a6] S h Q ↔ WP 64 0 30 [vA r, a1, a2, a3, a4, a5, a6] (vA r :: S) h Q := wp_aload rfl rfl
theorem s64_30 : WP 64 0 30 L (vA (some a) :: S) h Q ↔ (zhas 6 (hk h a) = true ∧ WP 64 0 33 L (hm h a 6 :: S) h Q) := wp_if rfl rfl rfl
theorem s64_33 : WP 64 0 33 L (vA r0 :: vA (some a) :: S) h Q ↔ ((hk h a).1 = 100 ∧ (zw S ≤ 8 ∧ WP 17 0 0 [vA (some a), vA r0, vJ] [] h (zret 64 0 33 36 L S Q))) := wp_V1 (c := 100) rfl rfl (fun _ => rfl) rfl rfl (zcan_of rfl rfl) rfl rfl rfl
theorem s64_36 : WP 64 0 36 [a0, a1, a2, a3, a4, a5, a6] (vI x :: S) h Q ↔ WP 64 0 37 [a0, a1, vI x, a3, a4, a5, a6] S h Q := wp_istore rfl rfl rfl
theorem s64_37 : WP 64 0 37 L S h Q ↔ WP 64 0 38 L (vI 0 :: S) h Q := wp_pl rfl rfl rfl
theorem s64_38 : WP 64 0 38 [a0, a1, a2, a3, a4, a5, a6] (vI x :: S) h Q ↔ WP 64 0 39 [a0, a1, a2, vI x, a4, a5, a6] S h Q := wp_istore rfl rfl rfl
theorem s64_39 : WP 64 0 39 [a0, vI x, a2, a3, a4, a5, a6] S h Q ↔ WP 64 0 40 [a0, vI x, a2, a3, a4, a5, a6] (vI x :: S) h Q := wp_iload rfl rfl
theorem s64_40 : WP 64 0 40 L S h Q ↔ WP 64 0 41 L (vI 1 :: S) h Q := wp_pl rfl rfl rfl
theorem s64_41 : WP 64 0 41 L (vI y :: vI x :: S) h Q ↔ WP 64 0 42 L (vI (wr (x - y)) :: S) h Q := wp_pl rfl rfl rfl
theorem s64_42 : WP 64 0 42 [a0, a1, a2, a3, a4, a5, a6] (vI x :: S) h Q ↔ WP 64 0 44 [a0, a1, a2, a3, vI x, a5, a6] S h Q := wp_istore rfl rfl rfl
theorem s64_44 : WP 64 0 44 [a0, a1, a2, a3, vI x, a5, a6] S h Q ↔ WP 64 0 46 [a0, a1, a2, a3, vI x, a5, a6] (vI x :: S) h Q := wp_iload rfl rfl
theorem s64_46 : WP 64 0 46 L (vI x :: S) h Q ↔ zif (x < 0) (WP 64 0 152 L S h Q) (WP 64 0 49 L S h Q) := wp_bE zc_lt rfl rfl rfl
theorem s64_49 : WP 64 0 49 [a0, a1, vI x, a3, a4, a5, a6] S h Q ↔ WP 64 0 50 [a0, a1, vI x, a3, a4, a5, a6] (vI x :: S) h Q := wp_iload rfl rfl
theorem s64_50 : WP 64 0 50 L S h Q ↔ WP 64 0 51 L (vI (-1) :: S) h Q := wp_pl rfl rfl rfl
theorem s64_51 : WP 64 0 51 L (vI y :: vI x :: S) h Q ↔ zif (x = y) (WP 64 0 63 L S h Q) (WP 64 0 54 L S h Q) := wp_bE zc_eq rfl rfl rfl
theorem s64_54 : WP 64 0 54 [a0, a1, a2, a3, vI x, a5, a6] S h Q ↔ WP 64 0 56 [a0, a1, a2, a3, vI x, a5, a6] (vI x :: S) h Q := wp_iload rfl rfl
theorem s64_56 : WP 64 0 56 [a0, a1, vI x, a3, a4, a5, a6] S h Q ↔ WP 64 0 57 [a0, a1, vI x, a3, a4, a5, a6] (vI x :: S) h Q := wp_iload rfl rfl
theorem s64_57 : WP 64 0 57 L (vI y :: vI x :: S) h Q ↔ zif (y < x) (WP 64 0 60 L S h Q) (WP 64 0 63 L S h Q) := wp_bN zc_gt rfl rfl rfl
theorem s64_60 : WP 64 0 60 L S h Q ↔ WP 64 0 146 L S h Q := wp_pl rfl rfl rfl
theorem s64_63 : WP 64 0 63 [vA r, a1, a2, a3, a4, a5, a6] S h Q ↔ WP 64 0 64 [vA r, a1, a2, a3, a4, a5, a6] (vA r :: S) h Q := wp_aload rfl rfl
theorem s64_64 : WP 64 0 64 L (vA (some a) :: S) h Q ↔ (zhas 6 (hk h a) = true ∧ WP 64 0 67 L (hm h a 6 :: S) h Q) := wp_if rfl rfl rfl
theorem s64_67 : WP 64 0 67 L (vA (some a) :: S) h Q ↔ ((hk h a).1 = 102 ∧ (zw S ≤ 8 ∧ WP 102 0 0 [vA (some a), vJ] [] h (zret 64 0 67 70 L S Q))) := wp_V1 (c := 102) rfl rfl (fun _ => rfl) rfl rfl (zcan_of rfl rfl) rfl rfl rfl
theorem s64_70 : WP 64 0 70 [a0, a1, a2, a3, a4, a5, a6] (vA r :: S) h Q ↔ WP 64 0 72 [a0, a1, a2, a3, a4, vA r, a6] S h Q := wp_astore rfl rfl rfl
theorem s64_72 : WP 64 0 72 [a0, a1, a2, a3, a4, vA r, a6] S h Q ↔ WP 64 0 74 [a0, a1, a2, a3, a4, vA r, a6] (vA r :: S) h Q := wp_aload rfl rfl
theorem s64_74 : WP 64 0 74 [a0, a1, a2, a3, vI x, a5, a6] S h Q ↔ WP 64 0 76 [a0, a1, a2, a3, vI x, a5, a6] (vI x :: S) h Q := wp_iload rfl rfl
theorem s64_76 : WP 64 0 76 L (vI x :: vA (some a) :: S) h Q ↔ ((zNC ≤ a ∧ zhas 15 (hk h a) = true) ∧ WP 64 0 79 L S (hput h a 15 (vI x)) Q) := wp_put0 rfl rfl
theorem s64_79 : WP 64 0 79 L S h Q ↔ WP 64 0 82 L (vA (some (hn h)) :: S) (hnew h (106, 0) 4 zdf) Q := wp_pl rfl rfl rfl
theorem s64_82 : WP 64 0 82 L (vA r :: S) h Q ↔ WP 64 0 83 L (vA r :: vA r :: S) h Q := wp_pl rfl rfl rfl
theorem s64_82i : WP 64 0 82 L (vI x :: S) h Q ↔ WP 64 0 83 L (vI x :: vI x :: S) h Q := wp_pl rfl rfl rfl
theorem s64_83 : WP 64 0 83 [vA r, a1, a2, a3, a4, a5, a6] S h Q ↔ WP 64 0 84 [vA r, a1, a2, a3, a4, a5, a6] (vA r :: S) h Q := wp_aload rfl rfl
theorem s64_84 : WP 64 0 84 [a0, a1, a2, a3, a4, vA r, a6] S h Q ↔ WP 64 0 86 [a0, a1, a2, a3, a4, vA r, a6] (vA r :: S) h Q := wp_aload rfl rfl
theorem s64_86 : WP 64 0 86 L (vA r1 :: vA r0 :: vA (some a) :: S) h Q ↔ ((zNC ≤ a ∧ 100 ≤ (hk h a).1) ∧ zw S ≤ 8 ∧ WP 117 0 0 [vA (some a), vA r0, vA r1] [] h (zret 64 0 86 89 L S Q)) := wp_I rfl rfl rfl (zcan_of rfl rfl) rfl rfl rfl
theorem s64_89 : WP 64 0 89 [a0, a1, a2, a3, a4, a5, a6] (vA r :: S) h Q ↔ WP 64 0 91 [a0, a1, a2, a3, a4, a5, vA r] S h Q := wp_astore rfl rfl rfl
theorem s64_91 : WP 64 0 91 [a0, a1, a2, a3, a4, a5, vA r] S h Q ↔ WP 64 0 93 [a0, a1, a2, a3, a4, a5, vA r] (vA r :: S) h Q := wp_aload rfl rfl
theorem s64_93 : WP 64 0 93 [a0, a1, a2, vI x, a4, a5, a6] S h Q ↔ WP 64 0 94 [a0, a1, a2, vI x, a4, a5, a6] (vI x :: S) h Q := wp_iload rfl rfl
theorem s64_94 : WP 64 0 94 L (vI x :: vA (some a) :: S) h Q ↔ ((zNC ≤ a ∧ zhas 27 (hk h a) = true) ∧ WP 64 0 97 L S (hput h a 27 (vI x)) Q) := wp_put0 rfl rfl
theorem s64_97 : WP 64 0 97 [a0, a1, a2, a3, a4, a5, vA r] S h Q ↔ WP 64 0 99 [a0, a1, a2, a3, a4, a5, vA r] (vA r :: S) h Q := wp_aload rfl rfl
theorem s64_99 : WP 64 0 99 [a0, vI x, a2, a3, a4, a5, a6] S h Q ↔ WP 64 0 100 [a0, vI x, a2, a3, a4, a5, a6] (vI x :: S) h Q := wp_iload rfl rfl
theorem s64_100 : WP 64 0 100 [a0, a1, a2, a3, vI x, a5, a6] S h Q ↔ WP 64 0 102 [a0, a1, a2, a3, vI x, a5, a6] (vI x :: S) h Q := wp_iload rfl rfl
theorem s64_102 : WP 64 0 102 [vA r, a1, a2, a3, a4, a5, a6] S h Q ↔ WP 64 0 103 [vA r, a1, a2, a3, a4, a5, a6] (vA r :: S) h Q := wp_aload rfl rfl
theorem s64_103 : WP 64 0 103 L (vA (some a) :: S) h Q ↔ (zhas 6 (hk h a) = true ∧ WP 64 0 106 L (hm h a 6 :: S) h Q) := wp_if rfl rfl rfl
theorem s64_106 : WP 64 0 106 L (vA (some a) :: S) h Q ↔ (zhas 14 (hk h a) = true ∧ WP 64 0 109 L (hm h a 14 :: S) h Q) := wp_if rfl rfl rfl
theorem s64_109 : WP 64 0 109 [a0, a1, a2, a3, vI x, a5, a6] S h Q ↔ WP 64 0 111 [a0, a1, a2, a3, vI x, a5, a6] (vI x :: S) h Q := wp_iload rfl rfl
theorem s64_111 : WP 64 0 111 L (vI x :: vA (some a) :: S) h Q ↔ ((((hk h a).1 = 2 ∨ (hk h a).1 = 3) ∧ 0 ≤ x ∧ x < ((hk h a).2 : Int)) ∧ WP 64 0 112 L (hm h a x.toNat :: S) h Q) := wp_if rfl rfl rfl
theorem s64_112 : WP 64 0 112 L S h Q ↔ WP 64 0 113 L (vI 1 :: S) h Q := wp_pl rfl rfl rfl
theorem s64_113 : WP 64 0 113 L (vI y :: vI x :: S) h Q ↔ WP 64 0 114 L (vI (wr (x + y)) :: S) h Q := wp_pl rfl rfl rfl
theorem s64_114 : WP 64 0 114 L (vI x2 :: vI x1 :: vI x0 :: vA (some a) :: S) h Q ↔ ((hk h a).1 = 106 ∧ (zw S ≤ 8 ∧ WP 115 0 0 [vA (some a), vI x0, vI x1, vI x2, vJ, vJ] [] h (zret 64 0 114 117 L S Q))) := wp_V1 (c := 106) rfl rfl (fun _ => rfl) rfl rfl (zcan_of rfl rfl) rfl rfl rfl
theorem s64_117 : WP 64 0 117 L (vI x :: S) h Q ↔ zif (x = 0) (WP 64 0 129 L S h Q) (WP 64 0 120 L S h Q) := wp_bE zc_eq rfl rfl rfl
theorem s64_120 : WP 64 0 120 [vA r, a1, a2, a3, a4, a5, a6] S h Q ↔ WP 64 0 121 [vA r, a1, a2, a3, a4, a5, a6] (vA r :: S) h Q := wp_aload rfl rfl
theorem s64_121 : WP 64 0 121 [a0, a1, a2, a3, a4, vA r, a6] S h Q ↔ WP 64 0 123 [a0, a1, a2, a3, a4, vA r, a6] (vA r :: S) h Q := wp_aload rfl rfl
theorem s64_123 : WP 64 0 123 L (vA r0 :: vA (some a) :: S) h Q ↔ ((hk h a).1 = 100 ∧ (zw S ≤ 8 ∧ WP 4 0 0 [vA (some a), vA r0] [] h (zret 64 0 123 126 L S Q))) := wp_V1 (c := 100) rfl rfl (fun _ => rfl) rfl rfl (zcan_of rfl rfl) rfl rfl rfl
theorem s64_126 : WP 64 0 126 [a0, a1, a2, a3, vI x, a5, a6] S h Q ↔ WP 64 0 128 [a0, a1, a2, a3, vI x, a5, a6] (vI x :: S) h Q := wp_iload rfl rfl
theorem s64_128 : WP 64 0 128 L [vI x] h Q ↔ Q (.inl (some (vI x))) h := wp_iret0 rfl rfl
theorem s64_129 : WP 64 0 129 [a0, a1, a2, a3, a4, a5, vA r] S h Q ↔ WP 64 0 131 [a0, a1, a2, a3, a4, a5, vA r] (vA r :: S) h Q := wp_aload rfl rfl
theorem s64_131 : WP 64 0 131 L (vA (some a) :: S) h Q ↔ (zhas 28 (hk h a) = true ∧ WP 64 0 134 L (hm h a 28 :: S) h Q) := wp_if rfl rfl rfl
theorem s64_134 : WP 64 0 134 L (vI x :: S) h Q ↔ zif (x = 0) (WP 64 0 140 L S h Q) (WP 64 0 137 L S h Q) := wp_bE zc_eq rfl rfl rfl
theorem s64_137 : WP 64 0 137 L S h Q ↔ WP 64 0 139 L (vI (-2) :: S) h Q := wp_pl rfl rfl rfl
theorem s64_139 : WP 64 0 139 L [vI x] h Q ↔ Q (.inl (some (vI x))) h := wp_iret0 rfl rfl
theorem s64_140 : WP 64 0 140 [a0, a1, a2, a3, a4, a5, vA r] S h Q ↔ WP 64 0 142 [a0, a1, a2, a3, a4, a5, vA r] (vA r :: S) h Q := wp_aload rfl rfl
theorem s64_142 : WP 64 0 142 L (vA (some a) :: S) h Q ↔ (zhas 27 (hk h a) = true ∧ WP 64 0 145 L (hm h a 27 :: S) h Q) := wp_if rfl rfl rfl
theorem s64_145 : WP 64 0 145 [a0, a1, a2, a3, a4, a5, a6] (vI x :: S) h Q ↔ WP 64 0 146 [a0, a1, a2, vI x, a4, a5, a6] S h Q := wp_istore rfl rfl rfl
theorem s64_146 : WP 64 0 146 [a0, a1, a2, a3, vI x, a5, a6] S h Q ↔ WP 64 0 149 [a0, a1, a2, a3, vI (wr (x + (-1))), a5, a6] S h Q := wp_iinc rfl rfl rfl
theorem s64_149 : WP 64 0 149 L S h Q ↔ WP 64 0 44 L S h Q := wp_pl rfl rfl rfl
theorem s64_152 : WP 64 0 152 L S h Q ↔ WP 64 0 153 L (vI (-1) :: S) h Q := wp_pl rfl rfl rfl
theorem s64_153 : WP 64 0 153 L [vI x] h Q ↔ Q (.inl (some (vI x))) h := wp_iret0 rfl rfl
/-! RepeatFree.nth(II)I -/
theorem s65_0 : WP 65 0 0 [a0, vI x, a2, a3, a4, a5] S h Q ↔ WP 65 0 1 [a0, vI x, a2, a3, a4, a5] (vI x :: S) h Q := wp_iload rfl rfl
theorem s65_1 : WP 65 0 1 L (vI x :: S) h Q ↔ WP 65 0 2 L (vL x :: S) h Q := wp_pl rfl rfl rfl
theorem s65_2 : WP 65 0 2 L S h Q ↔ WP 65 0 3 L (vL 1 :: S) h Q := wp_pl rfl rfl rfl
theorem s65_3 : WP 65 0 3 L S h Q ↔ WP 65 0 6 L (vL (40) :: S) h Q := wp_pl rfl rfl rfl
theorem s65_6 : WP 65 0 6 L (vL x2 :: vL x1 :: vL x0 :: S) h Q ↔ (zw S ≤ 8 ∧ WP 38 0 0 [vL x0, vJ, vL x1, vJ, vL x2, vJ] [] h (zret 65 0 6 9 L S Q)) := wp_S rfl rfl (zcan_of rfl rfl) rfl rfl rfl
theorem s65_9 : WP 65 0 9 L (vI x :: S) h Q ↔ zif (x = 0) (WP 65 0 20 L S h Q) (WP 65 0 12 L S h Q) := wp_bE zc_eq rfl rfl rfl
theorem s65_12 : WP 65 0 12 [a0, a1, vI x, a3, a4, a5] S h Q ↔ WP 65 0 13 [a0, a1, vI x, a3, a4, a5] (vI x :: S) h Q := wp_iload rfl rfl
theorem s65_13 : WP 65 0 13 L (vI x :: S) h Q ↔ zif (x < 0) (WP 65 0 20 L S h Q) (WP 65 0 16 L S h Q) := wp_bE zc_lt rfl rfl rfl
theorem s65_16 : WP 65 0 16 L S h Q ↔ WP 65 0 17 L (vI 1 :: S) h Q := wp_pl rfl rfl rfl
theorem s65_17 : WP 65 0 17 L S h Q ↔ WP 65 0 21 L S h Q := wp_pl rfl rfl rfl
theorem s65_20 : WP 65 0 20 L S h Q ↔ WP 65 0 21 L (vI 0 :: S) h Q := wp_pl rfl rfl rfl
theorem s65_21 : WP 65 0 21 L (vI x0 :: S) h Q ↔ (zw S ≤ 8 ∧ WP 62 0 0 [vI x0] [] h (zret 65 0 21 24 L S Q)) := wp_S rfl rfl (zcan_of rfl rfl) rfl rfl rfl
theorem s65_24 : WP 65 0 24 L S h Q ↔ WP 65 0 27 L (vA (some (hn h)) :: S) (hnew h (106, 0) 4 zdf) Q := wp_pl rfl rfl rfl
theorem s65_27 : WP 65 0 27 L (vA r :: S) h Q ↔ WP 65 0 28 L (vA r :: vA r :: S) h Q := wp_pl rfl rfl rfl
theorem s65_27i : WP 65 0 27 L (vI x :: S) h Q ↔ WP 65 0 28 L (vI x :: vI x :: S) h Q := wp_pl rfl rfl rfl
theorem s65_28 : WP 65 0 28 [vA r, a1, a2, a3, a4, a5] S h Q ↔ WP 65 0 29 [vA r, a1, a2, a3, a4, a5] (vA r :: S) h Q := wp_aload rfl rfl
theorem s65_29 : WP 65 0 29 L S h Q ↔ WP 65 0 32 L (vA (some (hn h)) :: S) (hnew h (102, 0) 2 zdf) Q := wp_pl rfl rfl rfl
theorem s65_32 : WP 65 0 32 L (vA r :: S) h Q ↔ WP 65 0 33 L (vA r :: vA r :: S) h Q := wp_pl rfl rfl rfl
theorem s65_32i : WP 65 0 32 L (vI x :: S) h Q ↔ WP 65 0 33 L (vI x :: vI x :: S) h Q := wp_pl rfl rfl rfl
theorem s65_33 : WP 65 0 33 L (vA (some a) :: S) h Q ↔ ((zNC ≤ a ∧ 100 ≤ (hk h a).1) ∧ zw S ≤ 8 ∧ WP 100 0 0 [vA (some a)] [] h (zret 65 0 33 36 L S Q)) := wp_I rfl rfl rfl (zcan_of rfl rfl) rfl rfl rfl
theorem s65_36 : WP 65 0 36 L (vA r1 :: vA r0 :: vA (some a) :: S) h Q ↔ ((zNC ≤ a ∧ 100 ≤ (hk h a).1) ∧ zw S ≤ 8 ∧ WP 117 0 0 [vA (some a), vA r0, vA r1] [] h (zret 65 0 36 39 L S Q)) := wp_I rfl rfl rfl (zcan_of rfl rfl) rfl rfl rfl
theorem s65_39 : WP 65 0 39 [a0, a1, a2, a3, a4, a5] (vA r :: S) h Q ↔ WP 65 0 40 [a0, a1, a2, vA r, a4, a5] S h Q := wp_astore rfl rfl rfl
theorem s65_40 : WP 65 0 40 [a0, a1, a2, vA r, a4, a5] S h Q ↔ WP 65 0 41 [a0, a1, a2, vA r, a4, a5] (vA r :: S) h Q := wp_aload rfl rfl
theorem s65_41 : WP 65 0 41 [a0, vI x, a2, a3, a4, a5] S h Q ↔ WP 65 0 42 [a0, vI x, a2, a3, a4, a5] (vI x :: S) h Q := wp_iload rfl rfl
theorem s65_42 : WP 65 0 42 L S h Q ↔ WP 65 0 43 L (vI 0 :: S) h Q := wp_pl rfl rfl rfl
theorem s65_43 : WP 65 0 43 L S h Q ↔ WP 65 0 44 L (vI 0 :: S) h Q := wp_pl rfl rfl rfl
theorem s65_44 : WP 65 0 44 L (vI x2 :: vI x1 :: vI x0 :: vA (some a) :: S) h Q ↔ ((hk h a).1 = 106 ∧ (zw S ≤ 8 ∧ WP 115 0 0 [vA (some a), vI x0, vI x1, vI x2, vJ, vJ] [] h (zret 65 0 44 47 L S Q))) := wp_V1 (c := 106) rfl rfl (fun _ => rfl) rfl rfl (zcan_of rfl rfl) rfl rfl rfl
theorem s65_47 : WP 65 0 47 [a0, a1, a2, a3, a4, a5] (vI x :: S) h Q ↔ WP 65 0 49 [a0, a1, a2, a3, vI x, a5] S h Q := wp_istore rfl rfl rfl
theorem s65_49 : WP 65 0 49 [a0, a1, vI x, a3, a4, a5] S h Q ↔ WP 65 0 50 [a0, a1, vI x, a3, a4, a5] (vI x :: S) h Q := wp_iload rfl rfl
theorem s65_50 : WP 65 0 50 [a0, a1, a2, a3, a4, a5] (vI x :: S) h Q ↔ WP 65 0 52 [a0, a1, a2, a3, a4, vI x] S h Q := wp_istore rfl rfl rfl
theorem s65_52 : WP 65 0 52 [a0, a1, a2, a3, a4, vI x] S h Q ↔ WP 65 0 54 [a0, a1, a2, a3, a4, vI x] (vI x :: S) h Q := wp_iload rfl rfl
theorem s65_54 : WP 65 0 54 L (vI x :: S) h Q ↔ zif (0 < x) (WP 65 0 57 L S h Q) (WP 65 0 76 L S h Q) := wp_bN zc_gt rfl rfl rfl
theorem s65_57 : WP 65 0 57 [a0, a1, a2, a3, vI x, a5] S h Q ↔ WP 65 0 59 [a0, a1, a2, a3, vI x, a5] (vI x :: S) h Q := wp_iload rfl rfl
theorem s65_59 : WP 65 0 59 L (vI x :: S) h Q ↔ zif (x = 0) (WP 65 0 76 L S h Q) (WP 65 0 62 L S h Q) := wp_bE zc_eq rfl rfl rfl
theorem s65_62 : WP 65 0 62 [a0, a1, a2, vA r, a4, a5] S h Q ↔ WP 65 0 63 [a0, a1, a2, vA r, a4, a5] (vA r :: S) h Q := wp_aload rfl rfl
theorem s65_63 : WP 65 0 63 [a0, vI x, a2, a3, a4, a5] S h Q ↔ WP 65 0 64 [a0, vI x, a2, a3, a4, a5] (vI x :: S) h Q := wp_iload rfl rfl
theorem s65_64 : WP 65 0 64 L S h Q ↔ WP 65 0 65 L (vI 0 :: S) h Q := wp_pl rfl rfl rfl
theorem s65_65 : WP 65 0 65 L (vI x1 :: vI x0 :: vA (some a) :: S) h Q ↔ ((hk h a).1 = 106 ∧ (zw S ≤ 8 ∧ WP 116 0 0 [vA (some a), vI x0, vI x1] [] h (zret 65 0 65 68 L S Q))) := wp_V1 (c := 106) rfl rfl (fun _ => rfl) rfl rfl (zcan_of rfl rfl) rfl rfl rfl
theorem s65_68 : WP 65 0 68 [a0, a1, a2, a3, a4, a5] (vI x :: S) h Q ↔ WP 65 0 70 [a0, a1, a2, a3, vI x, a5] S h Q := wp_istore rfl rfl rfl
theorem s65_70 : WP 65 0 70 [a0, a1, a2, a3, a4, vI x] S h Q ↔ WP 65 0 73 [a0, a1, a2, a3, a4, vI (wr (x + (-1)))] S h Q := wp_iinc rfl rfl rfl
theorem s65_73 : WP 65 0 73 L S h Q ↔ WP 65 0 52 L S h Q := wp_pl rfl rfl rfl
theorem s65_76 : WP 65 0 76 [a0, a1, a2, a3, vI x, a5] S h Q ↔ WP 65 0 78 [a0, a1, a2, a3, vI x, a5] (vI x :: S) h Q := wp_iload rfl rfl
theorem s65_78 : WP 65 0 78 L (vI x :: S) h Q ↔ zif (x = 0) (WP 65 0 81 L S h Q) (WP 65 0 95 L S h Q) := wp_bN zc_eq rfl rfl rfl
theorem s65_81 : WP 65 0 81 [a0, a1, a2, vA r, a4, a5] S h Q ↔ WP 65 0 82 [a0, a1, a2, vA r, a4, a5] (vA r :: S) h Q := wp_aload rfl rfl
theorem s65_82 : WP 65 0 82 L (vA (some a) :: S) h Q ↔ (zhas 28 (hk h a) = true ∧ WP 65 0 85 L (hm h a 28 :: S) h Q) := wp_if rfl rfl rfl
theorem s65_85 : WP 65 0 85 L (vI x :: S) h Q ↔ zif (x = 0) (WP 65 0 93 L S h Q) (WP 65 0 88 L S h Q) := wp_bE zc_eq rfl rfl rfl
theorem s65_88 : WP 65 0 88 L S h Q ↔ WP 65 0 90 L (vI (-2) :: S) h Q := wp_pl rfl rfl rfl
theorem s65_90 : WP 65 0 90 L S h Q ↔ WP 65 0 94 L S h Q := wp_pl rfl rfl rfl
theorem s65_93 : WP 65 0 93 L S h Q ↔ WP 65 0 94 L (vI (-1) :: S) h Q := wp_pl rfl rfl rfl
theorem s65_94 : WP 65 0 94 L [vI x] h Q ↔ Q (.inl (some (vI x))) h := wp_iret0 rfl rfl
theorem s65_95 : WP 65 0 95 [vA r, a1, a2, a3, a4, a5] S h Q ↔ WP 65 0 96 [vA r, a1, a2, a3, a4, a5] (vA r :: S) h Q := wp_aload rfl rfl
theorem s65_96 : WP 65 0 96 [a0, a1, a2, vA r, a4, a5] S h Q ↔ WP 65 0 97 [a0, a1, a2, vA r, a4, a5] (vA r :: S) h Q := wp_aload rfl rfl
theorem s65_97 : WP 65 0 97 L (vA (some a) :: S) h Q ↔ (zhas 26 (hk h a) = true ∧ WP 65 0 100 L (hm h a 26 :: S) h Q) := wp_if rfl rfl rfl
theorem s65_100 : WP 65 0 100 L (vA r0 :: vA (some a) :: S) h Q ↔ ((hk h a).1 = 100 ∧ (zw S ≤ 8 ∧ WP 4 0 0 [vA (some a), vA r0] [] h (zret 65 0 100 103 L S Q))) := wp_V1 (c := 100) rfl rfl (fun _ => rfl) rfl rfl (zcan_of rfl rfl) rfl rfl rfl
theorem s65_103 : WP 65 0 103 [a0, a1, a2, vA r, a4, a5] S h Q ↔ WP 65 0 104 [a0, a1, a2, vA r, a4, a5] (vA r :: S) h Q := wp_aload rfl rfl
theorem s65_104 : WP 65 0 104 L (vA (some a) :: S) h Q ↔ (zhas 27 (hk h a) = true ∧ WP 65 0 107 L (hm h a 27 :: S) h Q) := wp_if rfl rfl rfl
theorem s65_107 : WP 65 0 107 L [vI x] h Q ↔ Q (.inl (some (vI x))) h := wp_iret0 rfl rfl
/-! RepeatFree.often(IIII)J -/
theorem s66_0 : WP 66 0 0 [vA r, a1, a2, a3, a4, a5] S h Q ↔ WP 66 0 1 [vA r, a1, a2, a3, a4, a5] (vA r :: S) h Q := wp_aload rfl rfl
theorem s66_1 : WP 66 0 1 [a0, vI x, a2, a3, a4, a5] S h Q ↔ WP 66 0 2 [a0, vI x, a2, a3, a4, a5] (vI x :: S) h Q := wp_iload rfl rfl
theorem s66_2 : WP 66 0 2 [a0, a1, vI x, a3, a4, a5] S h Q ↔ WP 66 0 3 [a0, a1, vI x, a3, a4, a5] (vI x :: S) h Q := wp_iload rfl rfl
theorem s66_3 : WP 66 0 3 [a0, a1, a2, vI x, a4, a5] S h Q ↔ WP 66 0 4 [a0, a1, a2, vI x, a4, a5] (vI x :: S) h Q := wp_iload rfl rfl
theorem s66_4 : WP 66 0 4 L (vI x2 :: vI x1 :: vI x0 :: vA (some a) :: S) h Q ↔ ((hk h a).1 = 100 ∧ (zw S ≤ 8 ∧ WP 72 0 0 [vA (some a), vI x0, vI x1, vI x2, vJ] [] h (zret 66 0 4 7 L S Q))) := wp_V1 (c := 100) rfl rfl (fun _ => rfl) rfl rfl (zcan_of rfl rfl) rfl rfl rfl
theorem s66_7 : WP 66 0 7 [a0, a1, a2, a3, a4, a5] (vA r :: S) h Q ↔ WP 66 0 9 [a0, a1, a2, a3, a4, vA r] S h Q := wp_astore rfl rfl rfl
theorem s66_9 : WP 66 0 9 [vA r, a1, a2, a3, a4, a5] S h Q ↔ WP 66 0 10 [vA r, a1, a2, a3, a4, a5] (vA r :: S) h Q := wp_aload rfl rfl
theorem s66_10 : WP 66 0 10 [a0, a1, a2, a3, vI x, a5] S h Q ↔ WP 66 0 12 [a0, a1, a2, a3, vI x, a5] (vI x :: S) h Q := wp_iload rfl rfl
theorem s66_12 : WP 66 0 12 L (vI x0 :: vA (some a) :: S) h Q ↔ ((hk h a).1 = 100 ∧ (zw S ≤ 8 ∧ WP 40 0 0 [vA (some a), vI x0] [] h (zret 66 0 12 15 L S Q))) := wp_V1 (c := 100) rfl rfl (fun _ => rfl) rfl rfl (zcan_of rfl rfl) rfl rfl rfl
theorem s66_15 : WP 66 0 15 L (vI x0 :: S) h Q ↔ (zw S ≤ 8 ∧ WP 62 0 0 [vI x0] [] h (zret 66 0 15 18 L S Q)) := wp_S rfl rfl (zcan_of rfl rfl) rfl rfl rfl
theorem s66_18 : WP 66 0 18 [vA r, a1, a2, a3, a4, a5] S h Q ↔ WP 66 0 19 [vA r, a1, a2, a3, a4, a5] (vA r :: S) h Q := wp_aload rfl rfl
theorem s66_19 : WP 66 0 19 [a0, a1, a2, a3, a4, vA r] S h Q ↔ WP 66 0 21 [a0, a1, a2, a3, a4, vA r] (vA r :: S) h Q := wp_aload rfl rfl
theorem s66_21 : WP 66 0 21 [a0, a1, vI x, a3, a4, a5] S h Q ↔ WP 66 0 22 [a0, a1, vI x, a3, a4, a5] (vI x :: S) h Q := wp_iload rfl rfl
theorem s66_22 : WP 66 0 22 [a0, a1, a2, vI x, a4, a5] S h Q ↔ WP 66 0 23 [a0, a1, a2, vI x, a4, a5] (vI x :: S) h Q := wp_iload rfl rfl
theorem s66_23 : WP 66 0 23 L (vI x2 :: vI x1 :: vA r0 :: vA (some a) :: S) h Q ↔ ((hk h a).1 = 100 ∧ (zw S ≤ 8 ∧ WP 14 0 0 [vA (some a), vA r0, vI x1, vI x2, vJ, vJ, vJ, vJ, vJ, vJ] [] h (zret 66 0 23 26 L S Q))) := wp_V1 (c := 100) rfl rfl (fun _ => rfl) rfl rfl (zcan_of rfl rfl) rfl rfl rfl
theorem s66_26 : WP 66 0 26 [a0, a1, a2, a3, vI x, a5] S h Q ↔ WP 66 0 28 [a0, a1, a2, a3, vI x, a5] (vI x :: S) h Q := wp_iload rfl rfl
theorem s66_28 : WP 66 0 28 L (vI x :: vA (some a) :: S) h Q ↔ (((hk h a).1 = 4 ∧ 0 ≤ x ∧ x < ((hk h a).2 : Int)) ∧ WP 66 0 29 L (hm h a x.toNat :: S) h Q) := wp_if rfl rfl rfl
theorem s66_29 : WP 66 0 29 L [vL x] h Q ↔ Q (.inl (some (vL x))) h := wp_lret rfl
/-! RepeatFree.order(LRepeatFree$Word;LRepeatFree$Word;)I -/
theorem s67_0 : WP 67 0 0 L S h Q ↔ WP 67 0 1 L (vI 0 :: S) h Q := wp_pl rfl rfl rfl
theorem s67_1 : WP 67 0 1 [a0, a1, a2] (vI x :: S) h Q ↔ WP 67 0 2 [a0, a1, vI x] S h Q := wp_istore rfl rfl rfl
theorem s67_2 : WP 67 0 2 [a0, a1, vI x] S h Q ↔ WP 67 0 3 [a0, a1, vI x] (vI x :: S) h Q := wp_iload rfl rfl
theorem s67_3 : WP 67 0 3 [vA r, a1, a2] S h Q ↔ WP 67 0 4 [vA r, a1, a2] (vA r :: S) h Q := wp_aload rfl rfl
theorem s67_4 : WP 67 0 4 L (vA (some a) :: S) h Q ↔ (zhas 15 (hk h a) = true ∧ WP 67 0 7 L (hm h a 15 :: S) h Q) := wp_if rfl rfl rfl
theorem s67_7 : WP 67 0 7 L (vI y :: vI x :: S) h Q ↔ zif (x < y) (WP 67 0 10 L S h Q) (WP 67 0 31 L S h Q) := wp_bN zc_lt rfl rfl rfl
theorem s67_10 : WP 67 0 10 [vA r, a1, a2] S h Q ↔ WP 67 0 11 [vA r, a1, a2] (vA r :: S) h Q := wp_aload rfl rfl
theorem s67_11 : WP 67 0 11 L (vA (some a) :: S) h Q ↔ (zhas 14 (hk h a) = true ∧ WP 67 0 14 L (hm h a 14 :: S) h Q) := wp_if rfl rfl rfl
theorem s67_14 : WP 67 0 14 [a0, a1, vI x] S h Q ↔ WP 67 0 15 [a0, a1, vI x] (vI x :: S) h Q := wp_iload rfl rfl
theorem s67_15 : WP 67 0 15 L (vI x :: vA (some a) :: S) h Q ↔ ((((hk h a).1 = 2 ∨ (hk h a).1 = 3) ∧ 0 ≤ x ∧ x < ((hk h a).2 : Int)) ∧ WP 67 0 16 L (hm h a x.toNat :: S) h Q) := wp_if rfl rfl rfl
theorem s67_16 : WP 67 0 16 [a0, vA r, a2] S h Q ↔ WP 67 0 17 [a0, vA r, a2] (vA r :: S) h Q := wp_aload rfl rfl
theorem s67_17 : WP 67 0 17 L (vA (some a) :: S) h Q ↔ (zhas 14 (hk h a) = true ∧ WP 67 0 20 L (hm h a 14 :: S) h Q) := wp_if rfl rfl rfl
theorem s67_20 : WP 67 0 20 [a0, a1, vI x] S h Q ↔ WP 67 0 21 [a0, a1, vI x] (vI x :: S) h Q := wp_iload rfl rfl
theorem s67_21 : WP 67 0 21 L (vI x :: vA (some a) :: S) h Q ↔ ((((hk h a).1 = 2 ∨ (hk h a).1 = 3) ∧ 0 ≤ x ∧ x < ((hk h a).2 : Int)) ∧ WP 67 0 22 L (hm h a x.toNat :: S) h Q) := wp_if rfl rfl rfl
theorem s67_22 : WP 67 0 22 L (vI y :: vI x :: S) h Q ↔ zif (x = y) (WP 67 0 25 L S h Q) (WP 67 0 31 L S h Q) := wp_bN zc_eq rfl rfl rfl
theorem s67_25 : WP 67 0 25 [a0, a1, vI x] S h Q ↔ WP 67 0 28 [a0, a1, vI (wr (x + 1))] S h Q := wp_iinc rfl rfl rfl
theorem s67_28 : WP 67 0 28 L S h Q ↔ WP 67 0 2 L S h Q := wp_pl rfl rfl rfl
theorem s67_31 : WP 67 0 31 [a0, a1, vI x] S h Q ↔ WP 67 0 32 [a0, a1, vI x] (vI x :: S) h Q := wp_iload rfl rfl
theorem s67_32 : WP 67 0 32 [vA r, a1, a2] S h Q ↔ WP 67 0 33 [vA r, a1, a2] (vA r :: S) h Q := wp_aload rfl rfl
theorem s67_33 : WP 67 0 33 L (vA (some a) :: S) h Q ↔ (zhas 15 (hk h a) = true ∧ WP 67 0 36 L (hm h a 15 :: S) h Q) := wp_if rfl rfl rfl
theorem s67_36 : WP 67 0 36 L (vI y :: vI x :: S) h Q ↔ zif (x = y) (WP 67 0 39 L S h Q) (WP 67 0 43 L S h Q) := wp_bN zc_eq rfl rfl rfl
theorem s67_39 : WP 67 0 39 L S h Q ↔ WP 67 0 40 L (vI 0 :: S) h Q := wp_pl rfl rfl rfl
theorem s67_40 : WP 67 0 40 L S h Q ↔ WP 67 0 58 L S h Q := wp_pl rfl rfl rfl
theorem s67_43 : WP 67 0 43 [vA r, a1, a2] S h Q ↔ WP 67 0 44 [vA r, a1, a2] (vA r :: S) h Q := wp_aload rfl rfl
theorem s67_44 : WP 67 0 44 L (vA (some a) :: S) h Q ↔ (zhas 14 (hk h a) = true ∧ WP 67 0 47 L (hm h a 14 :: S) h Q) := wp_if rfl rfl rfl
theorem s67_47 : WP 67 0 47 [a0, a1, vI x] S h Q ↔ WP 67 0 48 [a0, a1, vI x] (vI x :: S) h Q := wp_iload rfl rfl
theorem s67_48 : WP 67 0 48 L (vI x :: vA (some a) :: S) h Q ↔ ((((hk h a).1 = 2 ∨ (hk h a).1 = 3) ∧ 0 ≤ x ∧ x < ((hk h a).2 : Int)) ∧ WP 67 0 49 L (hm h a x.toNat :: S) h Q) := wp_if rfl rfl rfl
theorem s67_49 : WP 67 0 49 [a0, vA r, a2] S h Q ↔ WP 67 0 50 [a0, vA r, a2] (vA r :: S) h Q := wp_aload rfl rfl
theorem s67_50 : WP 67 0 50 L (vA (some a) :: S) h Q ↔ (zhas 14 (hk h a) = true ∧ WP 67 0 53 L (hm h a 14 :: S) h Q) := wp_if rfl rfl rfl
theorem s67_53 : WP 67 0 53 [a0, a1, vI x] S h Q ↔ WP 67 0 54 [a0, a1, vI x] (vI x :: S) h Q := wp_iload rfl rfl
theorem s67_54 : WP 67 0 54 L (vI x :: vA (some a) :: S) h Q ↔ ((((hk h a).1 = 2 ∨ (hk h a).1 = 3) ∧ 0 ≤ x ∧ x < ((hk h a).2 : Int)) ∧ WP 67 0 55 L (hm h a x.toNat :: S) h Q) := wp_if rfl rfl rfl
theorem s67_55 : WP 67 0 55 L (vI x1 :: vI x0 :: S) h Q ↔ (zw S ≤ 8 ∧ WP 326 0 0 [vI x0, vI x1] [] h (zret 67 0 55 58 L S Q)) := wp_S rfl rfl (zcan_of rfl rfl) rfl rfl rfl
theorem s67_58 : WP 67 0 58 L [vI x] h Q ↔ Q (.inl (some (vI x))) h := wp_iret0 rfl rfl
/-! RepeatFree.pattern(II)I -/
theorem s68_0 : WP 68 0 0 [vA r, a1, a2, a3] S h Q ↔ WP 68 0 1 [vA r, a1, a2, a3] (vA r :: S) h Q := wp_aload rfl rfl
theorem s68_1 : WP 68 0 1 [a0, vI x, a2, a3] S h Q ↔ WP 68 0 2 [a0, vI x, a2, a3] (vI x :: S) h Q := wp_iload rfl rfl
theorem s68_2 : WP 68 0 2 L (vI x0 :: vA (some a) :: S) h Q ↔ ((hk h a).1 = 100 ∧ (zw S ≤ 8 ∧ WP 69 0 0 [vA (some a), vI x0] [] h (zret 68 0 2 5 L S Q))) := wp_V1 (c := 100) rfl rfl (fun _ => rfl) rfl rfl (zcan_of rfl rfl) rfl rfl rfl
theorem s68_5 : WP 68 0 5 [a0, a1, a2, a3] (vA r :: S) h Q ↔ WP 68 0 6 [a0, a1, a2, vA r] S h Q := wp_astore rfl rfl rfl
theorem s68_6 : WP 68 0 6 [a0, a1, vI x, a3] S h Q ↔ WP 68 0 7 [a0, a1, vI x, a3] (vI x :: S) h Q := wp_iload rfl rfl
theorem s68_7 : WP 68 0 7 L (vI x :: S) h Q ↔ WP 68 0 8 L (vL x :: S) h Q := wp_pl rfl rfl rfl
theorem s68_8 : WP 68 0 8 L S h Q ↔ WP 68 0 9 L (vL 0 :: S) h Q := wp_pl rfl rfl rfl
theorem s68_9 : WP 68 0 9 L S h Q ↔ WP 68 0 12 L (vL (2) :: S) h Q := wp_pl rfl rfl rfl
theorem s68_12 : WP 68 0 12 L (vL x2 :: vL x1 :: vL x0 :: S) h Q ↔ (zw S ≤ 8 ∧ WP 38 0 0 [vL x0, vJ, vL x1, vJ, vL x2, vJ] [] h (zret 68 0 12 15 L S Q)) := wp_S rfl rfl (zcan_of rfl rfl) rfl rfl rfl
theorem s68_15 : WP 68 0 15 L (vI x0 :: S) h Q ↔ (zw S ≤ 8 ∧ WP 85 0 0 [vI x0] [] h (zret 68 0 15 18 L S Q)) := wp_S rfl rfl (zcan_of rfl rfl) rfl rfl rfl
theorem s68_18 : WP 68 0 18 [a0, a1, vI x, a3] S h Q ↔ WP 68 0 19 [a0, a1, vI x, a3] (vI x :: S) h Q := wp_iload rfl rfl
theorem s68_19 : WP 68 0 19 L (vI x :: S) h Q ↔ zif (x = 0) (WP 68 0 22 L S h Q) (WP 68 0 32 L S h Q) := wp_bN zc_eq rfl rfl rfl
theorem s68_22 : WP 68 0 22 [a0, a1, a2, vA r] S h Q ↔ WP 68 0 23 [a0, a1, a2, vA r] (vA r :: S) h Q := wp_aload rfl rfl
theorem s68_23 : WP 68 0 23 L (vA (some a) :: S) h Q ↔ (zhas 21 (hk h a) = true ∧ WP 68 0 26 L (hm h a 21 :: S) h Q) := wp_if rfl rfl rfl
theorem s68_26 : WP 68 0 26 L (vA (some a) :: S) h Q ↔ ((hk h a).1 = 117 ∧ (zw S ≤ 8 ∧ WP 323 0 0 [vA (some a)] [] h (zret 68 0 26 29 L S Q))) := wp_V1 (c := 117) rfl rfl (fun _ => rfl) rfl rfl (zcan_of rfl rfl) rfl rfl rfl
theorem s68_29 : WP 68 0 29 L S h Q ↔ WP 68 0 56 L S h Q := wp_pl rfl rfl rfl
theorem s68_32 : WP 68 0 32 [a0, a1, vI x, a3] S h Q ↔ WP 68 0 33 [a0, a1, vI x, a3] (vI x :: S) h Q := wp_iload rfl rfl
theorem s68_33 : WP 68 0 33 L S h Q ↔ WP 68 0 34 L (vI 1 :: S) h Q := wp_pl rfl rfl rfl
theorem s68_34 : WP 68 0 34 L (vI y :: vI x :: S) h Q ↔ zif (x = y) (WP 68 0 37 L S h Q) (WP 68 0 44 L S h Q) := wp_bN zc_eq rfl rfl rfl
theorem s68_37 : WP 68 0 37 [a0, a1, a2, vA r] S h Q ↔ WP 68 0 38 [a0, a1, a2, vA r] (vA r :: S) h Q := wp_aload rfl rfl
theorem s68_38 : WP 68 0 38 L (vA (some a) :: S) h Q ↔ ((hk h a).1 = 105 ∧ (zw S ≤ 8 ∧ WP 113 0 0 [vA (some a), vJ, vJ] [] h (zret 68 0 38 41 L S Q))) := wp_V1 (c := 105) rfl rfl (fun _ => rfl) rfl rfl (zcan_of rfl rfl) rfl rfl rfl
theorem s68_41 : WP 68 0 41 L S h Q ↔ WP 68 0 56 L S h Q := wp_pl rfl rfl rfl
theorem s68_44 : WP 68 0 44 [a0, a1, a2, vA r] S h Q ↔ WP 68 0 45 [a0, a1, a2, vA r] (vA r :: S) h Q := wp_aload rfl rfl
theorem s68_45 : WP 68 0 45 L (vA (some a) :: S) h Q ↔ (zhas 22 (hk h a) = true ∧ WP 68 0 48 L (hm h a 22 :: S) h Q) := wp_if rfl rfl rfl
theorem s68_48 : WP 68 0 48 L (vI x :: S) h Q ↔ zif (x = 0) (WP 68 0 55 L S h Q) (WP 68 0 51 L S h Q) := wp_bE zc_eq rfl rfl rfl
theorem s68_51 : WP 68 0 51 L S h Q ↔ WP 68 0 52 L (vI 1 :: S) h Q := wp_pl rfl rfl rfl
theorem s68_52 : WP 68 0 52 L S h Q ↔ WP 68 0 56 L S h Q := wp_pl rfl rfl rfl
theorem s68_55 : WP 68 0 55 L S h Q ↔ WP 68 0 56 L (vI 0 :: S) h Q := wp_pl rfl rfl rfl
theorem s68_56 : WP 68 0 56 L [vI x] h Q ↔ Q (.inl (some (vI x))) h := wp_iret0 rfl rfl
/-! RepeatFree.patternAt(I)LRepeatFree$Pattern; -/
theorem s69_0 : WP 69 0 0 [a0, vI x] S h Q ↔ WP 69 0 1 [a0, vI x] (vI x :: S) h Q := wp_iload rfl rfl
theorem s69_1 : WP 69 0 1 L (vI x :: S) h Q ↔ WP 69 0 2 L (vL x :: S) h Q := wp_pl rfl rfl rfl
theorem s69_2 : WP 69 0 2 L S h Q ↔ WP 69 0 3 L (vL 0 :: S) h Q := wp_pl rfl rfl rfl
theorem s69_3 : WP 69 0 3 [vA r, a1] S h Q ↔ WP 69 0 4 [vA r, a1] (vA r :: S) h Q := wp_aload rfl rfl
theorem s69_4 : WP 69 0 4 L (vA (some a) :: S) h Q ↔ (zhas 4 (hk h a) = true ∧ WP 69 0 7 L (hm h a 4 :: S) h Q) := wp_if rfl rfl rfl
theorem s69_7 : WP 69 0 7 L (vA (some a) :: S) h Q ↔ (zhas 11 (hk h a) = true ∧ WP 69 0 10 L (hm h a 11 :: S) h Q) := wp_if rfl rfl rfl
theorem s69_10 : WP 69 0 10 L (vA (some a) :: S) h Q ↔ ((hk h a).1 = 111 ∧ (zw S ≤ 8 ∧ WP 270 0 0 [vA (some a)] [] h (zret 69 0 10 13 L S Q))) := wp_V1 (c := 111) rfl rfl (fun _ => rfl) rfl rfl (zcan_of rfl rfl) rfl rfl rfl
theorem s69_13 : WP 69 0 13 L S h Q ↔ WP 69 0 14 L (vI 1 :: S) h Q := wp_pl rfl rfl rfl
theorem s69_14 : WP 69 0 14 L (vI y :: vI x :: S) h Q ↔ WP 69 0 15 L (vI (wr (x - y)) :: S) h Q := wp_pl rfl rfl rfl
theorem s69_15 : WP 69 0 15 L (vI x :: S) h Q ↔ WP 69 0 16 L (vL x :: S) h Q := wp_pl rfl rfl rfl
theorem s69_16 : WP 69 0 16 L (vL x2 :: vL x1 :: vL x0 :: S) h Q ↔ (zw S ≤ 8 ∧ WP 38 0 0 [vL x0, vJ, vL x1, vJ, vL x2, vJ] [] h (zret 69 0 16 19 L S Q)) := wp_S rfl rfl (zcan_of rfl rfl) rfl rfl rfl
theorem s69_19 : WP 69 0 19 L (vI x0 :: S) h Q ↔ (zw S ≤ 8 ∧ WP 63 0 0 [vI x0] [] h (zret 69 0 19 22 L S Q)) := wp_S rfl rfl (zcan_of rfl rfl) rfl rfl rfl
theorem s69_22 : WP 69 0 22 [vA r, a1] S h Q ↔ WP 69 0 23 [vA r, a1] (vA r :: S) h Q := wp_aload rfl rfl
theorem s69_23 : WP 69 0 23 L (vA (some a) :: S) h Q ↔ (zhas 4 (hk h a) = true ∧ WP 69 0 26 L (hm h a 4 :: S) h Q) := wp_if rfl rfl rfl
theorem s69_26 : WP 69 0 26 L (vA (some a) :: S) h Q ↔ (zhas 11 (hk h a) = true ∧ WP 69 0 29 L (hm h a 11 :: S) h Q) := wp_if rfl rfl rfl
theorem s69_29 : WP 69 0 29 [a0, vI x] S h Q ↔ WP 69 0 30 [a0, vI x] (vI x :: S) h Q := wp_iload rfl rfl
theorem s69_30 : WP 69 0 30 L (vI x0 :: vA (some a) :: S) h Q ↔ ((hk h a).1 = 111 ∧ (zw S ≤ 8 ∧ WP 260 0 0 [vA (some a), vI x0] [] h (zret 69 0 30 33 L S Q))) := wp_V1 (c := 111) rfl rfl (fun _ => rfl) rfl rfl (zcan_of rfl rfl) rfl rfl rfl
theorem s69_33n : WP 69 0 33 L (vA none :: S) h Q ↔ WP 69 0 36 L (vA none :: S) h Q := wp_pl rfl rfl rfl
theorem s69_33 : WP 69 0 33 L (vA (some a) :: S) h Q ↔ (zCX 3 (hk h a).1 a = true ∧ WP 69 0 36 L (vA (some a) :: S) h Q) := wp_if rfl rfl rfl
theorem s69_36 : WP 69 0 36 L [vA r] h Q ↔ Q (.inl (some (vA r))) h := wp_aret rfl
/-! RepeatFree.period()I -/
theorem s70_0 : WP 70 0 0 [vA r] S h Q ↔ WP 70 0 1 [vA r] (vA r :: S) h Q := wp_aload rfl rfl
theorem s70_1 : WP 70 0 1 L (vA (some a) :: S) h Q ↔ (zhas 6 (hk h a) = true ∧ WP 70 0 4 L (hm h a 6 :: S) h Q) := wp_if rfl rfl rfl
theorem s70_4 : WP 70 0 4 L (vA (some a) :: S) h Q ↔ (zhas 15 (hk h a) = true ∧ WP 70 0 7 L (hm h a 15 :: S) h Q) := wp_if rfl rfl rfl
theorem s70_7 : WP 70 0 7 L (vI x :: S) h Q ↔ zif (x = 0) (WP 70 0 10 L S h Q) (WP 70 0 14 L S h Q) := wp_bN zc_eq rfl rfl rfl
theorem s70_10 : WP 70 0 10 L S h Q ↔ WP 70 0 11 L (vI (-1) :: S) h Q := wp_pl rfl rfl rfl
theorem s70_11 : WP 70 0 11 L S h Q ↔ WP 70 0 26 L S h Q := wp_pl rfl rfl rfl
theorem s70_14 : WP 70 0 14 [vA r] S h Q ↔ WP 70 0 15 [vA r] (vA r :: S) h Q := wp_aload rfl rfl
theorem s70_15 : WP 70 0 15 L S h Q ↔ WP 70 0 16 L (vI 0 :: S) h Q := wp_pl rfl rfl rfl
theorem s70_16 : WP 70 0 16 [vA r] S h Q ↔ WP 70 0 17 [vA r] (vA r :: S) h Q := wp_aload rfl rfl
theorem s70_17 : WP 70 0 17 L (vA (some a) :: S) h Q ↔ (zhas 6 (hk h a) = true ∧ WP 70 0 20 L (hm h a 6 :: S) h Q) := wp_if rfl rfl rfl
theorem s70_20 : WP 70 0 20 L (vA (some a) :: S) h Q ↔ (zhas 15 (hk h a) = true ∧ WP 70 0 23 L (hm h a 15 :: S) h Q) := wp_if rfl rfl rfl
theorem s70_23 : WP 70 0 23 L (vI x1 :: vI x0 :: vA (some a) :: S) h Q ↔ ((hk h a).1 = 100 ∧ (zw S ≤ 8 ∧ WP 49 0 0 [vA (some a), vI x0, vI x1, vJ] [] h (zret 70 0 23 26 L S Q))) := wp_V1 (c := 100) rfl rfl (fun _ => rfl) rfl rfl (zcan_of rfl rfl) rfl rfl rfl
theorem s70_26 : WP 70 0 26 L [vI x] h Q ↔ Q (.inl (some (vI x))) h := wp_iret0 rfl rfl
/-! RepeatFree.pop()I -/
theorem s71_0 : WP 71 0 0 [vA r] S h Q ↔ WP 71 0 1 [vA r] (vA r :: S) h Q := wp_aload rfl rfl
theorem s71_1 : WP 71 0 1 L (vA (some a) :: S) h Q ↔ (zhas 6 (hk h a) = true ∧ WP 71 0 4 L (hm h a 6 :: S) h Q) := wp_if rfl rfl rfl
theorem s71_4 : WP 71 0 4 L (vA (some a) :: S) h Q ↔ (zhas 15 (hk h a) = true ∧ WP 71 0 7 L (hm h a 15 :: S) h Q) := wp_if rfl rfl rfl
theorem s71_7 : WP 71 0 7 L (vI x :: S) h Q ↔ zif (0 < x) (WP 71 0 10 L S h Q) (WP 71 0 14 L S h Q) := wp_bN zc_gt rfl rfl rfl
theorem s71_10 : WP 71 0 10 L S h Q ↔ WP 71 0 11 L (vI 1 :: S) h Q := wp_pl rfl rfl rfl
theorem s71_11 : WP 71 0 11 L S h Q ↔ WP 71 0 15 L S h Q := wp_pl rfl rfl rfl
theorem s71_14 : WP 71 0 14 L S h Q ↔ WP 71 0 15 L (vI 0 :: S) h Q := wp_pl rfl rfl rfl
theorem s71_15 : WP 71 0 15 L (vI x0 :: S) h Q ↔ (zw S ≤ 8 ∧ WP 9 0 0 [vI x0] [] h (zret 71 0 15 18 L S Q)) := wp_S rfl rfl (zcan_of rfl rfl) rfl rfl rfl
theorem s71_18 : WP 71 0 18 [vA r] S h Q ↔ WP 71 0 19 [vA r] (vA r :: S) h Q := wp_aload rfl rfl
theorem s71_19 : WP 71 0 19 [vA r] S h Q ↔ WP 71 0 20 [vA r] (vA r :: S) h Q := wp_aload rfl rfl
theorem s71_20 : WP 71 0 20 L (vA (some a) :: S) h Q ↔ (zhas 6 (hk h a) = true ∧ WP 71 0 23 L (hm h a 6 :: S) h Q) := wp_if rfl rfl rfl
theorem s71_23 : WP 71 0 23 L (vA (some a) :: S) h Q ↔ ((hk h a).1 = 102 ∧ (zw S ≤ 8 ∧ WP 102 0 0 [vA (some a), vJ] [] h (zret 71 0 23 26 L S Q))) := wp_V1 (c := 102) rfl rfl (fun _ => rfl) rfl rfl (zcan_of rfl rfl) rfl rfl rfl
theorem s71_26 : WP 71 0 26 L (vA r0 :: vA (some a) :: S) h Q ↔ ((hk h a).1 = 100 ∧ (zw S ≤ 8 ∧ WP 4 0 0 [vA (some a), vA r0] [] h (zret 71 0 26 29 L S Q))) := wp_V1 (c := 100) rfl rfl (fun _ => rfl) rfl rfl (zcan_of rfl rfl) rfl rfl rfl
theorem s71_29 : WP 71 0 29 [vA r] S h Q ↔ WP 71 0 30 [vA r] (vA r :: S) h Q := wp_aload rfl rfl
theorem s71_30 : WP 71 0 30 L (vA (some a) :: S) h Q ↔ (zhas 6 (hk h a) = true ∧ WP 71 0 33 L (hm h a 6 :: S) h Q) := wp_if rfl rfl rfl
theorem s71_33 : WP 71 0 33 L (vA (some a) :: S) h Q ↔ ((hk h a).1 = 102 ∧ (zw S ≤ 8 ∧ WP 99 0 0 [vA (some a)] [] h (zret 71 0 33 36 L S Q))) := wp_V1 (c := 102) rfl rfl (fun _ => rfl) rfl rfl (zcan_of rfl rfl) rfl rfl rfl
theorem s71_36 : WP 71 0 36 L [vI x] h Q ↔ Q (.inl (some (vI x))) h := wp_iret0 rfl rfl
/-! RepeatFree.power(III)LRepeatFree$Mapping; -/
theorem s72_0 : WP 72 0 0 [vA r, a1, a2, a3, a4] S h Q ↔ WP 72 0 1 [vA r, a1, a2, a3, a4] (vA r :: S) h Q := wp_aload rfl rfl
theorem s72_1 : WP 72 0 1 [a0, vI x, a2, a3, a4] S h Q ↔ WP 72 0 2 [a0, vI x, a2, a3, a4] (vI x :: S) h Q := wp_iload rfl rfl
theorem s72_2 : WP 72 0 2 L (vI x0 :: vA (some a) :: S) h Q ↔ ((hk h a).1 = 100 ∧ (zw S ≤ 8 ∧ WP 59 0 0 [vA (some a), vI x0] [] h (zret 72 0 2 5 L S Q))) := wp_V1 (c := 100) rfl rfl (fun _ => rfl) rfl rfl (zcan_of rfl rfl) rfl rfl rfl
theorem s72_5 : WP 72 0 5 [a0, a1, a2, a3, a4] (vA r :: S) h Q ↔ WP 72 0 7 [a0, a1, a2, a3, vA r] S h Q := wp_astore rfl rfl rfl
theorem s72_7 : WP 72 0 7 [vA r, a1, a2, a3, a4] S h Q ↔ WP 72 0 8 [vA r, a1, a2, a3, a4] (vA r :: S) h Q := wp_aload rfl rfl
theorem s72_8 : WP 72 0 8 [a0, a1, vI x, a3, a4] S h Q ↔ WP 72 0 9 [a0, a1, vI x, a3, a4] (vI x :: S) h Q := wp_iload rfl rfl
theorem s72_9 : WP 72 0 9 L (vI x0 :: vA (some a) :: S) h Q ↔ ((hk h a).1 = 100 ∧ (zw S ≤ 8 ∧ WP 40 0 0 [vA (some a), vI x0] [] h (zret 72 0 9 12 L S Q))) := wp_V1 (c := 100) rfl rfl (fun _ => rfl) rfl rfl (zcan_of rfl rfl) rfl rfl rfl
theorem s72_12 : WP 72 0 12 L (vI x :: S) h Q ↔ zif (x = 0) (WP 72 0 31 L S h Q) (WP 72 0 15 L S h Q) := wp_bE zc_eq rfl rfl rfl
theorem s72_15 : WP 72 0 15 [a0, a1, a2, vI x, a4] S h Q ↔ WP 72 0 16 [a0, a1, a2, vI x, a4] (vI x :: S) h Q := wp_iload rfl rfl
theorem s72_16 : WP 72 0 16 L (vI x :: S) h Q ↔ WP 72 0 17 L (vL x :: S) h Q := wp_pl rfl rfl rfl
theorem s72_17 : WP 72 0 17 L S h Q ↔ WP 72 0 18 L (vL 0 :: S) h Q := wp_pl rfl rfl rfl
theorem s72_18 : WP 72 0 18 L S h Q ↔ WP 72 0 21 L (vL (12) :: S) h Q := wp_pl rfl rfl rfl
theorem s72_21 : WP 72 0 21 L (vL x2 :: vL x1 :: vL x0 :: S) h Q ↔ (zw S ≤ 8 ∧ WP 38 0 0 [vL x0, vJ, vL x1, vJ, vL x2, vJ] [] h (zret 72 0 21 24 L S Q)) := wp_S rfl rfl (zcan_of rfl rfl) rfl rfl rfl
theorem s72_24 : WP 72 0 24 L (vI x :: S) h Q ↔ zif (x = 0) (WP 72 0 31 L S h Q) (WP 72 0 27 L S h Q) := wp_bE zc_eq rfl rfl rfl
theorem s72_27 : WP 72 0 27 L S h Q ↔ WP 72 0 28 L (vI 1 :: S) h Q := wp_pl rfl rfl rfl
theorem s72_28 : WP 72 0 28 L S h Q ↔ WP 72 0 32 L S h Q := wp_pl rfl rfl rfl
theorem s72_31 : WP 72 0 31 L S h Q ↔ WP 72 0 32 L (vI 0 :: S) h Q := wp_pl rfl rfl rfl
theorem s72_32 : WP 72 0 32 L (vI x0 :: S) h Q ↔ (zw S ≤ 8 ∧ WP 62 0 0 [vI x0] [] h (zret 72 0 32 35 L S Q)) := wp_S rfl rfl (zcan_of rfl rfl) rfl rfl rfl
theorem s72_35 : WP 72 0 35 [a0, a1, a2, a3, vA r] S h Q ↔ WP 72 0 37 [a0, a1, a2, a3, vA r] (vA r :: S) h Q := wp_aload rfl rfl
theorem s72_37 : WP 72 0 37 L [vA r] h Q ↔ Q (.inl (some (vA r))) h := wp_aret rfl
/-! RepeatFree.power(IIIJ)I -/
theorem s73_0 : WP 73 0 0 [vA r, a1, a2, a3, a4, a5, a6, a7, a8, a9, a10, a11, a12, a13, a14] S h Q ↔ WP 73 0 1 [vA r, a1, a2, a3, a4, a5, a6, a7, a8, a9, a10, a11, a12, a13, a14] (vA r :: S) h Q := wp_aload rfl rfl
theorem s73_1 : WP 73 0 1 [a0, vI x, a2, a3, a4, a5, a6, a7, a8, a9, a10, a11, a12, a13, a14] S h Q ↔ WP 73 0 2 [a0, vI x, a2, a3, a4, a5, a6, a7, a8, a9, a10, a11, a12, a13, a14] (vI x :: S) h Q := wp_iload rfl rfl
theorem s73_2 : WP 73 0 2 [a0, a1, vI x, a3, a4, a5, a6, a7, a8, a9, a10, a11, a12, a13, a14] S h Q ↔ WP 73 0 3 [a0, a1, vI x, a3, a4, a5, a6, a7, a8, a9, a10, a11, a12, a13, a14] (vI x :: S) h Q := wp_iload rfl rfl
theorem s73_3 : WP 73 0 3 [a0, a1, a2, vI x, a4, a5, a6, a7, a8, a9, a10, a11, a12, a13, a14] S h Q ↔ WP 73 0 4 [a0, a1, a2, vI x, a4, a5, a6, a7, a8, a9, a10, a11, a12, a13, a14] (vI x :: S) h Q := wp_iload rfl rfl
theorem s73_4 : WP 73 0 4 L (vI x2 :: vI x1 :: vI x0 :: vA (some a) :: S) h Q ↔ ((hk h a).1 = 100 ∧ (zw S ≤ 8 ∧ WP 72 0 0 [vA (some a), vI x0, vI x1, vI x2, vJ] [] h (zret 73 0 4 7 L S Q))) := wp_V1 (c := 100) rfl rfl (fun _ => rfl) rfl rfl (zcan_of rfl rfl) rfl rfl rfl
theorem s73_7 : WP 73 0 7 [a0, a1, a2, a3, a4, a5, a6, a7, a8, a9, a10, a11, a12, a13, a14] (vA r :: S) h Q ↔ WP 73 0 9 [a0, a1, a2, a3, a4, a5, vA r, a7, a8, a9, a10, a11, a12, a13, a14] S h Q := wp_astore rfl rfl rfl
theorem s73_9 : WP 73 0 9 [a0, a1, a2, a3, vL x, vJ, a6, a7, a8, a9, a10, a11, a12, a13, a14] S h Q ↔ WP 73 0 11 [a0, a1, a2, a3, vL x, vJ, a6, a7, a8, a9, a10, a11, a12, a13, a14] (vL x :: S) h Q := wp_lload rfl rfl rfl
theorem s73_11 : WP 73 0 11 L S h Q ↔ WP 73 0 12 L (vL 0 :: S) h Q := wp_pl rfl rfl rfl
theorem s73_12 : WP 73 0 12 [vA r, a1, a2, a3, a4, a5, a6, a7, a8, a9, a10, a11, a12, a13, a14] S h Q ↔ WP 73 0 13 [vA r, a1, a2, a3, a4, a5, a6, a7, a8, a9, a10, a11, a12, a13, a14] (vA r :: S) h Q := wp_aload rfl rfl
theorem s73_13 : WP 73 0 13 [a0, a1, a2, a3, a4, a5, vA r, a7, a8, a9, a10, a11, a12, a13, a14] S h Q ↔ WP 73 0 15 [a0, a1, a2, a3, a4, a5, vA r, a7, a8, a9, a10, a11, a12, a13, a14] (vA r :: S) h Q := wp_aload rfl rfl
theorem s73_15 : WP 73 0 15 [a0, a1, vI x, a3, a4, a5, a6, a7, a8, a9, a10, a11, a12, a13, a14] S h Q ↔ WP 73 0 16 [a0, a1, vI x, a3, a4, a5, a6, a7, a8, a9, a10, a11, a12, a13, a14] (vI x :: S) h Q := wp_iload rfl rfl
theorem s73_16 : WP 73 0 16 [a0, a1, a2, vI x, a4, a5, a6, a7, a8, a9, a10, a11, a12, a13, a14] S h Q ↔ WP 73 0 17 [a0, a1, a2, vI x, a4, a5, a6, a7, a8, a9, a10, a11, a12, a13, a14] (vI x :: S) h Q := wp_iload rfl rfl
theorem s73_17 : WP 73 0 17 L (vI x2 :: vI x1 :: vA r0 :: vA (some a) :: S) h Q ↔ ((hk h a).1 = 100 ∧ (zw S ≤ 8 ∧ WP 14 0 0 [vA (some a), vA r0, vI x1, vI x2, vJ, vJ, vJ, vJ, vJ, vJ] [] h (zret 73 0 17 20 L S Q))) := wp_V1 (c := 100) rfl rfl (fun _ => rfl) rfl rfl (zcan_of rfl rfl) rfl rfl rfl
theorem s73_20 : WP 73 0 20 L (vA r0 :: S) h Q ↔ (zw S ≤ 8 ∧ WP 83 0 0 [vA r0, vJ, vJ, vJ, vJ, vJ, vJ, vJ] [] h (zret 73 0 20 23 L S Q)) := wp_S rfl rfl (zcan_of rfl rfl) rfl rfl rfl
theorem s73_23 : WP 73 0 23 L S h Q ↔ WP 73 0 24 L (vL 1 :: S) h Q := wp_pl rfl rfl rfl
theorem s73_24 : WP 73 0 24 L (vL y :: vL x :: S) h Q ↔ WP 73 0 25 L (vL (wl (x - y)) :: S) h Q := wp_pl rfl rfl rfl
theorem s73_25 : WP 73 0 25 L (vL x2 :: vL x1 :: vL x0 :: S) h Q ↔ (zw S ≤ 8 ∧ WP 38 0 0 [vL x0, vJ, vL x1, vJ, vL x2, vJ] [] h (zret 73 0 25 28 L S Q)) := wp_S rfl rfl (zcan_of rfl rfl) rfl rfl rfl
theorem s73_28 : WP 73 0 28 L (vI x :: S) h Q ↔ zif (x = 0) (WP 73 0 31 L S h Q) (WP 73 0 33 L S h Q) := wp_bN zc_eq rfl rfl rfl
theorem s73_31 : WP 73 0 31 L S h Q ↔ WP 73 0 32 L (vI (-1) :: S) h Q := wp_pl rfl rfl rfl
theorem s73_32 : WP 73 0 32 L [vI x] h Q ↔ Q (.inl (some (vI x))) h := wp_iret0 rfl rfl
theorem s73_33 : WP 73 0 33 [a0, a1, vI x, a3, a4, a5, a6, a7, a8, a9, a10, a11, a12, a13, a14] S h Q ↔ WP 73 0 34 [a0, a1, vI x, a3, a4, a5, a6, a7, a8, a9, a10, a11, a12, a13, a14] (vI x :: S) h Q := wp_iload rfl rfl
theorem s73_34 : WP 73 0 34 [a0, a1, a2, a3, a4, a5, a6, a7, a8, a9, a10, a11, a12, a13, a14] (vI x :: S) h Q ↔ WP 73 0 36 [a0, a1, a2, a3, a4, a5, a6, vI x, a8, a9, a10, a11, a12, a13, a14] S h Q := wp_istore rfl rfl rfl
theorem s73_36 : WP 73 0 36 [a0, a1, a2, a3, vL x, vJ, a6, a7, a8, a9, a10, a11, a12, a13, a14] S h Q ↔ WP 73 0 38 [a0, a1, a2, a3, vL x, vJ, a6, a7, a8, a9, a10, a11, a12, a13, a14] (vL x :: S) h Q := wp_lload rfl rfl rfl
theorem s73_38 : WP 73 0 38 [a0, a1, a2, a3, a4, a5, a6, a7, a8, a9, a10, a11, a12, a13, a14] (vL x :: S) h Q ↔ WP 73 0 40 [a0, a1, a2, a3, a4, a5, a6, a7, vL x, vJ, a10, a11, a12, a13, a14] S h Q := wp_lstore rfl rfl rfl
theorem s73_40 : WP 73 0 40 [a0, a1, a2, vI x, a4, a5, a6, a7, a8, a9, a10, a11, a12, a13, a14] S h Q ↔ WP 73 0 41 [a0, a1, a2, vI x, a4, a5, a6, a7, a8, a9, a10, a11, a12, a13, a14] (vI x :: S) h Q := wp_iload rfl rfl
theorem s73_41 : WP 73 0 41 L S h Q ↔ WP 73 0 42 L (vI 1 :: S) h Q := wp_pl rfl rfl rfl
theorem s73_42 : WP 73 0 42 L (vI y :: vI x :: S) h Q ↔ WP 73 0 43 L (vI (wr (x - y)) :: S) h Q := wp_pl rfl rfl rfl
theorem s73_43 : WP 73 0 43 [a0, a1, a2, a3, a4, a5, a6, a7, a8, a9, a10, a11, a12, a13, a14] (vI x :: S) h Q ↔ WP 73 0 45 [a0, a1, a2, a3, a4, a5, a6, a7, a8, a9, vI x, a11, a12, a13, a14] S h Q := wp_istore rfl rfl rfl
theorem s73_45 : WP 73 0 45 [a0, a1, a2, a3, a4, a5, a6, a7, a8, a9, vI x, a11, a12, a13, a14] S h Q ↔ WP 73 0 47 [a0, a1, a2, a3, a4, a5, a6, a7, a8, a9, vI x, a11, a12, a13, a14] (vI x :: S) h Q := wp_iload rfl rfl
theorem s73_47 : WP 73 0 47 L (vI x :: S) h Q ↔ zif (x < 0) (WP 73 0 132 L S h Q) (WP 73 0 50 L S h Q) := wp_bE zc_lt rfl rfl rfl
theorem s73_50 : WP 73 0 50 [a0, a1, a2, a3, a4, a5, vA r, a7, a8, a9, a10, a11, a12, a13, a14] S h Q ↔ WP 73 0 52 [a0, a1, a2, a3, a4, a5, vA r, a7, a8, a9, a10, a11, a12, a13, a14] (vA r :: S) h Q := wp_aload rfl rfl
theorem s73_52 : WP 73 0 52 L (vA (some a) :: S) h Q ↔ (zhas 20 (hk h a) = true ∧ WP 73 0 55 L (hm h a 20 :: S) h Q) := wp_if rfl rfl rfl
theorem s73_55 : WP 73 0 55 [a0, a1, a2, a3, a4, a5, a6, vI x, a8, a9, a10, a11, a12, a13, a14] S h Q ↔ WP 73 0 57 [a0, a1, a2, a3, a4, a5, a6, vI x, a8, a9, a10, a11, a12, a13, a14] (vI x :: S) h Q := wp_iload rfl rfl
theorem s73_57 : WP 73 0 57 L (vI x :: vA (some a) :: S) h Q ↔ ((((5 ≤ (hk h a).1 ∧ (hk h a).1 ≤ 7) ∧ 0 ≤ x ∧ x < ((hk h a).2 : Int)) ∨ ((hk h a).1 = 8 ∧ 128 ≤ x ∧ x < 144)) ∧ WP 73 0 58 L (hm h a x.toNat :: S) h Q) := wp_if rfl rfl rfl
theorem s73_58 : WP 73 0 58 [a0, a1, a2, a3, a4, a5, a6, a7, a8, a9, a10, a11, a12, a13, a14] (vA r :: S) h Q ↔ WP 73 0 60 [a0, a1, a2, a3, a4, a5, a6, a7, a8, a9, a10, vA r, a12, a13, a14] S h Q := wp_astore rfl rfl rfl
theorem s73_60 : WP 73 0 60 L S h Q ↔ WP 73 0 61 L (vI 0 :: S) h Q := wp_pl rfl rfl rfl
theorem s73_61 : WP 73 0 61 [a0, a1, a2, a3, a4, a5, a6, a7, a8, a9, a10, a11, a12, a13, a14] (vI x :: S) h Q ↔ WP 73 0 63 [a0, a1, a2, a3, a4, a5, a6, a7, a8, a9, a10, a11, vI x, a13, a14] S h Q := wp_istore rfl rfl rfl
theorem s73_63 : WP 73 0 63 [vA r, a1, a2, a3, a4, a5, a6, a7, a8, a9, a10, a11, a12, a13, a14] S h Q ↔ WP 73 0 64 [vA r, a1, a2, a3, a4, a5, a6, a7, a8, a9, a10, a11, a12, a13, a14] (vA r :: S) h Q := wp_aload rfl rfl
theorem s73_64 : WP 73 0 64 [a0, a1, a2, a3, a4, a5, vA r, a7, a8, a9, a10, a11, a12, a13, a14] S h Q ↔ WP 73 0 66 [a0, a1, a2, a3, a4, a5, vA r, a7, a8, a9, a10, a11, a12, a13, a14] (vA r :: S) h Q := wp_aload rfl rfl
theorem s73_66 : WP 73 0 66 [a0, a1, a2, a3, a4, a5, a6, a7, a8, a9, a10, vA r, a12, a13, a14] S h Q ↔ WP 73 0 68 [a0, a1, a2, a3, a4, a5, a6, a7, a8, a9, a10, vA r, a12, a13, a14] (vA r :: S) h Q := wp_aload rfl rfl
theorem s73_68 : WP 73 0 68 L S h Q ↔ WP 73 0 69 L (vI 0 :: S) h Q := wp_pl rfl rfl rfl
theorem s73_69 : WP 73 0 69 L (vI x :: vA (some a) :: S) h Q ↔ ((((hk h a).1 = 2 ∨ (hk h a).1 = 3) ∧ 0 ≤ x ∧ x < ((hk h a).2 : Int)) ∧ WP 73 0 70 L (hm h a x.toNat :: S) h Q) := wp_if rfl rfl rfl
theorem s73_70 : WP 73 0 70 [a0, a1, a2, a3, a4, a5, a6, a7, a8, a9, vI x, a11, a12, a13, a14] S h Q ↔ WP 73 0 72 [a0, a1, a2, a3, a4, a5, a6, a7, a8, a9, vI x, a11, a12, a13, a14] (vI x :: S) h Q := wp_iload rfl rfl
theorem s73_72 : WP 73 0 72 L (vI x2 :: vI x1 :: vA r0 :: vA (some a) :: S) h Q ↔ ((hk h a).1 = 100 ∧ (zw S ≤ 8 ∧ WP 14 0 0 [vA (some a), vA r0, vI x1, vI x2, vJ, vJ, vJ, vJ, vJ, vJ] [] h (zret 73 0 72 75 L S Q))) := wp_V1 (c := 100) rfl rfl (fun _ => rfl) rfl rfl (zcan_of rfl rfl) rfl rfl rfl
theorem s73_75 : WP 73 0 75 L (vA r0 :: S) h Q ↔ (zw S ≤ 8 ∧ WP 83 0 0 [vA r0, vJ, vJ, vJ, vJ, vJ, vJ, vJ] [] h (zret 73 0 75 78 L S Q)) := wp_S rfl rfl (zcan_of rfl rfl) rfl rfl rfl
theorem s73_78 : WP 73 0 78 [a0, a1, a2, a3, a4, a5, a6, a7, a8, a9, a10, a11, a12, a13, a14] (vL x :: S) h Q ↔ WP 73 0 80 [a0, a1, a2, a3, a4, a5, a6, a7, a8, a9, a10, a11, a12, vL x, vJ] S h Q := wp_lstore rfl rfl rfl
theorem s73_80 : WP 73 0 80 [a0, a1, a2, a3, a4, a5, a6, a7, vL x, vJ, a10, a11, a12, a13, a14] S h Q ↔ WP 73 0 82 [a0, a1, a2, a3, a4, a5, a6, a7, vL x, vJ, a10, a11, a12, a13, a14] (vL x :: S) h Q := wp_lload rfl rfl rfl
theorem s73_82 : WP 73 0 82 [a0, a1, a2, a3, a4, a5, a6, a7, a8, a9, a10, a11, a12, vL x, vJ] S h Q ↔ WP 73 0 84 [a0, a1, a2, a3, a4, a5, a6, a7, a8, a9, a10, a11, a12, vL x, vJ] (vL x :: S) h Q := wp_lload rfl rfl rfl
theorem s73_84 : WP 73 0 84 L (vL y :: vL x :: S) h Q ↔ WP 73 0 85 L (vI (zlc x y) :: S) h Q := wp_pl rfl rfl rfl
theorem s73_85 : WP 73 0 85 L (vI x :: S) h Q ↔ zif (x < 0) (WP 73 0 119 L S h Q) (WP 73 0 88 L S h Q) := wp_bE zc_lt rfl rfl rfl
theorem s73_88 : WP 73 0 88 [a0, a1, a2, a3, a4, a5, a6, a7, vL x, vJ, a10, a11, a12, a13, a14] S h Q ↔ WP 73 0 90 [a0, a1, a2, a3, a4, a5, a6, a7, vL x, vJ, a10, a11, a12, a13, a14] (vL x :: S) h Q := wp_lload rfl rfl rfl
theorem s73_90 : WP 73 0 90 [a0, a1, a2, a3, a4, a5, a6, a7, a8, a9, a10, a11, a12, vL x, vJ] S h Q ↔ WP 73 0 92 [a0, a1, a2, a3, a4, a5, a6, a7, a8, a9, a10, a11, a12, vL x, vJ] (vL x :: S) h Q := wp_lload rfl rfl rfl
theorem s73_92 : WP 73 0 92 L (vL y :: vL x :: S) h Q ↔ WP 73 0 93 L (vL (wl (x - y)) :: S) h Q := wp_pl rfl rfl rfl
theorem s73_93 : WP 73 0 93 [a0, a1, a2, a3, a4, a5, a6, a7, a8, a9, a10, a11, a12, a13, a14] (vL x :: S) h Q ↔ WP 73 0 95 [a0, a1, a2, a3, a4, a5, a6, a7, vL x, vJ, a10, a11, a12, a13, a14] S h Q := wp_lstore rfl rfl rfl
theorem s73_95 : WP 73 0 95 [a0, a1, a2, a3, a4, a5, a6, a7, a8, a9, a10, a11, vI x, a13, a14] S h Q ↔ WP 73 0 98 [a0, a1, a2, a3, a4, a5, a6, a7, a8, a9, a10, a11, vI (wr (x + 1)), a13, a14] S h Q := wp_iinc rfl rfl rfl
theorem s73_98 : WP 73 0 98 [vA r, a1, a2, a3, a4, a5, a6, a7, a8, a9, a10, a11, a12, a13, a14] S h Q ↔ WP 73 0 99 [vA r, a1, a2, a3, a4, a5, a6, a7, a8, a9, a10, a11, a12, a13, a14] (vA r :: S) h Q := wp_aload rfl rfl
theorem s73_99 : WP 73 0 99 [a0, a1, a2, a3, a4, a5, vA r, a7, a8, a9, a10, a11, a12, a13, a14] S h Q ↔ WP 73 0 101 [a0, a1, a2, a3, a4, a5, vA r, a7, a8, a9, a10, a11, a12, a13, a14] (vA r :: S) h Q := wp_aload rfl rfl
theorem s73_101 : WP 73 0 101 [a0, a1, a2, a3, a4, a5, a6, a7, a8, a9, a10, vA r, a12, a13, a14] S h Q ↔ WP 73 0 103 [a0, a1, a2, a3, a4, a5, a6, a7, a8, a9, a10, vA r, a12, a13, a14] (vA r :: S) h Q := wp_aload rfl rfl
theorem s73_103 : WP 73 0 103 [a0, a1, a2, a3, a4, a5, a6, a7, a8, a9, a10, a11, vI x, a13, a14] S h Q ↔ WP 73 0 105 [a0, a1, a2, a3, a4, a5, a6, a7, a8, a9, a10, a11, vI x, a13, a14] (vI x :: S) h Q := wp_iload rfl rfl
theorem s73_105 : WP 73 0 105 L (vI x :: vA (some a) :: S) h Q ↔ ((((hk h a).1 = 2 ∨ (hk h a).1 = 3) ∧ 0 ≤ x ∧ x < ((hk h a).2 : Int)) ∧ WP 73 0 106 L (hm h a x.toNat :: S) h Q) := wp_if rfl rfl rfl
theorem s73_106 : WP 73 0 106 [a0, a1, a2, a3, a4, a5, a6, a7, a8, a9, vI x, a11, a12, a13, a14] S h Q ↔ WP 73 0 108 [a0, a1, a2, a3, a4, a5, a6, a7, a8, a9, vI x, a11, a12, a13, a14] (vI x :: S) h Q := wp_iload rfl rfl
theorem s73_108 : WP 73 0 108 L (vI x2 :: vI x1 :: vA r0 :: vA (some a) :: S) h Q ↔ ((hk h a).1 = 100 ∧ (zw S ≤ 8 ∧ WP 14 0 0 [vA (some a), vA r0, vI x1, vI x2, vJ, vJ, vJ, vJ, vJ, vJ] [] h (zret 73 0 108 111 L S Q))) := wp_V1 (c := 100) rfl rfl (fun _ => rfl) rfl rfl (zcan_of rfl rfl) rfl rfl rfl
theorem s73_111 : WP 73 0 111 L (vA r0 :: S) h Q ↔ (zw S ≤ 8 ∧ WP 83 0 0 [vA r0, vJ, vJ, vJ, vJ, vJ, vJ, vJ] [] h (zret 73 0 111 114 L S Q)) := wp_S rfl rfl (zcan_of rfl rfl) rfl rfl rfl
theorem s73_114 : WP 73 0 114 [a0, a1, a2, a3, a4, a5, a6, a7, a8, a9, a10, a11, a12, a13, a14] (vL x :: S) h Q ↔ WP 73 0 116 [a0, a1, a2, a3, a4, a5, a6, a7, a8, a9, a10, a11, a12, vL x, vJ] S h Q := wp_lstore rfl rfl rfl
theorem s73_116 : WP 73 0 116 L S h Q ↔ WP 73 0 80 L S h Q := wp_pl rfl rfl rfl
theorem s73_119 : WP 73 0 119 [a0, a1, a2, a3, a4, a5, a6, a7, a8, a9, a10, vA r, a12, a13, a14] S h Q ↔ WP 73 0 121 [a0, a1, a2, a3, a4, a5, a6, a7, a8, a9, a10, vA r, a12, a13, a14] (vA r :: S) h Q := wp_aload rfl rfl
theorem s73_121 : WP 73 0 121 [a0, a1, a2, a3, a4, a5, a6, a7, a8, a9, a10, a11, vI x, a13, a14] S h Q ↔ WP 73 0 123 [a0, a1, a2, a3, a4, a5, a6, a7, a8, a9, a10, a11, vI x, a13, a14] (vI x :: S) h Q := wp_iload rfl rfl
theorem s73_123 : WP 73 0 123 L (vI x :: vA (some a) :: S) h Q ↔ ((((hk h a).1 = 2 ∨ (hk h a).1 = 3) ∧ 0 ≤ x ∧ x < ((hk h a).2 : Int)) ∧ WP 73 0 124 L (hm h a x.toNat :: S) h Q) := wp_if rfl rfl rfl
theorem s73_124 : WP 73 0 124 [a0, a1, a2, a3, a4, a5, a6, a7, a8, a9, a10, a11, a12, a13, a14] (vI x :: S) h Q ↔ WP 73 0 126 [a0, a1, a2, a3, a4, a5, a6, vI x, a8, a9, a10, a11, a12, a13, a14] S h Q := wp_istore rfl rfl rfl
theorem s73_126 : WP 73 0 126 [a0, a1, a2, a3, a4, a5, a6, a7, a8, a9, vI x, a11, a12, a13, a14] S h Q ↔ WP 73 0 129 [a0, a1, a2, a3, a4, a5, a6, a7, a8, a9, vI (wr (x + (-1))), a11, a12, a13, a14] S h Q := wp_iinc rfl rfl rfl
theorem s73_129 : WP 73 0 129 L S h Q ↔ WP 73 0 45 L S h Q := wp_pl rfl rfl rfl
theorem s73_132 : WP 73 0 132 [a0, a1, a2, a3, a4, a5, a6, vI x, a8, a9, a10, a11, a12, a13, a14] S h Q ↔ WP 73 0 134 [a0, a1, a2, a3, a4, a5, a6, vI x, a8, a9, a10, a11, a12, a13, a14] (vI x :: S) h Q := wp_iload rfl rfl
theorem s73_134 : WP 73 0 134 L [vI x] h Q ↔ Q (.inl (some (vI x))) h := wp_iret0 rfl rfl
/-! RepeatFree.push(I)I -/
theorem s74_0 : WP 74 0 0 [vA r, a1] S h Q ↔ WP 74 0 1 [vA r, a1] (vA r :: S) h Q := wp_aload rfl rfl
theorem s74_1 : WP 74 0 1 [a0, vI x] S h Q ↔ WP 74 0 2 [a0, vI x] (vI x :: S) h Q := wp_iload rfl rfl
theorem s74_2 : WP 74 0 2 L (vI x0 :: vA (some a) :: S) h Q ↔ ((hk h a).1 = 100 ∧ (zw S ≤ 8 ∧ WP 40 0 0 [vA (some a), vI x0] [] h (zret 74 0 2 5 L S Q))) := wp_V1 (c := 100) rfl rfl (fun _ => rfl) rfl rfl (zcan_of rfl rfl) rfl rfl rfl
theorem s74_5 : WP 74 0 5 L (vI x0 :: S) h Q ↔ (zw S ≤ 8 ∧ WP 62 0 0 [vI x0] [] h (zret 74 0 5 8 L S Q)) := wp_S rfl rfl (zcan_of rfl rfl) rfl rfl rfl
theorem s74_8 : WP 74 0 8 [vA r, a1] S h Q ↔ WP 74 0 9 [vA r, a1] (vA r :: S) h Q := wp_aload rfl rfl
theorem s74_9 : WP 74 0 9 L (vA (some a) :: S) h Q ↔ (zhas 6 (hk h a) = true ∧ WP 74 0 12 L (hm h a 6 :: S) h Q) := wp_if rfl rfl rfl
theorem s74_12 : WP 74 0 12 L (vA (some a) :: S) h Q ↔ (zhas 15 (hk h a) = true ∧ WP 74 0 15 L (hm h a 15 :: S) h Q) := wp_if rfl rfl rfl
theorem s74_15 : WP 74 0 15 L S h Q ↔ WP 74 0 17 L (vI 64 :: S) h Q := wp_pl rfl rfl rfl
theorem s74_17 : WP 74 0 17 L (vI y :: vI x :: S) h Q ↔ zif (x < y) (WP 74 0 20 L S h Q) (WP 74 0 24 L S h Q) := wp_bN zc_lt rfl rfl rfl
theorem s74_20 : WP 74 0 20 L S h Q ↔ WP 74 0 21 L (vI 1 :: S) h Q := wp_pl rfl rfl rfl
theorem s74_21 : WP 74 0 21 L S h Q ↔ WP 74 0 25 L S h Q := wp_pl rfl rfl rfl
theorem s74_24 : WP 74 0 24 L S h Q ↔ WP 74 0 25 L (vI 0 :: S) h Q := wp_pl rfl rfl rfl
theorem s74_25 : WP 74 0 25 L (vI x0 :: S) h Q ↔ (zw S ≤ 8 ∧ WP 9 0 0 [vI x0] [] h (zret 74 0 25 28 L S Q)) := wp_S rfl rfl (zcan_of rfl rfl) rfl rfl rfl
theorem s74_28 : WP 74 0 28 [vA r, a1] S h Q ↔ WP 74 0 29 [vA r, a1] (vA r :: S) h Q := wp_aload rfl rfl
theorem s74_29 : WP 74 0 29 [vA r, a1] S h Q ↔ WP 74 0 30 [vA r, a1] (vA r :: S) h Q := wp_aload rfl rfl
theorem s74_30 : WP 74 0 30 L (vA (some a) :: S) h Q ↔ (zhas 6 (hk h a) = true ∧ WP 74 0 33 L (hm h a 6 :: S) h Q) := wp_if rfl rfl rfl
theorem s74_33 : WP 74 0 33 L (vA (some a) :: S) h Q ↔ ((hk h a).1 = 102 ∧ (zw S ≤ 8 ∧ WP 102 0 0 [vA (some a), vJ] [] h (zret 74 0 33 36 L S Q))) := wp_V1 (c := 102) rfl rfl (fun _ => rfl) rfl rfl (zcan_of rfl rfl) rfl rfl rfl
theorem s74_36 : WP 74 0 36 L (vA r0 :: vA (some a) :: S) h Q ↔ ((hk h a).1 = 100 ∧ (zw S ≤ 8 ∧ WP 4 0 0 [vA (some a), vA r0] [] h (zret 74 0 36 39 L S Q))) := wp_V1 (c := 100) rfl rfl (fun _ => rfl) rfl rfl (zcan_of rfl rfl) rfl rfl rfl
theorem s74_39 : WP 74 0 39 [vA r, a1] S h Q ↔ WP 74 0 40 [vA r, a1] (vA r :: S) h Q := wp_aload rfl rfl
theorem s74_40 : WP 74 0 40 L (vA (some a) :: S) h Q ↔ (zhas 6 (hk h a) = true ∧ WP 74 0 43 L (hm h a 6 :: S) h Q) := wp_if rfl rfl rfl
theorem s74_43 : WP 74 0 43 [a0, vI x] S h Q ↔ WP 74 0 44 [a0, vI x] (vI x :: S) h Q := wp_iload rfl rfl
theorem s74_44 : WP 74 0 44 L (vI x0 :: vA (some a) :: S) h Q ↔ ((hk h a).1 = 102 ∧ (zw S ≤ 8 ∧ WP 97 0 0 [vA (some a), vI x0] [] h (zret 74 0 44 47 L S Q))) := wp_V1 (c := 102) rfl rfl (fun _ => rfl) rfl rfl (zcan_of rfl rfl) rfl rfl rfl
theorem s74_47 : WP 74 0 47 [vA r, a1] S h Q ↔ WP 74 0 48 [vA r, a1] (vA r :: S) h Q := wp_aload rfl rfl
theorem s74_48 : WP 74 0 48 L (vA (some a) :: S) h Q ↔ (zhas 6 (hk h a) = true ∧ WP 74 0 51 L (hm h a 6 :: S) h Q) := wp_if rfl rfl rfl
theorem s74_51 : WP 74 0 51 L (vA (some a) :: S) h Q ↔ (zhas 15 (hk h a) = true ∧ WP 74 0 54 L (hm h a 15 :: S) h Q) := wp_if rfl rfl rfl
theorem s74_54 : WP 74 0 54 L [vI x] h Q ↔ Q (.inl (some (vI x))) h := wp_iret0 rfl rfl
/-! RepeatFree.rank()I -/
theorem s75_0 : WP 75 0 0 [vA r, a1, a2, a3] S h Q ↔ WP 75 0 1 [vA r, a1, a2, a3] (vA r :: S) h Q := wp_aload rfl rfl
theorem s75_1 : WP 75 0 1 L (vA (some a) :: S) h Q ↔ (zhas 6 (hk h a) = true ∧ WP 75 0 4 L (hm h a 6 :: S) h Q) := wp_if rfl rfl rfl
theorem s75_4 : WP 75 0 4 L (vA (some a) :: S) h Q ↔ (zhas 15 (hk h a) = true ∧ WP 75 0 7 L (hm h a 15 :: S) h Q) := wp_if rfl rfl rfl
theorem s75_7 : WP 75 0 7 L S h Q ↔ WP 75 0 9 L (vI 40 :: S) h Q := wp_pl rfl rfl rfl
theorem s75_9 : WP 75 0 9 L (vI y :: vI x :: S) h Q ↔ zif (y < x) (WP 75 0 16 L S h Q) (WP 75 0 12 L S h Q) := wp_bE zc_gt rfl rfl rfl
theorem s75_12 : WP 75 0 12 L S h Q ↔ WP 75 0 13 L (vI 1 :: S) h Q := wp_pl rfl rfl rfl
theorem s75_13 : WP 75 0 13 L S h Q ↔ WP 75 0 17 L S h Q := wp_pl rfl rfl rfl
theorem s75_16 : WP 75 0 16 L S h Q ↔ WP 75 0 17 L (vI 0 :: S) h Q := wp_pl rfl rfl rfl
theorem s75_17 : WP 75 0 17 L (vI x0 :: S) h Q ↔ (zw S ≤ 8 ∧ WP 9 0 0 [vI x0] [] h (zret 75 0 17 20 L S Q)) := wp_S rfl rfl (zcan_of rfl rfl) rfl rfl rfl
theorem s75_20 : WP 75 0 20 L S h Q ↔ WP 75 0 23 L (vA (some (hn h)) :: S) (hnew h (106, 0) 4 zdf) Q := wp_pl rfl rfl rfl
theorem s75_23 : WP 75 0 23 L (vA r :: S) h Q ↔ WP 75 0 24 L (vA r :: vA r :: S) h Q := wp_pl rfl rfl rfl
theorem s75_23i : WP 75 0 23 L (vI x :: S) h Q ↔ WP 75 0 24 L (vI x :: vI x :: S) h Q := wp_pl rfl rfl rfl
theorem s75_24 : WP 75 0 24 [vA r, a1, a2, a3] S h Q ↔ WP 75 0 25 [vA r, a1, a2, a3] (vA r :: S) h Q := wp_aload rfl rfl
theorem s75_25 : WP 75 0 25 L S h Q ↔ WP 75 0 28 L (vA (some (hn h)) :: S) (hnew h (102, 0) 2 zdf) Q := wp_pl rfl rfl rfl
theorem s75_28 : WP 75 0 28 L (vA r :: S) h Q ↔ WP 75 0 29 L (vA r :: vA r :: S) h Q := wp_pl rfl rfl rfl
theorem s75_28i : WP 75 0 28 L (vI x :: S) h Q ↔ WP 75 0 29 L (vI x :: vI x :: S) h Q := wp_pl rfl rfl rfl
theorem s75_29 : WP 75 0 29 L (vA (some a) :: S) h Q ↔ ((zNC ≤ a ∧ 100 ≤ (hk h a).1) ∧ zw S ≤ 8 ∧ WP 100 0 0 [vA (some a)] [] h (zret 75 0 29 32 L S Q)) := wp_I rfl rfl rfl (zcan_of rfl rfl) rfl rfl rfl
theorem s75_32 : WP 75 0 32 L (vA r1 :: vA r0 :: vA (some a) :: S) h Q ↔ ((zNC ≤ a ∧ 100 ≤ (hk h a).1) ∧ zw S ≤ 8 ∧ WP 117 0 0 [vA (some a), vA r0, vA r1] [] h (zret 75 0 32 35 L S Q)) := wp_I rfl rfl rfl (zcan_of rfl rfl) rfl rfl rfl
theorem s75_35 : WP 75 0 35 [a0, a1, a2, a3] (vA r :: S) h Q ↔ WP 75 0 36 [a0, vA r, a2, a3] S h Q := wp_astore rfl rfl rfl
theorem s75_36 : WP 75 0 36 L S h Q ↔ WP 75 0 37 L (vI 0 :: S) h Q := wp_pl rfl rfl rfl
theorem s75_37 : WP 75 0 37 [a0, a1, a2, a3] (vI x :: S) h Q ↔ WP 75 0 38 [a0, a1, vI x, a3] S h Q := wp_istore rfl rfl rfl
theorem s75_38 : WP 75 0 38 [a0, vA r, a2, a3] S h Q ↔ WP 75 0 39 [a0, vA r, a2, a3] (vA r :: S) h Q := wp_aload rfl rfl
theorem s75_39 : WP 75 0 39 [vA r, a1, a2, a3] S h Q ↔ WP 75 0 40 [vA r, a1, a2, a3] (vA r :: S) h Q := wp_aload rfl rfl
theorem s75_40 : WP 75 0 40 L (vA (some a) :: S) h Q ↔ (zhas 6 (hk h a) = true ∧ WP 75 0 43 L (hm h a 6 :: S) h Q) := wp_if rfl rfl rfl
theorem s75_43 : WP 75 0 43 L (vA (some a) :: S) h Q ↔ (zhas 15 (hk h a) = true ∧ WP 75 0 46 L (hm h a 15 :: S) h Q) := wp_if rfl rfl rfl
theorem s75_46 : WP 75 0 46 L S h Q ↔ WP 75 0 47 L (vI 0 :: S) h Q := wp_pl rfl rfl rfl
theorem s75_47 : WP 75 0 47 L S h Q ↔ WP 75 0 48 L (vI 0 :: S) h Q := wp_pl rfl rfl rfl
theorem s75_48 : WP 75 0 48 L (vI x2 :: vI x1 :: vI x0 :: vA (some a) :: S) h Q ↔ ((hk h a).1 = 106 ∧ (zw S ≤ 8 ∧ WP 115 0 0 [vA (some a), vI x0, vI x1, vI x2, vJ, vJ] [] h (zret 75 0 48 51 L S Q))) := wp_V1 (c := 106) rfl rfl (fun _ => rfl) rfl rfl (zcan_of rfl rfl) rfl rfl rfl
theorem s75_51 : WP 75 0 51 [a0, a1, a2, a3] (vI x :: S) h Q ↔ WP 75 0 52 [a0, a1, a2, vI x] S h Q := wp_istore rfl rfl rfl
theorem s75_52 : WP 75 0 52 [a0, a1, a2, vI x] S h Q ↔ WP 75 0 53 [a0, a1, a2, vI x] (vI x :: S) h Q := wp_iload rfl rfl
theorem s75_53 : WP 75 0 53 L (vI x :: S) h Q ↔ zif (x = 0) (WP 75 0 89 L S h Q) (WP 75 0 56 L S h Q) := wp_bE zc_eq rfl rfl rfl
theorem s75_56 : WP 75 0 56 [a0, vA r, a2, a3] S h Q ↔ WP 75 0 57 [a0, vA r, a2, a3] (vA r :: S) h Q := wp_aload rfl rfl
theorem s75_57 : WP 75 0 57 L (vA (some a) :: S) h Q ↔ (zhas 26 (hk h a) = true ∧ WP 75 0 60 L (hm h a 26 :: S) h Q) := wp_if rfl rfl rfl
theorem s75_60 : WP 75 0 60 [vA r, a1, a2, a3] S h Q ↔ WP 75 0 61 [vA r, a1, a2, a3] (vA r :: S) h Q := wp_aload rfl rfl
theorem s75_61 : WP 75 0 61 L (vA (some a) :: S) h Q ↔ (zhas 6 (hk h a) = true ∧ WP 75 0 64 L (hm h a 6 :: S) h Q) := wp_if rfl rfl rfl
theorem s75_64 : WP 75 0 64 L (vA r1 :: vA r0 :: S) h Q ↔ (zw S ≤ 8 ∧ WP 67 0 0 [vA r0, vA r1, vJ] [] h (zret 75 0 64 67 L S Q)) := wp_S rfl rfl (zcan_of rfl rfl) rfl rfl rfl
theorem s75_67 : WP 75 0 67 L (vI x :: S) h Q ↔ zif (x < 0) (WP 75 0 70 L S h Q) (WP 75 0 89 L S h Q) := wp_bN zc_lt rfl rfl rfl
theorem s75_70 : WP 75 0 70 [a0, a1, vI x, a3] S h Q ↔ WP 75 0 73 [a0, a1, vI (wr (x + 1)), a3] S h Q := wp_iinc rfl rfl rfl
theorem s75_73 : WP 75 0 73 [a0, vA r, a2, a3] S h Q ↔ WP 75 0 74 [a0, vA r, a2, a3] (vA r :: S) h Q := wp_aload rfl rfl
theorem s75_74 : WP 75 0 74 [vA r, a1, a2, a3] S h Q ↔ WP 75 0 75 [vA r, a1, a2, a3] (vA r :: S) h Q := wp_aload rfl rfl
theorem s75_75 : WP 75 0 75 L (vA (some a) :: S) h Q ↔ (zhas 6 (hk h a) = true ∧ WP 75 0 78 L (hm h a 6 :: S) h Q) := wp_if rfl rfl rfl
theorem s75_78 : WP 75 0 78 L (vA (some a) :: S) h Q ↔ (zhas 15 (hk h a) = true ∧ WP 75 0 81 L (hm h a 15 :: S) h Q) := wp_if rfl rfl rfl
theorem s75_81 : WP 75 0 81 L S h Q ↔ WP 75 0 82 L (vI 0 :: S) h Q := wp_pl rfl rfl rfl
theorem s75_82 : WP 75 0 82 L (vI x1 :: vI x0 :: vA (some a) :: S) h Q ↔ ((hk h a).1 = 106 ∧ (zw S ≤ 8 ∧ WP 116 0 0 [vA (some a), vI x0, vI x1] [] h (zret 75 0 82 85 L S Q))) := wp_V1 (c := 106) rfl rfl (fun _ => rfl) rfl rfl (zcan_of rfl rfl) rfl rfl rfl
theorem s75_85 : WP 75 0 85 [a0, a1, a2, a3] (vI x :: S) h Q ↔ WP 75 0 86 [a0, a1, a2, vI x] S h Q := wp_istore rfl rfl rfl
theorem s75_86 : WP 75 0 86 L S h Q ↔ WP 75 0 52 L S h Q := wp_pl rfl rfl rfl
theorem s75_89 : WP 75 0 89 [a0, vA r, a2, a3] S h Q ↔ WP 75 0 90 [a0, vA r, a2, a3] (vA r :: S) h Q := wp_aload rfl rfl
theorem s75_90 : WP 75 0 90 L (vA (some a) :: S) h Q ↔ (zhas 28 (hk h a) = true ∧ WP 75 0 93 L (hm h a 28 :: S) h Q) := wp_if rfl rfl rfl
theorem s75_93 : WP 75 0 93 L (vI x :: S) h Q ↔ zif (x = 0) (WP 75 0 101 L S h Q) (WP 75 0 96 L S h Q) := wp_bE zc_eq rfl rfl rfl
theorem s75_96 : WP 75 0 96 L S h Q ↔ WP 75 0 98 L (vI (-2) :: S) h Q := wp_pl rfl rfl rfl
theorem s75_98 : WP 75 0 98 L S h Q ↔ WP 75 0 102 L S h Q := wp_pl rfl rfl rfl
theorem s75_101 : WP 75 0 101 [a0, a1, vI x, a3] S h Q ↔ WP 75 0 102 [a0, a1, vI x, a3] (vI x :: S) h Q := wp_iload rfl rfl
theorem s75_102 : WP 75 0 102 L [vI x] h Q ↔ Q (.inl (some (vI x))) h := wp_iret0 rfl rfl
/-! RepeatFree.read()I -/
theorem s76_0 : WP 76 0 0 [vA r, a1, a2] S h Q ↔ WP 76 0 1 [vA r, a1, a2] (vA r :: S) h Q := wp_aload rfl rfl
theorem s76_1 : WP 76 0 1 L (vA (some a) :: S) h Q ↔ ((hk h a).1 = 100 ∧ (zw S ≤ 8 ∧ WP 86 0 0 [vA (some a), vJ] [] h (zret 76 0 1 4 L S Q))) := wp_V1 (c := 100) rfl rfl (fun _ => rfl) rfl rfl (zcan_of rfl rfl) rfl rfl rfl
theorem s76_4 : WP 76 0 4 [a0, a1, a2] (vI x :: S) h Q ↔ WP 76 0 5 [a0, vI x, a2] S h Q := wp_istore rfl rfl rfl
theorem s76_5 : WP 76 0 5 [vA r, a1, a2] S h Q ↔ WP 76 0 6 [vA r, a1, a2] (vA r :: S) h Q := wp_aload rfl rfl
theorem s76_6 : WP 76 0 6 L S h Q ↔ WP 76 0 9 L (vA (some (hn h)) :: S) (hnew h (108, 0) 5 zdf) Q := wp_pl rfl rfl rfl
theorem s76_9 : WP 76 0 9 L (vA r :: S) h Q ↔ WP 76 0 10 L (vA r :: vA r :: S) h Q := wp_pl rfl rfl rfl
theorem s76_9i : WP 76 0 9 L (vI x :: S) h Q ↔ WP 76 0 10 L (vI x :: vI x :: S) h Q := wp_pl rfl rfl rfl
theorem s76_10 : WP 76 0 10 [vA r, a1, a2] S h Q ↔ WP 76 0 11 [vA r, a1, a2] (vA r :: S) h Q := wp_aload rfl rfl
theorem s76_11 : WP 76 0 11 L (vA (some a) :: S) h Q ↔ (zhas 1 (hk h a) = true ∧ WP 76 0 14 L (hm h a 1 :: S) h Q) := wp_if rfl rfl rfl
theorem s76_14 : WP 76 0 14 [a0, vI x, a2] S h Q ↔ WP 76 0 15 [a0, vI x, a2] (vI x :: S) h Q := wp_iload rfl rfl
theorem s76_15 : WP 76 0 15 L (vI x1 :: vA r0 :: vA (some a) :: S) h Q ↔ ((zNC ≤ a ∧ 100 ≤ (hk h a).1) ∧ zw S ≤ 8 ∧ WP 122 0 0 [vA (some a), vA r0, vI x1] [] h (zret 76 0 15 18 L S Q)) := wp_I rfl rfl rfl (zcan_of rfl rfl) rfl rfl rfl
theorem s76_18 : WP 76 0 18 L (vA (some a) :: S) h Q ↔ ((hk h a).1 = 108 ∧ (zw S ≤ 8 ∧ WP 131 0 0 [vA (some a)] [] h (zret 76 0 18 21 L S Q))) := wp_V1 (c := 108) rfl rfl (fun _ => rfl) rfl rfl (zcan_of rfl rfl) rfl rfl rfl
theorem s76_21 : WP 76 0 21 L (vA r :: vA (some a) :: S) h Q ↔ ((zNC ≤ a ∧ zhas 4 (hk h a) = true) ∧ WP 76 0 24 L S (hput h a 4 (vA r)) Q) := wp_put3 rfl rfl
theorem s76_24 : WP 76 0 24 L S h Q ↔ WP 76 0 37 L S h Q := wp_pl rfl rfl rfl
theorem s76_27 : WP 76 0 27 [a0, a1, a2] (vA r :: S) h Q ↔ WP 76 0 28 [a0, a1, vA r] S h Q := wp_astore rfl rfl rfl
theorem s76_28 : WP 76 0 28 [vA r, a1, a2] S h Q ↔ WP 76 0 29 [vA r, a1, a2] (vA r :: S) h Q := wp_aload rfl rfl
theorem s76_29 : WP 76 0 29 [a0, a1, vA r] S h Q ↔ WP 76 0 30 [a0, a1, vA r] (vA r :: S) h Q := wp_aload rfl rfl
theorem s76_30 : WP 76 0 30 L (vA (some a) :: S) h Q ↔ (zhas 44 (hk h a) = true ∧ WP 76 0 33 L (hm h a 44 :: S) h Q) := wp_if rfl rfl rfl
theorem s76_33 : WP 76 0 33 L (vI x0 :: vA (some a) :: S) h Q ↔ ((hk h a).1 = 100 ∧ (zw S ≤ 8 ∧ WP 44 0 0 [vA (some a), vI x0] [] h (zret 76 0 33 36 L S Q))) := wp_V1 (c := 100) rfl rfl (fun _ => rfl) rfl rfl (zcan_of rfl rfl) rfl rfl rfl
theorem s76_36 : WP 76 0 36 L (vA (some a) :: S) h Q ↔ ((((120 ≤ (hk h a).1 ∧ (hk h a).1 ≤ 123) ∨ (hk h a).1 = 109)) ∧ Q (.inr a) h) := wp_athrow (fun _ => rfl) rfl
theorem s76_37 : WP 76 0 37 [vA r, a1, a2] S h Q ↔ WP 76 0 38 [vA r, a1, a2] (vA r :: S) h Q := wp_aload rfl rfl
theorem s76_38 : WP 76 0 38 L (vA (some a) :: S) h Q ↔ ((hk h a).1 = 100 ∧ (zw S ≤ 8 ∧ WP 47 0 0 [vA (some a), vJ, vJ, vJ] [] h (zret 76 0 38 41 L S Q))) := wp_V1 (c := 100) rfl rfl (fun _ => rfl) rfl rfl (zcan_of rfl rfl) rfl rfl rfl
theorem s76_41 : WP 76 0 41 [vA r, a1, a2] S h Q ↔ WP 76 0 42 [vA r, a1, a2] (vA r :: S) h Q := wp_aload rfl rfl
theorem s76_42 : WP 76 0 42 L S h Q ↔ WP 76 0 45 L (vA (some (hn h)) :: S) (hnew h (102, 0) 2 zdf) Q := wp_pl rfl rfl rfl
theorem s76_45 : WP 76 0 45 L (vA r :: S) h Q ↔ WP 76 0 46 L (vA r :: vA r :: S) h Q := wp_pl rfl rfl rfl
theorem s76_45i : WP 76 0 45 L (vI x :: S) h Q ↔ WP 76 0 46 L (vI x :: vI x :: S) h Q := wp_pl rfl rfl rfl
theorem s76_46 : WP 76 0 46 L (vA (some a) :: S) h Q ↔ ((zNC ≤ a ∧ 100 ≤ (hk h a).1) ∧ zw S ≤ 8 ∧ WP 100 0 0 [vA (some a)] [] h (zret 76 0 46 49 L S Q)) := wp_I rfl rfl rfl (zcan_of rfl rfl) rfl rfl rfl
theorem s76_49 : WP 76 0 49 L (vA r :: vA (some a) :: S) h Q ↔ ((zNC ≤ a ∧ zhas 6 (hk h a) = true) ∧ WP 76 0 52 L S (hput h a 6 (vA r)) Q) := wp_put3 rfl rfl
theorem s76_52 : WP 76 0 52 [vA r, a1, a2] S h Q ↔ WP 76 0 53 [vA r, a1, a2] (vA r :: S) h Q := wp_aload rfl rfl
theorem s76_53 : WP 76 0 53 L (vA (some a) :: S) h Q ↔ (zhas 7 (hk h a) = true ∧ WP 76 0 56 L (hm h a 7 :: S) h Q) := wp_if rfl rfl rfl
theorem s76_56 : WP 76 0 56 L (vA (some a) :: S) h Q ↔ ((hk h a).1 = 114 ∧ (zw S ≤ 8 ∧ WP 280 0 0 [vA (some a)] [] h (zret 76 0 56 59 L S Q))) := wp_V1 (c := 114) rfl rfl (fun _ => rfl) rfl rfl (zcan_of rfl rfl) rfl rfl rfl
theorem s76_59 : WP 76 0 59 [vA r, a1, a2] S h Q ↔ WP 76 0 60 [vA r, a1, a2] (vA r :: S) h Q := wp_aload rfl rfl
theorem s76_60 : WP 76 0 60 L (vA (some a) :: S) h Q ↔ (zhas 4 (hk h a) = true ∧ WP 76 0 63 L (hm h a 4 :: S) h Q) := wp_if rfl rfl rfl
theorem s76_63 : WP 76 0 63 L (vA (some a) :: S) h Q ↔ (zhas 12 (hk h a) = true ∧ WP 76 0 66 L (hm h a 12 :: S) h Q) := wp_if rfl rfl rfl
theorem s76_66 : WP 76 0 66 L [vI x] h Q ↔ Q (.inl (some (vI x))) h := wp_iret0 rfl rfl
/-! RepeatFree.rest(Ljava/lang/String;Ljava/lang/String;)Ljava/lang/String; -/
theorem s77_0 : WP 77 0 0 [vA r, a1] S h Q ↔ WP 77 0 1 [vA r, a1] (vA r :: S) h Q := wp_aload rfl rfl
theorem s77_1 : WP 77 0 1 [a0, vA r] S h Q ↔ WP 77 0 2 [a0, vA r] (vA r :: S) h Q := wp_aload rfl rfl
theorem s77_2 : WP 77 0 2 L (vA r1 :: vA r0 :: S) h Q ↔ (zw S ≤ 8 ∧ WP 5 0 0 [vA r0, vA r1, vJ, vJ] [] h (zret 77 0 2 5 L S Q)) := wp_S rfl rfl (zcan_of rfl rfl) rfl rfl rfl
theorem s77_5 : WP 77 0 5 L (vI x :: S) h Q ↔ zif (x = 0) (WP 77 0 19 L S h Q) (WP 77 0 8 L S h Q) := wp_bE zc_eq rfl rfl rfl
theorem s77_8 : WP 77 0 8 [vA r, a1] S h Q ↔ WP 77 0 9 [vA r, a1] (vA r :: S) h Q := wp_aload rfl rfl
theorem s77_9 : WP 77 0 9 [a0, vA r] S h Q ↔ WP 77 0 10 [a0, vA r] (vA r :: S) h Q := wp_aload rfl rfl
theorem s77_10 : WP 77 0 10 L (vA (some a) :: S) h Q ↔ ((hk h a).1 = 117 ∧ (zw S ≤ 8 ∧ WP 323 0 0 [vA (some a)] [] h (zret 77 0 10 13 L S Q))) := wp_V1 (c := 117) rfl rfl (fun _ => rfl) rfl rfl (zcan_of rfl rfl) rfl rfl rfl
theorem s77_13 : WP 77 0 13 L (vI x0 :: vA (some a) :: S) h Q ↔ ((hk h a).1 = 117 ∧ (zw S ≤ 8 ∧ WP 324 0 0 [vA (some a), vI x0] [] h (zret 77 0 13 16 L S Q))) := wp_V1 (c := 117) rfl rfl (fun _ => rfl) rfl rfl (zcan_of rfl rfl) rfl rfl rfl
theorem s77_16 : WP 77 0 16 L S h Q ↔ WP 77 0 20 L S h Q := wp_pl rfl rfl rfl
theorem s77_19 : WP 77 0 19 L S h Q ↔ WP 77 0 20 L (vA none :: S) h Q := wp_pl rfl rfl rfl
theorem s77_20 : WP 77 0 20 L [vA r] h Q ↔ Q (.inl (some (vA r))) h := wp_aret rfl
/-! RepeatFree.run(II)I -/
theorem s78_0 : WP 78 0 0 [a0, a1, vI x, a3, a4] S h Q ↔ WP 78 0 1 [a0, a1, vI x, a3, a4] (vI x :: S) h Q := wp_iload rfl rfl
theorem s78_1 : WP 78 0 1 L (vI x :: S) h Q ↔ WP 78 0 2 L (vL x :: S) h Q := wp_pl rfl rfl rfl
theorem s78_2 : WP 78 0 2 L S h Q ↔ WP 78 0 3 L (vL 0 :: S) h Q := wp_pl rfl rfl rfl
theorem s78_3 : WP 78 0 3 L S h Q ↔ WP 78 0 6 L (vL (2) :: S) h Q := wp_pl rfl rfl rfl
theorem s78_6 : WP 78 0 6 L (vL x2 :: vL x1 :: vL x0 :: S) h Q ↔ (zw S ≤ 8 ∧ WP 38 0 0 [vL x0, vJ, vL x1, vJ, vL x2, vJ] [] h (zret 78 0 6 9 L S Q)) := wp_S rfl rfl (zcan_of rfl rfl) rfl rfl rfl
theorem s78_9 : WP 78 0 9 L (vI x0 :: S) h Q ↔ (zw S ≤ 8 ∧ WP 85 0 0 [vI x0] [] h (zret 78 0 9 12 L S Q)) := wp_S rfl rfl (zcan_of rfl rfl) rfl rfl rfl
theorem s78_12 : WP 78 0 12 [vA r, a1, a2, a3, a4] S h Q ↔ WP 78 0 13 [vA r, a1, a2, a3, a4] (vA r :: S) h Q := wp_aload rfl rfl
theorem s78_13 : WP 78 0 13 L (vA (some a) :: S) h Q ↔ ((hk h a).1 = 100 ∧ (zw S ≤ 8 ∧ WP 79 0 0 [vA (some a), vJ, vJ, vJ, vJ, vJ] [] h (zret 78 0 13 16 L S Q))) := wp_V1 (c := 100) rfl rfl (fun _ => rfl) rfl rfl (zcan_of rfl rfl) rfl rfl rfl
theorem s78_16 : WP 78 0 16 [a0, a1, a2, a3, a4] (vA r :: S) h Q ↔ WP 78 0 17 [a0, a1, a2, vA r, a4] S h Q := wp_astore rfl rfl rfl
theorem s78_17 : WP 78 0 17 [a0, vI x, a2, a3, a4] S h Q ↔ WP 78 0 18 [a0, vI x, a2, a3, a4] (vI x :: S) h Q := wp_iload rfl rfl
theorem s78_18 : WP 78 0 18 L S h Q ↔ WP 78 0 19 L (vI (-1) :: S) h Q := wp_pl rfl rfl rfl
theorem s78_19 : WP 78 0 19 L (vI y :: vI x :: S) h Q ↔ zif (x = y) (WP 78 0 22 L S h Q) (WP 78 0 27 L S h Q) := wp_bN zc_eq rfl rfl rfl
theorem s78_22 : WP 78 0 22 [a0, a1, a2, vA r, a4] S h Q ↔ WP 78 0 23 [a0, a1, a2, vA r, a4] (vA r :: S) h Q := wp_aload rfl rfl
theorem s78_23 : WP 78 0 23 L (vA (some a) :: S) h Q ↔ ((hk h a).1 = 111 ∧ (zw S ≤ 8 ∧ WP 270 0 0 [vA (some a)] [] h (zret 78 0 23 26 L S Q))) := wp_V1 (c := 111) rfl rfl (fun _ => rfl) rfl rfl (zcan_of rfl rfl) rfl rfl rfl
theorem s78_26 : WP 78 0 26 L [vI x] h Q ↔ Q (.inl (some (vI x))) h := wp_iret0 rfl rfl
theorem s78_27 : WP 78 0 27 [a0, vI x, a2, a3, a4] S h Q ↔ WP 78 0 28 [a0, vI x, a2, a3, a4] (vI x :: S) h Q := wp_iload rfl rfl
theorem s78_28 : WP 78 0 28 L (vI x :: S) h Q ↔ WP 78 0 29 L (vL x :: S) h Q := wp_pl rfl rfl rfl
theorem s78_29 : WP 78 0 29 L S h Q ↔ WP 78 0 30 L (vL 0 :: S) h Q := wp_pl rfl rfl rfl
theorem s78_30 : WP 78 0 30 [a0, a1, a2, vA r, a4] S h Q ↔ WP 78 0 31 [a0, a1, a2, vA r, a4] (vA r :: S) h Q := wp_aload rfl rfl
theorem s78_31 : WP 78 0 31 L (vA (some a) :: S) h Q ↔ ((hk h a).1 = 111 ∧ (zw S ≤ 8 ∧ WP 270 0 0 [vA (some a)] [] h (zret 78 0 31 34 L S Q))) := wp_V1 (c := 111) rfl rfl (fun _ => rfl) rfl rfl (zcan_of rfl rfl) rfl rfl rfl
theorem s78_34 : WP 78 0 34 L S h Q ↔ WP 78 0 35 L (vI 1 :: S) h Q := wp_pl rfl rfl rfl
theorem s78_35 : WP 78 0 35 L (vI y :: vI x :: S) h Q ↔ WP 78 0 36 L (vI (wr (x - y)) :: S) h Q := wp_pl rfl rfl rfl
theorem s78_36 : WP 78 0 36 L (vI x :: S) h Q ↔ WP 78 0 37 L (vL x :: S) h Q := wp_pl rfl rfl rfl
theorem s78_37 : WP 78 0 37 L (vL x2 :: vL x1 :: vL x0 :: S) h Q ↔ (zw S ≤ 8 ∧ WP 38 0 0 [vL x0, vJ, vL x1, vJ, vL x2, vJ] [] h (zret 78 0 37 40 L S Q)) := wp_S rfl rfl (zcan_of rfl rfl) rfl rfl rfl
theorem s78_40 : WP 78 0 40 L (vI x :: S) h Q ↔ zif (x = 0) (WP 78 0 43 L S h Q) (WP 78 0 45 L S h Q) := wp_bN zc_eq rfl rfl rfl
theorem s78_43 : WP 78 0 43 L S h Q ↔ WP 78 0 44 L (vI (-1) :: S) h Q := wp_pl rfl rfl rfl
theorem s78_44 : WP 78 0 44 L [vI x] h Q ↔ Q (.inl (some (vI x))) h := wp_iret0 rfl rfl
theorem s78_45 : WP 78 0 45 [a0, a1, a2, vA r, a4] S h Q ↔ WP 78 0 46 [a0, a1, a2, vA r, a4] (vA r :: S) h Q := wp_aload rfl rfl
theorem s78_46 : WP 78 0 46 [a0, vI x, a2, a3, a4] S h Q ↔ WP 78 0 47 [a0, vI x, a2, a3, a4] (vI x :: S) h Q := wp_iload rfl rfl
theorem s78_47 : WP 78 0 47 L (vI x0 :: vA (some a) :: S) h Q ↔ ((hk h a).1 = 111 ∧ (zw S ≤ 8 ∧ WP 260 0 0 [vA (some a), vI x0] [] h (zret 78 0 47 50 L S Q))) := wp_V1 (c := 111) rfl rfl (fun _ => rfl) rfl rfl (zcan_of rfl rfl) rfl rfl rfl
theorem s78_50n : WP 78 0 50 L (vA none :: S) h Q ↔ WP 78 0 53 L (vA none :: S) h Q := wp_pl rfl rfl rfl
theorem s78_50 : WP 78 0 50 L (vA (some a) :: S) h Q ↔ (zCX 5 (hk h a).1 a = true ∧ WP 78 0 53 L (vA (some a) :: S) h Q) := wp_if rfl rfl rfl
theorem s78_53 : WP 78 0 53 [a0, a1, a2, a3, a4] (vA r :: S) h Q ↔ WP 78 0 55 [a0, a1, a2, a3, vA r] S h Q := wp_astore rfl rfl rfl
theorem s78_55 : WP 78 0 55 [a0, a1, vI x, a3, a4] S h Q ↔ WP 78 0 56 [a0, a1, vI x, a3, a4] (vI x :: S) h Q := wp_iload rfl rfl
theorem s78_56 : WP 78 0 56 L (vI x :: S) h Q ↔ zif (x = 0) (WP 78 0 59 L S h Q) (WP 78 0 67 L S h Q) := wp_bN zc_eq rfl rfl rfl
theorem s78_59 : WP 78 0 59 [a0, a1, a2, a3, vA r] S h Q ↔ WP 78 0 61 [a0, a1, a2, a3, vA r] (vA r :: S) h Q := wp_aload rfl rfl
theorem s78_61 : WP 78 0 61 L (vA (some a) :: S) h Q ↔ (zhas 30 (hk h a) = true ∧ WP 78 0 64 L (hm h a 30 :: S) h Q) := wp_if rfl rfl rfl
theorem s78_64 : WP 78 0 64 L S h Q ↔ WP 78 0 85 L S h Q := wp_pl rfl rfl rfl
theorem s78_67 : WP 78 0 67 [a0, a1, vI x, a3, a4] S h Q ↔ WP 78 0 68 [a0, a1, vI x, a3, a4] (vI x :: S) h Q := wp_iload rfl rfl
theorem s78_68 : WP 78 0 68 L S h Q ↔ WP 78 0 69 L (vI 1 :: S) h Q := wp_pl rfl rfl rfl
theorem s78_69 : WP 78 0 69 L (vI y :: vI x :: S) h Q ↔ zif (x = y) (WP 78 0 72 L S h Q) (WP 78 0 80 L S h Q) := wp_bN zc_eq rfl rfl rfl
theorem s78_72 : WP 78 0 72 [a0, a1, a2, a3, vA r] S h Q ↔ WP 78 0 74 [a0, a1, a2, a3, vA r] (vA r :: S) h Q := wp_aload rfl rfl
theorem s78_74 : WP 78 0 74 L (vA (some a) :: S) h Q ↔ (zhas 31 (hk h a) = true ∧ WP 78 0 77 L (hm h a 31 :: S) h Q) := wp_if rfl rfl rfl
theorem s78_77 : WP 78 0 77 L S h Q ↔ WP 78 0 85 L S h Q := wp_pl rfl rfl rfl
theorem s78_80 : WP 78 0 80 [a0, a1, a2, a3, vA r] S h Q ↔ WP 78 0 82 [a0, a1, a2, a3, vA r] (vA r :: S) h Q := wp_aload rfl rfl
theorem s78_82 : WP 78 0 82 L (vA (some a) :: S) h Q ↔ (zhas 32 (hk h a) = true ∧ WP 78 0 85 L (hm h a 32 :: S) h Q) := wp_if rfl rfl rfl
theorem s78_85 : WP 78 0 85 L [vI x] h Q ↔ Q (.inl (some (vI x))) h := wp_iret0 rfl rfl
/-! RepeatFree.runs()Ljava/util/LinkedList; -/
theorem s79_0 : WP 79 0 0 L S h Q ↔ WP 79 0 3 L (vA (some (hn h)) :: S) (hnew h (111, 0) 4 zdf) Q := wp_pl rfl rfl rfl
theorem s79_3 : WP 79 0 3 L (vA r :: S) h Q ↔ WP 79 0 4 L (vA r :: vA r :: S) h Q := wp_pl rfl rfl rfl
theorem s79_3i : WP 79 0 3 L (vI x :: S) h Q ↔ WP 79 0 4 L (vI x :: vI x :: S) h Q := wp_pl rfl rfl rfl
theorem s79_4 : WP 79 0 4 L (vA (some a) :: S) h Q ↔ ((zNC ≤ a ∧ 100 ≤ (hk h a).1) ∧ zw S ≤ 8 ∧ WP 262 0 0 [vA (some a)] [] h (zret 79 0 4 7 L S Q)) := wp_I rfl rfl rfl (zcan_of rfl rfl) rfl rfl rfl
theorem s79_7 : WP 79 0 7 [a0, a1, a2, a3, a4, a5] (vA r :: S) h Q ↔ WP 79 0 8 [a0, vA r, a2, a3, a4, a5] S h Q := wp_astore rfl rfl rfl
theorem s79_8 : WP 79 0 8 L S h Q ↔ WP 79 0 9 L (vI 1 :: S) h Q := wp_pl rfl rfl rfl
theorem s79_9 : WP 79 0 9 [a0, a1, a2, a3, a4, a5] (vI x :: S) h Q ↔ WP 79 0 10 [a0, a1, vI x, a3, a4, a5] S h Q := wp_istore rfl rfl rfl
theorem s79_10 : WP 79 0 10 L S h Q ↔ WP 79 0 11 L (vI 2 :: S) h Q := wp_pl rfl rfl rfl
theorem s79_11 : WP 79 0 11 [a0, a1, vI x, a3, a4, a5] S h Q ↔ WP 79 0 12 [a0, a1, vI x, a3, a4, a5] (vI x :: S) h Q := wp_iload rfl rfl
theorem s79_12 : WP 79 0 12 L (vI y :: vI x :: S) h Q ↔ WP 79 0 13 L (vI (wr (x * y)) :: S) h Q := wp_pl rfl rfl rfl
theorem s79_13 : WP 79 0 13 [vA r, a1, a2, a3, a4, a5] S h Q ↔ WP 79 0 14 [vA r, a1, a2, a3, a4, a5] (vA r :: S) h Q := wp_aload rfl rfl
theorem s79_14 : WP 79 0 14 L (vA (some a) :: S) h Q ↔ (zhas 6 (hk h a) = true ∧ WP 79 0 17 L (hm h a 6 :: S) h Q) := wp_if rfl rfl rfl
theorem s79_17 : WP 79 0 17 L (vA (some a) :: S) h Q ↔ (zhas 15 (hk h a) = true ∧ WP 79 0 20 L (hm h a 15 :: S) h Q) := wp_if rfl rfl rfl
theorem s79_20 : WP 79 0 20 L (vI y :: vI x :: S) h Q ↔ zif (y < x) (WP 79 0 153 L S h Q) (WP 79 0 23 L S h Q) := wp_bE zc_gt rfl rfl rfl
theorem s79_23 : WP 79 0 23 L S h Q ↔ WP 79 0 26 L (vA (some (hn h)) :: S) (hnew h (115, 0) 3 zdf) Q := wp_pl rfl rfl rfl
theorem s79_26 : WP 79 0 26 L (vA r :: S) h Q ↔ WP 79 0 27 L (vA r :: vA r :: S) h Q := wp_pl rfl rfl rfl
theorem s79_26i : WP 79 0 26 L (vI x :: S) h Q ↔ WP 79 0 27 L (vI x :: vI x :: S) h Q := wp_pl rfl rfl rfl
theorem s79_27 : WP 79 0 27 L (vA (some a) :: S) h Q ↔ ((zNC ≤ a ∧ 100 ≤ (hk h a).1) ∧ zw S ≤ 8 ∧ WP 298 0 0 [vA (some a)] [] h (zret 79 0 27 30 L S Q)) := wp_I rfl rfl rfl (zcan_of rfl rfl) rfl rfl rfl
theorem s79_30 : WP 79 0 30 [a0, a1, a2, a3, a4, a5] (vA r :: S) h Q ↔ WP 79 0 31 [a0, a1, a2, vA r, a4, a5] S h Q := wp_astore rfl rfl rfl
theorem s79_31 : WP 79 0 31 [a0, a1, vI x, a3, a4, a5] S h Q ↔ WP 79 0 32 [a0, a1, vI x, a3, a4, a5] (vI x :: S) h Q := wp_iload rfl rfl
theorem s79_32 : WP 79 0 32 [a0, a1, a2, a3, a4, a5] (vI x :: S) h Q ↔ WP 79 0 34 [a0, a1, a2, a3, vI x, a5] S h Q := wp_istore rfl rfl rfl
theorem s79_34 : WP 79 0 34 [a0, a1, a2, a3, vI x, a5] S h Q ↔ WP 79 0 36 [a0, a1, a2, a3, vI x, a5] (vI x :: S) h Q := wp_iload rfl rfl
theorem s79_36 : WP 79 0 36 [vA r, a1, a2, a3, a4, a5] S h Q ↔ WP 79 0 37 [vA r, a1, a2, a3, a4, a5] (vA r :: S) h Q := wp_aload rfl rfl
theorem s79_37 : WP 79 0 37 L (vA (some a) :: S) h Q ↔ (zhas 6 (hk h a) = true ∧ WP 79 0 40 L (hm h a 6 :: S) h Q) := wp_if rfl rfl rfl
theorem s79_40 : WP 79 0 40 L (vA (some a) :: S) h Q ↔ (zhas 15 (hk h a) = true ∧ WP 79 0 43 L (hm h a 15 :: S) h Q) := wp_if rfl rfl rfl
theorem s79_43 : WP 79 0 43 L (vI y :: vI x :: S) h Q ↔ zif (x < y) (WP 79 0 46 L S h Q) (WP 79 0 83 L S h Q) := wp_bN zc_lt rfl rfl rfl
theorem s79_46 : WP 79 0 46 [vA r, a1, a2, a3, a4, a5] S h Q ↔ WP 79 0 47 [vA r, a1, a2, a3, a4, a5] (vA r :: S) h Q := wp_aload rfl rfl
theorem s79_47 : WP 79 0 47 L (vA (some a) :: S) h Q ↔ (zhas 6 (hk h a) = true ∧ WP 79 0 50 L (hm h a 6 :: S) h Q) := wp_if rfl rfl rfl
theorem s79_50 : WP 79 0 50 L (vA (some a) :: S) h Q ↔ (zhas 14 (hk h a) = true ∧ WP 79 0 53 L (hm h a 14 :: S) h Q) := wp_if rfl rfl rfl
theorem s79_53 : WP 79 0 53 [a0, a1, a2, a3, vI x, a5] S h Q ↔ WP 79 0 55 [a0, a1, a2, a3, vI x, a5] (vI x :: S) h Q := wp_iload rfl rfl
theorem s79_55 : WP 79 0 55 L (vI x :: vA (some a) :: S) h Q ↔ ((((hk h a).1 = 2 ∨ (hk h a).1 = 3) ∧ 0 ≤ x ∧ x < ((hk h a).2 : Int)) ∧ WP 79 0 56 L (hm h a x.toNat :: S) h Q) := wp_if rfl rfl rfl
theorem s79_56 : WP 79 0 56 [vA r, a1, a2, a3, a4, a5] S h Q ↔ WP 79 0 57 [vA r, a1, a2, a3, a4, a5] (vA r :: S) h Q := wp_aload rfl rfl
theorem s79_57 : WP 79 0 57 L (vA (some a) :: S) h Q ↔ (zhas 6 (hk h a) = true ∧ WP 79 0 60 L (hm h a 6 :: S) h Q) := wp_if rfl rfl rfl
theorem s79_60 : WP 79 0 60 L (vA (some a) :: S) h Q ↔ (zhas 14 (hk h a) = true ∧ WP 79 0 63 L (hm h a 14 :: S) h Q) := wp_if rfl rfl rfl
theorem s79_63 : WP 79 0 63 [a0, a1, a2, a3, vI x, a5] S h Q ↔ WP 79 0 65 [a0, a1, a2, a3, vI x, a5] (vI x :: S) h Q := wp_iload rfl rfl
theorem s79_65 : WP 79 0 65 [a0, a1, vI x, a3, a4, a5] S h Q ↔ WP 79 0 66 [a0, a1, vI x, a3, a4, a5] (vI x :: S) h Q := wp_iload rfl rfl
theorem s79_66 : WP 79 0 66 L (vI y :: vI x :: S) h Q ↔ WP 79 0 67 L (vI (wr (x - y)) :: S) h Q := wp_pl rfl rfl rfl
theorem s79_67 : WP 79 0 67 L (vI x :: vA (some a) :: S) h Q ↔ ((((hk h a).1 = 2 ∨ (hk h a).1 = 3) ∧ 0 ≤ x ∧ x < ((hk h a).2 : Int)) ∧ WP 79 0 68 L (hm h a x.toNat :: S) h Q) := wp_if rfl rfl rfl
theorem s79_68 : WP 79 0 68 L (vI y :: vI x :: S) h Q ↔ zif (x = y) (WP 79 0 71 L S h Q) (WP 79 0 77 L S h Q) := wp_bN zc_eq rfl rfl rfl
theorem s79_71 : WP 79 0 71 [a0, a1, a2, vA r, a4, a5] S h Q ↔ WP 79 0 72 [a0, a1, a2, vA r, a4, a5] (vA r :: S) h Q := wp_aload rfl rfl
theorem s79_72 : WP 79 0 72 [a0, a1, a2, a3, vI x, a5] S h Q ↔ WP 79 0 74 [a0, a1, a2, a3, vI x, a5] (vI x :: S) h Q := wp_iload rfl rfl
theorem s79_74 : WP 79 0 74 L (vI x0 :: vA (some a) :: S) h Q ↔ ((hk h a).1 = 115 ∧ (zw S ≤ 8 ∧ WP 302 0 0 [vA (some a), vI x0, vJ] [] h (zret 79 0 74 77 L S Q))) := wp_V1 (c := 115) rfl rfl (fun _ => rfl) rfl rfl (zcan_of rfl rfl) rfl rfl rfl
theorem s79_77 : WP 79 0 77 [a0, a1, a2, a3, vI x, a5] S h Q ↔ WP 79 0 80 [a0, a1, a2, a3, vI (wr (x + 1)), a5] S h Q := wp_iinc rfl rfl rfl
theorem s79_80 : WP 79 0 80 L S h Q ↔ WP 79 0 34 L S h Q := wp_pl rfl rfl rfl
theorem s79_83 : WP 79 0 83 [a0, a1, a2, vA r, a4, a5] S h Q ↔ WP 79 0 84 [a0, a1, a2, vA r, a4, a5] (vA r :: S) h Q := wp_aload rfl rfl
theorem s79_84 : WP 79 0 84 [a0, a1, vI x, a3, a4, a5] S h Q ↔ WP 79 0 85 [a0, a1, vI x, a3, a4, a5] (vI x :: S) h Q := wp_iload rfl rfl
theorem s79_85 : WP 79 0 85 L (vI x0 :: vA (some a) :: S) h Q ↔ ((hk h a).1 = 115 ∧ (zw S ≤ 8 ∧ WP 301 0 0 [vA (some a), vI x0, vJ, vJ, vJ] [] h (zret 79 0 85 88 L S Q))) := wp_V1 (c := 115) rfl rfl (fun _ => rfl) rfl rfl (zcan_of rfl rfl) rfl rfl rfl
theorem s79_88 : WP 79 0 88 [a0, a1, a2, a3, a4, a5] (vI x :: S) h Q ↔ WP 79 0 90 [a0, a1, a2, a3, vI x, a5] S h Q := wp_istore rfl rfl rfl
theorem s79_90 : WP 79 0 90 [a0, a1, a2, a3, vI x, a5] S h Q ↔ WP 79 0 92 [a0, a1, a2, a3, vI x, a5] (vI x :: S) h Q := wp_iload rfl rfl
theorem s79_92 : WP 79 0 92 L (vI x :: S) h Q ↔ zif (x < 0) (WP 79 0 147 L S h Q) (WP 79 0 95 L S h Q) := wp_bE zc_lt rfl rfl rfl
theorem s79_95 : WP 79 0 95 [a0, a1, a2, vA r, a4, a5] S h Q ↔ WP 79 0 96 [a0, a1, a2, vA r, a4, a5] (vA r :: S) h Q := wp_aload rfl rfl
theorem s79_96 : WP 79 0 96 [a0, a1, a2, a3, vI x, a5] S h Q ↔ WP 79 0 98 [a0, a1, a2, a3, vI x, a5] (vI x :: S) h Q := wp_iload rfl rfl
theorem s79_98 : WP 79 0 98 L (vI x0 :: vA (some a) :: S) h Q ↔ ((hk h a).1 = 115 ∧ (zw S ≤ 8 ∧ WP 300 0 0 [vA (some a), vI x0, vJ, vJ, vJ] [] h (zret 79 0 98 101 L S Q))) := wp_V1 (c := 115) rfl rfl (fun _ => rfl) rfl rfl (zcan_of rfl rfl) rfl rfl rfl
theorem s79_101 : WP 79 0 101 [a0, a1, a2, a3, a4, a5] (vI x :: S) h Q ↔ WP 79 0 103 [a0, a1, a2, a3, a4, vI x] S h Q := wp_istore rfl rfl rfl
theorem s79_103 : WP 79 0 103 [a0, a1, a2, a3, a4, vI x] S h Q ↔ WP 79 0 105 [a0, a1, a2, a3, a4, vI x] (vI x :: S) h Q := wp_iload rfl rfl
theorem s79_105 : WP 79 0 105 [a0, a1, a2, a3, vI x, a5] S h Q ↔ WP 79 0 107 [a0, a1, a2, a3, vI x, a5] (vI x :: S) h Q := wp_iload rfl rfl
theorem s79_107 : WP 79 0 107 L (vI y :: vI x :: S) h Q ↔ WP 79 0 108 L (vI (wr (x - y)) :: S) h Q := wp_pl rfl rfl rfl
theorem s79_108 : WP 79 0 108 [a0, a1, vI x, a3, a4, a5] S h Q ↔ WP 79 0 109 [a0, a1, vI x, a3, a4, a5] (vI x :: S) h Q := wp_iload rfl rfl
theorem s79_109 : WP 79 0 109 L (vI y :: vI x :: S) h Q ↔ zif (x < y) (WP 79 0 136 L S h Q) (WP 79 0 112 L S h Q) := wp_bE zc_lt rfl rfl rfl
theorem s79_112 : WP 79 0 112 [a0, vA r, a2, a3, a4, a5] S h Q ↔ WP 79 0 113 [a0, vA r, a2, a3, a4, a5] (vA r :: S) h Q := wp_aload rfl rfl
theorem s79_113 : WP 79 0 113 L S h Q ↔ WP 79 0 116 L (vA (some (hn h)) :: S) (hnew h (107, 0) 3 zdf) Q := wp_pl rfl rfl rfl
theorem s79_116 : WP 79 0 116 L (vA r :: S) h Q ↔ WP 79 0 117 L (vA r :: vA r :: S) h Q := wp_pl rfl rfl rfl
theorem s79_116i : WP 79 0 116 L (vI x :: S) h Q ↔ WP 79 0 117 L (vI x :: vI x :: S) h Q := wp_pl rfl rfl rfl
theorem s79_117 : WP 79 0 117 [a0, a1, a2, a3, vI x, a5] S h Q ↔ WP 79 0 119 [a0, a1, a2, a3, vI x, a5] (vI x :: S) h Q := wp_iload rfl rfl
theorem s79_119 : WP 79 0 119 [a0, a1, vI x, a3, a4, a5] S h Q ↔ WP 79 0 120 [a0, a1, vI x, a3, a4, a5] (vI x :: S) h Q := wp_iload rfl rfl
theorem s79_120 : WP 79 0 120 L (vI y :: vI x :: S) h Q ↔ WP 79 0 121 L (vI (wr (x - y)) :: S) h Q := wp_pl rfl rfl rfl
theorem s79_121 : WP 79 0 121 [a0, a1, a2, a3, a4, vI x] S h Q ↔ WP 79 0 123 [a0, a1, a2, a3, a4, vI x] (vI x :: S) h Q := wp_iload rfl rfl
theorem s79_123 : WP 79 0 123 [a0, a1, a2, a3, vI x, a5] S h Q ↔ WP 79 0 125 [a0, a1, a2, a3, vI x, a5] (vI x :: S) h Q := wp_iload rfl rfl
theorem s79_125 : WP 79 0 125 L (vI y :: vI x :: S) h Q ↔ WP 79 0 126 L (vI (wr (x - y)) :: S) h Q := wp_pl rfl rfl rfl
theorem s79_126 : WP 79 0 126 [a0, a1, vI x, a3, a4, a5] S h Q ↔ WP 79 0 127 [a0, a1, vI x, a3, a4, a5] (vI x :: S) h Q := wp_iload rfl rfl
theorem s79_127 : WP 79 0 127 L (vI y :: vI x :: S) h Q ↔ WP 79 0 128 L (vI (wr (x + y)) :: S) h Q := wp_pl rfl rfl rfl
theorem s79_128 : WP 79 0 128 [a0, a1, vI x, a3, a4, a5] S h Q ↔ WP 79 0 129 [a0, a1, vI x, a3, a4, a5] (vI x :: S) h Q := wp_iload rfl rfl
theorem s79_129 : WP 79 0 129 L (vI x2 :: vI x1 :: vI x0 :: vA (some a) :: S) h Q ↔ ((zNC ≤ a ∧ 100 ≤ (hk h a).1) ∧ zw S ≤ 8 ∧ WP 119 0 0 [vA (some a), vI x0, vI x1, vI x2] [] h (zret 79 0 129 132 L S Q)) := wp_I rfl rfl rfl (zcan_of rfl rfl) rfl rfl rfl
theorem s79_132 : WP 79 0 132 L (vA r0 :: vA (some a) :: S) h Q ↔ ((hk h a).1 = 111 ∧ (zw S ≤ 8 ∧ WP 255 0 0 [vA (some a), vA r0] [] h (zret 79 0 132 135 L S Q))) := wp_V1 (c := 111) rfl rfl (fun _ => rfl) rfl rfl (zcan_of rfl rfl) rfl rfl rfl
theorem s79_135 : WP 79 0 135 L (vA r :: S) h Q ↔ WP 79 0 136 L S h Q := wp_pl rfl rfl rfl
theorem s79_135i : WP 79 0 135 L (vI x :: S) h Q ↔ WP 79 0 136 L S h Q := wp_pl rfl rfl rfl
theorem s79_136 : WP 79 0 136 [a0, a1, a2, vA r, a4, a5] S h Q ↔ WP 79 0 137 [a0, a1, a2, vA r, a4, a5] (vA r :: S) h Q := wp_aload rfl rfl
theorem s79_137 : WP 79 0 137 [a0, a1, a2, a3, a4, vI x] S h Q ↔ WP 79 0 139 [a0, a1, a2, a3, a4, vI x] (vI x :: S) h Q := wp_iload rfl rfl
theorem s79_139 : WP 79 0 139 L (vI x0 :: vA (some a) :: S) h Q ↔ ((hk h a).1 = 115 ∧ (zw S ≤ 8 ∧ WP 301 0 0 [vA (some a), vI x0, vJ, vJ, vJ] [] h (zret 79 0 139 142 L S Q))) := wp_V1 (c := 115) rfl rfl (fun _ => rfl) rfl rfl (zcan_of rfl rfl) rfl rfl rfl
theorem s79_142 : WP 79 0 142 [a0, a1, a2, a3, a4, a5] (vI x :: S) h Q ↔ WP 79 0 144 [a0, a1, a2, a3, vI x, a5] S h Q := wp_istore rfl rfl rfl
theorem s79_144 : WP 79 0 144 L S h Q ↔ WP 79 0 90 L S h Q := wp_pl rfl rfl rfl
theorem s79_147 : WP 79 0 147 [a0, a1, vI x, a3, a4, a5] S h Q ↔ WP 79 0 150 [a0, a1, vI (wr (x + 1)), a3, a4, a5] S h Q := wp_iinc rfl rfl rfl
theorem s79_150 : WP 79 0 150 L S h Q ↔ WP 79 0 10 L S h Q := wp_pl rfl rfl rfl
theorem s79_153 : WP 79 0 153 [a0, vA r, a2, a3, a4, a5] S h Q ↔ WP 79 0 154 [a0, vA r, a2, a3, a4, a5] (vA r :: S) h Q := wp_aload rfl rfl
theorem s79_154 : WP 79 0 154 L (vA (some a) :: S) h Q ↔ ((hk h a).1 = 111 ∧ (zw S ≤ 8 ∧ WP 398 0 0 [vA (some a)] [] h (zret 79 0 154 157 L S Q))) := wp_V1 (c := 111) rfl rfl (fun _ => rfl) rfl rfl (zcan_of rfl rfl) rfl rfl rfl
theorem s79_157 : WP 79 0 157 [a0, a1, a2, a3, a4, a5] (vA r :: S) h Q ↔ WP 79 0 158 [a0, a1, vA r, a3, a4, a5] S h Q := wp_astore rfl rfl rfl
theorem s79_158 : WP 79 0 158 [a0, a1, vA r, a3, a4, a5] S h Q ↔ WP 79 0 159 [a0, a1, vA r, a3, a4, a5] (vA r :: S) h Q := wp_aload rfl rfl
theorem s79_159 : WP 79 0 159 L (vA (some a) :: S) h Q ↔ ((hk h a).1 = 113 ∧ (zw S ≤ 8 ∧ WP 274 0 0 [vA (some a)] [] h (zret 79 0 159 164 L S Q))) := wp_F1 (c := 113) rfl rfl (fun _ => rfl) rfl rfl (zcan_of rfl rfl) rfl rfl rfl
theorem s79_164 : WP 79 0 164 L (vI x :: S) h Q ↔ zif (x = 0) (WP 79 0 205 L S h Q) (WP 79 0 167 L S h Q) := wp_bE zc_eq rfl rfl rfl
theorem s79_167 : WP 79 0 167 [a0, a1, vA r, a3, a4, a5] S h Q ↔ WP 79 0 168 [a0, a1, vA r, a3, a4, a5] (vA r :: S) h Q := wp_aload rfl rfl
theorem s79_168 : WP 79 0 168 L (vA (some a) :: S) h Q ↔ ((hk h a).1 = 113 ∧ (zw S ≤ 8 ∧ WP 276 0 0 [vA (some a)] [] h (zret 79 0 168 173 L S Q))) := wp_F1 (c := 113) rfl rfl (fun _ => rfl) rfl rfl (zcan_of rfl rfl) rfl rfl rfl
theorem s79_173n : WP 79 0 173 L (vA none :: S) h Q ↔ WP 79 0 176 L (vA none :: S) h Q := wp_pl rfl rfl rfl
theorem s79_173 : WP 79 0 173 L (vA (some a) :: S) h Q ↔ (zCX 5 (hk h a).1 a = true ∧ WP 79 0 176 L (vA (some a) :: S) h Q) := wp_if rfl rfl rfl
theorem s79_176 : WP 79 0 176 [a0, a1, a2, a3, a4, a5] (vA r :: S) h Q ↔ WP 79 0 177 [a0, a1, a2, vA r, a4, a5] S h Q := wp_astore rfl rfl rfl
theorem s79_177 : WP 79 0 177 [vA r, a1, a2, a3, a4, a5] S h Q ↔ WP 79 0 178 [vA r, a1, a2, a3, a4, a5] (vA r :: S) h Q := wp_aload rfl rfl
theorem s79_178 : WP 79 0 178 [a0, a1, a2, vA r, a4, a5] S h Q ↔ WP 79 0 179 [a0, a1, a2, vA r, a4, a5] (vA r :: S) h Q := wp_aload rfl rfl
theorem s79_179 : WP 79 0 179 L (vA (some a) :: S) h Q ↔ (zhas 30 (hk h a) = true ∧ WP 79 0 182 L (hm h a 30 :: S) h Q) := wp_if rfl rfl rfl
theorem s79_182 : WP 79 0 182 [a0, a1, a2, vA r, a4, a5] S h Q ↔ WP 79 0 183 [a0, a1, a2, vA r, a4, a5] (vA r :: S) h Q := wp_aload rfl rfl
theorem s79_183 : WP 79 0 183 L (vA (some a) :: S) h Q ↔ (zhas 31 (hk h a) = true ∧ WP 79 0 186 L (hm h a 31 :: S) h Q) := wp_if rfl rfl rfl
theorem s79_186 : WP 79 0 186 L (vI x1 :: vI x0 :: vA (some a) :: S) h Q ↔ ((hk h a).1 = 100 ∧ (zw S ≤ 8 ∧ WP 49 0 0 [vA (some a), vI x0, vI x1, vJ] [] h (zret 79 0 186 189 L S Q))) := wp_V1 (c := 100) rfl rfl (fun _ => rfl) rfl rfl (zcan_of rfl rfl) rfl rfl rfl
theorem s79_189 : WP 79 0 189 [a0, a1, a2, vA r, a4, a5] S h Q ↔ WP 79 0 190 [a0, a1, a2, vA r, a4, a5] (vA r :: S) h Q := wp_aload rfl rfl
theorem s79_190 : WP 79 0 190 L (vA (some a) :: S) h Q ↔ (zhas 32 (hk h a) = true ∧ WP 79 0 193 L (hm h a 32 :: S) h Q) := wp_if rfl rfl rfl
theorem s79_193 : WP 79 0 193 L (vI y :: vI x :: S) h Q ↔ zif (x < y) (WP 79 0 196 L S h Q) (WP 79 0 202 L S h Q) := wp_bN zc_lt rfl rfl rfl
theorem s79_196 : WP 79 0 196 [a0, a1, vA r, a3, a4, a5] S h Q ↔ WP 79 0 197 [a0, a1, vA r, a3, a4, a5] (vA r :: S) h Q := wp_aload rfl rfl
theorem s79_197 : WP 79 0 197 L (vA (some a) :: S) h Q ↔ ((hk h a).1 = 113 ∧ (zw S ≤ 8 ∧ WP 277 0 0 [vA (some a), vJ] [] h (zret 79 0 197 202 L S Q))) := wp_F1 (c := 113) rfl rfl (fun _ => rfl) rfl rfl (zcan_of rfl rfl) rfl rfl rfl
theorem s79_202 : WP 79 0 202 L S h Q ↔ WP 79 0 158 L S h Q := wp_pl rfl rfl rfl
theorem s79_205 : WP 79 0 205 L S h Q ↔ WP 79 0 208 L (vA (some (hn h)) :: S) (hnew h (111, 0) 4 zdf) Q := wp_pl rfl rfl rfl
theorem s79_208 : WP 79 0 208 L (vA r :: S) h Q ↔ WP 79 0 209 L (vA r :: vA r :: S) h Q := wp_pl rfl rfl rfl
theorem s79_208i : WP 79 0 208 L (vI x :: S) h Q ↔ WP 79 0 209 L (vI x :: vI x :: S) h Q := wp_pl rfl rfl rfl
theorem s79_209 : WP 79 0 209 L (vA (some a) :: S) h Q ↔ ((zNC ≤ a ∧ 100 ≤ (hk h a).1) ∧ zw S ≤ 8 ∧ WP 262 0 0 [vA (some a)] [] h (zret 79 0 209 212 L S Q)) := wp_I rfl rfl rfl (zcan_of rfl rfl) rfl rfl rfl
theorem s79_212 : WP 79 0 212 [a0, a1, a2, a3, a4, a5] (vA r :: S) h Q ↔ WP 79 0 213 [a0, a1, vA r, a3, a4, a5] S h Q := wp_astore rfl rfl rfl
theorem s79_213 : WP 79 0 213 [a0, vA r, a2, a3, a4, a5] S h Q ↔ WP 79 0 214 [a0, vA r, a2, a3, a4, a5] (vA r :: S) h Q := wp_aload rfl rfl
theorem s79_214 : WP 79 0 214 L (vA (some a) :: S) h Q ↔ ((hk h a).1 = 111 ∧ (zw S ≤ 8 ∧ WP 398 0 0 [vA (some a)] [] h (zret 79 0 214 217 L S Q))) := wp_V1 (c := 111) rfl rfl (fun _ => rfl) rfl rfl (zcan_of rfl rfl) rfl rfl rfl
theorem s79_217 : WP 79 0 217 [a0, a1, a2, a3, a4, a5] (vA r :: S) h Q ↔ WP 79 0 218 [a0, a1, a2, vA r, a4, a5] S h Q := wp_astore rfl rfl rfl
theorem s79_218 : WP 79 0 218 [a0, a1, a2, vA r, a4, a5] S h Q ↔ WP 79 0 219 [a0, a1, a2, vA r, a4, a5] (vA r :: S) h Q := wp_aload rfl rfl
theorem s79_219 : WP 79 0 219 L (vA (some a) :: S) h Q ↔ ((hk h a).1 = 113 ∧ (zw S ≤ 8 ∧ WP 274 0 0 [vA (some a)] [] h (zret 79 0 219 224 L S Q))) := wp_F1 (c := 113) rfl rfl (fun _ => rfl) rfl rfl (zcan_of rfl rfl) rfl rfl rfl
theorem s79_224 : WP 79 0 224 L (vI x :: S) h Q ↔ zif (x = 0) (WP 79 0 285 L S h Q) (WP 79 0 227 L S h Q) := wp_bE zc_eq rfl rfl rfl
theorem s79_227 : WP 79 0 227 [a0, a1, a2, vA r, a4, a5] S h Q ↔ WP 79 0 228 [a0, a1, a2, vA r, a4, a5] (vA r :: S) h Q := wp_aload rfl rfl
theorem s79_228 : WP 79 0 228 L (vA (some a) :: S) h Q ↔ ((hk h a).1 = 113 ∧ (zw S ≤ 8 ∧ WP 276 0 0 [vA (some a)] [] h (zret 79 0 228 233 L S Q))) := wp_F1 (c := 113) rfl rfl (fun _ => rfl) rfl rfl (zcan_of rfl rfl) rfl rfl rfl
theorem s79_233n : WP 79 0 233 L (vA none :: S) h Q ↔ WP 79 0 236 L (vA none :: S) h Q := wp_pl rfl rfl rfl
theorem s79_233 : WP 79 0 233 L (vA (some a) :: S) h Q ↔ (zCX 5 (hk h a).1 a = true ∧ WP 79 0 236 L (vA (some a) :: S) h Q) := wp_if rfl rfl rfl
theorem s79_236 : WP 79 0 236 [a0, a1, a2, a3, a4, a5] (vA r :: S) h Q ↔ WP 79 0 238 [a0, a1, a2, a3, vA r, a5] S h Q := wp_astore rfl rfl rfl
theorem s79_238 : WP 79 0 238 [a0, a1, vA r, a3, a4, a5] S h Q ↔ WP 79 0 239 [a0, a1, vA r, a3, a4, a5] (vA r :: S) h Q := wp_aload rfl rfl
theorem s79_239 : WP 79 0 239 L (vA (some a) :: S) h Q ↔ ((hk h a).1 = 111 ∧ (zw S ≤ 8 ∧ WP 270 0 0 [vA (some a)] [] h (zret 79 0 239 242 L S Q))) := wp_V1 (c := 111) rfl rfl (fun _ => rfl) rfl rfl (zcan_of rfl rfl) rfl rfl rfl
theorem s79_242 : WP 79 0 242 [a0, a1, a2, a3, a4, a5] (vI x :: S) h Q ↔ WP 79 0 244 [a0, a1, a2, a3, a4, vI x] S h Q := wp_istore rfl rfl rfl
theorem s79_244 : WP 79 0 244 [a0, a1, a2, a3, a4, vI x] S h Q ↔ WP 79 0 246 [a0, a1, a2, a3, a4, vI x] (vI x :: S) h Q := wp_iload rfl rfl
theorem s79_246 : WP 79 0 246 L (vI x :: S) h Q ↔ zif (0 < x) (WP 79 0 249 L S h Q) (WP 79 0 274 L S h Q) := wp_bN zc_gt rfl rfl rfl
theorem s79_249 : WP 79 0 249 [a0, a1, vA r, a3, a4, a5] S h Q ↔ WP 79 0 250 [a0, a1, vA r, a3, a4, a5] (vA r :: S) h Q := wp_aload rfl rfl
theorem s79_250 : WP 79 0 250 [a0, a1, a2, a3, a4, vI x] S h Q ↔ WP 79 0 252 [a0, a1, a2, a3, a4, vI x] (vI x :: S) h Q := wp_iload rfl rfl
theorem s79_252 : WP 79 0 252 L S h Q ↔ WP 79 0 253 L (vI 1 :: S) h Q := wp_pl rfl rfl rfl
theorem s79_253 : WP 79 0 253 L (vI y :: vI x :: S) h Q ↔ WP 79 0 254 L (vI (wr (x - y)) :: S) h Q := wp_pl rfl rfl rfl
theorem s79_254 : WP 79 0 254 L (vI x0 :: vA (some a) :: S) h Q ↔ ((hk h a).1 = 111 ∧ (zw S ≤ 8 ∧ WP 260 0 0 [vA (some a), vI x0] [] h (zret 79 0 254 257 L S Q))) := wp_V1 (c := 111) rfl rfl (fun _ => rfl) rfl rfl (zcan_of rfl rfl) rfl rfl rfl
theorem s79_257n : WP 79 0 257 L (vA none :: S) h Q ↔ WP 79 0 260 L (vA none :: S) h Q := wp_pl rfl rfl rfl
theorem s79_257 : WP 79 0 257 L (vA (some a) :: S) h Q ↔ (zCX 5 (hk h a).1 a = true ∧ WP 79 0 260 L (vA (some a) :: S) h Q) := wp_if rfl rfl rfl
theorem s79_260 : WP 79 0 260 [a0, a1, a2, a3, vA r, a5] S h Q ↔ WP 79 0 262 [a0, a1, a2, a3, vA r, a5] (vA r :: S) h Q := wp_aload rfl rfl
theorem s79_262 : WP 79 0 262 L (vA r0 :: vA (some a) :: S) h Q ↔ ((hk h a).1 = 107 ∧ (zw S ≤ 8 ∧ WP 118 0 0 [vA (some a), vA r0] [] h (zret 79 0 262 265 L S Q))) := wp_V1 (c := 107) rfl rfl (fun _ => rfl) rfl rfl (zcan_of rfl rfl) rfl rfl rfl
theorem s79_265 : WP 79 0 265 L (vI x :: S) h Q ↔ zif (0 < x) (WP 79 0 268 L S h Q) (WP 79 0 274 L S h Q) := wp_bN zc_gt rfl rfl rfl
theorem s79_268 : WP 79 0 268 [a0, a1, a2, a3, a4, vI x] S h Q ↔ WP 79 0 271 [a0, a1, a2, a3, a4, vI (wr (x + (-1)))] S h Q := wp_iinc rfl rfl rfl
theorem s79_271 : WP 79 0 271 L S h Q ↔ WP 79 0 244 L S h Q := wp_pl rfl rfl rfl
theorem s79_274 : WP 79 0 274 [a0, a1, vA r, a3, a4, a5] S h Q ↔ WP 79 0 275 [a0, a1, vA r, a3, a4, a5] (vA r :: S) h Q := wp_aload rfl rfl
theorem s79_275 : WP 79 0 275 [a0, a1, a2, a3, a4, vI x] S h Q ↔ WP 79 0 277 [a0, a1, a2, a3, a4, vI x] (vI x :: S) h Q := wp_iload rfl rfl
theorem s79_277 : WP 79 0 277 [a0, a1, a2, a3, vA r, a5] S h Q ↔ WP 79 0 279 [a0, a1, a2, a3, vA r, a5] (vA r :: S) h Q := wp_aload rfl rfl
theorem s79_279 : WP 79 0 279 L (vA r1 :: vI x0 :: vA (some a) :: S) h Q ↔ ((hk h a).1 = 111 ∧ (zw S ≤ 8 ∧ WP 256 0 0 [vA (some a), vI x0, vA r1] [] h (zret 79 0 279 282 L S Q))) := wp_V1 (c := 111) rfl rfl (fun _ => rfl) rfl rfl (zcan_of rfl rfl) rfl rfl rfl
theorem s79_282 : WP 79 0 282 L S h Q ↔ WP 79 0 218 L S h Q := wp_pl rfl rfl rfl
theorem s79_285 : WP 79 0 285 [a0, a1, vA r, a3, a4, a5] S h Q ↔ WP 79 0 286 [a0, a1, vA r, a3, a4, a5] (vA r :: S) h Q := wp_aload rfl rfl
theorem s79_286 : WP 79 0 286 L [vA r] h Q ↔ Q (.inl (some (vA r))) h := wp_aret rfl
/-! RepeatFree.sources(I)J -/
theorem s80_0 : WP 80 0 0 [vA r, a1, a2, a3, a4, a5] S h Q ↔ WP 80 0 1 [vA r, a1, a2, a3, a4, a5] (vA r :: S) h Q := wp_aload rfl rfl
theorem s80_1 : WP 80 0 1 [a0, vI x, a2, a3, a4, a5] S h Q ↔ WP 80 0 2 [a0, vI x, a2, a3, a4, a5] (vI x :: S) h Q := wp_iload rfl rfl
theorem s80_2 : WP 80 0 2 L (vI x0 :: vA (some a) :: S) h Q ↔ ((hk h a).1 = 100 ∧ (zw S ≤ 8 ∧ WP 59 0 0 [vA (some a), vI x0] [] h (zret 80 0 2 5 L S Q))) := wp_V1 (c := 100) rfl rfl (fun _ => rfl) rfl rfl (zcan_of rfl rfl) rfl rfl rfl
theorem s80_5 : WP 80 0 5 [a0, a1, a2, a3, a4, a5] (vA r :: S) h Q ↔ WP 80 0 6 [a0, a1, vA r, a3, a4, a5] S h Q := wp_astore rfl rfl rfl
theorem s80_6 : WP 80 0 6 [vA r, a1, a2, a3, a4, a5] S h Q ↔ WP 80 0 7 [vA r, a1, a2, a3, a4, a5] (vA r :: S) h Q := wp_aload rfl rfl
theorem s80_7 : WP 80 0 7 L (vA (some a) :: S) h Q ↔ (zhas 6 (hk h a) = true ∧ WP 80 0 10 L (hm h a 6 :: S) h Q) := wp_if rfl rfl rfl
theorem s80_10 : WP 80 0 10 L (vA (some a) :: S) h Q ↔ (zhas 15 (hk h a) = true ∧ WP 80 0 13 L (hm h a 15 :: S) h Q) := wp_if rfl rfl rfl
theorem s80_13 : WP 80 0 13 L S h Q ↔ WP 80 0 14 L (vI 1 :: S) h Q := wp_pl rfl rfl rfl
theorem s80_14 : WP 80 0 14 L (vI y :: vI x :: S) h Q ↔ WP 80 0 15 L (vI (wr (x + y)) :: S) h Q := wp_pl rfl rfl rfl
theorem s80_15 : WP 80 0 15 L (vI x :: S) h Q ↔ ((0 ≤ x ∧ x ≤ 1000000) ∧ WP 80 0 17 L (vA (some (hn h)) :: S) (hnew h (4, x.toNat) x.toNat (fun _ => vL 0)) Q) := wp_if rfl rfl rfl
theorem s80_17 : WP 80 0 17 [a0, a1, a2, a3, a4, a5] (vA r :: S) h Q ↔ WP 80 0 18 [a0, a1, a2, vA r, a4, a5] S h Q := wp_astore rfl rfl rfl
theorem s80_18 : WP 80 0 18 [a0, a1, a2, vA r, a4, a5] S h Q ↔ WP 80 0 19 [a0, a1, a2, vA r, a4, a5] (vA r :: S) h Q := wp_aload rfl rfl
theorem s80_19 : WP 80 0 19 L S h Q ↔ WP 80 0 20 L (vI 0 :: S) h Q := wp_pl rfl rfl rfl
theorem s80_20 : WP 80 0 20 L S h Q ↔ WP 80 0 21 L (vL 1 :: S) h Q := wp_pl rfl rfl rfl
theorem s80_21 : WP 80 0 21 L (vL y :: vI x :: vA (some a) :: S) h Q ↔ (((hk h a).1 = 4 ∧ (0 ≤ x ∧ x < ((hk h a).2 : Int)) ∧ zNC ≤ a) ∧ WP 80 0 22 L S (hput h a x.toNat (vL y)) Q) := wp_if rfl rfl rfl
theorem s80_22 : WP 80 0 22 L S h Q ↔ WP 80 0 23 L (vI 0 :: S) h Q := wp_pl rfl rfl rfl
theorem s80_23 : WP 80 0 23 [a0, a1, a2, a3, a4, a5] (vI x :: S) h Q ↔ WP 80 0 25 [a0, a1, a2, a3, vI x, a5] S h Q := wp_istore rfl rfl rfl
theorem s80_25 : WP 80 0 25 [a0, a1, a2, a3, vI x, a5] S h Q ↔ WP 80 0 27 [a0, a1, a2, a3, vI x, a5] (vI x :: S) h Q := wp_iload rfl rfl
theorem s80_27 : WP 80 0 27 [vA r, a1, a2, a3, a4, a5] S h Q ↔ WP 80 0 28 [vA r, a1, a2, a3, a4, a5] (vA r :: S) h Q := wp_aload rfl rfl
theorem s80_28 : WP 80 0 28 L (vA (some a) :: S) h Q ↔ (zhas 6 (hk h a) = true ∧ WP 80 0 31 L (hm h a 6 :: S) h Q) := wp_if rfl rfl rfl
theorem s80_31 : WP 80 0 31 L (vA (some a) :: S) h Q ↔ (zhas 15 (hk h a) = true ∧ WP 80 0 34 L (hm h a 15 :: S) h Q) := wp_if rfl rfl rfl
theorem s80_34 : WP 80 0 34 L (vI y :: vI x :: S) h Q ↔ zif (x < y) (WP 80 0 37 L S h Q) (WP 80 0 100 L S h Q) := wp_bN zc_lt rfl rfl rfl
theorem s80_37 : WP 80 0 37 L S h Q ↔ WP 80 0 38 L (vI 0 :: S) h Q := wp_pl rfl rfl rfl
theorem s80_38 : WP 80 0 38 [a0, a1, a2, a3, a4, a5] (vI x :: S) h Q ↔ WP 80 0 40 [a0, a1, a2, a3, a4, vI x] S h Q := wp_istore rfl rfl rfl
theorem s80_40 : WP 80 0 40 [a0, a1, a2, a3, a4, vI x] S h Q ↔ WP 80 0 42 [a0, a1, a2, a3, a4, vI x] (vI x :: S) h Q := wp_iload rfl rfl
theorem s80_42 : WP 80 0 42 [vA r, a1, a2, a3, a4, a5] S h Q ↔ WP 80 0 43 [vA r, a1, a2, a3, a4, a5] (vA r :: S) h Q := wp_aload rfl rfl
theorem s80_43 : WP 80 0 43 L (vA (some a) :: S) h Q ↔ (zhas 4 (hk h a) = true ∧ WP 80 0 46 L (hm h a 4 :: S) h Q) := wp_if rfl rfl rfl
theorem s80_46 : WP 80 0 46 L (vA (some a) :: S) h Q ↔ (zhas 12 (hk h a) = true ∧ WP 80 0 49 L (hm h a 12 :: S) h Q) := wp_if rfl rfl rfl
theorem s80_49 : WP 80 0 49 L (vI y :: vI x :: S) h Q ↔ zif (x < y) (WP 80 0 52 L S h Q) (WP 80 0 94 L S h Q) := wp_bN zc_lt rfl rfl rfl
theorem s80_52 : WP 80 0 52 [vA r, a1, a2, a3, a4, a5] S h Q ↔ WP 80 0 53 [vA r, a1, a2, a3, a4, a5] (vA r :: S) h Q := wp_aload rfl rfl
theorem s80_53 : WP 80 0 53 [a0, a1, vA r, a3, a4, a5] S h Q ↔ WP 80 0 54 [a0, a1, vA r, a3, a4, a5] (vA r :: S) h Q := wp_aload rfl rfl
theorem s80_54 : WP 80 0 54 L (vA (some a) :: S) h Q ↔ (zhas 20 (hk h a) = true ∧ WP 80 0 57 L (hm h a 20 :: S) h Q) := wp_if rfl rfl rfl
theorem s80_57 : WP 80 0 57 [a0, a1, a2, a3, a4, vI x] S h Q ↔ WP 80 0 59 [a0, a1, a2, a3, a4, vI x] (vI x :: S) h Q := wp_iload rfl rfl
theorem s80_59 : WP 80 0 59 L (vI x :: vA (some a) :: S) h Q ↔ ((((5 ≤ (hk h a).1 ∧ (hk h a).1 ≤ 7) ∧ 0 ≤ x ∧ x < ((hk h a).2 : Int)) ∨ ((hk h a).1 = 8 ∧ 128 ≤ x ∧ x < 144)) ∧ WP 80 0 60 L (hm h a x.toNat :: S) h Q) := wp_if rfl rfl rfl
theorem s80_60 : WP 80 0 60 [a0, a1, a2, a3, vI x, a5] S h Q ↔ WP 80 0 62 [a0, a1, a2, a3, vI x, a5] (vI x :: S) h Q := wp_iload rfl rfl
theorem s80_62 : WP 80 0 62 L (vI x1 :: vA r0 :: vA (some a) :: S) h Q ↔ ((hk h a).1 = 100 ∧ (zw S ≤ 8 ∧ WP 81 0 0 [vA (some a), vA r0, vI x1, vJ] [] h (zret 80 0 62 65 L S Q))) := wp_V1 (c := 100) rfl rfl (fun _ => rfl) rfl rfl (zcan_of rfl rfl) rfl rfl rfl
theorem s80_65 : WP 80 0 65 L (vI x :: S) h Q ↔ zif (x = 0) (WP 80 0 88 L S h Q) (WP 80 0 68 L S h Q) := wp_bE zc_eq rfl rfl rfl
theorem s80_68 : WP 80 0 68 [a0, a1, a2, vA r, a4, a5] S h Q ↔ WP 80 0 69 [a0, a1, a2, vA r, a4, a5] (vA r :: S) h Q := wp_aload rfl rfl
theorem s80_69 : WP 80 0 69 [a0, a1, a2, a3, vI x, a5] S h Q ↔ WP 80 0 71 [a0, a1, a2, a3, vI x, a5] (vI x :: S) h Q := wp_iload rfl rfl
theorem s80_71 : WP 80 0 71 [a0, a1, vA r, a3, a4, a5] S h Q ↔ WP 80 0 72 [a0, a1, vA r, a3, a4, a5] (vA r :: S) h Q := wp_aload rfl rfl
theorem s80_72 : WP 80 0 72 L (vA (some a) :: S) h Q ↔ (zhas 20 (hk h a) = true ∧ WP 80 0 75 L (hm h a 20 :: S) h Q) := wp_if rfl rfl rfl
theorem s80_75 : WP 80 0 75 [a0, a1, a2, a3, a4, vI x] S h Q ↔ WP 80 0 77 [a0, a1, a2, a3, a4, vI x] (vI x :: S) h Q := wp_iload rfl rfl
theorem s80_77 : WP 80 0 77 L (vI x :: vA (some a) :: S) h Q ↔ ((((5 ≤ (hk h a).1 ∧ (hk h a).1 ≤ 7) ∧ 0 ≤ x ∧ x < ((hk h a).2 : Int)) ∨ ((hk h a).1 = 8 ∧ 128 ≤ x ∧ x < 144)) ∧ WP 80 0 78 L (hm h a x.toNat :: S) h Q) := wp_if rfl rfl rfl
theorem s80_78 : WP 80 0 78 L (vA (some a) :: S) h Q ↔ ((1 ≤ (hk h a).1 ∧ (hk h a).1 ≤ 7) ∧ WP 80 0 79 L (vI ((hk h a).2 : Int) :: S) h Q) := wp_if rfl rfl rfl
theorem s80_79 : WP 80 0 79 L (vI y :: vI x :: S) h Q ↔ WP 80 0 80 L (vI (wr (x + y)) :: S) h Q := wp_pl rfl rfl rfl
theorem s80_80 : WP 80 0 80 L (vI y :: vA r :: S) h Q ↔ WP 80 0 81 L (vI y :: vA r :: vI y :: vA r :: S) h Q := wp_pl rfl rfl rfl
theorem s80_80l : WP 80 0 80 L (vL x :: S) h Q ↔ WP 80 0 81 L (vL x :: vL x :: S) h Q := wp_pl rfl rfl rfl
theorem s80_81 : WP 80 0 81 L (vI x :: vA (some a) :: S) h Q ↔ (((hk h a).1 = 4 ∧ 0 ≤ x ∧ x < ((hk h a).2 : Int)) ∧ WP 80 0 82 L (hm h a x.toNat :: S) h Q) := wp_if rfl rfl rfl
theorem s80_82 : WP 80 0 82 [a0, a1, a2, vA r, a4, a5] S h Q ↔ WP 80 0 83 [a0, a1, a2, vA r, a4, a5] (vA r :: S) h Q := wp_aload rfl rfl
theorem s80_83 : WP 80 0 83 [a0, a1, a2, a3, vI x, a5] S h Q ↔ WP 80 0 85 [a0, a1, a2, a3, vI x, a5] (vI x :: S) h Q := wp_iload rfl rfl
theorem s80_85 : WP 80 0 85 L (vI x :: vA (some a) :: S) h Q ↔ (((hk h a).1 = 4 ∧ 0 ≤ x ∧ x < ((hk h a).2 : Int)) ∧ WP 80 0 86 L (hm h a x.toNat :: S) h Q) := wp_if rfl rfl rfl
theorem s80_86 : WP 80 0 86 L (vL y :: vL x :: S) h Q ↔ WP 80 0 87 L (vL (wl (x + y)) :: S) h Q := wp_pl rfl rfl rfl
theorem s80_87 : WP 80 0 87 L (vL y :: vI x :: vA (some a) :: S) h Q ↔ (((hk h a).1 = 4 ∧ (0 ≤ x ∧ x < ((hk h a).2 : Int)) ∧ zNC ≤ a) ∧ WP 80 0 88 L S (hput h a x.toNat (vL y)) Q) := wp_if rfl rfl rfl
theorem s80_88 : WP 80 0 88 [a0, a1, a2, a3, a4, vI x] S h Q ↔ WP 80 0 91 [a0, a1, a2, a3, a4, vI (wr (x + 1))] S h Q := wp_iinc rfl rfl rfl
theorem s80_91 : WP 80 0 91 L S h Q ↔ WP 80 0 40 L S h Q := wp_pl rfl rfl rfl
theorem s80_94 : WP 80 0 94 [a0, a1, a2, a3, vI x, a5] S h Q ↔ WP 80 0 97 [a0, a1, a2, a3, vI (wr (x + 1)), a5] S h Q := wp_iinc rfl rfl rfl
theorem s80_97 : WP 80 0 97 L S h Q ↔ WP 80 0 25 L S h Q := wp_pl rfl rfl rfl
theorem s80_100 : WP 80 0 100 [a0, a1, a2, vA r, a4, a5] S h Q ↔ WP 80 0 101 [a0, a1, a2, vA r, a4, a5] (vA r :: S) h Q := wp_aload rfl rfl
theorem s80_101 : WP 80 0 101 [vA r, a1, a2, a3, a4, a5] S h Q ↔ WP 80 0 102 [vA r, a1, a2, a3, a4, a5] (vA r :: S) h Q := wp_aload rfl rfl
theorem s80_102 : WP 80 0 102 L (vA (some a) :: S) h Q ↔ (zhas 6 (hk h a) = true ∧ WP 80 0 105 L (hm h a 6 :: S) h Q) := wp_if rfl rfl rfl
theorem s80_105 : WP 80 0 105 L (vA (some a) :: S) h Q ↔ (zhas 15 (hk h a) = true ∧ WP 80 0 108 L (hm h a 15 :: S) h Q) := wp_if rfl rfl rfl
theorem s80_108 : WP 80 0 108 L (vI x :: vA (some a) :: S) h Q ↔ (((hk h a).1 = 4 ∧ 0 ≤ x ∧ x < ((hk h a).2 : Int)) ∧ WP 80 0 109 L (hm h a x.toNat :: S) h Q) := wp_if rfl rfl rfl
theorem s80_109 : WP 80 0 109 L [vL x] h Q ↔ Q (.inl (some (vL x))) h := wp_lret rfl
/-! RepeatFree.stands([BI)Z -/
theorem s81_0 : WP 81 0 0 [a0, a1, vI x, a3] S h Q ↔ WP 81 0 1 [a0, a1, vI x, a3] (vI x :: S) h Q := wp_iload rfl rfl
theorem s81_1 : WP 81 0 1 [a0, vA r, a2, a3] S h Q ↔ WP 81 0 2 [a0, vA r, a2, a3] (vA r :: S) h Q := wp_aload rfl rfl
theorem s81_2 : WP 81 0 2 L (vA (some a) :: S) h Q ↔ ((1 ≤ (hk h a).1 ∧ (hk h a).1 ≤ 7) ∧ WP 81 0 3 L (vI ((hk h a).2 : Int) :: S) h Q) := wp_if rfl rfl rfl
theorem s81_3 : WP 81 0 3 L (vI y :: vI x :: S) h Q ↔ WP 81 0 4 L (vI (wr (x + y)) :: S) h Q := wp_pl rfl rfl rfl
theorem s81_4 : WP 81 0 4 [vA r, a1, a2, a3] S h Q ↔ WP 81 0 5 [vA r, a1, a2, a3] (vA r :: S) h Q := wp_aload rfl rfl
theorem s81_5 : WP 81 0 5 L (vA (some a) :: S) h Q ↔ (zhas 6 (hk h a) = true ∧ WP 81 0 8 L (hm h a 6 :: S) h Q) := wp_if rfl rfl rfl
theorem s81_8 : WP 81 0 8 L (vA (some a) :: S) h Q ↔ (zhas 15 (hk h a) = true ∧ WP 81 0 11 L (hm h a 15 :: S) h Q) := wp_if rfl rfl rfl
theorem s81_11 : WP 81 0 11 L (vI y :: vI x :: S) h Q ↔ zif (y < x) (WP 81 0 14 L S h Q) (WP 81 0 16 L S h Q) := wp_bN zc_gt rfl rfl rfl
theorem s81_14 : WP 81 0 14 L S h Q ↔ WP 81 0 15 L (vI 0 :: S) h Q := wp_pl rfl rfl rfl
theorem s81_15 : WP 81 0 15 L [vI x] h Q ↔ ((x = 0 ∨ x = 1) ∧ Q (.inl (some (vI x))) h) := wp_iret rfl rfl
theorem s81_16 : WP 81 0 16 L S h Q ↔ WP 81 0 17 L (vI 0 :: S) h Q := wp_pl rfl rfl rfl
theorem s81_17 : WP 81 0 17 [a0, a1, a2, a3] (vI x :: S) h Q ↔ WP 81 0 18 [a0, a1, a2, vI x] S h Q := wp_istore rfl rfl rfl
theorem s81_18 : WP 81 0 18 [a0, a1, a2, vI x] S h Q ↔ WP 81 0 19 [a0, a1, a2, vI x] (vI x :: S) h Q := wp_iload rfl rfl
theorem s81_19 : WP 81 0 19 [a0, vA r, a2, a3] S h Q ↔ WP 81 0 20 [a0, vA r, a2, a3] (vA r :: S) h Q := wp_aload rfl rfl
theorem s81_20 : WP 81 0 20 L (vA (some a) :: S) h Q ↔ ((1 ≤ (hk h a).1 ∧ (hk h a).1 ≤ 7) ∧ WP 81 0 21 L (vI ((hk h a).2 : Int) :: S) h Q) := wp_if rfl rfl rfl
theorem s81_21 : WP 81 0 21 L (vI y :: vI x :: S) h Q ↔ zif (x < y) (WP 81 0 24 L S h Q) (WP 81 0 49 L S h Q) := wp_bN zc_lt rfl rfl rfl
theorem s81_24 : WP 81 0 24 [vA r, a1, a2, a3] S h Q ↔ WP 81 0 25 [vA r, a1, a2, a3] (vA r :: S) h Q := wp_aload rfl rfl
theorem s81_25 : WP 81 0 25 L (vA (some a) :: S) h Q ↔ (zhas 6 (hk h a) = true ∧ WP 81 0 28 L (hm h a 6 :: S) h Q) := wp_if rfl rfl rfl
theorem s81_28 : WP 81 0 28 L (vA (some a) :: S) h Q ↔ (zhas 14 (hk h a) = true ∧ WP 81 0 31 L (hm h a 14 :: S) h Q) := wp_if rfl rfl rfl
theorem s81_31 : WP 81 0 31 [a0, a1, vI x, a3] S h Q ↔ WP 81 0 32 [a0, a1, vI x, a3] (vI x :: S) h Q := wp_iload rfl rfl
theorem s81_32 : WP 81 0 32 [a0, a1, a2, vI x] S h Q ↔ WP 81 0 33 [a0, a1, a2, vI x] (vI x :: S) h Q := wp_iload rfl rfl
theorem s81_33 : WP 81 0 33 L (vI y :: vI x :: S) h Q ↔ WP 81 0 34 L (vI (wr (x + y)) :: S) h Q := wp_pl rfl rfl rfl
theorem s81_34 : WP 81 0 34 L (vI x :: vA (some a) :: S) h Q ↔ ((((hk h a).1 = 2 ∨ (hk h a).1 = 3) ∧ 0 ≤ x ∧ x < ((hk h a).2 : Int)) ∧ WP 81 0 35 L (hm h a x.toNat :: S) h Q) := wp_if rfl rfl rfl
theorem s81_35 : WP 81 0 35 [a0, vA r, a2, a3] S h Q ↔ WP 81 0 36 [a0, vA r, a2, a3] (vA r :: S) h Q := wp_aload rfl rfl
theorem s81_36 : WP 81 0 36 [a0, a1, a2, vI x] S h Q ↔ WP 81 0 37 [a0, a1, a2, vI x] (vI x :: S) h Q := wp_iload rfl rfl
theorem s81_37 : WP 81 0 37 L (vI x :: vA (some a) :: S) h Q ↔ ((((hk h a).1 = 2 ∨ (hk h a).1 = 3) ∧ 0 ≤ x ∧ x < ((hk h a).2 : Int)) ∧ WP 81 0 38 L (hm h a x.toNat :: S) h Q) := wp_if rfl rfl rfl
theorem s81_38 : WP 81 0 38 L (vI y :: vI x :: S) h Q ↔ zif (x = y) (WP 81 0 43 L S h Q) (WP 81 0 41 L S h Q) := wp_bE zc_eq rfl rfl rfl
theorem s81_41 : WP 81 0 41 L S h Q ↔ WP 81 0 42 L (vI 0 :: S) h Q := wp_pl rfl rfl rfl
theorem s81_42 : WP 81 0 42 L [vI x] h Q ↔ ((x = 0 ∨ x = 1) ∧ Q (.inl (some (vI x))) h) := wp_iret rfl rfl
theorem s81_43 : WP 81 0 43 [a0, a1, a2, vI x] S h Q ↔ WP 81 0 46 [a0, a1, a2, vI (wr (x + 1))] S h Q := wp_iinc rfl rfl rfl
theorem s81_46 : WP 81 0 46 L S h Q ↔ WP 81 0 18 L S h Q := wp_pl rfl rfl rfl
theorem s81_49 : WP 81 0 49 L S h Q ↔ WP 81 0 50 L (vI 1 :: S) h Q := wp_pl rfl rfl rfl
theorem s81_50 : WP 81 0 50 L [vI x] h Q ↔ ((x = 0 ∨ x = 1) ∧ Q (.inl (some (vI x))) h) := wp_iret rfl rfl
/-! RepeatFree.stuck(I)I -/
theorem s82_0 : WP 82 0 0 [a0, vI x, a2, a3, a4] S h Q ↔ WP 82 0 1 [a0, vI x, a2, a3, a4] (vI x :: S) h Q := wp_iload rfl rfl
theorem s82_1 : WP 82 0 1 L (vI x :: S) h Q ↔ WP 82 0 2 L (vL x :: S) h Q := wp_pl rfl rfl rfl
theorem s82_2 : WP 82 0 2 L S h Q ↔ WP 82 0 3 L (vL 0 :: S) h Q := wp_pl rfl rfl rfl
theorem s82_3 : WP 82 0 3 L S h Q ↔ WP 82 0 6 L (vL (40) :: S) h Q := wp_pl rfl rfl rfl
theorem s82_6 : WP 82 0 6 L (vL x2 :: vL x1 :: vL x0 :: S) h Q ↔ (zw S ≤ 8 ∧ WP 38 0 0 [vL x0, vJ, vL x1, vJ, vL x2, vJ] [] h (zret 82 0 6 9 L S Q)) := wp_S rfl rfl (zcan_of rfl rfl) rfl rfl rfl
theorem s82_9 : WP 82 0 9 L (vI x0 :: S) h Q ↔ (zw S ≤ 8 ∧ WP 62 0 0 [vI x0] [] h (zret 82 0 9 12 L S Q)) := wp_S rfl rfl (zcan_of rfl rfl) rfl rfl rfl
theorem s82_12 : WP 82 0 12 L S h Q ↔ WP 82 0 15 L (vA (some (hn h)) :: S) (hnew h (106, 0) 4 zdf) Q := wp_pl rfl rfl rfl
theorem s82_15 : WP 82 0 15 L (vA r :: S) h Q ↔ WP 82 0 16 L (vA r :: vA r :: S) h Q := wp_pl rfl rfl rfl
theorem s82_15i : WP 82 0 15 L (vI x :: S) h Q ↔ WP 82 0 16 L (vI x :: vI x :: S) h Q := wp_pl rfl rfl rfl
theorem s82_16 : WP 82 0 16 [vA r, a1, a2, a3, a4] S h Q ↔ WP 82 0 17 [vA r, a1, a2, a3, a4] (vA r :: S) h Q := wp_aload rfl rfl
theorem s82_17 : WP 82 0 17 L S h Q ↔ WP 82 0 20 L (vA (some (hn h)) :: S) (hnew h (102, 0) 2 zdf) Q := wp_pl rfl rfl rfl
theorem s82_20 : WP 82 0 20 L (vA r :: S) h Q ↔ WP 82 0 21 L (vA r :: vA r :: S) h Q := wp_pl rfl rfl rfl
theorem s82_20i : WP 82 0 20 L (vI x :: S) h Q ↔ WP 82 0 21 L (vI x :: vI x :: S) h Q := wp_pl rfl rfl rfl
theorem s82_21 : WP 82 0 21 L (vA (some a) :: S) h Q ↔ ((zNC ≤ a ∧ 100 ≤ (hk h a).1) ∧ zw S ≤ 8 ∧ WP 100 0 0 [vA (some a)] [] h (zret 82 0 21 24 L S Q)) := wp_I rfl rfl rfl (zcan_of rfl rfl) rfl rfl rfl
theorem s82_24 : WP 82 0 24 L (vA r1 :: vA r0 :: vA (some a) :: S) h Q ↔ ((zNC ≤ a ∧ 100 ≤ (hk h a).1) ∧ zw S ≤ 8 ∧ WP 117 0 0 [vA (some a), vA r0, vA r1] [] h (zret 82 0 24 27 L S Q)) := wp_I rfl rfl rfl (zcan_of rfl rfl) rfl rfl rfl
theorem s82_27 : WP 82 0 27 [a0, a1, a2, a3, a4] (vA r :: S) h Q ↔ WP 82 0 28 [a0, a1, vA r, a3, a4] S h Q := wp_astore rfl rfl rfl
theorem s82_28 : WP 82 0 28 L S h Q ↔ WP 82 0 29 L (vI 0 :: S) h Q := wp_pl rfl rfl rfl
theorem s82_29 : WP 82 0 29 [a0, a1, a2, a3, a4] (vI x :: S) h Q ↔ WP 82 0 30 [a0, a1, a2, vI x, a4] S h Q := wp_istore rfl rfl rfl
theorem s82_30 : WP 82 0 30 [a0, a1, vA r, a3, a4] S h Q ↔ WP 82 0 31 [a0, a1, vA r, a3, a4] (vA r :: S) h Q := wp_aload rfl rfl
theorem s82_31 : WP 82 0 31 [a0, vI x, a2, a3, a4] S h Q ↔ WP 82 0 32 [a0, vI x, a2, a3, a4] (vI x :: S) h Q := wp_iload rfl rfl
theorem s82_32 : WP 82 0 32 L S h Q ↔ WP 82 0 33 L (vI 0 :: S) h Q := wp_pl rfl rfl rfl
theorem s82_33 : WP 82 0 33 L S h Q ↔ WP 82 0 34 L (vI 0 :: S) h Q := wp_pl rfl rfl rfl
theorem s82_34 : WP 82 0 34 L (vI x2 :: vI x1 :: vI x0 :: vA (some a) :: S) h Q ↔ ((hk h a).1 = 106 ∧ (zw S ≤ 8 ∧ WP 115 0 0 [vA (some a), vI x0, vI x1, vI x2, vJ, vJ] [] h (zret 82 0 34 37 L S Q))) := wp_V1 (c := 106) rfl rfl (fun _ => rfl) rfl rfl (zcan_of rfl rfl) rfl rfl rfl
theorem s82_37 : WP 82 0 37 [a0, a1, a2, a3, a4] (vI x :: S) h Q ↔ WP 82 0 39 [a0, a1, a2, a3, vI x] S h Q := wp_istore rfl rfl rfl
theorem s82_39 : WP 82 0 39 [a0, a1, a2, a3, vI x] S h Q ↔ WP 82 0 41 [a0, a1, a2, a3, vI x] (vI x :: S) h Q := wp_iload rfl rfl
theorem s82_41 : WP 82 0 41 L (vI x :: S) h Q ↔ zif (x = 0) (WP 82 0 74 L S h Q) (WP 82 0 44 L S h Q) := wp_bE zc_eq rfl rfl rfl
theorem s82_44 : WP 82 0 44 [a0, a1, a2, vI x, a4] S h Q ↔ WP 82 0 45 [a0, a1, a2, vI x, a4] (vI x :: S) h Q := wp_iload rfl rfl
theorem s82_45 : WP 82 0 45 [vA r, a1, a2, a3, a4] S h Q ↔ WP 82 0 46 [vA r, a1, a2, a3, a4] (vA r :: S) h Q := wp_aload rfl rfl
theorem s82_46 : WP 82 0 46 [a0, a1, vA r, a3, a4] S h Q ↔ WP 82 0 47 [a0, a1, vA r, a3, a4] (vA r :: S) h Q := wp_aload rfl rfl
theorem s82_47 : WP 82 0 47 L (vA (some a) :: S) h Q ↔ (zhas 26 (hk h a) = true ∧ WP 82 0 50 L (hm h a 26 :: S) h Q) := wp_if rfl rfl rfl
theorem s82_50 : WP 82 0 50 L (vA r0 :: vA (some a) :: S) h Q ↔ ((hk h a).1 = 100 ∧ (zw S ≤ 8 ∧ WP 43 0 0 [vA (some a), vA r0, vJ, vJ, vJ] [] h (zret 82 0 50 53 L S Q))) := wp_V1 (c := 100) rfl rfl (fun _ => rfl) rfl rfl (zcan_of rfl rfl) rfl rfl rfl
theorem s82_53 : WP 82 0 53 L (vI x :: S) h Q ↔ zif (x = 0) (WP 82 0 60 L S h Q) (WP 82 0 56 L S h Q) := wp_bE zc_eq rfl rfl rfl
theorem s82_56 : WP 82 0 56 L S h Q ↔ WP 82 0 57 L (vI 1 :: S) h Q := wp_pl rfl rfl rfl
theorem s82_57 : WP 82 0 57 L S h Q ↔ WP 82 0 61 L S h Q := wp_pl rfl rfl rfl
theorem s82_60 : WP 82 0 60 L S h Q ↔ WP 82 0 61 L (vI 0 :: S) h Q := wp_pl rfl rfl rfl
theorem s82_61 : WP 82 0 61 L (vI y :: vI x :: S) h Q ↔ WP 82 0 62 L (vI (wr (x + y)) :: S) h Q := wp_pl rfl rfl rfl
theorem s82_62 : WP 82 0 62 [a0, a1, a2, a3, a4] (vI x :: S) h Q ↔ WP 82 0 63 [a0, a1, a2, vI x, a4] S h Q := wp_istore rfl rfl rfl
theorem s82_63 : WP 82 0 63 [a0, a1, vA r, a3, a4] S h Q ↔ WP 82 0 64 [a0, a1, vA r, a3, a4] (vA r :: S) h Q := wp_aload rfl rfl
theorem s82_64 : WP 82 0 64 [a0, vI x, a2, a3, a4] S h Q ↔ WP 82 0 65 [a0, vI x, a2, a3, a4] (vI x :: S) h Q := wp_iload rfl rfl
theorem s82_65 : WP 82 0 65 L S h Q ↔ WP 82 0 66 L (vI 0 :: S) h Q := wp_pl rfl rfl rfl
theorem s82_66 : WP 82 0 66 L (vI x1 :: vI x0 :: vA (some a) :: S) h Q ↔ ((hk h a).1 = 106 ∧ (zw S ≤ 8 ∧ WP 116 0 0 [vA (some a), vI x0, vI x1] [] h (zret 82 0 66 69 L S Q))) := wp_V1 (c := 106) rfl rfl (fun _ => rfl) rfl rfl (zcan_of rfl rfl) rfl rfl rfl
theorem s82_69 : WP 82 0 69 [a0, a1, a2, a3, a4] (vI x :: S) h Q ↔ WP 82 0 71 [a0, a1, a2, a3, vI x] S h Q := wp_istore rfl rfl rfl
theorem s82_71 : WP 82 0 71 L S h Q ↔ WP 82 0 39 L S h Q := wp_pl rfl rfl rfl
theorem s82_74 : WP 82 0 74 [a0, a1, vA r, a3, a4] S h Q ↔ WP 82 0 75 [a0, a1, vA r, a3, a4] (vA r :: S) h Q := wp_aload rfl rfl
theorem s82_75 : WP 82 0 75 L (vA (some a) :: S) h Q ↔ (zhas 28 (hk h a) = true ∧ WP 82 0 78 L (hm h a 28 :: S) h Q) := wp_if rfl rfl rfl
theorem s82_78 : WP 82 0 78 L (vI x :: S) h Q ↔ zif (x = 0) (WP 82 0 86 L S h Q) (WP 82 0 81 L S h Q) := wp_bE zc_eq rfl rfl rfl
theorem s82_81 : WP 82 0 81 L S h Q ↔ WP 82 0 83 L (vI (-2) :: S) h Q := wp_pl rfl rfl rfl
theorem s82_83 : WP 82 0 83 L S h Q ↔ WP 82 0 87 L S h Q := wp_pl rfl rfl rfl
theorem s82_86 : WP 82 0 86 [a0, a1, a2, vI x, a4] S h Q ↔ WP 82 0 87 [a0, a1, a2, vI x, a4] (vI x :: S) h Q := wp_iload rfl rfl
theorem s82_87 : WP 82 0 87 L [vI x] h Q ↔ Q (.inl (some (vI x))) h := wp_iret0 rfl rfl
/-! RepeatFree.sum([J)J -/
theorem s83_0 : WP 83 0 0 L S h Q ↔ WP 83 0 1 L (vL 0 :: S) h Q := wp_pl rfl rfl rfl
theorem s83_1 : WP 83 0 1 [a0, a1, a2, a3, a4, a5, a6, a7] (vL x :: S) h Q ↔ WP 83 0 2 [a0, vL x, vJ, a3, a4, a5, a6, a7] S h Q := wp_lstore rfl rfl rfl
theorem s83_2 : WP 83 0 2 [vA r, a1, a2, a3, a4, a5, a6, a7] S h Q ↔ WP 83 0 3 [vA r, a1, a2, a3, a4, a5, a6, a7] (vA r :: S) h Q := wp_aload rfl rfl
theorem s83_3 : WP 83 0 3 [a0, a1, a2, a3, a4, a5, a6, a7] (vA r :: S) h Q ↔ WP 83 0 4 [a0, a1, a2, vA r, a4, a5, a6, a7] S h Q := wp_astore rfl rfl rfl
theorem s83_4 : WP 83 0 4 [a0, a1, a2, vA r, a4, a5, a6, a7] S h Q ↔ WP 83 0 5 [a0, a1, a2, vA r, a4, a5, a6, a7] (vA r :: S) h Q := wp_aload rfl rfl
theorem s83_5 : WP 83 0 5 L (vA (some a) :: S) h Q ↔ ((1 ≤ (hk h a).1 ∧ (hk h a).1 ≤ 7) ∧ WP 83 0 6 L (vI ((hk h a).2 : Int) :: S) h Q) := wp_if rfl rfl rfl
theorem s83_6 : WP 83 0 6 [a0, a1, a2, a3, a4, a5, a6, a7] (vI x :: S) h Q ↔ WP 83 0 8 [a0, a1, a2, a3, vI x, a5, a6, a7] S h Q := wp_istore rfl rfl rfl
theorem s83_8 : WP 83 0 8 L S h Q ↔ WP 83 0 9 L (vI 0 :: S) h Q := wp_pl rfl rfl rfl
theorem s83_9 : WP 83 0 9 [a0, a1, a2, a3, a4, a5, a6, a7] (vI x :: S) h Q ↔ WP 83 0 11 [a0, a1, a2, a3, a4, vI x, a6, a7] S h Q := wp_istore rfl rfl rfl
theorem s83_11 : WP 83 0 11 [a0, a1, a2, a3, a4, vI x, a6, a7] S h Q ↔ WP 83 0 13 [a0, a1, a2, a3, a4, vI x, a6, a7] (vI x :: S) h Q := wp_iload rfl rfl
theorem s83_13 : WP 83 0 13 [a0, a1, a2, a3, vI x, a5, a6, a7] S h Q ↔ WP 83 0 15 [a0, a1, a2, a3, vI x, a5, a6, a7] (vI x :: S) h Q := wp_iload rfl rfl
theorem s83_15 : WP 83 0 15 L (vI y :: vI x :: S) h Q ↔ zif (x < y) (WP 83 0 18 L S h Q) (WP 83 0 35 L S h Q) := wp_bN zc_lt rfl rfl rfl
theorem s83_18 : WP 83 0 18 [a0, a1, a2, vA r, a4, a5, a6, a7] S h Q ↔ WP 83 0 19 [a0, a1, a2, vA r, a4, a5, a6, a7] (vA r :: S) h Q := wp_aload rfl rfl
theorem s83_19 : WP 83 0 19 [a0, a1, a2, a3, a4, vI x, a6, a7] S h Q ↔ WP 83 0 21 [a0, a1, a2, a3, a4, vI x, a6, a7] (vI x :: S) h Q := wp_iload rfl rfl
theorem s83_21 : WP 83 0 21 L (vI x :: vA (some a) :: S) h Q ↔ (((hk h a).1 = 4 ∧ 0 ≤ x ∧ x < ((hk h a).2 : Int)) ∧ WP 83 0 22 L (hm h a x.toNat :: S) h Q) := wp_if rfl rfl rfl
theorem s83_22 : WP 83 0 22 [a0, a1, a2, a3, a4, a5, a6, a7] (vL x :: S) h Q ↔ WP 83 0 24 [a0, a1, a2, a3, a4, a5, vL x, vJ] S h Q := wp_lstore rfl rfl rfl
theorem s83_24 : WP 83 0 24 [a0, vL x, vJ, a3, a4, a5, a6, a7] S h Q ↔ WP 83 0 25 [a0, vL x, vJ, a3, a4, a5, a6, a7] (vL x :: S) h Q := wp_lload rfl rfl rfl
theorem s83_25 : WP 83 0 25 [a0, a1, a2, a3, a4, a5, vL x, vJ] S h Q ↔ WP 83 0 27 [a0, a1, a2, a3, a4, a5, vL x, vJ] (vL x :: S) h Q := wp_lload rfl rfl rfl
theorem s83_27 : WP 83 0 27 L (vL y :: vL x :: S) h Q ↔ WP 83 0 28 L (vL (wl (x + y)) :: S) h Q := wp_pl rfl rfl rfl
theorem s83_28 : WP 83 0 28 [a0, a1, a2, a3, a4, a5, a6, a7] (vL x :: S) h Q ↔ WP 83 0 29 [a0, vL x, vJ, a3, a4, a5, a6, a7] S h Q := wp_lstore rfl rfl rfl
theorem s83_29 : WP 83 0 29 [a0, a1, a2, a3, a4, vI x, a6, a7] S h Q ↔ WP 83 0 32 [a0, a1, a2, a3, a4, vI (wr (x + 1)), a6, a7] S h Q := wp_iinc rfl rfl rfl
theorem s83_32 : WP 83 0 32 L S h Q ↔ WP 83 0 11 L S h Q := wp_pl rfl rfl rfl
theorem s83_35 : WP 83 0 35 [a0, vL x, vJ, a3, a4, a5, a6, a7] S h Q ↔ WP 83 0 36 [a0, vL x, vJ, a3, a4, a5, a6, a7] (vL x :: S) h Q := wp_lload rfl rfl rfl
theorem s83_36 : WP 83 0 36 L [vL x] h Q ↔ Q (.inl (some (vL x))) h := wp_lret rfl
/-! RepeatFree.text([B)Ljava/lang/String; -/
theorem s84_0 : WP 84 0 0 L S h Q ↔ WP 84 0 3 L (vA (some (hn h)) :: S) (hnew h (116, 0) 4 zdf) Q := wp_pl rfl rfl rfl
theorem s84_3 : WP 84 0 3 L (vA r :: S) h Q ↔ WP 84 0 4 L (vA r :: vA r :: S) h Q := wp_pl rfl rfl rfl
theorem s84_3i : WP 84 0 3 L (vI x :: S) h Q ↔ WP 84 0 4 L (vI x :: vI x :: S) h Q := wp_pl rfl rfl rfl
theorem s84_4 : WP 84 0 4 L (vA (some a) :: S) h Q ↔ ((zNC ≤ a ∧ 100 ≤ (hk h a).1) ∧ zw S ≤ 8 ∧ WP 307 0 0 [vA (some a)] [] h (zret 84 0 4 7 L S Q)) := wp_I rfl rfl rfl (zcan_of rfl rfl) rfl rfl rfl
theorem s84_7 : WP 84 0 7 [a0, a1, a2, a3, a4, a5] (vA r :: S) h Q ↔ WP 84 0 8 [a0, vA r, a2, a3, a4, a5] S h Q := wp_astore rfl rfl rfl
theorem s84_8 : WP 84 0 8 [vA r, a1, a2, a3, a4, a5] S h Q ↔ WP 84 0 9 [vA r, a1, a2, a3, a4, a5] (vA r :: S) h Q := wp_aload rfl rfl
theorem s84_9 : WP 84 0 9 [a0, a1, a2, a3, a4, a5] (vA r :: S) h Q ↔ WP 84 0 10 [a0, a1, vA r, a3, a4, a5] S h Q := wp_astore rfl rfl rfl
theorem s84_10 : WP 84 0 10 [a0, a1, vA r, a3, a4, a5] S h Q ↔ WP 84 0 11 [a0, a1, vA r, a3, a4, a5] (vA r :: S) h Q := wp_aload rfl rfl
theorem s84_11 : WP 84 0 11 L (vA (some a) :: S) h Q ↔ ((1 ≤ (hk h a).1 ∧ (hk h a).1 ≤ 7) ∧ WP 84 0 12 L (vI ((hk h a).2 : Int) :: S) h Q) := wp_if rfl rfl rfl
theorem s84_12 : WP 84 0 12 [a0, a1, a2, a3, a4, a5] (vI x :: S) h Q ↔ WP 84 0 13 [a0, a1, a2, vI x, a4, a5] S h Q := wp_istore rfl rfl rfl
theorem s84_13 : WP 84 0 13 L S h Q ↔ WP 84 0 14 L (vI 0 :: S) h Q := wp_pl rfl rfl rfl
theorem s84_14 : WP 84 0 14 [a0, a1, a2, a3, a4, a5] (vI x :: S) h Q ↔ WP 84 0 16 [a0, a1, a2, a3, vI x, a5] S h Q := wp_istore rfl rfl rfl
theorem s84_16 : WP 84 0 16 [a0, a1, a2, a3, vI x, a5] S h Q ↔ WP 84 0 18 [a0, a1, a2, a3, vI x, a5] (vI x :: S) h Q := wp_iload rfl rfl
theorem s84_18 : WP 84 0 18 [a0, a1, a2, vI x, a4, a5] S h Q ↔ WP 84 0 19 [a0, a1, a2, vI x, a4, a5] (vI x :: S) h Q := wp_iload rfl rfl
theorem s84_19 : WP 84 0 19 L (vI y :: vI x :: S) h Q ↔ zif (x < y) (WP 84 0 22 L S h Q) (WP 84 0 45 L S h Q) := wp_bN zc_lt rfl rfl rfl
theorem s84_22 : WP 84 0 22 [a0, a1, vA r, a3, a4, a5] S h Q ↔ WP 84 0 23 [a0, a1, vA r, a3, a4, a5] (vA r :: S) h Q := wp_aload rfl rfl
theorem s84_23 : WP 84 0 23 [a0, a1, a2, a3, vI x, a5] S h Q ↔ WP 84 0 25 [a0, a1, a2, a3, vI x, a5] (vI x :: S) h Q := wp_iload rfl rfl
theorem s84_25 : WP 84 0 25 L (vI x :: vA (some a) :: S) h Q ↔ ((((hk h a).1 = 2 ∨ (hk h a).1 = 3) ∧ 0 ≤ x ∧ x < ((hk h a).2 : Int)) ∧ WP 84 0 26 L (hm h a x.toNat :: S) h Q) := wp_if rfl rfl rfl
theorem s84_26 : WP 84 0 26 [a0, a1, a2, a3, a4, a5] (vI x :: S) h Q ↔ WP 84 0 28 [a0, a1, a2, a3, a4, vI x] S h Q := wp_istore rfl rfl rfl
theorem s84_28 : WP 84 0 28 [a0, vA r, a2, a3, a4, a5] S h Q ↔ WP 84 0 29 [a0, vA r, a2, a3, a4, a5] (vA r :: S) h Q := wp_aload rfl rfl
theorem s84_29 : WP 84 0 29 L S h Q ↔ WP 84 0 31 L (vI 97 :: S) h Q := wp_pl rfl rfl rfl
theorem s84_31 : WP 84 0 31 [a0, a1, a2, a3, a4, vI x] S h Q ↔ WP 84 0 33 [a0, a1, a2, a3, a4, vI x] (vI x :: S) h Q := wp_iload rfl rfl
theorem s84_33 : WP 84 0 33 L (vI y :: vI x :: S) h Q ↔ WP 84 0 34 L (vI (wr (x + y)) :: S) h Q := wp_pl rfl rfl rfl
theorem s84_34 : WP 84 0 34 L (vI x :: S) h Q ↔ WP 84 0 35 L (vI (wc x) :: S) h Q := wp_pl rfl rfl rfl
theorem s84_35 : WP 84 0 35 L (vI x0 :: vA (some a) :: S) h Q ↔ ((hk h a).1 = 116 ∧ (zw S ≤ 8 ∧ WP 304 0 0 [vA (some a), vI x0] [] h (zret 84 0 35 38 L S Q))) := wp_V1 (c := 116) rfl rfl (fun _ => rfl) rfl rfl (zcan_of rfl rfl) rfl rfl rfl
theorem s84_38 : WP 84 0 38 L (vA r :: S) h Q ↔ WP 84 0 39 L S h Q := wp_pl rfl rfl rfl
theorem s84_38i : WP 84 0 38 L (vI x :: S) h Q ↔ WP 84 0 39 L S h Q := wp_pl rfl rfl rfl
theorem s84_39 : WP 84 0 39 [a0, a1, a2, a3, vI x, a5] S h Q ↔ WP 84 0 42 [a0, a1, a2, a3, vI (wr (x + 1)), a5] S h Q := wp_iinc rfl rfl rfl
theorem s84_42 : WP 84 0 42 L S h Q ↔ WP 84 0 16 L S h Q := wp_pl rfl rfl rfl
theorem s84_45 : WP 84 0 45 [a0, vA r, a2, a3, a4, a5] S h Q ↔ WP 84 0 46 [a0, vA r, a2, a3, a4, a5] (vA r :: S) h Q := wp_aload rfl rfl
theorem s84_46 : WP 84 0 46 L (vA (some a) :: S) h Q ↔ ((hk h a).1 = 116 ∧ (zw S ≤ 8 ∧ WP 309 0 0 [vA (some a)] [] h (zret 84 0 46 49 L S Q))) := wp_V1 (c := 116) rfl rfl (fun _ => rfl) rfl rfl (zcan_of rfl rfl) rfl rfl rfl
theorem s84_49 : WP 84 0 49 L [vA r] h Q ↔ Q (.inl (some (vA r))) h := wp_aret rfl
/-! RepeatFree.thereIs(Z)V -/
theorem s85_0 : WP 85 0 0 [vI x] S h Q ↔ WP 85 0 1 [vI x] (vI x :: S) h Q := wp_iload rfl rfl
theorem s85_1 : WP 85 0 1 L (vI x :: S) h Q ↔ zif (x = 0) (WP 85 0 4 L S h Q) (WP 85 0 12 L S h Q) := wp_bN zc_eq rfl rfl rfl
theorem s85_4 : WP 85 0 4 L S h Q ↔ (zw S ≤ 8 ∧ WP 85 0 11 L (vA (some (hn h)) :: S) (hnew h (123, 0) 6 zdf) Q) := wp_if rfl rfl rfl
theorem s85_11 : WP 85 0 11 L (vA (some a) :: S) h Q ↔ ((((120 ≤ (hk h a).1 ∧ (hk h a).1 ≤ 123) ∨ (hk h a).1 = 109)) ∧ Q (.inr a) h) := wp_athrow (fun _ => rfl) rfl
theorem s85_12 : WP 85 0 12 L [] h Q ↔ Q (.inl none) h := wp_ret rfl
/-! RepeatFree.took()I -/
theorem s86_0 : WP 86 0 0 [vA r, a1] S h Q ↔ WP 86 0 1 [vA r, a1] (vA r :: S) h Q := wp_aload rfl rfl
theorem s86_1 : WP 86 0 1 L (vA (some a) :: S) h Q ↔ (zhas 2 (hk h a) = true ∧ WP 86 0 4 L (hm h a 2 :: S) h Q) := wp_if rfl rfl rfl
theorem s86_4 : WP 86 0 4 [a0, a1] (vI x :: S) h Q ↔ WP 86 0 5 [a0, vI x] S h Q := wp_istore rfl rfl rfl
theorem s86_5 : WP 86 0 5 [vA r, a1] S h Q ↔ WP 86 0 6 [vA r, a1] (vA r :: S) h Q := wp_aload rfl rfl
theorem s86_6 : WP 86 0 6 L S h Q ↔ WP 86 0 7 L (vI 0 :: S) h Q := wp_pl rfl rfl rfl
theorem s86_7 : WP 86 0 7 L (vI x :: vA (some a) :: S) h Q ↔ ((zNC ≤ a ∧ zhas 2 (hk h a) = true) ∧ WP 86 0 10 L S (hput h a 2 (vI x)) Q) := wp_put0 rfl rfl
theorem s86_10 : WP 86 0 10 [vA r, a1] S h Q ↔ WP 86 0 11 [vA r, a1] (vA r :: S) h Q := wp_aload rfl rfl
theorem s86_11 : WP 86 0 11 L S h Q ↔ WP 86 0 12 L (vI (-1) :: S) h Q := wp_pl rfl rfl rfl
theorem s86_12 : WP 86 0 12 L (vI x :: vA (some a) :: S) h Q ↔ ((zNC ≤ a ∧ zhas 3 (hk h a) = true) ∧ WP 86 0 15 L S (hput h a 3 (vI x)) Q) := wp_put0 rfl rfl
theorem s86_15 : WP 86 0 15 [a0, vI x] S h Q ↔ WP 86 0 16 [a0, vI x] (vI x :: S) h Q := wp_iload rfl rfl
theorem s86_16 : WP 86 0 16 L [vI x] h Q ↔ Q (.inl (some (vI x))) h := wp_iret0 rfl rfl
/-! RepeatFree.turned()I -/
theorem s87_0 : WP 87 0 0 [vA r, a1, a2] S h Q ↔ WP 87 0 1 [vA r, a1, a2] (vA r :: S) h Q := wp_aload rfl rfl
theorem s87_1 : WP 87 0 1 L (vA (some a) :: S) h Q ↔ (zhas 6 (hk h a) = true ∧ WP 87 0 4 L (hm h a 6 :: S) h Q) := wp_if rfl rfl rfl
theorem s87_4 : WP 87 0 4 L (vA (some a) :: S) h Q ↔ (zhas 15 (hk h a) = true ∧ WP 87 0 7 L (hm h a 15 :: S) h Q) := wp_if rfl rfl rfl
theorem s87_7 : WP 87 0 7 L (vI x :: S) h Q ↔ zif (x = 0) (WP 87 0 10 L S h Q) (WP 87 0 14 L S h Q) := wp_bN zc_eq rfl rfl rfl
theorem s87_10 : WP 87 0 10 L S h Q ↔ WP 87 0 11 L (vI (-1) :: S) h Q := wp_pl rfl rfl rfl
theorem s87_11 : WP 87 0 11 L S h Q ↔ WP 87 0 15 L S h Q := wp_pl rfl rfl rfl
theorem s87_14 : WP 87 0 14 L S h Q ↔ WP 87 0 15 L (vI 0 :: S) h Q := wp_pl rfl rfl rfl
theorem s87_15 : WP 87 0 15 [a0, a1, a2] (vI x :: S) h Q ↔ WP 87 0 16 [a0, vI x, a2] S h Q := wp_istore rfl rfl rfl
theorem s87_16 : WP 87 0 16 L S h Q ↔ WP 87 0 17 L (vI 1 :: S) h Q := wp_pl rfl rfl rfl
theorem s87_17 : WP 87 0 17 [a0, a1, a2] (vI x :: S) h Q ↔ WP 87 0 18 [a0, a1, vI x] S h Q := wp_istore rfl rfl rfl
theorem s87_18 : WP 87 0 18 [a0, a1, vI x] S h Q ↔ WP 87 0 19 [a0, a1, vI x] (vI x :: S) h Q := wp_iload rfl rfl
theorem s87_19 : WP 87 0 19 [vA r, a1, a2] S h Q ↔ WP 87 0 20 [vA r, a1, a2] (vA r :: S) h Q := wp_aload rfl rfl
theorem s87_20 : WP 87 0 20 L (vA (some a) :: S) h Q ↔ (zhas 6 (hk h a) = true ∧ WP 87 0 23 L (hm h a 6 :: S) h Q) := wp_if rfl rfl rfl
theorem s87_23 : WP 87 0 23 L (vA (some a) :: S) h Q ↔ (zhas 15 (hk h a) = true ∧ WP 87 0 26 L (hm h a 15 :: S) h Q) := wp_if rfl rfl rfl
theorem s87_26 : WP 87 0 26 L (vI y :: vI x :: S) h Q ↔ zif (x < y) (WP 87 0 29 L S h Q) (WP 87 0 46 L S h Q) := wp_bN zc_lt rfl rfl rfl
theorem s87_29 : WP 87 0 29 [vA r, a1, a2] S h Q ↔ WP 87 0 30 [vA r, a1, a2] (vA r :: S) h Q := wp_aload rfl rfl
theorem s87_30 : WP 87 0 30 [a0, a1, vI x] S h Q ↔ WP 87 0 31 [a0, a1, vI x] (vI x :: S) h Q := wp_iload rfl rfl
theorem s87_31 : WP 87 0 31 [a0, vI x, a2] S h Q ↔ WP 87 0 32 [a0, vI x, a2] (vI x :: S) h Q := wp_iload rfl rfl
theorem s87_32 : WP 87 0 32 L (vI x1 :: vI x0 :: vA (some a) :: S) h Q ↔ ((hk h a).1 = 100 ∧ (zw S ≤ 8 ∧ WP 39 0 0 [vA (some a), vI x0, vI x1, vJ, vJ] [] h (zret 87 0 32 35 L S Q))) := wp_V1 (c := 100) rfl rfl (fun _ => rfl) rfl rfl (zcan_of rfl rfl) rfl rfl rfl
theorem s87_35 : WP 87 0 35 L (vI x :: S) h Q ↔ zif (x = 0) (WP 87 0 40 L S h Q) (WP 87 0 38 L S h Q) := wp_bE zc_eq rfl rfl rfl
theorem s87_38 : WP 87 0 38 [a0, a1, vI x] S h Q ↔ WP 87 0 39 [a0, a1, vI x] (vI x :: S) h Q := wp_iload rfl rfl
theorem s87_39 : WP 87 0 39 [a0, a1, a2] (vI x :: S) h Q ↔ WP 87 0 40 [a0, vI x, a2] S h Q := wp_istore rfl rfl rfl
theorem s87_40 : WP 87 0 40 [a0, a1, vI x] S h Q ↔ WP 87 0 43 [a0, a1, vI (wr (x + 1))] S h Q := wp_iinc rfl rfl rfl
theorem s87_43 : WP 87 0 43 L S h Q ↔ WP 87 0 18 L S h Q := wp_pl rfl rfl rfl
theorem s87_46 : WP 87 0 46 [a0, vI x, a2] S h Q ↔ WP 87 0 47 [a0, vI x, a2] (vI x :: S) h Q := wp_iload rfl rfl
theorem s87_47 : WP 87 0 47 L [vI x] h Q ↔ Q (.inl (some (vI x))) h := wp_iret0 rfl rfl
/-! RepeatFree.undo()I -/
theorem s88_0 : WP 88 0 0 [vA r] S h Q ↔ WP 88 0 1 [vA r] (vA r :: S) h Q := wp_aload rfl rfl
theorem s88_1 : WP 88 0 1 L (vA (some a) :: S) h Q ↔ (zhas 7 (hk h a) = true ∧ WP 88 0 4 L (hm h a 7 :: S) h Q) := wp_if rfl rfl rfl
theorem s88_4 : WP 88 0 4 L (vA (some a) :: S) h Q ↔ ((hk h a).1 = 114 ∧ (zw S ≤ 8 ∧ WP 285 0 0 [vA (some a)] [] h (zret 88 0 4 7 L S Q))) := wp_V1 (c := 114) rfl rfl (fun _ => rfl) rfl rfl (zcan_of rfl rfl) rfl rfl rfl
theorem s88_7 : WP 88 0 7 L (vI x :: S) h Q ↔ zif (x = 0) (WP 88 0 12 L S h Q) (WP 88 0 10 L S h Q) := wp_bE zc_eq rfl rfl rfl
theorem s88_10 : WP 88 0 10 L S h Q ↔ WP 88 0 11 L (vI (-1) :: S) h Q := wp_pl rfl rfl rfl
theorem s88_11 : WP 88 0 11 L [vI x] h Q ↔ Q (.inl (some (vI x))) h := wp_iret0 rfl rfl
theorem s88_12 : WP 88 0 12 [vA r] S h Q ↔ WP 88 0 13 [vA r] (vA r :: S) h Q := wp_aload rfl rfl
theorem s88_13 : WP 88 0 13 [vA r] S h Q ↔ WP 88 0 14 [vA r] (vA r :: S) h Q := wp_aload rfl rfl
theorem s88_14 : WP 88 0 14 L (vA (some a) :: S) h Q ↔ (zhas 7 (hk h a) = true ∧ WP 88 0 17 L (hm h a 7 :: S) h Q) := wp_if rfl rfl rfl
theorem s88_17 : WP 88 0 17 L (vA (some a) :: S) h Q ↔ ((hk h a).1 = 114 ∧ (zw S ≤ 8 ∧ WP 290 0 0 [vA (some a), vJ] [] h (zret 88 0 17 20 L S Q))) := wp_V1 (c := 114) rfl rfl (fun _ => rfl) rfl rfl (zcan_of rfl rfl) rfl rfl rfl
theorem s88_20n : WP 88 0 20 L (vA none :: S) h Q ↔ WP 88 0 23 L (vA none :: S) h Q := wp_pl rfl rfl rfl
theorem s88_20 : WP 88 0 20 L (vA (some a) :: S) h Q ↔ (zCX 6 (hk h a).1 a = true ∧ WP 88 0 23 L (vA (some a) :: S) h Q) := wp_if rfl rfl rfl
theorem s88_23 : WP 88 0 23 L (vA r :: vA (some a) :: S) h Q ↔ ((zNC ≤ a ∧ zhas 6 (hk h a) = true) ∧ WP 88 0 26 L S (hput h a 6 (vA r)) Q) := wp_put3 rfl rfl
theorem s88_26 : WP 88 0 26 [vA r] S h Q ↔ WP 88 0 27 [vA r] (vA r :: S) h Q := wp_aload rfl rfl
theorem s88_27 : WP 88 0 27 L (vA (some a) :: S) h Q ↔ (zhas 7 (hk h a) = true ∧ WP 88 0 30 L (hm h a 7 :: S) h Q) := wp_if rfl rfl rfl
theorem s88_30 : WP 88 0 30 L (vA (some a) :: S) h Q ↔ ((hk h a).1 = 114 ∧ (zw S ≤ 8 ∧ WP 291 0 0 [vA (some a)] [] h (zret 88 0 30 33 L S Q))) := wp_V1 (c := 114) rfl rfl (fun _ => rfl) rfl rfl (zcan_of rfl rfl) rfl rfl rfl
theorem s88_33 : WP 88 0 33 L [vI x] h Q ↔ Q (.inl (some (vI x))) h := wp_iret0 rfl rfl
/-! RepeatFree.uniform(I)I -/
theorem s89_0 : WP 89 0 0 [vA r, a1, a2, a3] S h Q ↔ WP 89 0 1 [vA r, a1, a2, a3] (vA r :: S) h Q := wp_aload rfl rfl
theorem s89_1 : WP 89 0 1 [a0, vI x, a2, a3] S h Q ↔ WP 89 0 2 [a0, vI x, a2, a3] (vI x :: S) h Q := wp_iload rfl rfl
theorem s89_2 : WP 89 0 2 L (vI x0 :: vA (some a) :: S) h Q ↔ ((hk h a).1 = 100 ∧ (zw S ≤ 8 ∧ WP 59 0 0 [vA (some a), vI x0] [] h (zret 89 0 2 5 L S Q))) := wp_V1 (c := 100) rfl rfl (fun _ => rfl) rfl rfl (zcan_of rfl rfl) rfl rfl rfl
theorem s89_5 : WP 89 0 5 [a0, a1, a2, a3] (vA r :: S) h Q ↔ WP 89 0 6 [a0, a1, vA r, a3] S h Q := wp_astore rfl rfl rfl
theorem s89_6 : WP 89 0 6 L S h Q ↔ WP 89 0 7 L (vI 1 :: S) h Q := wp_pl rfl rfl rfl
theorem s89_7 : WP 89 0 7 [a0, a1, a2, a3] (vI x :: S) h Q ↔ WP 89 0 8 [a0, a1, a2, vI x] S h Q := wp_istore rfl rfl rfl
theorem s89_8 : WP 89 0 8 [a0, a1, a2, vI x] S h Q ↔ WP 89 0 9 [a0, a1, a2, vI x] (vI x :: S) h Q := wp_iload rfl rfl
theorem s89_9 : WP 89 0 9 [vA r, a1, a2, a3] S h Q ↔ WP 89 0 10 [vA r, a1, a2, a3] (vA r :: S) h Q := wp_aload rfl rfl
theorem s89_10 : WP 89 0 10 L (vA (some a) :: S) h Q ↔ (zhas 4 (hk h a) = true ∧ WP 89 0 13 L (hm h a 4 :: S) h Q) := wp_if rfl rfl rfl
theorem s89_13 : WP 89 0 13 L (vA (some a) :: S) h Q ↔ (zhas 12 (hk h a) = true ∧ WP 89 0 16 L (hm h a 12 :: S) h Q) := wp_if rfl rfl rfl
theorem s89_16 : WP 89 0 16 L (vI y :: vI x :: S) h Q ↔ zif (x < y) (WP 89 0 19 L S h Q) (WP 89 0 44 L S h Q) := wp_bN zc_lt rfl rfl rfl
theorem s89_19 : WP 89 0 19 [a0, a1, vA r, a3] S h Q ↔ WP 89 0 20 [a0, a1, vA r, a3] (vA r :: S) h Q := wp_aload rfl rfl
theorem s89_20 : WP 89 0 20 L (vA (some a) :: S) h Q ↔ (zhas 20 (hk h a) = true ∧ WP 89 0 23 L (hm h a 20 :: S) h Q) := wp_if rfl rfl rfl
theorem s89_23 : WP 89 0 23 [a0, a1, a2, vI x] S h Q ↔ WP 89 0 24 [a0, a1, a2, vI x] (vI x :: S) h Q := wp_iload rfl rfl
theorem s89_24 : WP 89 0 24 L (vI x :: vA (some a) :: S) h Q ↔ ((((5 ≤ (hk h a).1 ∧ (hk h a).1 ≤ 7) ∧ 0 ≤ x ∧ x < ((hk h a).2 : Int)) ∨ ((hk h a).1 = 8 ∧ 128 ≤ x ∧ x < 144)) ∧ WP 89 0 25 L (hm h a x.toNat :: S) h Q) := wp_if rfl rfl rfl
theorem s89_25 : WP 89 0 25 L (vA (some a) :: S) h Q ↔ ((1 ≤ (hk h a).1 ∧ (hk h a).1 ≤ 7) ∧ WP 89 0 26 L (vI ((hk h a).2 : Int) :: S) h Q) := wp_if rfl rfl rfl
theorem s89_26 : WP 89 0 26 [a0, a1, vA r, a3] S h Q ↔ WP 89 0 27 [a0, a1, vA r, a3] (vA r :: S) h Q := wp_aload rfl rfl
theorem s89_27 : WP 89 0 27 L (vA (some a) :: S) h Q ↔ (zhas 20 (hk h a) = true ∧ WP 89 0 30 L (hm h a 20 :: S) h Q) := wp_if rfl rfl rfl
theorem s89_30 : WP 89 0 30 L S h Q ↔ WP 89 0 31 L (vI 0 :: S) h Q := wp_pl rfl rfl rfl
theorem s89_31 : WP 89 0 31 L (vI x :: vA (some a) :: S) h Q ↔ ((((5 ≤ (hk h a).1 ∧ (hk h a).1 ≤ 7) ∧ 0 ≤ x ∧ x < ((hk h a).2 : Int)) ∨ ((hk h a).1 = 8 ∧ 128 ≤ x ∧ x < 144)) ∧ WP 89 0 32 L (hm h a x.toNat :: S) h Q) := wp_if rfl rfl rfl
theorem s89_32 : WP 89 0 32 L (vA (some a) :: S) h Q ↔ ((1 ≤ (hk h a).1 ∧ (hk h a).1 ≤ 7) ∧ WP 89 0 33 L (vI ((hk h a).2 : Int) :: S) h Q) := wp_if rfl rfl rfl
theorem s89_33 : WP 89 0 33 L (vI y :: vI x :: S) h Q ↔ zif (x = y) (WP 89 0 38 L S h Q) (WP 89 0 36 L S h Q) := wp_bE zc_eq rfl rfl rfl
theorem s89_36 : WP 89 0 36 L S h Q ↔ WP 89 0 37 L (vI (-1) :: S) h Q := wp_pl rfl rfl rfl
theorem s89_37 : WP 89 0 37 L [vI x] h Q ↔ Q (.inl (some (vI x))) h := wp_iret0 rfl rfl
theorem s89_38 : WP 89 0 38 [a0, a1, a2, vI x] S h Q ↔ WP 89 0 41 [a0, a1, a2, vI (wr (x + 1))] S h Q := wp_iinc rfl rfl rfl
theorem s89_41 : WP 89 0 41 L S h Q ↔ WP 89 0 8 L S h Q := wp_pl rfl rfl rfl
theorem s89_44 : WP 89 0 44 [a0, a1, vA r, a3] S h Q ↔ WP 89 0 45 [a0, a1, vA r, a3] (vA r :: S) h Q := wp_aload rfl rfl
theorem s89_45 : WP 89 0 45 L (vA (some a) :: S) h Q ↔ (zhas 20 (hk h a) = true ∧ WP 89 0 48 L (hm h a 20 :: S) h Q) := wp_if rfl rfl rfl
theorem s89_48 : WP 89 0 48 L S h Q ↔ WP 89 0 49 L (vI 0 :: S) h Q := wp_pl rfl rfl rfl
theorem s89_49 : WP 89 0 49 L (vI x :: vA (some a) :: S) h Q ↔ ((((5 ≤ (hk h a).1 ∧ (hk h a).1 ≤ 7) ∧ 0 ≤ x ∧ x < ((hk h a).2 : Int)) ∨ ((hk h a).1 = 8 ∧ 128 ≤ x ∧ x < 144)) ∧ WP 89 0 50 L (hm h a x.toNat :: S) h Q) := wp_if rfl rfl rfl
theorem s89_50 : WP 89 0 50 L (vA (some a) :: S) h Q ↔ ((1 ≤ (hk h a).1 ∧ (hk h a).1 ≤ 7) ∧ WP 89 0 51 L (vI ((hk h a).2 : Int) :: S) h Q) := wp_if rfl rfl rfl
theorem s89_51 : WP 89 0 51 L [vI x] h Q ↔ Q (.inl (some (vI x))) h := wp_iret0 rfl rfl
/-! RepeatFree.whole(III)I -/
theorem s90_0 : WP 90 0 0 [vA r, a1, a2, a3, a4, a5, a6, a7, a8] S h Q ↔ WP 90 0 1 [vA r, a1, a2, a3, a4, a5, a6, a7, a8] (vA r :: S) h Q := wp_aload rfl rfl
theorem s90_1 : WP 90 0 1 [a0, vI x, a2, a3, a4, a5, a6, a7, a8] S h Q ↔ WP 90 0 2 [a0, vI x, a2, a3, a4, a5, a6, a7, a8] (vI x :: S) h Q := wp_iload rfl rfl
theorem s90_2 : WP 90 0 2 L (vI x0 :: vA (some a) :: S) h Q ↔ ((hk h a).1 = 100 ∧ (zw S ≤ 8 ∧ WP 69 0 0 [vA (some a), vI x0] [] h (zret 90 0 2 5 L S Q))) := wp_V1 (c := 100) rfl rfl (fun _ => rfl) rfl rfl (zcan_of rfl rfl) rfl rfl rfl
theorem s90_5 : WP 90 0 5 [a0, a1, a2, a3, a4, a5, a6, a7, a8] (vA r :: S) h Q ↔ WP 90 0 7 [a0, a1, a2, a3, vA r, a5, a6, a7, a8] S h Q := wp_astore rfl rfl rfl
theorem s90_7 : WP 90 0 7 [a0, a1, a2, vI x, a4, a5, a6, a7, a8] S h Q ↔ WP 90 0 8 [a0, a1, a2, vI x, a4, a5, a6, a7, a8] (vI x :: S) h Q := wp_iload rfl rfl
theorem s90_8 : WP 90 0 8 L (vI x :: S) h Q ↔ WP 90 0 9 L (vL x :: S) h Q := wp_pl rfl rfl rfl
theorem s90_9 : WP 90 0 9 L S h Q ↔ WP 90 0 10 L (vL 0 :: S) h Q := wp_pl rfl rfl rfl
theorem s90_10 : WP 90 0 10 L S h Q ↔ WP 90 0 13 L (vL (2) :: S) h Q := wp_pl rfl rfl rfl
theorem s90_13 : WP 90 0 13 L (vL x2 :: vL x1 :: vL x0 :: S) h Q ↔ (zw S ≤ 8 ∧ WP 38 0 0 [vL x0, vJ, vL x1, vJ, vL x2, vJ] [] h (zret 90 0 13 16 L S Q)) := wp_S rfl rfl (zcan_of rfl rfl) rfl rfl rfl
theorem s90_16 : WP 90 0 16 L (vI x0 :: S) h Q ↔ (zw S ≤ 8 ∧ WP 85 0 0 [vI x0] [] h (zret 90 0 16 19 L S Q)) := wp_S rfl rfl (zcan_of rfl rfl) rfl rfl rfl
theorem s90_19 : WP 90 0 19 L S h Q ↔ WP 90 0 20 L (vI 0 :: S) h Q := wp_pl rfl rfl rfl
theorem s90_20 : WP 90 0 20 [a0, a1, a2, a3, a4, a5, a6, a7, a8] (vI x :: S) h Q ↔ WP 90 0 22 [a0, a1, a2, a3, a4, vI x, a6, a7, a8] S h Q := wp_istore rfl rfl rfl
theorem s90_22 : WP 90 0 22 [a0, a1, a2, a3, vA r, a5, a6, a7, a8] S h Q ↔ WP 90 0 24 [a0, a1, a2, a3, vA r, a5, a6, a7, a8] (vA r :: S) h Q := wp_aload rfl rfl
theorem s90_24 : WP 90 0 24 L (vA (some a) :: S) h Q ↔ ((hk h a).1 = 105 ∧ (zw S ≤ 8 ∧ WP 113 0 0 [vA (some a), vJ, vJ] [] h (zret 90 0 24 27 L S Q))) := wp_V1 (c := 105) rfl rfl (fun _ => rfl) rfl rfl (zcan_of rfl rfl) rfl rfl rfl
theorem s90_27 : WP 90 0 27 [a0, a1, a2, a3, a4, a5, a6, a7, a8] (vI x :: S) h Q ↔ WP 90 0 29 [a0, a1, a2, a3, a4, a5, vI x, a7, a8] S h Q := wp_istore rfl rfl rfl
theorem s90_29 : WP 90 0 29 L S h Q ↔ WP 90 0 30 L (vI 3 :: S) h Q := wp_pl rfl rfl rfl
theorem s90_30 : WP 90 0 30 L (vI x :: S) h Q ↔ ((0 ≤ x ∧ x ≤ 1000000) ∧ WP 90 0 32 L (vA (some (hn h)) :: S) (hnew h (1, x.toNat) x.toNat (fun _ => vI 0)) Q) := wp_if rfl rfl rfl
theorem s90_32 : WP 90 0 32 [a0, a1, a2, a3, a4, a5, a6, a7, a8] (vA r :: S) h Q ↔ WP 90 0 34 [a0, a1, a2, a3, a4, a5, a6, vA r, a8] S h Q := wp_astore rfl rfl rfl
theorem s90_34 : WP 90 0 34 L S h Q ↔ WP 90 0 35 L (vI 0 :: S) h Q := wp_pl rfl rfl rfl
theorem s90_35 : WP 90 0 35 [a0, a1, a2, a3, a4, a5, a6, a7, a8] (vI x :: S) h Q ↔ WP 90 0 37 [a0, a1, a2, a3, a4, a5, a6, a7, vI x] S h Q := wp_istore rfl rfl rfl
theorem s90_37 : WP 90 0 37 [a0, a1, a2, a3, a4, a5, a6, a7, vI x] S h Q ↔ WP 90 0 39 [a0, a1, a2, a3, a4, a5, a6, a7, vI x] (vI x :: S) h Q := wp_iload rfl rfl
theorem s90_39 : WP 90 0 39 L S h Q ↔ WP 90 0 42 L (vI (274625) :: S) h Q := wp_pl rfl rfl rfl
theorem s90_42 : WP 90 0 42 L (vI y :: vI x :: S) h Q ↔ zif (x < y) (WP 90 0 45 L S h Q) (WP 90 0 114 L S h Q) := wp_bN zc_lt rfl rfl rfl
theorem s90_45 : WP 90 0 45 [a0, a1, a2, a3, a4, a5, a6, vA r, a8] S h Q ↔ WP 90 0 47 [a0, a1, a2, a3, a4, a5, a6, vA r, a8] (vA r :: S) h Q := wp_aload rfl rfl
theorem s90_47 : WP 90 0 47 L S h Q ↔ WP 90 0 48 L (vI 0 :: S) h Q := wp_pl rfl rfl rfl
theorem s90_48 : WP 90 0 48 [a0, a1, a2, a3, a4, a5, a6, a7, vI x] S h Q ↔ WP 90 0 50 [a0, a1, a2, a3, a4, a5, a6, a7, vI x] (vI x :: S) h Q := wp_iload rfl rfl
theorem s90_50 : WP 90 0 50 L S h Q ↔ WP 90 0 52 L (vI 65 :: S) h Q := wp_pl rfl rfl rfl
theorem s90_52 : WP 90 0 52 L (vI y :: vI x :: S) h Q ↔ (¬ y = 0 ∧ WP 90 0 53 L (vI (wr (x.tdiv y)) :: S) h Q) := wp_ifx rfl rfl rfl
theorem s90_53 : WP 90 0 53 L S h Q ↔ WP 90 0 55 L (vI 65 :: S) h Q := wp_pl rfl rfl rfl
theorem s90_55 : WP 90 0 55 L (vI y :: vI x :: S) h Q ↔ (¬ y = 0 ∧ WP 90 0 56 L (vI (wr (x.tdiv y)) :: S) h Q) := wp_ifx rfl rfl rfl
theorem s90_56 : WP 90 0 56 L (vI y :: vI x :: vA (some a) :: S) h Q ↔ (((hk h a).1 = 1 ∧ (0 ≤ x ∧ x < ((hk h a).2 : Int)) ∧ zNC ≤ a) ∧ WP 90 0 57 L S (hput h a x.toNat (vI y)) Q) := wp_if rfl rfl rfl
theorem s90_57 : WP 90 0 57 [a0, a1, a2, a3, a4, a5, a6, vA r, a8] S h Q ↔ WP 90 0 59 [a0, a1, a2, a3, a4, a5, a6, vA r, a8] (vA r :: S) h Q := wp_aload rfl rfl
theorem s90_59 : WP 90 0 59 L S h Q ↔ WP 90 0 60 L (vI 1 :: S) h Q := wp_pl rfl rfl rfl
theorem s90_60 : WP 90 0 60 [a0, a1, a2, a3, a4, a5, a6, a7, vI x] S h Q ↔ WP 90 0 62 [a0, a1, a2, a3, a4, a5, a6, a7, vI x] (vI x :: S) h Q := wp_iload rfl rfl
theorem s90_62 : WP 90 0 62 L S h Q ↔ WP 90 0 64 L (vI 65 :: S) h Q := wp_pl rfl rfl rfl
theorem s90_64 : WP 90 0 64 L (vI y :: vI x :: S) h Q ↔ (¬ y = 0 ∧ WP 90 0 65 L (vI (wr (x.tdiv y)) :: S) h Q) := wp_ifx rfl rfl rfl
theorem s90_65 : WP 90 0 65 L S h Q ↔ WP 90 0 67 L (vI 65 :: S) h Q := wp_pl rfl rfl rfl
theorem s90_67 : WP 90 0 67 L (vI y :: vI x :: S) h Q ↔ (¬ y = 0 ∧ WP 90 0 68 L (vI (x.tmod y) :: S) h Q) := wp_ifx rfl rfl rfl
theorem s90_68 : WP 90 0 68 L (vI y :: vI x :: vA (some a) :: S) h Q ↔ (((hk h a).1 = 1 ∧ (0 ≤ x ∧ x < ((hk h a).2 : Int)) ∧ zNC ≤ a) ∧ WP 90 0 69 L S (hput h a x.toNat (vI y)) Q) := wp_if rfl rfl rfl
theorem s90_69 : WP 90 0 69 [a0, a1, a2, a3, a4, a5, a6, vA r, a8] S h Q ↔ WP 90 0 71 [a0, a1, a2, a3, a4, a5, a6, vA r, a8] (vA r :: S) h Q := wp_aload rfl rfl
theorem s90_71 : WP 90 0 71 L S h Q ↔ WP 90 0 72 L (vI 2 :: S) h Q := wp_pl rfl rfl rfl
theorem s90_72 : WP 90 0 72 [a0, a1, a2, a3, a4, a5, a6, a7, vI x] S h Q ↔ WP 90 0 74 [a0, a1, a2, a3, a4, a5, a6, a7, vI x] (vI x :: S) h Q := wp_iload rfl rfl
theorem s90_74 : WP 90 0 74 L S h Q ↔ WP 90 0 76 L (vI 65 :: S) h Q := wp_pl rfl rfl rfl
theorem s90_76 : WP 90 0 76 L (vI y :: vI x :: S) h Q ↔ (¬ y = 0 ∧ WP 90 0 77 L (vI (x.tmod y) :: S) h Q) := wp_ifx rfl rfl rfl
theorem s90_77 : WP 90 0 77 L (vI y :: vI x :: vA (some a) :: S) h Q ↔ (((hk h a).1 = 1 ∧ (0 ≤ x ∧ x < ((hk h a).2 : Int)) ∧ zNC ≤ a) ∧ WP 90 0 78 L S (hput h a x.toNat (vI y)) Q) := wp_if rfl rfl rfl
theorem s90_78 : WP 90 0 78 [vA r, a1, a2, a3, a4, a5, a6, a7, a8] S h Q ↔ WP 90 0 79 [vA r, a1, a2, a3, a4, a5, a6, a7, a8] (vA r :: S) h Q := wp_aload rfl rfl
theorem s90_79 : WP 90 0 79 [a0, a1, a2, a3, vA r, a5, a6, a7, a8] S h Q ↔ WP 90 0 81 [a0, a1, a2, a3, vA r, a5, a6, a7, a8] (vA r :: S) h Q := wp_aload rfl rfl
theorem s90_81 : WP 90 0 81 [a0, a1, a2, a3, a4, a5, vI x, a7, a8] S h Q ↔ WP 90 0 83 [a0, a1, a2, a3, a4, a5, vI x, a7, a8] (vI x :: S) h Q := wp_iload rfl rfl
theorem s90_83 : WP 90 0 83 [a0, a1, a2, a3, a4, a5, a6, vA r, a8] S h Q ↔ WP 90 0 85 [a0, a1, a2, a3, a4, a5, a6, vA r, a8] (vA r :: S) h Q := wp_aload rfl rfl
theorem s90_85 : WP 90 0 85 L (vA r2 :: vI x1 :: vA r0 :: vA (some a) :: S) h Q ↔ ((hk h a).1 = 100 ∧ (zw S ≤ 8 ∧ WP 35 0 0 [vA (some a), vA r0, vI x1, vA r2, vJ, vJ] [] h (zret 90 0 85 88 L S Q))) := wp_V1 (c := 100) rfl rfl (fun _ => rfl) rfl rfl (zcan_of rfl rfl) rfl rfl rfl
theorem s90_88 : WP 90 0 88 L (vI x :: S) h Q ↔ zif (x = 0) (WP 90 0 91 L S h Q) (WP 90 0 94 L S h Q) := wp_bN zc_eq rfl rfl rfl
theorem s90_91 : WP 90 0 91 L S h Q ↔ WP 90 0 108 L S h Q := wp_pl rfl rfl rfl
theorem s90_94 : WP 90 0 94 [a0, a1, a2, a3, a4, vI x, a6, a7, a8] S h Q ↔ WP 90 0 96 [a0, a1, a2, a3, a4, vI x, a6, a7, a8] (vI x :: S) h Q := wp_iload rfl rfl
theorem s90_96 : WP 90 0 96 [a0, a1, vI x, a3, a4, a5, a6, a7, a8] S h Q ↔ WP 90 0 97 [a0, a1, vI x, a3, a4, a5, a6, a7, a8] (vI x :: S) h Q := wp_iload rfl rfl
theorem s90_97 : WP 90 0 97 L (vI y :: vI x :: S) h Q ↔ zif (x = y) (WP 90 0 100 L S h Q) (WP 90 0 105 L S h Q) := wp_bN zc_eq rfl rfl rfl
theorem s90_100 : WP 90 0 100 [a0, a1, a2, a3, a4, a5, a6, vA r, a8] S h Q ↔ WP 90 0 102 [a0, a1, a2, a3, a4, a5, a6, vA r, a8] (vA r :: S) h Q := wp_aload rfl rfl
theorem s90_102 : WP 90 0 102 [a0, a1, a2, vI x, a4, a5, a6, a7, a8] S h Q ↔ WP 90 0 103 [a0, a1, a2, vI x, a4, a5, a6, a7, a8] (vI x :: S) h Q := wp_iload rfl rfl
theorem s90_103 : WP 90 0 103 L (vI x :: vA (some a) :: S) h Q ↔ (((hk h a).1 = 1 ∧ 0 ≤ x ∧ x < ((hk h a).2 : Int)) ∧ WP 90 0 104 L (hm h a x.toNat :: S) h Q) := wp_if rfl rfl rfl
theorem s90_104 : WP 90 0 104 L [vI x] h Q ↔ Q (.inl (some (vI x))) h := wp_iret0 rfl rfl
theorem s90_105 : WP 90 0 105 [a0, a1, a2, a3, a4, vI x, a6, a7, a8] S h Q ↔ WP 90 0 108 [a0, a1, a2, a3, a4, vI (wr (x + 1)), a6, a7, a8] S h Q := wp_iinc rfl rfl rfl
theorem s90_108 : WP 90 0 108 [a0, a1, a2, a3, a4, a5, a6, a7, vI x] S h Q ↔ WP 90 0 111 [a0, a1, a2, a3, a4, a5, a6, a7, vI (wr (x + 1))] S h Q := wp_iinc rfl rfl rfl
theorem s90_111 : WP 90 0 111 L S h Q ↔ WP 90 0 37 L S h Q := wp_pl rfl rfl rfl
theorem s90_114 : WP 90 0 114 [a0, a1, vI x, a3, a4, a5, a6, a7, a8] S h Q ↔ WP 90 0 115 [a0, a1, vI x, a3, a4, a5, a6, a7, a8] (vI x :: S) h Q := wp_iload rfl rfl
theorem s90_115 : WP 90 0 115 L S h Q ↔ WP 90 0 116 L (vI (-1) :: S) h Q := wp_pl rfl rfl rfl
theorem s90_116 : WP 90 0 116 L (vI y :: vI x :: S) h Q ↔ zif (x = y) (WP 90 0 119 L S h Q) (WP 90 0 124 L S h Q) := wp_bN zc_eq rfl rfl rfl
theorem s90_119 : WP 90 0 119 [a0, a1, a2, a3, a4, vI x, a6, a7, a8] S h Q ↔ WP 90 0 121 [a0, a1, a2, a3, a4, vI x, a6, a7, a8] (vI x :: S) h Q := wp_iload rfl rfl
theorem s90_121 : WP 90 0 121 L S h Q ↔ WP 90 0 125 L S h Q := wp_pl rfl rfl rfl
theorem s90_124 : WP 90 0 124 L S h Q ↔ WP 90 0 125 L (vI (-1) :: S) h Q := wp_pl rfl rfl rfl
theorem s90_125 : WP 90 0 125 L [vI x] h Q ↔ Q (.inl (some (vI x))) h := wp_iret0 rfl rfl
/-! RepeatFree.without(Ljava/lang/String;I)Ljava/lang/String; -/
theorem s91_0 : WP 91 0 0 L S h Q ↔ WP 91 0 3 L (vA (some (hn h)) :: S) (hnew h (116, 0) 4 zdf) Q := wp_pl rfl rfl rfl
theorem s91_3 : WP 91 0 3 L (vA r :: S) h Q ↔ WP 91 0 4 L (vA r :: vA r :: S) h Q := wp_pl rfl rfl rfl
theorem s91_3i : WP 91 0 3 L (vI x :: S) h Q ↔ WP 91 0 4 L (vI x :: vI x :: S) h Q := wp_pl rfl rfl rfl
theorem s91_4 : WP 91 0 4 L (vA (some a) :: S) h Q ↔ ((zNC ≤ a ∧ 100 ≤ (hk h a).1) ∧ zw S ≤ 8 ∧ WP 307 0 0 [vA (some a)] [] h (zret 91 0 4 7 L S Q)) := wp_I rfl rfl rfl (zcan_of rfl rfl) rfl rfl rfl
theorem s91_7 : WP 91 0 7 [a0, a1, a2, a3] (vA r :: S) h Q ↔ WP 91 0 8 [a0, a1, vA r, a3] S h Q := wp_astore rfl rfl rfl
theorem s91_8 : WP 91 0 8 L S h Q ↔ WP 91 0 9 L (vI 0 :: S) h Q := wp_pl rfl rfl rfl
theorem s91_9 : WP 91 0 9 [a0, a1, a2, a3] (vI x :: S) h Q ↔ WP 91 0 10 [a0, a1, a2, vI x] S h Q := wp_istore rfl rfl rfl
theorem s91_10 : WP 91 0 10 [a0, a1, a2, vI x] S h Q ↔ WP 91 0 11 [a0, a1, a2, vI x] (vI x :: S) h Q := wp_iload rfl rfl
theorem s91_11 : WP 91 0 11 [vA r, a1, a2, a3] S h Q ↔ WP 91 0 12 [vA r, a1, a2, a3] (vA r :: S) h Q := wp_aload rfl rfl
theorem s91_12 : WP 91 0 12 L (vA (some a) :: S) h Q ↔ ((hk h a).1 = 117 ∧ (zw S ≤ 8 ∧ WP 323 0 0 [vA (some a)] [] h (zret 91 0 12 15 L S Q))) := wp_V1 (c := 117) rfl rfl (fun _ => rfl) rfl rfl (zcan_of rfl rfl) rfl rfl rfl
theorem s91_15 : WP 91 0 15 L (vI y :: vI x :: S) h Q ↔ zif (x < y) (WP 91 0 18 L S h Q) (WP 91 0 49 L S h Q) := wp_bN zc_lt rfl rfl rfl
theorem s91_18 : WP 91 0 18 [a0, vI x, a2, a3] S h Q ↔ WP 91 0 19 [a0, vI x, a2, a3] (vI x :: S) h Q := wp_iload rfl rfl
theorem s91_19 : WP 91 0 19 [vA r, a1, a2, a3] S h Q ↔ WP 91 0 20 [vA r, a1, a2, a3] (vA r :: S) h Q := wp_aload rfl rfl
theorem s91_20 : WP 91 0 20 [a0, a1, a2, vI x] S h Q ↔ WP 91 0 21 [a0, a1, a2, vI x] (vI x :: S) h Q := wp_iload rfl rfl
theorem s91_21 : WP 91 0 21 L (vI x0 :: vA (some a) :: S) h Q ↔ ((hk h a).1 = 117 ∧ (zw S ≤ 8 ∧ WP 310 0 0 [vA (some a), vI x0] [] h (zret 91 0 21 24 L S Q))) := wp_V1 (c := 117) rfl rfl (fun _ => rfl) rfl rfl (zcan_of rfl rfl) rfl rfl rfl
theorem s91_24 : WP 91 0 24 L S h Q ↔ WP 91 0 26 L (vI 120 :: S) h Q := wp_pl rfl rfl rfl
theorem s91_26 : WP 91 0 26 L (vI y :: vI x :: S) h Q ↔ WP 91 0 27 L (vI (wr (x - y)) :: S) h Q := wp_pl rfl rfl rfl
theorem s91_27 : WP 91 0 27 L (vI x1 :: vI x0 :: S) h Q ↔ (zw S ≤ 8 ∧ WP 30 0 0 [vI x0, vI x1] [] h (zret 91 0 27 30 L S Q)) := wp_S rfl rfl (zcan_of rfl rfl) rfl rfl rfl
theorem s91_30 : WP 91 0 30 L (vI x :: S) h Q ↔ zif (x = 0) (WP 91 0 33 L S h Q) (WP 91 0 43 L S h Q) := wp_bN zc_eq rfl rfl rfl
theorem s91_33 : WP 91 0 33 [a0, a1, vA r, a3] S h Q ↔ WP 91 0 34 [a0, a1, vA r, a3] (vA r :: S) h Q := wp_aload rfl rfl
theorem s91_34 : WP 91 0 34 [vA r, a1, a2, a3] S h Q ↔ WP 91 0 35 [vA r, a1, a2, a3] (vA r :: S) h Q := wp_aload rfl rfl
theorem s91_35 : WP 91 0 35 [a0, a1, a2, vI x] S h Q ↔ WP 91 0 36 [a0, a1, a2, vI x] (vI x :: S) h Q := wp_iload rfl rfl
theorem s91_36 : WP 91 0 36 L (vI x0 :: vA (some a) :: S) h Q ↔ ((hk h a).1 = 117 ∧ (zw S ≤ 8 ∧ WP 310 0 0 [vA (some a), vI x0] [] h (zret 91 0 36 39 L S Q))) := wp_V1 (c := 117) rfl rfl (fun _ => rfl) rfl rfl (zcan_of rfl rfl) rfl rfl rfl
theorem s91_39 : WP 91 0 39 L (vI x0 :: vA (some a) :: S) h Q ↔ ((hk h a).1 = 116 ∧ (zw S ≤ 8 ∧ WP 304 0 0 [vA (some a), vI x0] [] h (zret 91 0 39 42 L S Q))) := wp_V1 (c := 116) rfl rfl (fun _ => rfl) rfl rfl (zcan_of rfl rfl) rfl rfl rfl
theorem s91_42 : WP 91 0 42 L (vA r :: S) h Q ↔ WP 91 0 43 L S h Q := wp_pl rfl rfl rfl
theorem s91_42i : WP 91 0 42 L (vI x :: S) h Q ↔ WP 91 0 43 L S h Q := wp_pl rfl rfl rfl
theorem s91_43 : WP 91 0 43 [a0, a1, a2, vI x] S h Q ↔ WP 91 0 46 [a0, a1, a2, vI (wr (x + 1))] S h Q := wp_iinc rfl rfl rfl
theorem s91_46 : WP 91 0 46 L S h Q ↔ WP 91 0 10 L S h Q := wp_pl rfl rfl rfl
theorem s91_49 : WP 91 0 49 [a0, a1, vA r, a3] S h Q ↔ WP 91 0 50 [a0, a1, vA r, a3] (vA r :: S) h Q := wp_aload rfl rfl
theorem s91_50 : WP 91 0 50 L (vA (some a) :: S) h Q ↔ ((hk h a).1 = 116 ∧ (zw S ≤ 8 ∧ WP 309 0 0 [vA (some a)] [] h (zret 91 0 50 53 L S Q))) := wp_V1 (c := 116) rfl rfl (fun _ => rfl) rfl rfl (zcan_of rfl rfl) rfl rfl rfl
theorem s91_53 : WP 91 0 53 L [vA r] h Q ↔ Q (.inl (some (vA r))) h := wp_aret rfl
/-! RepeatFree.word()I -/
theorem s92_0 : WP 92 0 0 [vA r, a1, a2, a3] S h Q ↔ WP 92 0 1 [vA r, a1, a2, a3] (vA r :: S) h Q := wp_aload rfl rfl
theorem s92_1 : WP 92 0 1 L (vA (some a) :: S) h Q ↔ ((hk h a).1 = 100 ∧ (zw S ≤ 8 ∧ WP 86 0 0 [vA (some a), vJ] [] h (zret 92 0 1 4 L S Q))) := wp_V1 (c := 100) rfl rfl (fun _ => rfl) rfl rfl (zcan_of rfl rfl) rfl rfl rfl
theorem s92_4 : WP 92 0 4 [a0, a1, a2, a3] (vI x :: S) h Q ↔ WP 92 0 5 [a0, vI x, a2, a3] S h Q := wp_istore rfl rfl rfl
theorem s92_5 : WP 92 0 5 L S h Q ↔ WP 92 0 8 L (vA (some (hn h)) :: S) (hnew h (102, 0) 2 zdf) Q := wp_pl rfl rfl rfl
theorem s92_8 : WP 92 0 8 L (vA r :: S) h Q ↔ WP 92 0 9 L (vA r :: vA r :: S) h Q := wp_pl rfl rfl rfl
theorem s92_8i : WP 92 0 8 L (vI x :: S) h Q ↔ WP 92 0 9 L (vI x :: vI x :: S) h Q := wp_pl rfl rfl rfl
theorem s92_9 : WP 92 0 9 L (vA (some a) :: S) h Q ↔ ((zNC ≤ a ∧ 100 ≤ (hk h a).1) ∧ zw S ≤ 8 ∧ WP 100 0 0 [vA (some a)] [] h (zret 92 0 9 12 L S Q)) := wp_I rfl rfl rfl (zcan_of rfl rfl) rfl rfl rfl
theorem s92_12 : WP 92 0 12 [a0, a1, a2, a3] (vA r :: S) h Q ↔ WP 92 0 13 [a0, a1, vA r, a3] S h Q := wp_astore rfl rfl rfl
theorem s92_13 : WP 92 0 13 L S h Q ↔ WP 92 0 14 L (vI 0 :: S) h Q := wp_pl rfl rfl rfl
theorem s92_14 : WP 92 0 14 [a0, a1, a2, a3] (vI x :: S) h Q ↔ WP 92 0 15 [a0, a1, a2, vI x] S h Q := wp_istore rfl rfl rfl
theorem s92_15 : WP 92 0 15 [a0, a1, a2, vI x] S h Q ↔ WP 92 0 16 [a0, a1, a2, vI x] (vI x :: S) h Q := wp_iload rfl rfl
theorem s92_16 : WP 92 0 16 [a0, vI x, a2, a3] S h Q ↔ WP 92 0 17 [a0, vI x, a2, a3] (vI x :: S) h Q := wp_iload rfl rfl
theorem s92_17 : WP 92 0 17 L (vI y :: vI x :: S) h Q ↔ zif (x < y) (WP 92 0 20 L S h Q) (WP 92 0 38 L S h Q) := wp_bN zc_lt rfl rfl rfl
theorem s92_20 : WP 92 0 20 [vA r, a1, a2, a3] S h Q ↔ WP 92 0 21 [vA r, a1, a2, a3] (vA r :: S) h Q := wp_aload rfl rfl
theorem s92_21 : WP 92 0 21 L (vA (some a) :: S) h Q ↔ (zhas 1 (hk h a) = true ∧ WP 92 0 24 L (hm h a 1 :: S) h Q) := wp_if rfl rfl rfl
theorem s92_24 : WP 92 0 24 [a0, a1, a2, vI x] S h Q ↔ WP 92 0 25 [a0, a1, a2, vI x] (vI x :: S) h Q := wp_iload rfl rfl
theorem s92_25 : WP 92 0 25 L (vI x :: vA (some a) :: S) h Q ↔ ((((hk h a).1 = 2 ∨ (hk h a).1 = 3) ∧ 0 ≤ x ∧ x < ((hk h a).2 : Int)) ∧ WP 92 0 26 L (hm h a x.toNat :: S) h Q) := wp_if rfl rfl rfl
theorem s92_26 : WP 92 0 26 L (vI x0 :: S) h Q ↔ (zw S ≤ 8 ∧ WP 36 0 0 [vI x0] [] h (zret 92 0 26 29 L S Q)) := wp_S rfl rfl (zcan_of rfl rfl) rfl rfl rfl
theorem s92_29 : WP 92 0 29 L (vI x :: S) h Q ↔ zif (x = 0) (WP 92 0 38 L S h Q) (WP 92 0 32 L S h Q) := wp_bE zc_eq rfl rfl rfl
theorem s92_32 : WP 92 0 32 [a0, a1, a2, vI x] S h Q ↔ WP 92 0 35 [a0, a1, a2, vI (wr (x + 1))] S h Q := wp_iinc rfl rfl rfl
theorem s92_35 : WP 92 0 35 L S h Q ↔ WP 92 0 15 L S h Q := wp_pl rfl rfl rfl
theorem s92_38 : WP 92 0 38 [a0, a1, a2, vI x] S h Q ↔ WP 92 0 39 [a0, a1, a2, vI x] (vI x :: S) h Q := wp_iload rfl rfl
theorem s92_39 : WP 92 0 39 [a0, vI x, a2, a3] S h Q ↔ WP 92 0 40 [a0, vI x, a2, a3] (vI x :: S) h Q := wp_iload rfl rfl
theorem s92_40 : WP 92 0 40 L (vI y :: vI x :: S) h Q ↔ zif (x < y) (WP 92 0 43 L S h Q) (WP 92 0 104 L S h Q) := wp_bN zc_lt rfl rfl rfl
theorem s92_43 : WP 92 0 43 [vA r, a1, a2, a3] S h Q ↔ WP 92 0 44 [vA r, a1, a2, a3] (vA r :: S) h Q := wp_aload rfl rfl
theorem s92_44 : WP 92 0 44 L (vA (some a) :: S) h Q ↔ (zhas 1 (hk h a) = true ∧ WP 92 0 47 L (hm h a 1 :: S) h Q) := wp_if rfl rfl rfl
theorem s92_47 : WP 92 0 47 [a0, a1, a2, vI x] S h Q ↔ WP 92 0 48 [a0, a1, a2, vI x] (vI x :: S) h Q := wp_iload rfl rfl
theorem s92_48 : WP 92 0 48 L (vI x :: vA (some a) :: S) h Q ↔ ((((hk h a).1 = 2 ∨ (hk h a).1 = 3) ∧ 0 ≤ x ∧ x < ((hk h a).2 : Int)) ∧ WP 92 0 49 L (hm h a x.toNat :: S) h Q) := wp_if rfl rfl rfl
theorem s92_49 : WP 92 0 49 L S h Q ↔ WP 92 0 51 L (vI 97 :: S) h Q := wp_pl rfl rfl rfl
theorem s92_51 : WP 92 0 51 L (vI y :: vI x :: S) h Q ↔ WP 92 0 52 L (vI (wr (x - y)) :: S) h Q := wp_pl rfl rfl rfl
theorem s92_52 : WP 92 0 52 L (vI x :: S) h Q ↔ WP 92 0 53 L (vL x :: S) h Q := wp_pl rfl rfl rfl
theorem s92_53 : WP 92 0 53 L S h Q ↔ WP 92 0 54 L (vL 0 :: S) h Q := wp_pl rfl rfl rfl
theorem s92_54 : WP 92 0 54 [vA r, a1, a2, a3] S h Q ↔ WP 92 0 55 [vA r, a1, a2, a3] (vA r :: S) h Q := wp_aload rfl rfl
theorem s92_55 : WP 92 0 55 L (vA (some a) :: S) h Q ↔ (zhas 4 (hk h a) = true ∧ WP 92 0 58 L (hm h a 4 :: S) h Q) := wp_if rfl rfl rfl
theorem s92_58 : WP 92 0 58 L (vA (some a) :: S) h Q ↔ (zhas 12 (hk h a) = true ∧ WP 92 0 61 L (hm h a 12 :: S) h Q) := wp_if rfl rfl rfl
theorem s92_61 : WP 92 0 61 L S h Q ↔ WP 92 0 62 L (vI 1 :: S) h Q := wp_pl rfl rfl rfl
theorem s92_62 : WP 92 0 62 L (vI y :: vI x :: S) h Q ↔ WP 92 0 63 L (vI (wr (x - y)) :: S) h Q := wp_pl rfl rfl rfl
theorem s92_63 : WP 92 0 63 L (vI x :: S) h Q ↔ WP 92 0 64 L (vL x :: S) h Q := wp_pl rfl rfl rfl
theorem s92_64 : WP 92 0 64 L (vL x2 :: vL x1 :: vL x0 :: S) h Q ↔ (zw S ≤ 8 ∧ WP 38 0 0 [vL x0, vJ, vL x1, vJ, vL x2, vJ] [] h (zret 92 0 64 67 L S Q)) := wp_S rfl rfl (zcan_of rfl rfl) rfl rfl rfl
theorem s92_67 : WP 92 0 67 L (vI x :: S) h Q ↔ zif (x = 0) (WP 92 0 104 L S h Q) (WP 92 0 70 L S h Q) := wp_bE zc_eq rfl rfl rfl
theorem s92_70 : WP 92 0 70 [a0, a1, vA r, a3] S h Q ↔ WP 92 0 71 [a0, a1, vA r, a3] (vA r :: S) h Q := wp_aload rfl rfl
theorem s92_71 : WP 92 0 71 L (vA (some a) :: S) h Q ↔ (zhas 15 (hk h a) = true ∧ WP 92 0 74 L (hm h a 15 :: S) h Q) := wp_if rfl rfl rfl
theorem s92_74 : WP 92 0 74 L S h Q ↔ WP 92 0 76 L (vI 64 :: S) h Q := wp_pl rfl rfl rfl
theorem s92_76 : WP 92 0 76 L (vI y :: vI x :: S) h Q ↔ zif (x = y) (WP 92 0 79 L S h Q) (WP 92 0 85 L S h Q) := wp_bN zc_eq rfl rfl rfl
theorem s92_79 : WP 92 0 79 [vA r, a1, a2, a3] S h Q ↔ WP 92 0 80 [vA r, a1, a2, a3] (vA r :: S) h Q := wp_aload rfl rfl
theorem s92_80 : WP 92 0 80 [a0, a1, a2, vI x] S h Q ↔ WP 92 0 81 [a0, a1, a2, vI x] (vI x :: S) h Q := wp_iload rfl rfl
theorem s92_81 : WP 92 0 81 L (vI x0 :: vA (some a) :: S) h Q ↔ ((hk h a).1 = 100 ∧ (zw S ≤ 8 ∧ WP 44 0 0 [vA (some a), vI x0] [] h (zret 92 0 81 84 L S Q))) := wp_V1 (c := 100) rfl rfl (fun _ => rfl) rfl rfl (zcan_of rfl rfl) rfl rfl rfl
theorem s92_84 : WP 92 0 84 L (vA (some a) :: S) h Q ↔ ((((120 ≤ (hk h a).1 ∧ (hk h a).1 ≤ 123) ∨ (hk h a).1 = 109)) ∧ Q (.inr a) h) := wp_athrow (fun _ => rfl) rfl
theorem s92_85 : WP 92 0 85 [a0, a1, vA r, a3] S h Q ↔ WP 92 0 86 [a0, a1, vA r, a3] (vA r :: S) h Q := wp_aload rfl rfl
theorem s92_86 : WP 92 0 86 [vA r, a1, a2, a3] S h Q ↔ WP 92 0 87 [vA r, a1, a2, a3] (vA r :: S) h Q := wp_aload rfl rfl
theorem s92_87 : WP 92 0 87 L (vA (some a) :: S) h Q ↔ (zhas 1 (hk h a) = true ∧ WP 92 0 90 L (hm h a 1 :: S) h Q) := wp_if rfl rfl rfl
theorem s92_90 : WP 92 0 90 [a0, a1, a2, vI x] S h Q ↔ WP 92 0 91 [a0, a1, a2, vI x] (vI x :: S) h Q := wp_iload rfl rfl
theorem s92_91 : WP 92 0 91 L (vI x :: vA (some a) :: S) h Q ↔ ((((hk h a).1 = 2 ∨ (hk h a).1 = 3) ∧ 0 ≤ x ∧ x < ((hk h a).2 : Int)) ∧ WP 92 0 92 L (hm h a x.toNat :: S) h Q) := wp_if rfl rfl rfl
theorem s92_92 : WP 92 0 92 L S h Q ↔ WP 92 0 94 L (vI 97 :: S) h Q := wp_pl rfl rfl rfl
theorem s92_94 : WP 92 0 94 L (vI y :: vI x :: S) h Q ↔ WP 92 0 95 L (vI (wr (x - y)) :: S) h Q := wp_pl rfl rfl rfl
theorem s92_95 : WP 92 0 95 L (vI x0 :: vA (some a) :: S) h Q ↔ ((hk h a).1 = 102 ∧ (zw S ≤ 8 ∧ WP 97 0 0 [vA (some a), vI x0] [] h (zret 92 0 95 98 L S Q))) := wp_V1 (c := 102) rfl rfl (fun _ => rfl) rfl rfl (zcan_of rfl rfl) rfl rfl rfl
theorem s92_98 : WP 92 0 98 [a0, a1, a2, vI x] S h Q ↔ WP 92 0 101 [a0, a1, a2, vI (wr (x + 1))] S h Q := wp_iinc rfl rfl rfl
theorem s92_101 : WP 92 0 101 L S h Q ↔ WP 92 0 38 L S h Q := wp_pl rfl rfl rfl
theorem s92_104 : WP 92 0 104 [a0, a1, a2, vI x] S h Q ↔ WP 92 0 105 [a0, a1, a2, vI x] (vI x :: S) h Q := wp_iload rfl rfl
theorem s92_105 : WP 92 0 105 [a0, vI x, a2, a3] S h Q ↔ WP 92 0 106 [a0, vI x, a2, a3] (vI x :: S) h Q := wp_iload rfl rfl
theorem s92_106 : WP 92 0 106 L (vI y :: vI x :: S) h Q ↔ zif (x < y) (WP 92 0 109 L S h Q) (WP 92 0 127 L S h Q) := wp_bN zc_lt rfl rfl rfl
theorem s92_109 : WP 92 0 109 [vA r, a1, a2, a3] S h Q ↔ WP 92 0 110 [vA r, a1, a2, a3] (vA r :: S) h Q := wp_aload rfl rfl
theorem s92_110 : WP 92 0 110 L (vA (some a) :: S) h Q ↔ (zhas 1 (hk h a) = true ∧ WP 92 0 113 L (hm h a 1 :: S) h Q) := wp_if rfl rfl rfl
theorem s92_113 : WP 92 0 113 [a0, a1, a2, vI x] S h Q ↔ WP 92 0 114 [a0, a1, a2, vI x] (vI x :: S) h Q := wp_iload rfl rfl
theorem s92_114 : WP 92 0 114 L (vI x :: vA (some a) :: S) h Q ↔ ((((hk h a).1 = 2 ∨ (hk h a).1 = 3) ∧ 0 ≤ x ∧ x < ((hk h a).2 : Int)) ∧ WP 92 0 115 L (hm h a x.toNat :: S) h Q) := wp_if rfl rfl rfl
theorem s92_115 : WP 92 0 115 L (vI x0 :: S) h Q ↔ (zw S ≤ 8 ∧ WP 36 0 0 [vI x0] [] h (zret 92 0 115 118 L S Q)) := wp_S rfl rfl (zcan_of rfl rfl) rfl rfl rfl
theorem s92_118 : WP 92 0 118 L (vI x :: S) h Q ↔ zif (x = 0) (WP 92 0 127 L S h Q) (WP 92 0 121 L S h Q) := wp_bE zc_eq rfl rfl rfl
theorem s92_121 : WP 92 0 121 [a0, a1, a2, vI x] S h Q ↔ WP 92 0 124 [a0, a1, a2, vI (wr (x + 1))] S h Q := wp_iinc rfl rfl rfl
theorem s92_124 : WP 92 0 124 L S h Q ↔ WP 92 0 104 L S h Q := wp_pl rfl rfl rfl
theorem s92_127 : WP 92 0 127 [a0, a1, a2, vI x] S h Q ↔ WP 92 0 128 [a0, a1, a2, vI x] (vI x :: S) h Q := wp_iload rfl rfl
theorem s92_128 : WP 92 0 128 [a0, vI x, a2, a3] S h Q ↔ WP 92 0 129 [a0, vI x, a2, a3] (vI x :: S) h Q := wp_iload rfl rfl
theorem s92_129 : WP 92 0 129 L (vI y :: vI x :: S) h Q ↔ zif (x < y) (WP 92 0 132 L S h Q) (WP 92 0 138 L S h Q) := wp_bN zc_lt rfl rfl rfl
theorem s92_132 : WP 92 0 132 [vA r, a1, a2, a3] S h Q ↔ WP 92 0 133 [vA r, a1, a2, a3] (vA r :: S) h Q := wp_aload rfl rfl
theorem s92_133 : WP 92 0 133 [a0, a1, a2, vI x] S h Q ↔ WP 92 0 134 [a0, a1, a2, vI x] (vI x :: S) h Q := wp_iload rfl rfl
theorem s92_134 : WP 92 0 134 L (vI x0 :: vA (some a) :: S) h Q ↔ ((hk h a).1 = 100 ∧ (zw S ≤ 8 ∧ WP 44 0 0 [vA (some a), vI x0] [] h (zret 92 0 134 137 L S Q))) := wp_V1 (c := 100) rfl rfl (fun _ => rfl) rfl rfl (zcan_of rfl rfl) rfl rfl rfl
theorem s92_137 : WP 92 0 137 L (vA (some a) :: S) h Q ↔ ((((120 ≤ (hk h a).1 ∧ (hk h a).1 ≤ 123) ∨ (hk h a).1 = 109)) ∧ Q (.inr a) h) := wp_athrow (fun _ => rfl) rfl
theorem s92_138 : WP 92 0 138 [vA r, a1, a2, a3] S h Q ↔ WP 92 0 139 [vA r, a1, a2, a3] (vA r :: S) h Q := wp_aload rfl rfl
theorem s92_139 : WP 92 0 139 [a0, a1, vA r, a3] S h Q ↔ WP 92 0 140 [a0, a1, vA r, a3] (vA r :: S) h Q := wp_aload rfl rfl
theorem s92_140 : WP 92 0 140 L (vA r0 :: vA (some a) :: S) h Q ↔ ((hk h a).1 = 100 ∧ (zw S ≤ 8 ∧ WP 4 0 0 [vA (some a), vA r0] [] h (zret 92 0 140 143 L S Q))) := wp_V1 (c := 100) rfl rfl (fun _ => rfl) rfl rfl (zcan_of rfl rfl) rfl rfl rfl
theorem s92_143 : WP 92 0 143 [a0, a1, vA r, a3] S h Q ↔ WP 92 0 144 [a0, a1, vA r, a3] (vA r :: S) h Q := wp_aload rfl rfl
theorem s92_144 : WP 92 0 144 L (vA (some a) :: S) h Q ↔ (zhas 15 (hk h a) = true ∧ WP 92 0 147 L (hm h a 15 :: S) h Q) := wp_if rfl rfl rfl
theorem s92_147 : WP 92 0 147 L [vI x] h Q ↔ Q (.inl (some (vI x))) h := wp_iret0 rfl rfl
/-! RepeatFree$Told.<init>()V -/
theorem s93_0 : WP 93 0 0 [vA r] S h Q ↔ WP 93 0 1 [vA r] (vA r :: S) h Q := wp_aload rfl rfl
theorem s93_1 : WP 93 0 1 L (vA (some a) :: S) h Q ↔ ((zw S ≤ 8 ∧ zNC ≤ a) ∧ WP 93 0 4 L S h Q) := wp_if rfl rfl rfl
theorem s93_4 : WP 93 0 4 [vA r] S h Q ↔ WP 93 0 5 [vA r] (vA r :: S) h Q := wp_aload rfl rfl
theorem s93_5 : WP 93 0 5 L S h Q ↔ WP 93 0 8 L (vA (some (hn h)) :: S) (hnew h (111, 0) 4 zdf) Q := wp_pl rfl rfl rfl
theorem s93_8 : WP 93 0 8 L (vA r :: S) h Q ↔ WP 93 0 9 L (vA r :: vA r :: S) h Q := wp_pl rfl rfl rfl
theorem s93_8i : WP 93 0 8 L (vI x :: S) h Q ↔ WP 93 0 9 L (vI x :: vI x :: S) h Q := wp_pl rfl rfl rfl
theorem s93_9 : WP 93 0 9 L (vA (some a) :: S) h Q ↔ ((zNC ≤ a ∧ 100 ≤ (hk h a).1) ∧ zw S ≤ 8 ∧ WP 262 0 0 [vA (some a)] [] h (zret 93 0 9 12 L S Q)) := wp_I rfl rfl rfl (zcan_of rfl rfl) rfl rfl rfl
theorem s93_12 : WP 93 0 12 L (vA r :: vA (some a) :: S) h Q ↔ ((zNC ≤ a ∧ zhas 10 (hk h a) = true) ∧ WP 93 0 15 L S (hput h a 10 (vA r)) Q) := wp_put3 rfl rfl
theorem s93_15 : WP 93 0 15 [vA r] S h Q ↔ WP 93 0 16 [vA r] (vA r :: S) h Q := wp_aload rfl rfl
theorem s93_16 : WP 93 0 16 L S h Q ↔ WP 93 0 19 L (vA (some (hn h)) :: S) (hnew h (111, 0) 4 zdf) Q := wp_pl rfl rfl rfl
theorem s93_19 : WP 93 0 19 L (vA r :: S) h Q ↔ WP 93 0 20 L (vA r :: vA r :: S) h Q := wp_pl rfl rfl rfl
theorem s93_19i : WP 93 0 19 L (vI x :: S) h Q ↔ WP 93 0 20 L (vI x :: vI x :: S) h Q := wp_pl rfl rfl rfl
theorem s93_20 : WP 93 0 20 L (vA (some a) :: S) h Q ↔ ((zNC ≤ a ∧ 100 ≤ (hk h a).1) ∧ zw S ≤ 8 ∧ WP 262 0 0 [vA (some a)] [] h (zret 93 0 20 23 L S Q)) := wp_I rfl rfl rfl (zcan_of rfl rfl) rfl rfl rfl
theorem s93_23 : WP 93 0 23 L (vA r :: vA (some a) :: S) h Q ↔ ((zNC ≤ a ∧ zhas 11 (hk h a) = true) ∧ WP 93 0 26 L S (hput h a 11 (vA r)) Q) := wp_put3 rfl rfl
theorem s93_26 : WP 93 0 26 [vA r] S h Q ↔ WP 93 0 27 [vA r] (vA r :: S) h Q := wp_aload rfl rfl
theorem s93_27 : WP 93 0 27 L S h Q ↔ WP 93 0 28 L (vI 2 :: S) h Q := wp_pl rfl rfl rfl
theorem s93_28 : WP 93 0 28 L (vI x :: vA (some a) :: S) h Q ↔ ((zNC ≤ a ∧ zhas 12 (hk h a) = true) ∧ WP 93 0 31 L S (hput h a 12 (vI x)) Q) := wp_put0 rfl rfl
theorem s93_31 : WP 93 0 31 L [] h Q ↔ Q (.inl none) h := wp_ret rfl
/-! RepeatFree$Told.isNamed(Ljava/lang/String;)Z -/
theorem s94_0 : WP 94 0 0 [vA r, a1, a2, a3] S h Q ↔ WP 94 0 1 [vA r, a1, a2, a3] (vA r :: S) h Q := wp_aload rfl rfl
theorem s94_1 : WP 94 0 1 L (vA (some a) :: S) h Q ↔ (zhas 10 (hk h a) = true ∧ WP 94 0 4 L (hm h a 10 :: S) h Q) := wp_if rfl rfl rfl
theorem s94_4 : WP 94 0 4 L (vA (some a) :: S) h Q ↔ ((hk h a).1 = 111 ∧ (zw S ≤ 8 ∧ WP 398 0 0 [vA (some a)] [] h (zret 94 0 4 7 L S Q))) := wp_V1 (c := 111) rfl rfl (fun _ => rfl) rfl rfl (zcan_of rfl rfl) rfl rfl rfl
theorem s94_7 : WP 94 0 7 [a0, a1, a2, a3] (vA r :: S) h Q ↔ WP 94 0 8 [a0, a1, vA r, a3] S h Q := wp_astore rfl rfl rfl
theorem s94_8 : WP 94 0 8 [a0, a1, vA r, a3] S h Q ↔ WP 94 0 9 [a0, a1, vA r, a3] (vA r :: S) h Q := wp_aload rfl rfl
theorem s94_9 : WP 94 0 9 L (vA (some a) :: S) h Q ↔ ((hk h a).1 = 113 ∧ (zw S ≤ 8 ∧ WP 274 0 0 [vA (some a)] [] h (zret 94 0 9 14 L S Q))) := wp_F1 (c := 113) rfl rfl (fun _ => rfl) rfl rfl (zcan_of rfl rfl) rfl rfl rfl
theorem s94_14 : WP 94 0 14 L (vI x :: S) h Q ↔ zif (x = 0) (WP 94 0 43 L S h Q) (WP 94 0 17 L S h Q) := wp_bE zc_eq rfl rfl rfl
theorem s94_17 : WP 94 0 17 [a0, a1, vA r, a3] S h Q ↔ WP 94 0 18 [a0, a1, vA r, a3] (vA r :: S) h Q := wp_aload rfl rfl
theorem s94_18 : WP 94 0 18 L (vA (some a) :: S) h Q ↔ ((hk h a).1 = 113 ∧ (zw S ≤ 8 ∧ WP 276 0 0 [vA (some a)] [] h (zret 94 0 18 23 L S Q))) := wp_F1 (c := 113) rfl rfl (fun _ => rfl) rfl rfl (zcan_of rfl rfl) rfl rfl rfl
theorem s94_23n : WP 94 0 23 L (vA none :: S) h Q ↔ WP 94 0 26 L (vA none :: S) h Q := wp_pl rfl rfl rfl
theorem s94_23 : WP 94 0 23 L (vA (some a) :: S) h Q ↔ (zCX 7 (hk h a).1 a = true ∧ WP 94 0 26 L (vA (some a) :: S) h Q) := wp_if rfl rfl rfl
theorem s94_26 : WP 94 0 26 [a0, a1, a2, a3] (vA r :: S) h Q ↔ WP 94 0 27 [a0, a1, a2, vA r] S h Q := wp_astore rfl rfl rfl
theorem s94_27 : WP 94 0 27 [a0, a1, a2, vA r] S h Q ↔ WP 94 0 28 [a0, a1, a2, vA r] (vA r :: S) h Q := wp_aload rfl rfl
theorem s94_28 : WP 94 0 28 L (vA (some a) :: S) h Q ↔ (zhas 19 (hk h a) = true ∧ WP 94 0 31 L (hm h a 19 :: S) h Q) := wp_if rfl rfl rfl
theorem s94_31 : WP 94 0 31 [a0, vA r, a2, a3] S h Q ↔ WP 94 0 32 [a0, vA r, a2, a3] (vA r :: S) h Q := wp_aload rfl rfl
theorem s94_32 : WP 94 0 32 L (vA r0 :: vA (some a) :: S) h Q ↔ ((hk h a).1 = 117 ∧ (zw S ≤ 8 ∧ WP 315 0 0 [vA (some a), vA r0, vJ] [] h (zret 94 0 32 35 L S Q))) := wp_V1 (c := 117) rfl rfl (fun _ => rfl) rfl rfl (zcan_of rfl rfl) rfl rfl rfl
theorem s94_35 : WP 94 0 35 L (vI x :: S) h Q ↔ zif (x = 0) (WP 94 0 40 L S h Q) (WP 94 0 38 L S h Q) := wp_bE zc_eq rfl rfl rfl
theorem s94_38 : WP 94 0 38 L S h Q ↔ WP 94 0 39 L (vI 1 :: S) h Q := wp_pl rfl rfl rfl
theorem s94_39 : WP 94 0 39 L [vI x] h Q ↔ ((x = 0 ∨ x = 1) ∧ Q (.inl (some (vI x))) h) := wp_iret rfl rfl
theorem s94_40 : WP 94 0 40 L S h Q ↔ WP 94 0 8 L S h Q := wp_pl rfl rfl rfl
theorem s94_43 : WP 94 0 43 [vA r, a1, a2, a3] S h Q ↔ WP 94 0 44 [vA r, a1, a2, a3] (vA r :: S) h Q := wp_aload rfl rfl
theorem s94_44 : WP 94 0 44 [a0, vA r, a2, a3] S h Q ↔ WP 94 0 45 [a0, vA r, a2, a3] (vA r :: S) h Q := wp_aload rfl rfl
theorem s94_45 : WP 94 0 45 L (vA r0 :: vA (some a) :: S) h Q ↔ ((hk h a).1 = 101 ∧ (zw S ≤ 8 ∧ WP 95 0 0 [vA (some a), vA r0, vJ, vJ] [] h (zret 94 0 45 48 L S Q))) := wp_V1 (c := 101) rfl rfl (fun _ => rfl) rfl rfl (zcan_of rfl rfl) rfl rfl rfl
theorem s94_48n : WP 94 0 48 L (vA none :: S) h Q ↔ WP 94 0 55 L S h Q := wp_pl rfl rfl rfl
theorem s94_48 : WP 94 0 48 L (vA (some a) :: S) h Q ↔ (3 ≤ a ∧ WP 94 0 51 L S h Q) := wp_if rfl rfl rfl
theorem s94_51 : WP 94 0 51 L S h Q ↔ WP 94 0 52 L (vI 1 :: S) h Q := wp_pl rfl rfl rfl
theorem s94_52 : WP 94 0 52 L S h Q ↔ WP 94 0 56 L S h Q := wp_pl rfl rfl rfl
theorem s94_55 : WP 94 0 55 L S h Q ↔ WP 94 0 56 L (vI 0 :: S) h Q := wp_pl rfl rfl rfl
theorem s94_56 : WP 94 0 56 L [vI x] h Q ↔ ((x = 0 ∨ x = 1) ∧ Q (.inl (some (vI x))) h) := wp_iret rfl rfl
/-! RepeatFree$Told.patternOf(Ljava/lang/String;)LRepeatFree$Pattern; -/
theorem s95_0 : WP 95 0 0 [vA r, a1, a2, a3] S h Q ↔ WP 95 0 1 [vA r, a1, a2, a3] (vA r :: S) h Q := wp_aload rfl rfl
theorem s95_1 : WP 95 0 1 L (vA (some a) :: S) h Q ↔ (zhas 11 (hk h a) = true ∧ WP 95 0 4 L (hm h a 11 :: S) h Q) := wp_if rfl rfl rfl
theorem s95_4 : WP 95 0 4 L (vA (some a) :: S) h Q ↔ ((hk h a).1 = 111 ∧ (zw S ≤ 8 ∧ WP 398 0 0 [vA (some a)] [] h (zret 95 0 4 7 L S Q))) := wp_V1 (c := 111) rfl rfl (fun _ => rfl) rfl rfl (zcan_of rfl rfl) rfl rfl rfl
theorem s95_7 : WP 95 0 7 [a0, a1, a2, a3] (vA r :: S) h Q ↔ WP 95 0 8 [a0, a1, vA r, a3] S h Q := wp_astore rfl rfl rfl
theorem s95_8 : WP 95 0 8 [a0, a1, vA r, a3] S h Q ↔ WP 95 0 9 [a0, a1, vA r, a3] (vA r :: S) h Q := wp_aload rfl rfl
theorem s95_9 : WP 95 0 9 L (vA (some a) :: S) h Q ↔ ((hk h a).1 = 113 ∧ (zw S ≤ 8 ∧ WP 274 0 0 [vA (some a)] [] h (zret 95 0 9 14 L S Q))) := wp_F1 (c := 113) rfl rfl (fun _ => rfl) rfl rfl (zcan_of rfl rfl) rfl rfl rfl
theorem s95_14 : WP 95 0 14 L (vI x :: S) h Q ↔ zif (x = 0) (WP 95 0 43 L S h Q) (WP 95 0 17 L S h Q) := wp_bE zc_eq rfl rfl rfl
theorem s95_17 : WP 95 0 17 [a0, a1, vA r, a3] S h Q ↔ WP 95 0 18 [a0, a1, vA r, a3] (vA r :: S) h Q := wp_aload rfl rfl
theorem s95_18 : WP 95 0 18 L (vA (some a) :: S) h Q ↔ ((hk h a).1 = 113 ∧ (zw S ≤ 8 ∧ WP 276 0 0 [vA (some a)] [] h (zret 95 0 18 23 L S Q))) := wp_F1 (c := 113) rfl rfl (fun _ => rfl) rfl rfl (zcan_of rfl rfl) rfl rfl rfl
theorem s95_23n : WP 95 0 23 L (vA none :: S) h Q ↔ WP 95 0 26 L (vA none :: S) h Q := wp_pl rfl rfl rfl
theorem s95_23 : WP 95 0 23 L (vA (some a) :: S) h Q ↔ (zCX 3 (hk h a).1 a = true ∧ WP 95 0 26 L (vA (some a) :: S) h Q) := wp_if rfl rfl rfl
theorem s95_26 : WP 95 0 26 [a0, a1, a2, a3] (vA r :: S) h Q ↔ WP 95 0 27 [a0, a1, a2, vA r] S h Q := wp_astore rfl rfl rfl
theorem s95_27 : WP 95 0 27 [a0, a1, a2, vA r] S h Q ↔ WP 95 0 28 [a0, a1, a2, vA r] (vA r :: S) h Q := wp_aload rfl rfl
theorem s95_28 : WP 95 0 28 L (vA (some a) :: S) h Q ↔ (zhas 19 (hk h a) = true ∧ WP 95 0 31 L (hm h a 19 :: S) h Q) := wp_if rfl rfl rfl
theorem s95_31 : WP 95 0 31 [a0, vA r, a2, a3] S h Q ↔ WP 95 0 32 [a0, vA r, a2, a3] (vA r :: S) h Q := wp_aload rfl rfl
theorem s95_32 : WP 95 0 32 L (vA r0 :: vA (some a) :: S) h Q ↔ ((hk h a).1 = 117 ∧ (zw S ≤ 8 ∧ WP 315 0 0 [vA (some a), vA r0, vJ] [] h (zret 95 0 32 35 L S Q))) := wp_V1 (c := 117) rfl rfl (fun _ => rfl) rfl rfl (zcan_of rfl rfl) rfl rfl rfl
theorem s95_35 : WP 95 0 35 L (vI x :: S) h Q ↔ zif (x = 0) (WP 95 0 40 L S h Q) (WP 95 0 38 L S h Q) := wp_bE zc_eq rfl rfl rfl
theorem s95_38 : WP 95 0 38 [a0, a1, a2, vA r] S h Q ↔ WP 95 0 39 [a0, a1, a2, vA r] (vA r :: S) h Q := wp_aload rfl rfl
theorem s95_39 : WP 95 0 39 L [vA r] h Q ↔ Q (.inl (some (vA r))) h := wp_aret rfl
theorem s95_40 : WP 95 0 40 L S h Q ↔ WP 95 0 8 L S h Q := wp_pl rfl rfl rfl
theorem s95_43 : WP 95 0 43 L S h Q ↔ WP 95 0 44 L (vA none :: S) h Q := wp_pl rfl rfl rfl
theorem s95_44 : WP 95 0 44 L [vA r] h Q ↔ Q (.inl (some (vA r))) h := wp_aret rfl
/-! RepeatFree$Word.alike(II)I -/
theorem s96_0 : WP 96 0 0 L S h Q ↔ WP 96 0 1 L (vI 0 :: S) h Q := wp_pl rfl rfl rfl
theorem s96_1 : WP 96 0 1 [a0, a1, a2, a3] (vI x :: S) h Q ↔ WP 96 0 2 [a0, a1, a2, vI x] S h Q := wp_istore rfl rfl rfl
theorem s96_2 : WP 96 0 2 [a0, a1, vI x, a3] S h Q ↔ WP 96 0 3 [a0, a1, vI x, a3] (vI x :: S) h Q := wp_iload rfl rfl
theorem s96_3 : WP 96 0 3 [a0, a1, a2, vI x] S h Q ↔ WP 96 0 4 [a0, a1, a2, vI x] (vI x :: S) h Q := wp_iload rfl rfl
theorem s96_4 : WP 96 0 4 L (vI y :: vI x :: S) h Q ↔ WP 96 0 5 L (vI (wr (x + y)) :: S) h Q := wp_pl rfl rfl rfl
theorem s96_5 : WP 96 0 5 [vA r, a1, a2, a3] S h Q ↔ WP 96 0 6 [vA r, a1, a2, a3] (vA r :: S) h Q := wp_aload rfl rfl
theorem s96_6 : WP 96 0 6 L (vA (some a) :: S) h Q ↔ (zhas 15 (hk h a) = true ∧ WP 96 0 9 L (hm h a 15 :: S) h Q) := wp_if rfl rfl rfl
theorem s96_9 : WP 96 0 9 L (vI y :: vI x :: S) h Q ↔ zif (x < y) (WP 96 0 12 L S h Q) (WP 96 0 37 L S h Q) := wp_bN zc_lt rfl rfl rfl
theorem s96_12 : WP 96 0 12 [vA r, a1, a2, a3] S h Q ↔ WP 96 0 13 [vA r, a1, a2, a3] (vA r :: S) h Q := wp_aload rfl rfl
theorem s96_13 : WP 96 0 13 L (vA (some a) :: S) h Q ↔ (zhas 14 (hk h a) = true ∧ WP 96 0 16 L (hm h a 14 :: S) h Q) := wp_if rfl rfl rfl
theorem s96_16 : WP 96 0 16 [a0, vI x, a2, a3] S h Q ↔ WP 96 0 17 [a0, vI x, a2, a3] (vI x :: S) h Q := wp_iload rfl rfl
theorem s96_17 : WP 96 0 17 [a0, a1, a2, vI x] S h Q ↔ WP 96 0 18 [a0, a1, a2, vI x] (vI x :: S) h Q := wp_iload rfl rfl
theorem s96_18 : WP 96 0 18 L (vI y :: vI x :: S) h Q ↔ WP 96 0 19 L (vI (wr (x + y)) :: S) h Q := wp_pl rfl rfl rfl
theorem s96_19 : WP 96 0 19 L (vI x :: vA (some a) :: S) h Q ↔ ((((hk h a).1 = 2 ∨ (hk h a).1 = 3) ∧ 0 ≤ x ∧ x < ((hk h a).2 : Int)) ∧ WP 96 0 20 L (hm h a x.toNat :: S) h Q) := wp_if rfl rfl rfl
theorem s96_20 : WP 96 0 20 [vA r, a1, a2, a3] S h Q ↔ WP 96 0 21 [vA r, a1, a2, a3] (vA r :: S) h Q := wp_aload rfl rfl
theorem s96_21 : WP 96 0 21 L (vA (some a) :: S) h Q ↔ (zhas 14 (hk h a) = true ∧ WP 96 0 24 L (hm h a 14 :: S) h Q) := wp_if rfl rfl rfl
theorem s96_24 : WP 96 0 24 [a0, a1, vI x, a3] S h Q ↔ WP 96 0 25 [a0, a1, vI x, a3] (vI x :: S) h Q := wp_iload rfl rfl
theorem s96_25 : WP 96 0 25 [a0, a1, a2, vI x] S h Q ↔ WP 96 0 26 [a0, a1, a2, vI x] (vI x :: S) h Q := wp_iload rfl rfl
theorem s96_26 : WP 96 0 26 L (vI y :: vI x :: S) h Q ↔ WP 96 0 27 L (vI (wr (x + y)) :: S) h Q := wp_pl rfl rfl rfl
theorem s96_27 : WP 96 0 27 L (vI x :: vA (some a) :: S) h Q ↔ ((((hk h a).1 = 2 ∨ (hk h a).1 = 3) ∧ 0 ≤ x ∧ x < ((hk h a).2 : Int)) ∧ WP 96 0 28 L (hm h a x.toNat :: S) h Q) := wp_if rfl rfl rfl
theorem s96_28 : WP 96 0 28 L (vI y :: vI x :: S) h Q ↔ zif (x = y) (WP 96 0 31 L S h Q) (WP 96 0 37 L S h Q) := wp_bN zc_eq rfl rfl rfl
theorem s96_31 : WP 96 0 31 [a0, a1, a2, vI x] S h Q ↔ WP 96 0 34 [a0, a1, a2, vI (wr (x + 1))] S h Q := wp_iinc rfl rfl rfl
theorem s96_34 : WP 96 0 34 L S h Q ↔ WP 96 0 2 L S h Q := wp_pl rfl rfl rfl
theorem s96_37 : WP 96 0 37 [a0, a1, a2, vI x] S h Q ↔ WP 96 0 38 [a0, a1, a2, vI x] (vI x :: S) h Q := wp_iload rfl rfl
theorem s96_38 : WP 96 0 38 L [vI x] h Q ↔ Q (.inl (some (vI x))) h := wp_iret0 rfl rfl
/-! RepeatFree$Word.comes(I)V -/
theorem s97_0 : WP 97 0 0 [vA r, a1] S h Q ↔ WP 97 0 1 [vA r, a1] (vA r :: S) h Q := wp_aload rfl rfl
theorem s97_1 : WP 97 0 1 L (vA (some a) :: S) h Q ↔ (zhas 14 (hk h a) = true ∧ WP 97 0 4 L (hm h a 14 :: S) h Q) := wp_if rfl rfl rfl
theorem s97_4 : WP 97 0 4 [vA r, a1] S h Q ↔ WP 97 0 5 [vA r, a1] (vA r :: S) h Q := wp_aload rfl rfl
theorem s97_5 : WP 97 0 5 L (vA (some a) :: S) h Q ↔ (zhas 15 (hk h a) = true ∧ WP 97 0 8 L (hm h a 15 :: S) h Q) := wp_if rfl rfl rfl
theorem s97_8 : WP 97 0 8 [a0, vI x] S h Q ↔ WP 97 0 9 [a0, vI x] (vI x :: S) h Q := wp_iload rfl rfl
theorem s97_9 : WP 97 0 9 L (vI x :: S) h Q ↔ WP 97 0 10 L (vI (wb x) :: S) h Q := wp_pl rfl rfl rfl
theorem s97_10 : WP 97 0 10 L (vI y :: vI x :: vA (some a) :: S) h Q ↔ ((((hk h a).1 = 2 ∨ (hk h a).1 = 3) ∧ (0 ≤ x ∧ x < ((hk h a).2 : Int)) ∧ zNC ≤ a ∧ ((hk h a).1 = 3 → y = 0 ∨ y = 1)) ∧ WP 97 0 11 L S (hput h a x.toNat (vI (if (hk h a).1 = 2 then wb y else y))) Q) := wp_if rfl rfl rfl
theorem s97_11 : WP 97 0 11 [vA r, a1] S h Q ↔ WP 97 0 12 [vA r, a1] (vA r :: S) h Q := wp_aload rfl rfl
theorem s97_12 : WP 97 0 12 L (vA r :: S) h Q ↔ WP 97 0 13 L (vA r :: vA r :: S) h Q := wp_pl rfl rfl rfl
theorem s97_12i : WP 97 0 12 L (vI x :: S) h Q ↔ WP 97 0 13 L (vI x :: vI x :: S) h Q := wp_pl rfl rfl rfl
theorem s97_13 : WP 97 0 13 L (vA (some a) :: S) h Q ↔ (zhas 15 (hk h a) = true ∧ WP 97 0 16 L (hm h a 15 :: S) h Q) := wp_if rfl rfl rfl
theorem s97_16 : WP 97 0 16 L S h Q ↔ WP 97 0 17 L (vI 1 :: S) h Q := wp_pl rfl rfl rfl
theorem s97_17 : WP 97 0 17 L (vI y :: vI x :: S) h Q ↔ WP 97 0 18 L (vI (wr (x + y)) :: S) h Q := wp_pl rfl rfl rfl
theorem s97_18 : WP 97 0 18 L (vI x :: vA (some a) :: S) h Q ↔ ((zNC ≤ a ∧ zhas 15 (hk h a) = true) ∧ WP 97 0 21 L S (hput h a 15 (vI x)) Q) := wp_put0 rfl rfl
theorem s97_21 : WP 97 0 21 L [] h Q ↔ Q (.inl none) h := wp_ret rfl
/-! RepeatFree$Word.endBy(I)I -/
theorem s98_0 : WP 98 0 0 [a0, vI x, a2] S h Q ↔ WP 98 0 1 [a0, vI x, a2] (vI x :: S) h Q := wp_iload rfl rfl
theorem s98_1 : WP 98 0 1 [a0, a1, a2] (vI x :: S) h Q ↔ WP 98 0 2 [a0, a1, vI x] S h Q := wp_istore rfl rfl rfl
theorem s98_2 : WP 98 0 2 [a0, a1, vI x] S h Q ↔ WP 98 0 3 [a0, a1, vI x] (vI x :: S) h Q := wp_iload rfl rfl
theorem s98_3 : WP 98 0 3 [vA r, a1, a2] S h Q ↔ WP 98 0 4 [vA r, a1, a2] (vA r :: S) h Q := wp_aload rfl rfl
theorem s98_4 : WP 98 0 4 L (vA (some a) :: S) h Q ↔ (zhas 15 (hk h a) = true ∧ WP 98 0 7 L (hm h a 15 :: S) h Q) := wp_if rfl rfl rfl
theorem s98_7 : WP 98 0 7 L (vI y :: vI x :: S) h Q ↔ zif (x < y) (WP 98 0 10 L S h Q) (WP 98 0 47 L S h Q) := wp_bN zc_lt rfl rfl rfl
theorem s98_10 : WP 98 0 10 [vA r, a1, a2] S h Q ↔ WP 98 0 11 [vA r, a1, a2] (vA r :: S) h Q := wp_aload rfl rfl
theorem s98_11 : WP 98 0 11 L (vA (some a) :: S) h Q ↔ (zhas 14 (hk h a) = true ∧ WP 98 0 14 L (hm h a 14 :: S) h Q) := wp_if rfl rfl rfl
theorem s98_14 : WP 98 0 14 [vA r, a1, a2] S h Q ↔ WP 98 0 15 [vA r, a1, a2] (vA r :: S) h Q := wp_aload rfl rfl
theorem s98_15 : WP 98 0 15 L (vA (some a) :: S) h Q ↔ (zhas 15 (hk h a) = true ∧ WP 98 0 18 L (hm h a 15 :: S) h Q) := wp_if rfl rfl rfl
theorem s98_18 : WP 98 0 18 L S h Q ↔ WP 98 0 19 L (vI 1 :: S) h Q := wp_pl rfl rfl rfl
theorem s98_19 : WP 98 0 19 L (vI y :: vI x :: S) h Q ↔ WP 98 0 20 L (vI (wr (x - y)) :: S) h Q := wp_pl rfl rfl rfl
theorem s98_20 : WP 98 0 20 [a0, a1, vI x] S h Q ↔ WP 98 0 21 [a0, a1, vI x] (vI x :: S) h Q := wp_iload rfl rfl
theorem s98_21 : WP 98 0 21 L (vI y :: vI x :: S) h Q ↔ WP 98 0 22 L (vI (wr (x - y)) :: S) h Q := wp_pl rfl rfl rfl
theorem s98_22 : WP 98 0 22 L (vI x :: vA (some a) :: S) h Q ↔ ((((hk h a).1 = 2 ∨ (hk h a).1 = 3) ∧ 0 ≤ x ∧ x < ((hk h a).2 : Int)) ∧ WP 98 0 23 L (hm h a x.toNat :: S) h Q) := wp_if rfl rfl rfl
theorem s98_23 : WP 98 0 23 [vA r, a1, a2] S h Q ↔ WP 98 0 24 [vA r, a1, a2] (vA r :: S) h Q := wp_aload rfl rfl
theorem s98_24 : WP 98 0 24 L (vA (some a) :: S) h Q ↔ (zhas 14 (hk h a) = true ∧ WP 98 0 27 L (hm h a 14 :: S) h Q) := wp_if rfl rfl rfl
theorem s98_27 : WP 98 0 27 [vA r, a1, a2] S h Q ↔ WP 98 0 28 [vA r, a1, a2] (vA r :: S) h Q := wp_aload rfl rfl
theorem s98_28 : WP 98 0 28 L (vA (some a) :: S) h Q ↔ (zhas 15 (hk h a) = true ∧ WP 98 0 31 L (hm h a 15 :: S) h Q) := wp_if rfl rfl rfl
theorem s98_31 : WP 98 0 31 L S h Q ↔ WP 98 0 32 L (vI 1 :: S) h Q := wp_pl rfl rfl rfl
theorem s98_32 : WP 98 0 32 L (vI y :: vI x :: S) h Q ↔ WP 98 0 33 L (vI (wr (x - y)) :: S) h Q := wp_pl rfl rfl rfl
theorem s98_33 : WP 98 0 33 [a0, a1, vI x] S h Q ↔ WP 98 0 34 [a0, a1, vI x] (vI x :: S) h Q := wp_iload rfl rfl
theorem s98_34 : WP 98 0 34 L (vI y :: vI x :: S) h Q ↔ WP 98 0 35 L (vI (wr (x - y)) :: S) h Q := wp_pl rfl rfl rfl
theorem s98_35 : WP 98 0 35 [a0, vI x, a2] S h Q ↔ WP 98 0 36 [a0, vI x, a2] (vI x :: S) h Q := wp_iload rfl rfl
theorem s98_36 : WP 98 0 36 L (vI y :: vI x :: S) h Q ↔ WP 98 0 37 L (vI (wr (x + y)) :: S) h Q := wp_pl rfl rfl rfl
theorem s98_37 : WP 98 0 37 L (vI x :: vA (some a) :: S) h Q ↔ ((((hk h a).1 = 2 ∨ (hk h a).1 = 3) ∧ 0 ≤ x ∧ x < ((hk h a).2 : Int)) ∧ WP 98 0 38 L (hm h a x.toNat :: S) h Q) := wp_if rfl rfl rfl
theorem s98_38 : WP 98 0 38 L (vI y :: vI x :: S) h Q ↔ zif (x = y) (WP 98 0 41 L S h Q) (WP 98 0 47 L S h Q) := wp_bN zc_eq rfl rfl rfl
theorem s98_41 : WP 98 0 41 [a0, a1, vI x] S h Q ↔ WP 98 0 44 [a0, a1, vI (wr (x + 1))] S h Q := wp_iinc rfl rfl rfl
theorem s98_44 : WP 98 0 44 L S h Q ↔ WP 98 0 2 L S h Q := wp_pl rfl rfl rfl
theorem s98_47 : WP 98 0 47 [a0, a1, vI x] S h Q ↔ WP 98 0 48 [a0, a1, vI x] (vI x :: S) h Q := wp_iload rfl rfl
theorem s98_48 : WP 98 0 48 L [vI x] h Q ↔ Q (.inl (some (vI x))) h := wp_iret0 rfl rfl
/-! RepeatFree$Word.goes()I -/
theorem s99_0 : WP 99 0 0 [vA r] S h Q ↔ WP 99 0 1 [vA r] (vA r :: S) h Q := wp_aload rfl rfl
theorem s99_1 : WP 99 0 1 L (vA r :: S) h Q ↔ WP 99 0 2 L (vA r :: vA r :: S) h Q := wp_pl rfl rfl rfl
theorem s99_1i : WP 99 0 1 L (vI x :: S) h Q ↔ WP 99 0 2 L (vI x :: vI x :: S) h Q := wp_pl rfl rfl rfl
theorem s99_2 : WP 99 0 2 L (vA (some a) :: S) h Q ↔ (zhas 15 (hk h a) = true ∧ WP 99 0 5 L (hm h a 15 :: S) h Q) := wp_if rfl rfl rfl
theorem s99_5 : WP 99 0 5 L S h Q ↔ WP 99 0 6 L (vI 1 :: S) h Q := wp_pl rfl rfl rfl
theorem s99_6 : WP 99 0 6 L (vI y :: vI x :: S) h Q ↔ WP 99 0 7 L (vI (wr (x - y)) :: S) h Q := wp_pl rfl rfl rfl
theorem s99_7 : WP 99 0 7 L (vI x :: vA (some a) :: S) h Q ↔ ((zNC ≤ a ∧ zhas 15 (hk h a) = true) ∧ WP 99 0 10 L S (hput h a 15 (vI x)) Q) := wp_put0 rfl rfl
theorem s99_10 : WP 99 0 10 [vA r] S h Q ↔ WP 99 0 11 [vA r] (vA r :: S) h Q := wp_aload rfl rfl
theorem s99_11 : WP 99 0 11 L (vA (some a) :: S) h Q ↔ (zhas 14 (hk h a) = true ∧ WP 99 0 14 L (hm h a 14 :: S) h Q) := wp_if rfl rfl rfl
theorem s99_14 : WP 99 0 14 [vA r] S h Q ↔ WP 99 0 15 [vA r] (vA r :: S) h Q := wp_aload rfl rfl
theorem s99_15 : WP 99 0 15 L (vA (some a) :: S) h Q ↔ (zhas 15 (hk h a) = true ∧ WP 99 0 18 L (hm h a 15 :: S) h Q) := wp_if rfl rfl rfl
theorem s99_18 : WP 99 0 18 L (vI x :: vA (some a) :: S) h Q ↔ ((((hk h a).1 = 2 ∨ (hk h a).1 = 3) ∧ 0 ≤ x ∧ x < ((hk h a).2 : Int)) ∧ WP 99 0 19 L (hm h a x.toNat :: S) h Q) := wp_if rfl rfl rfl
theorem s99_19 : WP 99 0 19 L [vI x] h Q ↔ Q (.inl (some (vI x))) h := wp_iret0 rfl rfl
/-! RepeatFree$Word.<init>()V -/
theorem s100_0 : WP 100 0 0 [vA r] S h Q ↔ WP 100 0 1 [vA r] (vA r :: S) h Q := wp_aload rfl rfl
theorem s100_1 : WP 100 0 1 L (vA (some a) :: S) h Q ↔ ((zw S ≤ 8 ∧ zNC ≤ a) ∧ WP 100 0 4 L S h Q) := wp_if rfl rfl rfl
theorem s100_4 : WP 100 0 4 [vA r] S h Q ↔ WP 100 0 5 [vA r] (vA r :: S) h Q := wp_aload rfl rfl
theorem s100_5 : WP 100 0 5 L S h Q ↔ WP 100 0 7 L (vI 64 :: S) h Q := wp_pl rfl rfl rfl
theorem s100_7 : WP 100 0 7 L (vI x :: S) h Q ↔ ((0 ≤ x ∧ x ≤ 1000000) ∧ WP 100 0 9 L (vA (some (hn h)) :: S) (hnew h (2, x.toNat) x.toNat (fun _ => vI 0)) Q) := wp_if rfl rfl rfl
theorem s100_9 : WP 100 0 9 L (vA r :: vA (some a) :: S) h Q ↔ ((zNC ≤ a ∧ zhas 14 (hk h a) = true) ∧ WP 100 0 12 L S (hput h a 14 (vA r)) Q) := wp_put3 rfl rfl
theorem s100_12 : WP 100 0 12 L [] h Q ↔ Q (.inl none) h := wp_ret rfl
/-! RepeatFree$Word.isSame(III)Z -/
theorem s101_0 : WP 101 0 0 L S h Q ↔ WP 101 0 1 L (vI 0 :: S) h Q := wp_pl rfl rfl rfl
theorem s101_1 : WP 101 0 1 [a0, a1, a2, a3, a4] (vI x :: S) h Q ↔ WP 101 0 3 [a0, a1, a2, a3, vI x] S h Q := wp_istore rfl rfl rfl
theorem s101_3 : WP 101 0 3 [a0, a1, a2, a3, vI x] S h Q ↔ WP 101 0 5 [a0, a1, a2, a3, vI x] (vI x :: S) h Q := wp_iload rfl rfl
theorem s101_5 : WP 101 0 5 [a0, a1, a2, vI x, a4] S h Q ↔ WP 101 0 6 [a0, a1, a2, vI x, a4] (vI x :: S) h Q := wp_iload rfl rfl
theorem s101_6 : WP 101 0 6 L (vI y :: vI x :: S) h Q ↔ zif (x < y) (WP 101 0 9 L S h Q) (WP 101 0 38 L S h Q) := wp_bN zc_lt rfl rfl rfl
theorem s101_9 : WP 101 0 9 [vA r, a1, a2, a3, a4] S h Q ↔ WP 101 0 10 [vA r, a1, a2, a3, a4] (vA r :: S) h Q := wp_aload rfl rfl
theorem s101_10 : WP 101 0 10 L (vA (some a) :: S) h Q ↔ (zhas 14 (hk h a) = true ∧ WP 101 0 13 L (hm h a 14 :: S) h Q) := wp_if rfl rfl rfl
theorem s101_13 : WP 101 0 13 [a0, vI x, a2, a3, a4] S h Q ↔ WP 101 0 14 [a0, vI x, a2, a3, a4] (vI x :: S) h Q := wp_iload rfl rfl
theorem s101_14 : WP 101 0 14 [a0, a1, a2, a3, vI x] S h Q ↔ WP 101 0 16 [a0, a1, a2, a3, vI x] (vI x :: S) h Q := wp_iload rfl rfl
theorem s101_16 : WP 101 0 16 L (vI y :: vI x :: S) h Q ↔ WP 101 0 17 L (vI (wr (x + y)) :: S) h Q := wp_pl rfl rfl rfl
theorem s101_17 : WP 101 0 17 L (vI x :: vA (some a) :: S) h Q ↔ ((((hk h a).1 = 2 ∨ (hk h a).1 = 3) ∧ 0 ≤ x ∧ x < ((hk h a).2 : Int)) ∧ WP 101 0 18 L (hm h a x.toNat :: S) h Q) := wp_if rfl rfl rfl
theorem s101_18 : WP 101 0 18 [vA r, a1, a2, a3, a4] S h Q ↔ WP 101 0 19 [vA r, a1, a2, a3, a4] (vA r :: S) h Q := wp_aload rfl rfl
theorem s101_19 : WP 101 0 19 L (vA (some a) :: S) h Q ↔ (zhas 14 (hk h a) = true ∧ WP 101 0 22 L (hm h a 14 :: S) h Q) := wp_if rfl rfl rfl
theorem s101_22 : WP 101 0 22 [a0, a1, vI x, a3, a4] S h Q ↔ WP 101 0 23 [a0, a1, vI x, a3, a4] (vI x :: S) h Q := wp_iload rfl rfl
theorem s101_23 : WP 101 0 23 [a0, a1, a2, a3, vI x] S h Q ↔ WP 101 0 25 [a0, a1, a2, a3, vI x] (vI x :: S) h Q := wp_iload rfl rfl
theorem s101_25 : WP 101 0 25 L (vI y :: vI x :: S) h Q ↔ WP 101 0 26 L (vI (wr (x + y)) :: S) h Q := wp_pl rfl rfl rfl
theorem s101_26 : WP 101 0 26 L (vI x :: vA (some a) :: S) h Q ↔ ((((hk h a).1 = 2 ∨ (hk h a).1 = 3) ∧ 0 ≤ x ∧ x < ((hk h a).2 : Int)) ∧ WP 101 0 27 L (hm h a x.toNat :: S) h Q) := wp_if rfl rfl rfl
theorem s101_27 : WP 101 0 27 L (vI y :: vI x :: S) h Q ↔ zif (x = y) (WP 101 0 32 L S h Q) (WP 101 0 30 L S h Q) := wp_bE zc_eq rfl rfl rfl
theorem s101_30 : WP 101 0 30 L S h Q ↔ WP 101 0 31 L (vI 0 :: S) h Q := wp_pl rfl rfl rfl
theorem s101_31 : WP 101 0 31 L [vI x] h Q ↔ ((x = 0 ∨ x = 1) ∧ Q (.inl (some (vI x))) h) := wp_iret rfl rfl
theorem s101_32 : WP 101 0 32 [a0, a1, a2, a3, vI x] S h Q ↔ WP 101 0 35 [a0, a1, a2, a3, vI (wr (x + 1))] S h Q := wp_iinc rfl rfl rfl
theorem s101_35 : WP 101 0 35 L S h Q ↔ WP 101 0 3 L S h Q := wp_pl rfl rfl rfl
theorem s101_38 : WP 101 0 38 L S h Q ↔ WP 101 0 39 L (vI 1 :: S) h Q := wp_pl rfl rfl rfl
theorem s101_39 : WP 101 0 39 L [vI x] h Q ↔ ((x = 0 ∨ x = 1) ∧ Q (.inl (some (vI x))) h) := wp_iret rfl rfl
/-! RepeatFree$Word.same()LRepeatFree$Word; -/
theorem s102_0 : WP 102 0 0 L S h Q ↔ WP 102 0 3 L (vA (some (hn h)) :: S) (hnew h (102, 0) 2 zdf) Q := wp_pl rfl rfl rfl
theorem s102_3 : WP 102 0 3 L (vA r :: S) h Q ↔ WP 102 0 4 L (vA r :: vA r :: S) h Q := wp_pl rfl rfl rfl
theorem s102_3i : WP 102 0 3 L (vI x :: S) h Q ↔ WP 102 0 4 L (vI x :: vI x :: S) h Q := wp_pl rfl rfl rfl
theorem s102_4 : WP 102 0 4 L (vA (some a) :: S) h Q ↔ ((zNC ≤ a ∧ 100 ≤ (hk h a).1) ∧ zw S ≤ 8 ∧ WP 100 0 0 [vA (some a)] [] h (zret 102 0 4 7 L S Q)) := wp_I rfl rfl rfl (zcan_of rfl rfl) rfl rfl rfl
theorem s102_7 : WP 102 0 7 [a0, a1] (vA r :: S) h Q ↔ WP 102 0 8 [a0, vA r] S h Q := wp_astore rfl rfl rfl
theorem s102_8 : WP 102 0 8 [vA r, a1] S h Q ↔ WP 102 0 9 [vA r, a1] (vA r :: S) h Q := wp_aload rfl rfl
theorem s102_9 : WP 102 0 9 L (vA (some a) :: S) h Q ↔ (zhas 14 (hk h a) = true ∧ WP 102 0 12 L (hm h a 14 :: S) h Q) := wp_if rfl rfl rfl
theorem s102_12 : WP 102 0 12 L S h Q ↔ WP 102 0 13 L (vI 0 :: S) h Q := wp_pl rfl rfl rfl
theorem s102_13 : WP 102 0 13 [a0, vA r] S h Q ↔ WP 102 0 14 [a0, vA r] (vA r :: S) h Q := wp_aload rfl rfl
theorem s102_14 : WP 102 0 14 L (vA (some a) :: S) h Q ↔ (zhas 14 (hk h a) = true ∧ WP 102 0 17 L (hm h a 14 :: S) h Q) := wp_if rfl rfl rfl
theorem s102_17 : WP 102 0 17 L S h Q ↔ WP 102 0 18 L (vI 0 :: S) h Q := wp_pl rfl rfl rfl
theorem s102_18 : WP 102 0 18 [vA r, a1] S h Q ↔ WP 102 0 19 [vA r, a1] (vA r :: S) h Q := wp_aload rfl rfl
theorem s102_19 : WP 102 0 19 L (vA (some a) :: S) h Q ↔ (zhas 15 (hk h a) = true ∧ WP 102 0 22 L (hm h a 15 :: S) h Q) := wp_if rfl rfl rfl
theorem s102_22 : WP 102 0 22 L (vI z :: vI y :: vA (some b) :: vI x :: vA (some a) :: S) h Q ↔ ((((hk h a).1 = (hk h b).1 ∧ ((hk h a).1 = 2 ∨ (hk h a).1 = 4)) ∧ (0 ≤ x ∧ 0 ≤ y ∧ 0 ≤ z ∧ x + z ≤ ((hk h a).2 : Int) ∧ y + z ≤ ((hk h b).2 : Int)) ∧ a ≠ b ∧ zNC ≤ b ∧ zw S ≤ 8) ∧ WP 102 0 25 L S (zcpy h a x.toNat b y.toNat z.toNat) Q) := wp_if rfl rfl rfl
theorem s102_25 : WP 102 0 25 [a0, vA r] S h Q ↔ WP 102 0 26 [a0, vA r] (vA r :: S) h Q := wp_aload rfl rfl
theorem s102_26 : WP 102 0 26 [vA r, a1] S h Q ↔ WP 102 0 27 [vA r, a1] (vA r :: S) h Q := wp_aload rfl rfl
theorem s102_27 : WP 102 0 27 L (vA (some a) :: S) h Q ↔ (zhas 15 (hk h a) = true ∧ WP 102 0 30 L (hm h a 15 :: S) h Q) := wp_if rfl rfl rfl
theorem s102_30 : WP 102 0 30 L (vI x :: vA (some a) :: S) h Q ↔ ((zNC ≤ a ∧ zhas 15 (hk h a) = true) ∧ WP 102 0 33 L S (hput h a 15 (vI x)) Q) := wp_put0 rfl rfl
theorem s102_33 : WP 102 0 33 [a0, vA r] S h Q ↔ WP 102 0 34 [a0, vA r] (vA r :: S) h Q := wp_aload rfl rfl
theorem s102_34 : WP 102 0 34 L [vA r] h Q ↔ Q (.inl (some (vA r))) h := wp_aret rfl
/-! RepeatFree$Limit.<init>(III)V -/
theorem s103_0 : WP 103 0 0 [vA r, a1, a2, a3] S h Q ↔ WP 103 0 1 [vA r, a1, a2, a3] (vA r :: S) h Q := wp_aload rfl rfl
theorem s103_1 : WP 103 0 1 L (vA (some a) :: S) h Q ↔ ((zw S ≤ 8 ∧ zNC ≤ a) ∧ WP 103 0 4 L S h Q) := wp_if rfl rfl rfl
theorem s103_4 : WP 103 0 4 [vA r, a1, a2, a3] S h Q ↔ WP 103 0 5 [vA r, a1, a2, a3] (vA r :: S) h Q := wp_aload rfl rfl
theorem s103_5 : WP 103 0 5 [a0, vI x, a2, a3] S h Q ↔ WP 103 0 6 [a0, vI x, a2, a3] (vI x :: S) h Q := wp_iload rfl rfl
theorem s103_6 : WP 103 0 6 L (vI x :: vA (some a) :: S) h Q ↔ ((zNC ≤ a ∧ zhas 16 (hk h a) = true) ∧ WP 103 0 9 L S (hput h a 16 (vI x)) Q) := wp_put0 rfl rfl
theorem s103_9 : WP 103 0 9 [vA r, a1, a2, a3] S h Q ↔ WP 103 0 10 [vA r, a1, a2, a3] (vA r :: S) h Q := wp_aload rfl rfl
theorem s103_10 : WP 103 0 10 [a0, a1, vI x, a3] S h Q ↔ WP 103 0 11 [a0, a1, vI x, a3] (vI x :: S) h Q := wp_iload rfl rfl
theorem s103_11 : WP 103 0 11 L (vI x :: vA (some a) :: S) h Q ↔ ((zNC ≤ a ∧ zhas 17 (hk h a) = true) ∧ WP 103 0 14 L S (hput h a 17 (vI x)) Q) := wp_put0 rfl rfl
theorem s103_14 : WP 103 0 14 [vA r, a1, a2, a3] S h Q ↔ WP 103 0 15 [vA r, a1, a2, a3] (vA r :: S) h Q := wp_aload rfl rfl
theorem s103_15 : WP 103 0 15 [a0, a1, a2, vI x] S h Q ↔ WP 103 0 16 [a0, a1, a2, vI x] (vI x :: S) h Q := wp_iload rfl rfl
theorem s103_16 : WP 103 0 16 L (vI x :: vA (some a) :: S) h Q ↔ ((zNC ≤ a ∧ zhas 18 (hk h a) = true) ∧ WP 103 0 19 L S (hput h a 18 (vI x)) Q) := wp_put0 rfl rfl
theorem s103_19 : WP 103 0 19 L [] h Q ↔ Q (.inl none) h := wp_ret rfl
/-! RepeatFree$Limit.isBeyond(II)Z -/
theorem s104_0 : WP 104 0 0 [vA r, a1, a2] S h Q ↔ WP 104 0 1 [vA r, a1, a2] (vA r :: S) h Q := wp_aload rfl rfl
theorem s104_1 : WP 104 0 1 L (vA (some a) :: S) h Q ↔ (zhas 16 (hk h a) = true ∧ WP 104 0 4 L (hm h a 16 :: S) h Q) := wp_if rfl rfl rfl
theorem s104_4 : WP 104 0 4 L S h Q ↔ WP 104 0 5 L (vI 1 :: S) h Q := wp_pl rfl rfl rfl
theorem s104_5 : WP 104 0 5 L (vI y :: vI x :: S) h Q ↔ zif (x = y) (WP 104 0 8 L S h Q) (WP 104 0 31 L S h Q) := wp_bN zc_eq rfl rfl rfl
theorem s104_8 : WP 104 0 8 [a0, vI x, a2] S h Q ↔ WP 104 0 9 [a0, vI x, a2] (vI x :: S) h Q := wp_iload rfl rfl
theorem s104_9 : WP 104 0 9 [vA r, a1, a2] S h Q ↔ WP 104 0 10 [vA r, a1, a2] (vA r :: S) h Q := wp_aload rfl rfl
theorem s104_10 : WP 104 0 10 L (vA (some a) :: S) h Q ↔ (zhas 18 (hk h a) = true ∧ WP 104 0 13 L (hm h a 18 :: S) h Q) := wp_if rfl rfl rfl
theorem s104_13 : WP 104 0 13 L (vI y :: vI x :: S) h Q ↔ WP 104 0 14 L (vI (wr (x * y)) :: S) h Q := wp_pl rfl rfl rfl
theorem s104_14 : WP 104 0 14 [vA r, a1, a2] S h Q ↔ WP 104 0 15 [vA r, a1, a2] (vA r :: S) h Q := wp_aload rfl rfl
theorem s104_15 : WP 104 0 15 L (vA (some a) :: S) h Q ↔ (zhas 17 (hk h a) = true ∧ WP 104 0 18 L (hm h a 17 :: S) h Q) := wp_if rfl rfl rfl
theorem s104_18 : WP 104 0 18 [a0, a1, vI x] S h Q ↔ WP 104 0 19 [a0, a1, vI x] (vI x :: S) h Q := wp_iload rfl rfl
theorem s104_19 : WP 104 0 19 L (vI y :: vI x :: S) h Q ↔ WP 104 0 20 L (vI (wr (x * y)) :: S) h Q := wp_pl rfl rfl rfl
theorem s104_20 : WP 104 0 20 L (vI y :: vI x :: S) h Q ↔ zif (x < y) (WP 104 0 27 L S h Q) (WP 104 0 23 L S h Q) := wp_bE zc_lt rfl rfl rfl
theorem s104_23 : WP 104 0 23 L S h Q ↔ WP 104 0 24 L (vI 1 :: S) h Q := wp_pl rfl rfl rfl
theorem s104_24 : WP 104 0 24 L S h Q ↔ WP 104 0 51 L S h Q := wp_pl rfl rfl rfl
theorem s104_27 : WP 104 0 27 L S h Q ↔ WP 104 0 28 L (vI 0 :: S) h Q := wp_pl rfl rfl rfl
theorem s104_28 : WP 104 0 28 L S h Q ↔ WP 104 0 51 L S h Q := wp_pl rfl rfl rfl
theorem s104_31 : WP 104 0 31 [a0, vI x, a2] S h Q ↔ WP 104 0 32 [a0, vI x, a2] (vI x :: S) h Q := wp_iload rfl rfl
theorem s104_32 : WP 104 0 32 [vA r, a1, a2] S h Q ↔ WP 104 0 33 [vA r, a1, a2] (vA r :: S) h Q := wp_aload rfl rfl
theorem s104_33 : WP 104 0 33 L (vA (some a) :: S) h Q ↔ (zhas 18 (hk h a) = true ∧ WP 104 0 36 L (hm h a 18 :: S) h Q) := wp_if rfl rfl rfl
theorem s104_36 : WP 104 0 36 L (vI y :: vI x :: S) h Q ↔ WP 104 0 37 L (vI (wr (x * y)) :: S) h Q := wp_pl rfl rfl rfl
theorem s104_37 : WP 104 0 37 [vA r, a1, a2] S h Q ↔ WP 104 0 38 [vA r, a1, a2] (vA r :: S) h Q := wp_aload rfl rfl
theorem s104_38 : WP 104 0 38 L (vA (some a) :: S) h Q ↔ (zhas 17 (hk h a) = true ∧ WP 104 0 41 L (hm h a 17 :: S) h Q) := wp_if rfl rfl rfl
theorem s104_41 : WP 104 0 41 [a0, a1, vI x] S h Q ↔ WP 104 0 42 [a0, a1, vI x] (vI x :: S) h Q := wp_iload rfl rfl
theorem s104_42 : WP 104 0 42 L (vI y :: vI x :: S) h Q ↔ WP 104 0 43 L (vI (wr (x * y)) :: S) h Q := wp_pl rfl rfl rfl
theorem s104_43 : WP 104 0 43 L (vI y :: vI x :: S) h Q ↔ zif (y < x) (WP 104 0 46 L S h Q) (WP 104 0 50 L S h Q) := wp_bN zc_gt rfl rfl rfl
theorem s104_46 : WP 104 0 46 L S h Q ↔ WP 104 0 47 L (vI 1 :: S) h Q := wp_pl rfl rfl rfl
theorem s104_47 : WP 104 0 47 L S h Q ↔ WP 104 0 51 L S h Q := wp_pl rfl rfl rfl
theorem s104_50 : WP 104 0 50 L S h Q ↔ WP 104 0 51 L (vI 0 :: S) h Q := wp_pl rfl rfl rfl
theorem s104_51 : WP 104 0 51 L [vI x] h Q ↔ ((x = 0 ∨ x = 1) ∧ Q (.inl (some (vI x))) h) := wp_iret rfl rfl
/-! RepeatFree$Mapping.counts(I)[J -/
theorem s105_0 : WP 105 0 0 L S h Q ↔ WP 105 0 1 L (vI 4 :: S) h Q := wp_pl rfl rfl rfl
theorem s105_1 : WP 105 0 1 L (vI x :: S) h Q ↔ ((0 ≤ x ∧ x ≤ 1000000) ∧ WP 105 0 3 L (vA (some (hn h)) :: S) (hnew h (4, x.toNat) x.toNat (fun _ => vL 0)) Q) := wp_if rfl rfl rfl
theorem s105_3 : WP 105 0 3 [a0, a1, a2, a3, a4, a5, a6] (vA r :: S) h Q ↔ WP 105 0 4 [a0, a1, vA r, a3, a4, a5, a6] S h Q := wp_astore rfl rfl rfl
theorem s105_4 : WP 105 0 4 [vA r, a1, a2, a3, a4, a5, a6] S h Q ↔ WP 105 0 5 [vA r, a1, a2, a3, a4, a5, a6] (vA r :: S) h Q := wp_aload rfl rfl
theorem s105_5 : WP 105 0 5 L (vA (some a) :: S) h Q ↔ (zhas 20 (hk h a) = true ∧ WP 105 0 8 L (hm h a 20 :: S) h Q) := wp_if rfl rfl rfl
theorem s105_8 : WP 105 0 8 [a0, vI x, a2, a3, a4, a5, a6] S h Q ↔ WP 105 0 9 [a0, vI x, a2, a3, a4, a5, a6] (vI x :: S) h Q := wp_iload rfl rfl
theorem s105_9 : WP 105 0 9 L (vI x :: vA (some a) :: S) h Q ↔ ((((5 ≤ (hk h a).1 ∧ (hk h a).1 ≤ 7) ∧ 0 ≤ x ∧ x < ((hk h a).2 : Int)) ∨ ((hk h a).1 = 8 ∧ 128 ≤ x ∧ x < 144)) ∧ WP 105 0 10 L (hm h a x.toNat :: S) h Q) := wp_if rfl rfl rfl
theorem s105_10 : WP 105 0 10 [a0, a1, a2, a3, a4, a5, a6] (vA r :: S) h Q ↔ WP 105 0 11 [a0, a1, a2, vA r, a4, a5, a6] S h Q := wp_astore rfl rfl rfl
theorem s105_11 : WP 105 0 11 [a0, a1, a2, vA r, a4, a5, a6] S h Q ↔ WP 105 0 12 [a0, a1, a2, vA r, a4, a5, a6] (vA r :: S) h Q := wp_aload rfl rfl
theorem s105_12 : WP 105 0 12 L (vA (some a) :: S) h Q ↔ ((1 ≤ (hk h a).1 ∧ (hk h a).1 ≤ 7) ∧ WP 105 0 13 L (vI ((hk h a).2 : Int) :: S) h Q) := wp_if rfl rfl rfl
theorem s105_13 : WP 105 0 13 [a0, a1, a2, a3, a4, a5, a6] (vI x :: S) h Q ↔ WP 105 0 15 [a0, a1, a2, a3, vI x, a5, a6] S h Q := wp_istore rfl rfl rfl
theorem s105_15 : WP 105 0 15 L S h Q ↔ WP 105 0 16 L (vI 0 :: S) h Q := wp_pl rfl rfl rfl
theorem s105_16 : WP 105 0 16 [a0, a1, a2, a3, a4, a5, a6] (vI x :: S) h Q ↔ WP 105 0 18 [a0, a1, a2, a3, a4, vI x, a6] S h Q := wp_istore rfl rfl rfl
theorem s105_18 : WP 105 0 18 [a0, a1, a2, a3, a4, vI x, a6] S h Q ↔ WP 105 0 20 [a0, a1, a2, a3, a4, vI x, a6] (vI x :: S) h Q := wp_iload rfl rfl
theorem s105_20 : WP 105 0 20 [a0, a1, a2, a3, vI x, a5, a6] S h Q ↔ WP 105 0 22 [a0, a1, a2, a3, vI x, a5, a6] (vI x :: S) h Q := wp_iload rfl rfl
theorem s105_22 : WP 105 0 22 L (vI y :: vI x :: S) h Q ↔ zif (x < y) (WP 105 0 25 L S h Q) (WP 105 0 45 L S h Q) := wp_bN zc_lt rfl rfl rfl
theorem s105_25 : WP 105 0 25 [a0, a1, a2, vA r, a4, a5, a6] S h Q ↔ WP 105 0 26 [a0, a1, a2, vA r, a4, a5, a6] (vA r :: S) h Q := wp_aload rfl rfl
theorem s105_26 : WP 105 0 26 [a0, a1, a2, a3, a4, vI x, a6] S h Q ↔ WP 105 0 28 [a0, a1, a2, a3, a4, vI x, a6] (vI x :: S) h Q := wp_iload rfl rfl
theorem s105_28 : WP 105 0 28 L (vI x :: vA (some a) :: S) h Q ↔ ((((hk h a).1 = 2 ∨ (hk h a).1 = 3) ∧ 0 ≤ x ∧ x < ((hk h a).2 : Int)) ∧ WP 105 0 29 L (hm h a x.toNat :: S) h Q) := wp_if rfl rfl rfl
theorem s105_29 : WP 105 0 29 [a0, a1, a2, a3, a4, a5, a6] (vI x :: S) h Q ↔ WP 105 0 31 [a0, a1, a2, a3, a4, a5, vI x] S h Q := wp_istore rfl rfl rfl
theorem s105_31 : WP 105 0 31 [a0, a1, vA r, a3, a4, a5, a6] S h Q ↔ WP 105 0 32 [a0, a1, vA r, a3, a4, a5, a6] (vA r :: S) h Q := wp_aload rfl rfl
theorem s105_32 : WP 105 0 32 [a0, a1, a2, a3, a4, a5, vI x] S h Q ↔ WP 105 0 34 [a0, a1, a2, a3, a4, a5, vI x] (vI x :: S) h Q := wp_iload rfl rfl
theorem s105_34 : WP 105 0 34 L (vI y :: vA r :: S) h Q ↔ WP 105 0 35 L (vI y :: vA r :: vI y :: vA r :: S) h Q := wp_pl rfl rfl rfl
theorem s105_34l : WP 105 0 34 L (vL x :: S) h Q ↔ WP 105 0 35 L (vL x :: vL x :: S) h Q := wp_pl rfl rfl rfl
theorem s105_35 : WP 105 0 35 L (vI x :: vA (some a) :: S) h Q ↔ (((hk h a).1 = 4 ∧ 0 ≤ x ∧ x < ((hk h a).2 : Int)) ∧ WP 105 0 36 L (hm h a x.toNat :: S) h Q) := wp_if rfl rfl rfl
theorem s105_36 : WP 105 0 36 L S h Q ↔ WP 105 0 37 L (vL 1 :: S) h Q := wp_pl rfl rfl rfl
theorem s105_37 : WP 105 0 37 L (vL y :: vL x :: S) h Q ↔ WP 105 0 38 L (vL (wl (x + y)) :: S) h Q := wp_pl rfl rfl rfl
theorem s105_38 : WP 105 0 38 L (vL y :: vI x :: vA (some a) :: S) h Q ↔ (((hk h a).1 = 4 ∧ (0 ≤ x ∧ x < ((hk h a).2 : Int)) ∧ zNC ≤ a) ∧ WP 105 0 39 L S (hput h a x.toNat (vL y)) Q) := wp_if rfl rfl rfl
theorem s105_39 : WP 105 0 39 [a0, a1, a2, a3, a4, vI x, a6] S h Q ↔ WP 105 0 42 [a0, a1, a2, a3, a4, vI (wr (x + 1)), a6] S h Q := wp_iinc rfl rfl rfl
theorem s105_42 : WP 105 0 42 L S h Q ↔ WP 105 0 18 L S h Q := wp_pl rfl rfl rfl
theorem s105_45 : WP 105 0 45 [a0, a1, vA r, a3, a4, a5, a6] S h Q ↔ WP 105 0 46 [a0, a1, vA r, a3, a4, a5, a6] (vA r :: S) h Q := wp_aload rfl rfl
theorem s105_46 : WP 105 0 46 L [vA r] h Q ↔ Q (.inl (some (vA r))) h := wp_aret rfl
/-! RepeatFree$Mapping.<init>(Ljava/lang/String;)V -/
theorem s106_0 : WP 106 0 0 [vA r, a1] S h Q ↔ WP 106 0 1 [vA r, a1] (vA r :: S) h Q := wp_aload rfl rfl
theorem s106_1 : WP 106 0 1 [a0, vA r] S h Q ↔ WP 106 0 2 [a0, vA r] (vA r :: S) h Q := wp_aload rfl rfl
theorem s106_2 : WP 106 0 2 L (vA r0 :: vA (some a) :: S) h Q ↔ ((zNC ≤ a ∧ 100 ≤ (hk h a).1) ∧ zw S ≤ 8 ∧ WP 334 0 0 [vA (some a), vA r0] [] h (zret 106 0 2 5 L S Q)) := wp_I rfl rfl rfl (zcan_of rfl rfl) rfl rfl rfl
theorem s106_5 : WP 106 0 5 [vA r, a1] S h Q ↔ WP 106 0 6 [vA r, a1] (vA r :: S) h Q := wp_aload rfl rfl
theorem s106_6 : WP 106 0 6 L S h Q ↔ WP 106 0 7 L (vI 4 :: S) h Q := wp_pl rfl rfl rfl
theorem s106_7 : WP 106 0 7 L (vI x :: S) h Q ↔ ((0 ≤ x ∧ x ≤ 1000000) ∧ WP 106 0 10 L (vA (some (hn h)) :: S) (hnew h (7, x.toNat) x.toNat (fun _ => vA none)) Q) := wp_anew rfl rfl rfl
theorem s106_10 : WP 106 0 10 L (vA r :: vA (some a) :: S) h Q ↔ ((zNC ≤ a ∧ zhas 20 (hk h a) = true) ∧ WP 106 0 13 L S (hput h a 20 (vA r)) Q) := wp_put3 rfl rfl
theorem s106_13 : WP 106 0 13 L [] h Q ↔ Q (.inl none) h := wp_ret rfl
/-! RepeatFree$Pattern.begins(LRepeatFree$Word;II)Z -/
theorem s107_0 : WP 107 0 0 [vA r, a1, a2, a3, a4] S h Q ↔ WP 107 0 1 [vA r, a1, a2, a3, a4] (vA r :: S) h Q := wp_aload rfl rfl
theorem s107_1 : WP 107 0 1 [a0, vA r, a2, a3, a4] S h Q ↔ WP 107 0 2 [a0, vA r, a2, a3, a4] (vA r :: S) h Q := wp_aload rfl rfl
theorem s107_2 : WP 107 0 2 L (vA r :: vA (some a) :: S) h Q ↔ ((zNC ≤ a ∧ zhas 25 (hk h a) = true) ∧ WP 107 0 5 L S (hput h a 25 (vA r)) Q) := wp_put3 rfl rfl
theorem s107_5 : WP 107 0 5 L S h Q ↔ WP 107 0 6 L (vI 0 :: S) h Q := wp_pl rfl rfl rfl
theorem s107_6 : WP 107 0 6 [a0, a1, a2, a3, a4] (vI x :: S) h Q ↔ WP 107 0 8 [a0, a1, a2, a3, vI x] S h Q := wp_istore rfl rfl rfl
theorem s107_8 : WP 107 0 8 [a0, a1, a2, a3, vI x] S h Q ↔ WP 107 0 10 [a0, a1, a2, a3, vI x] (vI x :: S) h Q := wp_iload rfl rfl
theorem s107_10 : WP 107 0 10 L S h Q ↔ WP 107 0 11 L (vI 3 :: S) h Q := wp_pl rfl rfl rfl
theorem s107_11 : WP 107 0 11 L (vI y :: vI x :: S) h Q ↔ zif (x < y) (WP 107 0 14 L S h Q) (WP 107 0 28 L S h Q) := wp_bN zc_lt rfl rfl rfl
theorem s107_14 : WP 107 0 14 [vA r, a1, a2, a3, a4] S h Q ↔ WP 107 0 15 [vA r, a1, a2, a3, a4] (vA r :: S) h Q := wp_aload rfl rfl
theorem s107_15 : WP 107 0 15 L (vA (some a) :: S) h Q ↔ (zhas 23 (hk h a) = true ∧ WP 107 0 18 L (hm h a 23 :: S) h Q) := wp_if rfl rfl rfl
theorem s107_18 : WP 107 0 18 [a0, a1, a2, a3, vI x] S h Q ↔ WP 107 0 20 [a0, a1, a2, a3, vI x] (vI x :: S) h Q := wp_iload rfl rfl
theorem s107_20 : WP 107 0 20 L S h Q ↔ WP 107 0 21 L (vI 0 :: S) h Q := wp_pl rfl rfl rfl
theorem s107_21 : WP 107 0 21 L (vI y :: vI x :: vA (some a) :: S) h Q ↔ (((hk h a).1 = 1 ∧ (0 ≤ x ∧ x < ((hk h a).2 : Int)) ∧ zNC ≤ a) ∧ WP 107 0 22 L S (hput h a x.toNat (vI y)) Q) := wp_if rfl rfl rfl
theorem s107_22 : WP 107 0 22 [a0, a1, a2, a3, vI x] S h Q ↔ WP 107 0 25 [a0, a1, a2, a3, vI (wr (x + 1))] S h Q := wp_iinc rfl rfl rfl
theorem s107_25 : WP 107 0 25 L S h Q ↔ WP 107 0 8 L S h Q := wp_pl rfl rfl rfl
theorem s107_28 : WP 107 0 28 [vA r, a1, a2, a3, a4] S h Q ↔ WP 107 0 29 [vA r, a1, a2, a3, a4] (vA r :: S) h Q := wp_aload rfl rfl
theorem s107_29 : WP 107 0 29 L S h Q ↔ WP 107 0 30 L (vI 0 :: S) h Q := wp_pl rfl rfl rfl
theorem s107_30 : WP 107 0 30 [a0, a1, vI x, a3, a4] S h Q ↔ WP 107 0 31 [a0, a1, vI x, a3, a4] (vI x :: S) h Q := wp_iload rfl rfl
theorem s107_31 : WP 107 0 31 [a0, a1, a2, vI x, a4] S h Q ↔ WP 107 0 32 [a0, a1, a2, vI x, a4] (vI x :: S) h Q := wp_iload rfl rfl
theorem s107_32 : WP 107 0 32 L (vI x2 :: vI x1 :: vI x0 :: vA (some a) :: S) h Q ↔ ((hk h a).1 = 105 ∧ (zw S ≤ 8 ∧ WP 109 9 0 [vA (some a), vI x0, vI x1, vI x2, vJ, vJ, vJ, vJ] [] h (zret 107 0 32 35 L S Q))) := wp_V1 (c := 105) rfl rfl (fun _ => rfl) rfl rfl (zcan_of rfl rfl) rfl rfl rfl
theorem s107_35 : WP 107 0 35 L [vI x] h Q ↔ ((x = 0 ∨ x = 1) ∧ Q (.inl (some (vI x))) h) := wp_iret rfl rfl
/-! RepeatFree$Pattern.firstIn(LRepeatFree$Word;)I -/
theorem s108_0 : WP 108 0 0 L S h Q ↔ WP 108 0 1 L (vI 0 :: S) h Q := wp_pl rfl rfl rfl
theorem s108_1 : WP 108 0 1 [a0, a1, a2] (vI x :: S) h Q ↔ WP 108 0 2 [a0, a1, vI x] S h Q := wp_istore rfl rfl rfl
theorem s108_2 : WP 108 0 2 [a0, a1, vI x] S h Q ↔ WP 108 0 3 [a0, a1, vI x] (vI x :: S) h Q := wp_iload rfl rfl
theorem s108_3 : WP 108 0 3 [vA r, a1, a2] S h Q ↔ WP 108 0 4 [vA r, a1, a2] (vA r :: S) h Q := wp_aload rfl rfl
theorem s108_4 : WP 108 0 4 L (vA (some a) :: S) h Q ↔ (zhas 21 (hk h a) = true ∧ WP 108 0 7 L (hm h a 21 :: S) h Q) := wp_if rfl rfl rfl
theorem s108_7 : WP 108 0 7 L (vA (some a) :: S) h Q ↔ ((hk h a).1 = 117 ∧ (zw S ≤ 8 ∧ WP 323 0 0 [vA (some a)] [] h (zret 108 0 7 10 L S Q))) := wp_V1 (c := 117) rfl rfl (fun _ => rfl) rfl rfl (zcan_of rfl rfl) rfl rfl rfl
theorem s108_10 : WP 108 0 10 L (vI y :: vI x :: S) h Q ↔ WP 108 0 11 L (vI (wr (x + y)) :: S) h Q := wp_pl rfl rfl rfl
theorem s108_11 : WP 108 0 11 [a0, vA r, a2] S h Q ↔ WP 108 0 12 [a0, vA r, a2] (vA r :: S) h Q := wp_aload rfl rfl
theorem s108_12 : WP 108 0 12 L (vA (some a) :: S) h Q ↔ (zhas 15 (hk h a) = true ∧ WP 108 0 15 L (hm h a 15 :: S) h Q) := wp_if rfl rfl rfl
theorem s108_15 : WP 108 0 15 L (vI y :: vI x :: S) h Q ↔ zif (y < x) (WP 108 0 36 L S h Q) (WP 108 0 18 L S h Q) := wp_bE zc_gt rfl rfl rfl
theorem s108_18 : WP 108 0 18 [vA r, a1, a2] S h Q ↔ WP 108 0 19 [vA r, a1, a2] (vA r :: S) h Q := wp_aload rfl rfl
theorem s108_19 : WP 108 0 19 [a0, vA r, a2] S h Q ↔ WP 108 0 20 [a0, vA r, a2] (vA r :: S) h Q := wp_aload rfl rfl
theorem s108_20 : WP 108 0 20 [a0, a1, vI x] S h Q ↔ WP 108 0 21 [a0, a1, vI x] (vI x :: S) h Q := wp_iload rfl rfl
theorem s108_21 : WP 108 0 21 L S h Q ↔ WP 108 0 22 L (vI (-1) :: S) h Q := wp_pl rfl rfl rfl
theorem s108_22 : WP 108 0 22 L (vI x2 :: vI x1 :: vA r0 :: vA (some a) :: S) h Q ↔ ((hk h a).1 = 105 ∧ (zw S ≤ 8 ∧ WP 107 0 0 [vA (some a), vA r0, vI x1, vI x2, vJ] [] h (zret 108 0 22 25 L S Q))) := wp_V1 (c := 105) rfl rfl (fun _ => rfl) rfl rfl (zcan_of rfl rfl) rfl rfl rfl
theorem s108_25 : WP 108 0 25 L (vI x :: S) h Q ↔ zif (x = 0) (WP 108 0 30 L S h Q) (WP 108 0 28 L S h Q) := wp_bE zc_eq rfl rfl rfl
theorem s108_28 : WP 108 0 28 [a0, a1, vI x] S h Q ↔ WP 108 0 29 [a0, a1, vI x] (vI x :: S) h Q := wp_iload rfl rfl
theorem s108_29 : WP 108 0 29 L [vI x] h Q ↔ Q (.inl (some (vI x))) h := wp_iret0 rfl rfl
theorem s108_30 : WP 108 0 30 [a0, a1, vI x] S h Q ↔ WP 108 0 33 [a0, a1, vI (wr (x + 1))] S h Q := wp_iinc rfl rfl rfl
theorem s108_33 : WP 108 0 33 L S h Q ↔ WP 108 0 2 L S h Q := wp_pl rfl rfl rfl
theorem s108_36 : WP 108 0 36 L S h Q ↔ WP 108 0 37 L (vI (-1) :: S) h Q := wp_pl rfl rfl rfl
theorem s108_37 : WP 108 0 37 L [vI x] h Q ↔ Q (.inl (some (vI x))) h := wp_iret0 rfl rfl
/-! RepeatFree$Pattern.fits(III)Z -/
theorem s109_0 : WP 109 lv 0 [vA r, a1, a2, a3, a4, a5, a6, a7] S h Q ↔ WP 109 lv 1 [vA r, a1, a2, a3, a4, a5, a6, a7] (vA r :: S) h Q := wp_aload rfl rfl
theorem s109_1 : WP 109 lv 1 L (vA (some a) :: S) h Q ↔ (zhas 21 (hk h a) = true ∧ WP 109 lv 4 L (hm h a 21 :: S) h Q) := wp_if rfl rfl rfl
theorem s109_4 : WP 109 lv 4 L (vA (some a) :: S) h Q ↔ ((hk h a).1 = 117 ∧ (zw S ≤ 8 ∧ WP 323 0 0 [vA (some a)] [] h (zret 109 lv 4 7 L S Q))) := wp_V1 (c := 117) rfl rfl (fun _ => rfl) rfl rfl (zcan_of rfl rfl) rfl rfl rfl
theorem s109_7 : WP 109 lv 7 [a0, a1, a2, a3, a4, a5, a6, a7] (vI x :: S) h Q ↔ WP 109 lv 9 [a0, a1, a2, a3, vI x, a5, a6, a7] S h Q := wp_istore rfl rfl rfl
theorem s109_9 : WP 109 lv 9 [a0, vI x, a2, a3, a4, a5, a6, a7] S h Q ↔ WP 109 lv 10 [a0, vI x, a2, a3, a4, a5, a6, a7] (vI x :: S) h Q := wp_iload rfl rfl
theorem s109_10 : WP 109 lv 10 [a0, a1, a2, a3, vI x, a5, a6, a7] S h Q ↔ WP 109 lv 12 [a0, a1, a2, a3, vI x, a5, a6, a7] (vI x :: S) h Q := wp_iload rfl rfl
theorem s109_12 : WP 109 lv 12 L (vI y :: vI x :: S) h Q ↔ zif (x = y) (WP 109 lv 15 L S h Q) (WP 109 lv 31 L S h Q) := wp_bN zc_eq rfl rfl rfl
theorem s109_15 : WP 109 lv 15 [a0, a1, a2, vI x, a4, a5, a6, a7] S h Q ↔ WP 109 lv 16 [a0, a1, a2, vI x, a4, a5, a6, a7] (vI x :: S) h Q := wp_iload rfl rfl
theorem s109_16 : WP 109 lv 16 L S h Q ↔ WP 109 lv 17 L (vI (-1) :: S) h Q := wp_pl rfl rfl rfl
theorem s109_17 : WP 109 lv 17 L (vI y :: vI x :: S) h Q ↔ zif (x = y) (WP 109 lv 25 L S h Q) (WP 109 lv 20 L S h Q) := wp_bE zc_eq rfl rfl rfl
theorem s109_20 : WP 109 lv 20 [a0, a1, vI x, a3, a4, a5, a6, a7] S h Q ↔ WP 109 lv 21 [a0, a1, vI x, a3, a4, a5, a6, a7] (vI x :: S) h Q := wp_iload rfl rfl
theorem s109_21 : WP 109 lv 21 [a0, a1, a2, vI x, a4, a5, a6, a7] S h Q ↔ WP 109 lv 22 [a0, a1, a2, vI x, a4, a5, a6, a7] (vI x :: S) h Q := wp_iload rfl rfl
theorem s109_22 : WP 109 lv 22 L (vI y :: vI x :: S) h Q ↔ zif (x = y) (WP 109 lv 25 L S h Q) (WP 109 lv 29 L S h Q) := wp_bN zc_eq rfl rfl rfl
theorem s109_25 : WP 109 lv 25 L S h Q ↔ WP 109 lv 26 L (vI 1 :: S) h Q := wp_pl rfl rfl rfl
theorem s109_26 : WP 109 lv 26 L S h Q ↔ WP 109 lv 30 L S h Q := wp_pl rfl rfl rfl
theorem s109_29 : WP 109 lv 29 L S h Q ↔ WP 109 lv 30 L (vI 0 :: S) h Q := wp_pl rfl rfl rfl
theorem s109_30 : WP 109 lv 30 L [vI x] h Q ↔ ((x = 0 ∨ x = 1) ∧ Q (.inl (some (vI x))) h) := wp_iret rfl rfl
theorem s109_31 : WP 109 lv 31 [vA r, a1, a2, a3, a4, a5, a6, a7] S h Q ↔ WP 109 lv 32 [vA r, a1, a2, a3, a4, a5, a6, a7] (vA r :: S) h Q := wp_aload rfl rfl
theorem s109_32 : WP 109 lv 32 L (vA (some a) :: S) h Q ↔ (zhas 21 (hk h a) = true ∧ WP 109 lv 35 L (hm h a 21 :: S) h Q) := wp_if rfl rfl rfl
theorem s109_35 : WP 109 lv 35 [a0, vI x, a2, a3, a4, a5, a6, a7] S h Q ↔ WP 109 lv 36 [a0, vI x, a2, a3, a4, a5, a6, a7] (vI x :: S) h Q := wp_iload rfl rfl
theorem s109_36 : WP 109 lv 36 L (vI x0 :: vA (some a) :: S) h Q ↔ ((hk h a).1 = 117 ∧ (zw S ≤ 8 ∧ WP 310 0 0 [vA (some a), vI x0] [] h (zret 109 lv 36 39 L S Q))) := wp_V1 (c := 117) rfl rfl (fun _ => rfl) rfl rfl (zcan_of rfl rfl) rfl rfl rfl
theorem s109_39 : WP 109 lv 39 L S h Q ↔ WP 109 lv 41 L (vI 120 :: S) h Q := wp_pl rfl rfl rfl
theorem s109_41 : WP 109 lv 41 L (vI y :: vI x :: S) h Q ↔ WP 109 lv 42 L (vI (wr (x - y)) :: S) h Q := wp_pl rfl rfl rfl
theorem s109_42 : WP 109 lv 42 [a0, a1, a2, a3, a4, a5, a6, a7] (vI x :: S) h Q ↔ WP 109 lv 44 [a0, a1, a2, a3, a4, vI x, a6, a7] S h Q := wp_istore rfl rfl rfl
theorem s109_44 : WP 109 lv 44 [vA r, a1, a2, a3, a4, a5, a6, a7] S h Q ↔ WP 109 lv 45 [vA r, a1, a2, a3, a4, a5, a6, a7] (vA r :: S) h Q := wp_aload rfl rfl
theorem s109_45 : WP 109 lv 45 L (vA (some a) :: S) h Q ↔ (zhas 25 (hk h a) = true ∧ WP 109 lv 48 L (hm h a 25 :: S) h Q) := wp_if rfl rfl rfl
theorem s109_48 : WP 109 lv 48 L (vA (some a) :: S) h Q ↔ (zhas 15 (hk h a) = true ∧ WP 109 lv 51 L (hm h a 15 :: S) h Q) := wp_if rfl rfl rfl
theorem s109_51 : WP 109 lv 51 [a0, a1, vI x, a3, a4, a5, a6, a7] S h Q ↔ WP 109 lv 52 [a0, a1, vI x, a3, a4, a5, a6, a7] (vI x :: S) h Q := wp_iload rfl rfl
theorem s109_52 : WP 109 lv 52 L (vI y :: vI x :: S) h Q ↔ WP 109 lv 53 L (vI (wr (x - y)) :: S) h Q := wp_pl rfl rfl rfl
theorem s109_53 : WP 109 lv 53 [a0, a1, a2, a3, vI x, a5, a6, a7] S h Q ↔ WP 109 lv 55 [a0, a1, a2, a3, vI x, a5, a6, a7] (vI x :: S) h Q := wp_iload rfl rfl
theorem s109_55 : WP 109 lv 55 L S h Q ↔ WP 109 lv 56 L (vI 1 :: S) h Q := wp_pl rfl rfl rfl
theorem s109_56 : WP 109 lv 56 L (vI y :: vI x :: S) h Q ↔ WP 109 lv 57 L (vI (wr (x - y)) :: S) h Q := wp_pl rfl rfl rfl
theorem s109_57 : WP 109 lv 57 [a0, vI x, a2, a3, a4, a5, a6, a7] S h Q ↔ WP 109 lv 58 [a0, vI x, a2, a3, a4, a5, a6, a7] (vI x :: S) h Q := wp_iload rfl rfl
theorem s109_58 : WP 109 lv 58 L (vI y :: vI x :: S) h Q ↔ WP 109 lv 59 L (vI (wr (x - y)) :: S) h Q := wp_pl rfl rfl rfl
theorem s109_59 : WP 109 lv 59 L (vI y :: vI x :: S) h Q ↔ WP 109 lv 60 L (vI (wr (x - y)) :: S) h Q := wp_pl rfl rfl rfl
theorem s109_60 : WP 109 lv 60 [a0, a1, a2, a3, a4, a5, a6, a7] (vI x :: S) h Q ↔ WP 109 lv 62 [a0, a1, a2, a3, a4, a5, vI x, a7] S h Q := wp_istore rfl rfl rfl
theorem s109_62 : WP 109 lv 62 [vA r, a1, a2, a3, a4, a5, a6, a7] S h Q ↔ WP 109 lv 63 [vA r, a1, a2, a3, a4, a5, a6, a7] (vA r :: S) h Q := wp_aload rfl rfl
theorem s109_63 : WP 109 lv 63 L (vA (some a) :: S) h Q ↔ (zhas 23 (hk h a) = true ∧ WP 109 lv 66 L (hm h a 23 :: S) h Q) := wp_if rfl rfl rfl
theorem s109_66 : WP 109 lv 66 [a0, a1, a2, a3, a4, vI x, a6, a7] S h Q ↔ WP 109 lv 68 [a0, a1, a2, a3, a4, vI x, a6, a7] (vI x :: S) h Q := wp_iload rfl rfl
theorem s109_68 : WP 109 lv 68 L (vI x :: vA (some a) :: S) h Q ↔ (((hk h a).1 = 1 ∧ 0 ≤ x ∧ x < ((hk h a).2 : Int)) ∧ WP 109 lv 69 L (hm h a x.toNat :: S) h Q) := wp_if rfl rfl rfl
theorem s109_69 : WP 109 lv 69 L (vI x :: S) h Q ↔ zif (0 < x) (WP 109 lv 72 L S h Q) (WP 109 lv 135 L S h Q) := wp_bN zc_gt rfl rfl rfl
theorem s109_72 : WP 109 lv 72 [vA r, a1, a2, a3, a4, a5, a6, a7] S h Q ↔ WP 109 lv 73 [vA r, a1, a2, a3, a4, a5, a6, a7] (vA r :: S) h Q := wp_aload rfl rfl
theorem s109_73 : WP 109 lv 73 L (vA (some a) :: S) h Q ↔ (zhas 23 (hk h a) = true ∧ WP 109 lv 76 L (hm h a 23 :: S) h Q) := wp_if rfl rfl rfl
theorem s109_76 : WP 109 lv 76 [a0, a1, a2, a3, a4, vI x, a6, a7] S h Q ↔ WP 109 lv 78 [a0, a1, a2, a3, a4, vI x, a6, a7] (vI x :: S) h Q := wp_iload rfl rfl
theorem s109_78 : WP 109 lv 78 L (vI x :: vA (some a) :: S) h Q ↔ (((hk h a).1 = 1 ∧ 0 ≤ x ∧ x < ((hk h a).2 : Int)) ∧ WP 109 lv 79 L (hm h a x.toNat :: S) h Q) := wp_if rfl rfl rfl
theorem s109_79 : WP 109 lv 79 [a0, a1, a2, a3, a4, a5, vI x, a7] S h Q ↔ WP 109 lv 81 [a0, a1, a2, a3, a4, a5, vI x, a7] (vI x :: S) h Q := wp_iload rfl rfl
theorem s109_81 : WP 109 lv 81 L (vI y :: vI x :: S) h Q ↔ zif (y < x) (WP 109 lv 133 L S h Q) (WP 109 lv 84 L S h Q) := wp_bE zc_gt rfl rfl rfl
theorem s109_84 : WP 109 lv 84 [vA r, a1, a2, a3, a4, a5, a6, a7] S h Q ↔ WP 109 lv 85 [vA r, a1, a2, a3, a4, a5, a6, a7] (vA r :: S) h Q := wp_aload rfl rfl
theorem s109_85 : WP 109 lv 85 L (vA (some a) :: S) h Q ↔ (zhas 25 (hk h a) = true ∧ WP 109 lv 88 L (hm h a 25 :: S) h Q) := wp_if rfl rfl rfl
theorem s109_88 : WP 109 lv 88 [vA r, a1, a2, a3, a4, a5, a6, a7] S h Q ↔ WP 109 lv 89 [vA r, a1, a2, a3, a4, a5, a6, a7] (vA r :: S) h Q := wp_aload rfl rfl
theorem s109_89 : WP 109 lv 89 L (vA (some a) :: S) h Q ↔ (zhas 24 (hk h a) = true ∧ WP 109 lv 92 L (hm h a 24 :: S) h Q) := wp_if rfl rfl rfl
theorem s109_92 : WP 109 lv 92 [a0, a1, a2, a3, a4, vI x, a6, a7] S h Q ↔ WP 109 lv 94 [a0, a1, a2, a3, a4, vI x, a6, a7] (vI x :: S) h Q := wp_iload rfl rfl
theorem s109_94 : WP 109 lv 94 L (vI x :: vA (some a) :: S) h Q ↔ (((hk h a).1 = 1 ∧ 0 ≤ x ∧ x < ((hk h a).2 : Int)) ∧ WP 109 lv 95 L (hm h a x.toNat :: S) h Q) := wp_if rfl rfl rfl
theorem s109_95 : WP 109 lv 95 [a0, a1, vI x, a3, a4, a5, a6, a7] S h Q ↔ WP 109 lv 96 [a0, a1, vI x, a3, a4, a5, a6, a7] (vI x :: S) h Q := wp_iload rfl rfl
theorem s109_96 : WP 109 lv 96 [vA r, a1, a2, a3, a4, a5, a6, a7] S h Q ↔ WP 109 lv 97 [vA r, a1, a2, a3, a4, a5, a6, a7] (vA r :: S) h Q := wp_aload rfl rfl
theorem s109_97 : WP 109 lv 97 L (vA (some a) :: S) h Q ↔ (zhas 23 (hk h a) = true ∧ WP 109 lv 100 L (hm h a 23 :: S) h Q) := wp_if rfl rfl rfl
theorem s109_100 : WP 109 lv 100 [a0, a1, a2, a3, a4, vI x, a6, a7] S h Q ↔ WP 109 lv 102 [a0, a1, a2, a3, a4, vI x, a6, a7] (vI x :: S) h Q := wp_iload rfl rfl
theorem s109_102 : WP 109 lv 102 L (vI x :: vA (some a) :: S) h Q ↔ (((hk h a).1 = 1 ∧ 0 ≤ x ∧ x < ((hk h a).2 : Int)) ∧ WP 109 lv 103 L (hm h a x.toNat :: S) h Q) := wp_if rfl rfl rfl
theorem s109_103 : WP 109 lv 103 L (vI x2 :: vI x1 :: vI x0 :: vA (some a) :: S) h Q ↔ ((hk h a).1 = 102 ∧ (zw S ≤ 8 ∧ WP 101 0 0 [vA (some a), vI x0, vI x1, vI x2, vJ] [] h (zret 109 lv 103 106 L S Q))) := wp_V1 (c := 102) rfl rfl (fun _ => rfl) rfl rfl (zcan_of rfl rfl) rfl rfl rfl
theorem s109_106 : WP 109 lv 106 L (vI x :: S) h Q ↔ zif (x = 0) (WP 109 lv 133 L S h Q) (WP 109 lv 109 L S h Q) := wp_bE zc_eq rfl rfl rfl
theorem s109_109 : WP 109 lv 109 [vA r, a1, a2, a3, a4, a5, a6, a7] S h Q ↔ WP 109 lv 110 [vA r, a1, a2, a3, a4, a5, a6, a7] (vA r :: S) h Q := wp_aload rfl rfl
theorem s109_110 : WP 109 lv 110 [a0, vI x, a2, a3, a4, a5, a6, a7] S h Q ↔ WP 109 lv 111 [a0, vI x, a2, a3, a4, a5, a6, a7] (vI x :: S) h Q := wp_iload rfl rfl
theorem s109_111 : WP 109 lv 111 L S h Q ↔ WP 109 lv 112 L (vI 1 :: S) h Q := wp_pl rfl rfl rfl
theorem s109_112 : WP 109 lv 112 L (vI y :: vI x :: S) h Q ↔ WP 109 lv 113 L (vI (wr (x + y)) :: S) h Q := wp_pl rfl rfl rfl
theorem s109_113 : WP 109 lv 113 [a0, a1, vI x, a3, a4, a5, a6, a7] S h Q ↔ WP 109 lv 114 [a0, a1, vI x, a3, a4, a5, a6, a7] (vI x :: S) h Q := wp_iload rfl rfl
theorem s109_114 : WP 109 lv 114 [vA r, a1, a2, a3, a4, a5, a6, a7] S h Q ↔ WP 109 lv 115 [vA r, a1, a2, a3, a4, a5, a6, a7] (vA r :: S) h Q := wp_aload rfl rfl
theorem s109_115 : WP 109 lv 115 L (vA (some a) :: S) h Q ↔ (zhas 23 (hk h a) = true ∧ WP 109 lv 118 L (hm h a 23 :: S) h Q) := wp_if rfl rfl rfl
theorem s109_118 : WP 109 lv 118 [a0, a1, a2, a3, a4, vI x, a6, a7] S h Q ↔ WP 109 lv 120 [a0, a1, a2, a3, a4, vI x, a6, a7] (vI x :: S) h Q := wp_iload rfl rfl
theorem s109_120 : WP 109 lv 120 L (vI x :: vA (some a) :: S) h Q ↔ (((hk h a).1 = 1 ∧ 0 ≤ x ∧ x < ((hk h a).2 : Int)) ∧ WP 109 lv 121 L (hm h a x.toNat :: S) h Q) := wp_if rfl rfl rfl
theorem s109_121 : WP 109 lv 121 L (vI y :: vI x :: S) h Q ↔ WP 109 lv 122 L (vI (wr (x + y)) :: S) h Q := wp_pl rfl rfl rfl
theorem s109_122 : WP 109 lv 122 [a0, a1, a2, vI x, a4, a5, a6, a7] S h Q ↔ WP 109 lv 123 [a0, a1, a2, vI x, a4, a5, a6, a7] (vI x :: S) h Q := wp_iload rfl rfl
theorem s109_123 : WP 109 (lv + 1) 123 L (vI x2 :: vI x1 :: vI x0 :: vA (some a) :: S) h Q ↔ ((hk h a).1 = 105 ∧ (zw S ≤ 8 ∧ WP 109 lv 0 [vA (some a), vI x0, vI x1, vI x2, vJ, vJ, vJ, vJ] [] h (zret 109 (lv + 1) 123 126 L S Q))) := wp_V1 (c := 105) rfl rfl (fun _ => rfl) rfl rfl zcan_self rfl rfl rfl
theorem s109_126 : WP 109 lv 126 L (vI x :: S) h Q ↔ zif (x = 0) (WP 109 lv 133 L S h Q) (WP 109 lv 129 L S h Q) := wp_bE zc_eq rfl rfl rfl
theorem s109_129 : WP 109 lv 129 L S h Q ↔ WP 109 lv 130 L (vI 1 :: S) h Q := wp_pl rfl rfl rfl
theorem s109_130 : WP 109 lv 130 L S h Q ↔ WP 109 lv 134 L S h Q := wp_pl rfl rfl rfl
theorem s109_133 : WP 109 lv 133 L S h Q ↔ WP 109 lv 134 L (vI 0 :: S) h Q := wp_pl rfl rfl rfl
theorem s109_134 : WP 109 lv 134 L [vI x] h Q ↔ ((x = 0 ∨ x = 1) ∧ Q (.inl (some (vI x))) h) := wp_iret rfl rfl
theorem s109_135 : WP 109 lv 135 L S h Q ↔ WP 109 lv 136 L (vI 1 :: S) h Q := wp_pl rfl rfl rfl
theorem s109_136 : WP 109 lv 136 [a0, a1, a2, a3, a4, a5, a6, a7] (vI x :: S) h Q ↔ WP 109 lv 138 [a0, a1, a2, a3, a4, a5, a6, vI x] S h Q := wp_istore rfl rfl rfl
theorem s109_138 : WP 109 lv 138 [a0, a1, a2, a3, a4, a5, a6, vI x] S h Q ↔ WP 109 lv 140 [a0, a1, a2, a3, a4, a5, a6, vI x] (vI x :: S) h Q := wp_iload rfl rfl
theorem s109_140 : WP 109 lv 140 [a0, a1, a2, a3, a4, a5, vI x, a7] S h Q ↔ WP 109 lv 142 [a0, a1, a2, a3, a4, a5, vI x, a7] (vI x :: S) h Q := wp_iload rfl rfl
theorem s109_142 : WP 109 lv 142 L (vI y :: vI x :: S) h Q ↔ zif (y < x) (WP 109 lv 185 L S h Q) (WP 109 lv 145 L S h Q) := wp_bE zc_gt rfl rfl rfl
theorem s109_145 : WP 109 lv 145 [vA r, a1, a2, a3, a4, a5, a6, a7] S h Q ↔ WP 109 lv 146 [vA r, a1, a2, a3, a4, a5, a6, a7] (vA r :: S) h Q := wp_aload rfl rfl
theorem s109_146 : WP 109 lv 146 L (vA (some a) :: S) h Q ↔ (zhas 23 (hk h a) = true ∧ WP 109 lv 149 L (hm h a 23 :: S) h Q) := wp_if rfl rfl rfl
theorem s109_149 : WP 109 lv 149 [a0, a1, a2, a3, a4, vI x, a6, a7] S h Q ↔ WP 109 lv 151 [a0, a1, a2, a3, a4, vI x, a6, a7] (vI x :: S) h Q := wp_iload rfl rfl
theorem s109_151 : WP 109 lv 151 [a0, a1, a2, a3, a4, a5, a6, vI x] S h Q ↔ WP 109 lv 153 [a0, a1, a2, a3, a4, a5, a6, vI x] (vI x :: S) h Q := wp_iload rfl rfl
theorem s109_153 : WP 109 lv 153 L (vI y :: vI x :: vA (some a) :: S) h Q ↔ (((hk h a).1 = 1 ∧ (0 ≤ x ∧ x < ((hk h a).2 : Int)) ∧ zNC ≤ a) ∧ WP 109 lv 154 L S (hput h a x.toNat (vI y)) Q) := wp_if rfl rfl rfl
theorem s109_154 : WP 109 lv 154 [vA r, a1, a2, a3, a4, a5, a6, a7] S h Q ↔ WP 109 lv 155 [vA r, a1, a2, a3, a4, a5, a6, a7] (vA r :: S) h Q := wp_aload rfl rfl
theorem s109_155 : WP 109 lv 155 L (vA (some a) :: S) h Q ↔ (zhas 24 (hk h a) = true ∧ WP 109 lv 158 L (hm h a 24 :: S) h Q) := wp_if rfl rfl rfl
theorem s109_158 : WP 109 lv 158 [a0, a1, a2, a3, a4, vI x, a6, a7] S h Q ↔ WP 109 lv 160 [a0, a1, a2, a3, a4, vI x, a6, a7] (vI x :: S) h Q := wp_iload rfl rfl
theorem s109_160 : WP 109 lv 160 [a0, a1, vI x, a3, a4, a5, a6, a7] S h Q ↔ WP 109 lv 161 [a0, a1, vI x, a3, a4, a5, a6, a7] (vI x :: S) h Q := wp_iload rfl rfl
theorem s109_161 : WP 109 lv 161 L (vI y :: vI x :: vA (some a) :: S) h Q ↔ (((hk h a).1 = 1 ∧ (0 ≤ x ∧ x < ((hk h a).2 : Int)) ∧ zNC ≤ a) ∧ WP 109 lv 162 L S (hput h a x.toNat (vI y)) Q) := wp_if rfl rfl rfl
theorem s109_162 : WP 109 lv 162 [vA r, a1, a2, a3, a4, a5, a6, a7] S h Q ↔ WP 109 lv 163 [vA r, a1, a2, a3, a4, a5, a6, a7] (vA r :: S) h Q := wp_aload rfl rfl
theorem s109_163 : WP 109 lv 163 [a0, vI x, a2, a3, a4, a5, a6, a7] S h Q ↔ WP 109 lv 164 [a0, vI x, a2, a3, a4, a5, a6, a7] (vI x :: S) h Q := wp_iload rfl rfl
theorem s109_164 : WP 109 lv 164 L S h Q ↔ WP 109 lv 165 L (vI 1 :: S) h Q := wp_pl rfl rfl rfl
theorem s109_165 : WP 109 lv 165 L (vI y :: vI x :: S) h Q ↔ WP 109 lv 166 L (vI (wr (x + y)) :: S) h Q := wp_pl rfl rfl rfl
theorem s109_166 : WP 109 lv 166 [a0, a1, vI x, a3, a4, a5, a6, a7] S h Q ↔ WP 109 lv 167 [a0, a1, vI x, a3, a4, a5, a6, a7] (vI x :: S) h Q := wp_iload rfl rfl
theorem s109_167 : WP 109 lv 167 [a0, a1, a2, a3, a4, a5, a6, vI x] S h Q ↔ WP 109 lv 169 [a0, a1, a2, a3, a4, a5, a6, vI x] (vI x :: S) h Q := wp_iload rfl rfl
theorem s109_169 : WP 109 lv 169 L (vI y :: vI x :: S) h Q ↔ WP 109 lv 170 L (vI (wr (x + y)) :: S) h Q := wp_pl rfl rfl rfl
theorem s109_170 : WP 109 lv 170 [a0, a1, a2, vI x, a4, a5, a6, a7] S h Q ↔ WP 109 lv 171 [a0, a1, a2, vI x, a4, a5, a6, a7] (vI x :: S) h Q := wp_iload rfl rfl
theorem s109_171 : WP 109 (lv + 1) 171 L (vI x2 :: vI x1 :: vI x0 :: vA (some a) :: S) h Q ↔ ((hk h a).1 = 105 ∧ (zw S ≤ 8 ∧ WP 109 lv 0 [vA (some a), vI x0, vI x1, vI x2, vJ, vJ, vJ, vJ] [] h (zret 109 (lv + 1) 171 174 L S Q))) := wp_V1 (c := 105) rfl rfl (fun _ => rfl) rfl rfl zcan_self rfl rfl rfl
theorem s109_174 : WP 109 lv 174 L (vI x :: S) h Q ↔ zif (x = 0) (WP 109 lv 179 L S h Q) (WP 109 lv 177 L S h Q) := wp_bE zc_eq rfl rfl rfl
theorem s109_177 : WP 109 lv 177 L S h Q ↔ WP 109 lv 178 L (vI 1 :: S) h Q := wp_pl rfl rfl rfl
theorem s109_178 : WP 109 lv 178 L [vI x] h Q ↔ ((x = 0 ∨ x = 1) ∧ Q (.inl (some (vI x))) h) := wp_iret rfl rfl
theorem s109_179 : WP 109 lv 179 [a0, a1, a2, a3, a4, a5, a6, vI x] S h Q ↔ WP 109 lv 182 [a0, a1, a2, a3, a4, a5, a6, vI (wr (x + 1))] S h Q := wp_iinc rfl rfl rfl
theorem s109_182 : WP 109 lv 182 L S h Q ↔ WP 109 lv 138 L S h Q := wp_pl rfl rfl rfl
theorem s109_185 : WP 109 lv 185 [vA r, a1, a2, a3, a4, a5, a6, a7] S h Q ↔ WP 109 lv 186 [vA r, a1, a2, a3, a4, a5, a6, a7] (vA r :: S) h Q := wp_aload rfl rfl
theorem s109_186 : WP 109 lv 186 L (vA (some a) :: S) h Q ↔ (zhas 23 (hk h a) = true ∧ WP 109 lv 189 L (hm h a 23 :: S) h Q) := wp_if rfl rfl rfl
theorem s109_189 : WP 109 lv 189 [a0, a1, a2, a3, a4, vI x, a6, a7] S h Q ↔ WP 109 lv 191 [a0, a1, a2, a3, a4, vI x, a6, a7] (vI x :: S) h Q := wp_iload rfl rfl
theorem s109_191 : WP 109 lv 191 L S h Q ↔ WP 109 lv 192 L (vI 0 :: S) h Q := wp_pl rfl rfl rfl
theorem s109_192 : WP 109 lv 192 L (vI y :: vI x :: vA (some a) :: S) h Q ↔ (((hk h a).1 = 1 ∧ (0 ≤ x ∧ x < ((hk h a).2 : Int)) ∧ zNC ≤ a) ∧ WP 109 lv 193 L S (hput h a x.toNat (vI y)) Q) := wp_if rfl rfl rfl
theorem s109_193 : WP 109 lv 193 L S h Q ↔ WP 109 lv 194 L (vI 0 :: S) h Q := wp_pl rfl rfl rfl
theorem s109_194 : WP 109 lv 194 L [vI x] h Q ↔ ((x = 0 ∨ x = 1) ∧ Q (.inl (some (vI x))) h) := wp_iret rfl rfl
/-! RepeatFree$Pattern.fitsBy(LRepeatFree$Word;I[I)Z -/
theorem s110_0 : WP 110 0 0 [vA r, a1, a2, a3, a4, a5, a6] S h Q ↔ WP 110 0 1 [vA r, a1, a2, a3, a4, a5, a6] (vA r :: S) h Q := wp_aload rfl rfl
theorem s110_1 : WP 110 0 1 [a0, vA r, a2, a3, a4, a5, a6] S h Q ↔ WP 110 0 2 [a0, vA r, a2, a3, a4, a5, a6] (vA r :: S) h Q := wp_aload rfl rfl
theorem s110_2 : WP 110 0 2 L (vA r :: vA (some a) :: S) h Q ↔ ((zNC ≤ a ∧ zhas 25 (hk h a) = true) ∧ WP 110 0 5 L S (hput h a 25 (vA r)) Q) := wp_put3 rfl rfl
theorem s110_5 : WP 110 0 5 [a0, a1, vI x, a3, a4, a5, a6] S h Q ↔ WP 110 0 6 [a0, a1, vI x, a3, a4, a5, a6] (vI x :: S) h Q := wp_iload rfl rfl
theorem s110_6 : WP 110 0 6 [a0, a1, a2, a3, a4, a5, a6] (vI x :: S) h Q ↔ WP 110 0 8 [a0, a1, a2, a3, vI x, a5, a6] S h Q := wp_istore rfl rfl rfl
theorem s110_8 : WP 110 0 8 L S h Q ↔ WP 110 0 9 L (vI 0 :: S) h Q := wp_pl rfl rfl rfl
theorem s110_9 : WP 110 0 9 [a0, a1, a2, a3, a4, a5, a6] (vI x :: S) h Q ↔ WP 110 0 11 [a0, a1, a2, a3, a4, vI x, a6] S h Q := wp_istore rfl rfl rfl
theorem s110_11 : WP 110 0 11 [a0, a1, a2, a3, a4, vI x, a6] S h Q ↔ WP 110 0 13 [a0, a1, a2, a3, a4, vI x, a6] (vI x :: S) h Q := wp_iload rfl rfl
theorem s110_13 : WP 110 0 13 L S h Q ↔ WP 110 0 14 L (vI 3 :: S) h Q := wp_pl rfl rfl rfl
theorem s110_14 : WP 110 0 14 L (vI y :: vI x :: S) h Q ↔ zif (x < y) (WP 110 0 17 L S h Q) (WP 110 0 31 L S h Q) := wp_bN zc_lt rfl rfl rfl
theorem s110_17 : WP 110 0 17 [vA r, a1, a2, a3, a4, a5, a6] S h Q ↔ WP 110 0 18 [vA r, a1, a2, a3, a4, a5, a6] (vA r :: S) h Q := wp_aload rfl rfl
theorem s110_18 : WP 110 0 18 L (vA (some a) :: S) h Q ↔ (zhas 24 (hk h a) = true ∧ WP 110 0 21 L (hm h a 24 :: S) h Q) := wp_if rfl rfl rfl
theorem s110_21 : WP 110 0 21 [a0, a1, a2, a3, a4, vI x, a6] S h Q ↔ WP 110 0 23 [a0, a1, a2, a3, a4, vI x, a6] (vI x :: S) h Q := wp_iload rfl rfl
theorem s110_23 : WP 110 0 23 L S h Q ↔ WP 110 0 24 L (vI (-1) :: S) h Q := wp_pl rfl rfl rfl
theorem s110_24 : WP 110 0 24 L (vI y :: vI x :: vA (some a) :: S) h Q ↔ (((hk h a).1 = 1 ∧ (0 ≤ x ∧ x < ((hk h a).2 : Int)) ∧ zNC ≤ a) ∧ WP 110 0 25 L S (hput h a x.toNat (vI y)) Q) := wp_if rfl rfl rfl
theorem s110_25 : WP 110 0 25 [a0, a1, a2, a3, a4, vI x, a6] S h Q ↔ WP 110 0 28 [a0, a1, a2, a3, a4, vI (wr (x + 1)), a6] S h Q := wp_iinc rfl rfl rfl
theorem s110_28 : WP 110 0 28 L S h Q ↔ WP 110 0 11 L S h Q := wp_pl rfl rfl rfl
theorem s110_31 : WP 110 0 31 L S h Q ↔ WP 110 0 32 L (vI 0 :: S) h Q := wp_pl rfl rfl rfl
theorem s110_32 : WP 110 0 32 [a0, a1, a2, a3, a4, a5, a6] (vI x :: S) h Q ↔ WP 110 0 34 [a0, a1, a2, a3, a4, vI x, a6] S h Q := wp_istore rfl rfl rfl
theorem s110_34 : WP 110 0 34 [a0, a1, a2, a3, a4, vI x, a6] S h Q ↔ WP 110 0 36 [a0, a1, a2, a3, a4, vI x, a6] (vI x :: S) h Q := wp_iload rfl rfl
theorem s110_36 : WP 110 0 36 [vA r, a1, a2, a3, a4, a5, a6] S h Q ↔ WP 110 0 37 [vA r, a1, a2, a3, a4, a5, a6] (vA r :: S) h Q := wp_aload rfl rfl
theorem s110_37 : WP 110 0 37 L (vA (some a) :: S) h Q ↔ (zhas 21 (hk h a) = true ∧ WP 110 0 40 L (hm h a 21 :: S) h Q) := wp_if rfl rfl rfl
theorem s110_40 : WP 110 0 40 L (vA (some a) :: S) h Q ↔ ((hk h a).1 = 117 ∧ (zw S ≤ 8 ∧ WP 323 0 0 [vA (some a)] [] h (zret 110 0 40 43 L S Q))) := wp_V1 (c := 117) rfl rfl (fun _ => rfl) rfl rfl (zcan_of rfl rfl) rfl rfl rfl
theorem s110_43 : WP 110 0 43 L (vI y :: vI x :: S) h Q ↔ zif (x < y) (WP 110 0 46 L S h Q) (WP 110 0 136 L S h Q) := wp_bN zc_lt rfl rfl rfl
theorem s110_46 : WP 110 0 46 [vA r, a1, a2, a3, a4, a5, a6] S h Q ↔ WP 110 0 47 [vA r, a1, a2, a3, a4, a5, a6] (vA r :: S) h Q := wp_aload rfl rfl
theorem s110_47 : WP 110 0 47 L (vA (some a) :: S) h Q ↔ (zhas 21 (hk h a) = true ∧ WP 110 0 50 L (hm h a 21 :: S) h Q) := wp_if rfl rfl rfl
theorem s110_50 : WP 110 0 50 [a0, a1, a2, a3, a4, vI x, a6] S h Q ↔ WP 110 0 52 [a0, a1, a2, a3, a4, vI x, a6] (vI x :: S) h Q := wp_iload rfl rfl
theorem s110_52 : WP 110 0 52 L (vI x0 :: vA (some a) :: S) h Q ↔ ((hk h a).1 = 117 ∧ (zw S ≤ 8 ∧ WP 310 0 0 [vA (some a), vI x0] [] h (zret 110 0 52 55 L S Q))) := wp_V1 (c := 117) rfl rfl (fun _ => rfl) rfl rfl (zcan_of rfl rfl) rfl rfl rfl
theorem s110_55 : WP 110 0 55 L S h Q ↔ WP 110 0 57 L (vI 120 :: S) h Q := wp_pl rfl rfl rfl
theorem s110_57 : WP 110 0 57 L (vI y :: vI x :: S) h Q ↔ WP 110 0 58 L (vI (wr (x - y)) :: S) h Q := wp_pl rfl rfl rfl
theorem s110_58 : WP 110 0 58 [a0, a1, a2, a3, a4, a5, a6] (vI x :: S) h Q ↔ WP 110 0 60 [a0, a1, a2, a3, a4, a5, vI x] S h Q := wp_istore rfl rfl rfl
theorem s110_60 : WP 110 0 60 [a0, a1, a2, a3, vI x, a5, a6] S h Q ↔ WP 110 0 62 [a0, a1, a2, a3, vI x, a5, a6] (vI x :: S) h Q := wp_iload rfl rfl
theorem s110_62 : WP 110 0 62 [a0, a1, a2, vA r, a4, a5, a6] S h Q ↔ WP 110 0 63 [a0, a1, a2, vA r, a4, a5, a6] (vA r :: S) h Q := wp_aload rfl rfl
theorem s110_63 : WP 110 0 63 [a0, a1, a2, a3, a4, a5, vI x] S h Q ↔ WP 110 0 65 [a0, a1, a2, a3, a4, a5, vI x] (vI x :: S) h Q := wp_iload rfl rfl
theorem s110_65 : WP 110 0 65 L (vI x :: vA (some a) :: S) h Q ↔ (((hk h a).1 = 1 ∧ 0 ≤ x ∧ x < ((hk h a).2 : Int)) ∧ WP 110 0 66 L (hm h a x.toNat :: S) h Q) := wp_if rfl rfl rfl
theorem s110_66 : WP 110 0 66 L (vI y :: vI x :: S) h Q ↔ WP 110 0 67 L (vI (wr (x + y)) :: S) h Q := wp_pl rfl rfl rfl
theorem s110_67 : WP 110 0 67 [a0, vA r, a2, a3, a4, a5, a6] S h Q ↔ WP 110 0 68 [a0, vA r, a2, a3, a4, a5, a6] (vA r :: S) h Q := wp_aload rfl rfl
theorem s110_68 : WP 110 0 68 L (vA (some a) :: S) h Q ↔ (zhas 15 (hk h a) = true ∧ WP 110 0 71 L (hm h a 15 :: S) h Q) := wp_if rfl rfl rfl
theorem s110_71 : WP 110 0 71 L (vI y :: vI x :: S) h Q ↔ zif (y < x) (WP 110 0 74 L S h Q) (WP 110 0 76 L S h Q) := wp_bN zc_gt rfl rfl rfl
theorem s110_74 : WP 110 0 74 L S h Q ↔ WP 110 0 75 L (vI 0 :: S) h Q := wp_pl rfl rfl rfl
theorem s110_75 : WP 110 0 75 L [vI x] h Q ↔ ((x = 0 ∨ x = 1) ∧ Q (.inl (some (vI x))) h) := wp_iret rfl rfl
theorem s110_76 : WP 110 0 76 [vA r, a1, a2, a3, a4, a5, a6] S h Q ↔ WP 110 0 77 [vA r, a1, a2, a3, a4, a5, a6] (vA r :: S) h Q := wp_aload rfl rfl
theorem s110_77 : WP 110 0 77 L (vA (some a) :: S) h Q ↔ (zhas 24 (hk h a) = true ∧ WP 110 0 80 L (hm h a 24 :: S) h Q) := wp_if rfl rfl rfl
theorem s110_80 : WP 110 0 80 [a0, a1, a2, a3, a4, a5, vI x] S h Q ↔ WP 110 0 82 [a0, a1, a2, a3, a4, a5, vI x] (vI x :: S) h Q := wp_iload rfl rfl
theorem s110_82 : WP 110 0 82 L (vI x :: vA (some a) :: S) h Q ↔ (((hk h a).1 = 1 ∧ 0 ≤ x ∧ x < ((hk h a).2 : Int)) ∧ WP 110 0 83 L (hm h a x.toNat :: S) h Q) := wp_if rfl rfl rfl
theorem s110_83 : WP 110 0 83 L S h Q ↔ WP 110 0 84 L (vI (-1) :: S) h Q := wp_pl rfl rfl rfl
theorem s110_84 : WP 110 0 84 L (vI y :: vI x :: S) h Q ↔ zif (x = y) (WP 110 0 87 L S h Q) (WP 110 0 99 L S h Q) := wp_bN zc_eq rfl rfl rfl
theorem s110_87 : WP 110 0 87 [vA r, a1, a2, a3, a4, a5, a6] S h Q ↔ WP 110 0 88 [vA r, a1, a2, a3, a4, a5, a6] (vA r :: S) h Q := wp_aload rfl rfl
theorem s110_88 : WP 110 0 88 L (vA (some a) :: S) h Q ↔ (zhas 24 (hk h a) = true ∧ WP 110 0 91 L (hm h a 24 :: S) h Q) := wp_if rfl rfl rfl
theorem s110_91 : WP 110 0 91 [a0, a1, a2, a3, a4, a5, vI x] S h Q ↔ WP 110 0 93 [a0, a1, a2, a3, a4, a5, vI x] (vI x :: S) h Q := wp_iload rfl rfl
theorem s110_93 : WP 110 0 93 [a0, a1, a2, a3, vI x, a5, a6] S h Q ↔ WP 110 0 95 [a0, a1, a2, a3, vI x, a5, a6] (vI x :: S) h Q := wp_iload rfl rfl
theorem s110_95 : WP 110 0 95 L (vI y :: vI x :: vA (some a) :: S) h Q ↔ (((hk h a).1 = 1 ∧ (0 ≤ x ∧ x < ((hk h a).2 : Int)) ∧ zNC ≤ a) ∧ WP 110 0 96 L S (hput h a x.toNat (vI y)) Q) := wp_if rfl rfl rfl
theorem s110_96 : WP 110 0 96 L S h Q ↔ WP 110 0 121 L S h Q := wp_pl rfl rfl rfl
theorem s110_99 : WP 110 0 99 [a0, vA r, a2, a3, a4, a5, a6] S h Q ↔ WP 110 0 100 [a0, vA r, a2, a3, a4, a5, a6] (vA r :: S) h Q := wp_aload rfl rfl
theorem s110_100 : WP 110 0 100 [vA r, a1, a2, a3, a4, a5, a6] S h Q ↔ WP 110 0 101 [vA r, a1, a2, a3, a4, a5, a6] (vA r :: S) h Q := wp_aload rfl rfl
theorem s110_101 : WP 110 0 101 L (vA (some a) :: S) h Q ↔ (zhas 24 (hk h a) = true ∧ WP 110 0 104 L (hm h a 24 :: S) h Q) := wp_if rfl rfl rfl
theorem s110_104 : WP 110 0 104 [a0, a1, a2, a3, a4, a5, vI x] S h Q ↔ WP 110 0 106 [a0, a1, a2, a3, a4, a5, vI x] (vI x :: S) h Q := wp_iload rfl rfl
theorem s110_106 : WP 110 0 106 L (vI x :: vA (some a) :: S) h Q ↔ (((hk h a).1 = 1 ∧ 0 ≤ x ∧ x < ((hk h a).2 : Int)) ∧ WP 110 0 107 L (hm h a x.toNat :: S) h Q) := wp_if rfl rfl rfl
theorem s110_107 : WP 110 0 107 [a0, a1, a2, a3, vI x, a5, a6] S h Q ↔ WP 110 0 109 [a0, a1, a2, a3, vI x, a5, a6] (vI x :: S) h Q := wp_iload rfl rfl
theorem s110_109 : WP 110 0 109 [a0, a1, a2, vA r, a4, a5, a6] S h Q ↔ WP 110 0 110 [a0, a1, a2, vA r, a4, a5, a6] (vA r :: S) h Q := wp_aload rfl rfl
theorem s110_110 : WP 110 0 110 [a0, a1, a2, a3, a4, a5, vI x] S h Q ↔ WP 110 0 112 [a0, a1, a2, a3, a4, a5, vI x] (vI x :: S) h Q := wp_iload rfl rfl
theorem s110_112 : WP 110 0 112 L (vI x :: vA (some a) :: S) h Q ↔ (((hk h a).1 = 1 ∧ 0 ≤ x ∧ x < ((hk h a).2 : Int)) ∧ WP 110 0 113 L (hm h a x.toNat :: S) h Q) := wp_if rfl rfl rfl
theorem s110_113 : WP 110 0 113 L (vI x2 :: vI x1 :: vI x0 :: vA (some a) :: S) h Q ↔ ((hk h a).1 = 102 ∧ (zw S ≤ 8 ∧ WP 101 0 0 [vA (some a), vI x0, vI x1, vI x2, vJ] [] h (zret 110 0 113 116 L S Q))) := wp_V1 (c := 102) rfl rfl (fun _ => rfl) rfl rfl (zcan_of rfl rfl) rfl rfl rfl
theorem s110_116 : WP 110 0 116 L (vI x :: S) h Q ↔ zif (x = 0) (WP 110 0 119 L S h Q) (WP 110 0 121 L S h Q) := wp_bN zc_eq rfl rfl rfl
theorem s110_119 : WP 110 0 119 L S h Q ↔ WP 110 0 120 L (vI 0 :: S) h Q := wp_pl rfl rfl rfl
theorem s110_120 : WP 110 0 120 L [vI x] h Q ↔ ((x = 0 ∨ x = 1) ∧ Q (.inl (some (vI x))) h) := wp_iret rfl rfl
theorem s110_121 : WP 110 0 121 [a0, a1, a2, a3, vI x, a5, a6] S h Q ↔ WP 110 0 123 [a0, a1, a2, a3, vI x, a5, a6] (vI x :: S) h Q := wp_iload rfl rfl
theorem s110_123 : WP 110 0 123 [a0, a1, a2, vA r, a4, a5, a6] S h Q ↔ WP 110 0 124 [a0, a1, a2, vA r, a4, a5, a6] (vA r :: S) h Q := wp_aload rfl rfl
theorem s110_124 : WP 110 0 124 [a0, a1, a2, a3, a4, a5, vI x] S h Q ↔ WP 110 0 126 [a0, a1, a2, a3, a4, a5, vI x] (vI x :: S) h Q := wp_iload rfl rfl
theorem s110_126 : WP 110 0 126 L (vI x :: vA (some a) :: S) h Q ↔ (((hk h a).1 = 1 ∧ 0 ≤ x ∧ x < ((hk h a).2 : Int)) ∧ WP 110 0 127 L (hm h a x.toNat :: S) h Q) := wp_if rfl rfl rfl
theorem s110_127 : WP 110 0 127 L (vI y :: vI x :: S) h Q ↔ WP 110 0 128 L (vI (wr (x + y)) :: S) h Q := wp_pl rfl rfl rfl
theorem s110_128 : WP 110 0 128 [a0, a1, a2, a3, a4, a5, a6] (vI x :: S) h Q ↔ WP 110 0 130 [a0, a1, a2, a3, vI x, a5, a6] S h Q := wp_istore rfl rfl rfl
theorem s110_130 : WP 110 0 130 [a0, a1, a2, a3, a4, vI x, a6] S h Q ↔ WP 110 0 133 [a0, a1, a2, a3, a4, vI (wr (x + 1)), a6] S h Q := wp_iinc rfl rfl rfl
theorem s110_133 : WP 110 0 133 L S h Q ↔ WP 110 0 34 L S h Q := wp_pl rfl rfl rfl
theorem s110_136 : WP 110 0 136 L S h Q ↔ WP 110 0 137 L (vI 1 :: S) h Q := wp_pl rfl rfl rfl
theorem s110_137 : WP 110 0 137 L [vI x] h Q ↔ ((x = 0 ∨ x = 1) ∧ Q (.inl (some (vI x))) h) := wp_iret rfl rfl
/-! RepeatFree$Pattern.<init>(Ljava/lang/String;Ljava/lang/String;)V -/
theorem s111_0 : WP 111 0 0 [vA r, a1, a2] S h Q ↔ WP 111 0 1 [vA r, a1, a2] (vA r :: S) h Q := wp_aload rfl rfl
theorem s111_1 : WP 111 0 1 [a0, vA r, a2] S h Q ↔ WP 111 0 2 [a0, vA r, a2] (vA r :: S) h Q := wp_aload rfl rfl
theorem s111_2 : WP 111 0 2 L (vA r0 :: vA (some a) :: S) h Q ↔ ((zNC ≤ a ∧ 100 ≤ (hk h a).1) ∧ zw S ≤ 8 ∧ WP 334 0 0 [vA (some a), vA r0] [] h (zret 111 0 2 5 L S Q)) := wp_I rfl rfl rfl (zcan_of rfl rfl) rfl rfl rfl
theorem s111_5 : WP 111 0 5 [vA r, a1, a2] S h Q ↔ WP 111 0 6 [vA r, a1, a2] (vA r :: S) h Q := wp_aload rfl rfl
theorem s111_6 : WP 111 0 6 L S h Q ↔ WP 111 0 7 L (vI 3 :: S) h Q := wp_pl rfl rfl rfl
theorem s111_7 : WP 111 0 7 L (vI x :: S) h Q ↔ ((0 ≤ x ∧ x ≤ 1000000) ∧ WP 111 0 9 L (vA (some (hn h)) :: S) (hnew h (1, x.toNat) x.toNat (fun _ => vI 0)) Q) := wp_if rfl rfl rfl
theorem s111_9 : WP 111 0 9 L (vA r :: vA (some a) :: S) h Q ↔ ((zNC ≤ a ∧ zhas 23 (hk h a) = true) ∧ WP 111 0 12 L S (hput h a 23 (vA r)) Q) := wp_put3 rfl rfl
theorem s111_12 : WP 111 0 12 [vA r, a1, a2] S h Q ↔ WP 111 0 13 [vA r, a1, a2] (vA r :: S) h Q := wp_aload rfl rfl
theorem s111_13 : WP 111 0 13 L S h Q ↔ WP 111 0 14 L (vI 3 :: S) h Q := wp_pl rfl rfl rfl
theorem s111_14 : WP 111 0 14 L (vI x :: S) h Q ↔ ((0 ≤ x ∧ x ≤ 1000000) ∧ WP 111 0 16 L (vA (some (hn h)) :: S) (hnew h (1, x.toNat) x.toNat (fun _ => vI 0)) Q) := wp_if rfl rfl rfl
theorem s111_16 : WP 111 0 16 L (vA r :: vA (some a) :: S) h Q ↔ ((zNC ≤ a ∧ zhas 24 (hk h a) = true) ∧ WP 111 0 19 L S (hput h a 24 (vA r)) Q) := wp_put3 rfl rfl
theorem s111_19 : WP 111 0 19 [vA r, a1, a2] S h Q ↔ WP 111 0 20 [vA r, a1, a2] (vA r :: S) h Q := wp_aload rfl rfl
theorem s111_20 : WP 111 0 20 [a0, a1, vA r] S h Q ↔ WP 111 0 21 [a0, a1, vA r] (vA r :: S) h Q := wp_aload rfl rfl
theorem s111_21 : WP 111 0 21 L (vA r :: vA (some a) :: S) h Q ↔ ((zNC ≤ a ∧ zhas 21 (hk h a) = true) ∧ WP 111 0 24 L S (hput h a 21 (vA r)) Q) := wp_put3 rfl rfl
theorem s111_24 : WP 111 0 24 L [] h Q ↔ Q (.inl none) h := wp_ret rfl
/-! RepeatFree$Pattern.isAtEnd(LRepeatFree$Word;)Z -/
theorem s112_0 : WP 112 0 0 [a0, vA r, a2] S h Q ↔ WP 112 0 1 [a0, vA r, a2] (vA r :: S) h Q := wp_aload rfl rfl
theorem s112_1 : WP 112 0 1 L (vA (some a) :: S) h Q ↔ (zhas 15 (hk h a) = true ∧ WP 112 0 4 L (hm h a 15 :: S) h Q) := wp_if rfl rfl rfl
theorem s112_4 : WP 112 0 4 [vA r, a1, a2] S h Q ↔ WP 112 0 5 [vA r, a1, a2] (vA r :: S) h Q := wp_aload rfl rfl
theorem s112_5 : WP 112 0 5 L (vA (some a) :: S) h Q ↔ (zhas 21 (hk h a) = true ∧ WP 112 0 8 L (hm h a 21 :: S) h Q) := wp_if rfl rfl rfl
theorem s112_8 : WP 112 0 8 L (vA (some a) :: S) h Q ↔ ((hk h a).1 = 117 ∧ (zw S ≤ 8 ∧ WP 323 0 0 [vA (some a)] [] h (zret 112 0 8 11 L S Q))) := wp_V1 (c := 117) rfl rfl (fun _ => rfl) rfl rfl (zcan_of rfl rfl) rfl rfl rfl
theorem s112_11 : WP 112 0 11 L (vI y :: vI x :: S) h Q ↔ WP 112 0 12 L (vI (wr (x - y)) :: S) h Q := wp_pl rfl rfl rfl
theorem s112_12 : WP 112 0 12 [a0, a1, a2] (vI x :: S) h Q ↔ WP 112 0 13 [a0, a1, vI x] S h Q := wp_istore rfl rfl rfl
theorem s112_13 : WP 112 0 13 [a0, a1, vI x] S h Q ↔ WP 112 0 14 [a0, a1, vI x] (vI x :: S) h Q := wp_iload rfl rfl
theorem s112_14 : WP 112 0 14 L (vI x :: S) h Q ↔ zif (x < 0) (WP 112 0 38 L S h Q) (WP 112 0 17 L S h Q) := wp_bE zc_lt rfl rfl rfl
theorem s112_17 : WP 112 0 17 [vA r, a1, a2] S h Q ↔ WP 112 0 18 [vA r, a1, a2] (vA r :: S) h Q := wp_aload rfl rfl
theorem s112_18 : WP 112 0 18 [a0, vA r, a2] S h Q ↔ WP 112 0 19 [a0, vA r, a2] (vA r :: S) h Q := wp_aload rfl rfl
theorem s112_19 : WP 112 0 19 [a0, a1, vI x] S h Q ↔ WP 112 0 20 [a0, a1, vI x] (vI x :: S) h Q := wp_iload rfl rfl
theorem s112_20 : WP 112 0 20 [a0, vA r, a2] S h Q ↔ WP 112 0 21 [a0, vA r, a2] (vA r :: S) h Q := wp_aload rfl rfl
theorem s112_21 : WP 112 0 21 L (vA (some a) :: S) h Q ↔ (zhas 15 (hk h a) = true ∧ WP 112 0 24 L (hm h a 15 :: S) h Q) := wp_if rfl rfl rfl
theorem s112_24 : WP 112 0 24 L (vI x2 :: vI x1 :: vA r0 :: vA (some a) :: S) h Q ↔ ((hk h a).1 = 105 ∧ (zw S ≤ 8 ∧ WP 107 0 0 [vA (some a), vA r0, vI x1, vI x2, vJ] [] h (zret 112 0 24 27 L S Q))) := wp_V1 (c := 105) rfl rfl (fun _ => rfl) rfl rfl (zcan_of rfl rfl) rfl rfl rfl
theorem s112_27 : WP 112 0 27 L (vI x :: S) h Q ↔ zif (x = 0) (WP 112 0 32 L S h Q) (WP 112 0 30 L S h Q) := wp_bE zc_eq rfl rfl rfl
theorem s112_30 : WP 112 0 30 L S h Q ↔ WP 112 0 31 L (vI 1 :: S) h Q := wp_pl rfl rfl rfl
theorem s112_31 : WP 112 0 31 L [vI x] h Q ↔ ((x = 0 ∨ x = 1) ∧ Q (.inl (some (vI x))) h) := wp_iret rfl rfl
theorem s112_32 : WP 112 0 32 [a0, a1, vI x] S h Q ↔ WP 112 0 35 [a0, a1, vI (wr (x + (-1)))] S h Q := wp_iinc rfl rfl rfl
theorem s112_35 : WP 112 0 35 L S h Q ↔ WP 112 0 13 L S h Q := wp_pl rfl rfl rfl
theorem s112_38 : WP 112 0 38 L S h Q ↔ WP 112 0 39 L (vI 0 :: S) h Q := wp_pl rfl rfl rfl
theorem s112_39 : WP 112 0 39 L [vI x] h Q ↔ ((x = 0 ∨ x = 1) ∧ Q (.inl (some (vI x))) h) := wp_iret rfl rfl
/-! RepeatFree$Pattern.letters()I -/
theorem s113_0 : WP 113 0 0 L S h Q ↔ WP 113 0 1 L (vI 0 :: S) h Q := wp_pl rfl rfl rfl
theorem s113_1 : WP 113 0 1 [a0, a1, a2] (vI x :: S) h Q ↔ WP 113 0 2 [a0, vI x, a2] S h Q := wp_istore rfl rfl rfl
theorem s113_2 : WP 113 0 2 L S h Q ↔ WP 113 0 3 L (vI 0 :: S) h Q := wp_pl rfl rfl rfl
theorem s113_3 : WP 113 0 3 [a0, a1, a2] (vI x :: S) h Q ↔ WP 113 0 4 [a0, a1, vI x] S h Q := wp_istore rfl rfl rfl
theorem s113_4 : WP 113 0 4 [a0, a1, vI x] S h Q ↔ WP 113 0 5 [a0, a1, vI x] (vI x :: S) h Q := wp_iload rfl rfl
theorem s113_5 : WP 113 0 5 [vA r, a1, a2] S h Q ↔ WP 113 0 6 [vA r, a1, a2] (vA r :: S) h Q := wp_aload rfl rfl
theorem s113_6 : WP 113 0 6 L (vA (some a) :: S) h Q ↔ (zhas 21 (hk h a) = true ∧ WP 113 0 9 L (hm h a 21 :: S) h Q) := wp_if rfl rfl rfl
theorem s113_9 : WP 113 0 9 L (vA (some a) :: S) h Q ↔ ((hk h a).1 = 117 ∧ (zw S ≤ 8 ∧ WP 323 0 0 [vA (some a)] [] h (zret 113 0 9 12 L S Q))) := wp_V1 (c := 117) rfl rfl (fun _ => rfl) rfl rfl (zcan_of rfl rfl) rfl rfl rfl
theorem s113_12 : WP 113 0 12 L (vI y :: vI x :: S) h Q ↔ zif (x < y) (WP 113 0 15 L S h Q) (WP 113 0 37 L S h Q) := wp_bN zc_lt rfl rfl rfl
theorem s113_15 : WP 113 0 15 [a0, vI x, a2] S h Q ↔ WP 113 0 16 [a0, vI x, a2] (vI x :: S) h Q := wp_iload rfl rfl
theorem s113_16 : WP 113 0 16 L S h Q ↔ WP 113 0 17 L (vI 1 :: S) h Q := wp_pl rfl rfl rfl
theorem s113_17 : WP 113 0 17 [vA r, a1, a2] S h Q ↔ WP 113 0 18 [vA r, a1, a2] (vA r :: S) h Q := wp_aload rfl rfl
theorem s113_18 : WP 113 0 18 L (vA (some a) :: S) h Q ↔ (zhas 21 (hk h a) = true ∧ WP 113 0 21 L (hm h a 21 :: S) h Q) := wp_if rfl rfl rfl
theorem s113_21 : WP 113 0 21 [a0, a1, vI x] S h Q ↔ WP 113 0 22 [a0, a1, vI x] (vI x :: S) h Q := wp_iload rfl rfl
theorem s113_22 : WP 113 0 22 L (vI x0 :: vA (some a) :: S) h Q ↔ ((hk h a).1 = 117 ∧ (zw S ≤ 8 ∧ WP 310 0 0 [vA (some a), vI x0] [] h (zret 113 0 22 25 L S Q))) := wp_V1 (c := 117) rfl rfl (fun _ => rfl) rfl rfl (zcan_of rfl rfl) rfl rfl rfl
theorem s113_25 : WP 113 0 25 L S h Q ↔ WP 113 0 27 L (vI 120 :: S) h Q := wp_pl rfl rfl rfl
theorem s113_27 : WP 113 0 27 L (vI y :: vI x :: S) h Q ↔ WP 113 0 28 L (vI (wr (x - y)) :: S) h Q := wp_pl rfl rfl rfl
theorem s113_28 : WP 113 0 28 L (vI y :: vI x :: S) h Q ↔ WP 113 0 29 L (vI (zshl x y) :: S) h Q := wp_pl rfl rfl rfl
theorem s113_29 : WP 113 0 29 L (vI y :: vI x :: S) h Q ↔ WP 113 0 30 L (vI (zor x y) :: S) h Q := wp_pl rfl rfl rfl
theorem s113_30 : WP 113 0 30 [a0, a1, a2] (vI x :: S) h Q ↔ WP 113 0 31 [a0, vI x, a2] S h Q := wp_istore rfl rfl rfl
theorem s113_31 : WP 113 0 31 [a0, a1, vI x] S h Q ↔ WP 113 0 34 [a0, a1, vI (wr (x + 1))] S h Q := wp_iinc rfl rfl rfl
theorem s113_34 : WP 113 0 34 L S h Q ↔ WP 113 0 4 L S h Q := wp_pl rfl rfl rfl
theorem s113_37 : WP 113 0 37 [a0, vI x, a2] S h Q ↔ WP 113 0 38 [a0, vI x, a2] (vI x :: S) h Q := wp_iload rfl rfl
theorem s113_38 : WP 113 0 38 L [vI x] h Q ↔ Q (.inl (some (vI x))) h := wp_iret0 rfl rfl
/-! RepeatFree$Pattern.sizesIn(LRepeatFree$Word;I)[I -/
theorem s114_0 : WP 114 0 0 [vA r, a1, a2, a3, a4, a5, a6, a7] S h Q ↔ WP 114 0 1 [vA r, a1, a2, a3, a4, a5, a6, a7] (vA r :: S) h Q := wp_aload rfl rfl
theorem s114_1 : WP 114 0 1 L (vA (some a) :: S) h Q ↔ ((hk h a).1 = 105 ∧ (zw S ≤ 8 ∧ WP 113 0 0 [vA (some a), vJ, vJ] [] h (zret 114 0 1 4 L S Q))) := wp_V1 (c := 105) rfl rfl (fun _ => rfl) rfl rfl (zcan_of rfl rfl) rfl rfl rfl
theorem s114_4 : WP 114 0 4 [a0, a1, a2, a3, a4, a5, a6, a7] (vI x :: S) h Q ↔ WP 114 0 5 [a0, a1, a2, vI x, a4, a5, a6, a7] S h Q := wp_istore rfl rfl rfl
theorem s114_5 : WP 114 0 5 L S h Q ↔ WP 114 0 6 L (vI 3 :: S) h Q := wp_pl rfl rfl rfl
theorem s114_6 : WP 114 0 6 L (vI x :: S) h Q ↔ ((0 ≤ x ∧ x ≤ 1000000) ∧ WP 114 0 8 L (vA (some (hn h)) :: S) (hnew h (1, x.toNat) x.toNat (fun _ => vI 0)) Q) := wp_if rfl rfl rfl
theorem s114_8 : WP 114 0 8 [a0, a1, a2, a3, a4, a5, a6, a7] (vA r :: S) h Q ↔ WP 114 0 10 [a0, a1, a2, a3, vA r, a5, a6, a7] S h Q := wp_astore rfl rfl rfl
theorem s114_10 : WP 114 0 10 [a0, a1, a2, vI x, a4, a5, a6, a7] S h Q ↔ WP 114 0 11 [a0, a1, a2, vI x, a4, a5, a6, a7] (vI x :: S) h Q := wp_iload rfl rfl
theorem s114_11 : WP 114 0 11 L S h Q ↔ WP 114 0 12 L (vI 0 :: S) h Q := wp_pl rfl rfl rfl
theorem s114_12 : WP 114 0 12 L (vI x1 :: vI x0 :: S) h Q ↔ (zw S ≤ 8 ∧ WP 30 0 0 [vI x0, vI x1] [] h (zret 114 0 12 15 L S Q)) := wp_S rfl rfl (zcan_of rfl rfl) rfl rfl rfl
theorem s114_15 : WP 114 0 15 L (vI x :: S) h Q ↔ zif (x = 0) (WP 114 0 22 L S h Q) (WP 114 0 18 L S h Q) := wp_bE zc_eq rfl rfl rfl
theorem s114_18 : WP 114 0 18 L S h Q ↔ WP 114 0 19 L (vI 1 :: S) h Q := wp_pl rfl rfl rfl
theorem s114_19 : WP 114 0 19 L S h Q ↔ WP 114 0 23 L S h Q := wp_pl rfl rfl rfl
theorem s114_22 : WP 114 0 22 L S h Q ↔ WP 114 0 23 L (vI 0 :: S) h Q := wp_pl rfl rfl rfl
theorem s114_23 : WP 114 0 23 [a0, a1, a2, a3, a4, a5, a6, a7] (vI x :: S) h Q ↔ WP 114 0 25 [a0, a1, a2, a3, a4, vI x, a6, a7] S h Q := wp_istore rfl rfl rfl
theorem s114_25 : WP 114 0 25 [a0, a1, a2, a3, a4, vI x, a6, a7] S h Q ↔ WP 114 0 27 [a0, a1, a2, a3, a4, vI x, a6, a7] (vI x :: S) h Q := wp_iload rfl rfl
theorem s114_27 : WP 114 0 27 [a0, a1, a2, vI x, a4, a5, a6, a7] S h Q ↔ WP 114 0 28 [a0, a1, a2, vI x, a4, a5, a6, a7] (vI x :: S) h Q := wp_iload rfl rfl
theorem s114_28 : WP 114 0 28 L S h Q ↔ WP 114 0 29 L (vI 0 :: S) h Q := wp_pl rfl rfl rfl
theorem s114_29 : WP 114 0 29 L (vI x1 :: vI x0 :: S) h Q ↔ (zw S ≤ 8 ∧ WP 30 0 0 [vI x0, vI x1] [] h (zret 114 0 29 32 L S Q)) := wp_S rfl rfl (zcan_of rfl rfl) rfl rfl rfl
theorem s114_32 : WP 114 0 32 L (vI x :: S) h Q ↔ zif (x = 0) (WP 114 0 42 L S h Q) (WP 114 0 35 L S h Q) := wp_bE zc_eq rfl rfl rfl
theorem s114_35 : WP 114 0 35 [a0, vA r, a2, a3, a4, a5, a6, a7] S h Q ↔ WP 114 0 36 [a0, vA r, a2, a3, a4, a5, a6, a7] (vA r :: S) h Q := wp_aload rfl rfl
theorem s114_36 : WP 114 0 36 L (vA (some a) :: S) h Q ↔ (zhas 15 (hk h a) = true ∧ WP 114 0 39 L (hm h a 15 :: S) h Q) := wp_if rfl rfl rfl
theorem s114_39 : WP 114 0 39 L S h Q ↔ WP 114 0 43 L S h Q := wp_pl rfl rfl rfl
theorem s114_42 : WP 114 0 42 L S h Q ↔ WP 114 0 43 L (vI 0 :: S) h Q := wp_pl rfl rfl rfl
theorem s114_43 : WP 114 0 43 L (vI y :: vI x :: S) h Q ↔ zif (y < x) (WP 114 0 168 L S h Q) (WP 114 0 46 L S h Q) := wp_bE zc_gt rfl rfl rfl
theorem s114_46 : WP 114 0 46 [a0, a1, a2, vI x, a4, a5, a6, a7] S h Q ↔ WP 114 0 47 [a0, a1, a2, vI x, a4, a5, a6, a7] (vI x :: S) h Q := wp_iload rfl rfl
theorem s114_47 : WP 114 0 47 L S h Q ↔ WP 114 0 48 L (vI 1 :: S) h Q := wp_pl rfl rfl rfl
theorem s114_48 : WP 114 0 48 L (vI x1 :: vI x0 :: S) h Q ↔ (zw S ≤ 8 ∧ WP 30 0 0 [vI x0, vI x1] [] h (zret 114 0 48 51 L S Q)) := wp_S rfl rfl (zcan_of rfl rfl) rfl rfl rfl
theorem s114_51 : WP 114 0 51 L (vI x :: S) h Q ↔ zif (x = 0) (WP 114 0 58 L S h Q) (WP 114 0 54 L S h Q) := wp_bE zc_eq rfl rfl rfl
theorem s114_54 : WP 114 0 54 L S h Q ↔ WP 114 0 55 L (vI 1 :: S) h Q := wp_pl rfl rfl rfl
theorem s114_55 : WP 114 0 55 L S h Q ↔ WP 114 0 59 L S h Q := wp_pl rfl rfl rfl
theorem s114_58 : WP 114 0 58 L S h Q ↔ WP 114 0 59 L (vI 0 :: S) h Q := wp_pl rfl rfl rfl
theorem s114_59 : WP 114 0 59 [a0, a1, a2, a3, a4, a5, a6, a7] (vI x :: S) h Q ↔ WP 114 0 61 [a0, a1, a2, a3, a4, a5, vI x, a7] S h Q := wp_istore rfl rfl rfl
theorem s114_61 : WP 114 0 61 [a0, a1, a2, a3, a4, a5, vI x, a7] S h Q ↔ WP 114 0 63 [a0, a1, a2, a3, a4, a5, vI x, a7] (vI x :: S) h Q := wp_iload rfl rfl
theorem s114_63 : WP 114 0 63 [a0, a1, a2, vI x, a4, a5, a6, a7] S h Q ↔ WP 114 0 64 [a0, a1, a2, vI x, a4, a5, a6, a7] (vI x :: S) h Q := wp_iload rfl rfl
theorem s114_64 : WP 114 0 64 L S h Q ↔ WP 114 0 65 L (vI 1 :: S) h Q := wp_pl rfl rfl rfl
theorem s114_65 : WP 114 0 65 L (vI x1 :: vI x0 :: S) h Q ↔ (zw S ≤ 8 ∧ WP 30 0 0 [vI x0, vI x1] [] h (zret 114 0 65 68 L S Q)) := wp_S rfl rfl (zcan_of rfl rfl) rfl rfl rfl
theorem s114_68 : WP 114 0 68 L (vI x :: S) h Q ↔ zif (x = 0) (WP 114 0 78 L S h Q) (WP 114 0 71 L S h Q) := wp_bE zc_eq rfl rfl rfl
theorem s114_71 : WP 114 0 71 [a0, vA r, a2, a3, a4, a5, a6, a7] S h Q ↔ WP 114 0 72 [a0, vA r, a2, a3, a4, a5, a6, a7] (vA r :: S) h Q := wp_aload rfl rfl
theorem s114_72 : WP 114 0 72 L (vA (some a) :: S) h Q ↔ (zhas 15 (hk h a) = true ∧ WP 114 0 75 L (hm h a 15 :: S) h Q) := wp_if rfl rfl rfl
theorem s114_75 : WP 114 0 75 L S h Q ↔ WP 114 0 79 L S h Q := wp_pl rfl rfl rfl
theorem s114_78 : WP 114 0 78 L S h Q ↔ WP 114 0 79 L (vI 0 :: S) h Q := wp_pl rfl rfl rfl
theorem s114_79 : WP 114 0 79 L (vI y :: vI x :: S) h Q ↔ zif (y < x) (WP 114 0 162 L S h Q) (WP 114 0 82 L S h Q) := wp_bE zc_gt rfl rfl rfl
theorem s114_82 : WP 114 0 82 [a0, a1, a2, vI x, a4, a5, a6, a7] S h Q ↔ WP 114 0 83 [a0, a1, a2, vI x, a4, a5, a6, a7] (vI x :: S) h Q := wp_iload rfl rfl
theorem s114_83 : WP 114 0 83 L S h Q ↔ WP 114 0 84 L (vI 2 :: S) h Q := wp_pl rfl rfl rfl
theorem s114_84 : WP 114 0 84 L (vI x1 :: vI x0 :: S) h Q ↔ (zw S ≤ 8 ∧ WP 30 0 0 [vI x0, vI x1] [] h (zret 114 0 84 87 L S Q)) := wp_S rfl rfl (zcan_of rfl rfl) rfl rfl rfl
theorem s114_87 : WP 114 0 87 L (vI x :: S) h Q ↔ zif (x = 0) (WP 114 0 94 L S h Q) (WP 114 0 90 L S h Q) := wp_bE zc_eq rfl rfl rfl
theorem s114_90 : WP 114 0 90 L S h Q ↔ WP 114 0 91 L (vI 1 :: S) h Q := wp_pl rfl rfl rfl
theorem s114_91 : WP 114 0 91 L S h Q ↔ WP 114 0 95 L S h Q := wp_pl rfl rfl rfl
theorem s114_94 : WP 114 0 94 L S h Q ↔ WP 114 0 95 L (vI 0 :: S) h Q := wp_pl rfl rfl rfl
theorem s114_95 : WP 114 0 95 [a0, a1, a2, a3, a4, a5, a6, a7] (vI x :: S) h Q ↔ WP 114 0 97 [a0, a1, a2, a3, a4, a5, a6, vI x] S h Q := wp_istore rfl rfl rfl
theorem s114_97 : WP 114 0 97 [a0, a1, a2, a3, a4, a5, a6, vI x] S h Q ↔ WP 114 0 99 [a0, a1, a2, a3, a4, a5, a6, vI x] (vI x :: S) h Q := wp_iload rfl rfl
theorem s114_99 : WP 114 0 99 [a0, a1, a2, vI x, a4, a5, a6, a7] S h Q ↔ WP 114 0 100 [a0, a1, a2, vI x, a4, a5, a6, a7] (vI x :: S) h Q := wp_iload rfl rfl
theorem s114_100 : WP 114 0 100 L S h Q ↔ WP 114 0 101 L (vI 2 :: S) h Q := wp_pl rfl rfl rfl
theorem s114_101 : WP 114 0 101 L (vI x1 :: vI x0 :: S) h Q ↔ (zw S ≤ 8 ∧ WP 30 0 0 [vI x0, vI x1] [] h (zret 114 0 101 104 L S Q)) := wp_S rfl rfl (zcan_of rfl rfl) rfl rfl rfl
theorem s114_104 : WP 114 0 104 L (vI x :: S) h Q ↔ zif (x = 0) (WP 114 0 114 L S h Q) (WP 114 0 107 L S h Q) := wp_bE zc_eq rfl rfl rfl
theorem s114_107 : WP 114 0 107 [a0, vA r, a2, a3, a4, a5, a6, a7] S h Q ↔ WP 114 0 108 [a0, vA r, a2, a3, a4, a5, a6, a7] (vA r :: S) h Q := wp_aload rfl rfl
theorem s114_108 : WP 114 0 108 L (vA (some a) :: S) h Q ↔ (zhas 15 (hk h a) = true ∧ WP 114 0 111 L (hm h a 15 :: S) h Q) := wp_if rfl rfl rfl
theorem s114_111 : WP 114 0 111 L S h Q ↔ WP 114 0 115 L S h Q := wp_pl rfl rfl rfl
theorem s114_114 : WP 114 0 114 L S h Q ↔ WP 114 0 115 L (vI 0 :: S) h Q := wp_pl rfl rfl rfl
theorem s114_115 : WP 114 0 115 L (vI y :: vI x :: S) h Q ↔ zif (y < x) (WP 114 0 156 L S h Q) (WP 114 0 118 L S h Q) := wp_bE zc_gt rfl rfl rfl
theorem s114_118 : WP 114 0 118 [a0, a1, a2, a3, vA r, a5, a6, a7] S h Q ↔ WP 114 0 120 [a0, a1, a2, a3, vA r, a5, a6, a7] (vA r :: S) h Q := wp_aload rfl rfl
theorem s114_120 : WP 114 0 120 L S h Q ↔ WP 114 0 121 L (vI 0 :: S) h Q := wp_pl rfl rfl rfl
theorem s114_121 : WP 114 0 121 [a0, a1, a2, a3, a4, vI x, a6, a7] S h Q ↔ WP 114 0 123 [a0, a1, a2, a3, a4, vI x, a6, a7] (vI x :: S) h Q := wp_iload rfl rfl
theorem s114_123 : WP 114 0 123 L (vI y :: vI x :: vA (some a) :: S) h Q ↔ (((hk h a).1 = 1 ∧ (0 ≤ x ∧ x < ((hk h a).2 : Int)) ∧ zNC ≤ a) ∧ WP 114 0 124 L S (hput h a x.toNat (vI y)) Q) := wp_if rfl rfl rfl
theorem s114_124 : WP 114 0 124 [a0, a1, a2, a3, vA r, a5, a6, a7] S h Q ↔ WP 114 0 126 [a0, a1, a2, a3, vA r, a5, a6, a7] (vA r :: S) h Q := wp_aload rfl rfl
theorem s114_126 : WP 114 0 126 L S h Q ↔ WP 114 0 127 L (vI 1 :: S) h Q := wp_pl rfl rfl rfl
theorem s114_127 : WP 114 0 127 [a0, a1, a2, a3, a4, a5, vI x, a7] S h Q ↔ WP 114 0 129 [a0, a1, a2, a3, a4, a5, vI x, a7] (vI x :: S) h Q := wp_iload rfl rfl
theorem s114_129 : WP 114 0 129 L (vI y :: vI x :: vA (some a) :: S) h Q ↔ (((hk h a).1 = 1 ∧ (0 ≤ x ∧ x < ((hk h a).2 : Int)) ∧ zNC ≤ a) ∧ WP 114 0 130 L S (hput h a x.toNat (vI y)) Q) := wp_if rfl rfl rfl
theorem s114_130 : WP 114 0 130 [a0, a1, a2, a3, vA r, a5, a6, a7] S h Q ↔ WP 114 0 132 [a0, a1, a2, a3, vA r, a5, a6, a7] (vA r :: S) h Q := wp_aload rfl rfl
theorem s114_132 : WP 114 0 132 L S h Q ↔ WP 114 0 133 L (vI 2 :: S) h Q := wp_pl rfl rfl rfl
theorem s114_133 : WP 114 0 133 [a0, a1, a2, a3, a4, a5, a6, vI x] S h Q ↔ WP 114 0 135 [a0, a1, a2, a3, a4, a5, a6, vI x] (vI x :: S) h Q := wp_iload rfl rfl
theorem s114_135 : WP 114 0 135 L (vI y :: vI x :: vA (some a) :: S) h Q ↔ (((hk h a).1 = 1 ∧ (0 ≤ x ∧ x < ((hk h a).2 : Int)) ∧ zNC ≤ a) ∧ WP 114 0 136 L S (hput h a x.toNat (vI y)) Q) := wp_if rfl rfl rfl
theorem s114_136 : WP 114 0 136 [vA r, a1, a2, a3, a4, a5, a6, a7] S h Q ↔ WP 114 0 137 [vA r, a1, a2, a3, a4, a5, a6, a7] (vA r :: S) h Q := wp_aload rfl rfl
theorem s114_137 : WP 114 0 137 [a0, vA r, a2, a3, a4, a5, a6, a7] S h Q ↔ WP 114 0 138 [a0, vA r, a2, a3, a4, a5, a6, a7] (vA r :: S) h Q := wp_aload rfl rfl
theorem s114_138 : WP 114 0 138 [a0, a1, vI x, a3, a4, a5, a6, a7] S h Q ↔ WP 114 0 139 [a0, a1, vI x, a3, a4, a5, a6, a7] (vI x :: S) h Q := wp_iload rfl rfl
theorem s114_139 : WP 114 0 139 [a0, a1, a2, a3, vA r, a5, a6, a7] S h Q ↔ WP 114 0 141 [a0, a1, a2, a3, vA r, a5, a6, a7] (vA r :: S) h Q := wp_aload rfl rfl
theorem s114_141 : WP 114 0 141 L (vA r2 :: vI x1 :: vA r0 :: vA (some a) :: S) h Q ↔ ((hk h a).1 = 105 ∧ (zw S ≤ 8 ∧ WP 110 0 0 [vA (some a), vA r0, vI x1, vA r2, vJ, vJ, vJ] [] h (zret 114 0 141 144 L S Q))) := wp_V1 (c := 105) rfl rfl (fun _ => rfl) rfl rfl (zcan_of rfl rfl) rfl rfl rfl
theorem s114_144 : WP 114 0 144 L (vI x :: S) h Q ↔ zif (x = 0) (WP 114 0 150 L S h Q) (WP 114 0 147 L S h Q) := wp_bE zc_eq rfl rfl rfl
theorem s114_147 : WP 114 0 147 [a0, a1, a2, a3, vA r, a5, a6, a7] S h Q ↔ WP 114 0 149 [a0, a1, a2, a3, vA r, a5, a6, a7] (vA r :: S) h Q := wp_aload rfl rfl
theorem s114_149 : WP 114 0 149 L [vA r] h Q ↔ Q (.inl (some (vA r))) h := wp_aret rfl
theorem s114_150 : WP 114 0 150 [a0, a1, a2, a3, a4, a5, a6, vI x] S h Q ↔ WP 114 0 153 [a0, a1, a2, a3, a4, a5, a6, vI (wr (x + 1))] S h Q := wp_iinc rfl rfl rfl
theorem s114_153 : WP 114 0 153 L S h Q ↔ WP 114 0 97 L S h Q := wp_pl rfl rfl rfl
theorem s114_156 : WP 114 0 156 [a0, a1, a2, a3, a4, a5, vI x, a7] S h Q ↔ WP 114 0 159 [a0, a1, a2, a3, a4, a5, vI (wr (x + 1)), a7] S h Q := wp_iinc rfl rfl rfl
theorem s114_159 : WP 114 0 159 L S h Q ↔ WP 114 0 61 L S h Q := wp_pl rfl rfl rfl
theorem s114_162 : WP 114 0 162 [a0, a1, a2, a3, a4, vI x, a6, a7] S h Q ↔ WP 114 0 165 [a0, a1, a2, a3, a4, vI (wr (x + 1)), a6, a7] S h Q := wp_iinc rfl rfl rfl
theorem s114_165 : WP 114 0 165 L S h Q ↔ WP 114 0 25 L S h Q := wp_pl rfl rfl rfl
theorem s114_168 : WP 114 0 168 [a0, a1, a2, a3, vA r, a5, a6, a7] S h Q ↔ WP 114 0 170 [a0, a1, a2, a3, vA r, a5, a6, a7] (vA r :: S) h Q := wp_aload rfl rfl
theorem s114_170 : WP 114 0 170 L [vA r] h Q ↔ Q (.inl (some (vA r))) h := wp_aret rfl
/-! RepeatFree$Search.finds(III)Z -/
theorem s115_0 : WP 115 0 0 [a0, a1, a2, vI x, a4, a5] S h Q ↔ WP 115 0 1 [a0, a1, a2, vI x, a4, a5] (vI x :: S) h Q := wp_iload rfl rfl
theorem s115_1 : WP 115 0 1 [a0, a1, a2, a3, a4, a5] (vI x :: S) h Q ↔ WP 115 0 3 [a0, a1, a2, a3, vI x, a5] S h Q := wp_istore rfl rfl rfl
theorem s115_3 : WP 115 0 3 [vA r, a1, a2, a3, a4, a5] S h Q ↔ WP 115 0 4 [vA r, a1, a2, a3, a4, a5] (vA r :: S) h Q := wp_aload rfl rfl
theorem s115_4 : WP 115 0 4 L (vA (some a) :: S) h Q ↔ (zhas 26 (hk h a) = true ∧ WP 115 0 7 L (hm h a 26 :: S) h Q) := wp_if rfl rfl rfl
theorem s115_7 : WP 115 0 7 L (vA (some a) :: S) h Q ↔ (zhas 15 (hk h a) = true ∧ WP 115 0 10 L (hm h a 15 :: S) h Q) := wp_if rfl rfl rfl
theorem s115_10 : WP 115 0 10 [a0, vI x, a2, a3, a4, a5] S h Q ↔ WP 115 0 11 [a0, vI x, a2, a3, a4, a5] (vI x :: S) h Q := wp_iload rfl rfl
theorem s115_11 : WP 115 0 11 L (vI y :: vI x :: S) h Q ↔ zif (x < y) (WP 115 0 14 L S h Q) (WP 115 0 147 L S h Q) := wp_bN zc_lt rfl rfl rfl
theorem s115_14 : WP 115 0 14 [a0, a1, a2, a3, vI x, a5] S h Q ↔ WP 115 0 16 [a0, a1, a2, a3, vI x, a5] (vI x :: S) h Q := wp_iload rfl rfl
theorem s115_16 : WP 115 0 16 [vA r, a1, a2, a3, a4, a5] S h Q ↔ WP 115 0 17 [vA r, a1, a2, a3, a4, a5] (vA r :: S) h Q := wp_aload rfl rfl
theorem s115_17 : WP 115 0 17 L (vA (some a) :: S) h Q ↔ (zhas 29 (hk h a) = true ∧ WP 115 0 20 L (hm h a 29 :: S) h Q) := wp_if rfl rfl rfl
theorem s115_20 : WP 115 0 20 L (vA (some a) :: S) h Q ↔ (zhas 4 (hk h a) = true ∧ WP 115 0 23 L (hm h a 4 :: S) h Q) := wp_if rfl rfl rfl
theorem s115_23 : WP 115 0 23 L (vA (some a) :: S) h Q ↔ (zhas 12 (hk h a) = true ∧ WP 115 0 26 L (hm h a 12 :: S) h Q) := wp_if rfl rfl rfl
theorem s115_26 : WP 115 0 26 L (vI y :: vI x :: S) h Q ↔ zif (x < y) (WP 115 0 29 L S h Q) (WP 115 0 120 L S h Q) := wp_bN zc_lt rfl rfl rfl
theorem s115_29 : WP 115 0 29 [vA r, a1, a2, a3, a4, a5] S h Q ↔ WP 115 0 30 [vA r, a1, a2, a3, a4, a5] (vA r :: S) h Q := wp_aload rfl rfl
theorem s115_30 : WP 115 0 30 [vA r, a1, a2, a3, a4, a5] S h Q ↔ WP 115 0 31 [vA r, a1, a2, a3, a4, a5] (vA r :: S) h Q := wp_aload rfl rfl
theorem s115_31 : WP 115 0 31 L (vA (some a) :: S) h Q ↔ (zhas 27 (hk h a) = true ∧ WP 115 0 34 L (hm h a 27 :: S) h Q) := wp_if rfl rfl rfl
theorem s115_34 : WP 115 0 34 L S h Q ↔ WP 115 0 37 L (vI 5000 :: S) h Q := wp_pl rfl rfl rfl
theorem s115_37 : WP 115 0 37 L (vI y :: vI x :: S) h Q ↔ zif (x = y) (WP 115 0 40 L S h Q) (WP 115 0 44 L S h Q) := wp_bN zc_eq rfl rfl rfl
theorem s115_40 : WP 115 0 40 L S h Q ↔ WP 115 0 41 L (vI 1 :: S) h Q := wp_pl rfl rfl rfl
theorem s115_41 : WP 115 0 41 L S h Q ↔ WP 115 0 45 L S h Q := wp_pl rfl rfl rfl
theorem s115_44 : WP 115 0 44 L S h Q ↔ WP 115 0 45 L (vI 0 :: S) h Q := wp_pl rfl rfl rfl
theorem s115_45 : WP 115 0 45 L (vI x :: vA (some a) :: S) h Q ↔ ((zNC ≤ a ∧ zhas 28 (hk h a) = true ∧ (x = 0 ∨ x = 1)) ∧ WP 115 0 48 L S (hput h a 28 (vI x)) Q) := wp_put1 rfl rfl
theorem s115_48 : WP 115 0 48 [vA r, a1, a2, a3, a4, a5] S h Q ↔ WP 115 0 49 [vA r, a1, a2, a3, a4, a5] (vA r :: S) h Q := wp_aload rfl rfl
theorem s115_49 : WP 115 0 49 L (vA (some a) :: S) h Q ↔ (zhas 28 (hk h a) = true ∧ WP 115 0 52 L (hm h a 28 :: S) h Q) := wp_if rfl rfl rfl
theorem s115_52 : WP 115 0 52 L (vI x :: S) h Q ↔ zif (x = 0) (WP 115 0 57 L S h Q) (WP 115 0 55 L S h Q) := wp_bE zc_eq rfl rfl rfl
theorem s115_55 : WP 115 0 55 L S h Q ↔ WP 115 0 56 L (vI 0 :: S) h Q := wp_pl rfl rfl rfl
theorem s115_56 : WP 115 0 56 L [vI x] h Q ↔ ((x = 0 ∨ x = 1) ∧ Q (.inl (some (vI x))) h) := wp_iret rfl rfl
theorem s115_57 : WP 115 0 57 [vA r, a1, a2, a3, a4, a5] S h Q ↔ WP 115 0 58 [vA r, a1, a2, a3, a4, a5] (vA r :: S) h Q := wp_aload rfl rfl
theorem s115_58 : WP 115 0 58 L (vA r :: S) h Q ↔ WP 115 0 59 L (vA r :: vA r :: S) h Q := wp_pl rfl rfl rfl
theorem s115_58i : WP 115 0 58 L (vI x :: S) h Q ↔ WP 115 0 59 L (vI x :: vI x :: S) h Q := wp_pl rfl rfl rfl
theorem s115_59 : WP 115 0 59 L (vA (some a) :: S) h Q ↔ (zhas 27 (hk h a) = true ∧ WP 115 0 62 L (hm h a 27 :: S) h Q) := wp_if rfl rfl rfl
theorem s115_62 : WP 115 0 62 L S h Q ↔ WP 115 0 63 L (vI 1 :: S) h Q := wp_pl rfl rfl rfl
theorem s115_63 : WP 115 0 63 L (vI y :: vI x :: S) h Q ↔ WP 115 0 64 L (vI (wr (x + y)) :: S) h Q := wp_pl rfl rfl rfl
theorem s115_64 : WP 115 0 64 L (vI x :: vA (some a) :: S) h Q ↔ ((zNC ≤ a ∧ zhas 27 (hk h a) = true) ∧ WP 115 0 67 L S (hput h a 27 (vI x)) Q) := wp_put0 rfl rfl
theorem s115_67 : WP 115 0 67 [vA r, a1, a2, a3, a4, a5] S h Q ↔ WP 115 0 68 [vA r, a1, a2, a3, a4, a5] (vA r :: S) h Q := wp_aload rfl rfl
theorem s115_68 : WP 115 0 68 L (vA (some a) :: S) h Q ↔ (zhas 26 (hk h a) = true ∧ WP 115 0 71 L (hm h a 26 :: S) h Q) := wp_if rfl rfl rfl
theorem s115_71 : WP 115 0 71 [a0, a1, a2, a3, vI x, a5] S h Q ↔ WP 115 0 73 [a0, a1, a2, a3, vI x, a5] (vI x :: S) h Q := wp_iload rfl rfl
theorem s115_73 : WP 115 0 73 L (vI x0 :: vA (some a) :: S) h Q ↔ ((hk h a).1 = 102 ∧ (zw S ≤ 8 ∧ WP 97 0 0 [vA (some a), vI x0] [] h (zret 115 0 73 76 L S Q))) := wp_V1 (c := 102) rfl rfl (fun _ => rfl) rfl rfl (zcan_of rfl rfl) rfl rfl rfl
theorem s115_76 : WP 115 0 76 [vA r, a1, a2, a3, a4, a5] S h Q ↔ WP 115 0 77 [vA r, a1, a2, a3, a4, a5] (vA r :: S) h Q := wp_aload rfl rfl
theorem s115_77 : WP 115 0 77 L (vA (some a) :: S) h Q ↔ (zhas 29 (hk h a) = true ∧ WP 115 0 80 L (hm h a 29 :: S) h Q) := wp_if rfl rfl rfl
theorem s115_80 : WP 115 0 80 [vA r, a1, a2, a3, a4, a5] S h Q ↔ WP 115 0 81 [vA r, a1, a2, a3, a4, a5] (vA r :: S) h Q := wp_aload rfl rfl
theorem s115_81 : WP 115 0 81 L (vA (some a) :: S) h Q ↔ (zhas 26 (hk h a) = true ∧ WP 115 0 84 L (hm h a 26 :: S) h Q) := wp_if rfl rfl rfl
theorem s115_84 : WP 115 0 84 L (vA r0 :: vA (some a) :: S) h Q ↔ ((hk h a).1 = 100 ∧ (zw S ≤ 8 ∧ WP 37 0 0 [vA (some a), vA r0, vJ] [] h (zret 115 0 84 87 L S Q))) := wp_V1 (c := 100) rfl rfl (fun _ => rfl) rfl rfl (zcan_of rfl rfl) rfl rfl rfl
theorem s115_87 : WP 115 0 87 [a0, a1, a2, a3, a4, a5] (vI x :: S) h Q ↔ WP 115 0 89 [a0, a1, a2, a3, a4, vI x] S h Q := wp_istore rfl rfl rfl
theorem s115_89 : WP 115 0 89 [a0, a1, a2, a3, a4, vI x] S h Q ↔ WP 115 0 91 [a0, a1, a2, a3, a4, vI x] (vI x :: S) h Q := wp_iload rfl rfl
theorem s115_91 : WP 115 0 91 L (vI x :: S) h Q ↔ zif (x = 0) (WP 115 0 94 L S h Q) (WP 115 0 102 L S h Q) := wp_bN zc_eq rfl rfl rfl
theorem s115_94 : WP 115 0 94 [vA r, a1, a2, a3, a4, a5] S h Q ↔ WP 115 0 95 [vA r, a1, a2, a3, a4, a5] (vA r :: S) h Q := wp_aload rfl rfl
theorem s115_95 : WP 115 0 95 L (vA (some a) :: S) h Q ↔ (zhas 26 (hk h a) = true ∧ WP 115 0 98 L (hm h a 26 :: S) h Q) := wp_if rfl rfl rfl
theorem s115_98 : WP 115 0 98 L (vA (some a) :: S) h Q ↔ ((hk h a).1 = 102 ∧ (zw S ≤ 8 ∧ WP 99 0 0 [vA (some a)] [] h (zret 115 0 98 101 L S Q))) := wp_V1 (c := 102) rfl rfl (fun _ => rfl) rfl rfl (zcan_of rfl rfl) rfl rfl rfl
theorem s115_101 : WP 115 0 101 L (vA r :: S) h Q ↔ WP 115 0 102 L S h Q := wp_pl rfl rfl rfl
theorem s115_101i : WP 115 0 101 L (vI x :: S) h Q ↔ WP 115 0 102 L S h Q := wp_pl rfl rfl rfl
theorem s115_102 : WP 115 0 102 [a0, a1, a2, a3, a4, vI x] S h Q ↔ WP 115 0 104 [a0, a1, a2, a3, a4, vI x] (vI x :: S) h Q := wp_iload rfl rfl
theorem s115_104 : WP 115 0 104 L (vI x :: S) h Q ↔ zif (x = 0) (WP 115 0 111 L S h Q) (WP 115 0 107 L S h Q) := wp_bE zc_eq rfl rfl rfl
theorem s115_107 : WP 115 0 107 L S h Q ↔ WP 115 0 108 L (vI 0 :: S) h Q := wp_pl rfl rfl rfl
theorem s115_108 : WP 115 0 108 L S h Q ↔ WP 115 0 115 L S h Q := wp_pl rfl rfl rfl
theorem s115_111 : WP 115 0 111 [a0, a1, a2, a3, vI x, a5] S h Q ↔ WP 115 0 113 [a0, a1, a2, a3, vI x, a5] (vI x :: S) h Q := wp_iload rfl rfl
theorem s115_113 : WP 115 0 113 L S h Q ↔ WP 115 0 114 L (vI 1 :: S) h Q := wp_pl rfl rfl rfl
theorem s115_114 : WP 115 0 114 L (vI y :: vI x :: S) h Q ↔ WP 115 0 115 L (vI (wr (x + y)) :: S) h Q := wp_pl rfl rfl rfl
theorem s115_115 : WP 115 0 115 [a0, a1, a2, a3, a4, a5] (vI x :: S) h Q ↔ WP 115 0 117 [a0, a1, a2, a3, vI x, a5] S h Q := wp_istore rfl rfl rfl
theorem s115_117 : WP 115 0 117 L S h Q ↔ WP 115 0 3 L S h Q := wp_pl rfl rfl rfl
theorem s115_120 : WP 115 0 120 [vA r, a1, a2, a3, a4, a5] S h Q ↔ WP 115 0 121 [vA r, a1, a2, a3, a4, a5] (vA r :: S) h Q := wp_aload rfl rfl
theorem s115_121 : WP 115 0 121 L (vA (some a) :: S) h Q ↔ (zhas 26 (hk h a) = true ∧ WP 115 0 124 L (hm h a 26 :: S) h Q) := wp_if rfl rfl rfl
theorem s115_124 : WP 115 0 124 L (vA (some a) :: S) h Q ↔ (zhas 15 (hk h a) = true ∧ WP 115 0 127 L (hm h a 15 :: S) h Q) := wp_if rfl rfl rfl
theorem s115_127 : WP 115 0 127 [a0, a1, vI x, a3, a4, a5] S h Q ↔ WP 115 0 128 [a0, a1, vI x, a3, a4, a5] (vI x :: S) h Q := wp_iload rfl rfl
theorem s115_128 : WP 115 0 128 L (vI y :: vI x :: S) h Q ↔ zif (x = y) (WP 115 0 131 L S h Q) (WP 115 0 133 L S h Q) := wp_bN zc_eq rfl rfl rfl
theorem s115_131 : WP 115 0 131 L S h Q ↔ WP 115 0 132 L (vI 0 :: S) h Q := wp_pl rfl rfl rfl
theorem s115_132 : WP 115 0 132 L [vI x] h Q ↔ ((x = 0 ∨ x = 1) ∧ Q (.inl (some (vI x))) h) := wp_iret rfl rfl
theorem s115_133 : WP 115 0 133 [vA r, a1, a2, a3, a4, a5] S h Q ↔ WP 115 0 134 [vA r, a1, a2, a3, a4, a5] (vA r :: S) h Q := wp_aload rfl rfl
theorem s115_134 : WP 115 0 134 L (vA (some a) :: S) h Q ↔ (zhas 26 (hk h a) = true ∧ WP 115 0 137 L (hm h a 26 :: S) h Q) := wp_if rfl rfl rfl
theorem s115_137 : WP 115 0 137 L (vA (some a) :: S) h Q ↔ ((hk h a).1 = 102 ∧ (zw S ≤ 8 ∧ WP 99 0 0 [vA (some a)] [] h (zret 115 0 137 140 L S Q))) := wp_V1 (c := 102) rfl rfl (fun _ => rfl) rfl rfl (zcan_of rfl rfl) rfl rfl rfl
theorem s115_140 : WP 115 0 140 L S h Q ↔ WP 115 0 141 L (vI 1 :: S) h Q := wp_pl rfl rfl rfl
theorem s115_141 : WP 115 0 141 L (vI y :: vI x :: S) h Q ↔ WP 115 0 142 L (vI (wr (x + y)) :: S) h Q := wp_pl rfl rfl rfl
theorem s115_142 : WP 115 0 142 [a0, a1, a2, a3, a4, a5] (vI x :: S) h Q ↔ WP 115 0 144 [a0, a1, a2, a3, vI x, a5] S h Q := wp_istore rfl rfl rfl
theorem s115_144 : WP 115 0 144 L S h Q ↔ WP 115 0 3 L S h Q := wp_pl rfl rfl rfl
theorem s115_147 : WP 115 0 147 L S h Q ↔ WP 115 0 148 L (vI 1 :: S) h Q := wp_pl rfl rfl rfl
theorem s115_148 : WP 115 0 148 L [vI x] h Q ↔ ((x = 0 ∨ x = 1) ∧ Q (.inl (some (vI x))) h) := wp_iret rfl rfl
/-! RepeatFree$Search.findsNext(II)Z -/
theorem s116_0 : WP 116 0 0 [vA r, a1, a2] S h Q ↔ WP 116 0 1 [vA r, a1, a2] (vA r :: S) h Q := wp_aload rfl rfl
theorem s116_1 : WP 116 0 1 L (vA (some a) :: S) h Q ↔ (zhas 26 (hk h a) = true ∧ WP 116 0 4 L (hm h a 26 :: S) h Q) := wp_if rfl rfl rfl
theorem s116_4 : WP 116 0 4 L (vA (some a) :: S) h Q ↔ (zhas 15 (hk h a) = true ∧ WP 116 0 7 L (hm h a 15 :: S) h Q) := wp_if rfl rfl rfl
theorem s116_7 : WP 116 0 7 [a0, a1, vI x] S h Q ↔ WP 116 0 8 [a0, a1, vI x] (vI x :: S) h Q := wp_iload rfl rfl
theorem s116_8 : WP 116 0 8 L (vI y :: vI x :: S) h Q ↔ zif (x = y) (WP 116 0 11 L S h Q) (WP 116 0 13 L S h Q) := wp_bN zc_eq rfl rfl rfl
theorem s116_11 : WP 116 0 11 L S h Q ↔ WP 116 0 12 L (vI 0 :: S) h Q := wp_pl rfl rfl rfl
theorem s116_12 : WP 116 0 12 L [vI x] h Q ↔ ((x = 0 ∨ x = 1) ∧ Q (.inl (some (vI x))) h) := wp_iret rfl rfl
theorem s116_13 : WP 116 0 13 [vA r, a1, a2] S h Q ↔ WP 116 0 14 [vA r, a1, a2] (vA r :: S) h Q := wp_aload rfl rfl
theorem s116_14 : WP 116 0 14 [a0, vI x, a2] S h Q ↔ WP 116 0 15 [a0, vI x, a2] (vI x :: S) h Q := wp_iload rfl rfl
theorem s116_15 : WP 116 0 15 [a0, a1, vI x] S h Q ↔ WP 116 0 16 [a0, a1, vI x] (vI x :: S) h Q := wp_iload rfl rfl
theorem s116_16 : WP 116 0 16 [vA r, a1, a2] S h Q ↔ WP 116 0 17 [vA r, a1, a2] (vA r :: S) h Q := wp_aload rfl rfl
theorem s116_17 : WP 116 0 17 L (vA (some a) :: S) h Q ↔ (zhas 26 (hk h a) = true ∧ WP 116 0 20 L (hm h a 26 :: S) h Q) := wp_if rfl rfl rfl
theorem s116_20 : WP 116 0 20 L (vA (some a) :: S) h Q ↔ ((hk h a).1 = 102 ∧ (zw S ≤ 8 ∧ WP 99 0 0 [vA (some a)] [] h (zret 116 0 20 23 L S Q))) := wp_V1 (c := 102) rfl rfl (fun _ => rfl) rfl rfl (zcan_of rfl rfl) rfl rfl rfl
theorem s116_23 : WP 116 0 23 L S h Q ↔ WP 116 0 24 L (vI 1 :: S) h Q := wp_pl rfl rfl rfl
theorem s116_24 : WP 116 0 24 L (vI y :: vI x :: S) h Q ↔ WP 116 0 25 L (vI (wr (x + y)) :: S) h Q := wp_pl rfl rfl rfl
theorem s116_25 : WP 116 0 25 L (vI x2 :: vI x1 :: vI x0 :: vA (some a) :: S) h Q ↔ ((hk h a).1 = 106 ∧ (zw S ≤ 8 ∧ WP 115 0 0 [vA (some a), vI x0, vI x1, vI x2, vJ, vJ] [] h (zret 116 0 25 28 L S Q))) := wp_V1 (c := 106) rfl rfl (fun _ => rfl) rfl rfl (zcan_of rfl rfl) rfl rfl rfl
theorem s116_28 : WP 116 0 28 L [vI x] h Q ↔ ((x = 0 ∨ x = 1) ∧ Q (.inl (some (vI x))) h) := wp_iret rfl rfl
/-! RepeatFree$Search.<init>(LRepeatFree;LRepeatFree$Word;)V -/
theorem s117_0 : WP 117 0 0 [vA r, a1, a2] S h Q ↔ WP 117 0 1 [vA r, a1, a2] (vA r :: S) h Q := wp_aload rfl rfl
theorem s117_1 : WP 117 0 1 [a0, vA r, a2] S h Q ↔ WP 117 0 2 [a0, vA r, a2] (vA r :: S) h Q := wp_aload rfl rfl
theorem s117_2 : WP 117 0 2 L (vA r :: vA (some a) :: S) h Q ↔ ((zNC ≤ a ∧ zhas 29 (hk h a) = true) ∧ WP 117 0 5 L S (hput h a 29 (vA r)) Q) := wp_put3 rfl rfl
theorem s117_5 : WP 117 0 5 [vA r, a1, a2] S h Q ↔ WP 117 0 6 [vA r, a1, a2] (vA r :: S) h Q := wp_aload rfl rfl
theorem s117_6 : WP 117 0 6 L (vA (some a) :: S) h Q ↔ ((zw S ≤ 8 ∧ zNC ≤ a) ∧ WP 117 0 9 L S h Q) := wp_if rfl rfl rfl
theorem s117_9 : WP 117 0 9 [vA r, a1, a2] S h Q ↔ WP 117 0 10 [vA r, a1, a2] (vA r :: S) h Q := wp_aload rfl rfl
theorem s117_10 : WP 117 0 10 [a0, a1, vA r] S h Q ↔ WP 117 0 11 [a0, a1, vA r] (vA r :: S) h Q := wp_aload rfl rfl
theorem s117_11 : WP 117 0 11 L (vA r :: vA (some a) :: S) h Q ↔ ((zNC ≤ a ∧ zhas 26 (hk h a) = true) ∧ WP 117 0 14 L S (hput h a 26 (vA r)) Q) := wp_put3 rfl rfl
theorem s117_14 : WP 117 0 14 L [] h Q ↔ Q (.inl none) h := wp_ret rfl
/-! RepeatFree$Run.compareTo(LRepeatFree$Run;)I -/
theorem s118_0 : WP 118 0 0 [vA r, a1] S h Q ↔ WP 118 0 1 [vA r, a1] (vA r :: S) h Q := wp_aload rfl rfl
theorem s118_1 : WP 118 0 1 L (vA (some a) :: S) h Q ↔ (zhas 30 (hk h a) = true ∧ WP 118 0 4 L (hm h a 30 :: S) h Q) := wp_if rfl rfl rfl
theorem s118_4 : WP 118 0 4 [a0, vA r] S h Q ↔ WP 118 0 5 [a0, vA r] (vA r :: S) h Q := wp_aload rfl rfl
theorem s118_5 : WP 118 0 5 L (vA (some a) :: S) h Q ↔ (zhas 30 (hk h a) = true ∧ WP 118 0 8 L (hm h a 30 :: S) h Q) := wp_if rfl rfl rfl
theorem s118_8 : WP 118 0 8 L (vI y :: vI x :: S) h Q ↔ zif (x = y) (WP 118 0 25 L S h Q) (WP 118 0 11 L S h Q) := wp_bE zc_eq rfl rfl rfl
theorem s118_11 : WP 118 0 11 [vA r, a1] S h Q ↔ WP 118 0 12 [vA r, a1] (vA r :: S) h Q := wp_aload rfl rfl
theorem s118_12 : WP 118 0 12 L (vA (some a) :: S) h Q ↔ (zhas 30 (hk h a) = true ∧ WP 118 0 15 L (hm h a 30 :: S) h Q) := wp_if rfl rfl rfl
theorem s118_15 : WP 118 0 15 [a0, vA r] S h Q ↔ WP 118 0 16 [a0, vA r] (vA r :: S) h Q := wp_aload rfl rfl
theorem s118_16 : WP 118 0 16 L (vA (some a) :: S) h Q ↔ (zhas 30 (hk h a) = true ∧ WP 118 0 19 L (hm h a 30 :: S) h Q) := wp_if rfl rfl rfl
theorem s118_19 : WP 118 0 19 L (vI x1 :: vI x0 :: S) h Q ↔ (zw S ≤ 8 ∧ WP 326 0 0 [vI x0, vI x1] [] h (zret 118 0 19 22 L S Q)) := wp_S rfl rfl (zcan_of rfl rfl) rfl rfl rfl
theorem s118_22 : WP 118 0 22 L S h Q ↔ WP 118 0 36 L S h Q := wp_pl rfl rfl rfl
theorem s118_25 : WP 118 0 25 [vA r, a1] S h Q ↔ WP 118 0 26 [vA r, a1] (vA r :: S) h Q := wp_aload rfl rfl
theorem s118_26 : WP 118 0 26 L (vA (some a) :: S) h Q ↔ (zhas 32 (hk h a) = true ∧ WP 118 0 29 L (hm h a 32 :: S) h Q) := wp_if rfl rfl rfl
theorem s118_29 : WP 118 0 29 [a0, vA r] S h Q ↔ WP 118 0 30 [a0, vA r] (vA r :: S) h Q := wp_aload rfl rfl
theorem s118_30 : WP 118 0 30 L (vA (some a) :: S) h Q ↔ (zhas 32 (hk h a) = true ∧ WP 118 0 33 L (hm h a 32 :: S) h Q) := wp_if rfl rfl rfl
theorem s118_33 : WP 118 0 33 L (vI x1 :: vI x0 :: S) h Q ↔ (zw S ≤ 8 ∧ WP 326 0 0 [vI x0, vI x1] [] h (zret 118 0 33 36 L S Q)) := wp_S rfl rfl (zcan_of rfl rfl) rfl rfl rfl
theorem s118_36 : WP 118 0 36 L [vI x] h Q ↔ Q (.inl (some (vI x))) h := wp_iret0 rfl rfl
/-! RepeatFree$Run.<init>(III)V -/
theorem s119_0 : WP 119 0 0 [vA r, a1, a2, a3] S h Q ↔ WP 119 0 1 [vA r, a1, a2, a3] (vA r :: S) h Q := wp_aload rfl rfl
theorem s119_1 : WP 119 0 1 L (vA (some a) :: S) h Q ↔ ((zw S ≤ 8 ∧ zNC ≤ a) ∧ WP 119 0 4 L S h Q) := wp_if rfl rfl rfl
theorem s119_4 : WP 119 0 4 [vA r, a1, a2, a3] S h Q ↔ WP 119 0 5 [vA r, a1, a2, a3] (vA r :: S) h Q := wp_aload rfl rfl
theorem s119_5 : WP 119 0 5 [a0, vI x, a2, a3] S h Q ↔ WP 119 0 6 [a0, vI x, a2, a3] (vI x :: S) h Q := wp_iload rfl rfl
theorem s119_6 : WP 119 0 6 L (vI x :: vA (some a) :: S) h Q ↔ ((zNC ≤ a ∧ zhas 30 (hk h a) = true) ∧ WP 119 0 9 L S (hput h a 30 (vI x)) Q) := wp_put0 rfl rfl
theorem s119_9 : WP 119 0 9 [vA r, a1, a2, a3] S h Q ↔ WP 119 0 10 [vA r, a1, a2, a3] (vA r :: S) h Q := wp_aload rfl rfl
theorem s119_10 : WP 119 0 10 [a0, a1, vI x, a3] S h Q ↔ WP 119 0 11 [a0, a1, vI x, a3] (vI x :: S) h Q := wp_iload rfl rfl
theorem s119_11 : WP 119 0 11 L (vI x :: vA (some a) :: S) h Q ↔ ((zNC ≤ a ∧ zhas 31 (hk h a) = true) ∧ WP 119 0 14 L S (hput h a 31 (vI x)) Q) := wp_put0 rfl rfl
theorem s119_14 : WP 119 0 14 [vA r, a1, a2, a3] S h Q ↔ WP 119 0 15 [vA r, a1, a2, a3] (vA r :: S) h Q := wp_aload rfl rfl
theorem s119_15 : WP 119 0 15 [a0, a1, a2, vI x] S h Q ↔ WP 119 0 16 [a0, a1, a2, vI x] (vI x :: S) h Q := wp_iload rfl rfl
theorem s119_16 : WP 119 0 16 L (vI x :: vA (some a) :: S) h Q ↔ ((zNC ≤ a ∧ zhas 32 (hk h a) = true) ∧ WP 119 0 19 L S (hput h a 32 (vI x)) Q) := wp_put0 rfl rfl
theorem s119_19 : WP 119 0 19 L [] h Q ↔ Q (.inl none) h := wp_ret rfl
/-! RepeatFree$Reader.ends()V -/
theorem s120_0 : WP 120 0 0 [vA r] S h Q ↔ WP 120 0 1 [vA r] (vA r :: S) h Q := wp_aload rfl rfl
theorem s120_1 : WP 120 0 1 L (vA (some a) :: S) h Q ↔ ((hk h a).1 = 108 ∧ (zw S ≤ 8 ∧ WP 121 0 0 [vA (some a)] [] h (zret 120 0 1 4 L S Q))) := wp_V1 (c := 108) rfl rfl (fun _ => rfl) rfl rfl (zcan_of rfl rfl) rfl rfl rfl
theorem s120_4 : WP 120 0 4 L S h Q ↔ WP 120 0 6 L (vI 59 :: S) h Q := wp_pl rfl rfl rfl
theorem s120_6 : WP 120 0 6 L (vI y :: vI x :: S) h Q ↔ zif (x = y) (WP 120 0 21 L S h Q) (WP 120 0 9 L S h Q) := wp_bE zc_eq rfl rfl rfl
theorem s120_9 : WP 120 0 9 L S h Q ↔ WP 120 0 12 L (vA (some (hn h)) :: S) (hnew h (109, 0) 7 zdf) Q := wp_pl rfl rfl rfl
theorem s120_12 : WP 120 0 12 L (vA r :: S) h Q ↔ WP 120 0 13 L (vA r :: vA r :: S) h Q := wp_pl rfl rfl rfl
theorem s120_12i : WP 120 0 12 L (vI x :: S) h Q ↔ WP 120 0 13 L (vI x :: vI x :: S) h Q := wp_pl rfl rfl rfl
theorem s120_13 : WP 120 0 13 [vA r] S h Q ↔ WP 120 0 14 [vA r] (vA r :: S) h Q := wp_aload rfl rfl
theorem s120_14 : WP 120 0 14 L (vA (some a) :: S) h Q ↔ (zhas 37 (hk h a) = true ∧ WP 120 0 17 L (hm h a 37 :: S) h Q) := wp_if rfl rfl rfl
theorem s120_17 : WP 120 0 17 L (vI x0 :: vA (some a) :: S) h Q ↔ ((zNC ≤ a ∧ 100 ≤ (hk h a).1) ∧ zw S ≤ 8 ∧ WP 133 0 0 [vA (some a), vI x0] [] h (zret 120 0 17 20 L S Q)) := wp_I rfl rfl rfl (zcan_of rfl rfl) rfl rfl rfl
theorem s120_20 : WP 120 0 20 L (vA (some a) :: S) h Q ↔ ((((120 ≤ (hk h a).1 ∧ (hk h a).1 ≤ 123) ∨ (hk h a).1 = 109)) ∧ Q (.inr a) h) := wp_athrow (fun _ => rfl) rfl
theorem s120_21 : WP 120 0 21 [vA r] S h Q ↔ WP 120 0 22 [vA r] (vA r :: S) h Q := wp_aload rfl rfl
theorem s120_22 : WP 120 0 22 L (vA r :: S) h Q ↔ WP 120 0 23 L (vA r :: vA r :: S) h Q := wp_pl rfl rfl rfl
theorem s120_22i : WP 120 0 22 L (vI x :: S) h Q ↔ WP 120 0 23 L (vI x :: vI x :: S) h Q := wp_pl rfl rfl rfl
theorem s120_23 : WP 120 0 23 L (vA (some a) :: S) h Q ↔ (zhas 37 (hk h a) = true ∧ WP 120 0 26 L (hm h a 37 :: S) h Q) := wp_if rfl rfl rfl
theorem s120_26 : WP 120 0 26 L S h Q ↔ WP 120 0 27 L (vI 1 :: S) h Q := wp_pl rfl rfl rfl
theorem s120_27 : WP 120 0 27 L (vI y :: vI x :: S) h Q ↔ WP 120 0 28 L (vI (wr (x + y)) :: S) h Q := wp_pl rfl rfl rfl
theorem s120_28 : WP 120 0 28 L (vI x :: vA (some a) :: S) h Q ↔ ((zNC ≤ a ∧ zhas 37 (hk h a) = true) ∧ WP 120 0 31 L S (hput h a 37 (vI x)) Q) := wp_put0 rfl rfl
theorem s120_31 : WP 120 0 31 L [] h Q ↔ Q (.inl none) h := wp_ret rfl
/-! RepeatFree$Reader.here()I -/
theorem s121_0 : WP 121 0 0 [vA r] S h Q ↔ WP 121 0 1 [vA r] (vA r :: S) h Q := wp_aload rfl rfl
theorem s121_1 : WP 121 0 1 L (vA (some a) :: S) h Q ↔ (zhas 37 (hk h a) = true ∧ WP 121 0 4 L (hm h a 37 :: S) h Q) := wp_if rfl rfl rfl
theorem s121_4 : WP 121 0 4 [vA r] S h Q ↔ WP 121 0 5 [vA r] (vA r :: S) h Q := wp_aload rfl rfl
theorem s121_5 : WP 121 0 5 L (vA (some a) :: S) h Q ↔ (zhas 35 (hk h a) = true ∧ WP 121 0 8 L (hm h a 35 :: S) h Q) := wp_if rfl rfl rfl
theorem s121_8 : WP 121 0 8 L (vI y :: vI x :: S) h Q ↔ zif (x < y) (WP 121 0 11 L S h Q) (WP 121 0 66 L S h Q) := wp_bN zc_lt rfl rfl rfl
theorem s121_11 : WP 121 0 11 [vA r] S h Q ↔ WP 121 0 12 [vA r] (vA r :: S) h Q := wp_aload rfl rfl
theorem s121_12 : WP 121 0 12 L (vA (some a) :: S) h Q ↔ (zhas 34 (hk h a) = true ∧ WP 121 0 15 L (hm h a 34 :: S) h Q) := wp_if rfl rfl rfl
theorem s121_15 : WP 121 0 15 [vA r] S h Q ↔ WP 121 0 16 [vA r] (vA r :: S) h Q := wp_aload rfl rfl
theorem s121_16 : WP 121 0 16 L (vA (some a) :: S) h Q ↔ (zhas 37 (hk h a) = true ∧ WP 121 0 19 L (hm h a 37 :: S) h Q) := wp_if rfl rfl rfl
theorem s121_19 : WP 121 0 19 L (vI x :: vA (some a) :: S) h Q ↔ ((((hk h a).1 = 2 ∨ (hk h a).1 = 3) ∧ 0 ≤ x ∧ x < ((hk h a).2 : Int)) ∧ WP 121 0 20 L (hm h a x.toNat :: S) h Q) := wp_if rfl rfl rfl
theorem s121_20 : WP 121 0 20 L S h Q ↔ WP 121 0 22 L (vI 32 :: S) h Q := wp_pl rfl rfl rfl
theorem s121_22 : WP 121 0 22 L (vI y :: vI x :: S) h Q ↔ zif (x = y) (WP 121 0 53 L S h Q) (WP 121 0 25 L S h Q) := wp_bE zc_eq rfl rfl rfl
theorem s121_25 : WP 121 0 25 [vA r] S h Q ↔ WP 121 0 26 [vA r] (vA r :: S) h Q := wp_aload rfl rfl
theorem s121_26 : WP 121 0 26 L (vA (some a) :: S) h Q ↔ (zhas 34 (hk h a) = true ∧ WP 121 0 29 L (hm h a 34 :: S) h Q) := wp_if rfl rfl rfl
theorem s121_29 : WP 121 0 29 [vA r] S h Q ↔ WP 121 0 30 [vA r] (vA r :: S) h Q := wp_aload rfl rfl
theorem s121_30 : WP 121 0 30 L (vA (some a) :: S) h Q ↔ (zhas 37 (hk h a) = true ∧ WP 121 0 33 L (hm h a 37 :: S) h Q) := wp_if rfl rfl rfl
theorem s121_33 : WP 121 0 33 L (vI x :: vA (some a) :: S) h Q ↔ ((((hk h a).1 = 2 ∨ (hk h a).1 = 3) ∧ 0 ≤ x ∧ x < ((hk h a).2 : Int)) ∧ WP 121 0 34 L (hm h a x.toNat :: S) h Q) := wp_if rfl rfl rfl
theorem s121_34 : WP 121 0 34 L S h Q ↔ WP 121 0 36 L (vI 9 :: S) h Q := wp_pl rfl rfl rfl
theorem s121_36 : WP 121 0 36 L (vI y :: vI x :: S) h Q ↔ zif (x = y) (WP 121 0 53 L S h Q) (WP 121 0 39 L S h Q) := wp_bE zc_eq rfl rfl rfl
theorem s121_39 : WP 121 0 39 [vA r] S h Q ↔ WP 121 0 40 [vA r] (vA r :: S) h Q := wp_aload rfl rfl
theorem s121_40 : WP 121 0 40 L (vA (some a) :: S) h Q ↔ (zhas 34 (hk h a) = true ∧ WP 121 0 43 L (hm h a 34 :: S) h Q) := wp_if rfl rfl rfl
theorem s121_43 : WP 121 0 43 [vA r] S h Q ↔ WP 121 0 44 [vA r] (vA r :: S) h Q := wp_aload rfl rfl
theorem s121_44 : WP 121 0 44 L (vA (some a) :: S) h Q ↔ (zhas 37 (hk h a) = true ∧ WP 121 0 47 L (hm h a 37 :: S) h Q) := wp_if rfl rfl rfl
theorem s121_47 : WP 121 0 47 L (vI x :: vA (some a) :: S) h Q ↔ ((((hk h a).1 = 2 ∨ (hk h a).1 = 3) ∧ 0 ≤ x ∧ x < ((hk h a).2 : Int)) ∧ WP 121 0 48 L (hm h a x.toNat :: S) h Q) := wp_if rfl rfl rfl
theorem s121_48 : WP 121 0 48 L S h Q ↔ WP 121 0 50 L (vI 10 :: S) h Q := wp_pl rfl rfl rfl
theorem s121_50 : WP 121 0 50 L (vI y :: vI x :: S) h Q ↔ zif (x = y) (WP 121 0 53 L S h Q) (WP 121 0 66 L S h Q) := wp_bN zc_eq rfl rfl rfl
theorem s121_53 : WP 121 0 53 [vA r] S h Q ↔ WP 121 0 54 [vA r] (vA r :: S) h Q := wp_aload rfl rfl
theorem s121_54 : WP 121 0 54 L (vA r :: S) h Q ↔ WP 121 0 55 L (vA r :: vA r :: S) h Q := wp_pl rfl rfl rfl
theorem s121_54i : WP 121 0 54 L (vI x :: S) h Q ↔ WP 121 0 55 L (vI x :: vI x :: S) h Q := wp_pl rfl rfl rfl
theorem s121_55 : WP 121 0 55 L (vA (some a) :: S) h Q ↔ (zhas 37 (hk h a) = true ∧ WP 121 0 58 L (hm h a 37 :: S) h Q) := wp_if rfl rfl rfl
theorem s121_58 : WP 121 0 58 L S h Q ↔ WP 121 0 59 L (vI 1 :: S) h Q := wp_pl rfl rfl rfl
theorem s121_59 : WP 121 0 59 L (vI y :: vI x :: S) h Q ↔ WP 121 0 60 L (vI (wr (x + y)) :: S) h Q := wp_pl rfl rfl rfl
theorem s121_60 : WP 121 0 60 L (vI x :: vA (some a) :: S) h Q ↔ ((zNC ≤ a ∧ zhas 37 (hk h a) = true) ∧ WP 121 0 63 L S (hput h a 37 (vI x)) Q) := wp_put0 rfl rfl
theorem s121_63 : WP 121 0 63 L S h Q ↔ WP 121 0 0 L S h Q := wp_pl rfl rfl rfl
theorem s121_66 : WP 121 0 66 [vA r] S h Q ↔ WP 121 0 67 [vA r] (vA r :: S) h Q := wp_aload rfl rfl
theorem s121_67 : WP 121 0 67 L (vA (some a) :: S) h Q ↔ (zhas 37 (hk h a) = true ∧ WP 121 0 70 L (hm h a 37 :: S) h Q) := wp_if rfl rfl rfl
theorem s121_70 : WP 121 0 70 [vA r] S h Q ↔ WP 121 0 71 [vA r] (vA r :: S) h Q := wp_aload rfl rfl
theorem s121_71 : WP 121 0 71 L (vA (some a) :: S) h Q ↔ (zhas 35 (hk h a) = true ∧ WP 121 0 74 L (hm h a 35 :: S) h Q) := wp_if rfl rfl rfl
theorem s121_74 : WP 121 0 74 L (vI y :: vI x :: S) h Q ↔ zif (x < y) (WP 121 0 77 L S h Q) (WP 121 0 93 L S h Q) := wp_bN zc_lt rfl rfl rfl
theorem s121_77 : WP 121 0 77 [vA r] S h Q ↔ WP 121 0 78 [vA r] (vA r :: S) h Q := wp_aload rfl rfl
theorem s121_78 : WP 121 0 78 L (vA (some a) :: S) h Q ↔ (zhas 34 (hk h a) = true ∧ WP 121 0 81 L (hm h a 34 :: S) h Q) := wp_if rfl rfl rfl
theorem s121_81 : WP 121 0 81 [vA r] S h Q ↔ WP 121 0 82 [vA r] (vA r :: S) h Q := wp_aload rfl rfl
theorem s121_82 : WP 121 0 82 L (vA (some a) :: S) h Q ↔ (zhas 37 (hk h a) = true ∧ WP 121 0 85 L (hm h a 37 :: S) h Q) := wp_if rfl rfl rfl
theorem s121_85 : WP 121 0 85 L (vI x :: vA (some a) :: S) h Q ↔ ((((hk h a).1 = 2 ∨ (hk h a).1 = 3) ∧ 0 ≤ x ∧ x < ((hk h a).2 : Int)) ∧ WP 121 0 86 L (hm h a x.toNat :: S) h Q) := wp_if rfl rfl rfl
theorem s121_86 : WP 121 0 86 L S h Q ↔ WP 121 0 89 L (vI 255 :: S) h Q := wp_pl rfl rfl rfl
theorem s121_89 : WP 121 0 89 L (vI y :: vI x :: S) h Q ↔ WP 121 0 90 L (vI (zand x y) :: S) h Q := wp_pl rfl rfl rfl
theorem s121_90 : WP 121 0 90 L S h Q ↔ WP 121 0 94 L S h Q := wp_pl rfl rfl rfl
theorem s121_93 : WP 121 0 93 L S h Q ↔ WP 121 0 94 L (vI (-1) :: S) h Q := wp_pl rfl rfl rfl
theorem s121_94 : WP 121 0 94 L [vI x] h Q ↔ Q (.inl (some (vI x))) h := wp_iret0 rfl rfl
/-! RepeatFree$Reader.<init>([BI)V -/
theorem s122_0 : WP 122 0 0 [vA r, a1, a2] S h Q ↔ WP 122 0 1 [vA r, a1, a2] (vA r :: S) h Q := wp_aload rfl rfl
theorem s122_1 : WP 122 0 1 L (vA (some a) :: S) h Q ↔ ((zw S ≤ 8 ∧ zNC ≤ a) ∧ WP 122 0 4 L S h Q) := wp_if rfl rfl rfl
theorem s122_4 : WP 122 0 4 [vA r, a1, a2] S h Q ↔ WP 122 0 5 [vA r, a1, a2] (vA r :: S) h Q := wp_aload rfl rfl
theorem s122_5 : WP 122 0 5 L S h Q ↔ WP 122 0 7 L (vA (some 4) :: S) h Q := wp_pl rfl rfl rfl
theorem s122_7 : WP 122 0 7 L S h Q ↔ WP 122 0 9 L (vA (some 6) :: S) h Q := wp_pl rfl rfl rfl
theorem s122_9 : WP 122 0 9 L S h Q ↔ WP 122 0 11 L (vA (some 8) :: S) h Q := wp_pl rfl rfl rfl
theorem s122_11 : WP 122 0 11 L S h Q ↔ WP 122 0 13 L (vA (some 10) :: S) h Q := wp_pl rfl rfl rfl
theorem s122_13 : WP 122 0 13 L S h Q ↔ WP 122 0 15 L (vA (some 12) :: S) h Q := wp_pl rfl rfl rfl
theorem s122_15 : WP 122 0 15 L S h Q ↔ WP 122 0 17 L (vA (some 14) :: S) h Q := wp_pl rfl rfl rfl
theorem s122_17 : WP 122 0 17 L S h Q ↔ WP 122 0 19 L (vA (some 16) :: S) h Q := wp_pl rfl rfl rfl
theorem s122_19 : WP 122 0 19 L S h Q ↔ WP 122 0 21 L (vA (some 18) :: S) h Q := wp_pl rfl rfl rfl
theorem s122_21 : WP 122 0 21 L (vA r7 :: vA r6 :: vA r5 :: vA r4 :: vA r3 :: vA r2 :: vA r1 :: vA r0 :: S) h Q ↔ (zw S ≤ 8 ∧ WP 410 0 0 [vA r0, vA r1, vA r2, vA r3, vA r4, vA r5, vA r6, vA r7] [] h (zret 122 0 21 24 L S Q)) := wp_S rfl rfl (zcan_of rfl rfl) rfl rfl rfl
theorem s122_24 : WP 122 0 24 L (vA r :: vA (some a) :: S) h Q ↔ ((zNC ≤ a ∧ zhas 33 (hk h a) = true) ∧ WP 122 0 27 L S (hput h a 33 (vA r)) Q) := wp_put3 rfl rfl
theorem s122_27 : WP 122 0 27 [vA r, a1, a2] S h Q ↔ WP 122 0 28 [vA r, a1, a2] (vA r :: S) h Q := wp_aload rfl rfl
theorem s122_28 : WP 122 0 28 L S h Q ↔ WP 122 0 31 L (vA (some (hn h)) :: S) (hnew h (101, 0) 4 zdf) Q := wp_pl rfl rfl rfl
theorem s122_31 : WP 122 0 31 L (vA r :: S) h Q ↔ WP 122 0 32 L (vA r :: vA r :: S) h Q := wp_pl rfl rfl rfl
theorem s122_31i : WP 122 0 31 L (vI x :: S) h Q ↔ WP 122 0 32 L (vI x :: vI x :: S) h Q := wp_pl rfl rfl rfl
theorem s122_32 : WP 122 0 32 L (vA (some a) :: S) h Q ↔ ((zNC ≤ a ∧ 100 ≤ (hk h a).1) ∧ zw S ≤ 8 ∧ WP 93 0 0 [vA (some a)] [] h (zret 122 0 32 35 L S Q)) := wp_I rfl rfl rfl (zcan_of rfl rfl) rfl rfl rfl
theorem s122_35 : WP 122 0 35 L (vA r :: vA (some a) :: S) h Q ↔ ((zNC ≤ a ∧ zhas 36 (hk h a) = true) ∧ WP 122 0 38 L S (hput h a 36 (vA r)) Q) := wp_put3 rfl rfl
theorem s122_38 : WP 122 0 38 [vA r, a1, a2] S h Q ↔ WP 122 0 39 [vA r, a1, a2] (vA r :: S) h Q := wp_aload rfl rfl
theorem s122_39 : WP 122 0 39 [a0, vA r, a2] S h Q ↔ WP 122 0 40 [a0, vA r, a2] (vA r :: S) h Q := wp_aload rfl rfl
theorem s122_40 : WP 122 0 40 L (vA r :: vA (some a) :: S) h Q ↔ ((zNC ≤ a ∧ zhas 34 (hk h a) = true) ∧ WP 122 0 43 L S (hput h a 34 (vA r)) Q) := wp_put3 rfl rfl
theorem s122_43 : WP 122 0 43 [vA r, a1, a2] S h Q ↔ WP 122 0 44 [vA r, a1, a2] (vA r :: S) h Q := wp_aload rfl rfl
theorem s122_44 : WP 122 0 44 [a0, a1, vI x] S h Q ↔ WP 122 0 45 [a0, a1, vI x] (vI x :: S) h Q := wp_iload rfl rfl
theorem s122_45 : WP 122 0 45 L (vI x :: vA (some a) :: S) h Q ↔ ((zNC ≤ a ∧ zhas 35 (hk h a) = true) ∧ WP 122 0 48 L S (hput h a 35 (vI x)) Q) := wp_put0 rfl rfl
theorem s122_48 : WP 122 0 48 L [] h Q ↔ Q (.inl none) h := wp_ret rfl
/-! RepeatFree$Reader.letters(CII)Ljava/lang/String; -/
theorem s123_0 : WP 123 0 0 [vA r, a1, a2, a3, a4, a5, a6] S h Q ↔ WP 123 0 1 [vA r, a1, a2, a3, a4, a5, a6] (vA r :: S) h Q := wp_aload rfl rfl
theorem s123_1 : WP 123 0 1 L (vA (some a) :: S) h Q ↔ ((hk h a).1 = 108 ∧ (zw S ≤ 8 ∧ WP 132 0 0 [vA (some a), vJ, vJ, vJ] [] h (zret 123 0 1 4 L S Q))) := wp_V1 (c := 108) rfl rfl (fun _ => rfl) rfl rfl (zcan_of rfl rfl) rfl rfl rfl
theorem s123_4 : WP 123 0 4 [a0, a1, a2, a3, a4, a5, a6] (vA r :: S) h Q ↔ WP 123 0 6 [a0, a1, a2, a3, vA r, a5, a6] S h Q := wp_astore rfl rfl rfl
theorem s123_6 : WP 123 0 6 [a0, a1, a2, a3, vA r, a5, a6] S h Q ↔ WP 123 0 8 [a0, a1, a2, a3, vA r, a5, a6] (vA r :: S) h Q := wp_aload rfl rfl
theorem s123_8 : WP 123 0 8 L (vA (some a) :: S) h Q ↔ ((hk h a).1 = 117 ∧ (zw S ≤ 8 ∧ WP 323 0 0 [vA (some a)] [] h (zret 123 0 8 11 L S Q))) := wp_V1 (c := 117) rfl rfl (fun _ => rfl) rfl rfl (zcan_of rfl rfl) rfl rfl rfl
theorem s123_11 : WP 123 0 11 L (vI x :: S) h Q ↔ WP 123 0 12 L (vL x :: S) h Q := wp_pl rfl rfl rfl
theorem s123_12 : WP 123 0 12 L S h Q ↔ WP 123 0 13 L (vL 1 :: S) h Q := wp_pl rfl rfl rfl
theorem s123_13 : WP 123 0 13 [a0, a1, a2, vI x, a4, a5, a6] S h Q ↔ WP 123 0 14 [a0, a1, a2, vI x, a4, a5, a6] (vI x :: S) h Q := wp_iload rfl rfl
theorem s123_14 : WP 123 0 14 L (vI x :: S) h Q ↔ WP 123 0 15 L (vL x :: S) h Q := wp_pl rfl rfl rfl
theorem s123_15 : WP 123 0 15 L (vL x2 :: vL x1 :: vL x0 :: S) h Q ↔ (zw S ≤ 8 ∧ WP 38 0 0 [vL x0, vJ, vL x1, vJ, vL x2, vJ] [] h (zret 123 0 15 18 L S Q)) := wp_S rfl rfl (zcan_of rfl rfl) rfl rfl rfl
theorem s123_18 : WP 123 0 18 [a0, a1, a2, a3, a4, a5, a6] (vI x :: S) h Q ↔ WP 123 0 20 [a0, a1, a2, a3, a4, vI x, a6] S h Q := wp_istore rfl rfl rfl
theorem s123_20 : WP 123 0 20 L S h Q ↔ WP 123 0 21 L (vI 0 :: S) h Q := wp_pl rfl rfl rfl
theorem s123_21 : WP 123 0 21 [a0, a1, a2, a3, a4, a5, a6] (vI x :: S) h Q ↔ WP 123 0 23 [a0, a1, a2, a3, a4, a5, vI x] S h Q := wp_istore rfl rfl rfl
theorem s123_23 : WP 123 0 23 [a0, a1, a2, a3, a4, a5, vI x] S h Q ↔ WP 123 0 25 [a0, a1, a2, a3, a4, a5, vI x] (vI x :: S) h Q := wp_iload rfl rfl
theorem s123_25 : WP 123 0 25 [a0, a1, a2, a3, vA r, a5, a6] S h Q ↔ WP 123 0 27 [a0, a1, a2, a3, vA r, a5, a6] (vA r :: S) h Q := wp_aload rfl rfl
theorem s123_27 : WP 123 0 27 L (vA (some a) :: S) h Q ↔ ((hk h a).1 = 117 ∧ (zw S ≤ 8 ∧ WP 323 0 0 [vA (some a)] [] h (zret 123 0 27 30 L S Q))) := wp_V1 (c := 117) rfl rfl (fun _ => rfl) rfl rfl (zcan_of rfl rfl) rfl rfl rfl
theorem s123_30 : WP 123 0 30 L (vI y :: vI x :: S) h Q ↔ zif (x < y) (WP 123 0 33 L S h Q) (WP 123 0 72 L S h Q) := wp_bN zc_lt rfl rfl rfl
theorem s123_33 : WP 123 0 33 [a0, a1, a2, a3, a4, vI x, a6] S h Q ↔ WP 123 0 35 [a0, a1, a2, a3, a4, vI x, a6] (vI x :: S) h Q := wp_iload rfl rfl
theorem s123_35 : WP 123 0 35 L (vI x :: S) h Q ↔ zif (x = 0) (WP 123 0 63 L S h Q) (WP 123 0 38 L S h Q) := wp_bE zc_eq rfl rfl rfl
theorem s123_38 : WP 123 0 38 [a0, a1, a2, a3, vA r, a5, a6] S h Q ↔ WP 123 0 40 [a0, a1, a2, a3, vA r, a5, a6] (vA r :: S) h Q := wp_aload rfl rfl
theorem s123_40 : WP 123 0 40 [a0, a1, a2, a3, a4, a5, vI x] S h Q ↔ WP 123 0 42 [a0, a1, a2, a3, a4, a5, vI x] (vI x :: S) h Q := wp_iload rfl rfl
theorem s123_42 : WP 123 0 42 L (vI x0 :: vA (some a) :: S) h Q ↔ ((hk h a).1 = 117 ∧ (zw S ≤ 8 ∧ WP 310 0 0 [vA (some a), vI x0] [] h (zret 123 0 42 45 L S Q))) := wp_V1 (c := 117) rfl rfl (fun _ => rfl) rfl rfl (zcan_of rfl rfl) rfl rfl rfl
theorem s123_45 : WP 123 0 45 [a0, vI x, a2, a3, a4, a5, a6] S h Q ↔ WP 123 0 46 [a0, vI x, a2, a3, a4, a5, a6] (vI x :: S) h Q := wp_iload rfl rfl
theorem s123_46 : WP 123 0 46 L (vI y :: vI x :: S) h Q ↔ WP 123 0 47 L (vI (wr (x - y)) :: S) h Q := wp_pl rfl rfl rfl
theorem s123_47 : WP 123 0 47 L (vI x :: S) h Q ↔ WP 123 0 48 L (vL x :: S) h Q := wp_pl rfl rfl rfl
theorem s123_48 : WP 123 0 48 L S h Q ↔ WP 123 0 49 L (vL 0 :: S) h Q := wp_pl rfl rfl rfl
theorem s123_49 : WP 123 0 49 [a0, a1, vI x, a3, a4, a5, a6] S h Q ↔ WP 123 0 50 [a0, a1, vI x, a3, a4, a5, a6] (vI x :: S) h Q := wp_iload rfl rfl
theorem s123_50 : WP 123 0 50 L S h Q ↔ WP 123 0 51 L (vI 1 :: S) h Q := wp_pl rfl rfl rfl
theorem s123_51 : WP 123 0 51 L (vI y :: vI x :: S) h Q ↔ WP 123 0 52 L (vI (wr (x - y)) :: S) h Q := wp_pl rfl rfl rfl
theorem s123_52 : WP 123 0 52 L (vI x :: S) h Q ↔ WP 123 0 53 L (vL x :: S) h Q := wp_pl rfl rfl rfl
theorem s123_53 : WP 123 0 53 L (vL x2 :: vL x1 :: vL x0 :: S) h Q ↔ (zw S ≤ 8 ∧ WP 38 0 0 [vL x0, vJ, vL x1, vJ, vL x2, vJ] [] h (zret 123 0 53 56 L S Q)) := wp_S rfl rfl (zcan_of rfl rfl) rfl rfl rfl
theorem s123_56 : WP 123 0 56 L (vI x :: S) h Q ↔ zif (x = 0) (WP 123 0 63 L S h Q) (WP 123 0 59 L S h Q) := wp_bE zc_eq rfl rfl rfl
theorem s123_59 : WP 123 0 59 L S h Q ↔ WP 123 0 60 L (vI 1 :: S) h Q := wp_pl rfl rfl rfl
theorem s123_60 : WP 123 0 60 L S h Q ↔ WP 123 0 64 L S h Q := wp_pl rfl rfl rfl
theorem s123_63 : WP 123 0 63 L S h Q ↔ WP 123 0 64 L (vI 0 :: S) h Q := wp_pl rfl rfl rfl
theorem s123_64 : WP 123 0 64 [a0, a1, a2, a3, a4, a5, a6] (vI x :: S) h Q ↔ WP 123 0 66 [a0, a1, a2, a3, a4, vI x, a6] S h Q := wp_istore rfl rfl rfl
theorem s123_66 : WP 123 0 66 [a0, a1, a2, a3, a4, a5, vI x] S h Q ↔ WP 123 0 69 [a0, a1, a2, a3, a4, a5, vI (wr (x + 1))] S h Q := wp_iinc rfl rfl rfl
theorem s123_69 : WP 123 0 69 L S h Q ↔ WP 123 0 23 L S h Q := wp_pl rfl rfl rfl
theorem s123_72 : WP 123 0 72 [a0, a1, a2, a3, a4, vI x, a6] S h Q ↔ WP 123 0 74 [a0, a1, a2, a3, a4, vI x, a6] (vI x :: S) h Q := wp_iload rfl rfl
theorem s123_74 : WP 123 0 74 L (vI x :: S) h Q ↔ zif (x = 0) (WP 123 0 77 L S h Q) (WP 123 0 89 L S h Q) := wp_bN zc_eq rfl rfl rfl
theorem s123_77 : WP 123 0 77 L S h Q ↔ WP 123 0 80 L (vA (some (hn h)) :: S) (hnew h (109, 0) 7 zdf) Q := wp_pl rfl rfl rfl
theorem s123_80 : WP 123 0 80 L (vA r :: S) h Q ↔ WP 123 0 81 L (vA r :: vA r :: S) h Q := wp_pl rfl rfl rfl
theorem s123_80i : WP 123 0 80 L (vI x :: S) h Q ↔ WP 123 0 81 L (vI x :: vI x :: S) h Q := wp_pl rfl rfl rfl
theorem s123_81 : WP 123 0 81 [vA r, a1, a2, a3, a4, a5, a6] S h Q ↔ WP 123 0 82 [vA r, a1, a2, a3, a4, a5, a6] (vA r :: S) h Q := wp_aload rfl rfl
theorem s123_82 : WP 123 0 82 L (vA (some a) :: S) h Q ↔ (zhas 37 (hk h a) = true ∧ WP 123 0 85 L (hm h a 37 :: S) h Q) := wp_if rfl rfl rfl
theorem s123_85 : WP 123 0 85 L (vI x0 :: vA (some a) :: S) h Q ↔ ((zNC ≤ a ∧ 100 ≤ (hk h a).1) ∧ zw S ≤ 8 ∧ WP 133 0 0 [vA (some a), vI x0] [] h (zret 123 0 85 88 L S Q)) := wp_I rfl rfl rfl (zcan_of rfl rfl) rfl rfl rfl
theorem s123_88 : WP 123 0 88 L (vA (some a) :: S) h Q ↔ ((((120 ≤ (hk h a).1 ∧ (hk h a).1 ≤ 123) ∨ (hk h a).1 = 109)) ∧ Q (.inr a) h) := wp_athrow (fun _ => rfl) rfl
theorem s123_89 : WP 123 0 89 [vA r, a1, a2, a3, a4, a5, a6] S h Q ↔ WP 123 0 90 [vA r, a1, a2, a3, a4, a5, a6] (vA r :: S) h Q := wp_aload rfl rfl
theorem s123_90 : WP 123 0 90 L (vA r :: S) h Q ↔ WP 123 0 91 L (vA r :: vA r :: S) h Q := wp_pl rfl rfl rfl
theorem s123_90i : WP 123 0 90 L (vI x :: S) h Q ↔ WP 123 0 91 L (vI x :: vI x :: S) h Q := wp_pl rfl rfl rfl
theorem s123_91 : WP 123 0 91 L (vA (some a) :: S) h Q ↔ (zhas 37 (hk h a) = true ∧ WP 123 0 94 L (hm h a 37 :: S) h Q) := wp_if rfl rfl rfl
theorem s123_94 : WP 123 0 94 [a0, a1, a2, a3, vA r, a5, a6] S h Q ↔ WP 123 0 96 [a0, a1, a2, a3, vA r, a5, a6] (vA r :: S) h Q := wp_aload rfl rfl
theorem s123_96 : WP 123 0 96 L (vA (some a) :: S) h Q ↔ ((hk h a).1 = 117 ∧ (zw S ≤ 8 ∧ WP 323 0 0 [vA (some a)] [] h (zret 123 0 96 99 L S Q))) := wp_V1 (c := 117) rfl rfl (fun _ => rfl) rfl rfl (zcan_of rfl rfl) rfl rfl rfl
theorem s123_99 : WP 123 0 99 L (vI y :: vI x :: S) h Q ↔ WP 123 0 100 L (vI (wr (x + y)) :: S) h Q := wp_pl rfl rfl rfl
theorem s123_100 : WP 123 0 100 L (vI x :: vA (some a) :: S) h Q ↔ ((zNC ≤ a ∧ zhas 37 (hk h a) = true) ∧ WP 123 0 103 L S (hput h a 37 (vI x)) Q) := wp_put0 rfl rfl
theorem s123_103 : WP 123 0 103 [a0, a1, a2, a3, vA r, a5, a6] S h Q ↔ WP 123 0 105 [a0, a1, a2, a3, vA r, a5, a6] (vA r :: S) h Q := wp_aload rfl rfl
theorem s123_105 : WP 123 0 105 L [vA r] h Q ↔ Q (.inl (some (vA r))) h := wp_aret rfl
/-! RepeatFree$Reader.limit()V -/
theorem s124_0 : WP 124 0 0 [vA r, a1, a2] S h Q ↔ WP 124 0 1 [vA r, a1, a2] (vA r :: S) h Q := wp_aload rfl rfl
theorem s124_1 : WP 124 0 1 L S h Q ↔ WP 124 0 3 L (vA (some 8) :: S) h Q := wp_pl rfl rfl rfl
theorem s124_3 : WP 124 0 3 L (vA r0 :: vA (some a) :: S) h Q ↔ ((hk h a).1 = 108 ∧ (zw S ≤ 8 ∧ WP 130 0 0 [vA (some a), vA r0] [] h (zret 124 0 3 6 L S Q))) := wp_V1 (c := 108) rfl rfl (fun _ => rfl) rfl rfl (zcan_of rfl rfl) rfl rfl rfl
theorem s124_6 : WP 124 0 6 L (vI x :: S) h Q ↔ zif (x = 0) (WP 124 0 13 L S h Q) (WP 124 0 9 L S h Q) := wp_bE zc_eq rfl rfl rfl
theorem s124_9 : WP 124 0 9 L S h Q ↔ WP 124 0 10 L (vI 1 :: S) h Q := wp_pl rfl rfl rfl
theorem s124_10 : WP 124 0 10 L S h Q ↔ WP 124 0 14 L S h Q := wp_pl rfl rfl rfl
theorem s124_13 : WP 124 0 13 L S h Q ↔ WP 124 0 14 L (vI 2 :: S) h Q := wp_pl rfl rfl rfl
theorem s124_14 : WP 124 0 14 [a0, a1, a2] (vI x :: S) h Q ↔ WP 124 0 15 [a0, vI x, a2] S h Q := wp_istore rfl rfl rfl
theorem s124_15 : WP 124 0 15 [a0, vI x, a2] S h Q ↔ WP 124 0 16 [a0, vI x, a2] (vI x :: S) h Q := wp_iload rfl rfl
theorem s124_16 : WP 124 0 16 L S h Q ↔ WP 124 0 17 L (vI 2 :: S) h Q := wp_pl rfl rfl rfl
theorem s124_17 : WP 124 0 17 L (vI y :: vI x :: S) h Q ↔ zif (x = y) (WP 124 0 20 L S h Q) (WP 124 0 26 L S h Q) := wp_bN zc_eq rfl rfl rfl
theorem s124_20 : WP 124 0 20 [vA r, a1, a2] S h Q ↔ WP 124 0 21 [vA r, a1, a2] (vA r :: S) h Q := wp_aload rfl rfl
theorem s124_21 : WP 124 0 21 L S h Q ↔ WP 124 0 23 L (vA (some 10) :: S) h Q := wp_pl rfl rfl rfl
theorem s124_23 : WP 124 0 23 L (vA r0 :: vA (some a) :: S) h Q ↔ ((hk h a).1 = 108 ∧ (zw S ≤ 8 ∧ WP 128 0 0 [vA (some a), vA r0] [] h (zret 124 0 23 26 L S Q))) := wp_V1 (c := 108) rfl rfl (fun _ => rfl) rfl rfl (zcan_of rfl rfl) rfl rfl rfl
theorem s124_26 : WP 124 0 26 [vA r, a1, a2] S h Q ↔ WP 124 0 27 [vA r, a1, a2] (vA r :: S) h Q := wp_aload rfl rfl
theorem s124_27 : WP 124 0 27 L S h Q ↔ WP 124 0 28 L (vI 2 :: S) h Q := wp_pl rfl rfl rfl
theorem s124_28 : WP 124 0 28 L S h Q ↔ WP 124 0 29 L (vI 1 :: S) h Q := wp_pl rfl rfl rfl
theorem s124_29 : WP 124 0 29 L S h Q ↔ WP 124 0 31 L (vI 99 :: S) h Q := wp_pl rfl rfl rfl
theorem s124_31 : WP 124 0 31 L (vI x2 :: vI x1 :: vI x0 :: vA (some a) :: S) h Q ↔ ((hk h a).1 = 108 ∧ (zw S ≤ 8 ∧ WP 129 0 0 [vA (some a), vI x0, vI x1, vI x2, vJ, vJ, vJ] [] h (zret 124 0 31 34 L S Q))) := wp_V1 (c := 108) rfl rfl (fun _ => rfl) rfl rfl (zcan_of rfl rfl) rfl rfl rfl
theorem s124_34 : WP 124 0 34 [a0, a1, a2] (vI x :: S) h Q ↔ WP 124 0 35 [a0, a1, vI x] S h Q := wp_istore rfl rfl rfl
theorem s124_35 : WP 124 0 35 [vA r, a1, a2] S h Q ↔ WP 124 0 36 [vA r, a1, a2] (vA r :: S) h Q := wp_aload rfl rfl
theorem s124_36 : WP 124 0 36 L S h Q ↔ WP 124 0 38 L (vA (some 12) :: S) h Q := wp_pl rfl rfl rfl
theorem s124_38 : WP 124 0 38 L (vA r0 :: vA (some a) :: S) h Q ↔ ((hk h a).1 = 108 ∧ (zw S ≤ 8 ∧ WP 128 0 0 [vA (some a), vA r0] [] h (zret 124 0 38 41 L S Q))) := wp_V1 (c := 108) rfl rfl (fun _ => rfl) rfl rfl (zcan_of rfl rfl) rfl rfl rfl
theorem s124_41 : WP 124 0 41 [vA r, a1, a2] S h Q ↔ WP 124 0 42 [vA r, a1, a2] (vA r :: S) h Q := wp_aload rfl rfl
theorem s124_42 : WP 124 0 42 L (vA (some a) :: S) h Q ↔ (zhas 36 (hk h a) = true ∧ WP 124 0 45 L (hm h a 36 :: S) h Q) := wp_if rfl rfl rfl
theorem s124_45 : WP 124 0 45 L S h Q ↔ WP 124 0 48 L (vA (some (hn h)) :: S) (hnew h (103, 0) 3 zdf) Q := wp_pl rfl rfl rfl
theorem s124_48 : WP 124 0 48 L (vA r :: S) h Q ↔ WP 124 0 49 L (vA r :: vA r :: S) h Q := wp_pl rfl rfl rfl
theorem s124_48i : WP 124 0 48 L (vI x :: S) h Q ↔ WP 124 0 49 L (vI x :: vI x :: S) h Q := wp_pl rfl rfl rfl
theorem s124_49 : WP 124 0 49 [a0, vI x, a2] S h Q ↔ WP 124 0 50 [a0, vI x, a2] (vI x :: S) h Q := wp_iload rfl rfl
theorem s124_50 : WP 124 0 50 [a0, a1, vI x] S h Q ↔ WP 124 0 51 [a0, a1, vI x] (vI x :: S) h Q := wp_iload rfl rfl
theorem s124_51 : WP 124 0 51 [vA r, a1, a2] S h Q ↔ WP 124 0 52 [vA r, a1, a2] (vA r :: S) h Q := wp_aload rfl rfl
theorem s124_52 : WP 124 0 52 L S h Q ↔ WP 124 0 53 L (vI 2 :: S) h Q := wp_pl rfl rfl rfl
theorem s124_53 : WP 124 0 53 L S h Q ↔ WP 124 0 54 L (vI 1 :: S) h Q := wp_pl rfl rfl rfl
theorem s124_54 : WP 124 0 54 L S h Q ↔ WP 124 0 56 L (vI 9 :: S) h Q := wp_pl rfl rfl rfl
theorem s124_56 : WP 124 0 56 L (vI x2 :: vI x1 :: vI x0 :: vA (some a) :: S) h Q ↔ ((hk h a).1 = 108 ∧ (zw S ≤ 8 ∧ WP 129 0 0 [vA (some a), vI x0, vI x1, vI x2, vJ, vJ, vJ] [] h (zret 124 0 56 59 L S Q))) := wp_V1 (c := 108) rfl rfl (fun _ => rfl) rfl rfl (zcan_of rfl rfl) rfl rfl rfl
theorem s124_59 : WP 124 0 59 L (vI x2 :: vI x1 :: vI x0 :: vA (some a) :: S) h Q ↔ ((zNC ≤ a ∧ 100 ≤ (hk h a).1) ∧ zw S ≤ 8 ∧ WP 103 0 0 [vA (some a), vI x0, vI x1, vI x2] [] h (zret 124 0 59 62 L S Q)) := wp_I rfl rfl rfl (zcan_of rfl rfl) rfl rfl rfl
theorem s124_62 : WP 124 0 62 L (vA r :: vA (some a) :: S) h Q ↔ ((zNC ≤ a ∧ zhas 13 (hk h a) = true) ∧ WP 124 0 65 L S (hput h a 13 (vA r)) Q) := wp_put3 rfl rfl
theorem s124_65 : WP 124 0 65 L [] h Q ↔ Q (.inl none) h := wp_ret rfl
/-! RepeatFree$Reader.line()V -/
theorem s125_0 : WP 125 0 0 [vA r, a1, a2, a3, a4, a5, a6] S h Q ↔ WP 125 0 1 [vA r, a1, a2, a3, a4, a5, a6] (vA r :: S) h Q := wp_aload rfl rfl
theorem s125_1 : WP 125 0 1 L (vA (some a) :: S) h Q ↔ ((hk h a).1 = 108 ∧ (zw S ≤ 8 ∧ WP 132 0 0 [vA (some a), vJ, vJ, vJ] [] h (zret 125 0 1 4 L S Q))) := wp_V1 (c := 108) rfl rfl (fun _ => rfl) rfl rfl (zcan_of rfl rfl) rfl rfl rfl
theorem s125_4 : WP 125 0 4 [a0, a1, a2, a3, a4, a5, a6] (vA r :: S) h Q ↔ WP 125 0 5 [a0, vA r, a2, a3, a4, a5, a6] S h Q := wp_astore rfl rfl rfl
theorem s125_5 : WP 125 0 5 [a0, vA r, a2, a3, a4, a5, a6] S h Q ↔ WP 125 0 6 [a0, vA r, a2, a3, a4, a5, a6] (vA r :: S) h Q := wp_aload rfl rfl
theorem s125_6 : WP 125 0 6 L S h Q ↔ WP 125 0 8 L (vA (some 6) :: S) h Q := wp_pl rfl rfl rfl
theorem s125_8 : WP 125 0 8 L (vA r0 :: vA (some a) :: S) h Q ↔ ((hk h a).1 = 117 ∧ (zw S ≤ 8 ∧ WP 315 0 0 [vA (some a), vA r0, vJ] [] h (zret 125 0 8 11 L S Q))) := wp_V1 (c := 117) rfl rfl (fun _ => rfl) rfl rfl (zcan_of rfl rfl) rfl rfl rfl
theorem s125_11 : WP 125 0 11 L (vI x :: S) h Q ↔ zif (x = 0) (WP 125 0 24 L S h Q) (WP 125 0 14 L S h Q) := wp_bE zc_eq rfl rfl rfl
theorem s125_14 : WP 125 0 14 [vA r, a1, a2, a3, a4, a5, a6] S h Q ↔ WP 125 0 15 [vA r, a1, a2, a3, a4, a5, a6] (vA r :: S) h Q := wp_aload rfl rfl
theorem s125_15 : WP 125 0 15 L (vA (some a) :: S) h Q ↔ (zhas 36 (hk h a) = true ∧ WP 125 0 18 L (hm h a 36 :: S) h Q) := wp_if rfl rfl rfl
theorem s125_18 : WP 125 0 18 L (vA (some a) :: S) h Q ↔ (zhas 13 (hk h a) = true ∧ WP 125 0 21 L (hm h a 13 :: S) h Q) := wp_if rfl rfl rfl
theorem s125_21n : WP 125 0 21 L (vA none :: S) h Q ↔ WP 125 0 79 L S h Q := wp_pl rfl rfl rfl
theorem s125_21 : WP 125 0 21 L (vA (some a) :: S) h Q ↔ (3 ≤ a ∧ WP 125 0 24 L S h Q) := wp_if rfl rfl rfl
theorem s125_24 : WP 125 0 24 [a0, vA r, a2, a3, a4, a5, a6] S h Q ↔ WP 125 0 25 [a0, vA r, a2, a3, a4, a5, a6] (vA r :: S) h Q := wp_aload rfl rfl
theorem s125_25 : WP 125 0 25 L S h Q ↔ WP 125 0 27 L (vA (some 14) :: S) h Q := wp_pl rfl rfl rfl
theorem s125_27 : WP 125 0 27 L (vA r0 :: vA (some a) :: S) h Q ↔ ((hk h a).1 = 117 ∧ (zw S ≤ 8 ∧ WP 315 0 0 [vA (some a), vA r0, vJ] [] h (zret 125 0 27 30 L S Q))) := wp_V1 (c := 117) rfl rfl (fun _ => rfl) rfl rfl (zcan_of rfl rfl) rfl rfl rfl
theorem s125_30 : WP 125 0 30 L (vI x :: S) h Q ↔ zif (x = 0) (WP 125 0 47 L S h Q) (WP 125 0 33 L S h Q) := wp_bE zc_eq rfl rfl rfl
theorem s125_33 : WP 125 0 33 [vA r, a1, a2, a3, a4, a5, a6] S h Q ↔ WP 125 0 34 [vA r, a1, a2, a3, a4, a5, a6] (vA r :: S) h Q := wp_aload rfl rfl
theorem s125_34 : WP 125 0 34 L (vA (some a) :: S) h Q ↔ (zhas 36 (hk h a) = true ∧ WP 125 0 37 L (hm h a 36 :: S) h Q) := wp_if rfl rfl rfl
theorem s125_37 : WP 125 0 37 L (vA (some a) :: S) h Q ↔ (zhas 10 (hk h a) = true ∧ WP 125 0 40 L (hm h a 10 :: S) h Q) := wp_if rfl rfl rfl
theorem s125_40 : WP 125 0 40 L (vA (some a) :: S) h Q ↔ ((hk h a).1 = 111 ∧ (zw S ≤ 8 ∧ WP 270 0 0 [vA (some a)] [] h (zret 125 0 40 43 L S Q))) := wp_V1 (c := 111) rfl rfl (fun _ => rfl) rfl rfl (zcan_of rfl rfl) rfl rfl rfl
theorem s125_43 : WP 125 0 43 L S h Q ↔ WP 125 0 44 L (vI 4 :: S) h Q := wp_pl rfl rfl rfl
theorem s125_44 : WP 125 0 44 L (vI y :: vI x :: S) h Q ↔ zif (x < y) (WP 125 0 79 L S h Q) (WP 125 0 47 L S h Q) := wp_bE zc_lt rfl rfl rfl
theorem s125_47 : WP 125 0 47 [a0, vA r, a2, a3, a4, a5, a6] S h Q ↔ WP 125 0 48 [a0, vA r, a2, a3, a4, a5, a6] (vA r :: S) h Q := wp_aload rfl rfl
theorem s125_48 : WP 125 0 48 L S h Q ↔ WP 125 0 50 L (vA (some 16) :: S) h Q := wp_pl rfl rfl rfl
theorem s125_50 : WP 125 0 50 L (vA r0 :: vA (some a) :: S) h Q ↔ ((hk h a).1 = 117 ∧ (zw S ≤ 8 ∧ WP 315 0 0 [vA (some a), vA r0, vJ] [] h (zret 125 0 50 53 L S Q))) := wp_V1 (c := 117) rfl rfl (fun _ => rfl) rfl rfl (zcan_of rfl rfl) rfl rfl rfl
theorem s125_53 : WP 125 0 53 L (vI x :: S) h Q ↔ zif (x = 0) (WP 125 0 70 L S h Q) (WP 125 0 56 L S h Q) := wp_bE zc_eq rfl rfl rfl
theorem s125_56 : WP 125 0 56 [vA r, a1, a2, a3, a4, a5, a6] S h Q ↔ WP 125 0 57 [vA r, a1, a2, a3, a4, a5, a6] (vA r :: S) h Q := wp_aload rfl rfl
theorem s125_57 : WP 125 0 57 L (vA (some a) :: S) h Q ↔ (zhas 36 (hk h a) = true ∧ WP 125 0 60 L (hm h a 36 :: S) h Q) := wp_if rfl rfl rfl
theorem s125_60 : WP 125 0 60 L (vA (some a) :: S) h Q ↔ (zhas 11 (hk h a) = true ∧ WP 125 0 63 L (hm h a 11 :: S) h Q) := wp_if rfl rfl rfl
theorem s125_63 : WP 125 0 63 L (vA (some a) :: S) h Q ↔ ((hk h a).1 = 111 ∧ (zw S ≤ 8 ∧ WP 270 0 0 [vA (some a)] [] h (zret 125 0 63 66 L S Q))) := wp_V1 (c := 111) rfl rfl (fun _ => rfl) rfl rfl (zcan_of rfl rfl) rfl rfl rfl
theorem s125_66 : WP 125 0 66 L S h Q ↔ WP 125 0 67 L (vI 4 :: S) h Q := wp_pl rfl rfl rfl
theorem s125_67 : WP 125 0 67 L (vI y :: vI x :: S) h Q ↔ zif (x < y) (WP 125 0 79 L S h Q) (WP 125 0 70 L S h Q) := wp_bE zc_lt rfl rfl rfl
theorem s125_70 : WP 125 0 70 [a0, vA r, a2, a3, a4, a5, a6] S h Q ↔ WP 125 0 71 [a0, vA r, a2, a3, a4, a5, a6] (vA r :: S) h Q := wp_aload rfl rfl
theorem s125_71 : WP 125 0 71 L S h Q ↔ WP 125 0 73 L (vA (some 18) :: S) h Q := wp_pl rfl rfl rfl
theorem s125_73 : WP 125 0 73 L (vA r0 :: vA (some a) :: S) h Q ↔ ((hk h a).1 = 117 ∧ (zw S ≤ 8 ∧ WP 315 0 0 [vA (some a), vA r0, vJ] [] h (zret 125 0 73 76 L S Q))) := wp_V1 (c := 117) rfl rfl (fun _ => rfl) rfl rfl (zcan_of rfl rfl) rfl rfl rfl
theorem s125_76 : WP 125 0 76 L (vI x :: S) h Q ↔ zif (x = 0) (WP 125 0 83 L S h Q) (WP 125 0 79 L S h Q) := wp_bE zc_eq rfl rfl rfl
theorem s125_79 : WP 125 0 79 L S h Q ↔ WP 125 0 80 L (vI 1 :: S) h Q := wp_pl rfl rfl rfl
theorem s125_80 : WP 125 0 80 L S h Q ↔ WP 125 0 84 L S h Q := wp_pl rfl rfl rfl
theorem s125_83 : WP 125 0 83 L S h Q ↔ WP 125 0 84 L (vI 0 :: S) h Q := wp_pl rfl rfl rfl
theorem s125_84 : WP 125 0 84 [a0, a1, a2, a3, a4, a5, a6] (vI x :: S) h Q ↔ WP 125 0 85 [a0, a1, vI x, a3, a4, a5, a6] S h Q := wp_istore rfl rfl rfl
theorem s125_85 : WP 125 0 85 [a0, a1, vI x, a3, a4, a5, a6] S h Q ↔ WP 125 0 86 [a0, a1, vI x, a3, a4, a5, a6] (vI x :: S) h Q := wp_iload rfl rfl
theorem s125_86 : WP 125 0 86 L (vI x :: S) h Q ↔ zif (x = 0) (WP 125 0 89 L S h Q) (WP 125 0 101 L S h Q) := wp_bN zc_eq rfl rfl rfl
theorem s125_89 : WP 125 0 89 L S h Q ↔ WP 125 0 92 L (vA (some (hn h)) :: S) (hnew h (109, 0) 7 zdf) Q := wp_pl rfl rfl rfl
theorem s125_92 : WP 125 0 92 L (vA r :: S) h Q ↔ WP 125 0 93 L (vA r :: vA r :: S) h Q := wp_pl rfl rfl rfl
theorem s125_92i : WP 125 0 92 L (vI x :: S) h Q ↔ WP 125 0 93 L (vI x :: vI x :: S) h Q := wp_pl rfl rfl rfl
theorem s125_93 : WP 125 0 93 [vA r, a1, a2, a3, a4, a5, a6] S h Q ↔ WP 125 0 94 [vA r, a1, a2, a3, a4, a5, a6] (vA r :: S) h Q := wp_aload rfl rfl
theorem s125_94 : WP 125 0 94 L (vA (some a) :: S) h Q ↔ (zhas 37 (hk h a) = true ∧ WP 125 0 97 L (hm h a 37 :: S) h Q) := wp_if rfl rfl rfl
theorem s125_97 : WP 125 0 97 L (vI x0 :: vA (some a) :: S) h Q ↔ ((zNC ≤ a ∧ 100 ≤ (hk h a).1) ∧ zw S ≤ 8 ∧ WP 133 0 0 [vA (some a), vI x0] [] h (zret 125 0 97 100 L S Q)) := wp_I rfl rfl rfl (zcan_of rfl rfl) rfl rfl rfl
theorem s125_100 : WP 125 0 100 L (vA (some a) :: S) h Q ↔ ((((120 ≤ (hk h a).1 ∧ (hk h a).1 ≤ 123) ∨ (hk h a).1 = 109)) ∧ Q (.inr a) h) := wp_athrow (fun _ => rfl) rfl
theorem s125_101 : WP 125 0 101 [vA r, a1, a2, a3, a4, a5, a6] S h Q ↔ WP 125 0 102 [vA r, a1, a2, a3, a4, a5, a6] (vA r :: S) h Q := wp_aload rfl rfl
theorem s125_102 : WP 125 0 102 L (vA r :: S) h Q ↔ WP 125 0 103 L (vA r :: vA r :: S) h Q := wp_pl rfl rfl rfl
theorem s125_102i : WP 125 0 102 L (vI x :: S) h Q ↔ WP 125 0 103 L (vI x :: vI x :: S) h Q := wp_pl rfl rfl rfl
theorem s125_103 : WP 125 0 103 L (vA (some a) :: S) h Q ↔ (zhas 37 (hk h a) = true ∧ WP 125 0 106 L (hm h a 37 :: S) h Q) := wp_if rfl rfl rfl
theorem s125_106 : WP 125 0 106 [a0, vA r, a2, a3, a4, a5, a6] S h Q ↔ WP 125 0 107 [a0, vA r, a2, a3, a4, a5, a6] (vA r :: S) h Q := wp_aload rfl rfl
theorem s125_107 : WP 125 0 107 L (vA (some a) :: S) h Q ↔ ((hk h a).1 = 117 ∧ (zw S ≤ 8 ∧ WP 323 0 0 [vA (some a)] [] h (zret 125 0 107 110 L S Q))) := wp_V1 (c := 117) rfl rfl (fun _ => rfl) rfl rfl (zcan_of rfl rfl) rfl rfl rfl
theorem s125_110 : WP 125 0 110 L (vI y :: vI x :: S) h Q ↔ WP 125 0 111 L (vI (wr (x + y)) :: S) h Q := wp_pl rfl rfl rfl
theorem s125_111 : WP 125 0 111 L (vI x :: vA (some a) :: S) h Q ↔ ((zNC ≤ a ∧ zhas 37 (hk h a) = true) ∧ WP 125 0 114 L S (hput h a 37 (vI x)) Q) := wp_put0 rfl rfl
theorem s125_114 : WP 125 0 114 [a0, vA r, a2, a3, a4, a5, a6] S h Q ↔ WP 125 0 115 [a0, vA r, a2, a3, a4, a5, a6] (vA r :: S) h Q := wp_aload rfl rfl
theorem s125_115 : WP 125 0 115 [a0, a1, a2, a3, a4, a5, a6] (vA r :: S) h Q ↔ WP 125 0 116 [a0, a1, a2, vA r, a4, a5, a6] S h Q := wp_astore rfl rfl rfl
theorem s125_116 : WP 125 0 116 L S h Q ↔ WP 125 0 117 L (vI (-1) :: S) h Q := wp_pl rfl rfl rfl
theorem s125_117 : WP 125 0 117 [a0, a1, a2, a3, a4, a5, a6] (vI x :: S) h Q ↔ WP 125 0 119 [a0, a1, a2, a3, vI x, a5, a6] S h Q := wp_istore rfl rfl rfl
theorem s125_119 : WP 125 0 119 [a0, a1, a2, vA r, a4, a5, a6] S h Q ↔ WP 125 0 120 [a0, a1, a2, vA r, a4, a5, a6] (vA r :: S) h Q := wp_aload rfl rfl
theorem s125_120 : WP 125 0 120 L (vA (some a) :: S) h Q ↔ ((hk h a).1 = 117 ∧ (zw S ≤ 8 ∧ WP 317 0 0 [vA (some a), vJ] [] h (zret 125 0 120 123 L S Q))) := wp_V1 (c := 117) rfl rfl (fun _ => rfl) rfl rfl (zcan_of rfl rfl) rfl rfl rfl
theorem s125_123 : WP 125 0 123 L (vI x :: S) h Q ↔ WP 125 0 (zlsw x 198 [(-791090288, 186), (107868, 171), (102976443, 156)]) L S h Q := wp_pl rfl rfl rfl
theorem s125_156 : WP 125 0 156 [a0, a1, a2, vA r, a4, a5, a6] S h Q ↔ WP 125 0 157 [a0, a1, a2, vA r, a4, a5, a6] (vA r :: S) h Q := wp_aload rfl rfl
theorem s125_157 : WP 125 0 157 L S h Q ↔ WP 125 0 159 L (vA (some 6) :: S) h Q := wp_pl rfl rfl rfl
theorem s125_159 : WP 125 0 159 L (vA r0 :: vA (some a) :: S) h Q ↔ ((hk h a).1 = 117 ∧ (zw S ≤ 8 ∧ WP 315 0 0 [vA (some a), vA r0, vJ] [] h (zret 125 0 159 162 L S Q))) := wp_V1 (c := 117) rfl rfl (fun _ => rfl) rfl rfl (zcan_of rfl rfl) rfl rfl rfl
theorem s125_162 : WP 125 0 162 L (vI x :: S) h Q ↔ zif (x = 0) (WP 125 0 198 L S h Q) (WP 125 0 165 L S h Q) := wp_bE zc_eq rfl rfl rfl
theorem s125_165 : WP 125 0 165 L S h Q ↔ WP 125 0 166 L (vI 0 :: S) h Q := wp_pl rfl rfl rfl
theorem s125_166 : WP 125 0 166 [a0, a1, a2, a3, a4, a5, a6] (vI x :: S) h Q ↔ WP 125 0 168 [a0, a1, a2, a3, vI x, a5, a6] S h Q := wp_istore rfl rfl rfl
theorem s125_168 : WP 125 0 168 L S h Q ↔ WP 125 0 198 L S h Q := wp_pl rfl rfl rfl
theorem s125_171 : WP 125 0 171 [a0, a1, a2, vA r, a4, a5, a6] S h Q ↔ WP 125 0 172 [a0, a1, a2, vA r, a4, a5, a6] (vA r :: S) h Q := wp_aload rfl rfl
theorem s125_172 : WP 125 0 172 L S h Q ↔ WP 125 0 174 L (vA (some 14) :: S) h Q := wp_pl rfl rfl rfl
theorem s125_174 : WP 125 0 174 L (vA r0 :: vA (some a) :: S) h Q ↔ ((hk h a).1 = 117 ∧ (zw S ≤ 8 ∧ WP 315 0 0 [vA (some a), vA r0, vJ] [] h (zret 125 0 174 177 L S Q))) := wp_V1 (c := 117) rfl rfl (fun _ => rfl) rfl rfl (zcan_of rfl rfl) rfl rfl rfl
theorem s125_177 : WP 125 0 177 L (vI x :: S) h Q ↔ zif (x = 0) (WP 125 0 198 L S h Q) (WP 125 0 180 L S h Q) := wp_bE zc_eq rfl rfl rfl
theorem s125_180 : WP 125 0 180 L S h Q ↔ WP 125 0 181 L (vI 1 :: S) h Q := wp_pl rfl rfl rfl
theorem s125_181 : WP 125 0 181 [a0, a1, a2, a3, a4, a5, a6] (vI x :: S) h Q ↔ WP 125 0 183 [a0, a1, a2, a3, vI x, a5, a6] S h Q := wp_istore rfl rfl rfl
theorem s125_183 : WP 125 0 183 L S h Q ↔ WP 125 0 198 L S h Q := wp_pl rfl rfl rfl
theorem s125_186 : WP 125 0 186 [a0, a1, a2, vA r, a4, a5, a6] S h Q ↔ WP 125 0 187 [a0, a1, a2, vA r, a4, a5, a6] (vA r :: S) h Q := wp_aload rfl rfl
theorem s125_187 : WP 125 0 187 L S h Q ↔ WP 125 0 189 L (vA (some 16) :: S) h Q := wp_pl rfl rfl rfl
theorem s125_189 : WP 125 0 189 L (vA r0 :: vA (some a) :: S) h Q ↔ ((hk h a).1 = 117 ∧ (zw S ≤ 8 ∧ WP 315 0 0 [vA (some a), vA r0, vJ] [] h (zret 125 0 189 192 L S Q))) := wp_V1 (c := 117) rfl rfl (fun _ => rfl) rfl rfl (zcan_of rfl rfl) rfl rfl rfl
theorem s125_192 : WP 125 0 192 L (vI x :: S) h Q ↔ zif (x = 0) (WP 125 0 198 L S h Q) (WP 125 0 195 L S h Q) := wp_bE zc_eq rfl rfl rfl
theorem s125_195 : WP 125 0 195 L S h Q ↔ WP 125 0 196 L (vI 2 :: S) h Q := wp_pl rfl rfl rfl
theorem s125_196 : WP 125 0 196 [a0, a1, a2, a3, a4, a5, a6] (vI x :: S) h Q ↔ WP 125 0 198 [a0, a1, a2, a3, vI x, a5, a6] S h Q := wp_istore rfl rfl rfl
theorem s125_198 : WP 125 0 198 [a0, a1, a2, a3, vI x, a5, a6] S h Q ↔ WP 125 0 200 [a0, a1, a2, a3, vI x, a5, a6] (vI x :: S) h Q := wp_iload rfl rfl
theorem s125_200 : WP 125 0 200 L (vI x :: S) h Q ↔ WP 125 0 (if 2 < x then 280 else zsw x 0 280 [228, 235, 242]) L S h Q := wp_pl rfl rfl rfl
theorem s125_228 : WP 125 0 228 [vA r, a1, a2, a3, a4, a5, a6] S h Q ↔ WP 125 0 229 [vA r, a1, a2, a3, a4, a5, a6] (vA r :: S) h Q := wp_aload rfl rfl
theorem s125_229 : WP 125 0 229 L (vA (some a) :: S) h Q ↔ ((hk h a).1 = 108 ∧ (zw S ≤ 8 ∧ WP 124 0 0 [vA (some a), vJ, vJ] [] h (zret 125 0 229 232 L S Q))) := wp_V1 (c := 108) rfl rfl (fun _ => rfl) rfl rfl (zcan_of rfl rfl) rfl rfl rfl
theorem s125_232 : WP 125 0 232 L S h Q ↔ WP 125 0 342 L S h Q := wp_pl rfl rfl rfl
theorem s125_235 : WP 125 0 235 [vA r, a1, a2, a3, a4, a5, a6] S h Q ↔ WP 125 0 236 [vA r, a1, a2, a3, a4, a5, a6] (vA r :: S) h Q := wp_aload rfl rfl
theorem s125_236 : WP 125 0 236 L (vA (some a) :: S) h Q ↔ ((hk h a).1 = 108 ∧ (zw S ≤ 8 ∧ WP 126 0 0 [vA (some a), vJ, vJ, vJ, vJ, vJ] [] h (zret 125 0 236 239 L S Q))) := wp_V1 (c := 108) rfl rfl (fun _ => rfl) rfl rfl (zcan_of rfl rfl) rfl rfl rfl
theorem s125_239 : WP 125 0 239 L S h Q ↔ WP 125 0 342 L S h Q := wp_pl rfl rfl rfl
theorem s125_242 : WP 125 0 242 [vA r, a1, a2, a3, a4, a5, a6] S h Q ↔ WP 125 0 243 [vA r, a1, a2, a3, a4, a5, a6] (vA r :: S) h Q := wp_aload rfl rfl
theorem s125_243 : WP 125 0 243 L (vA (some a) :: S) h Q ↔ ((hk h a).1 = 108 ∧ (zw S ≤ 8 ∧ WP 127 0 0 [vA (some a), vJ] [] h (zret 125 0 243 246 L S Q))) := wp_V1 (c := 108) rfl rfl (fun _ => rfl) rfl rfl (zcan_of rfl rfl) rfl rfl rfl
theorem s125_246 : WP 125 0 246 [a0, a1, a2, a3, a4, a5, a6] (vA r :: S) h Q ↔ WP 125 0 248 [a0, a1, a2, a3, a4, vA r, a6] S h Q := wp_astore rfl rfl rfl
theorem s125_248 : WP 125 0 248 [vA r, a1, a2, a3, a4, a5, a6] S h Q ↔ WP 125 0 249 [vA r, a1, a2, a3, a4, a5, a6] (vA r :: S) h Q := wp_aload rfl rfl
theorem s125_249 : WP 125 0 249 L (vA (some a) :: S) h Q ↔ (zhas 36 (hk h a) = true ∧ WP 125 0 252 L (hm h a 36 :: S) h Q) := wp_if rfl rfl rfl
theorem s125_252 : WP 125 0 252 L (vA (some a) :: S) h Q ↔ (zhas 11 (hk h a) = true ∧ WP 125 0 255 L (hm h a 11 :: S) h Q) := wp_if rfl rfl rfl
theorem s125_255 : WP 125 0 255 L S h Q ↔ WP 125 0 258 L (vA (some (hn h)) :: S) (hnew h (105, 0) 6 zdf) Q := wp_pl rfl rfl rfl
theorem s125_258 : WP 125 0 258 L (vA r :: S) h Q ↔ WP 125 0 259 L (vA r :: vA r :: S) h Q := wp_pl rfl rfl rfl
theorem s125_258i : WP 125 0 258 L (vI x :: S) h Q ↔ WP 125 0 259 L (vI x :: vI x :: S) h Q := wp_pl rfl rfl rfl
theorem s125_259 : WP 125 0 259 [a0, a1, a2, a3, a4, vA r, a6] S h Q ↔ WP 125 0 261 [a0, a1, a2, a3, a4, vA r, a6] (vA r :: S) h Q := wp_aload rfl rfl
theorem s125_261 : WP 125 0 261 [vA r, a1, a2, a3, a4, a5, a6] S h Q ↔ WP 125 0 262 [vA r, a1, a2, a3, a4, a5, a6] (vA r :: S) h Q := wp_aload rfl rfl
theorem s125_262 : WP 125 0 262 L S h Q ↔ WP 125 0 264 L (vI 120 :: S) h Q := wp_pl rfl rfl rfl
theorem s125_264 : WP 125 0 264 L S h Q ↔ WP 125 0 265 L (vI 3 :: S) h Q := wp_pl rfl rfl rfl
theorem s125_265 : WP 125 0 265 L S h Q ↔ WP 125 0 267 L (vI 6 :: S) h Q := wp_pl rfl rfl rfl
theorem s125_267 : WP 125 0 267 L (vI x2 :: vI x1 :: vI x0 :: vA (some a) :: S) h Q ↔ ((hk h a).1 = 108 ∧ (zw S ≤ 8 ∧ WP 123 0 0 [vA (some a), vI x0, vI x1, vI x2, vJ, vJ, vJ] [] h (zret 125 0 267 270 L S Q))) := wp_V1 (c := 108) rfl rfl (fun _ => rfl) rfl rfl (zcan_of rfl rfl) rfl rfl rfl
theorem s125_270 : WP 125 0 270 L (vA r1 :: vA r0 :: vA (some a) :: S) h Q ↔ ((zNC ≤ a ∧ 100 ≤ (hk h a).1) ∧ zw S ≤ 8 ∧ WP 111 0 0 [vA (some a), vA r0, vA r1] [] h (zret 125 0 270 273 L S Q)) := wp_I rfl rfl rfl (zcan_of rfl rfl) rfl rfl rfl
theorem s125_273 : WP 125 0 273 L (vA r0 :: vA (some a) :: S) h Q ↔ ((hk h a).1 = 111 ∧ (zw S ≤ 8 ∧ WP 255 0 0 [vA (some a), vA r0] [] h (zret 125 0 273 276 L S Q))) := wp_V1 (c := 111) rfl rfl (fun _ => rfl) rfl rfl (zcan_of rfl rfl) rfl rfl rfl
theorem s125_276 : WP 125 0 276 L (vA r :: S) h Q ↔ WP 125 0 277 L S h Q := wp_pl rfl rfl rfl
theorem s125_276i : WP 125 0 276 L (vI x :: S) h Q ↔ WP 125 0 277 L S h Q := wp_pl rfl rfl rfl
theorem s125_277 : WP 125 0 277 L S h Q ↔ WP 125 0 342 L S h Q := wp_pl rfl rfl rfl
theorem s125_280 : WP 125 0 280 [vA r, a1, a2, a3, a4, a5, a6] S h Q ↔ WP 125 0 281 [vA r, a1, a2, a3, a4, a5, a6] (vA r :: S) h Q := wp_aload rfl rfl
theorem s125_281 : WP 125 0 281 L (vA (some a) :: S) h Q ↔ ((hk h a).1 = 108 ∧ (zw S ≤ 8 ∧ WP 132 0 0 [vA (some a), vJ, vJ, vJ] [] h (zret 125 0 281 284 L S Q))) := wp_V1 (c := 108) rfl rfl (fun _ => rfl) rfl rfl (zcan_of rfl rfl) rfl rfl rfl
theorem s125_284 : WP 125 0 284 [a0, a1, a2, a3, a4, a5, a6] (vA r :: S) h Q ↔ WP 125 0 286 [a0, a1, a2, a3, a4, vA r, a6] S h Q := wp_astore rfl rfl rfl
theorem s125_286 : WP 125 0 286 [vA r, a1, a2, a3, a4, a5, a6] S h Q ↔ WP 125 0 287 [vA r, a1, a2, a3, a4, a5, a6] (vA r :: S) h Q := wp_aload rfl rfl
theorem s125_287 : WP 125 0 287 L (vA (some a) :: S) h Q ↔ (zhas 36 (hk h a) = true ∧ WP 125 0 290 L (hm h a 36 :: S) h Q) := wp_if rfl rfl rfl
theorem s125_290 : WP 125 0 290 [a0, a1, a2, a3, a4, vA r, a6] S h Q ↔ WP 125 0 292 [a0, a1, a2, a3, a4, vA r, a6] (vA r :: S) h Q := wp_aload rfl rfl
theorem s125_292 : WP 125 0 292 L (vA r0 :: vA (some a) :: S) h Q ↔ ((hk h a).1 = 101 ∧ (zw S ≤ 8 ∧ WP 95 0 0 [vA (some a), vA r0, vJ, vJ] [] h (zret 125 0 292 295 L S Q))) := wp_V1 (c := 101) rfl rfl (fun _ => rfl) rfl rfl (zcan_of rfl rfl) rfl rfl rfl
theorem s125_295 : WP 125 0 295 [a0, a1, a2, a3, a4, a5, a6] (vA r :: S) h Q ↔ WP 125 0 297 [a0, a1, a2, a3, a4, a5, vA r] S h Q := wp_astore rfl rfl rfl
theorem s125_297 : WP 125 0 297 [a0, a1, a2, a3, a4, a5, vA r] S h Q ↔ WP 125 0 299 [a0, a1, a2, a3, a4, a5, vA r] (vA r :: S) h Q := wp_aload rfl rfl
theorem s125_299n : WP 125 0 299 L (vA none :: S) h Q ↔ WP 125 0 310 L S h Q := wp_pl rfl rfl rfl
theorem s125_299 : WP 125 0 299 L (vA (some a) :: S) h Q ↔ (3 ≤ a ∧ WP 125 0 302 L S h Q) := wp_if rfl rfl rfl
theorem s125_302 : WP 125 0 302 [a0, a1, a2, a3, a4, a5, vA r] S h Q ↔ WP 125 0 304 [a0, a1, a2, a3, a4, a5, vA r] (vA r :: S) h Q := wp_aload rfl rfl
theorem s125_304 : WP 125 0 304 L (vA (some a) :: S) h Q ↔ (zhas 22 (hk h a) = true ∧ WP 125 0 307 L (hm h a 22 :: S) h Q) := wp_if rfl rfl rfl
theorem s125_307 : WP 125 0 307 L (vI x :: S) h Q ↔ zif (x = 0) (WP 125 0 322 L S h Q) (WP 125 0 310 L S h Q) := wp_bE zc_eq rfl rfl rfl
theorem s125_310 : WP 125 0 310 L S h Q ↔ WP 125 0 313 L (vA (some (hn h)) :: S) (hnew h (109, 0) 7 zdf) Q := wp_pl rfl rfl rfl
theorem s125_313 : WP 125 0 313 L (vA r :: S) h Q ↔ WP 125 0 314 L (vA r :: vA r :: S) h Q := wp_pl rfl rfl rfl
theorem s125_313i : WP 125 0 313 L (vI x :: S) h Q ↔ WP 125 0 314 L (vI x :: vI x :: S) h Q := wp_pl rfl rfl rfl
theorem s125_314 : WP 125 0 314 [vA r, a1, a2, a3, a4, a5, a6] S h Q ↔ WP 125 0 315 [vA r, a1, a2, a3, a4, a5, a6] (vA r :: S) h Q := wp_aload rfl rfl
theorem s125_315 : WP 125 0 315 L (vA (some a) :: S) h Q ↔ (zhas 37 (hk h a) = true ∧ WP 125 0 318 L (hm h a 37 :: S) h Q) := wp_if rfl rfl rfl
theorem s125_318 : WP 125 0 318 L (vI x0 :: vA (some a) :: S) h Q ↔ ((zNC ≤ a ∧ 100 ≤ (hk h a).1) ∧ zw S ≤ 8 ∧ WP 133 0 0 [vA (some a), vI x0] [] h (zret 125 0 318 321 L S Q)) := wp_I rfl rfl rfl (zcan_of rfl rfl) rfl rfl rfl
theorem s125_321 : WP 125 0 321 L (vA (some a) :: S) h Q ↔ ((((120 ≤ (hk h a).1 ∧ (hk h a).1 ≤ 123) ∨ (hk h a).1 = 109)) ∧ Q (.inr a) h) := wp_athrow (fun _ => rfl) rfl
theorem s125_322 : WP 125 0 322 [vA r, a1, a2, a3, a4, a5, a6] S h Q ↔ WP 125 0 323 [vA r, a1, a2, a3, a4, a5, a6] (vA r :: S) h Q := wp_aload rfl rfl
theorem s125_323 : WP 125 0 323 L (vA r :: S) h Q ↔ WP 125 0 324 L (vA r :: vA r :: S) h Q := wp_pl rfl rfl rfl
theorem s125_323i : WP 125 0 323 L (vI x :: S) h Q ↔ WP 125 0 324 L (vI x :: vI x :: S) h Q := wp_pl rfl rfl rfl
theorem s125_324 : WP 125 0 324 L (vA (some a) :: S) h Q ↔ (zhas 37 (hk h a) = true ∧ WP 125 0 327 L (hm h a 37 :: S) h Q) := wp_if rfl rfl rfl
theorem s125_327 : WP 125 0 327 [a0, a1, a2, a3, a4, vA r, a6] S h Q ↔ WP 125 0 329 [a0, a1, a2, a3, a4, vA r, a6] (vA r :: S) h Q := wp_aload rfl rfl
theorem s125_329 : WP 125 0 329 L (vA (some a) :: S) h Q ↔ ((hk h a).1 = 117 ∧ (zw S ≤ 8 ∧ WP 323 0 0 [vA (some a)] [] h (zret 125 0 329 332 L S Q))) := wp_V1 (c := 117) rfl rfl (fun _ => rfl) rfl rfl (zcan_of rfl rfl) rfl rfl rfl
theorem s125_332 : WP 125 0 332 L (vI y :: vI x :: S) h Q ↔ WP 125 0 333 L (vI (wr (x + y)) :: S) h Q := wp_pl rfl rfl rfl
theorem s125_333 : WP 125 0 333 L (vI x :: vA (some a) :: S) h Q ↔ ((zNC ≤ a ∧ zhas 37 (hk h a) = true) ∧ WP 125 0 336 L S (hput h a 37 (vI x)) Q) := wp_put0 rfl rfl
theorem s125_336 : WP 125 0 336 [a0, a1, a2, a3, a4, a5, vA r] S h Q ↔ WP 125 0 338 [a0, a1, a2, a3, a4, a5, vA r] (vA r :: S) h Q := wp_aload rfl rfl
theorem s125_338 : WP 125 0 338 L S h Q ↔ WP 125 0 339 L (vI 1 :: S) h Q := wp_pl rfl rfl rfl
theorem s125_339 : WP 125 0 339 L (vI x :: vA (some a) :: S) h Q ↔ ((zNC ≤ a ∧ zhas 22 (hk h a) = true ∧ (x = 0 ∨ x = 1)) ∧ WP 125 0 342 L S (hput h a 22 (vI x)) Q) := wp_put1 rfl rfl
theorem s125_342 : WP 125 0 342 L [] h Q ↔ Q (.inl none) h := wp_ret rfl
/-! RepeatFree$Reader.map()V -/
theorem s126_0 : WP 126 0 0 L S h Q ↔ WP 126 0 3 L (vA (some (hn h)) :: S) (hnew h (104, 0) 2 zdf) Q := wp_pl rfl rfl rfl
theorem s126_3 : WP 126 0 3 L (vA r :: S) h Q ↔ WP 126 0 4 L (vA r :: vA r :: S) h Q := wp_pl rfl rfl rfl
theorem s126_3i : WP 126 0 3 L (vI x :: S) h Q ↔ WP 126 0 4 L (vI x :: vI x :: S) h Q := wp_pl rfl rfl rfl
theorem s126_4 : WP 126 0 4 [vA r, a1, a2, a3, a4, a5] S h Q ↔ WP 126 0 5 [vA r, a1, a2, a3, a4, a5] (vA r :: S) h Q := wp_aload rfl rfl
theorem s126_5 : WP 126 0 5 L (vA (some a) :: S) h Q ↔ ((hk h a).1 = 108 ∧ (zw S ≤ 8 ∧ WP 127 0 0 [vA (some a), vJ] [] h (zret 126 0 5 8 L S Q))) := wp_V1 (c := 108) rfl rfl (fun _ => rfl) rfl rfl (zcan_of rfl rfl) rfl rfl rfl
theorem s126_8 : WP 126 0 8 L (vA r0 :: vA (some a) :: S) h Q ↔ ((zNC ≤ a ∧ 100 ≤ (hk h a).1) ∧ zw S ≤ 8 ∧ WP 106 0 0 [vA (some a), vA r0] [] h (zret 126 0 8 11 L S Q)) := wp_I rfl rfl rfl (zcan_of rfl rfl) rfl rfl rfl
theorem s126_11 : WP 126 0 11 [a0, a1, a2, a3, a4, a5] (vA r :: S) h Q ↔ WP 126 0 12 [a0, vA r, a2, a3, a4, a5] S h Q := wp_astore rfl rfl rfl
theorem s126_12 : WP 126 0 12 L S h Q ↔ WP 126 0 13 L (vI 0 :: S) h Q := wp_pl rfl rfl rfl
theorem s126_13 : WP 126 0 13 [a0, a1, a2, a3, a4, a5] (vI x :: S) h Q ↔ WP 126 0 14 [a0, a1, vI x, a3, a4, a5] S h Q := wp_istore rfl rfl rfl
theorem s126_14 : WP 126 0 14 [a0, a1, vI x, a3, a4, a5] S h Q ↔ WP 126 0 15 [a0, a1, vI x, a3, a4, a5] (vI x :: S) h Q := wp_iload rfl rfl
theorem s126_15 : WP 126 0 15 [vA r, a1, a2, a3, a4, a5] S h Q ↔ WP 126 0 16 [vA r, a1, a2, a3, a4, a5] (vA r :: S) h Q := wp_aload rfl rfl
theorem s126_16 : WP 126 0 16 L (vA (some a) :: S) h Q ↔ (zhas 36 (hk h a) = true ∧ WP 126 0 19 L (hm h a 36 :: S) h Q) := wp_if rfl rfl rfl
theorem s126_19 : WP 126 0 19 L (vA (some a) :: S) h Q ↔ (zhas 12 (hk h a) = true ∧ WP 126 0 22 L (hm h a 12 :: S) h Q) := wp_if rfl rfl rfl
theorem s126_22 : WP 126 0 22 L (vI y :: vI x :: S) h Q ↔ zif (x < y) (WP 126 0 25 L S h Q) (WP 126 0 147 L S h Q) := wp_bN zc_lt rfl rfl rfl
theorem s126_25 : WP 126 0 25 [vA r, a1, a2, a3, a4, a5] S h Q ↔ WP 126 0 26 [vA r, a1, a2, a3, a4, a5] (vA r :: S) h Q := wp_aload rfl rfl
theorem s126_26 : WP 126 0 26 L (vA (some a) :: S) h Q ↔ ((hk h a).1 = 108 ∧ (zw S ≤ 8 ∧ WP 132 0 0 [vA (some a), vJ, vJ, vJ] [] h (zret 126 0 26 29 L S Q))) := wp_V1 (c := 108) rfl rfl (fun _ => rfl) rfl rfl (zcan_of rfl rfl) rfl rfl rfl
theorem s126_29 : WP 126 0 29 [a0, a1, a2, a3, a4, a5] (vA r :: S) h Q ↔ WP 126 0 30 [a0, a1, a2, vA r, a4, a5] S h Q := wp_astore rfl rfl rfl
theorem s126_30 : WP 126 0 30 [a0, a1, a2, vA r, a4, a5] S h Q ↔ WP 126 0 31 [a0, a1, a2, vA r, a4, a5] (vA r :: S) h Q := wp_aload rfl rfl
theorem s126_31 : WP 126 0 31 L (vA (some a) :: S) h Q ↔ ((hk h a).1 = 117 ∧ (zw S ≤ 8 ∧ WP 323 0 0 [vA (some a)] [] h (zret 126 0 31 34 L S Q))) := wp_V1 (c := 117) rfl rfl (fun _ => rfl) rfl rfl (zcan_of rfl rfl) rfl rfl rfl
theorem s126_34 : WP 126 0 34 L S h Q ↔ WP 126 0 35 L (vI 1 :: S) h Q := wp_pl rfl rfl rfl
theorem s126_35 : WP 126 0 35 L (vI y :: vI x :: S) h Q ↔ zif (x = y) (WP 126 0 38 L S h Q) (WP 126 0 50 L S h Q) := wp_bN zc_eq rfl rfl rfl
theorem s126_38 : WP 126 0 38 [a0, a1, a2, vA r, a4, a5] S h Q ↔ WP 126 0 39 [a0, a1, a2, vA r, a4, a5] (vA r :: S) h Q := wp_aload rfl rfl
theorem s126_39 : WP 126 0 39 L S h Q ↔ WP 126 0 40 L (vI 0 :: S) h Q := wp_pl rfl rfl rfl
theorem s126_40 : WP 126 0 40 L (vI x0 :: vA (some a) :: S) h Q ↔ ((hk h a).1 = 117 ∧ (zw S ≤ 8 ∧ WP 310 0 0 [vA (some a), vI x0] [] h (zret 126 0 40 43 L S Q))) := wp_V1 (c := 117) rfl rfl (fun _ => rfl) rfl rfl (zcan_of rfl rfl) rfl rfl rfl
theorem s126_43 : WP 126 0 43 L S h Q ↔ WP 126 0 45 L (vI 97 :: S) h Q := wp_pl rfl rfl rfl
theorem s126_45 : WP 126 0 45 [a0, a1, vI x, a3, a4, a5] S h Q ↔ WP 126 0 46 [a0, a1, vI x, a3, a4, a5] (vI x :: S) h Q := wp_iload rfl rfl
theorem s126_46 : WP 126 0 46 L (vI y :: vI x :: S) h Q ↔ WP 126 0 47 L (vI (wr (x + y)) :: S) h Q := wp_pl rfl rfl rfl
theorem s126_47 : WP 126 0 47 L (vI y :: vI x :: S) h Q ↔ zif (x = y) (WP 126 0 62 L S h Q) (WP 126 0 50 L S h Q) := wp_bE zc_eq rfl rfl rfl
theorem s126_50 : WP 126 0 50 L S h Q ↔ WP 126 0 53 L (vA (some (hn h)) :: S) (hnew h (109, 0) 7 zdf) Q := wp_pl rfl rfl rfl
theorem s126_53 : WP 126 0 53 L (vA r :: S) h Q ↔ WP 126 0 54 L (vA r :: vA r :: S) h Q := wp_pl rfl rfl rfl
theorem s126_53i : WP 126 0 53 L (vI x :: S) h Q ↔ WP 126 0 54 L (vI x :: vI x :: S) h Q := wp_pl rfl rfl rfl
theorem s126_54 : WP 126 0 54 [vA r, a1, a2, a3, a4, a5] S h Q ↔ WP 126 0 55 [vA r, a1, a2, a3, a4, a5] (vA r :: S) h Q := wp_aload rfl rfl
theorem s126_55 : WP 126 0 55 L (vA (some a) :: S) h Q ↔ (zhas 37 (hk h a) = true ∧ WP 126 0 58 L (hm h a 37 :: S) h Q) := wp_if rfl rfl rfl
theorem s126_58 : WP 126 0 58 L (vI x0 :: vA (some a) :: S) h Q ↔ ((zNC ≤ a ∧ 100 ≤ (hk h a).1) ∧ zw S ≤ 8 ∧ WP 133 0 0 [vA (some a), vI x0] [] h (zret 126 0 58 61 L S Q)) := wp_I rfl rfl rfl (zcan_of rfl rfl) rfl rfl rfl
theorem s126_61 : WP 126 0 61 L (vA (some a) :: S) h Q ↔ ((((120 ≤ (hk h a).1 ∧ (hk h a).1 ≤ 123) ∨ (hk h a).1 = 109)) ∧ Q (.inr a) h) := wp_athrow (fun _ => rfl) rfl
theorem s126_62 : WP 126 0 62 [vA r, a1, a2, a3, a4, a5] S h Q ↔ WP 126 0 63 [vA r, a1, a2, a3, a4, a5] (vA r :: S) h Q := wp_aload rfl rfl
theorem s126_63 : WP 126 0 63 L (vA r :: S) h Q ↔ WP 126 0 64 L (vA r :: vA r :: S) h Q := wp_pl rfl rfl rfl
theorem s126_63i : WP 126 0 63 L (vI x :: S) h Q ↔ WP 126 0 64 L (vI x :: vI x :: S) h Q := wp_pl rfl rfl rfl
theorem s126_64 : WP 126 0 64 L (vA (some a) :: S) h Q ↔ (zhas 37 (hk h a) = true ∧ WP 126 0 67 L (hm h a 37 :: S) h Q) := wp_if rfl rfl rfl
theorem s126_67 : WP 126 0 67 L S h Q ↔ WP 126 0 68 L (vI 1 :: S) h Q := wp_pl rfl rfl rfl
theorem s126_68 : WP 126 0 68 L (vI y :: vI x :: S) h Q ↔ WP 126 0 69 L (vI (wr (x + y)) :: S) h Q := wp_pl rfl rfl rfl
theorem s126_69 : WP 126 0 69 L (vI x :: vA (some a) :: S) h Q ↔ ((zNC ≤ a ∧ zhas 37 (hk h a) = true) ∧ WP 126 0 72 L S (hput h a 37 (vI x)) Q) := wp_put0 rfl rfl
theorem s126_72 : WP 126 0 72 [vA r, a1, a2, a3, a4, a5] S h Q ↔ WP 126 0 73 [vA r, a1, a2, a3, a4, a5] (vA r :: S) h Q := wp_aload rfl rfl
theorem s126_73 : WP 126 0 73 L S h Q ↔ WP 126 0 75 L (vI 97 :: S) h Q := wp_pl rfl rfl rfl
theorem s126_75 : WP 126 0 75 [vA r, a1, a2, a3, a4, a5] S h Q ↔ WP 126 0 76 [vA r, a1, a2, a3, a4, a5] (vA r :: S) h Q := wp_aload rfl rfl
theorem s126_76 : WP 126 0 76 L (vA (some a) :: S) h Q ↔ (zhas 36 (hk h a) = true ∧ WP 126 0 79 L (hm h a 36 :: S) h Q) := wp_if rfl rfl rfl
theorem s126_79 : WP 126 0 79 L (vA (some a) :: S) h Q ↔ (zhas 12 (hk h a) = true ∧ WP 126 0 82 L (hm h a 12 :: S) h Q) := wp_if rfl rfl rfl
theorem s126_82 : WP 126 0 82 L S h Q ↔ WP 126 0 84 L (vI 6 :: S) h Q := wp_pl rfl rfl rfl
theorem s126_84 : WP 126 0 84 L (vI x2 :: vI x1 :: vI x0 :: vA (some a) :: S) h Q ↔ ((hk h a).1 = 108 ∧ (zw S ≤ 8 ∧ WP 123 0 0 [vA (some a), vI x0, vI x1, vI x2, vJ, vJ, vJ] [] h (zret 126 0 84 87 L S Q))) := wp_V1 (c := 108) rfl rfl (fun _ => rfl) rfl rfl (zcan_of rfl rfl) rfl rfl rfl
theorem s126_87 : WP 126 0 87 [a0, a1, a2, a3, a4, a5] (vA r :: S) h Q ↔ WP 126 0 89 [a0, a1, a2, a3, vA r, a5] S h Q := wp_astore rfl rfl rfl
theorem s126_89 : WP 126 0 89 [a0, vA r, a2, a3, a4, a5] S h Q ↔ WP 126 0 90 [a0, vA r, a2, a3, a4, a5] (vA r :: S) h Q := wp_aload rfl rfl
theorem s126_90 : WP 126 0 90 L (vA (some a) :: S) h Q ↔ (zhas 20 (hk h a) = true ∧ WP 126 0 93 L (hm h a 20 :: S) h Q) := wp_if rfl rfl rfl
theorem s126_93 : WP 126 0 93 [a0, a1, vI x, a3, a4, a5] S h Q ↔ WP 126 0 94 [a0, a1, vI x, a3, a4, a5] (vI x :: S) h Q := wp_iload rfl rfl
theorem s126_94 : WP 126 0 94 [a0, a1, a2, a3, vA r, a5] S h Q ↔ WP 126 0 96 [a0, a1, a2, a3, vA r, a5] (vA r :: S) h Q := wp_aload rfl rfl
theorem s126_96 : WP 126 0 96 L (vA (some a) :: S) h Q ↔ ((hk h a).1 = 117 ∧ (zw S ≤ 8 ∧ WP 323 0 0 [vA (some a)] [] h (zret 126 0 96 99 L S Q))) := wp_V1 (c := 117) rfl rfl (fun _ => rfl) rfl rfl (zcan_of rfl rfl) rfl rfl rfl
theorem s126_99 : WP 126 0 99 L (vI x :: S) h Q ↔ ((0 ≤ x ∧ x ≤ 1000000) ∧ WP 126 0 101 L (vA (some (hn h)) :: S) (hnew h (2, x.toNat) x.toNat (fun _ => vI 0)) Q) := wp_if rfl rfl rfl
theorem s126_101 : WP 126 0 101 L (vA r :: vI x :: vA (some a) :: S) h Q ↔ (((5 ≤ (hk h a).1 ∧ (hk h a).1 ≤ 7) ∧ (0 ≤ x ∧ x < ((hk h a).2 : Int)) ∧ zNC ≤ a ∧ zref h a r) ∧ WP 126 0 102 L S (hput h a x.toNat (vA r)) Q) := wp_aast rfl
theorem s126_102 : WP 126 0 102 L S h Q ↔ WP 126 0 103 L (vI 0 :: S) h Q := wp_pl rfl rfl rfl
theorem s126_103 : WP 126 0 103 [a0, a1, a2, a3, a4, a5] (vI x :: S) h Q ↔ WP 126 0 105 [a0, a1, a2, a3, a4, vI x] S h Q := wp_istore rfl rfl rfl
theorem s126_105 : WP 126 0 105 [a0, a1, a2, a3, a4, vI x] S h Q ↔ WP 126 0 107 [a0, a1, a2, a3, a4, vI x] (vI x :: S) h Q := wp_iload rfl rfl
theorem s126_107 : WP 126 0 107 [a0, a1, a2, a3, vA r, a5] S h Q ↔ WP 126 0 109 [a0, a1, a2, a3, vA r, a5] (vA r :: S) h Q := wp_aload rfl rfl
theorem s126_109 : WP 126 0 109 L (vA (some a) :: S) h Q ↔ ((hk h a).1 = 117 ∧ (zw S ≤ 8 ∧ WP 323 0 0 [vA (some a)] [] h (zret 126 0 109 112 L S Q))) := wp_V1 (c := 117) rfl rfl (fun _ => rfl) rfl rfl (zcan_of rfl rfl) rfl rfl rfl
theorem s126_112 : WP 126 0 112 L (vI y :: vI x :: S) h Q ↔ zif (x < y) (WP 126 0 115 L S h Q) (WP 126 0 141 L S h Q) := wp_bN zc_lt rfl rfl rfl
theorem s126_115 : WP 126 0 115 [a0, vA r, a2, a3, a4, a5] S h Q ↔ WP 126 0 116 [a0, vA r, a2, a3, a4, a5] (vA r :: S) h Q := wp_aload rfl rfl
theorem s126_116 : WP 126 0 116 L (vA (some a) :: S) h Q ↔ (zhas 20 (hk h a) = true ∧ WP 126 0 119 L (hm h a 20 :: S) h Q) := wp_if rfl rfl rfl
theorem s126_119 : WP 126 0 119 [a0, a1, vI x, a3, a4, a5] S h Q ↔ WP 126 0 120 [a0, a1, vI x, a3, a4, a5] (vI x :: S) h Q := wp_iload rfl rfl
theorem s126_120 : WP 126 0 120 L (vI x :: vA (some a) :: S) h Q ↔ ((((5 ≤ (hk h a).1 ∧ (hk h a).1 ≤ 7) ∧ 0 ≤ x ∧ x < ((hk h a).2 : Int)) ∨ ((hk h a).1 = 8 ∧ 128 ≤ x ∧ x < 144)) ∧ WP 126 0 121 L (hm h a x.toNat :: S) h Q) := wp_if rfl rfl rfl
theorem s126_121 : WP 126 0 121 [a0, a1, a2, a3, a4, vI x] S h Q ↔ WP 126 0 123 [a0, a1, a2, a3, a4, vI x] (vI x :: S) h Q := wp_iload rfl rfl
theorem s126_123 : WP 126 0 123 [a0, a1, a2, a3, vA r, a5] S h Q ↔ WP 126 0 125 [a0, a1, a2, a3, vA r, a5] (vA r :: S) h Q := wp_aload rfl rfl
theorem s126_125 : WP 126 0 125 [a0, a1, a2, a3, a4, vI x] S h Q ↔ WP 126 0 127 [a0, a1, a2, a3, a4, vI x] (vI x :: S) h Q := wp_iload rfl rfl
theorem s126_127 : WP 126 0 127 L (vI x0 :: vA (some a) :: S) h Q ↔ ((hk h a).1 = 117 ∧ (zw S ≤ 8 ∧ WP 310 0 0 [vA (some a), vI x0] [] h (zret 126 0 127 130 L S Q))) := wp_V1 (c := 117) rfl rfl (fun _ => rfl) rfl rfl (zcan_of rfl rfl) rfl rfl rfl
theorem s126_130 : WP 126 0 130 L S h Q ↔ WP 126 0 132 L (vI 97 :: S) h Q := wp_pl rfl rfl rfl
theorem s126_132 : WP 126 0 132 L (vI y :: vI x :: S) h Q ↔ WP 126 0 133 L (vI (wr (x - y)) :: S) h Q := wp_pl rfl rfl rfl
theorem s126_133 : WP 126 0 133 L (vI x :: S) h Q ↔ WP 126 0 134 L (vI (wb x) :: S) h Q := wp_pl rfl rfl rfl
theorem s126_134 : WP 126 0 134 L (vI y :: vI x :: vA (some a) :: S) h Q ↔ ((((hk h a).1 = 2 ∨ (hk h a).1 = 3) ∧ (0 ≤ x ∧ x < ((hk h a).2 : Int)) ∧ zNC ≤ a ∧ ((hk h a).1 = 3 → y = 0 ∨ y = 1)) ∧ WP 126 0 135 L S (hput h a x.toNat (vI (if (hk h a).1 = 2 then wb y else y))) Q) := wp_if rfl rfl rfl
theorem s126_135 : WP 126 0 135 [a0, a1, a2, a3, a4, vI x] S h Q ↔ WP 126 0 138 [a0, a1, a2, a3, a4, vI (wr (x + 1))] S h Q := wp_iinc rfl rfl rfl
theorem s126_138 : WP 126 0 138 L S h Q ↔ WP 126 0 105 L S h Q := wp_pl rfl rfl rfl
theorem s126_141 : WP 126 0 141 [a0, a1, vI x, a3, a4, a5] S h Q ↔ WP 126 0 144 [a0, a1, vI (wr (x + 1)), a3, a4, a5] S h Q := wp_iinc rfl rfl rfl
theorem s126_144 : WP 126 0 144 L S h Q ↔ WP 126 0 14 L S h Q := wp_pl rfl rfl rfl
theorem s126_147 : WP 126 0 147 [vA r, a1, a2, a3, a4, a5] S h Q ↔ WP 126 0 148 [vA r, a1, a2, a3, a4, a5] (vA r :: S) h Q := wp_aload rfl rfl
theorem s126_148 : WP 126 0 148 L (vA (some a) :: S) h Q ↔ (zhas 36 (hk h a) = true ∧ WP 126 0 151 L (hm h a 36 :: S) h Q) := wp_if rfl rfl rfl
theorem s126_151 : WP 126 0 151 L (vA (some a) :: S) h Q ↔ (zhas 10 (hk h a) = true ∧ WP 126 0 154 L (hm h a 10 :: S) h Q) := wp_if rfl rfl rfl
theorem s126_154 : WP 126 0 154 [a0, vA r, a2, a3, a4, a5] S h Q ↔ WP 126 0 155 [a0, vA r, a2, a3, a4, a5] (vA r :: S) h Q := wp_aload rfl rfl
theorem s126_155 : WP 126 0 155 L (vA r0 :: vA (some a) :: S) h Q ↔ ((hk h a).1 = 111 ∧ (zw S ≤ 8 ∧ WP 255 0 0 [vA (some a), vA r0] [] h (zret 126 0 155 158 L S Q))) := wp_V1 (c := 111) rfl rfl (fun _ => rfl) rfl rfl (zcan_of rfl rfl) rfl rfl rfl
theorem s126_158 : WP 126 0 158 L (vA r :: S) h Q ↔ WP 126 0 159 L S h Q := wp_pl rfl rfl rfl
theorem s126_158i : WP 126 0 158 L (vI x :: S) h Q ↔ WP 126 0 159 L S h Q := wp_pl rfl rfl rfl
theorem s126_159 : WP 126 0 159 L [] h Q ↔ Q (.inl none) h := wp_ret rfl
/-! RepeatFree$Reader.name()Ljava/lang/String; -/
theorem s127_0 : WP 127 0 0 [vA r, a1] S h Q ↔ WP 127 0 1 [vA r, a1] (vA r :: S) h Q := wp_aload rfl rfl
theorem s127_1 : WP 127 0 1 L (vA (some a) :: S) h Q ↔ ((hk h a).1 = 108 ∧ (zw S ≤ 8 ∧ WP 132 0 0 [vA (some a), vJ, vJ, vJ] [] h (zret 127 0 1 4 L S Q))) := wp_V1 (c := 108) rfl rfl (fun _ => rfl) rfl rfl (zcan_of rfl rfl) rfl rfl rfl
theorem s127_4 : WP 127 0 4 [a0, a1] (vA r :: S) h Q ↔ WP 127 0 5 [a0, vA r] S h Q := wp_astore rfl rfl rfl
theorem s127_5 : WP 127 0 5 [a0, vA r] S h Q ↔ WP 127 0 6 [a0, vA r] (vA r :: S) h Q := wp_aload rfl rfl
theorem s127_6 : WP 127 0 6 L (vA (some a) :: S) h Q ↔ ((hk h a).1 = 117 ∧ (zw S ≤ 8 ∧ WP 323 0 0 [vA (some a)] [] h (zret 127 0 6 9 L S Q))) := wp_V1 (c := 117) rfl rfl (fun _ => rfl) rfl rfl (zcan_of rfl rfl) rfl rfl rfl
theorem s127_9 : WP 127 0 9 L (vI x :: S) h Q ↔ WP 127 0 10 L (vL x :: S) h Q := wp_pl rfl rfl rfl
theorem s127_10 : WP 127 0 10 L S h Q ↔ WP 127 0 11 L (vL 1 :: S) h Q := wp_pl rfl rfl rfl
theorem s127_11 : WP 127 0 11 L S h Q ↔ WP 127 0 14 L (vL (6) :: S) h Q := wp_pl rfl rfl rfl
theorem s127_14 : WP 127 0 14 L (vL x2 :: vL x1 :: vL x0 :: S) h Q ↔ (zw S ≤ 8 ∧ WP 38 0 0 [vL x0, vJ, vL x1, vJ, vL x2, vJ] [] h (zret 127 0 14 17 L S Q)) := wp_S rfl rfl (zcan_of rfl rfl) rfl rfl rfl
theorem s127_17 : WP 127 0 17 L (vI x :: S) h Q ↔ zif (x = 0) (WP 127 0 44 L S h Q) (WP 127 0 20 L S h Q) := wp_bE zc_eq rfl rfl rfl
theorem s127_20 : WP 127 0 20 [vA r, a1] S h Q ↔ WP 127 0 21 [vA r, a1] (vA r :: S) h Q := wp_aload rfl rfl
theorem s127_21 : WP 127 0 21 L (vA (some a) :: S) h Q ↔ (zhas 33 (hk h a) = true ∧ WP 127 0 24 L (hm h a 33 :: S) h Q) := wp_if rfl rfl rfl
theorem s127_24 : WP 127 0 24 [a0, vA r] S h Q ↔ WP 127 0 25 [a0, vA r] (vA r :: S) h Q := wp_aload rfl rfl
theorem s127_25_111 (hk0 : (hk h a).1 = 111) : WP 127 0 25 L (vA r0 :: vA (some a) :: S) h Q ↔ (zw S ≤ 8 ∧ WP 259 0 0 [vA (some a), vA r0] [] h (zret 127 0 25 30 L S Q)) := wp_F rfl rfl rfl rfl rfl (zcan_of rfl rfl) rfl rfl rfl hk0
theorem s127_25_119 (hk0 : (hk h a).1 = 119) : WP 127 0 25 L (vA r0 :: vA (some a) :: S) h Q ↔ (zw S ≤ 8 ∧ WP 408 0 0 [vA (some a), vA r0] [] h (zret 127 0 25 30 L S Q)) := wp_F rfl rfl rfl rfl rfl (zcan_of rfl rfl) rfl rfl rfl hk0
theorem s127_30 : WP 127 0 30 L (vI x :: S) h Q ↔ zif (x = 0) (WP 127 0 33 L S h Q) (WP 127 0 44 L S h Q) := wp_bN zc_eq rfl rfl rfl
theorem s127_33 : WP 127 0 33 [vA r, a1] S h Q ↔ WP 127 0 34 [vA r, a1] (vA r :: S) h Q := wp_aload rfl rfl
theorem s127_34 : WP 127 0 34 L (vA (some a) :: S) h Q ↔ (zhas 36 (hk h a) = true ∧ WP 127 0 37 L (hm h a 36 :: S) h Q) := wp_if rfl rfl rfl
theorem s127_37 : WP 127 0 37 [a0, vA r] S h Q ↔ WP 127 0 38 [a0, vA r] (vA r :: S) h Q := wp_aload rfl rfl
theorem s127_38 : WP 127 0 38 L (vA r0 :: vA (some a) :: S) h Q ↔ ((hk h a).1 = 101 ∧ (zw S ≤ 8 ∧ WP 94 0 0 [vA (some a), vA r0, vJ, vJ] [] h (zret 127 0 38 41 L S Q))) := wp_V1 (c := 101) rfl rfl (fun _ => rfl) rfl rfl (zcan_of rfl rfl) rfl rfl rfl
theorem s127_41 : WP 127 0 41 L (vI x :: S) h Q ↔ zif (x = 0) (WP 127 0 56 L S h Q) (WP 127 0 44 L S h Q) := wp_bE zc_eq rfl rfl rfl
theorem s127_44 : WP 127 0 44 L S h Q ↔ WP 127 0 47 L (vA (some (hn h)) :: S) (hnew h (109, 0) 7 zdf) Q := wp_pl rfl rfl rfl
theorem s127_47 : WP 127 0 47 L (vA r :: S) h Q ↔ WP 127 0 48 L (vA r :: vA r :: S) h Q := wp_pl rfl rfl rfl
theorem s127_47i : WP 127 0 47 L (vI x :: S) h Q ↔ WP 127 0 48 L (vI x :: vI x :: S) h Q := wp_pl rfl rfl rfl
theorem s127_48 : WP 127 0 48 [vA r, a1] S h Q ↔ WP 127 0 49 [vA r, a1] (vA r :: S) h Q := wp_aload rfl rfl
theorem s127_49 : WP 127 0 49 L (vA (some a) :: S) h Q ↔ (zhas 37 (hk h a) = true ∧ WP 127 0 52 L (hm h a 37 :: S) h Q) := wp_if rfl rfl rfl
theorem s127_52 : WP 127 0 52 L (vI x0 :: vA (some a) :: S) h Q ↔ ((zNC ≤ a ∧ 100 ≤ (hk h a).1) ∧ zw S ≤ 8 ∧ WP 133 0 0 [vA (some a), vI x0] [] h (zret 127 0 52 55 L S Q)) := wp_I rfl rfl rfl (zcan_of rfl rfl) rfl rfl rfl
theorem s127_55 : WP 127 0 55 L (vA (some a) :: S) h Q ↔ ((((120 ≤ (hk h a).1 ∧ (hk h a).1 ≤ 123) ∨ (hk h a).1 = 109)) ∧ Q (.inr a) h) := wp_athrow (fun _ => rfl) rfl
theorem s127_56 : WP 127 0 56 [vA r, a1] S h Q ↔ WP 127 0 57 [vA r, a1] (vA r :: S) h Q := wp_aload rfl rfl
theorem s127_57 : WP 127 0 57 L (vA r :: S) h Q ↔ WP 127 0 58 L (vA r :: vA r :: S) h Q := wp_pl rfl rfl rfl
theorem s127_57i : WP 127 0 57 L (vI x :: S) h Q ↔ WP 127 0 58 L (vI x :: vI x :: S) h Q := wp_pl rfl rfl rfl
theorem s127_58 : WP 127 0 58 L (vA (some a) :: S) h Q ↔ (zhas 37 (hk h a) = true ∧ WP 127 0 61 L (hm h a 37 :: S) h Q) := wp_if rfl rfl rfl
theorem s127_61 : WP 127 0 61 [a0, vA r] S h Q ↔ WP 127 0 62 [a0, vA r] (vA r :: S) h Q := wp_aload rfl rfl
theorem s127_62 : WP 127 0 62 L (vA (some a) :: S) h Q ↔ ((hk h a).1 = 117 ∧ (zw S ≤ 8 ∧ WP 323 0 0 [vA (some a)] [] h (zret 127 0 62 65 L S Q))) := wp_V1 (c := 117) rfl rfl (fun _ => rfl) rfl rfl (zcan_of rfl rfl) rfl rfl rfl
theorem s127_65 : WP 127 0 65 L (vI y :: vI x :: S) h Q ↔ WP 127 0 66 L (vI (wr (x + y)) :: S) h Q := wp_pl rfl rfl rfl
theorem s127_66 : WP 127 0 66 L (vI x :: vA (some a) :: S) h Q ↔ ((zNC ≤ a ∧ zhas 37 (hk h a) = true) ∧ WP 127 0 69 L S (hput h a 37 (vI x)) Q) := wp_put0 rfl rfl
theorem s127_69 : WP 127 0 69 [a0, vA r] S h Q ↔ WP 127 0 70 [a0, vA r] (vA r :: S) h Q := wp_aload rfl rfl
theorem s127_70 : WP 127 0 70 L [vA r] h Q ↔ Q (.inl (some (vA r))) h := wp_aret rfl
/-! RepeatFree$Reader.needs(Ljava/lang/String;)V -/
theorem s128_0 : WP 128 0 0 [vA r, a1] S h Q ↔ WP 128 0 1 [vA r, a1] (vA r :: S) h Q := wp_aload rfl rfl
theorem s128_1 : WP 128 0 1 [a0, vA r] S h Q ↔ WP 128 0 2 [a0, vA r] (vA r :: S) h Q := wp_aload rfl rfl
theorem s128_2 : WP 128 0 2 L (vA r0 :: vA (some a) :: S) h Q ↔ ((hk h a).1 = 108 ∧ (zw S ≤ 8 ∧ WP 130 0 0 [vA (some a), vA r0] [] h (zret 128 0 2 5 L S Q))) := wp_V1 (c := 108) rfl rfl (fun _ => rfl) rfl rfl (zcan_of rfl rfl) rfl rfl rfl
theorem s128_5 : WP 128 0 5 L (vI x :: S) h Q ↔ zif (x = 0) (WP 128 0 8 L S h Q) (WP 128 0 20 L S h Q) := wp_bN zc_eq rfl rfl rfl
theorem s128_8 : WP 128 0 8 L S h Q ↔ WP 128 0 11 L (vA (some (hn h)) :: S) (hnew h (109, 0) 7 zdf) Q := wp_pl rfl rfl rfl
theorem s128_11 : WP 128 0 11 L (vA r :: S) h Q ↔ WP 128 0 12 L (vA r :: vA r :: S) h Q := wp_pl rfl rfl rfl
theorem s128_11i : WP 128 0 11 L (vI x :: S) h Q ↔ WP 128 0 12 L (vI x :: vI x :: S) h Q := wp_pl rfl rfl rfl
theorem s128_12 : WP 128 0 12 [vA r, a1] S h Q ↔ WP 128 0 13 [vA r, a1] (vA r :: S) h Q := wp_aload rfl rfl
theorem s128_13 : WP 128 0 13 L (vA (some a) :: S) h Q ↔ (zhas 37 (hk h a) = true ∧ WP 128 0 16 L (hm h a 37 :: S) h Q) := wp_if rfl rfl rfl
theorem s128_16 : WP 128 0 16 L (vI x0 :: vA (some a) :: S) h Q ↔ ((zNC ≤ a ∧ 100 ≤ (hk h a).1) ∧ zw S ≤ 8 ∧ WP 133 0 0 [vA (some a), vI x0] [] h (zret 128 0 16 19 L S Q)) := wp_I rfl rfl rfl (zcan_of rfl rfl) rfl rfl rfl
theorem s128_19 : WP 128 0 19 L (vA (some a) :: S) h Q ↔ ((((120 ≤ (hk h a).1 ∧ (hk h a).1 ≤ 123) ∨ (hk h a).1 = 109)) ∧ Q (.inr a) h) := wp_athrow (fun _ => rfl) rfl
theorem s128_20 : WP 128 0 20 L [] h Q ↔ Q (.inl none) h := wp_ret rfl
/-! RepeatFree$Reader.number(III)I -/
theorem s129_0 : WP 129 0 0 [vA r, a1, a2, a3, a4, a5, a6] S h Q ↔ WP 129 0 1 [vA r, a1, a2, a3, a4, a5, a6] (vA r :: S) h Q := wp_aload rfl rfl
theorem s129_1 : WP 129 0 1 L (vA (some a) :: S) h Q ↔ ((hk h a).1 = 108 ∧ (zw S ≤ 8 ∧ WP 121 0 0 [vA (some a)] [] h (zret 129 0 1 4 L S Q))) := wp_V1 (c := 108) rfl rfl (fun _ => rfl) rfl rfl (zcan_of rfl rfl) rfl rfl rfl
theorem s129_4 : WP 129 0 4 [a0, a1, a2, a3, a4, a5, a6] (vI x :: S) h Q ↔ WP 129 0 6 [a0, a1, a2, a3, vI x, a5, a6] S h Q := wp_istore rfl rfl rfl
theorem s129_6 : WP 129 0 6 L S h Q ↔ WP 129 0 7 L (vI 0 :: S) h Q := wp_pl rfl rfl rfl
theorem s129_7 : WP 129 0 7 [a0, a1, a2, a3, a4, a5, a6] (vI x :: S) h Q ↔ WP 129 0 9 [a0, a1, a2, a3, a4, vI x, a6] S h Q := wp_istore rfl rfl rfl
theorem s129_9 : WP 129 0 9 L S h Q ↔ WP 129 0 10 L (vI 0 :: S) h Q := wp_pl rfl rfl rfl
theorem s129_10 : WP 129 0 10 [a0, a1, a2, a3, a4, a5, a6] (vI x :: S) h Q ↔ WP 129 0 12 [a0, a1, a2, a3, a4, a5, vI x] S h Q := wp_istore rfl rfl rfl
theorem s129_12 : WP 129 0 12 [vA r, a1, a2, a3, a4, a5, a6] S h Q ↔ WP 129 0 13 [vA r, a1, a2, a3, a4, a5, a6] (vA r :: S) h Q := wp_aload rfl rfl
theorem s129_13 : WP 129 0 13 L (vA (some a) :: S) h Q ↔ (zhas 37 (hk h a) = true ∧ WP 129 0 16 L (hm h a 37 :: S) h Q) := wp_if rfl rfl rfl
theorem s129_16 : WP 129 0 16 [a0, a1, a2, a3, a4, vI x, a6] S h Q ↔ WP 129 0 18 [a0, a1, a2, a3, a4, vI x, a6] (vI x :: S) h Q := wp_iload rfl rfl
theorem s129_18 : WP 129 0 18 L (vI y :: vI x :: S) h Q ↔ WP 129 0 19 L (vI (wr (x + y)) :: S) h Q := wp_pl rfl rfl rfl
theorem s129_19 : WP 129 0 19 [vA r, a1, a2, a3, a4, a5, a6] S h Q ↔ WP 129 0 20 [vA r, a1, a2, a3, a4, a5, a6] (vA r :: S) h Q := wp_aload rfl rfl
theorem s129_20 : WP 129 0 20 L (vA (some a) :: S) h Q ↔ (zhas 35 (hk h a) = true ∧ WP 129 0 23 L (hm h a 35 :: S) h Q) := wp_if rfl rfl rfl
theorem s129_23 : WP 129 0 23 L (vI y :: vI x :: S) h Q ↔ zif (x < y) (WP 129 0 26 L S h Q) (WP 129 0 95 L S h Q) := wp_bN zc_lt rfl rfl rfl
theorem s129_26 : WP 129 0 26 [vA r, a1, a2, a3, a4, a5, a6] S h Q ↔ WP 129 0 27 [vA r, a1, a2, a3, a4, a5, a6] (vA r :: S) h Q := wp_aload rfl rfl
theorem s129_27 : WP 129 0 27 L (vA (some a) :: S) h Q ↔ (zhas 34 (hk h a) = true ∧ WP 129 0 30 L (hm h a 34 :: S) h Q) := wp_if rfl rfl rfl
theorem s129_30 : WP 129 0 30 [vA r, a1, a2, a3, a4, a5, a6] S h Q ↔ WP 129 0 31 [vA r, a1, a2, a3, a4, a5, a6] (vA r :: S) h Q := wp_aload rfl rfl
theorem s129_31 : WP 129 0 31 L (vA (some a) :: S) h Q ↔ (zhas 37 (hk h a) = true ∧ WP 129 0 34 L (hm h a 37 :: S) h Q) := wp_if rfl rfl rfl
theorem s129_34 : WP 129 0 34 [a0, a1, a2, a3, a4, vI x, a6] S h Q ↔ WP 129 0 36 [a0, a1, a2, a3, a4, vI x, a6] (vI x :: S) h Q := wp_iload rfl rfl
theorem s129_36 : WP 129 0 36 L (vI y :: vI x :: S) h Q ↔ WP 129 0 37 L (vI (wr (x + y)) :: S) h Q := wp_pl rfl rfl rfl
theorem s129_37 : WP 129 0 37 L (vI x :: vA (some a) :: S) h Q ↔ ((((hk h a).1 = 2 ∨ (hk h a).1 = 3) ∧ 0 ≤ x ∧ x < ((hk h a).2 : Int)) ∧ WP 129 0 38 L (hm h a x.toNat :: S) h Q) := wp_if rfl rfl rfl
theorem s129_38 : WP 129 0 38 L S h Q ↔ WP 129 0 40 L (vI 48 :: S) h Q := wp_pl rfl rfl rfl
theorem s129_40 : WP 129 0 40 L (vI y :: vI x :: S) h Q ↔ zif (x < y) (WP 129 0 95 L S h Q) (WP 129 0 43 L S h Q) := wp_bE zc_lt rfl rfl rfl
theorem s129_43 : WP 129 0 43 [vA r, a1, a2, a3, a4, a5, a6] S h Q ↔ WP 129 0 44 [vA r, a1, a2, a3, a4, a5, a6] (vA r :: S) h Q := wp_aload rfl rfl
theorem s129_44 : WP 129 0 44 L (vA (some a) :: S) h Q ↔ (zhas 34 (hk h a) = true ∧ WP 129 0 47 L (hm h a 34 :: S) h Q) := wp_if rfl rfl rfl
theorem s129_47 : WP 129 0 47 [vA r, a1, a2, a3, a4, a5, a6] S h Q ↔ WP 129 0 48 [vA r, a1, a2, a3, a4, a5, a6] (vA r :: S) h Q := wp_aload rfl rfl
theorem s129_48 : WP 129 0 48 L (vA (some a) :: S) h Q ↔ (zhas 37 (hk h a) = true ∧ WP 129 0 51 L (hm h a 37 :: S) h Q) := wp_if rfl rfl rfl
theorem s129_51 : WP 129 0 51 [a0, a1, a2, a3, a4, vI x, a6] S h Q ↔ WP 129 0 53 [a0, a1, a2, a3, a4, vI x, a6] (vI x :: S) h Q := wp_iload rfl rfl
theorem s129_53 : WP 129 0 53 L (vI y :: vI x :: S) h Q ↔ WP 129 0 54 L (vI (wr (x + y)) :: S) h Q := wp_pl rfl rfl rfl
theorem s129_54 : WP 129 0 54 L (vI x :: vA (some a) :: S) h Q ↔ ((((hk h a).1 = 2 ∨ (hk h a).1 = 3) ∧ 0 ≤ x ∧ x < ((hk h a).2 : Int)) ∧ WP 129 0 55 L (hm h a x.toNat :: S) h Q) := wp_if rfl rfl rfl
theorem s129_55 : WP 129 0 55 L S h Q ↔ WP 129 0 57 L (vI 57 :: S) h Q := wp_pl rfl rfl rfl
theorem s129_57 : WP 129 0 57 L (vI y :: vI x :: S) h Q ↔ zif (y < x) (WP 129 0 95 L S h Q) (WP 129 0 60 L S h Q) := wp_bE zc_gt rfl rfl rfl
theorem s129_60 : WP 129 0 60 L S h Q ↔ WP 129 0 63 L (vI 1000 :: S) h Q := wp_pl rfl rfl rfl
theorem s129_63 : WP 129 0 63 L S h Q ↔ WP 129 0 65 L (vI 10 :: S) h Q := wp_pl rfl rfl rfl
theorem s129_65 : WP 129 0 65 [a0, a1, a2, a3, a4, a5, vI x] S h Q ↔ WP 129 0 67 [a0, a1, a2, a3, a4, a5, vI x] (vI x :: S) h Q := wp_iload rfl rfl
theorem s129_67 : WP 129 0 67 L (vI y :: vI x :: S) h Q ↔ WP 129 0 68 L (vI (wr (x * y)) :: S) h Q := wp_pl rfl rfl rfl
theorem s129_68 : WP 129 0 68 [vA r, a1, a2, a3, a4, a5, a6] S h Q ↔ WP 129 0 69 [vA r, a1, a2, a3, a4, a5, a6] (vA r :: S) h Q := wp_aload rfl rfl
theorem s129_69 : WP 129 0 69 L (vA (some a) :: S) h Q ↔ (zhas 34 (hk h a) = true ∧ WP 129 0 72 L (hm h a 34 :: S) h Q) := wp_if rfl rfl rfl
theorem s129_72 : WP 129 0 72 [vA r, a1, a2, a3, a4, a5, a6] S h Q ↔ WP 129 0 73 [vA r, a1, a2, a3, a4, a5, a6] (vA r :: S) h Q := wp_aload rfl rfl
theorem s129_73 : WP 129 0 73 L (vA (some a) :: S) h Q ↔ (zhas 37 (hk h a) = true ∧ WP 129 0 76 L (hm h a 37 :: S) h Q) := wp_if rfl rfl rfl
theorem s129_76 : WP 129 0 76 [a0, a1, a2, a3, a4, vI x, a6] S h Q ↔ WP 129 0 78 [a0, a1, a2, a3, a4, vI x, a6] (vI x :: S) h Q := wp_iload rfl rfl
theorem s129_78 : WP 129 0 78 L (vI y :: vI x :: S) h Q ↔ WP 129 0 79 L (vI (wr (x + y)) :: S) h Q := wp_pl rfl rfl rfl
theorem s129_79 : WP 129 0 79 L (vI x :: vA (some a) :: S) h Q ↔ ((((hk h a).1 = 2 ∨ (hk h a).1 = 3) ∧ 0 ≤ x ∧ x < ((hk h a).2 : Int)) ∧ WP 129 0 80 L (hm h a x.toNat :: S) h Q) := wp_if rfl rfl rfl
theorem s129_80 : WP 129 0 80 L (vI y :: vI x :: S) h Q ↔ WP 129 0 81 L (vI (wr (x + y)) :: S) h Q := wp_pl rfl rfl rfl
theorem s129_81 : WP 129 0 81 L S h Q ↔ WP 129 0 83 L (vI 48 :: S) h Q := wp_pl rfl rfl rfl
theorem s129_83 : WP 129 0 83 L (vI y :: vI x :: S) h Q ↔ WP 129 0 84 L (vI (wr (x - y)) :: S) h Q := wp_pl rfl rfl rfl
theorem s129_84 : WP 129 0 84 L (vI x1 :: vI x0 :: S) h Q ↔ (zw S ≤ 8 ∧ WP 384 0 0 [vI x0, vI x1] [] h (zret 129 0 84 87 L S Q)) := wp_S rfl rfl (zcan_of rfl rfl) rfl rfl rfl
theorem s129_87 : WP 129 0 87 [a0, a1, a2, a3, a4, a5, a6] (vI x :: S) h Q ↔ WP 129 0 89 [a0, a1, a2, a3, a4, a5, vI x] S h Q := wp_istore rfl rfl rfl
theorem s129_89 : WP 129 0 89 [a0, a1, a2, a3, a4, vI x, a6] S h Q ↔ WP 129 0 92 [a0, a1, a2, a3, a4, vI (wr (x + 1)), a6] S h Q := wp_iinc rfl rfl rfl
theorem s129_92 : WP 129 0 92 L S h Q ↔ WP 129 0 12 L S h Q := wp_pl rfl rfl rfl
theorem s129_95 : WP 129 0 95 [a0, a1, a2, a3, a4, vI x, a6] S h Q ↔ WP 129 0 97 [a0, a1, a2, a3, a4, vI x, a6] (vI x :: S) h Q := wp_iload rfl rfl
theorem s129_97 : WP 129 0 97 L (vI x :: S) h Q ↔ WP 129 0 98 L (vL x :: S) h Q := wp_pl rfl rfl rfl
theorem s129_98 : WP 129 0 98 L S h Q ↔ WP 129 0 99 L (vL 1 :: S) h Q := wp_pl rfl rfl rfl
theorem s129_99 : WP 129 0 99 [a0, vI x, a2, a3, a4, a5, a6] S h Q ↔ WP 129 0 100 [a0, vI x, a2, a3, a4, a5, a6] (vI x :: S) h Q := wp_iload rfl rfl
theorem s129_100 : WP 129 0 100 L (vI x :: S) h Q ↔ WP 129 0 101 L (vL x :: S) h Q := wp_pl rfl rfl rfl
theorem s129_101 : WP 129 0 101 L (vL x2 :: vL x1 :: vL x0 :: S) h Q ↔ (zw S ≤ 8 ∧ WP 38 0 0 [vL x0, vJ, vL x1, vJ, vL x2, vJ] [] h (zret 129 0 101 104 L S Q)) := wp_S rfl rfl (zcan_of rfl rfl) rfl rfl rfl
theorem s129_104 : WP 129 0 104 L (vI x :: S) h Q ↔ zif (x = 0) (WP 129 0 120 L S h Q) (WP 129 0 107 L S h Q) := wp_bE zc_eq rfl rfl rfl
theorem s129_107 : WP 129 0 107 [a0, a1, a2, a3, a4, a5, vI x] S h Q ↔ WP 129 0 109 [a0, a1, a2, a3, a4, a5, vI x] (vI x :: S) h Q := wp_iload rfl rfl
theorem s129_109 : WP 129 0 109 L (vI x :: S) h Q ↔ WP 129 0 110 L (vL x :: S) h Q := wp_pl rfl rfl rfl
theorem s129_110 : WP 129 0 110 [a0, a1, vI x, a3, a4, a5, a6] S h Q ↔ WP 129 0 111 [a0, a1, vI x, a3, a4, a5, a6] (vI x :: S) h Q := wp_iload rfl rfl
theorem s129_111 : WP 129 0 111 L (vI x :: S) h Q ↔ WP 129 0 112 L (vL x :: S) h Q := wp_pl rfl rfl rfl
theorem s129_112 : WP 129 0 112 [a0, a1, a2, vI x, a4, a5, a6] S h Q ↔ WP 129 0 113 [a0, a1, a2, vI x, a4, a5, a6] (vI x :: S) h Q := wp_iload rfl rfl
theorem s129_113 : WP 129 0 113 L (vI x :: S) h Q ↔ WP 129 0 114 L (vL x :: S) h Q := wp_pl rfl rfl rfl
theorem s129_114 : WP 129 0 114 L (vL x2 :: vL x1 :: vL x0 :: S) h Q ↔ (zw S ≤ 8 ∧ WP 38 0 0 [vL x0, vJ, vL x1, vJ, vL x2, vJ] [] h (zret 129 0 114 117 L S Q)) := wp_S rfl rfl (zcan_of rfl rfl) rfl rfl rfl
theorem s129_117 : WP 129 0 117 L (vI x :: S) h Q ↔ zif (x = 0) (WP 129 0 120 L S h Q) (WP 129 0 132 L S h Q) := wp_bN zc_eq rfl rfl rfl
theorem s129_120 : WP 129 0 120 L S h Q ↔ WP 129 0 123 L (vA (some (hn h)) :: S) (hnew h (109, 0) 7 zdf) Q := wp_pl rfl rfl rfl
theorem s129_123 : WP 129 0 123 L (vA r :: S) h Q ↔ WP 129 0 124 L (vA r :: vA r :: S) h Q := wp_pl rfl rfl rfl
theorem s129_123i : WP 129 0 123 L (vI x :: S) h Q ↔ WP 129 0 124 L (vI x :: vI x :: S) h Q := wp_pl rfl rfl rfl
theorem s129_124 : WP 129 0 124 [vA r, a1, a2, a3, a4, a5, a6] S h Q ↔ WP 129 0 125 [vA r, a1, a2, a3, a4, a5, a6] (vA r :: S) h Q := wp_aload rfl rfl
theorem s129_125 : WP 129 0 125 L (vA (some a) :: S) h Q ↔ (zhas 37 (hk h a) = true ∧ WP 129 0 128 L (hm h a 37 :: S) h Q) := wp_if rfl rfl rfl
theorem s129_128 : WP 129 0 128 L (vI x0 :: vA (some a) :: S) h Q ↔ ((zNC ≤ a ∧ 100 ≤ (hk h a).1) ∧ zw S ≤ 8 ∧ WP 133 0 0 [vA (some a), vI x0] [] h (zret 129 0 128 131 L S Q)) := wp_I rfl rfl rfl (zcan_of rfl rfl) rfl rfl rfl
theorem s129_131 : WP 129 0 131 L (vA (some a) :: S) h Q ↔ ((((120 ≤ (hk h a).1 ∧ (hk h a).1 ≤ 123) ∨ (hk h a).1 = 109)) ∧ Q (.inr a) h) := wp_athrow (fun _ => rfl) rfl
theorem s129_132 : WP 129 0 132 [vA r, a1, a2, a3, a4, a5, a6] S h Q ↔ WP 129 0 133 [vA r, a1, a2, a3, a4, a5, a6] (vA r :: S) h Q := wp_aload rfl rfl
theorem s129_133 : WP 129 0 133 L (vA r :: S) h Q ↔ WP 129 0 134 L (vA r :: vA r :: S) h Q := wp_pl rfl rfl rfl
theorem s129_133i : WP 129 0 133 L (vI x :: S) h Q ↔ WP 129 0 134 L (vI x :: vI x :: S) h Q := wp_pl rfl rfl rfl
theorem s129_134 : WP 129 0 134 L (vA (some a) :: S) h Q ↔ (zhas 37 (hk h a) = true ∧ WP 129 0 137 L (hm h a 37 :: S) h Q) := wp_if rfl rfl rfl
theorem s129_137 : WP 129 0 137 [a0, a1, a2, a3, a4, vI x, a6] S h Q ↔ WP 129 0 139 [a0, a1, a2, a3, a4, vI x, a6] (vI x :: S) h Q := wp_iload rfl rfl
theorem s129_139 : WP 129 0 139 L (vI y :: vI x :: S) h Q ↔ WP 129 0 140 L (vI (wr (x + y)) :: S) h Q := wp_pl rfl rfl rfl
theorem s129_140 : WP 129 0 140 L (vI x :: vA (some a) :: S) h Q ↔ ((zNC ≤ a ∧ zhas 37 (hk h a) = true) ∧ WP 129 0 143 L S (hput h a 37 (vI x)) Q) := wp_put0 rfl rfl
theorem s129_143 : WP 129 0 143 [a0, a1, a2, a3, a4, a5, vI x] S h Q ↔ WP 129 0 145 [a0, a1, a2, a3, a4, a5, vI x] (vI x :: S) h Q := wp_iload rfl rfl
theorem s129_145 : WP 129 0 145 L [vI x] h Q ↔ Q (.inl (some (vI x))) h := wp_iret0 rfl rfl
/-! RepeatFree$Reader.takes(Ljava/lang/String;)Z -/
theorem s130_0 : WP 130 0 0 [vA r, a1] S h Q ↔ WP 130 0 1 [vA r, a1] (vA r :: S) h Q := wp_aload rfl rfl
theorem s130_1 : WP 130 0 1 L (vA (some a) :: S) h Q ↔ ((hk h a).1 = 108 ∧ (zw S ≤ 8 ∧ WP 132 0 0 [vA (some a), vJ, vJ, vJ] [] h (zret 130 0 1 4 L S Q))) := wp_V1 (c := 108) rfl rfl (fun _ => rfl) rfl rfl (zcan_of rfl rfl) rfl rfl rfl
theorem s130_4 : WP 130 0 4 [a0, vA r] S h Q ↔ WP 130 0 5 [a0, vA r] (vA r :: S) h Q := wp_aload rfl rfl
theorem s130_5 : WP 130 0 5 L (vA r0 :: vA (some a) :: S) h Q ↔ ((hk h a).1 = 117 ∧ (zw S ≤ 8 ∧ WP 315 0 0 [vA (some a), vA r0, vJ] [] h (zret 130 0 5 8 L S Q))) := wp_V1 (c := 117) rfl rfl (fun _ => rfl) rfl rfl (zcan_of rfl rfl) rfl rfl rfl
theorem s130_8 : WP 130 0 8 L (vI x :: S) h Q ↔ zif (x = 0) (WP 130 0 11 L S h Q) (WP 130 0 13 L S h Q) := wp_bN zc_eq rfl rfl rfl
theorem s130_11 : WP 130 0 11 L S h Q ↔ WP 130 0 12 L (vI 0 :: S) h Q := wp_pl rfl rfl rfl
theorem s130_12 : WP 130 0 12 L [vI x] h Q ↔ ((x = 0 ∨ x = 1) ∧ Q (.inl (some (vI x))) h) := wp_iret rfl rfl
theorem s130_13 : WP 130 0 13 [vA r, a1] S h Q ↔ WP 130 0 14 [vA r, a1] (vA r :: S) h Q := wp_aload rfl rfl
theorem s130_14 : WP 130 0 14 L (vA r :: S) h Q ↔ WP 130 0 15 L (vA r :: vA r :: S) h Q := wp_pl rfl rfl rfl
theorem s130_14i : WP 130 0 14 L (vI x :: S) h Q ↔ WP 130 0 15 L (vI x :: vI x :: S) h Q := wp_pl rfl rfl rfl
theorem s130_15 : WP 130 0 15 L (vA (some a) :: S) h Q ↔ (zhas 37 (hk h a) = true ∧ WP 130 0 18 L (hm h a 37 :: S) h Q) := wp_if rfl rfl rfl
theorem s130_18 : WP 130 0 18 [a0, vA r] S h Q ↔ WP 130 0 19 [a0, vA r] (vA r :: S) h Q := wp_aload rfl rfl
theorem s130_19 : WP 130 0 19 L (vA (some a) :: S) h Q ↔ ((hk h a).1 = 117 ∧ (zw S ≤ 8 ∧ WP 323 0 0 [vA (some a)] [] h (zret 130 0 19 22 L S Q))) := wp_V1 (c := 117) rfl rfl (fun _ => rfl) rfl rfl (zcan_of rfl rfl) rfl rfl rfl
theorem s130_22 : WP 130 0 22 L (vI y :: vI x :: S) h Q ↔ WP 130 0 23 L (vI (wr (x + y)) :: S) h Q := wp_pl rfl rfl rfl
theorem s130_23 : WP 130 0 23 L (vI x :: vA (some a) :: S) h Q ↔ ((zNC ≤ a ∧ zhas 37 (hk h a) = true) ∧ WP 130 0 26 L S (hput h a 37 (vI x)) Q) := wp_put0 rfl rfl
theorem s130_26 : WP 130 0 26 L S h Q ↔ WP 130 0 27 L (vI 1 :: S) h Q := wp_pl rfl rfl rfl
theorem s130_27 : WP 130 0 27 L [vI x] h Q ↔ ((x = 0 ∨ x = 1) ∧ Q (.inl (some (vI x))) h) := wp_iret rfl rfl
/-! RepeatFree$Reader.whole()LRepeatFree$Told; -/
theorem s131_0 : WP 131 0 0 [vA r] S h Q ↔ WP 131 0 1 [vA r] (vA r :: S) h Q := wp_aload rfl rfl
theorem s131_1 : WP 131 0 1 L S h Q ↔ WP 131 0 3 L (vA (some 4) :: S) h Q := wp_pl rfl rfl rfl
theorem s131_3 : WP 131 0 3 L (vA r0 :: vA (some a) :: S) h Q ↔ ((hk h a).1 = 108 ∧ (zw S ≤ 8 ∧ WP 128 0 0 [vA (some a), vA r0] [] h (zret 131 0 3 6 L S Q))) := wp_V1 (c := 108) rfl rfl (fun _ => rfl) rfl rfl (zcan_of rfl rfl) rfl rfl rfl
theorem s131_6 : WP 131 0 6 [vA r] S h Q ↔ WP 131 0 7 [vA r] (vA r :: S) h Q := wp_aload rfl rfl
theorem s131_7 : WP 131 0 7 L (vA (some a) :: S) h Q ↔ (zhas 36 (hk h a) = true ∧ WP 131 0 10 L (hm h a 36 :: S) h Q) := wp_if rfl rfl rfl
theorem s131_10 : WP 131 0 10 [vA r] S h Q ↔ WP 131 0 11 [vA r] (vA r :: S) h Q := wp_aload rfl rfl
theorem s131_11 : WP 131 0 11 L S h Q ↔ WP 131 0 12 L (vI 2 :: S) h Q := wp_pl rfl rfl rfl
theorem s131_12 : WP 131 0 12 L S h Q ↔ WP 131 0 13 L (vI 2 :: S) h Q := wp_pl rfl rfl rfl
theorem s131_13 : WP 131 0 13 L S h Q ↔ WP 131 0 14 L (vI 4 :: S) h Q := wp_pl rfl rfl rfl
theorem s131_14 : WP 131 0 14 L (vI x2 :: vI x1 :: vI x0 :: vA (some a) :: S) h Q ↔ ((hk h a).1 = 108 ∧ (zw S ≤ 8 ∧ WP 129 0 0 [vA (some a), vI x0, vI x1, vI x2, vJ, vJ, vJ] [] h (zret 131 0 14 17 L S Q))) := wp_V1 (c := 108) rfl rfl (fun _ => rfl) rfl rfl (zcan_of rfl rfl) rfl rfl rfl
theorem s131_17 : WP 131 0 17 L (vI x :: vA (some a) :: S) h Q ↔ ((zNC ≤ a ∧ zhas 12 (hk h a) = true) ∧ WP 131 0 20 L S (hput h a 12 (vI x)) Q) := wp_put0 rfl rfl
theorem s131_20 : WP 131 0 20 [vA r] S h Q ↔ WP 131 0 21 [vA r] (vA r :: S) h Q := wp_aload rfl rfl
theorem s131_21 : WP 131 0 21 L (vA (some a) :: S) h Q ↔ ((hk h a).1 = 108 ∧ (zw S ≤ 8 ∧ WP 120 0 0 [vA (some a)] [] h (zret 131 0 21 24 L S Q))) := wp_V1 (c := 108) rfl rfl (fun _ => rfl) rfl rfl (zcan_of rfl rfl) rfl rfl rfl
theorem s131_24 : WP 131 0 24 [vA r] S h Q ↔ WP 131 0 25 [vA r] (vA r :: S) h Q := wp_aload rfl rfl
theorem s131_25 : WP 131 0 25 L (vA (some a) :: S) h Q ↔ ((hk h a).1 = 108 ∧ (zw S ≤ 8 ∧ WP 121 0 0 [vA (some a)] [] h (zret 131 0 25 28 L S Q))) := wp_V1 (c := 108) rfl rfl (fun _ => rfl) rfl rfl (zcan_of rfl rfl) rfl rfl rfl
theorem s131_28 : WP 131 0 28 L S h Q ↔ WP 131 0 29 L (vI (-1) :: S) h Q := wp_pl rfl rfl rfl
theorem s131_29 : WP 131 0 29 L (vI y :: vI x :: S) h Q ↔ zif (x = y) (WP 131 0 43 L S h Q) (WP 131 0 32 L S h Q) := wp_bE zc_eq rfl rfl rfl
theorem s131_32 : WP 131 0 32 [vA r] S h Q ↔ WP 131 0 33 [vA r] (vA r :: S) h Q := wp_aload rfl rfl
theorem s131_33 : WP 131 0 33 L (vA (some a) :: S) h Q ↔ ((hk h a).1 = 108 ∧ (zw S ≤ 8 ∧ WP 125 0 0 [vA (some a), vJ, vJ, vJ, vJ, vJ, vJ] [] h (zret 131 0 33 36 L S Q))) := wp_V1 (c := 108) rfl rfl (fun _ => rfl) rfl rfl (zcan_of rfl rfl) rfl rfl rfl
theorem s131_36 : WP 131 0 36 [vA r] S h Q ↔ WP 131 0 37 [vA r] (vA r :: S) h Q := wp_aload rfl rfl
theorem s131_37 : WP 131 0 37 L (vA (some a) :: S) h Q ↔ ((hk h a).1 = 108 ∧ (zw S ≤ 8 ∧ WP 120 0 0 [vA (some a)] [] h (zret 131 0 37 40 L S Q))) := wp_V1 (c := 108) rfl rfl (fun _ => rfl) rfl rfl (zcan_of rfl rfl) rfl rfl rfl
theorem s131_40 : WP 131 0 40 L S h Q ↔ WP 131 0 24 L S h Q := wp_pl rfl rfl rfl
theorem s131_43 : WP 131 0 43 [vA r] S h Q ↔ WP 131 0 44 [vA r] (vA r :: S) h Q := wp_aload rfl rfl
theorem s131_44 : WP 131 0 44 L (vA (some a) :: S) h Q ↔ (zhas 36 (hk h a) = true ∧ WP 131 0 47 L (hm h a 36 :: S) h Q) := wp_if rfl rfl rfl
theorem s131_47 : WP 131 0 47 L [vA r] h Q ↔ Q (.inl (some (vA r))) h := wp_aret rfl
/-! RepeatFree$Reader.word()Ljava/lang/String; -/
theorem s132_0 : WP 132 0 0 [vA r, a1, a2, a3] S h Q ↔ WP 132 0 1 [vA r, a1, a2, a3] (vA r :: S) h Q := wp_aload rfl rfl
theorem s132_1 : WP 132 0 1 L (vA (some a) :: S) h Q ↔ ((hk h a).1 = 108 ∧ (zw S ≤ 8 ∧ WP 121 0 0 [vA (some a)] [] h (zret 132 0 1 4 L S Q))) := wp_V1 (c := 108) rfl rfl (fun _ => rfl) rfl rfl (zcan_of rfl rfl) rfl rfl rfl
theorem s132_4 : WP 132 0 4 [a0, a1, a2, a3] (vI x :: S) h Q ↔ WP 132 0 5 [a0, vI x, a2, a3] S h Q := wp_istore rfl rfl rfl
theorem s132_5 : WP 132 0 5 L S h Q ↔ WP 132 0 8 L (vA (some (hn h)) :: S) (hnew h (116, 0) 4 zdf) Q := wp_pl rfl rfl rfl
theorem s132_8 : WP 132 0 8 L (vA r :: S) h Q ↔ WP 132 0 9 L (vA r :: vA r :: S) h Q := wp_pl rfl rfl rfl
theorem s132_8i : WP 132 0 8 L (vI x :: S) h Q ↔ WP 132 0 9 L (vI x :: vI x :: S) h Q := wp_pl rfl rfl rfl
theorem s132_9 : WP 132 0 9 L (vA (some a) :: S) h Q ↔ ((zNC ≤ a ∧ 100 ≤ (hk h a).1) ∧ zw S ≤ 8 ∧ WP 307 0 0 [vA (some a)] [] h (zret 132 0 9 12 L S Q)) := wp_I rfl rfl rfl (zcan_of rfl rfl) rfl rfl rfl
theorem s132_12 : WP 132 0 12 [a0, a1, a2, a3] (vA r :: S) h Q ↔ WP 132 0 13 [a0, a1, vA r, a3] S h Q := wp_astore rfl rfl rfl
theorem s132_13 : WP 132 0 13 [vA r, a1, a2, a3] S h Q ↔ WP 132 0 14 [vA r, a1, a2, a3] (vA r :: S) h Q := wp_aload rfl rfl
theorem s132_14 : WP 132 0 14 L (vA (some a) :: S) h Q ↔ (zhas 37 (hk h a) = true ∧ WP 132 0 17 L (hm h a 37 :: S) h Q) := wp_if rfl rfl rfl
theorem s132_17 : WP 132 0 17 [a0, a1, a2, a3] (vI x :: S) h Q ↔ WP 132 0 18 [a0, a1, a2, vI x] S h Q := wp_istore rfl rfl rfl
theorem s132_18 : WP 132 0 18 [a0, a1, a2, vI x] S h Q ↔ WP 132 0 19 [a0, a1, a2, vI x] (vI x :: S) h Q := wp_iload rfl rfl
theorem s132_19 : WP 132 0 19 [vA r, a1, a2, a3] S h Q ↔ WP 132 0 20 [vA r, a1, a2, a3] (vA r :: S) h Q := wp_aload rfl rfl
theorem s132_20 : WP 132 0 20 L (vA (some a) :: S) h Q ↔ (zhas 35 (hk h a) = true ∧ WP 132 0 23 L (hm h a 35 :: S) h Q) := wp_if rfl rfl rfl
theorem s132_23 : WP 132 0 23 L (vI y :: vI x :: S) h Q ↔ zif (x < y) (WP 132 0 26 L S h Q) (WP 132 0 66 L S h Q) := wp_bN zc_lt rfl rfl rfl
theorem s132_26 : WP 132 0 26 [vA r, a1, a2, a3] S h Q ↔ WP 132 0 27 [vA r, a1, a2, a3] (vA r :: S) h Q := wp_aload rfl rfl
theorem s132_27 : WP 132 0 27 L (vA (some a) :: S) h Q ↔ (zhas 34 (hk h a) = true ∧ WP 132 0 30 L (hm h a 34 :: S) h Q) := wp_if rfl rfl rfl
theorem s132_30 : WP 132 0 30 [a0, a1, a2, vI x] S h Q ↔ WP 132 0 31 [a0, a1, a2, vI x] (vI x :: S) h Q := wp_iload rfl rfl
theorem s132_31 : WP 132 0 31 L (vI x :: vA (some a) :: S) h Q ↔ ((((hk h a).1 = 2 ∨ (hk h a).1 = 3) ∧ 0 ≤ x ∧ x < ((hk h a).2 : Int)) ∧ WP 132 0 32 L (hm h a x.toNat :: S) h Q) := wp_if rfl rfl rfl
theorem s132_32 : WP 132 0 32 L S h Q ↔ WP 132 0 34 L (vI 97 :: S) h Q := wp_pl rfl rfl rfl
theorem s132_34 : WP 132 0 34 L (vI y :: vI x :: S) h Q ↔ zif (x < y) (WP 132 0 66 L S h Q) (WP 132 0 37 L S h Q) := wp_bE zc_lt rfl rfl rfl
theorem s132_37 : WP 132 0 37 [vA r, a1, a2, a3] S h Q ↔ WP 132 0 38 [vA r, a1, a2, a3] (vA r :: S) h Q := wp_aload rfl rfl
theorem s132_38 : WP 132 0 38 L (vA (some a) :: S) h Q ↔ (zhas 34 (hk h a) = true ∧ WP 132 0 41 L (hm h a 34 :: S) h Q) := wp_if rfl rfl rfl
theorem s132_41 : WP 132 0 41 [a0, a1, a2, vI x] S h Q ↔ WP 132 0 42 [a0, a1, a2, vI x] (vI x :: S) h Q := wp_iload rfl rfl
theorem s132_42 : WP 132 0 42 L (vI x :: vA (some a) :: S) h Q ↔ ((((hk h a).1 = 2 ∨ (hk h a).1 = 3) ∧ 0 ≤ x ∧ x < ((hk h a).2 : Int)) ∧ WP 132 0 43 L (hm h a x.toNat :: S) h Q) := wp_if rfl rfl rfl
theorem s132_43 : WP 132 0 43 L S h Q ↔ WP 132 0 45 L (vI 122 :: S) h Q := wp_pl rfl rfl rfl
theorem s132_45 : WP 132 0 45 L (vI y :: vI x :: S) h Q ↔ zif (y < x) (WP 132 0 66 L S h Q) (WP 132 0 48 L S h Q) := wp_bE zc_gt rfl rfl rfl
theorem s132_48 : WP 132 0 48 [a0, a1, vA r, a3] S h Q ↔ WP 132 0 49 [a0, a1, vA r, a3] (vA r :: S) h Q := wp_aload rfl rfl
theorem s132_49 : WP 132 0 49 [vA r, a1, a2, a3] S h Q ↔ WP 132 0 50 [vA r, a1, a2, a3] (vA r :: S) h Q := wp_aload rfl rfl
theorem s132_50 : WP 132 0 50 L (vA (some a) :: S) h Q ↔ (zhas 34 (hk h a) = true ∧ WP 132 0 53 L (hm h a 34 :: S) h Q) := wp_if rfl rfl rfl
theorem s132_53 : WP 132 0 53 [a0, a1, a2, vI x] S h Q ↔ WP 132 0 54 [a0, a1, a2, vI x] (vI x :: S) h Q := wp_iload rfl rfl
theorem s132_54 : WP 132 0 54 L (vI x :: vA (some a) :: S) h Q ↔ ((((hk h a).1 = 2 ∨ (hk h a).1 = 3) ∧ 0 ≤ x ∧ x < ((hk h a).2 : Int)) ∧ WP 132 0 55 L (hm h a x.toNat :: S) h Q) := wp_if rfl rfl rfl
theorem s132_55 : WP 132 0 55 L (vI x :: S) h Q ↔ WP 132 0 56 L (vI (wc x) :: S) h Q := wp_pl rfl rfl rfl
theorem s132_56 : WP 132 0 56 L (vI x0 :: vA (some a) :: S) h Q ↔ ((hk h a).1 = 116 ∧ (zw S ≤ 8 ∧ WP 304 0 0 [vA (some a), vI x0] [] h (zret 132 0 56 59 L S Q))) := wp_V1 (c := 116) rfl rfl (fun _ => rfl) rfl rfl (zcan_of rfl rfl) rfl rfl rfl
theorem s132_59 : WP 132 0 59 L (vA r :: S) h Q ↔ WP 132 0 60 L S h Q := wp_pl rfl rfl rfl
theorem s132_59i : WP 132 0 59 L (vI x :: S) h Q ↔ WP 132 0 60 L S h Q := wp_pl rfl rfl rfl
theorem s132_60 : WP 132 0 60 [a0, a1, a2, vI x] S h Q ↔ WP 132 0 63 [a0, a1, a2, vI (wr (x + 1))] S h Q := wp_iinc rfl rfl rfl
theorem s132_63 : WP 132 0 63 L S h Q ↔ WP 132 0 18 L S h Q := wp_pl rfl rfl rfl
theorem s132_66 : WP 132 0 66 [a0, a1, vA r, a3] S h Q ↔ WP 132 0 67 [a0, a1, vA r, a3] (vA r :: S) h Q := wp_aload rfl rfl
theorem s132_67 : WP 132 0 67 L (vA (some a) :: S) h Q ↔ ((hk h a).1 = 116 ∧ (zw S ≤ 8 ∧ WP 309 0 0 [vA (some a)] [] h (zret 132 0 67 70 L S Q))) := wp_V1 (c := 116) rfl rfl (fun _ => rfl) rfl rfl (zcan_of rfl rfl) rfl rfl rfl
theorem s132_70 : WP 132 0 70 L [vA r] h Q ↔ Q (.inl (some (vA r))) h := wp_aret rfl
/-! RepeatFree$Wrong.<init>(I)V -/
theorem s133_0 : WP 133 0 0 [vA r, a1] S h Q ↔ WP 133 0 1 [vA r, a1] (vA r :: S) h Q := wp_aload rfl rfl
theorem s133_1 : WP 133 0 1 L S h Q ↔ WP 133 0 2 L (vA none :: S) h Q := wp_pl rfl rfl rfl
theorem s133_2 : WP 133 0 2 L S h Q ↔ WP 133 0 3 L (vA none :: S) h Q := wp_pl rfl rfl rfl
theorem s133_3 : WP 133 0 3 L S h Q ↔ WP 133 0 4 L (vI 0 :: S) h Q := wp_pl rfl rfl rfl
theorem s133_4 : WP 133 0 4 L S h Q ↔ WP 133 0 5 L (vI 0 :: S) h Q := wp_pl rfl rfl rfl
theorem s133_5 : WP 133 0 5 L (vI x3 :: vI x2 :: vA r1 :: vA r0 :: vA (some a) :: S) h Q ↔ ((zNC ≤ a ∧ 100 ≤ (hk h a).1) ∧ zw S ≤ 8 ∧ WP 380 0 0 [vA (some a), vA r0, vA r1, vI x2, vI x3] [] h (zret 133 0 5 8 L S Q)) := wp_I rfl rfl rfl (zcan_of rfl rfl) rfl rfl rfl
theorem s133_8 : WP 133 0 8 [vA r, a1] S h Q ↔ WP 133 0 9 [vA r, a1] (vA r :: S) h Q := wp_aload rfl rfl
theorem s133_9 : WP 133 0 9 [a0, vI x] S h Q ↔ WP 133 0 10 [a0, vI x] (vI x :: S) h Q := wp_iload rfl rfl
theorem s133_10 : WP 133 0 10 L (vI x :: vA (some a) :: S) h Q ↔ ((zNC ≤ a ∧ zhas 44 (hk h a) = true) ∧ WP 133 0 13 L S (hput h a 44 (vI x)) Q) := wp_put0 rfl rfl
theorem s133_13 : WP 133 0 13 L [] h Q ↔ Q (.inl none) h := wp_ret rfl
/-! RepeatFree$Named.<init>(Ljava/lang/String;)V -/
theorem s334_0 : WP 334 0 0 [vA r, a1] S h Q ↔ WP 334 0 1 [vA r, a1] (vA r :: S) h Q := wp_aload rfl rfl
theorem s334_1 : WP 334 0 1 L (vA (some a) :: S) h Q ↔ ((zw S ≤ 8 ∧ zNC ≤ a) ∧ WP 334 0 4 L S h Q) := wp_if rfl rfl rfl
theorem s334_4 : WP 334 0 4 [vA r, a1] S h Q ↔ WP 334 0 5 [vA r, a1] (vA r :: S) h Q := wp_aload rfl rfl
theorem s334_5 : WP 334 0 5 [a0, vA r] S h Q ↔ WP 334 0 6 [a0, vA r] (vA r :: S) h Q := wp_aload rfl rfl
theorem s334_6 : WP 334 0 6 L (vA r :: vA (some a) :: S) h Q ↔ ((zNC ≤ a ∧ zhas 19 (hk h a) = true) ∧ WP 334 0 9 L S (hput h a 19 (vA r)) Q) := wp_put3 rfl rfl
theorem s334_9 : WP 334 0 9 L [] h Q ↔ Q (.inl none) h := wp_ret rfl
end
