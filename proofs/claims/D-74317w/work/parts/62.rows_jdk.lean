/-! Rows by place, printed by tools/gen3.py. -/
set_option maxRecDepth 20000
section
variable {a0 a1 a2 a3 a4 a5 a6 a7 a8 a9 a10 a11 a12 a13 a14 a15 a16 a17 a18 a19 : V} {x y z x0 x1 x2 x3 x4 x5 x6 x7 x8 : Int} {r q r0 r1 r2 r3 r4 r5 r6 r7 r8 : Option Nat} {a b lv : Nat} {L S : List V} {h : MH} {Q : ZO → MH → Prop}
/-! java/util/LinkedList.add(Ljava/lang/Object;)Z -/
theorem s255_0 : WP 255 0 0 [vA r, a1] S h Q ↔ WP 255 0 1 [vA r, a1] (vA r :: S) h Q := wp_aload rfl rfl
theorem s255_1 : WP 255 0 1 [a0, vA r] S h Q ↔ WP 255 0 2 [a0, vA r] (vA r :: S) h Q := wp_aload rfl rfl
theorem s255_2 : WP 255 0 2 L (vA r0 :: vA (some a) :: S) h Q ↔ ((hk h a).1 = 111 ∧ (zw S ≤ 8 ∧ WP 266 0 0 [vA (some a), vA r0, vJ, vJ] [] h (zret 255 0 2 5 L S Q))) := wp_V1 (c := 111) rfl rfl (fun _ => rfl) rfl rfl (zcan_of rfl rfl) rfl rfl rfl
theorem s255_5 : WP 255 0 5 L S h Q ↔ WP 255 0 6 L (vI 1 :: S) h Q := wp_pl rfl rfl rfl
theorem s255_6 : WP 255 0 6 L [vI x] h Q ↔ ((x = 0 ∨ x = 1) ∧ Q (.inl (some (vI x))) h) := wp_iret rfl rfl
/-! java/util/LinkedList.add(ILjava/lang/Object;)V -/
theorem s256_0 : WP 256 0 0 [vA r, a1, a2] S h Q ↔ WP 256 0 1 [vA r, a1, a2] (vA r :: S) h Q := wp_aload rfl rfl
theorem s256_1 : WP 256 0 1 [a0, vI x, a2] S h Q ↔ WP 256 0 2 [a0, vI x, a2] (vI x :: S) h Q := wp_iload rfl rfl
theorem s256_2 : WP 256 0 2 L (vI x0 :: vA (some a) :: S) h Q ↔ ((hk h a).1 = 111 ∧ (zw S ≤ 8 ∧ WP 258 0 0 [vA (some a), vI x0] [] h (zret 256 0 2 5 L S Q))) := wp_V1 (c := 111) rfl rfl (fun _ => rfl) rfl rfl (zcan_of rfl rfl) rfl rfl rfl
theorem s256_5 : WP 256 0 5 [a0, vI x, a2] S h Q ↔ WP 256 0 6 [a0, vI x, a2] (vI x :: S) h Q := wp_iload rfl rfl
theorem s256_6 : WP 256 0 6 [vA r, a1, a2] S h Q ↔ WP 256 0 7 [vA r, a1, a2] (vA r :: S) h Q := wp_aload rfl rfl
theorem s256_7 : WP 256 0 7 L (vA (some a) :: S) h Q ↔ (zhas 78 (hk h a) = true ∧ WP 256 0 10 L (hm h a 78 :: S) h Q) := wp_if rfl rfl rfl
theorem s256_10 : WP 256 0 10 L (vI y :: vI x :: S) h Q ↔ zif (x = y) (WP 256 0 13 L S h Q) (WP 256 0 21 L S h Q) := wp_bN zc_eq rfl rfl rfl
theorem s256_13 : WP 256 0 13 [vA r, a1, a2] S h Q ↔ WP 256 0 14 [vA r, a1, a2] (vA r :: S) h Q := wp_aload rfl rfl
theorem s256_14 : WP 256 0 14 [a0, a1, vA r] S h Q ↔ WP 256 0 15 [a0, a1, vA r] (vA r :: S) h Q := wp_aload rfl rfl
theorem s256_15 : WP 256 0 15 L (vA r0 :: vA (some a) :: S) h Q ↔ ((hk h a).1 = 111 ∧ (zw S ≤ 8 ∧ WP 266 0 0 [vA (some a), vA r0, vJ, vJ] [] h (zret 256 0 15 18 L S Q))) := wp_V1 (c := 111) rfl rfl (fun _ => rfl) rfl rfl (zcan_of rfl rfl) rfl rfl rfl
theorem s256_18 : WP 256 0 18 L S h Q ↔ WP 256 0 31 L S h Q := wp_pl rfl rfl rfl
theorem s256_21 : WP 256 0 21 [vA r, a1, a2] S h Q ↔ WP 256 0 22 [vA r, a1, a2] (vA r :: S) h Q := wp_aload rfl rfl
theorem s256_22 : WP 256 0 22 [a0, a1, vA r] S h Q ↔ WP 256 0 23 [a0, a1, vA r] (vA r :: S) h Q := wp_aload rfl rfl
theorem s256_23 : WP 256 0 23 [vA r, a1, a2] S h Q ↔ WP 256 0 24 [vA r, a1, a2] (vA r :: S) h Q := wp_aload rfl rfl
theorem s256_24 : WP 256 0 24 [a0, vI x, a2] S h Q ↔ WP 256 0 25 [a0, vI x, a2] (vI x :: S) h Q := wp_iload rfl rfl
theorem s256_25 : WP 256 0 25 L (vI x0 :: vA (some a) :: S) h Q ↔ ((hk h a).1 = 111 ∧ (zw S ≤ 8 ∧ WP 268 0 0 [vA (some a), vI x0, vJ, vJ] [] h (zret 256 0 25 28 L S Q))) := wp_V1 (c := 111) rfl rfl (fun _ => rfl) rfl rfl (zcan_of rfl rfl) rfl rfl rfl
theorem s256_28 : WP 256 0 28 L (vA r1 :: vA r0 :: vA (some a) :: S) h Q ↔ ((hk h a).1 = 111 ∧ (zw S ≤ 8 ∧ WP 265 0 0 [vA (some a), vA r0, vA r1, vJ, vJ] [] h (zret 256 0 28 31 L S Q))) := wp_V1 (c := 111) rfl rfl (fun _ => rfl) rfl rfl (zcan_of rfl rfl) rfl rfl rfl
theorem s256_31 : WP 256 0 31 L [] h Q ↔ Q (.inl none) h := wp_ret rfl
/-! java/util/LinkedList.checkElementIndex(I)V -/
theorem s257_0 : WP 257 0 0 [vA r, a1] S h Q ↔ WP 257 0 1 [vA r, a1] (vA r :: S) h Q := wp_aload rfl rfl
theorem s257_1 : WP 257 0 1 [a0, vI x] S h Q ↔ WP 257 0 2 [a0, vI x] (vI x :: S) h Q := wp_iload rfl rfl
theorem s257_2 : WP 257 0 2 L (vI x0 :: vA (some a) :: S) h Q ↔ ((hk h a).1 = 111 ∧ (zw S ≤ 8 ∧ WP 263 0 0 [vA (some a), vI x0] [] h (zret 257 0 2 5 L S Q))) := wp_V1 (c := 111) rfl rfl (fun _ => rfl) rfl rfl (zcan_of rfl rfl) rfl rfl rfl
theorem s257_5 : WP 257 0 5 L (vI x :: S) h Q ↔ zif (x = 0) (WP 257 0 8 L S h Q) (WP 257 0 21 L S h Q) := wp_bN zc_eq rfl rfl rfl
theorem s257_11 : WP 257 0 11 L (vA r :: S) h Q ↔ WP 257 0 12 L (vA r :: vA r :: S) h Q := wp_pl rfl rfl rfl
theorem s257_11i : WP 257 0 11 L (vI x :: S) h Q ↔ WP 257 0 12 L (vI x :: vI x :: S) h Q := wp_pl rfl rfl rfl
theorem s257_12 : WP 257 0 12 [vA r, a1] S h Q ↔ WP 257 0 13 [vA r, a1] (vA r :: S) h Q := wp_aload rfl rfl
theorem s257_13 : WP 257 0 13 [a0, vI x] S h Q ↔ WP 257 0 14 [a0, vI x] (vI x :: S) h Q := wp_iload rfl rfl
theorem s257_20 : WP 257 0 20 L (vA (some a) :: S) h Q ↔ ((((120 ≤ (hk h a).1 ∧ (hk h a).1 ≤ 123) ∨ (hk h a).1 = 109)) ∧ Q (.inr a) h) := wp_athrow (fun _ => rfl) rfl
theorem s257_21 : WP 257 0 21 L [] h Q ↔ Q (.inl none) h := wp_ret rfl
/-! java/util/LinkedList.checkPositionIndex(I)V -/
theorem s258_0 : WP 258 0 0 [vA r, a1] S h Q ↔ WP 258 0 1 [vA r, a1] (vA r :: S) h Q := wp_aload rfl rfl
theorem s258_1 : WP 258 0 1 [a0, vI x] S h Q ↔ WP 258 0 2 [a0, vI x] (vI x :: S) h Q := wp_iload rfl rfl
theorem s258_2 : WP 258 0 2 L (vI x0 :: vA (some a) :: S) h Q ↔ ((hk h a).1 = 111 ∧ (zw S ≤ 8 ∧ WP 264 0 0 [vA (some a), vI x0] [] h (zret 258 0 2 5 L S Q))) := wp_V1 (c := 111) rfl rfl (fun _ => rfl) rfl rfl (zcan_of rfl rfl) rfl rfl rfl
theorem s258_5 : WP 258 0 5 L (vI x :: S) h Q ↔ zif (x = 0) (WP 258 0 8 L S h Q) (WP 258 0 21 L S h Q) := wp_bN zc_eq rfl rfl rfl
theorem s258_11 : WP 258 0 11 L (vA r :: S) h Q ↔ WP 258 0 12 L (vA r :: vA r :: S) h Q := wp_pl rfl rfl rfl
theorem s258_11i : WP 258 0 11 L (vI x :: S) h Q ↔ WP 258 0 12 L (vI x :: vI x :: S) h Q := wp_pl rfl rfl rfl
theorem s258_12 : WP 258 0 12 [vA r, a1] S h Q ↔ WP 258 0 13 [vA r, a1] (vA r :: S) h Q := wp_aload rfl rfl
theorem s258_13 : WP 258 0 13 [a0, vI x] S h Q ↔ WP 258 0 14 [a0, vI x] (vI x :: S) h Q := wp_iload rfl rfl
theorem s258_20 : WP 258 0 20 L (vA (some a) :: S) h Q ↔ ((((120 ≤ (hk h a).1 ∧ (hk h a).1 ≤ 123) ∨ (hk h a).1 = 109)) ∧ Q (.inr a) h) := wp_athrow (fun _ => rfl) rfl
theorem s258_21 : WP 258 0 21 L [] h Q ↔ Q (.inl none) h := wp_ret rfl
/-! java/util/LinkedList.contains(Ljava/lang/Object;)Z -/
theorem s259_0 : WP 259 0 0 [vA r, a1] S h Q ↔ WP 259 0 1 [vA r, a1] (vA r :: S) h Q := wp_aload rfl rfl
theorem s259_1 : WP 259 0 1 [a0, vA r] S h Q ↔ WP 259 0 2 [a0, vA r] (vA r :: S) h Q := wp_aload rfl rfl
theorem s259_2 : WP 259 0 2 L (vA r0 :: vA (some a) :: S) h Q ↔ ((hk h a).1 = 111 ∧ (zw S ≤ 8 ∧ WP 261 0 0 [vA (some a), vA r0, vJ, vJ] [] h (zret 259 0 2 5 L S Q))) := wp_V1 (c := 111) rfl rfl (fun _ => rfl) rfl rfl (zcan_of rfl rfl) rfl rfl rfl
theorem s259_5 : WP 259 0 5 L (vI x :: S) h Q ↔ zif (x < 0) (WP 259 0 12 L S h Q) (WP 259 0 8 L S h Q) := wp_bE zc_lt rfl rfl rfl
theorem s259_8 : WP 259 0 8 L S h Q ↔ WP 259 0 9 L (vI 1 :: S) h Q := wp_pl rfl rfl rfl
theorem s259_9 : WP 259 0 9 L S h Q ↔ WP 259 0 13 L S h Q := wp_pl rfl rfl rfl
theorem s259_12 : WP 259 0 12 L S h Q ↔ WP 259 0 13 L (vI 0 :: S) h Q := wp_pl rfl rfl rfl
theorem s259_13 : WP 259 0 13 L [vI x] h Q ↔ ((x = 0 ∨ x = 1) ∧ Q (.inl (some (vI x))) h) := wp_iret rfl rfl
/-! java/util/LinkedList.get(I)Ljava/lang/Object; -/
theorem s260_0 : WP 260 0 0 [vA r, a1] S h Q ↔ WP 260 0 1 [vA r, a1] (vA r :: S) h Q := wp_aload rfl rfl
theorem s260_1 : WP 260 0 1 [a0, vI x] S h Q ↔ WP 260 0 2 [a0, vI x] (vI x :: S) h Q := wp_iload rfl rfl
theorem s260_2 : WP 260 0 2 L (vI x0 :: vA (some a) :: S) h Q ↔ ((hk h a).1 = 111 ∧ (zw S ≤ 8 ∧ WP 257 0 0 [vA (some a), vI x0] [] h (zret 260 0 2 5 L S Q))) := wp_V1 (c := 111) rfl rfl (fun _ => rfl) rfl rfl (zcan_of rfl rfl) rfl rfl rfl
theorem s260_5 : WP 260 0 5 [vA r, a1] S h Q ↔ WP 260 0 6 [vA r, a1] (vA r :: S) h Q := wp_aload rfl rfl
theorem s260_6 : WP 260 0 6 [a0, vI x] S h Q ↔ WP 260 0 7 [a0, vI x] (vI x :: S) h Q := wp_iload rfl rfl
theorem s260_7 : WP 260 0 7 L (vI x0 :: vA (some a) :: S) h Q ↔ ((hk h a).1 = 111 ∧ (zw S ≤ 8 ∧ WP 268 0 0 [vA (some a), vI x0, vJ, vJ] [] h (zret 260 0 7 10 L S Q))) := wp_V1 (c := 111) rfl rfl (fun _ => rfl) rfl rfl (zcan_of rfl rfl) rfl rfl rfl
theorem s260_10 : WP 260 0 10 L (vA (some a) :: S) h Q ↔ (zhas 81 (hk h a) = true ∧ WP 260 0 13 L (hm h a 81 :: S) h Q) := wp_if rfl rfl rfl
theorem s260_13 : WP 260 0 13 L [vA r] h Q ↔ Q (.inl (some (vA r))) h := wp_aret rfl
/-! java/util/LinkedList.indexOf(Ljava/lang/Object;)I -/
theorem s261_0 : WP 261 0 0 L S h Q ↔ WP 261 0 1 L (vI 0 :: S) h Q := wp_pl rfl rfl rfl
theorem s261_1 : WP 261 0 1 [a0, a1, a2, a3] (vI x :: S) h Q ↔ WP 261 0 2 [a0, a1, vI x, a3] S h Q := wp_istore rfl rfl rfl
theorem s261_2 : WP 261 0 2 [a0, vA r, a2, a3] S h Q ↔ WP 261 0 3 [a0, vA r, a2, a3] (vA r :: S) h Q := wp_aload rfl rfl
theorem s261_3n : WP 261 0 3 L (vA none :: S) h Q ↔ WP 261 0 6 L S h Q := wp_pl rfl rfl rfl
theorem s261_3 : WP 261 0 3 L (vA (some a) :: S) h Q ↔ (3 ≤ a ∧ WP 261 0 38 L S h Q) := wp_if rfl rfl rfl
theorem s261_6 : WP 261 0 6 [vA r, a1, a2, a3] S h Q ↔ WP 261 0 7 [vA r, a1, a2, a3] (vA r :: S) h Q := wp_aload rfl rfl
theorem s261_7 : WP 261 0 7 L (vA (some a) :: S) h Q ↔ (zhas 79 (hk h a) = true ∧ WP 261 0 10 L (hm h a 79 :: S) h Q) := wp_if rfl rfl rfl
theorem s261_10 : WP 261 0 10 [a0, a1, a2, a3] (vA r :: S) h Q ↔ WP 261 0 11 [a0, a1, a2, vA r] S h Q := wp_astore rfl rfl rfl
theorem s261_11 : WP 261 0 11 [a0, a1, a2, vA r] S h Q ↔ WP 261 0 12 [a0, a1, a2, vA r] (vA r :: S) h Q := wp_aload rfl rfl
theorem s261_12n : WP 261 0 12 L (vA none :: S) h Q ↔ WP 261 0 35 L S h Q := wp_pl rfl rfl rfl
theorem s261_12 : WP 261 0 12 L (vA (some a) :: S) h Q ↔ (3 ≤ a ∧ WP 261 0 15 L S h Q) := wp_if rfl rfl rfl
theorem s261_15 : WP 261 0 15 [a0, a1, a2, vA r] S h Q ↔ WP 261 0 16 [a0, a1, a2, vA r] (vA r :: S) h Q := wp_aload rfl rfl
theorem s261_16 : WP 261 0 16 L (vA (some a) :: S) h Q ↔ (zhas 81 (hk h a) = true ∧ WP 261 0 19 L (hm h a 81 :: S) h Q) := wp_if rfl rfl rfl
theorem s261_19n : WP 261 0 19 L (vA none :: S) h Q ↔ WP 261 0 22 L S h Q := wp_pl rfl rfl rfl
theorem s261_19 : WP 261 0 19 L (vA (some a) :: S) h Q ↔ (3 ≤ a ∧ WP 261 0 24 L S h Q) := wp_if rfl rfl rfl
theorem s261_22 : WP 261 0 22 [a0, a1, vI x, a3] S h Q ↔ WP 261 0 23 [a0, a1, vI x, a3] (vI x :: S) h Q := wp_iload rfl rfl
theorem s261_23 : WP 261 0 23 L [vI x] h Q ↔ Q (.inl (some (vI x))) h := wp_iret0 rfl rfl
theorem s261_24 : WP 261 0 24 [a0, a1, vI x, a3] S h Q ↔ WP 261 0 27 [a0, a1, vI (wr (x + 1)), a3] S h Q := wp_iinc rfl rfl rfl
theorem s261_27 : WP 261 0 27 [a0, a1, a2, vA r] S h Q ↔ WP 261 0 28 [a0, a1, a2, vA r] (vA r :: S) h Q := wp_aload rfl rfl
theorem s261_28 : WP 261 0 28 L (vA (some a) :: S) h Q ↔ (zhas 82 (hk h a) = true ∧ WP 261 0 31 L (hm h a 82 :: S) h Q) := wp_if rfl rfl rfl
theorem s261_31 : WP 261 0 31 [a0, a1, a2, a3] (vA r :: S) h Q ↔ WP 261 0 32 [a0, a1, a2, vA r] S h Q := wp_astore rfl rfl rfl
theorem s261_32 : WP 261 0 32 L S h Q ↔ WP 261 0 11 L S h Q := wp_pl rfl rfl rfl
theorem s261_35 : WP 261 0 35 L S h Q ↔ WP 261 0 71 L S h Q := wp_pl rfl rfl rfl
theorem s261_38 : WP 261 0 38 [vA r, a1, a2, a3] S h Q ↔ WP 261 0 39 [vA r, a1, a2, a3] (vA r :: S) h Q := wp_aload rfl rfl
theorem s261_39 : WP 261 0 39 L (vA (some a) :: S) h Q ↔ (zhas 79 (hk h a) = true ∧ WP 261 0 42 L (hm h a 79 :: S) h Q) := wp_if rfl rfl rfl
theorem s261_42 : WP 261 0 42 [a0, a1, a2, a3] (vA r :: S) h Q ↔ WP 261 0 43 [a0, a1, a2, vA r] S h Q := wp_astore rfl rfl rfl
theorem s261_43 : WP 261 0 43 [a0, a1, a2, vA r] S h Q ↔ WP 261 0 44 [a0, a1, a2, vA r] (vA r :: S) h Q := wp_aload rfl rfl
theorem s261_44n : WP 261 0 44 L (vA none :: S) h Q ↔ WP 261 0 71 L S h Q := wp_pl rfl rfl rfl
theorem s261_44 : WP 261 0 44 L (vA (some a) :: S) h Q ↔ (3 ≤ a ∧ WP 261 0 47 L S h Q) := wp_if rfl rfl rfl
theorem s261_47 : WP 261 0 47 [a0, vA r, a2, a3] S h Q ↔ WP 261 0 48 [a0, vA r, a2, a3] (vA r :: S) h Q := wp_aload rfl rfl
theorem s261_48 : WP 261 0 48 [a0, a1, a2, vA r] S h Q ↔ WP 261 0 49 [a0, a1, a2, vA r] (vA r :: S) h Q := wp_aload rfl rfl
theorem s261_49 : WP 261 0 49 L (vA (some a) :: S) h Q ↔ (zhas 81 (hk h a) = true ∧ WP 261 0 52 L (hm h a 81 :: S) h Q) := wp_if rfl rfl rfl
theorem s261_52_100 (hk0 : (hk h a).1 = 100) : WP 261 0 52 L (vA r0 :: vA (some a) :: S) h Q ↔ (zw S ≤ 8 ∧ WP 386 0 0 [vA (some a), vA r0] [] h (zret 261 0 52 55 L S Q)) := wp_V rfl rfl rfl rfl rfl (zcan_of rfl rfl) rfl rfl rfl hk0
theorem s261_52_101 (hk0 : (hk h a).1 = 101) : WP 261 0 52 L (vA r0 :: vA (some a) :: S) h Q ↔ (zw S ≤ 8 ∧ WP 386 0 0 [vA (some a), vA r0] [] h (zret 261 0 52 55 L S Q)) := wp_V rfl rfl rfl rfl rfl (zcan_of rfl rfl) rfl rfl rfl hk0
theorem s261_52_102 (hk0 : (hk h a).1 = 102) : WP 261 0 52 L (vA r0 :: vA (some a) :: S) h Q ↔ (zw S ≤ 8 ∧ WP 386 0 0 [vA (some a), vA r0] [] h (zret 261 0 52 55 L S Q)) := wp_V rfl rfl rfl rfl rfl (zcan_of rfl rfl) rfl rfl rfl hk0
theorem s261_52_103 (hk0 : (hk h a).1 = 103) : WP 261 0 52 L (vA r0 :: vA (some a) :: S) h Q ↔ (zw S ≤ 8 ∧ WP 386 0 0 [vA (some a), vA r0] [] h (zret 261 0 52 55 L S Q)) := wp_V rfl rfl rfl rfl rfl (zcan_of rfl rfl) rfl rfl rfl hk0
theorem s261_52_104 (hk0 : (hk h a).1 = 104) : WP 261 0 52 L (vA r0 :: vA (some a) :: S) h Q ↔ (zw S ≤ 8 ∧ WP 386 0 0 [vA (some a), vA r0] [] h (zret 261 0 52 55 L S Q)) := wp_V rfl rfl rfl rfl rfl (zcan_of rfl rfl) rfl rfl rfl hk0
theorem s261_52_105 (hk0 : (hk h a).1 = 105) : WP 261 0 52 L (vA r0 :: vA (some a) :: S) h Q ↔ (zw S ≤ 8 ∧ WP 386 0 0 [vA (some a), vA r0] [] h (zret 261 0 52 55 L S Q)) := wp_V rfl rfl rfl rfl rfl (zcan_of rfl rfl) rfl rfl rfl hk0
theorem s261_52_106 (hk0 : (hk h a).1 = 106) : WP 261 0 52 L (vA r0 :: vA (some a) :: S) h Q ↔ (zw S ≤ 8 ∧ WP 386 0 0 [vA (some a), vA r0] [] h (zret 261 0 52 55 L S Q)) := wp_V rfl rfl rfl rfl rfl (zcan_of rfl rfl) rfl rfl rfl hk0
theorem s261_52_107 (hk0 : (hk h a).1 = 107) : WP 261 0 52 L (vA r0 :: vA (some a) :: S) h Q ↔ (zw S ≤ 8 ∧ WP 386 0 0 [vA (some a), vA r0] [] h (zret 261 0 52 55 L S Q)) := wp_V rfl rfl rfl rfl rfl (zcan_of rfl rfl) rfl rfl rfl hk0
theorem s261_52_108 (hk0 : (hk h a).1 = 108) : WP 261 0 52 L (vA r0 :: vA (some a) :: S) h Q ↔ (zw S ≤ 8 ∧ WP 386 0 0 [vA (some a), vA r0] [] h (zret 261 0 52 55 L S Q)) := wp_V rfl rfl rfl rfl rfl (zcan_of rfl rfl) rfl rfl rfl hk0
theorem s261_52_109 (hk0 : (hk h a).1 = 109) : WP 261 0 52 L (vA r0 :: vA (some a) :: S) h Q ↔ (zw S ≤ 8 ∧ WP 386 0 0 [vA (some a), vA r0] [] h (zret 261 0 52 55 L S Q)) := wp_V rfl rfl rfl rfl rfl (zcan_of rfl rfl) rfl rfl rfl hk0
theorem s261_52_110 (hk0 : (hk h a).1 = 110) : WP 261 0 52 L (vA r0 :: vA (some a) :: S) h Q ↔ (zw S ≤ 8 ∧ WP 386 0 0 [vA (some a), vA r0] [] h (zret 261 0 52 55 L S Q)) := wp_V rfl rfl rfl rfl rfl (zcan_of rfl rfl) rfl rfl rfl hk0
theorem s261_52_116 (hk0 : (hk h a).1 = 116) : WP 261 0 52 L (vA r0 :: vA (some a) :: S) h Q ↔ (zw S ≤ 8 ∧ WP 386 0 0 [vA (some a), vA r0] [] h (zret 261 0 52 55 L S Q)) := wp_V rfl rfl rfl rfl rfl (zcan_of rfl rfl) rfl rfl rfl hk0
theorem s261_52_117 (hk0 : (hk h a).1 = 117) : WP 261 0 52 L (vA r0 :: vA (some a) :: S) h Q ↔ (zw S ≤ 8 ∧ WP 315 0 0 [vA (some a), vA r0, vJ] [] h (zret 261 0 52 55 L S Q)) := wp_V rfl rfl rfl rfl rfl (zcan_of rfl rfl) rfl rfl rfl hk0
theorem s261_52_118 (hk0 : (hk h a).1 = 118) : WP 261 0 52 L (vA r0 :: vA (some a) :: S) h Q ↔ (zw S ≤ 8 ∧ WP 327 0 0 [vA (some a), vA r0] [] h (zret 261 0 52 55 L S Q)) := wp_V rfl rfl rfl rfl rfl (zcan_of rfl rfl) rfl rfl rfl hk0
theorem s261_52_120 (hk0 : (hk h a).1 = 120) : WP 261 0 52 L (vA r0 :: vA (some a) :: S) h Q ↔ (zw S ≤ 8 ∧ WP 386 0 0 [vA (some a), vA r0] [] h (zret 261 0 52 55 L S Q)) := wp_V rfl rfl rfl rfl rfl (zcan_of rfl rfl) rfl rfl rfl hk0
theorem s261_52_121 (hk0 : (hk h a).1 = 121) : WP 261 0 52 L (vA r0 :: vA (some a) :: S) h Q ↔ (zw S ≤ 8 ∧ WP 386 0 0 [vA (some a), vA r0] [] h (zret 261 0 52 55 L S Q)) := wp_V rfl rfl rfl rfl rfl (zcan_of rfl rfl) rfl rfl rfl hk0
theorem s261_52_122 (hk0 : (hk h a).1 = 122) : WP 261 0 52 L (vA r0 :: vA (some a) :: S) h Q ↔ (zw S ≤ 8 ∧ WP 386 0 0 [vA (some a), vA r0] [] h (zret 261 0 52 55 L S Q)) := wp_V rfl rfl rfl rfl rfl (zcan_of rfl rfl) rfl rfl rfl hk0
theorem s261_55 : WP 261 0 55 L (vI x :: S) h Q ↔ zif (x = 0) (WP 261 0 60 L S h Q) (WP 261 0 58 L S h Q) := wp_bE zc_eq rfl rfl rfl
theorem s261_58 : WP 261 0 58 [a0, a1, vI x, a3] S h Q ↔ WP 261 0 59 [a0, a1, vI x, a3] (vI x :: S) h Q := wp_iload rfl rfl
theorem s261_59 : WP 261 0 59 L [vI x] h Q ↔ Q (.inl (some (vI x))) h := wp_iret0 rfl rfl
theorem s261_60 : WP 261 0 60 [a0, a1, vI x, a3] S h Q ↔ WP 261 0 63 [a0, a1, vI (wr (x + 1)), a3] S h Q := wp_iinc rfl rfl rfl
theorem s261_63 : WP 261 0 63 [a0, a1, a2, vA r] S h Q ↔ WP 261 0 64 [a0, a1, a2, vA r] (vA r :: S) h Q := wp_aload rfl rfl
theorem s261_64 : WP 261 0 64 L (vA (some a) :: S) h Q ↔ (zhas 82 (hk h a) = true ∧ WP 261 0 67 L (hm h a 82 :: S) h Q) := wp_if rfl rfl rfl
theorem s261_67 : WP 261 0 67 [a0, a1, a2, a3] (vA r :: S) h Q ↔ WP 261 0 68 [a0, a1, a2, vA r] S h Q := wp_astore rfl rfl rfl
theorem s261_68 : WP 261 0 68 L S h Q ↔ WP 261 0 43 L S h Q := wp_pl rfl rfl rfl
theorem s261_71 : WP 261 0 71 L S h Q ↔ WP 261 0 72 L (vI (-1) :: S) h Q := wp_pl rfl rfl rfl
theorem s261_72 : WP 261 0 72 L [vI x] h Q ↔ Q (.inl (some (vI x))) h := wp_iret0 rfl rfl
/-! java/util/LinkedList.<init>()V -/
theorem s262_0 : WP 262 0 0 [vA r] S h Q ↔ WP 262 0 1 [vA r] (vA r :: S) h Q := wp_aload rfl rfl
theorem s262_1 : WP 262 0 1 L (vA (some a) :: S) h Q ↔ ((zNC ≤ a ∧ 100 ≤ (hk h a).1) ∧ zw S ≤ 8 ∧ WP 397 0 0 [vA (some a)] [] h (zret 262 0 1 4 L S Q)) := wp_I rfl rfl rfl (zcan_of rfl rfl) rfl rfl rfl
theorem s262_4 : WP 262 0 4 [vA r] S h Q ↔ WP 262 0 5 [vA r] (vA r :: S) h Q := wp_aload rfl rfl
theorem s262_5 : WP 262 0 5 L S h Q ↔ WP 262 0 6 L (vI 0 :: S) h Q := wp_pl rfl rfl rfl
theorem s262_6 : WP 262 0 6 L (vI x :: vA (some a) :: S) h Q ↔ ((zNC ≤ a ∧ zhas 78 (hk h a) = true) ∧ WP 262 0 9 L S (hput h a 78 (vI x)) Q) := wp_put0 rfl rfl
theorem s262_9 : WP 262 0 9 L [] h Q ↔ Q (.inl none) h := wp_ret rfl
/-! java/util/LinkedList.isElementIndex(I)Z -/
theorem s263_0 : WP 263 0 0 [a0, vI x] S h Q ↔ WP 263 0 1 [a0, vI x] (vI x :: S) h Q := wp_iload rfl rfl
theorem s263_1 : WP 263 0 1 L (vI x :: S) h Q ↔ zif (x < 0) (WP 263 0 16 L S h Q) (WP 263 0 4 L S h Q) := wp_bE zc_lt rfl rfl rfl
theorem s263_4 : WP 263 0 4 [a0, vI x] S h Q ↔ WP 263 0 5 [a0, vI x] (vI x :: S) h Q := wp_iload rfl rfl
theorem s263_5 : WP 263 0 5 [vA r, a1] S h Q ↔ WP 263 0 6 [vA r, a1] (vA r :: S) h Q := wp_aload rfl rfl
theorem s263_6 : WP 263 0 6 L (vA (some a) :: S) h Q ↔ (zhas 78 (hk h a) = true ∧ WP 263 0 9 L (hm h a 78 :: S) h Q) := wp_if rfl rfl rfl
theorem s263_9 : WP 263 0 9 L (vI y :: vI x :: S) h Q ↔ zif (x < y) (WP 263 0 12 L S h Q) (WP 263 0 16 L S h Q) := wp_bN zc_lt rfl rfl rfl
theorem s263_12 : WP 263 0 12 L S h Q ↔ WP 263 0 13 L (vI 1 :: S) h Q := wp_pl rfl rfl rfl
theorem s263_13 : WP 263 0 13 L S h Q ↔ WP 263 0 17 L S h Q := wp_pl rfl rfl rfl
theorem s263_16 : WP 263 0 16 L S h Q ↔ WP 263 0 17 L (vI 0 :: S) h Q := wp_pl rfl rfl rfl
theorem s263_17 : WP 263 0 17 L [vI x] h Q ↔ ((x = 0 ∨ x = 1) ∧ Q (.inl (some (vI x))) h) := wp_iret rfl rfl
/-! java/util/LinkedList.isPositionIndex(I)Z -/
theorem s264_0 : WP 264 0 0 [a0, vI x] S h Q ↔ WP 264 0 1 [a0, vI x] (vI x :: S) h Q := wp_iload rfl rfl
theorem s264_1 : WP 264 0 1 L (vI x :: S) h Q ↔ zif (x < 0) (WP 264 0 16 L S h Q) (WP 264 0 4 L S h Q) := wp_bE zc_lt rfl rfl rfl
theorem s264_4 : WP 264 0 4 [a0, vI x] S h Q ↔ WP 264 0 5 [a0, vI x] (vI x :: S) h Q := wp_iload rfl rfl
theorem s264_5 : WP 264 0 5 [vA r, a1] S h Q ↔ WP 264 0 6 [vA r, a1] (vA r :: S) h Q := wp_aload rfl rfl
theorem s264_6 : WP 264 0 6 L (vA (some a) :: S) h Q ↔ (zhas 78 (hk h a) = true ∧ WP 264 0 9 L (hm h a 78 :: S) h Q) := wp_if rfl rfl rfl
theorem s264_9 : WP 264 0 9 L (vI y :: vI x :: S) h Q ↔ zif (y < x) (WP 264 0 16 L S h Q) (WP 264 0 12 L S h Q) := wp_bE zc_gt rfl rfl rfl
theorem s264_12 : WP 264 0 12 L S h Q ↔ WP 264 0 13 L (vI 1 :: S) h Q := wp_pl rfl rfl rfl
theorem s264_13 : WP 264 0 13 L S h Q ↔ WP 264 0 17 L S h Q := wp_pl rfl rfl rfl
theorem s264_16 : WP 264 0 16 L S h Q ↔ WP 264 0 17 L (vI 0 :: S) h Q := wp_pl rfl rfl rfl
theorem s264_17 : WP 264 0 17 L [vI x] h Q ↔ ((x = 0 ∨ x = 1) ∧ Q (.inl (some (vI x))) h) := wp_iret rfl rfl
/-! java/util/LinkedList.linkBefore(Ljava/lang/Object;Ljava/util/LinkedList$Node;)V -/
theorem s265_0 : WP 265 0 0 [a0, a1, vA r, a3, a4] S h Q ↔ WP 265 0 1 [a0, a1, vA r, a3, a4] (vA r :: S) h Q := wp_aload rfl rfl
theorem s265_1 : WP 265 0 1 L (vA (some a) :: S) h Q ↔ (zhas 83 (hk h a) = true ∧ WP 265 0 4 L (hm h a 83 :: S) h Q) := wp_if rfl rfl rfl
theorem s265_4 : WP 265 0 4 [a0, a1, a2, a3, a4] (vA r :: S) h Q ↔ WP 265 0 5 [a0, a1, a2, vA r, a4] S h Q := wp_astore rfl rfl rfl
theorem s265_5 : WP 265 0 5 L S h Q ↔ WP 265 0 8 L (vA (some (hn h)) :: S) (hnew h (112, 0) 3 zdf) Q := wp_pl rfl rfl rfl
theorem s265_8 : WP 265 0 8 L (vA r :: S) h Q ↔ WP 265 0 9 L (vA r :: vA r :: S) h Q := wp_pl rfl rfl rfl
theorem s265_8i : WP 265 0 8 L (vI x :: S) h Q ↔ WP 265 0 9 L (vI x :: vI x :: S) h Q := wp_pl rfl rfl rfl
theorem s265_9 : WP 265 0 9 [a0, a1, a2, vA r, a4] S h Q ↔ WP 265 0 10 [a0, a1, a2, vA r, a4] (vA r :: S) h Q := wp_aload rfl rfl
theorem s265_10 : WP 265 0 10 [a0, vA r, a2, a3, a4] S h Q ↔ WP 265 0 11 [a0, vA r, a2, a3, a4] (vA r :: S) h Q := wp_aload rfl rfl
theorem s265_11 : WP 265 0 11 [a0, a1, vA r, a3, a4] S h Q ↔ WP 265 0 12 [a0, a1, vA r, a3, a4] (vA r :: S) h Q := wp_aload rfl rfl
theorem s265_12 : WP 265 0 12 L (vA r2 :: vA r1 :: vA r0 :: vA (some a) :: S) h Q ↔ ((zNC ≤ a ∧ 100 ≤ (hk h a).1) ∧ zw S ≤ 8 ∧ WP 272 0 0 [vA (some a), vA r0, vA r1, vA r2] [] h (zret 265 0 12 15 L S Q)) := wp_I rfl rfl rfl (zcan_of rfl rfl) rfl rfl rfl
theorem s265_15 : WP 265 0 15 [a0, a1, a2, a3, a4] (vA r :: S) h Q ↔ WP 265 0 17 [a0, a1, a2, a3, vA r] S h Q := wp_astore rfl rfl rfl
theorem s265_17 : WP 265 0 17 [a0, a1, vA r, a3, a4] S h Q ↔ WP 265 0 18 [a0, a1, vA r, a3, a4] (vA r :: S) h Q := wp_aload rfl rfl
theorem s265_18 : WP 265 0 18 [a0, a1, a2, a3, vA r] S h Q ↔ WP 265 0 20 [a0, a1, a2, a3, vA r] (vA r :: S) h Q := wp_aload rfl rfl
theorem s265_20 : WP 265 0 20 L (vA r :: vA (some a) :: S) h Q ↔ ((zNC ≤ a ∧ zhas 83 (hk h a) = true) ∧ WP 265 0 23 L S (hput h a 83 (vA r)) Q) := wp_put3 rfl rfl
theorem s265_23 : WP 265 0 23 [a0, a1, a2, vA r, a4] S h Q ↔ WP 265 0 24 [a0, a1, a2, vA r, a4] (vA r :: S) h Q := wp_aload rfl rfl
theorem s265_24n : WP 265 0 24 L (vA none :: S) h Q ↔ WP 265 0 27 L S h Q := wp_pl rfl rfl rfl
theorem s265_24 : WP 265 0 24 L (vA (some a) :: S) h Q ↔ (3 ≤ a ∧ WP 265 0 36 L S h Q) := wp_if rfl rfl rfl
theorem s265_27 : WP 265 0 27 [vA r, a1, a2, a3, a4] S h Q ↔ WP 265 0 28 [vA r, a1, a2, a3, a4] (vA r :: S) h Q := wp_aload rfl rfl
theorem s265_28 : WP 265 0 28 [a0, a1, a2, a3, vA r] S h Q ↔ WP 265 0 30 [a0, a1, a2, a3, vA r] (vA r :: S) h Q := wp_aload rfl rfl
theorem s265_30 : WP 265 0 30 L (vA r :: vA (some a) :: S) h Q ↔ ((zNC ≤ a ∧ zhas 79 (hk h a) = true) ∧ WP 265 0 33 L S (hput h a 79 (vA r)) Q) := wp_put3 rfl rfl
theorem s265_33 : WP 265 0 33 L S h Q ↔ WP 265 0 42 L S h Q := wp_pl rfl rfl rfl
theorem s265_36 : WP 265 0 36 [a0, a1, a2, vA r, a4] S h Q ↔ WP 265 0 37 [a0, a1, a2, vA r, a4] (vA r :: S) h Q := wp_aload rfl rfl
theorem s265_37 : WP 265 0 37 [a0, a1, a2, a3, vA r] S h Q ↔ WP 265 0 39 [a0, a1, a2, a3, vA r] (vA r :: S) h Q := wp_aload rfl rfl
theorem s265_39 : WP 265 0 39 L (vA r :: vA (some a) :: S) h Q ↔ ((zNC ≤ a ∧ zhas 82 (hk h a) = true) ∧ WP 265 0 42 L S (hput h a 82 (vA r)) Q) := wp_put3 rfl rfl
theorem s265_42 : WP 265 0 42 [vA r, a1, a2, a3, a4] S h Q ↔ WP 265 0 43 [vA r, a1, a2, a3, a4] (vA r :: S) h Q := wp_aload rfl rfl
theorem s265_43 : WP 265 0 43 L (vA r :: S) h Q ↔ WP 265 0 44 L (vA r :: vA r :: S) h Q := wp_pl rfl rfl rfl
theorem s265_43i : WP 265 0 43 L (vI x :: S) h Q ↔ WP 265 0 44 L (vI x :: vI x :: S) h Q := wp_pl rfl rfl rfl
theorem s265_44 : WP 265 0 44 L (vA (some a) :: S) h Q ↔ (zhas 78 (hk h a) = true ∧ WP 265 0 47 L (hm h a 78 :: S) h Q) := wp_if rfl rfl rfl
theorem s265_47 : WP 265 0 47 L S h Q ↔ WP 265 0 48 L (vI 1 :: S) h Q := wp_pl rfl rfl rfl
theorem s265_48 : WP 265 0 48 L (vI y :: vI x :: S) h Q ↔ WP 265 0 49 L (vI (wr (x + y)) :: S) h Q := wp_pl rfl rfl rfl
theorem s265_49 : WP 265 0 49 L (vI x :: vA (some a) :: S) h Q ↔ ((zNC ≤ a ∧ zhas 78 (hk h a) = true) ∧ WP 265 0 52 L S (hput h a 78 (vI x)) Q) := wp_put0 rfl rfl
theorem s265_52 : WP 265 0 52 [vA r, a1, a2, a3, a4] S h Q ↔ WP 265 0 53 [vA r, a1, a2, a3, a4] (vA r :: S) h Q := wp_aload rfl rfl
theorem s265_53 : WP 265 0 53 L (vA r :: S) h Q ↔ WP 265 0 54 L (vA r :: vA r :: S) h Q := wp_pl rfl rfl rfl
theorem s265_53i : WP 265 0 53 L (vI x :: S) h Q ↔ WP 265 0 54 L (vI x :: vI x :: S) h Q := wp_pl rfl rfl rfl
theorem s265_54 : WP 265 0 54 L (vA (some a) :: S) h Q ↔ (zhas 77 (hk h a) = true ∧ WP 265 0 57 L (hm h a 77 :: S) h Q) := wp_if rfl rfl rfl
theorem s265_57 : WP 265 0 57 L S h Q ↔ WP 265 0 58 L (vI 1 :: S) h Q := wp_pl rfl rfl rfl
theorem s265_58 : WP 265 0 58 L (vI y :: vI x :: S) h Q ↔ WP 265 0 59 L (vI (wr (x + y)) :: S) h Q := wp_pl rfl rfl rfl
theorem s265_59 : WP 265 0 59 L (vI x :: vA (some a) :: S) h Q ↔ ((zNC ≤ a ∧ zhas 77 (hk h a) = true) ∧ WP 265 0 62 L S (hput h a 77 (vI x)) Q) := wp_put0 rfl rfl
theorem s265_62 : WP 265 0 62 L [] h Q ↔ Q (.inl none) h := wp_ret rfl
/-! java/util/LinkedList.linkLast(Ljava/lang/Object;)V -/
theorem s266_0 : WP 266 0 0 [vA r, a1, a2, a3] S h Q ↔ WP 266 0 1 [vA r, a1, a2, a3] (vA r :: S) h Q := wp_aload rfl rfl
theorem s266_1 : WP 266 0 1 L (vA (some a) :: S) h Q ↔ (zhas 80 (hk h a) = true ∧ WP 266 0 4 L (hm h a 80 :: S) h Q) := wp_if rfl rfl rfl
theorem s266_4 : WP 266 0 4 [a0, a1, a2, a3] (vA r :: S) h Q ↔ WP 266 0 5 [a0, a1, vA r, a3] S h Q := wp_astore rfl rfl rfl
theorem s266_5 : WP 266 0 5 L S h Q ↔ WP 266 0 8 L (vA (some (hn h)) :: S) (hnew h (112, 0) 3 zdf) Q := wp_pl rfl rfl rfl
theorem s266_8 : WP 266 0 8 L (vA r :: S) h Q ↔ WP 266 0 9 L (vA r :: vA r :: S) h Q := wp_pl rfl rfl rfl
theorem s266_8i : WP 266 0 8 L (vI x :: S) h Q ↔ WP 266 0 9 L (vI x :: vI x :: S) h Q := wp_pl rfl rfl rfl
theorem s266_9 : WP 266 0 9 [a0, a1, vA r, a3] S h Q ↔ WP 266 0 10 [a0, a1, vA r, a3] (vA r :: S) h Q := wp_aload rfl rfl
theorem s266_10 : WP 266 0 10 [a0, vA r, a2, a3] S h Q ↔ WP 266 0 11 [a0, vA r, a2, a3] (vA r :: S) h Q := wp_aload rfl rfl
theorem s266_11 : WP 266 0 11 L S h Q ↔ WP 266 0 12 L (vA none :: S) h Q := wp_pl rfl rfl rfl
theorem s266_12 : WP 266 0 12 L (vA r2 :: vA r1 :: vA r0 :: vA (some a) :: S) h Q ↔ ((zNC ≤ a ∧ 100 ≤ (hk h a).1) ∧ zw S ≤ 8 ∧ WP 272 0 0 [vA (some a), vA r0, vA r1, vA r2] [] h (zret 266 0 12 15 L S Q)) := wp_I rfl rfl rfl (zcan_of rfl rfl) rfl rfl rfl
theorem s266_15 : WP 266 0 15 [a0, a1, a2, a3] (vA r :: S) h Q ↔ WP 266 0 16 [a0, a1, a2, vA r] S h Q := wp_astore rfl rfl rfl
theorem s266_16 : WP 266 0 16 [vA r, a1, a2, a3] S h Q ↔ WP 266 0 17 [vA r, a1, a2, a3] (vA r :: S) h Q := wp_aload rfl rfl
theorem s266_17 : WP 266 0 17 [a0, a1, a2, vA r] S h Q ↔ WP 266 0 18 [a0, a1, a2, vA r] (vA r :: S) h Q := wp_aload rfl rfl
theorem s266_18 : WP 266 0 18 L (vA r :: vA (some a) :: S) h Q ↔ ((zNC ≤ a ∧ zhas 80 (hk h a) = true) ∧ WP 266 0 21 L S (hput h a 80 (vA r)) Q) := wp_put3 rfl rfl
theorem s266_21 : WP 266 0 21 [a0, a1, vA r, a3] S h Q ↔ WP 266 0 22 [a0, a1, vA r, a3] (vA r :: S) h Q := wp_aload rfl rfl
theorem s266_22n : WP 266 0 22 L (vA none :: S) h Q ↔ WP 266 0 25 L S h Q := wp_pl rfl rfl rfl
theorem s266_22 : WP 266 0 22 L (vA (some a) :: S) h Q ↔ (3 ≤ a ∧ WP 266 0 33 L S h Q) := wp_if rfl rfl rfl
theorem s266_25 : WP 266 0 25 [vA r, a1, a2, a3] S h Q ↔ WP 266 0 26 [vA r, a1, a2, a3] (vA r :: S) h Q := wp_aload rfl rfl
theorem s266_26 : WP 266 0 26 [a0, a1, a2, vA r] S h Q ↔ WP 266 0 27 [a0, a1, a2, vA r] (vA r :: S) h Q := wp_aload rfl rfl
theorem s266_27 : WP 266 0 27 L (vA r :: vA (some a) :: S) h Q ↔ ((zNC ≤ a ∧ zhas 79 (hk h a) = true) ∧ WP 266 0 30 L S (hput h a 79 (vA r)) Q) := wp_put3 rfl rfl
theorem s266_30 : WP 266 0 30 L S h Q ↔ WP 266 0 38 L S h Q := wp_pl rfl rfl rfl
theorem s266_33 : WP 266 0 33 [a0, a1, vA r, a3] S h Q ↔ WP 266 0 34 [a0, a1, vA r, a3] (vA r :: S) h Q := wp_aload rfl rfl
theorem s266_34 : WP 266 0 34 [a0, a1, a2, vA r] S h Q ↔ WP 266 0 35 [a0, a1, a2, vA r] (vA r :: S) h Q := wp_aload rfl rfl
theorem s266_35 : WP 266 0 35 L (vA r :: vA (some a) :: S) h Q ↔ ((zNC ≤ a ∧ zhas 82 (hk h a) = true) ∧ WP 266 0 38 L S (hput h a 82 (vA r)) Q) := wp_put3 rfl rfl
theorem s266_38 : WP 266 0 38 [vA r, a1, a2, a3] S h Q ↔ WP 266 0 39 [vA r, a1, a2, a3] (vA r :: S) h Q := wp_aload rfl rfl
theorem s266_39 : WP 266 0 39 L (vA r :: S) h Q ↔ WP 266 0 40 L (vA r :: vA r :: S) h Q := wp_pl rfl rfl rfl
theorem s266_39i : WP 266 0 39 L (vI x :: S) h Q ↔ WP 266 0 40 L (vI x :: vI x :: S) h Q := wp_pl rfl rfl rfl
theorem s266_40 : WP 266 0 40 L (vA (some a) :: S) h Q ↔ (zhas 78 (hk h a) = true ∧ WP 266 0 43 L (hm h a 78 :: S) h Q) := wp_if rfl rfl rfl
theorem s266_43 : WP 266 0 43 L S h Q ↔ WP 266 0 44 L (vI 1 :: S) h Q := wp_pl rfl rfl rfl
theorem s266_44 : WP 266 0 44 L (vI y :: vI x :: S) h Q ↔ WP 266 0 45 L (vI (wr (x + y)) :: S) h Q := wp_pl rfl rfl rfl
theorem s266_45 : WP 266 0 45 L (vI x :: vA (some a) :: S) h Q ↔ ((zNC ≤ a ∧ zhas 78 (hk h a) = true) ∧ WP 266 0 48 L S (hput h a 78 (vI x)) Q) := wp_put0 rfl rfl
theorem s266_48 : WP 266 0 48 [vA r, a1, a2, a3] S h Q ↔ WP 266 0 49 [vA r, a1, a2, a3] (vA r :: S) h Q := wp_aload rfl rfl
theorem s266_49 : WP 266 0 49 L (vA r :: S) h Q ↔ WP 266 0 50 L (vA r :: vA r :: S) h Q := wp_pl rfl rfl rfl
theorem s266_49i : WP 266 0 49 L (vI x :: S) h Q ↔ WP 266 0 50 L (vI x :: vI x :: S) h Q := wp_pl rfl rfl rfl
theorem s266_50 : WP 266 0 50 L (vA (some a) :: S) h Q ↔ (zhas 77 (hk h a) = true ∧ WP 266 0 53 L (hm h a 77 :: S) h Q) := wp_if rfl rfl rfl
theorem s266_53 : WP 266 0 53 L S h Q ↔ WP 266 0 54 L (vI 1 :: S) h Q := wp_pl rfl rfl rfl
theorem s266_54 : WP 266 0 54 L (vI y :: vI x :: S) h Q ↔ WP 266 0 55 L (vI (wr (x + y)) :: S) h Q := wp_pl rfl rfl rfl
theorem s266_55 : WP 266 0 55 L (vI x :: vA (some a) :: S) h Q ↔ ((zNC ≤ a ∧ zhas 77 (hk h a) = true) ∧ WP 266 0 58 L S (hput h a 77 (vI x)) Q) := wp_put0 rfl rfl
theorem s266_58 : WP 266 0 58 L [] h Q ↔ Q (.inl none) h := wp_ret rfl
/-! java/util/LinkedList.listIterator(I)Ljava/util/ListIterator; -/
theorem s267_0 : WP 267 0 0 [vA r, a1] S h Q ↔ WP 267 0 1 [vA r, a1] (vA r :: S) h Q := wp_aload rfl rfl
theorem s267_1 : WP 267 0 1 [a0, vI x] S h Q ↔ WP 267 0 2 [a0, vI x] (vI x :: S) h Q := wp_iload rfl rfl
theorem s267_2 : WP 267 0 2 L (vI x0 :: vA (some a) :: S) h Q ↔ ((hk h a).1 = 111 ∧ (zw S ≤ 8 ∧ WP 258 0 0 [vA (some a), vI x0] [] h (zret 267 0 2 5 L S Q))) := wp_V1 (c := 111) rfl rfl (fun _ => rfl) rfl rfl (zcan_of rfl rfl) rfl rfl rfl
theorem s267_5 : WP 267 0 5 L S h Q ↔ WP 267 0 8 L (vA (some (hn h)) :: S) (hnew h (113, 0) 5 zdf) Q := wp_pl rfl rfl rfl
theorem s267_8 : WP 267 0 8 L (vA r :: S) h Q ↔ WP 267 0 9 L (vA r :: vA r :: S) h Q := wp_pl rfl rfl rfl
theorem s267_8i : WP 267 0 8 L (vI x :: S) h Q ↔ WP 267 0 9 L (vI x :: vI x :: S) h Q := wp_pl rfl rfl rfl
theorem s267_9 : WP 267 0 9 [vA r, a1] S h Q ↔ WP 267 0 10 [vA r, a1] (vA r :: S) h Q := wp_aload rfl rfl
theorem s267_10 : WP 267 0 10 [a0, vI x] S h Q ↔ WP 267 0 11 [a0, vI x] (vI x :: S) h Q := wp_iload rfl rfl
theorem s267_11 : WP 267 0 11 L (vI x1 :: vA r0 :: vA (some a) :: S) h Q ↔ ((zNC ≤ a ∧ 100 ≤ (hk h a).1) ∧ zw S ≤ 8 ∧ WP 275 0 0 [vA (some a), vA r0, vI x1] [] h (zret 267 0 11 14 L S Q)) := wp_I rfl rfl rfl (zcan_of rfl rfl) rfl rfl rfl
theorem s267_14 : WP 267 0 14 L [vA r] h Q ↔ Q (.inl (some (vA r))) h := wp_aret rfl
/-! java/util/LinkedList.node(I)Ljava/util/LinkedList$Node; -/
theorem s268_0 : WP 268 0 0 [a0, vI x, a2, a3] S h Q ↔ WP 268 0 1 [a0, vI x, a2, a3] (vI x :: S) h Q := wp_iload rfl rfl
theorem s268_1 : WP 268 0 1 [vA r, a1, a2, a3] S h Q ↔ WP 268 0 2 [vA r, a1, a2, a3] (vA r :: S) h Q := wp_aload rfl rfl
theorem s268_2 : WP 268 0 2 L (vA (some a) :: S) h Q ↔ (zhas 78 (hk h a) = true ∧ WP 268 0 5 L (hm h a 78 :: S) h Q) := wp_if rfl rfl rfl
theorem s268_5 : WP 268 0 5 L S h Q ↔ WP 268 0 6 L (vI 1 :: S) h Q := wp_pl rfl rfl rfl
theorem s268_6 : WP 268 0 6 L (vI y :: vI x :: S) h Q ↔ WP 268 0 7 L (vI (zshr x y) :: S) h Q := wp_pl rfl rfl rfl
theorem s268_7 : WP 268 0 7 L (vI y :: vI x :: S) h Q ↔ zif (x < y) (WP 268 0 10 L S h Q) (WP 268 0 35 L S h Q) := wp_bN zc_lt rfl rfl rfl
theorem s268_10 : WP 268 0 10 [vA r, a1, a2, a3] S h Q ↔ WP 268 0 11 [vA r, a1, a2, a3] (vA r :: S) h Q := wp_aload rfl rfl
theorem s268_11 : WP 268 0 11 L (vA (some a) :: S) h Q ↔ (zhas 79 (hk h a) = true ∧ WP 268 0 14 L (hm h a 79 :: S) h Q) := wp_if rfl rfl rfl
theorem s268_14 : WP 268 0 14 [a0, a1, a2, a3] (vA r :: S) h Q ↔ WP 268 0 15 [a0, a1, vA r, a3] S h Q := wp_astore rfl rfl rfl
theorem s268_15 : WP 268 0 15 L S h Q ↔ WP 268 0 16 L (vI 0 :: S) h Q := wp_pl rfl rfl rfl
theorem s268_16 : WP 268 0 16 [a0, a1, a2, a3] (vI x :: S) h Q ↔ WP 268 0 17 [a0, a1, a2, vI x] S h Q := wp_istore rfl rfl rfl
theorem s268_17 : WP 268 0 17 [a0, a1, a2, vI x] S h Q ↔ WP 268 0 18 [a0, a1, a2, vI x] (vI x :: S) h Q := wp_iload rfl rfl
theorem s268_18 : WP 268 0 18 [a0, vI x, a2, a3] S h Q ↔ WP 268 0 19 [a0, vI x, a2, a3] (vI x :: S) h Q := wp_iload rfl rfl
theorem s268_19 : WP 268 0 19 L (vI y :: vI x :: S) h Q ↔ zif (x < y) (WP 268 0 22 L S h Q) (WP 268 0 33 L S h Q) := wp_bN zc_lt rfl rfl rfl
theorem s268_22 : WP 268 0 22 [a0, a1, vA r, a3] S h Q ↔ WP 268 0 23 [a0, a1, vA r, a3] (vA r :: S) h Q := wp_aload rfl rfl
theorem s268_23 : WP 268 0 23 L (vA (some a) :: S) h Q ↔ (zhas 82 (hk h a) = true ∧ WP 268 0 26 L (hm h a 82 :: S) h Q) := wp_if rfl rfl rfl
theorem s268_26 : WP 268 0 26 [a0, a1, a2, a3] (vA r :: S) h Q ↔ WP 268 0 27 [a0, a1, vA r, a3] S h Q := wp_astore rfl rfl rfl
theorem s268_27 : WP 268 0 27 [a0, a1, a2, vI x] S h Q ↔ WP 268 0 30 [a0, a1, a2, vI (wr (x + 1))] S h Q := wp_iinc rfl rfl rfl
theorem s268_30 : WP 268 0 30 L S h Q ↔ WP 268 0 17 L S h Q := wp_pl rfl rfl rfl
theorem s268_33 : WP 268 0 33 [a0, a1, vA r, a3] S h Q ↔ WP 268 0 34 [a0, a1, vA r, a3] (vA r :: S) h Q := wp_aload rfl rfl
theorem s268_34 : WP 268 0 34 L [vA r] h Q ↔ Q (.inl (some (vA r))) h := wp_aret rfl
theorem s268_35 : WP 268 0 35 [vA r, a1, a2, a3] S h Q ↔ WP 268 0 36 [vA r, a1, a2, a3] (vA r :: S) h Q := wp_aload rfl rfl
theorem s268_36 : WP 268 0 36 L (vA (some a) :: S) h Q ↔ (zhas 80 (hk h a) = true ∧ WP 268 0 39 L (hm h a 80 :: S) h Q) := wp_if rfl rfl rfl
theorem s268_39 : WP 268 0 39 [a0, a1, a2, a3] (vA r :: S) h Q ↔ WP 268 0 40 [a0, a1, vA r, a3] S h Q := wp_astore rfl rfl rfl
theorem s268_40 : WP 268 0 40 [vA r, a1, a2, a3] S h Q ↔ WP 268 0 41 [vA r, a1, a2, a3] (vA r :: S) h Q := wp_aload rfl rfl
theorem s268_41 : WP 268 0 41 L (vA (some a) :: S) h Q ↔ (zhas 78 (hk h a) = true ∧ WP 268 0 44 L (hm h a 78 :: S) h Q) := wp_if rfl rfl rfl
theorem s268_44 : WP 268 0 44 L S h Q ↔ WP 268 0 45 L (vI 1 :: S) h Q := wp_pl rfl rfl rfl
theorem s268_45 : WP 268 0 45 L (vI y :: vI x :: S) h Q ↔ WP 268 0 46 L (vI (wr (x - y)) :: S) h Q := wp_pl rfl rfl rfl
theorem s268_46 : WP 268 0 46 [a0, a1, a2, a3] (vI x :: S) h Q ↔ WP 268 0 47 [a0, a1, a2, vI x] S h Q := wp_istore rfl rfl rfl
theorem s268_47 : WP 268 0 47 [a0, a1, a2, vI x] S h Q ↔ WP 268 0 48 [a0, a1, a2, vI x] (vI x :: S) h Q := wp_iload rfl rfl
theorem s268_48 : WP 268 0 48 [a0, vI x, a2, a3] S h Q ↔ WP 268 0 49 [a0, vI x, a2, a3] (vI x :: S) h Q := wp_iload rfl rfl
theorem s268_49 : WP 268 0 49 L (vI y :: vI x :: S) h Q ↔ zif (y < x) (WP 268 0 52 L S h Q) (WP 268 0 63 L S h Q) := wp_bN zc_gt rfl rfl rfl
theorem s268_52 : WP 268 0 52 [a0, a1, vA r, a3] S h Q ↔ WP 268 0 53 [a0, a1, vA r, a3] (vA r :: S) h Q := wp_aload rfl rfl
theorem s268_53 : WP 268 0 53 L (vA (some a) :: S) h Q ↔ (zhas 83 (hk h a) = true ∧ WP 268 0 56 L (hm h a 83 :: S) h Q) := wp_if rfl rfl rfl
theorem s268_56 : WP 268 0 56 [a0, a1, a2, a3] (vA r :: S) h Q ↔ WP 268 0 57 [a0, a1, vA r, a3] S h Q := wp_astore rfl rfl rfl
theorem s268_57 : WP 268 0 57 [a0, a1, a2, vI x] S h Q ↔ WP 268 0 60 [a0, a1, a2, vI (wr (x + (-1)))] S h Q := wp_iinc rfl rfl rfl
theorem s268_60 : WP 268 0 60 L S h Q ↔ WP 268 0 47 L S h Q := wp_pl rfl rfl rfl
theorem s268_63 : WP 268 0 63 [a0, a1, vA r, a3] S h Q ↔ WP 268 0 64 [a0, a1, vA r, a3] (vA r :: S) h Q := wp_aload rfl rfl
theorem s268_64 : WP 268 0 64 L [vA r] h Q ↔ Q (.inl (some (vA r))) h := wp_aret rfl
/-! java/util/LinkedList.remove(I)Ljava/lang/Object; -/
theorem s269_0 : WP 269 0 0 [vA r, a1] S h Q ↔ WP 269 0 1 [vA r, a1] (vA r :: S) h Q := wp_aload rfl rfl
theorem s269_1 : WP 269 0 1 [a0, vI x] S h Q ↔ WP 269 0 2 [a0, vI x] (vI x :: S) h Q := wp_iload rfl rfl
theorem s269_2 : WP 269 0 2 L (vI x0 :: vA (some a) :: S) h Q ↔ ((hk h a).1 = 111 ∧ (zw S ≤ 8 ∧ WP 257 0 0 [vA (some a), vI x0] [] h (zret 269 0 2 5 L S Q))) := wp_V1 (c := 111) rfl rfl (fun _ => rfl) rfl rfl (zcan_of rfl rfl) rfl rfl rfl
theorem s269_5 : WP 269 0 5 [vA r, a1] S h Q ↔ WP 269 0 6 [vA r, a1] (vA r :: S) h Q := wp_aload rfl rfl
theorem s269_6 : WP 269 0 6 [vA r, a1] S h Q ↔ WP 269 0 7 [vA r, a1] (vA r :: S) h Q := wp_aload rfl rfl
theorem s269_7 : WP 269 0 7 [a0, vI x] S h Q ↔ WP 269 0 8 [a0, vI x] (vI x :: S) h Q := wp_iload rfl rfl
theorem s269_8 : WP 269 0 8 L (vI x0 :: vA (some a) :: S) h Q ↔ ((hk h a).1 = 111 ∧ (zw S ≤ 8 ∧ WP 268 0 0 [vA (some a), vI x0, vJ, vJ] [] h (zret 269 0 8 11 L S Q))) := wp_V1 (c := 111) rfl rfl (fun _ => rfl) rfl rfl (zcan_of rfl rfl) rfl rfl rfl
theorem s269_11 : WP 269 0 11 L (vA r0 :: vA (some a) :: S) h Q ↔ ((hk h a).1 = 111 ∧ (zw S ≤ 8 ∧ WP 271 0 0 [vA (some a), vA r0, vJ, vJ, vJ] [] h (zret 269 0 11 14 L S Q))) := wp_V1 (c := 111) rfl rfl (fun _ => rfl) rfl rfl (zcan_of rfl rfl) rfl rfl rfl
theorem s269_14 : WP 269 0 14 L [vA r] h Q ↔ Q (.inl (some (vA r))) h := wp_aret rfl
/-! java/util/LinkedList.size()I -/
theorem s270_0 : WP 270 0 0 [vA r] S h Q ↔ WP 270 0 1 [vA r] (vA r :: S) h Q := wp_aload rfl rfl
theorem s270_1 : WP 270 0 1 L (vA (some a) :: S) h Q ↔ (zhas 78 (hk h a) = true ∧ WP 270 0 4 L (hm h a 78 :: S) h Q) := wp_if rfl rfl rfl
theorem s270_4 : WP 270 0 4 L [vI x] h Q ↔ Q (.inl (some (vI x))) h := wp_iret0 rfl rfl
/-! java/util/LinkedList.unlink(Ljava/util/LinkedList$Node;)Ljava/lang/Object; -/
theorem s271_0 : WP 271 0 0 [a0, vA r, a2, a3, a4] S h Q ↔ WP 271 0 1 [a0, vA r, a2, a3, a4] (vA r :: S) h Q := wp_aload rfl rfl
theorem s271_1 : WP 271 0 1 L (vA (some a) :: S) h Q ↔ (zhas 81 (hk h a) = true ∧ WP 271 0 4 L (hm h a 81 :: S) h Q) := wp_if rfl rfl rfl
theorem s271_4 : WP 271 0 4 [a0, a1, a2, a3, a4] (vA r :: S) h Q ↔ WP 271 0 5 [a0, a1, vA r, a3, a4] S h Q := wp_astore rfl rfl rfl
theorem s271_5 : WP 271 0 5 [a0, vA r, a2, a3, a4] S h Q ↔ WP 271 0 6 [a0, vA r, a2, a3, a4] (vA r :: S) h Q := wp_aload rfl rfl
theorem s271_6 : WP 271 0 6 L (vA (some a) :: S) h Q ↔ (zhas 82 (hk h a) = true ∧ WP 271 0 9 L (hm h a 82 :: S) h Q) := wp_if rfl rfl rfl
theorem s271_9 : WP 271 0 9 [a0, a1, a2, a3, a4] (vA r :: S) h Q ↔ WP 271 0 10 [a0, a1, a2, vA r, a4] S h Q := wp_astore rfl rfl rfl
theorem s271_10 : WP 271 0 10 [a0, vA r, a2, a3, a4] S h Q ↔ WP 271 0 11 [a0, vA r, a2, a3, a4] (vA r :: S) h Q := wp_aload rfl rfl
theorem s271_11 : WP 271 0 11 L (vA (some a) :: S) h Q ↔ (zhas 83 (hk h a) = true ∧ WP 271 0 14 L (hm h a 83 :: S) h Q) := wp_if rfl rfl rfl
theorem s271_14 : WP 271 0 14 [a0, a1, a2, a3, a4] (vA r :: S) h Q ↔ WP 271 0 16 [a0, a1, a2, a3, vA r] S h Q := wp_astore rfl rfl rfl
theorem s271_16 : WP 271 0 16 [a0, a1, a2, a3, vA r] S h Q ↔ WP 271 0 18 [a0, a1, a2, a3, vA r] (vA r :: S) h Q := wp_aload rfl rfl
theorem s271_18n : WP 271 0 18 L (vA none :: S) h Q ↔ WP 271 0 21 L S h Q := wp_pl rfl rfl rfl
theorem s271_18 : WP 271 0 18 L (vA (some a) :: S) h Q ↔ (3 ≤ a ∧ WP 271 0 29 L S h Q) := wp_if rfl rfl rfl
theorem s271_21 : WP 271 0 21 [vA r, a1, a2, a3, a4] S h Q ↔ WP 271 0 22 [vA r, a1, a2, a3, a4] (vA r :: S) h Q := wp_aload rfl rfl
theorem s271_22 : WP 271 0 22 [a0, a1, a2, vA r, a4] S h Q ↔ WP 271 0 23 [a0, a1, a2, vA r, a4] (vA r :: S) h Q := wp_aload rfl rfl
theorem s271_23 : WP 271 0 23 L (vA r :: vA (some a) :: S) h Q ↔ ((zNC ≤ a ∧ zhas 79 (hk h a) = true) ∧ WP 271 0 26 L S (hput h a 79 (vA r)) Q) := wp_put3 rfl rfl
theorem s271_26 : WP 271 0 26 L S h Q ↔ WP 271 0 40 L S h Q := wp_pl rfl rfl rfl
theorem s271_29 : WP 271 0 29 [a0, a1, a2, a3, vA r] S h Q ↔ WP 271 0 31 [a0, a1, a2, a3, vA r] (vA r :: S) h Q := wp_aload rfl rfl
theorem s271_31 : WP 271 0 31 [a0, a1, a2, vA r, a4] S h Q ↔ WP 271 0 32 [a0, a1, a2, vA r, a4] (vA r :: S) h Q := wp_aload rfl rfl
theorem s271_32 : WP 271 0 32 L (vA r :: vA (some a) :: S) h Q ↔ ((zNC ≤ a ∧ zhas 82 (hk h a) = true) ∧ WP 271 0 35 L S (hput h a 82 (vA r)) Q) := wp_put3 rfl rfl
theorem s271_35 : WP 271 0 35 [a0, vA r, a2, a3, a4] S h Q ↔ WP 271 0 36 [a0, vA r, a2, a3, a4] (vA r :: S) h Q := wp_aload rfl rfl
theorem s271_36 : WP 271 0 36 L S h Q ↔ WP 271 0 37 L (vA none :: S) h Q := wp_pl rfl rfl rfl
theorem s271_37 : WP 271 0 37 L (vA r :: vA (some a) :: S) h Q ↔ ((zNC ≤ a ∧ zhas 83 (hk h a) = true) ∧ WP 271 0 40 L S (hput h a 83 (vA r)) Q) := wp_put3 rfl rfl
theorem s271_40 : WP 271 0 40 [a0, a1, a2, vA r, a4] S h Q ↔ WP 271 0 41 [a0, a1, a2, vA r, a4] (vA r :: S) h Q := wp_aload rfl rfl
theorem s271_41n : WP 271 0 41 L (vA none :: S) h Q ↔ WP 271 0 44 L S h Q := wp_pl rfl rfl rfl
theorem s271_41 : WP 271 0 41 L (vA (some a) :: S) h Q ↔ (3 ≤ a ∧ WP 271 0 53 L S h Q) := wp_if rfl rfl rfl
theorem s271_44 : WP 271 0 44 [vA r, a1, a2, a3, a4] S h Q ↔ WP 271 0 45 [vA r, a1, a2, a3, a4] (vA r :: S) h Q := wp_aload rfl rfl
theorem s271_45 : WP 271 0 45 [a0, a1, a2, a3, vA r] S h Q ↔ WP 271 0 47 [a0, a1, a2, a3, vA r] (vA r :: S) h Q := wp_aload rfl rfl
theorem s271_47 : WP 271 0 47 L (vA r :: vA (some a) :: S) h Q ↔ ((zNC ≤ a ∧ zhas 80 (hk h a) = true) ∧ WP 271 0 50 L S (hput h a 80 (vA r)) Q) := wp_put3 rfl rfl
theorem s271_50 : WP 271 0 50 L S h Q ↔ WP 271 0 64 L S h Q := wp_pl rfl rfl rfl
theorem s271_53 : WP 271 0 53 [a0, a1, a2, vA r, a4] S h Q ↔ WP 271 0 54 [a0, a1, a2, vA r, a4] (vA r :: S) h Q := wp_aload rfl rfl
theorem s271_54 : WP 271 0 54 [a0, a1, a2, a3, vA r] S h Q ↔ WP 271 0 56 [a0, a1, a2, a3, vA r] (vA r :: S) h Q := wp_aload rfl rfl
theorem s271_56 : WP 271 0 56 L (vA r :: vA (some a) :: S) h Q ↔ ((zNC ≤ a ∧ zhas 83 (hk h a) = true) ∧ WP 271 0 59 L S (hput h a 83 (vA r)) Q) := wp_put3 rfl rfl
theorem s271_59 : WP 271 0 59 [a0, vA r, a2, a3, a4] S h Q ↔ WP 271 0 60 [a0, vA r, a2, a3, a4] (vA r :: S) h Q := wp_aload rfl rfl
theorem s271_60 : WP 271 0 60 L S h Q ↔ WP 271 0 61 L (vA none :: S) h Q := wp_pl rfl rfl rfl
theorem s271_61 : WP 271 0 61 L (vA r :: vA (some a) :: S) h Q ↔ ((zNC ≤ a ∧ zhas 82 (hk h a) = true) ∧ WP 271 0 64 L S (hput h a 82 (vA r)) Q) := wp_put3 rfl rfl
theorem s271_64 : WP 271 0 64 [a0, vA r, a2, a3, a4] S h Q ↔ WP 271 0 65 [a0, vA r, a2, a3, a4] (vA r :: S) h Q := wp_aload rfl rfl
theorem s271_65 : WP 271 0 65 L S h Q ↔ WP 271 0 66 L (vA none :: S) h Q := wp_pl rfl rfl rfl
theorem s271_66 : WP 271 0 66 L (vA r :: vA (some a) :: S) h Q ↔ ((zNC ≤ a ∧ zhas 81 (hk h a) = true) ∧ WP 271 0 69 L S (hput h a 81 (vA r)) Q) := wp_put3 rfl rfl
theorem s271_69 : WP 271 0 69 [vA r, a1, a2, a3, a4] S h Q ↔ WP 271 0 70 [vA r, a1, a2, a3, a4] (vA r :: S) h Q := wp_aload rfl rfl
theorem s271_70 : WP 271 0 70 L (vA r :: S) h Q ↔ WP 271 0 71 L (vA r :: vA r :: S) h Q := wp_pl rfl rfl rfl
theorem s271_70i : WP 271 0 70 L (vI x :: S) h Q ↔ WP 271 0 71 L (vI x :: vI x :: S) h Q := wp_pl rfl rfl rfl
theorem s271_71 : WP 271 0 71 L (vA (some a) :: S) h Q ↔ (zhas 78 (hk h a) = true ∧ WP 271 0 74 L (hm h a 78 :: S) h Q) := wp_if rfl rfl rfl
theorem s271_74 : WP 271 0 74 L S h Q ↔ WP 271 0 75 L (vI 1 :: S) h Q := wp_pl rfl rfl rfl
theorem s271_75 : WP 271 0 75 L (vI y :: vI x :: S) h Q ↔ WP 271 0 76 L (vI (wr (x - y)) :: S) h Q := wp_pl rfl rfl rfl
theorem s271_76 : WP 271 0 76 L (vI x :: vA (some a) :: S) h Q ↔ ((zNC ≤ a ∧ zhas 78 (hk h a) = true) ∧ WP 271 0 79 L S (hput h a 78 (vI x)) Q) := wp_put0 rfl rfl
theorem s271_79 : WP 271 0 79 [vA r, a1, a2, a3, a4] S h Q ↔ WP 271 0 80 [vA r, a1, a2, a3, a4] (vA r :: S) h Q := wp_aload rfl rfl
theorem s271_80 : WP 271 0 80 L (vA r :: S) h Q ↔ WP 271 0 81 L (vA r :: vA r :: S) h Q := wp_pl rfl rfl rfl
theorem s271_80i : WP 271 0 80 L (vI x :: S) h Q ↔ WP 271 0 81 L (vI x :: vI x :: S) h Q := wp_pl rfl rfl rfl
theorem s271_81 : WP 271 0 81 L (vA (some a) :: S) h Q ↔ (zhas 77 (hk h a) = true ∧ WP 271 0 84 L (hm h a 77 :: S) h Q) := wp_if rfl rfl rfl
theorem s271_84 : WP 271 0 84 L S h Q ↔ WP 271 0 85 L (vI 1 :: S) h Q := wp_pl rfl rfl rfl
theorem s271_85 : WP 271 0 85 L (vI y :: vI x :: S) h Q ↔ WP 271 0 86 L (vI (wr (x + y)) :: S) h Q := wp_pl rfl rfl rfl
theorem s271_86 : WP 271 0 86 L (vI x :: vA (some a) :: S) h Q ↔ ((zNC ≤ a ∧ zhas 77 (hk h a) = true) ∧ WP 271 0 89 L S (hput h a 77 (vI x)) Q) := wp_put0 rfl rfl
theorem s271_89 : WP 271 0 89 [a0, a1, vA r, a3, a4] S h Q ↔ WP 271 0 90 [a0, a1, vA r, a3, a4] (vA r :: S) h Q := wp_aload rfl rfl
theorem s271_90 : WP 271 0 90 L [vA r] h Q ↔ Q (.inl (some (vA r))) h := wp_aret rfl
/-! java/util/LinkedList$Node.<init>(Ljava/util/LinkedList$Node;Ljava/lang/Object;Ljava/util/LinkedList$Node;)V -/
theorem s272_0 : WP 272 0 0 [vA r, a1, a2, a3] S h Q ↔ WP 272 0 1 [vA r, a1, a2, a3] (vA r :: S) h Q := wp_aload rfl rfl
theorem s272_1 : WP 272 0 1 L (vA (some a) :: S) h Q ↔ ((zw S ≤ 8 ∧ zNC ≤ a) ∧ WP 272 0 4 L S h Q) := wp_if rfl rfl rfl
theorem s272_4 : WP 272 0 4 [vA r, a1, a2, a3] S h Q ↔ WP 272 0 5 [vA r, a1, a2, a3] (vA r :: S) h Q := wp_aload rfl rfl
theorem s272_5 : WP 272 0 5 [a0, a1, vA r, a3] S h Q ↔ WP 272 0 6 [a0, a1, vA r, a3] (vA r :: S) h Q := wp_aload rfl rfl
theorem s272_6 : WP 272 0 6 L (vA r :: vA (some a) :: S) h Q ↔ ((zNC ≤ a ∧ zhas 81 (hk h a) = true) ∧ WP 272 0 9 L S (hput h a 81 (vA r)) Q) := wp_put3 rfl rfl
theorem s272_9 : WP 272 0 9 [vA r, a1, a2, a3] S h Q ↔ WP 272 0 10 [vA r, a1, a2, a3] (vA r :: S) h Q := wp_aload rfl rfl
theorem s272_10 : WP 272 0 10 [a0, a1, a2, vA r] S h Q ↔ WP 272 0 11 [a0, a1, a2, vA r] (vA r :: S) h Q := wp_aload rfl rfl
theorem s272_11 : WP 272 0 11 L (vA r :: vA (some a) :: S) h Q ↔ ((zNC ≤ a ∧ zhas 82 (hk h a) = true) ∧ WP 272 0 14 L S (hput h a 82 (vA r)) Q) := wp_put3 rfl rfl
theorem s272_14 : WP 272 0 14 [vA r, a1, a2, a3] S h Q ↔ WP 272 0 15 [vA r, a1, a2, a3] (vA r :: S) h Q := wp_aload rfl rfl
theorem s272_15 : WP 272 0 15 [a0, vA r, a2, a3] S h Q ↔ WP 272 0 16 [a0, vA r, a2, a3] (vA r :: S) h Q := wp_aload rfl rfl
theorem s272_16 : WP 272 0 16 L (vA r :: vA (some a) :: S) h Q ↔ ((zNC ≤ a ∧ zhas 83 (hk h a) = true) ∧ WP 272 0 19 L S (hput h a 83 (vA r)) Q) := wp_put3 rfl rfl
theorem s272_19 : WP 272 0 19 L [] h Q ↔ Q (.inl none) h := wp_ret rfl
/-! java/util/LinkedList$ListItr.checkForComodification()V -/
theorem s273_0 : WP 273 0 0 [vA r] S h Q ↔ WP 273 0 1 [vA r] (vA r :: S) h Q := wp_aload rfl rfl
theorem s273_1 : WP 273 0 1 L (vA (some a) :: S) h Q ↔ (zhas 88 (hk h a) = true ∧ WP 273 0 4 L (hm h a 88 :: S) h Q) := wp_if rfl rfl rfl
theorem s273_4 : WP 273 0 4 L (vA (some a) :: S) h Q ↔ (zhas 77 (hk h a) = true ∧ WP 273 0 7 L (hm h a 77 :: S) h Q) := wp_if rfl rfl rfl
theorem s273_7 : WP 273 0 7 [vA r] S h Q ↔ WP 273 0 8 [vA r] (vA r :: S) h Q := wp_aload rfl rfl
theorem s273_8 : WP 273 0 8 L (vA (some a) :: S) h Q ↔ (zhas 87 (hk h a) = true ∧ WP 273 0 11 L (hm h a 87 :: S) h Q) := wp_if rfl rfl rfl
theorem s273_11 : WP 273 0 11 L (vI y :: vI x :: S) h Q ↔ zif (x = y) (WP 273 0 22 L S h Q) (WP 273 0 14 L S h Q) := wp_bE zc_eq rfl rfl rfl
theorem s273_17 : WP 273 0 17 L (vA r :: S) h Q ↔ WP 273 0 18 L (vA r :: vA r :: S) h Q := wp_pl rfl rfl rfl
theorem s273_17i : WP 273 0 17 L (vI x :: S) h Q ↔ WP 273 0 18 L (vI x :: vI x :: S) h Q := wp_pl rfl rfl rfl
theorem s273_21 : WP 273 0 21 L (vA (some a) :: S) h Q ↔ ((((120 ≤ (hk h a).1 ∧ (hk h a).1 ≤ 123) ∨ (hk h a).1 = 109)) ∧ Q (.inr a) h) := wp_athrow (fun _ => rfl) rfl
theorem s273_22 : WP 273 0 22 L [] h Q ↔ Q (.inl none) h := wp_ret rfl
/-! java/util/LinkedList$ListItr.hasNext()Z -/
theorem s274_0 : WP 274 0 0 [vA r] S h Q ↔ WP 274 0 1 [vA r] (vA r :: S) h Q := wp_aload rfl rfl
theorem s274_1 : WP 274 0 1 L (vA (some a) :: S) h Q ↔ (zhas 86 (hk h a) = true ∧ WP 274 0 4 L (hm h a 86 :: S) h Q) := wp_if rfl rfl rfl
theorem s274_4 : WP 274 0 4 [vA r] S h Q ↔ WP 274 0 5 [vA r] (vA r :: S) h Q := wp_aload rfl rfl
theorem s274_5 : WP 274 0 5 L (vA (some a) :: S) h Q ↔ (zhas 88 (hk h a) = true ∧ WP 274 0 8 L (hm h a 88 :: S) h Q) := wp_if rfl rfl rfl
theorem s274_8 : WP 274 0 8 L (vA (some a) :: S) h Q ↔ (zhas 78 (hk h a) = true ∧ WP 274 0 11 L (hm h a 78 :: S) h Q) := wp_if rfl rfl rfl
theorem s274_11 : WP 274 0 11 L (vI y :: vI x :: S) h Q ↔ zif (x < y) (WP 274 0 14 L S h Q) (WP 274 0 18 L S h Q) := wp_bN zc_lt rfl rfl rfl
theorem s274_14 : WP 274 0 14 L S h Q ↔ WP 274 0 15 L (vI 1 :: S) h Q := wp_pl rfl rfl rfl
theorem s274_15 : WP 274 0 15 L S h Q ↔ WP 274 0 19 L S h Q := wp_pl rfl rfl rfl
theorem s274_18 : WP 274 0 18 L S h Q ↔ WP 274 0 19 L (vI 0 :: S) h Q := wp_pl rfl rfl rfl
theorem s274_19 : WP 274 0 19 L [vI x] h Q ↔ ((x = 0 ∨ x = 1) ∧ Q (.inl (some (vI x))) h) := wp_iret rfl rfl
/-! java/util/LinkedList$ListItr.<init>(Ljava/util/LinkedList;I)V -/
theorem s275_0 : WP 275 0 0 [vA r, a1, a2] S h Q ↔ WP 275 0 1 [vA r, a1, a2] (vA r :: S) h Q := wp_aload rfl rfl
theorem s275_1 : WP 275 0 1 [a0, vA r, a2] S h Q ↔ WP 275 0 2 [a0, vA r, a2] (vA r :: S) h Q := wp_aload rfl rfl
theorem s275_2 : WP 275 0 2 L (vA r :: vA (some a) :: S) h Q ↔ ((zNC ≤ a ∧ zhas 88 (hk h a) = true) ∧ WP 275 0 5 L S (hput h a 88 (vA r)) Q) := wp_put3 rfl rfl
theorem s275_5 : WP 275 0 5 [vA r, a1, a2] S h Q ↔ WP 275 0 6 [vA r, a1, a2] (vA r :: S) h Q := wp_aload rfl rfl
theorem s275_6 : WP 275 0 6 L (vA (some a) :: S) h Q ↔ ((zw S ≤ 8 ∧ zNC ≤ a) ∧ WP 275 0 9 L S h Q) := wp_if rfl rfl rfl
theorem s275_9 : WP 275 0 9 [vA r, a1, a2] S h Q ↔ WP 275 0 10 [vA r, a1, a2] (vA r :: S) h Q := wp_aload rfl rfl
theorem s275_10 : WP 275 0 10 [vA r, a1, a2] S h Q ↔ WP 275 0 11 [vA r, a1, a2] (vA r :: S) h Q := wp_aload rfl rfl
theorem s275_11 : WP 275 0 11 L (vA (some a) :: S) h Q ↔ (zhas 88 (hk h a) = true ∧ WP 275 0 14 L (hm h a 88 :: S) h Q) := wp_if rfl rfl rfl
theorem s275_14 : WP 275 0 14 L (vA (some a) :: S) h Q ↔ (zhas 77 (hk h a) = true ∧ WP 275 0 17 L (hm h a 77 :: S) h Q) := wp_if rfl rfl rfl
theorem s275_17 : WP 275 0 17 L (vI x :: vA (some a) :: S) h Q ↔ ((zNC ≤ a ∧ zhas 87 (hk h a) = true) ∧ WP 275 0 20 L S (hput h a 87 (vI x)) Q) := wp_put0 rfl rfl
theorem s275_20 : WP 275 0 20 [vA r, a1, a2] S h Q ↔ WP 275 0 21 [vA r, a1, a2] (vA r :: S) h Q := wp_aload rfl rfl
theorem s275_21 : WP 275 0 21 [a0, a1, vI x] S h Q ↔ WP 275 0 22 [a0, a1, vI x] (vI x :: S) h Q := wp_iload rfl rfl
theorem s275_22 : WP 275 0 22 [a0, vA r, a2] S h Q ↔ WP 275 0 23 [a0, vA r, a2] (vA r :: S) h Q := wp_aload rfl rfl
theorem s275_23 : WP 275 0 23 L (vA (some a) :: S) h Q ↔ (zhas 78 (hk h a) = true ∧ WP 275 0 26 L (hm h a 78 :: S) h Q) := wp_if rfl rfl rfl
theorem s275_26 : WP 275 0 26 L (vI y :: vI x :: S) h Q ↔ zif (x = y) (WP 275 0 29 L S h Q) (WP 275 0 33 L S h Q) := wp_bN zc_eq rfl rfl rfl
theorem s275_29 : WP 275 0 29 L S h Q ↔ WP 275 0 30 L (vA none :: S) h Q := wp_pl rfl rfl rfl
theorem s275_30 : WP 275 0 30 L S h Q ↔ WP 275 0 38 L S h Q := wp_pl rfl rfl rfl
theorem s275_33 : WP 275 0 33 [a0, vA r, a2] S h Q ↔ WP 275 0 34 [a0, vA r, a2] (vA r :: S) h Q := wp_aload rfl rfl
theorem s275_34 : WP 275 0 34 [a0, a1, vI x] S h Q ↔ WP 275 0 35 [a0, a1, vI x] (vI x :: S) h Q := wp_iload rfl rfl
theorem s275_35 : WP 275 0 35 L (vI x0 :: vA (some a) :: S) h Q ↔ ((hk h a).1 = 111 ∧ (zw S ≤ 8 ∧ WP 268 0 0 [vA (some a), vI x0, vJ, vJ] [] h (zret 275 0 35 38 L S Q))) := wp_V1 (c := 111) rfl rfl (fun _ => rfl) rfl rfl (zcan_of rfl rfl) rfl rfl rfl
theorem s275_38 : WP 275 0 38 L (vA r :: vA (some a) :: S) h Q ↔ ((zNC ≤ a ∧ zhas 85 (hk h a) = true) ∧ WP 275 0 41 L S (hput h a 85 (vA r)) Q) := wp_put3 rfl rfl
theorem s275_41 : WP 275 0 41 [vA r, a1, a2] S h Q ↔ WP 275 0 42 [vA r, a1, a2] (vA r :: S) h Q := wp_aload rfl rfl
theorem s275_42 : WP 275 0 42 [a0, a1, vI x] S h Q ↔ WP 275 0 43 [a0, a1, vI x] (vI x :: S) h Q := wp_iload rfl rfl
theorem s275_43 : WP 275 0 43 L (vI x :: vA (some a) :: S) h Q ↔ ((zNC ≤ a ∧ zhas 86 (hk h a) = true) ∧ WP 275 0 46 L S (hput h a 86 (vI x)) Q) := wp_put0 rfl rfl
theorem s275_46 : WP 275 0 46 L [] h Q ↔ Q (.inl none) h := wp_ret rfl
/-! java/util/LinkedList$ListItr.next()Ljava/lang/Object; -/
theorem s276_0 : WP 276 0 0 [vA r] S h Q ↔ WP 276 0 1 [vA r] (vA r :: S) h Q := wp_aload rfl rfl
theorem s276_1 : WP 276 0 1 L (vA (some a) :: S) h Q ↔ ((hk h a).1 = 113 ∧ (zw S ≤ 8 ∧ WP 273 0 0 [vA (some a)] [] h (zret 276 0 1 4 L S Q))) := wp_V1 (c := 113) rfl rfl (fun _ => rfl) rfl rfl (zcan_of rfl rfl) rfl rfl rfl
theorem s276_4 : WP 276 0 4 [vA r] S h Q ↔ WP 276 0 5 [vA r] (vA r :: S) h Q := wp_aload rfl rfl
theorem s276_5 : WP 276 0 5 L (vA (some a) :: S) h Q ↔ ((hk h a).1 = 113 ∧ (zw S ≤ 8 ∧ WP 274 0 0 [vA (some a)] [] h (zret 276 0 5 8 L S Q))) := wp_V1 (c := 113) rfl rfl (fun _ => rfl) rfl rfl (zcan_of rfl rfl) rfl rfl rfl
theorem s276_8 : WP 276 0 8 L (vI x :: S) h Q ↔ zif (x = 0) (WP 276 0 11 L S h Q) (WP 276 0 19 L S h Q) := wp_bN zc_eq rfl rfl rfl
theorem s276_11 : WP 276 0 11 L S h Q ↔ (zw S ≤ 8 ∧ WP 276 0 18 L (vA (some (hn h)) :: S) (hnew h (123, 0) 6 zdf) Q) := wp_if rfl rfl rfl
theorem s276_18 : WP 276 0 18 L (vA (some a) :: S) h Q ↔ ((((120 ≤ (hk h a).1 ∧ (hk h a).1 ≤ 123) ∨ (hk h a).1 = 109)) ∧ Q (.inr a) h) := wp_athrow (fun _ => rfl) rfl
theorem s276_19 : WP 276 0 19 [vA r] S h Q ↔ WP 276 0 20 [vA r] (vA r :: S) h Q := wp_aload rfl rfl
theorem s276_20 : WP 276 0 20 [vA r] S h Q ↔ WP 276 0 21 [vA r] (vA r :: S) h Q := wp_aload rfl rfl
theorem s276_21 : WP 276 0 21 L (vA (some a) :: S) h Q ↔ (zhas 85 (hk h a) = true ∧ WP 276 0 24 L (hm h a 85 :: S) h Q) := wp_if rfl rfl rfl
theorem s276_24 : WP 276 0 24 L (vA r :: vA (some a) :: S) h Q ↔ ((zNC ≤ a ∧ zhas 84 (hk h a) = true) ∧ WP 276 0 27 L S (hput h a 84 (vA r)) Q) := wp_put3 rfl rfl
theorem s276_27 : WP 276 0 27 [vA r] S h Q ↔ WP 276 0 28 [vA r] (vA r :: S) h Q := wp_aload rfl rfl
theorem s276_28 : WP 276 0 28 [vA r] S h Q ↔ WP 276 0 29 [vA r] (vA r :: S) h Q := wp_aload rfl rfl
theorem s276_29 : WP 276 0 29 L (vA (some a) :: S) h Q ↔ (zhas 85 (hk h a) = true ∧ WP 276 0 32 L (hm h a 85 :: S) h Q) := wp_if rfl rfl rfl
theorem s276_32 : WP 276 0 32 L (vA (some a) :: S) h Q ↔ (zhas 82 (hk h a) = true ∧ WP 276 0 35 L (hm h a 82 :: S) h Q) := wp_if rfl rfl rfl
theorem s276_35 : WP 276 0 35 L (vA r :: vA (some a) :: S) h Q ↔ ((zNC ≤ a ∧ zhas 85 (hk h a) = true) ∧ WP 276 0 38 L S (hput h a 85 (vA r)) Q) := wp_put3 rfl rfl
theorem s276_38 : WP 276 0 38 [vA r] S h Q ↔ WP 276 0 39 [vA r] (vA r :: S) h Q := wp_aload rfl rfl
theorem s276_39 : WP 276 0 39 L (vA r :: S) h Q ↔ WP 276 0 40 L (vA r :: vA r :: S) h Q := wp_pl rfl rfl rfl
theorem s276_39i : WP 276 0 39 L (vI x :: S) h Q ↔ WP 276 0 40 L (vI x :: vI x :: S) h Q := wp_pl rfl rfl rfl
theorem s276_40 : WP 276 0 40 L (vA (some a) :: S) h Q ↔ (zhas 86 (hk h a) = true ∧ WP 276 0 43 L (hm h a 86 :: S) h Q) := wp_if rfl rfl rfl
theorem s276_43 : WP 276 0 43 L S h Q ↔ WP 276 0 44 L (vI 1 :: S) h Q := wp_pl rfl rfl rfl
theorem s276_44 : WP 276 0 44 L (vI y :: vI x :: S) h Q ↔ WP 276 0 45 L (vI (wr (x + y)) :: S) h Q := wp_pl rfl rfl rfl
theorem s276_45 : WP 276 0 45 L (vI x :: vA (some a) :: S) h Q ↔ ((zNC ≤ a ∧ zhas 86 (hk h a) = true) ∧ WP 276 0 48 L S (hput h a 86 (vI x)) Q) := wp_put0 rfl rfl
theorem s276_48 : WP 276 0 48 [vA r] S h Q ↔ WP 276 0 49 [vA r] (vA r :: S) h Q := wp_aload rfl rfl
theorem s276_49 : WP 276 0 49 L (vA (some a) :: S) h Q ↔ (zhas 84 (hk h a) = true ∧ WP 276 0 52 L (hm h a 84 :: S) h Q) := wp_if rfl rfl rfl
theorem s276_52 : WP 276 0 52 L (vA (some a) :: S) h Q ↔ (zhas 81 (hk h a) = true ∧ WP 276 0 55 L (hm h a 81 :: S) h Q) := wp_if rfl rfl rfl
theorem s276_55 : WP 276 0 55 L [vA r] h Q ↔ Q (.inl (some (vA r))) h := wp_aret rfl
/-! java/util/LinkedList$ListItr.remove()V -/
theorem s277_0 : WP 277 0 0 [vA r, a1] S h Q ↔ WP 277 0 1 [vA r, a1] (vA r :: S) h Q := wp_aload rfl rfl
theorem s277_1 : WP 277 0 1 L (vA (some a) :: S) h Q ↔ ((hk h a).1 = 113 ∧ (zw S ≤ 8 ∧ WP 273 0 0 [vA (some a)] [] h (zret 277 0 1 4 L S Q))) := wp_V1 (c := 113) rfl rfl (fun _ => rfl) rfl rfl (zcan_of rfl rfl) rfl rfl rfl
theorem s277_4 : WP 277 0 4 [vA r, a1] S h Q ↔ WP 277 0 5 [vA r, a1] (vA r :: S) h Q := wp_aload rfl rfl
theorem s277_5 : WP 277 0 5 L (vA (some a) :: S) h Q ↔ (zhas 84 (hk h a) = true ∧ WP 277 0 8 L (hm h a 84 :: S) h Q) := wp_if rfl rfl rfl
theorem s277_8n : WP 277 0 8 L (vA none :: S) h Q ↔ WP 277 0 11 L S h Q := wp_pl rfl rfl rfl
theorem s277_8 : WP 277 0 8 L (vA (some a) :: S) h Q ↔ (3 ≤ a ∧ WP 277 0 19 L S h Q) := wp_if rfl rfl rfl
theorem s277_11 : WP 277 0 11 L S h Q ↔ (zw S ≤ 8 ∧ WP 277 0 18 L (vA (some (hn h)) :: S) (hnew h (121, 0) 6 zdf) Q) := wp_if rfl rfl rfl
theorem s277_18 : WP 277 0 18 L (vA (some a) :: S) h Q ↔ ((((120 ≤ (hk h a).1 ∧ (hk h a).1 ≤ 123) ∨ (hk h a).1 = 109)) ∧ Q (.inr a) h) := wp_athrow (fun _ => rfl) rfl
theorem s277_19 : WP 277 0 19 [vA r, a1] S h Q ↔ WP 277 0 20 [vA r, a1] (vA r :: S) h Q := wp_aload rfl rfl
theorem s277_20 : WP 277 0 20 L (vA (some a) :: S) h Q ↔ (zhas 84 (hk h a) = true ∧ WP 277 0 23 L (hm h a 84 :: S) h Q) := wp_if rfl rfl rfl
theorem s277_23 : WP 277 0 23 L (vA (some a) :: S) h Q ↔ (zhas 82 (hk h a) = true ∧ WP 277 0 26 L (hm h a 82 :: S) h Q) := wp_if rfl rfl rfl
theorem s277_26 : WP 277 0 26 [a0, a1] (vA r :: S) h Q ↔ WP 277 0 27 [a0, vA r] S h Q := wp_astore rfl rfl rfl
theorem s277_27 : WP 277 0 27 [vA r, a1] S h Q ↔ WP 277 0 28 [vA r, a1] (vA r :: S) h Q := wp_aload rfl rfl
theorem s277_28 : WP 277 0 28 L (vA (some a) :: S) h Q ↔ (zhas 88 (hk h a) = true ∧ WP 277 0 31 L (hm h a 88 :: S) h Q) := wp_if rfl rfl rfl
theorem s277_31 : WP 277 0 31 [vA r, a1] S h Q ↔ WP 277 0 32 [vA r, a1] (vA r :: S) h Q := wp_aload rfl rfl
theorem s277_32 : WP 277 0 32 L (vA (some a) :: S) h Q ↔ (zhas 84 (hk h a) = true ∧ WP 277 0 35 L (hm h a 84 :: S) h Q) := wp_if rfl rfl rfl
theorem s277_35 : WP 277 0 35 L (vA r0 :: vA (some a) :: S) h Q ↔ ((hk h a).1 = 111 ∧ (zw S ≤ 8 ∧ WP 271 0 0 [vA (some a), vA r0, vJ, vJ, vJ] [] h (zret 277 0 35 38 L S Q))) := wp_V1 (c := 111) rfl rfl (fun _ => rfl) rfl rfl (zcan_of rfl rfl) rfl rfl rfl
theorem s277_38 : WP 277 0 38 L (vA r :: S) h Q ↔ WP 277 0 39 L S h Q := wp_pl rfl rfl rfl
theorem s277_38i : WP 277 0 38 L (vI x :: S) h Q ↔ WP 277 0 39 L S h Q := wp_pl rfl rfl rfl
theorem s277_39 : WP 277 0 39 [vA r, a1] S h Q ↔ WP 277 0 40 [vA r, a1] (vA r :: S) h Q := wp_aload rfl rfl
theorem s277_40 : WP 277 0 40 L (vA (some a) :: S) h Q ↔ (zhas 85 (hk h a) = true ∧ WP 277 0 43 L (hm h a 85 :: S) h Q) := wp_if rfl rfl rfl
theorem s277_43 : WP 277 0 43 [vA r, a1] S h Q ↔ WP 277 0 44 [vA r, a1] (vA r :: S) h Q := wp_aload rfl rfl
theorem s277_44 : WP 277 0 44 L (vA (some a) :: S) h Q ↔ (zhas 84 (hk h a) = true ∧ WP 277 0 47 L (hm h a 84 :: S) h Q) := wp_if rfl rfl rfl
theorem s277_47 : WP 277 0 47 L (vA q :: vA r :: S) h Q ↔ (zac r q = true ∧ zif (zaq .ne r q = true) (WP 277 0 58 L S h Q) (WP 277 0 50 L S h Q)) := wp_acmp (t := 58) rfl
theorem s277_50 : WP 277 0 50 [vA r, a1] S h Q ↔ WP 277 0 51 [vA r, a1] (vA r :: S) h Q := wp_aload rfl rfl
theorem s277_51 : WP 277 0 51 [a0, vA r] S h Q ↔ WP 277 0 52 [a0, vA r] (vA r :: S) h Q := wp_aload rfl rfl
theorem s277_52 : WP 277 0 52 L (vA r :: vA (some a) :: S) h Q ↔ ((zNC ≤ a ∧ zhas 85 (hk h a) = true) ∧ WP 277 0 55 L S (hput h a 85 (vA r)) Q) := wp_put3 rfl rfl
theorem s277_55 : WP 277 0 55 L S h Q ↔ WP 277 0 68 L S h Q := wp_pl rfl rfl rfl
theorem s277_58 : WP 277 0 58 [vA r, a1] S h Q ↔ WP 277 0 59 [vA r, a1] (vA r :: S) h Q := wp_aload rfl rfl
theorem s277_59 : WP 277 0 59 L (vA r :: S) h Q ↔ WP 277 0 60 L (vA r :: vA r :: S) h Q := wp_pl rfl rfl rfl
theorem s277_59i : WP 277 0 59 L (vI x :: S) h Q ↔ WP 277 0 60 L (vI x :: vI x :: S) h Q := wp_pl rfl rfl rfl
theorem s277_60 : WP 277 0 60 L (vA (some a) :: S) h Q ↔ (zhas 86 (hk h a) = true ∧ WP 277 0 63 L (hm h a 86 :: S) h Q) := wp_if rfl rfl rfl
theorem s277_63 : WP 277 0 63 L S h Q ↔ WP 277 0 64 L (vI 1 :: S) h Q := wp_pl rfl rfl rfl
theorem s277_64 : WP 277 0 64 L (vI y :: vI x :: S) h Q ↔ WP 277 0 65 L (vI (wr (x - y)) :: S) h Q := wp_pl rfl rfl rfl
theorem s277_65 : WP 277 0 65 L (vI x :: vA (some a) :: S) h Q ↔ ((zNC ≤ a ∧ zhas 86 (hk h a) = true) ∧ WP 277 0 68 L S (hput h a 86 (vI x)) Q) := wp_put0 rfl rfl
theorem s277_68 : WP 277 0 68 [vA r, a1] S h Q ↔ WP 277 0 69 [vA r, a1] (vA r :: S) h Q := wp_aload rfl rfl
theorem s277_69 : WP 277 0 69 L S h Q ↔ WP 277 0 70 L (vA none :: S) h Q := wp_pl rfl rfl rfl
theorem s277_70 : WP 277 0 70 L (vA r :: vA (some a) :: S) h Q ↔ ((zNC ≤ a ∧ zhas 84 (hk h a) = true) ∧ WP 277 0 73 L S (hput h a 84 (vA r)) Q) := wp_put3 rfl rfl
theorem s277_73 : WP 277 0 73 [vA r, a1] S h Q ↔ WP 277 0 74 [vA r, a1] (vA r :: S) h Q := wp_aload rfl rfl
theorem s277_74 : WP 277 0 74 L (vA r :: S) h Q ↔ WP 277 0 75 L (vA r :: vA r :: S) h Q := wp_pl rfl rfl rfl
theorem s277_74i : WP 277 0 74 L (vI x :: S) h Q ↔ WP 277 0 75 L (vI x :: vI x :: S) h Q := wp_pl rfl rfl rfl
theorem s277_75 : WP 277 0 75 L (vA (some a) :: S) h Q ↔ (zhas 87 (hk h a) = true ∧ WP 277 0 78 L (hm h a 87 :: S) h Q) := wp_if rfl rfl rfl
theorem s277_78 : WP 277 0 78 L S h Q ↔ WP 277 0 79 L (vI 1 :: S) h Q := wp_pl rfl rfl rfl
theorem s277_79 : WP 277 0 79 L (vI y :: vI x :: S) h Q ↔ WP 277 0 80 L (vI (wr (x + y)) :: S) h Q := wp_pl rfl rfl rfl
theorem s277_80 : WP 277 0 80 L (vI x :: vA (some a) :: S) h Q ↔ ((zNC ≤ a ∧ zhas 87 (hk h a) = true) ∧ WP 277 0 83 L S (hput h a 87 (vI x)) Q) := wp_put0 rfl rfl
theorem s277_83 : WP 277 0 83 L [] h Q ↔ Q (.inl none) h := wp_ret rfl
/-! java/util/ArrayDeque.addLast(Ljava/lang/Object;)V -/
theorem s278_0 : WP 278 0 0 [a0, vA r, a2] S h Q ↔ WP 278 0 1 [a0, vA r, a2] (vA r :: S) h Q := wp_aload rfl rfl
theorem s278_1n : WP 278 0 1 L (vA none :: S) h Q ↔ WP 278 0 4 L S h Q := wp_pl rfl rfl rfl
theorem s278_1 : WP 278 0 1 L (vA (some a) :: S) h Q ↔ (3 ≤ a ∧ WP 278 0 12 L S h Q) := wp_if rfl rfl rfl
theorem s278_7 : WP 278 0 7 L (vA r :: S) h Q ↔ WP 278 0 8 L (vA r :: vA r :: S) h Q := wp_pl rfl rfl rfl
theorem s278_7i : WP 278 0 7 L (vI x :: S) h Q ↔ WP 278 0 8 L (vI x :: vI x :: S) h Q := wp_pl rfl rfl rfl
theorem s278_11 : WP 278 0 11 L (vA (some a) :: S) h Q ↔ ((((120 ≤ (hk h a).1 ∧ (hk h a).1 ≤ 123) ∨ (hk h a).1 = 109)) ∧ Q (.inr a) h) := wp_athrow (fun _ => rfl) rfl
theorem s278_12 : WP 278 0 12 [vA r, a1, a2] S h Q ↔ WP 278 0 13 [vA r, a1, a2] (vA r :: S) h Q := wp_aload rfl rfl
theorem s278_13 : WP 278 0 13 L (vA (some a) :: S) h Q ↔ (zhas 89 (hk h a) = true ∧ WP 278 0 16 L (hm h a 89 :: S) h Q) := wp_if rfl rfl rfl
theorem s278_16 : WP 278 0 16 [a0, a1, a2] (vA r :: S) h Q ↔ WP 278 0 17 [a0, a1, vA r] S h Q := wp_astore rfl rfl rfl
theorem s278_17 : WP 278 0 17 [a0, a1, vA r] S h Q ↔ WP 278 0 18 [a0, a1, vA r] (vA r :: S) h Q := wp_aload rfl rfl
theorem s278_18 : WP 278 0 18 [vA r, a1, a2] S h Q ↔ WP 278 0 19 [vA r, a1, a2] (vA r :: S) h Q := wp_aload rfl rfl
theorem s278_19 : WP 278 0 19 L (vA (some a) :: S) h Q ↔ (zhas 91 (hk h a) = true ∧ WP 278 0 22 L (hm h a 91 :: S) h Q) := wp_if rfl rfl rfl
theorem s278_22 : WP 278 0 22 [a0, vA r, a2] S h Q ↔ WP 278 0 23 [a0, vA r, a2] (vA r :: S) h Q := wp_aload rfl rfl
theorem s278_23 : WP 278 0 23 L (vA r :: vI x :: vA (some a) :: S) h Q ↔ (((5 ≤ (hk h a).1 ∧ (hk h a).1 ≤ 7) ∧ (0 ≤ x ∧ x < ((hk h a).2 : Int)) ∧ zNC ≤ a ∧ zref h a r) ∧ WP 278 0 24 L S (hput h a x.toNat (vA r)) Q) := wp_aast rfl
theorem s278_24 : WP 278 0 24 [vA r, a1, a2] S h Q ↔ WP 278 0 25 [vA r, a1, a2] (vA r :: S) h Q := wp_aload rfl rfl
theorem s278_25 : WP 278 0 25 L (vA (some a) :: S) h Q ↔ (zhas 90 (hk h a) = true ∧ WP 278 0 28 L (hm h a 90 :: S) h Q) := wp_if rfl rfl rfl
theorem s278_28 : WP 278 0 28 [vA r, a1, a2] S h Q ↔ WP 278 0 29 [vA r, a1, a2] (vA r :: S) h Q := wp_aload rfl rfl
theorem s278_29 : WP 278 0 29 [vA r, a1, a2] S h Q ↔ WP 278 0 30 [vA r, a1, a2] (vA r :: S) h Q := wp_aload rfl rfl
theorem s278_30 : WP 278 0 30 L (vA (some a) :: S) h Q ↔ (zhas 91 (hk h a) = true ∧ WP 278 0 33 L (hm h a 91 :: S) h Q) := wp_if rfl rfl rfl
theorem s278_33 : WP 278 0 33 [a0, a1, vA r] S h Q ↔ WP 278 0 34 [a0, a1, vA r] (vA r :: S) h Q := wp_aload rfl rfl
theorem s278_34 : WP 278 0 34 L (vA (some a) :: S) h Q ↔ ((1 ≤ (hk h a).1 ∧ (hk h a).1 ≤ 7) ∧ WP 278 0 35 L (vI ((hk h a).2 : Int) :: S) h Q) := wp_if rfl rfl rfl
theorem s278_35 : WP 278 0 35 L (vI x1 :: vI x0 :: S) h Q ↔ (zw S ≤ 8 ∧ WP 283 0 0 [vI x0, vI x1] [] h (zret 278 0 35 38 L S Q)) := wp_S rfl rfl (zcan_of rfl rfl) rfl rfl rfl
theorem s278_38 : WP 278 0 38 L (vI y :: vA r :: S) h Q ↔ WP 278 0 39 L (vI y :: vA r :: vI y :: S) h Q := wp_pl rfl rfl rfl
theorem s278_38a : WP 278 0 38 L (vA q :: vA r :: S) h Q ↔ WP 278 0 39 L (vA q :: vA r :: vA q :: S) h Q := wp_pl rfl rfl rfl
theorem s278_39 : WP 278 0 39 L (vI x :: vA (some a) :: S) h Q ↔ ((zNC ≤ a ∧ zhas 91 (hk h a) = true) ∧ WP 278 0 42 L S (hput h a 91 (vI x)) Q) := wp_put0 rfl rfl
theorem s278_42 : WP 278 0 42 L (vI y :: vI x :: S) h Q ↔ zif (x = y) (WP 278 0 45 L S h Q) (WP 278 0 50 L S h Q) := wp_bN zc_eq rfl rfl rfl
theorem s278_45 : WP 278 0 45 [vA r, a1, a2] S h Q ↔ WP 278 0 46 [vA r, a1, a2] (vA r :: S) h Q := wp_aload rfl rfl
theorem s278_46 : WP 278 0 46 L S h Q ↔ WP 278 0 47 L (vI 1 :: S) h Q := wp_pl rfl rfl rfl
theorem s278_50 : WP 278 0 50 L [] h Q ↔ Q (.inl none) h := wp_ret rfl
/-! java/util/ArrayDeque.circularClear([Ljava/lang/Object;II)V -/
theorem s279_0 : WP 279 0 0 [a0, vI x, a2, a3] S h Q ↔ WP 279 0 1 [a0, vI x, a2, a3] (vI x :: S) h Q := wp_iload rfl rfl
theorem s279_1 : WP 279 0 1 [a0, a1, vI x, a3] S h Q ↔ WP 279 0 2 [a0, a1, vI x, a3] (vI x :: S) h Q := wp_iload rfl rfl
theorem s279_2 : WP 279 0 2 L (vI y :: vI x :: S) h Q ↔ zif (y < x) (WP 279 0 9 L S h Q) (WP 279 0 5 L S h Q) := wp_bE zc_gt rfl rfl rfl
theorem s279_5 : WP 279 0 5 [a0, a1, vI x, a3] S h Q ↔ WP 279 0 6 [a0, a1, vI x, a3] (vI x :: S) h Q := wp_iload rfl rfl
theorem s279_6 : WP 279 0 6 L S h Q ↔ WP 279 0 11 L S h Q := wp_pl rfl rfl rfl
theorem s279_9 : WP 279 0 9 [vA r, a1, a2, a3] S h Q ↔ WP 279 0 10 [vA r, a1, a2, a3] (vA r :: S) h Q := wp_aload rfl rfl
theorem s279_10 : WP 279 0 10 L (vA (some a) :: S) h Q ↔ ((1 ≤ (hk h a).1 ∧ (hk h a).1 ≤ 7) ∧ WP 279 0 11 L (vI ((hk h a).2 : Int) :: S) h Q) := wp_if rfl rfl rfl
theorem s279_11 : WP 279 0 11 [a0, a1, a2, a3] (vI x :: S) h Q ↔ WP 279 0 12 [a0, a1, a2, vI x] S h Q := wp_istore rfl rfl rfl
theorem s279_12 : WP 279 0 12 [a0, vI x, a2, a3] S h Q ↔ WP 279 0 13 [a0, vI x, a2, a3] (vI x :: S) h Q := wp_iload rfl rfl
theorem s279_13 : WP 279 0 13 [a0, a1, a2, vI x] S h Q ↔ WP 279 0 14 [a0, a1, a2, vI x] (vI x :: S) h Q := wp_iload rfl rfl
theorem s279_14 : WP 279 0 14 L (vI y :: vI x :: S) h Q ↔ zif (x < y) (WP 279 0 17 L S h Q) (WP 279 0 27 L S h Q) := wp_bN zc_lt rfl rfl rfl
theorem s279_17 : WP 279 0 17 [vA r, a1, a2, a3] S h Q ↔ WP 279 0 18 [vA r, a1, a2, a3] (vA r :: S) h Q := wp_aload rfl rfl
theorem s279_18 : WP 279 0 18 [a0, vI x, a2, a3] S h Q ↔ WP 279 0 19 [a0, vI x, a2, a3] (vI x :: S) h Q := wp_iload rfl rfl
theorem s279_19 : WP 279 0 19 L S h Q ↔ WP 279 0 20 L (vA none :: S) h Q := wp_pl rfl rfl rfl
theorem s279_20 : WP 279 0 20 L (vA r :: vI x :: vA (some a) :: S) h Q ↔ (((5 ≤ (hk h a).1 ∧ (hk h a).1 ≤ 7) ∧ (0 ≤ x ∧ x < ((hk h a).2 : Int)) ∧ zNC ≤ a ∧ zref h a r) ∧ WP 279 0 21 L S (hput h a x.toNat (vA r)) Q) := wp_aast rfl
theorem s279_21 : WP 279 0 21 [a0, vI x, a2, a3] S h Q ↔ WP 279 0 24 [a0, vI (wr (x + 1)), a2, a3] S h Q := wp_iinc rfl rfl rfl
theorem s279_24 : WP 279 0 24 L S h Q ↔ WP 279 0 12 L S h Q := wp_pl rfl rfl rfl
theorem s279_27 : WP 279 0 27 [a0, a1, a2, vI x] S h Q ↔ WP 279 0 28 [a0, a1, a2, vI x] (vI x :: S) h Q := wp_iload rfl rfl
theorem s279_28 : WP 279 0 28 [a0, a1, vI x, a3] S h Q ↔ WP 279 0 29 [a0, a1, vI x, a3] (vI x :: S) h Q := wp_iload rfl rfl
theorem s279_29 : WP 279 0 29 L (vI y :: vI x :: S) h Q ↔ zif (x = y) (WP 279 0 32 L S h Q) (WP 279 0 35 L S h Q) := wp_bN zc_eq rfl rfl rfl
theorem s279_32 : WP 279 0 32 L S h Q ↔ WP 279 0 42 L S h Q := wp_pl rfl rfl rfl
theorem s279_35 : WP 279 0 35 L S h Q ↔ WP 279 0 36 L (vI 0 :: S) h Q := wp_pl rfl rfl rfl
theorem s279_36 : WP 279 0 36 [a0, a1, a2, a3] (vI x :: S) h Q ↔ WP 279 0 37 [a0, vI x, a2, a3] S h Q := wp_istore rfl rfl rfl
theorem s279_37 : WP 279 0 37 [a0, a1, vI x, a3] S h Q ↔ WP 279 0 38 [a0, a1, vI x, a3] (vI x :: S) h Q := wp_iload rfl rfl
theorem s279_38 : WP 279 0 38 [a0, a1, a2, a3] (vI x :: S) h Q ↔ WP 279 0 39 [a0, a1, a2, vI x] S h Q := wp_istore rfl rfl rfl
theorem s279_39 : WP 279 0 39 L S h Q ↔ WP 279 0 12 L S h Q := wp_pl rfl rfl rfl
theorem s279_42 : WP 279 0 42 L [] h Q ↔ Q (.inl none) h := wp_ret rfl
/-! java/util/ArrayDeque.clear()V -/
theorem s280_0 : WP 280 0 0 [vA r] S h Q ↔ WP 280 0 1 [vA r] (vA r :: S) h Q := wp_aload rfl rfl
theorem s280_1 : WP 280 0 1 L (vA (some a) :: S) h Q ↔ (zhas 89 (hk h a) = true ∧ WP 280 0 4 L (hm h a 89 :: S) h Q) := wp_if rfl rfl rfl
theorem s280_4 : WP 280 0 4 [vA r] S h Q ↔ WP 280 0 5 [vA r] (vA r :: S) h Q := wp_aload rfl rfl
theorem s280_5 : WP 280 0 5 L (vA (some a) :: S) h Q ↔ (zhas 90 (hk h a) = true ∧ WP 280 0 8 L (hm h a 90 :: S) h Q) := wp_if rfl rfl rfl
theorem s280_8 : WP 280 0 8 [vA r] S h Q ↔ WP 280 0 9 [vA r] (vA r :: S) h Q := wp_aload rfl rfl
theorem s280_9 : WP 280 0 9 L (vA (some a) :: S) h Q ↔ (zhas 91 (hk h a) = true ∧ WP 280 0 12 L (hm h a 91 :: S) h Q) := wp_if rfl rfl rfl
theorem s280_12 : WP 280 0 12 L (vI x2 :: vI x1 :: vA r0 :: S) h Q ↔ (zw S ≤ 8 ∧ WP 279 0 0 [vA r0, vI x1, vI x2, vJ] [] h (zret 280 0 12 15 L S Q)) := wp_S rfl rfl (zcan_of rfl rfl) rfl rfl rfl
theorem s280_15 : WP 280 0 15 [vA r] S h Q ↔ WP 280 0 16 [vA r] (vA r :: S) h Q := wp_aload rfl rfl
theorem s280_16 : WP 280 0 16 [vA r] S h Q ↔ WP 280 0 17 [vA r] (vA r :: S) h Q := wp_aload rfl rfl
theorem s280_17 : WP 280 0 17 L S h Q ↔ WP 280 0 18 L (vI 0 :: S) h Q := wp_pl rfl rfl rfl
theorem s280_18 : WP 280 0 18 L (vI y :: vA r :: S) h Q ↔ WP 280 0 19 L (vI y :: vA r :: vI y :: S) h Q := wp_pl rfl rfl rfl
theorem s280_18a : WP 280 0 18 L (vA q :: vA r :: S) h Q ↔ WP 280 0 19 L (vA q :: vA r :: vA q :: S) h Q := wp_pl rfl rfl rfl
theorem s280_19 : WP 280 0 19 L (vI x :: vA (some a) :: S) h Q ↔ ((zNC ≤ a ∧ zhas 91 (hk h a) = true) ∧ WP 280 0 22 L S (hput h a 91 (vI x)) Q) := wp_put0 rfl rfl
theorem s280_22 : WP 280 0 22 L (vI x :: vA (some a) :: S) h Q ↔ ((zNC ≤ a ∧ zhas 90 (hk h a) = true) ∧ WP 280 0 25 L S (hput h a 90 (vI x)) Q) := wp_put0 rfl rfl
theorem s280_25 : WP 280 0 25 L [] h Q ↔ Q (.inl none) h := wp_ret rfl
/-! java/util/ArrayDeque.dec(II)I -/
theorem s281_0 : WP 281 0 0 [vI x, a1] S h Q ↔ WP 281 0 3 [vI (wr (x + (-1))), a1] S h Q := wp_iinc rfl rfl rfl
theorem s281_3 : WP 281 0 3 [vI x, a1] S h Q ↔ WP 281 0 4 [vI x, a1] (vI x :: S) h Q := wp_iload rfl rfl
theorem s281_4 : WP 281 0 4 L (vI x :: S) h Q ↔ zif (x < 0) (WP 281 0 7 L S h Q) (WP 281 0 11 L S h Q) := wp_bN zc_lt rfl rfl rfl
theorem s281_7 : WP 281 0 7 [a0, vI x] S h Q ↔ WP 281 0 8 [a0, vI x] (vI x :: S) h Q := wp_iload rfl rfl
theorem s281_8 : WP 281 0 8 L S h Q ↔ WP 281 0 9 L (vI 1 :: S) h Q := wp_pl rfl rfl rfl
theorem s281_9 : WP 281 0 9 L (vI y :: vI x :: S) h Q ↔ WP 281 0 10 L (vI (wr (x - y)) :: S) h Q := wp_pl rfl rfl rfl
theorem s281_10 : WP 281 0 10 [a0, a1] (vI x :: S) h Q ↔ WP 281 0 11 [vI x, a1] S h Q := wp_istore rfl rfl rfl
theorem s281_11 : WP 281 0 11 [vI x, a1] S h Q ↔ WP 281 0 12 [vI x, a1] (vI x :: S) h Q := wp_iload rfl rfl
theorem s281_12 : WP 281 0 12 L [vI x] h Q ↔ Q (.inl (some (vI x))) h := wp_iret0 rfl rfl
/-! java/util/ArrayDeque.elementAt([Ljava/lang/Object;I)Ljava/lang/Object; -/
theorem s282_0 : WP 282 0 0 [vA r, a1] S h Q ↔ WP 282 0 1 [vA r, a1] (vA r :: S) h Q := wp_aload rfl rfl
theorem s282_1 : WP 282 0 1 [a0, vI x] S h Q ↔ WP 282 0 2 [a0, vI x] (vI x :: S) h Q := wp_iload rfl rfl
theorem s282_2 : WP 282 0 2 L (vI x :: vA (some a) :: S) h Q ↔ ((((5 ≤ (hk h a).1 ∧ (hk h a).1 ≤ 7) ∧ 0 ≤ x ∧ x < ((hk h a).2 : Int)) ∨ ((hk h a).1 = 8 ∧ 128 ≤ x ∧ x < 144)) ∧ WP 282 0 3 L (hm h a x.toNat :: S) h Q) := wp_if rfl rfl rfl
theorem s282_3 : WP 282 0 3 L [vA r] h Q ↔ Q (.inl (some (vA r))) h := wp_aret rfl
/-! java/util/ArrayDeque.inc(II)I -/
theorem s283_0 : WP 283 0 0 [vI x, a1] S h Q ↔ WP 283 0 3 [vI (wr (x + 1)), a1] S h Q := wp_iinc rfl rfl rfl
theorem s283_3 : WP 283 0 3 [vI x, a1] S h Q ↔ WP 283 0 4 [vI x, a1] (vI x :: S) h Q := wp_iload rfl rfl
theorem s283_4 : WP 283 0 4 [a0, vI x] S h Q ↔ WP 283 0 5 [a0, vI x] (vI x :: S) h Q := wp_iload rfl rfl
theorem s283_5 : WP 283 0 5 L (vI y :: vI x :: S) h Q ↔ zif (x < y) (WP 283 0 10 L S h Q) (WP 283 0 8 L S h Q) := wp_bE zc_lt rfl rfl rfl
theorem s283_8 : WP 283 0 8 L S h Q ↔ WP 283 0 9 L (vI 0 :: S) h Q := wp_pl rfl rfl rfl
theorem s283_9 : WP 283 0 9 [a0, a1] (vI x :: S) h Q ↔ WP 283 0 10 [vI x, a1] S h Q := wp_istore rfl rfl rfl
theorem s283_10 : WP 283 0 10 [vI x, a1] S h Q ↔ WP 283 0 11 [vI x, a1] (vI x :: S) h Q := wp_iload rfl rfl
theorem s283_11 : WP 283 0 11 L [vI x] h Q ↔ Q (.inl (some (vI x))) h := wp_iret0 rfl rfl
/-! java/util/ArrayDeque.<init>()V -/
theorem s284_0 : WP 284 0 0 [vA r] S h Q ↔ WP 284 0 1 [vA r] (vA r :: S) h Q := wp_aload rfl rfl
theorem s284_1 : WP 284 0 1 L (vA (some a) :: S) h Q ↔ ((zNC ≤ a ∧ 100 ≤ (hk h a).1) ∧ zw S ≤ 8 ∧ WP 394 0 0 [vA (some a)] [] h (zret 284 0 1 4 L S Q)) := wp_I rfl rfl rfl (zcan_of rfl rfl) rfl rfl rfl
theorem s284_4 : WP 284 0 4 [vA r] S h Q ↔ WP 284 0 5 [vA r] (vA r :: S) h Q := wp_aload rfl rfl
theorem s284_5 : WP 284 0 5 L S h Q ↔ WP 284 0 7 L (vI 17 :: S) h Q := wp_pl rfl rfl rfl
theorem s284_7 : WP 284 0 7 L (vI x :: S) h Q ↔ ((0 ≤ x ∧ x ≤ 1000000) ∧ WP 284 0 10 L (vA (some (hn h)) :: S) (hnew h (5, x.toNat) x.toNat (fun _ => vA none)) Q) := wp_anew rfl rfl rfl
theorem s284_10 : WP 284 0 10 L (vA r :: vA (some a) :: S) h Q ↔ ((zNC ≤ a ∧ zhas 89 (hk h a) = true) ∧ WP 284 0 13 L S (hput h a 89 (vA r)) Q) := wp_put3 rfl rfl
theorem s284_13 : WP 284 0 13 L [] h Q ↔ Q (.inl none) h := wp_ret rfl
/-! java/util/ArrayDeque.isEmpty()Z -/
theorem s285_0 : WP 285 0 0 [vA r] S h Q ↔ WP 285 0 1 [vA r] (vA r :: S) h Q := wp_aload rfl rfl
theorem s285_1 : WP 285 0 1 L (vA (some a) :: S) h Q ↔ (zhas 90 (hk h a) = true ∧ WP 285 0 4 L (hm h a 90 :: S) h Q) := wp_if rfl rfl rfl
theorem s285_4 : WP 285 0 4 [vA r] S h Q ↔ WP 285 0 5 [vA r] (vA r :: S) h Q := wp_aload rfl rfl
theorem s285_5 : WP 285 0 5 L (vA (some a) :: S) h Q ↔ (zhas 91 (hk h a) = true ∧ WP 285 0 8 L (hm h a 91 :: S) h Q) := wp_if rfl rfl rfl
theorem s285_8 : WP 285 0 8 L (vI y :: vI x :: S) h Q ↔ zif (x = y) (WP 285 0 11 L S h Q) (WP 285 0 15 L S h Q) := wp_bN zc_eq rfl rfl rfl
theorem s285_11 : WP 285 0 11 L S h Q ↔ WP 285 0 12 L (vI 1 :: S) h Q := wp_pl rfl rfl rfl
theorem s285_12 : WP 285 0 12 L S h Q ↔ WP 285 0 16 L S h Q := wp_pl rfl rfl rfl
theorem s285_15 : WP 285 0 15 L S h Q ↔ WP 285 0 16 L (vI 0 :: S) h Q := wp_pl rfl rfl rfl
theorem s285_16 : WP 285 0 16 L [vI x] h Q ↔ ((x = 0 ∨ x = 1) ∧ Q (.inl (some (vI x))) h) := wp_iret rfl rfl
/-! java/util/ArrayDeque.newCapacity(II)I -/
theorem s286_0 : WP 286 0 0 [vA r, a1, a2, a3, a4] S h Q ↔ WP 286 0 1 [vA r, a1, a2, a3, a4] (vA r :: S) h Q := wp_aload rfl rfl
theorem s286_1 : WP 286 0 1 L (vA (some a) :: S) h Q ↔ (zhas 89 (hk h a) = true ∧ WP 286 0 4 L (hm h a 89 :: S) h Q) := wp_if rfl rfl rfl
theorem s286_4 : WP 286 0 4 L (vA (some a) :: S) h Q ↔ ((1 ≤ (hk h a).1 ∧ (hk h a).1 ≤ 7) ∧ WP 286 0 5 L (vI ((hk h a).2 : Int) :: S) h Q) := wp_if rfl rfl rfl
theorem s286_5 : WP 286 0 5 [a0, a1, a2, a3, a4] (vI x :: S) h Q ↔ WP 286 0 6 [a0, a1, a2, vI x, a4] S h Q := wp_istore rfl rfl rfl
theorem s286_6 : WP 286 0 6 [a0, a1, a2, vI x, a4] S h Q ↔ WP 286 0 7 [a0, a1, a2, vI x, a4] (vI x :: S) h Q := wp_iload rfl rfl
theorem s286_7 : WP 286 0 7 [a0, vI x, a2, a3, a4] S h Q ↔ WP 286 0 8 [a0, vI x, a2, a3, a4] (vI x :: S) h Q := wp_iload rfl rfl
theorem s286_8 : WP 286 0 8 L (vI y :: vI x :: S) h Q ↔ WP 286 0 9 L (vI (wr (x + y)) :: S) h Q := wp_pl rfl rfl rfl
theorem s286_9 : WP 286 0 9 L (vA r :: S) h Q ↔ WP 286 0 10 L (vA r :: vA r :: S) h Q := wp_pl rfl rfl rfl
theorem s286_9i : WP 286 0 9 L (vI x :: S) h Q ↔ WP 286 0 10 L (vI x :: vI x :: S) h Q := wp_pl rfl rfl rfl
theorem s286_10 : WP 286 0 10 [a0, a1, a2, a3, a4] (vI x :: S) h Q ↔ WP 286 0 12 [a0, a1, a2, a3, vI x] S h Q := wp_istore rfl rfl rfl
theorem s286_12 : WP 286 0 12 L S h Q ↔ WP 286 0 14 L (vI (2147483639) :: S) h Q := wp_pl rfl rfl rfl
theorem s286_14 : WP 286 0 14 L (vI y :: vI x :: S) h Q ↔ WP 286 0 15 L (vI (wr (x - y)) :: S) h Q := wp_pl rfl rfl rfl
theorem s286_15 : WP 286 0 15 L (vI x :: S) h Q ↔ zif (0 < x) (WP 286 0 18 L S h Q) (WP 286 0 36 L S h Q) := wp_bN zc_gt rfl rfl rfl
theorem s286_18 : WP 286 0 18 [a0, a1, a2, a3, vI x] S h Q ↔ WP 286 0 20 [a0, a1, a2, a3, vI x] (vI x :: S) h Q := wp_iload rfl rfl
theorem s286_20 : WP 286 0 20 L (vI x :: S) h Q ↔ zif (x < 0) (WP 286 0 23 L S h Q) (WP 286 0 33 L S h Q) := wp_bN zc_lt rfl rfl rfl
theorem s286_26 : WP 286 0 26 L (vA r :: S) h Q ↔ WP 286 0 27 L (vA r :: vA r :: S) h Q := wp_pl rfl rfl rfl
theorem s286_26i : WP 286 0 26 L (vI x :: S) h Q ↔ WP 286 0 27 L (vI x :: vI x :: S) h Q := wp_pl rfl rfl rfl
theorem s286_27 : WP 286 0 27 L S h Q ↔ WP 286 0 29 L (vA (some 30) :: S) h Q := wp_pl rfl rfl rfl
theorem s286_32 : WP 286 0 32 L (vA (some a) :: S) h Q ↔ ((((120 ≤ (hk h a).1 ∧ (hk h a).1 ≤ 123) ∨ (hk h a).1 = 109)) ∧ Q (.inr a) h) := wp_athrow (fun _ => rfl) rfl
theorem s286_33 : WP 286 0 33 L S h Q ↔ WP 286 0 35 L (vI (2147483647) :: S) h Q := wp_pl rfl rfl rfl
theorem s286_35 : WP 286 0 35 L [vI x] h Q ↔ Q (.inl (some (vI x))) h := wp_iret0 rfl rfl
theorem s286_36 : WP 286 0 36 [a0, vI x, a2, a3, a4] S h Q ↔ WP 286 0 37 [a0, vI x, a2, a3, a4] (vI x :: S) h Q := wp_iload rfl rfl
theorem s286_37 : WP 286 0 37 [a0, a1, vI x, a3, a4] S h Q ↔ WP 286 0 38 [a0, a1, vI x, a3, a4] (vI x :: S) h Q := wp_iload rfl rfl
theorem s286_38 : WP 286 0 38 L (vI y :: vI x :: S) h Q ↔ zif (y < x) (WP 286 0 41 L S h Q) (WP 286 0 44 L S h Q) := wp_bN zc_gt rfl rfl rfl
theorem s286_41 : WP 286 0 41 [a0, a1, a2, a3, vI x] S h Q ↔ WP 286 0 43 [a0, a1, a2, a3, vI x] (vI x :: S) h Q := wp_iload rfl rfl
theorem s286_43 : WP 286 0 43 L [vI x] h Q ↔ Q (.inl (some (vI x))) h := wp_iret0 rfl rfl
theorem s286_44 : WP 286 0 44 [a0, a1, a2, vI x, a4] S h Q ↔ WP 286 0 45 [a0, a1, a2, vI x, a4] (vI x :: S) h Q := wp_iload rfl rfl
theorem s286_45 : WP 286 0 45 [a0, a1, vI x, a3, a4] S h Q ↔ WP 286 0 46 [a0, a1, vI x, a3, a4] (vI x :: S) h Q := wp_iload rfl rfl
theorem s286_46 : WP 286 0 46 L (vI y :: vI x :: S) h Q ↔ WP 286 0 47 L (vI (wr (x + y)) :: S) h Q := wp_pl rfl rfl rfl
theorem s286_47 : WP 286 0 47 L S h Q ↔ WP 286 0 49 L (vI (2147483639) :: S) h Q := wp_pl rfl rfl rfl
theorem s286_49 : WP 286 0 49 L (vI y :: vI x :: S) h Q ↔ WP 286 0 50 L (vI (wr (x - y)) :: S) h Q := wp_pl rfl rfl rfl
theorem s286_50 : WP 286 0 50 L (vI x :: S) h Q ↔ zif (x < 0) (WP 286 0 53 L S h Q) (WP 286 0 59 L S h Q) := wp_bN zc_lt rfl rfl rfl
theorem s286_53 : WP 286 0 53 [a0, a1, a2, vI x, a4] S h Q ↔ WP 286 0 54 [a0, a1, a2, vI x, a4] (vI x :: S) h Q := wp_iload rfl rfl
theorem s286_54 : WP 286 0 54 [a0, a1, vI x, a3, a4] S h Q ↔ WP 286 0 55 [a0, a1, vI x, a3, a4] (vI x :: S) h Q := wp_iload rfl rfl
theorem s286_55 : WP 286 0 55 L (vI y :: vI x :: S) h Q ↔ WP 286 0 56 L (vI (wr (x + y)) :: S) h Q := wp_pl rfl rfl rfl
theorem s286_56 : WP 286 0 56 L S h Q ↔ WP 286 0 61 L S h Q := wp_pl rfl rfl rfl
theorem s286_59 : WP 286 0 59 L S h Q ↔ WP 286 0 61 L (vI (2147483639) :: S) h Q := wp_pl rfl rfl rfl
theorem s286_61 : WP 286 0 61 L [vI x] h Q ↔ Q (.inl (some (vI x))) h := wp_iret0 rfl rfl
/-! java/util/ArrayDeque.pollFirst()Ljava/lang/Object; -/
theorem s287_0 : WP 287 0 0 [vA r, a1, a2, a3] S h Q ↔ WP 287 0 1 [vA r, a1, a2, a3] (vA r :: S) h Q := wp_aload rfl rfl
theorem s287_1 : WP 287 0 1 L (vA (some a) :: S) h Q ↔ (zhas 89 (hk h a) = true ∧ WP 287 0 4 L (hm h a 89 :: S) h Q) := wp_if rfl rfl rfl
theorem s287_4 : WP 287 0 4 L (vA r :: S) h Q ↔ WP 287 0 5 L (vA r :: vA r :: S) h Q := wp_pl rfl rfl rfl
theorem s287_4i : WP 287 0 4 L (vI x :: S) h Q ↔ WP 287 0 5 L (vI x :: vI x :: S) h Q := wp_pl rfl rfl rfl
theorem s287_5 : WP 287 0 5 [a0, a1, a2, a3] (vA r :: S) h Q ↔ WP 287 0 6 [a0, vA r, a2, a3] S h Q := wp_astore rfl rfl rfl
theorem s287_6 : WP 287 0 6 [vA r, a1, a2, a3] S h Q ↔ WP 287 0 7 [vA r, a1, a2, a3] (vA r :: S) h Q := wp_aload rfl rfl
theorem s287_7 : WP 287 0 7 L (vA (some a) :: S) h Q ↔ (zhas 90 (hk h a) = true ∧ WP 287 0 10 L (hm h a 90 :: S) h Q) := wp_if rfl rfl rfl
theorem s287_10 : WP 287 0 10 L (vA r :: S) h Q ↔ WP 287 0 11 L (vA r :: vA r :: S) h Q := wp_pl rfl rfl rfl
theorem s287_10i : WP 287 0 10 L (vI x :: S) h Q ↔ WP 287 0 11 L (vI x :: vI x :: S) h Q := wp_pl rfl rfl rfl
theorem s287_11 : WP 287 0 11 [a0, a1, a2, a3] (vI x :: S) h Q ↔ WP 287 0 12 [a0, a1, vI x, a3] S h Q := wp_istore rfl rfl rfl
theorem s287_12 : WP 287 0 12 L (vI x1 :: vA r0 :: S) h Q ↔ (zw S ≤ 8 ∧ WP 282 0 0 [vA r0, vI x1] [] h (zret 287 0 12 15 L S Q)) := wp_S rfl rfl (zcan_of rfl rfl) rfl rfl rfl
theorem s287_15 : WP 287 0 15 [a0, a1, a2, a3] (vA r :: S) h Q ↔ WP 287 0 16 [a0, a1, a2, vA r] S h Q := wp_astore rfl rfl rfl
theorem s287_16 : WP 287 0 16 [a0, a1, a2, vA r] S h Q ↔ WP 287 0 17 [a0, a1, a2, vA r] (vA r :: S) h Q := wp_aload rfl rfl
theorem s287_17n : WP 287 0 17 L (vA none :: S) h Q ↔ WP 287 0 34 L S h Q := wp_pl rfl rfl rfl
theorem s287_17 : WP 287 0 17 L (vA (some a) :: S) h Q ↔ (3 ≤ a ∧ WP 287 0 20 L S h Q) := wp_if rfl rfl rfl
theorem s287_20 : WP 287 0 20 [a0, vA r, a2, a3] S h Q ↔ WP 287 0 21 [a0, vA r, a2, a3] (vA r :: S) h Q := wp_aload rfl rfl
theorem s287_21 : WP 287 0 21 [a0, a1, vI x, a3] S h Q ↔ WP 287 0 22 [a0, a1, vI x, a3] (vI x :: S) h Q := wp_iload rfl rfl
theorem s287_22 : WP 287 0 22 L S h Q ↔ WP 287 0 23 L (vA none :: S) h Q := wp_pl rfl rfl rfl
theorem s287_23 : WP 287 0 23 L (vA r :: vI x :: vA (some a) :: S) h Q ↔ (((5 ≤ (hk h a).1 ∧ (hk h a).1 ≤ 7) ∧ (0 ≤ x ∧ x < ((hk h a).2 : Int)) ∧ zNC ≤ a ∧ zref h a r) ∧ WP 287 0 24 L S (hput h a x.toNat (vA r)) Q) := wp_aast rfl
theorem s287_24 : WP 287 0 24 [vA r, a1, a2, a3] S h Q ↔ WP 287 0 25 [vA r, a1, a2, a3] (vA r :: S) h Q := wp_aload rfl rfl
theorem s287_25 : WP 287 0 25 [a0, a1, vI x, a3] S h Q ↔ WP 287 0 26 [a0, a1, vI x, a3] (vI x :: S) h Q := wp_iload rfl rfl
theorem s287_26 : WP 287 0 26 [a0, vA r, a2, a3] S h Q ↔ WP 287 0 27 [a0, vA r, a2, a3] (vA r :: S) h Q := wp_aload rfl rfl
theorem s287_27 : WP 287 0 27 L (vA (some a) :: S) h Q ↔ ((1 ≤ (hk h a).1 ∧ (hk h a).1 ≤ 7) ∧ WP 287 0 28 L (vI ((hk h a).2 : Int) :: S) h Q) := wp_if rfl rfl rfl
theorem s287_28 : WP 287 0 28 L (vI x1 :: vI x0 :: S) h Q ↔ (zw S ≤ 8 ∧ WP 283 0 0 [vI x0, vI x1] [] h (zret 287 0 28 31 L S Q)) := wp_S rfl rfl (zcan_of rfl rfl) rfl rfl rfl
theorem s287_31 : WP 287 0 31 L (vI x :: vA (some a) :: S) h Q ↔ ((zNC ≤ a ∧ zhas 90 (hk h a) = true) ∧ WP 287 0 34 L S (hput h a 90 (vI x)) Q) := wp_put0 rfl rfl
theorem s287_34 : WP 287 0 34 [a0, a1, a2, vA r] S h Q ↔ WP 287 0 35 [a0, a1, a2, vA r] (vA r :: S) h Q := wp_aload rfl rfl
theorem s287_35 : WP 287 0 35 L [vA r] h Q ↔ Q (.inl (some (vA r))) h := wp_aret rfl
/-! java/util/ArrayDeque.pollLast()Ljava/lang/Object; -/
theorem s288_0 : WP 288 0 0 [vA r, a1, a2, a3] S h Q ↔ WP 288 0 1 [vA r, a1, a2, a3] (vA r :: S) h Q := wp_aload rfl rfl
theorem s288_1 : WP 288 0 1 L (vA (some a) :: S) h Q ↔ (zhas 89 (hk h a) = true ∧ WP 288 0 4 L (hm h a 89 :: S) h Q) := wp_if rfl rfl rfl
theorem s288_4 : WP 288 0 4 L (vA r :: S) h Q ↔ WP 288 0 5 L (vA r :: vA r :: S) h Q := wp_pl rfl rfl rfl
theorem s288_4i : WP 288 0 4 L (vI x :: S) h Q ↔ WP 288 0 5 L (vI x :: vI x :: S) h Q := wp_pl rfl rfl rfl
theorem s288_5 : WP 288 0 5 [a0, a1, a2, a3] (vA r :: S) h Q ↔ WP 288 0 6 [a0, vA r, a2, a3] S h Q := wp_astore rfl rfl rfl
theorem s288_6 : WP 288 0 6 [vA r, a1, a2, a3] S h Q ↔ WP 288 0 7 [vA r, a1, a2, a3] (vA r :: S) h Q := wp_aload rfl rfl
theorem s288_7 : WP 288 0 7 L (vA (some a) :: S) h Q ↔ (zhas 91 (hk h a) = true ∧ WP 288 0 10 L (hm h a 91 :: S) h Q) := wp_if rfl rfl rfl
theorem s288_10 : WP 288 0 10 [a0, vA r, a2, a3] S h Q ↔ WP 288 0 11 [a0, vA r, a2, a3] (vA r :: S) h Q := wp_aload rfl rfl
theorem s288_11 : WP 288 0 11 L (vA (some a) :: S) h Q ↔ ((1 ≤ (hk h a).1 ∧ (hk h a).1 ≤ 7) ∧ WP 288 0 12 L (vI ((hk h a).2 : Int) :: S) h Q) := wp_if rfl rfl rfl
theorem s288_12 : WP 288 0 12 L (vI x1 :: vI x0 :: S) h Q ↔ (zw S ≤ 8 ∧ WP 281 0 0 [vI x0, vI x1] [] h (zret 288 0 12 15 L S Q)) := wp_S rfl rfl (zcan_of rfl rfl) rfl rfl rfl
theorem s288_15 : WP 288 0 15 L (vA r :: S) h Q ↔ WP 288 0 16 L (vA r :: vA r :: S) h Q := wp_pl rfl rfl rfl
theorem s288_15i : WP 288 0 15 L (vI x :: S) h Q ↔ WP 288 0 16 L (vI x :: vI x :: S) h Q := wp_pl rfl rfl rfl
theorem s288_16 : WP 288 0 16 [a0, a1, a2, a3] (vI x :: S) h Q ↔ WP 288 0 17 [a0, a1, vI x, a3] S h Q := wp_istore rfl rfl rfl
theorem s288_17 : WP 288 0 17 L (vI x1 :: vA r0 :: S) h Q ↔ (zw S ≤ 8 ∧ WP 282 0 0 [vA r0, vI x1] [] h (zret 288 0 17 20 L S Q)) := wp_S rfl rfl (zcan_of rfl rfl) rfl rfl rfl
theorem s288_20 : WP 288 0 20 [a0, a1, a2, a3] (vA r :: S) h Q ↔ WP 288 0 21 [a0, a1, a2, vA r] S h Q := wp_astore rfl rfl rfl
theorem s288_21 : WP 288 0 21 [a0, a1, a2, vA r] S h Q ↔ WP 288 0 22 [a0, a1, a2, vA r] (vA r :: S) h Q := wp_aload rfl rfl
theorem s288_22n : WP 288 0 22 L (vA none :: S) h Q ↔ WP 288 0 34 L S h Q := wp_pl rfl rfl rfl
theorem s288_22 : WP 288 0 22 L (vA (some a) :: S) h Q ↔ (3 ≤ a ∧ WP 288 0 25 L S h Q) := wp_if rfl rfl rfl
theorem s288_25 : WP 288 0 25 [a0, vA r, a2, a3] S h Q ↔ WP 288 0 26 [a0, vA r, a2, a3] (vA r :: S) h Q := wp_aload rfl rfl
theorem s288_26 : WP 288 0 26 [vA r, a1, a2, a3] S h Q ↔ WP 288 0 27 [vA r, a1, a2, a3] (vA r :: S) h Q := wp_aload rfl rfl
theorem s288_27 : WP 288 0 27 [a0, a1, vI x, a3] S h Q ↔ WP 288 0 28 [a0, a1, vI x, a3] (vI x :: S) h Q := wp_iload rfl rfl
theorem s288_28 : WP 288 0 28 L (vI y :: vA r :: S) h Q ↔ WP 288 0 29 L (vI y :: vA r :: vI y :: S) h Q := wp_pl rfl rfl rfl
theorem s288_28a : WP 288 0 28 L (vA q :: vA r :: S) h Q ↔ WP 288 0 29 L (vA q :: vA r :: vA q :: S) h Q := wp_pl rfl rfl rfl
theorem s288_29 : WP 288 0 29 L (vI x :: vA (some a) :: S) h Q ↔ ((zNC ≤ a ∧ zhas 91 (hk h a) = true) ∧ WP 288 0 32 L S (hput h a 91 (vI x)) Q) := wp_put0 rfl rfl
theorem s288_32 : WP 288 0 32 L S h Q ↔ WP 288 0 33 L (vA none :: S) h Q := wp_pl rfl rfl rfl
theorem s288_33 : WP 288 0 33 L (vA r :: vI x :: vA (some a) :: S) h Q ↔ (((5 ≤ (hk h a).1 ∧ (hk h a).1 ≤ 7) ∧ (0 ≤ x ∧ x < ((hk h a).2 : Int)) ∧ zNC ≤ a ∧ zref h a r) ∧ WP 288 0 34 L S (hput h a x.toNat (vA r)) Q) := wp_aast rfl
theorem s288_34 : WP 288 0 34 [a0, a1, a2, vA r] S h Q ↔ WP 288 0 35 [a0, a1, a2, vA r] (vA r :: S) h Q := wp_aload rfl rfl
theorem s288_35 : WP 288 0 35 L [vA r] h Q ↔ Q (.inl (some (vA r))) h := wp_aret rfl
/-! java/util/ArrayDeque.removeFirst()Ljava/lang/Object; -/
theorem s289_0 : WP 289 0 0 [vA r, a1] S h Q ↔ WP 289 0 1 [vA r, a1] (vA r :: S) h Q := wp_aload rfl rfl
theorem s289_1 : WP 289 0 1 L (vA (some a) :: S) h Q ↔ ((hk h a).1 = 114 ∧ (zw S ≤ 8 ∧ WP 287 0 0 [vA (some a), vJ, vJ, vJ] [] h (zret 289 0 1 4 L S Q))) := wp_V1 (c := 114) rfl rfl (fun _ => rfl) rfl rfl (zcan_of rfl rfl) rfl rfl rfl
theorem s289_4 : WP 289 0 4 [a0, a1] (vA r :: S) h Q ↔ WP 289 0 5 [a0, vA r] S h Q := wp_astore rfl rfl rfl
theorem s289_5 : WP 289 0 5 [a0, vA r] S h Q ↔ WP 289 0 6 [a0, vA r] (vA r :: S) h Q := wp_aload rfl rfl
theorem s289_6n : WP 289 0 6 L (vA none :: S) h Q ↔ WP 289 0 9 L S h Q := wp_pl rfl rfl rfl
theorem s289_6 : WP 289 0 6 L (vA (some a) :: S) h Q ↔ (3 ≤ a ∧ WP 289 0 17 L S h Q) := wp_if rfl rfl rfl
theorem s289_9 : WP 289 0 9 L S h Q ↔ (zw S ≤ 8 ∧ WP 289 0 16 L (vA (some (hn h)) :: S) (hnew h (123, 0) 6 zdf) Q) := wp_if rfl rfl rfl
theorem s289_16 : WP 289 0 16 L (vA (some a) :: S) h Q ↔ ((((120 ≤ (hk h a).1 ∧ (hk h a).1 ≤ 123) ∨ (hk h a).1 = 109)) ∧ Q (.inr a) h) := wp_athrow (fun _ => rfl) rfl
theorem s289_17 : WP 289 0 17 [a0, vA r] S h Q ↔ WP 289 0 18 [a0, vA r] (vA r :: S) h Q := wp_aload rfl rfl
theorem s289_18 : WP 289 0 18 L [vA r] h Q ↔ Q (.inl (some (vA r))) h := wp_aret rfl
/-! java/util/ArrayDeque.removeLast()Ljava/lang/Object; -/
theorem s290_0 : WP 290 0 0 [vA r, a1] S h Q ↔ WP 290 0 1 [vA r, a1] (vA r :: S) h Q := wp_aload rfl rfl
theorem s290_1 : WP 290 0 1 L (vA (some a) :: S) h Q ↔ ((hk h a).1 = 114 ∧ (zw S ≤ 8 ∧ WP 288 0 0 [vA (some a), vJ, vJ, vJ] [] h (zret 290 0 1 4 L S Q))) := wp_V1 (c := 114) rfl rfl (fun _ => rfl) rfl rfl (zcan_of rfl rfl) rfl rfl rfl
theorem s290_4 : WP 290 0 4 [a0, a1] (vA r :: S) h Q ↔ WP 290 0 5 [a0, vA r] S h Q := wp_astore rfl rfl rfl
theorem s290_5 : WP 290 0 5 [a0, vA r] S h Q ↔ WP 290 0 6 [a0, vA r] (vA r :: S) h Q := wp_aload rfl rfl
theorem s290_6n : WP 290 0 6 L (vA none :: S) h Q ↔ WP 290 0 9 L S h Q := wp_pl rfl rfl rfl
theorem s290_6 : WP 290 0 6 L (vA (some a) :: S) h Q ↔ (3 ≤ a ∧ WP 290 0 17 L S h Q) := wp_if rfl rfl rfl
theorem s290_9 : WP 290 0 9 L S h Q ↔ (zw S ≤ 8 ∧ WP 290 0 16 L (vA (some (hn h)) :: S) (hnew h (123, 0) 6 zdf) Q) := wp_if rfl rfl rfl
theorem s290_16 : WP 290 0 16 L (vA (some a) :: S) h Q ↔ ((((120 ≤ (hk h a).1 ∧ (hk h a).1 ≤ 123) ∨ (hk h a).1 = 109)) ∧ Q (.inr a) h) := wp_athrow (fun _ => rfl) rfl
theorem s290_17 : WP 290 0 17 [a0, vA r] S h Q ↔ WP 290 0 18 [a0, vA r] (vA r :: S) h Q := wp_aload rfl rfl
theorem s290_18 : WP 290 0 18 L [vA r] h Q ↔ Q (.inl (some (vA r))) h := wp_aret rfl
/-! java/util/ArrayDeque.size()I -/
theorem s291_0 : WP 291 0 0 [vA r] S h Q ↔ WP 291 0 1 [vA r] (vA r :: S) h Q := wp_aload rfl rfl
theorem s291_1 : WP 291 0 1 L (vA (some a) :: S) h Q ↔ (zhas 91 (hk h a) = true ∧ WP 291 0 4 L (hm h a 91 :: S) h Q) := wp_if rfl rfl rfl
theorem s291_4 : WP 291 0 4 [vA r] S h Q ↔ WP 291 0 5 [vA r] (vA r :: S) h Q := wp_aload rfl rfl
theorem s291_5 : WP 291 0 5 L (vA (some a) :: S) h Q ↔ (zhas 90 (hk h a) = true ∧ WP 291 0 8 L (hm h a 90 :: S) h Q) := wp_if rfl rfl rfl
theorem s291_8 : WP 291 0 8 [vA r] S h Q ↔ WP 291 0 9 [vA r] (vA r :: S) h Q := wp_aload rfl rfl
theorem s291_9 : WP 291 0 9 L (vA (some a) :: S) h Q ↔ (zhas 89 (hk h a) = true ∧ WP 291 0 12 L (hm h a 89 :: S) h Q) := wp_if rfl rfl rfl
theorem s291_12 : WP 291 0 12 L (vA (some a) :: S) h Q ↔ ((1 ≤ (hk h a).1 ∧ (hk h a).1 ≤ 7) ∧ WP 291 0 13 L (vI ((hk h a).2 : Int) :: S) h Q) := wp_if rfl rfl rfl
theorem s291_13 : WP 291 0 13 L (vI x2 :: vI x1 :: vI x0 :: S) h Q ↔ (zw S ≤ 8 ∧ WP 292 0 0 [vI x0, vI x1, vI x2] [] h (zret 291 0 13 16 L S Q)) := wp_S rfl rfl (zcan_of rfl rfl) rfl rfl rfl
theorem s291_16 : WP 291 0 16 L [vI x] h Q ↔ Q (.inl (some (vI x))) h := wp_iret0 rfl rfl
/-! java/util/ArrayDeque.sub(III)I -/
theorem s292_0 : WP 292 0 0 [vI x, a1, a2] S h Q ↔ WP 292 0 1 [vI x, a1, a2] (vI x :: S) h Q := wp_iload rfl rfl
theorem s292_1 : WP 292 0 1 [a0, vI x, a2] S h Q ↔ WP 292 0 2 [a0, vI x, a2] (vI x :: S) h Q := wp_iload rfl rfl
theorem s292_2 : WP 292 0 2 L (vI y :: vI x :: S) h Q ↔ WP 292 0 3 L (vI (wr (x - y)) :: S) h Q := wp_pl rfl rfl rfl
theorem s292_3 : WP 292 0 3 L (vA r :: S) h Q ↔ WP 292 0 4 L (vA r :: vA r :: S) h Q := wp_pl rfl rfl rfl
theorem s292_3i : WP 292 0 3 L (vI x :: S) h Q ↔ WP 292 0 4 L (vI x :: vI x :: S) h Q := wp_pl rfl rfl rfl
theorem s292_4 : WP 292 0 4 [a0, a1, a2] (vI x :: S) h Q ↔ WP 292 0 5 [vI x, a1, a2] S h Q := wp_istore rfl rfl rfl
theorem s292_5 : WP 292 0 5 L (vI x :: S) h Q ↔ zif (x < 0) (WP 292 0 8 L S h Q) (WP 292 0 12 L S h Q) := wp_bN zc_lt rfl rfl rfl
theorem s292_8 : WP 292 0 8 [vI x, a1, a2] S h Q ↔ WP 292 0 9 [vI x, a1, a2] (vI x :: S) h Q := wp_iload rfl rfl
theorem s292_9 : WP 292 0 9 [a0, a1, vI x] S h Q ↔ WP 292 0 10 [a0, a1, vI x] (vI x :: S) h Q := wp_iload rfl rfl
theorem s292_10 : WP 292 0 10 L (vI y :: vI x :: S) h Q ↔ WP 292 0 11 L (vI (wr (x + y)) :: S) h Q := wp_pl rfl rfl rfl
theorem s292_11 : WP 292 0 11 [a0, a1, a2] (vI x :: S) h Q ↔ WP 292 0 12 [vI x, a1, a2] S h Q := wp_istore rfl rfl rfl
theorem s292_12 : WP 292 0 12 [vI x, a1, a2] S h Q ↔ WP 292 0 13 [vI x, a1, a2] (vI x :: S) h Q := wp_iload rfl rfl
theorem s292_13 : WP 292 0 13 L [vI x] h Q ↔ Q (.inl (some (vI x))) h := wp_iret0 rfl rfl
/-! java/util/BitSet.cardinality()I -/
theorem s293_0 : WP 293 0 0 L S h Q ↔ WP 293 0 1 L (vI 0 :: S) h Q := wp_pl rfl rfl rfl
theorem s293_1 : WP 293 0 1 [a0, a1, a2] (vI x :: S) h Q ↔ WP 293 0 2 [a0, vI x, a2] S h Q := wp_istore rfl rfl rfl
theorem s293_2 : WP 293 0 2 L S h Q ↔ WP 293 0 3 L (vI 0 :: S) h Q := wp_pl rfl rfl rfl
theorem s293_3 : WP 293 0 3 [a0, a1, a2] (vI x :: S) h Q ↔ WP 293 0 4 [a0, a1, vI x] S h Q := wp_istore rfl rfl rfl
theorem s293_4 : WP 293 0 4 [a0, a1, vI x] S h Q ↔ WP 293 0 5 [a0, a1, vI x] (vI x :: S) h Q := wp_iload rfl rfl
theorem s293_5 : WP 293 0 5 [vA r, a1, a2] S h Q ↔ WP 293 0 6 [vA r, a1, a2] (vA r :: S) h Q := wp_aload rfl rfl
theorem s293_6 : WP 293 0 6 L (vA (some a) :: S) h Q ↔ (zhas 93 (hk h a) = true ∧ WP 293 0 9 L (hm h a 93 :: S) h Q) := wp_if rfl rfl rfl
theorem s293_9 : WP 293 0 9 L (vI y :: vI x :: S) h Q ↔ zif (x < y) (WP 293 0 12 L S h Q) (WP 293 0 30 L S h Q) := wp_bN zc_lt rfl rfl rfl
theorem s293_12 : WP 293 0 12 [a0, vI x, a2] S h Q ↔ WP 293 0 13 [a0, vI x, a2] (vI x :: S) h Q := wp_iload rfl rfl
theorem s293_13 : WP 293 0 13 [vA r, a1, a2] S h Q ↔ WP 293 0 14 [vA r, a1, a2] (vA r :: S) h Q := wp_aload rfl rfl
theorem s293_14 : WP 293 0 14 L (vA (some a) :: S) h Q ↔ (zhas 92 (hk h a) = true ∧ WP 293 0 17 L (hm h a 92 :: S) h Q) := wp_if rfl rfl rfl
theorem s293_17 : WP 293 0 17 [a0, a1, vI x] S h Q ↔ WP 293 0 18 [a0, a1, vI x] (vI x :: S) h Q := wp_iload rfl rfl
theorem s293_18 : WP 293 0 18 L (vI x :: vA (some a) :: S) h Q ↔ (((hk h a).1 = 4 ∧ 0 ≤ x ∧ x < ((hk h a).2 : Int)) ∧ WP 293 0 19 L (hm h a x.toNat :: S) h Q) := wp_if rfl rfl rfl
theorem s293_19 : WP 293 0 19 L (vL x0 :: S) h Q ↔ (zw S ≤ 8 ∧ WP 381 0 0 [vL x0, vJ] [] h (zret 293 0 19 22 L S Q)) := wp_S rfl rfl (zcan_of rfl rfl) rfl rfl rfl
theorem s293_22 : WP 293 0 22 L (vI y :: vI x :: S) h Q ↔ WP 293 0 23 L (vI (wr (x + y)) :: S) h Q := wp_pl rfl rfl rfl
theorem s293_23 : WP 293 0 23 [a0, a1, a2] (vI x :: S) h Q ↔ WP 293 0 24 [a0, vI x, a2] S h Q := wp_istore rfl rfl rfl
theorem s293_24 : WP 293 0 24 [a0, a1, vI x] S h Q ↔ WP 293 0 27 [a0, a1, vI (wr (x + 1))] S h Q := wp_iinc rfl rfl rfl
theorem s293_27 : WP 293 0 27 L S h Q ↔ WP 293 0 4 L S h Q := wp_pl rfl rfl rfl
theorem s293_30 : WP 293 0 30 [a0, vI x, a2] S h Q ↔ WP 293 0 31 [a0, vI x, a2] (vI x :: S) h Q := wp_iload rfl rfl
theorem s293_31 : WP 293 0 31 L [vI x] h Q ↔ Q (.inl (some (vI x))) h := wp_iret0 rfl rfl
/-! java/util/BitSet.checkInvariants()V -/
theorem s294_0 : WP 294 0 0 L S h Q ↔ WP 294 0 3 L (vI 1 :: S) h Q := wp_pl rfl rfl rfl
theorem s294_3 : WP 294 0 3 L (vI x :: S) h Q ↔ zif (x = 0) (WP 294 0 6 L S h Q) (WP 294 0 37 L S h Q) := wp_bN zc_eq rfl rfl rfl
theorem s294_6 : WP 294 0 6 [vA r] S h Q ↔ WP 294 0 7 [vA r] (vA r :: S) h Q := wp_aload rfl rfl
theorem s294_7 : WP 294 0 7 L (vA (some a) :: S) h Q ↔ (zhas 93 (hk h a) = true ∧ WP 294 0 10 L (hm h a 93 :: S) h Q) := wp_if rfl rfl rfl
theorem s294_10 : WP 294 0 10 L (vI x :: S) h Q ↔ zif (x = 0) (WP 294 0 37 L S h Q) (WP 294 0 13 L S h Q) := wp_bE zc_eq rfl rfl rfl
theorem s294_13 : WP 294 0 13 [vA r] S h Q ↔ WP 294 0 14 [vA r] (vA r :: S) h Q := wp_aload rfl rfl
theorem s294_14 : WP 294 0 14 L (vA (some a) :: S) h Q ↔ (zhas 92 (hk h a) = true ∧ WP 294 0 17 L (hm h a 92 :: S) h Q) := wp_if rfl rfl rfl
theorem s294_17 : WP 294 0 17 [vA r] S h Q ↔ WP 294 0 18 [vA r] (vA r :: S) h Q := wp_aload rfl rfl
theorem s294_18 : WP 294 0 18 L (vA (some a) :: S) h Q ↔ (zhas 93 (hk h a) = true ∧ WP 294 0 21 L (hm h a 93 :: S) h Q) := wp_if rfl rfl rfl
theorem s294_21 : WP 294 0 21 L S h Q ↔ WP 294 0 22 L (vI 1 :: S) h Q := wp_pl rfl rfl rfl
theorem s294_22 : WP 294 0 22 L (vI y :: vI x :: S) h Q ↔ WP 294 0 23 L (vI (wr (x - y)) :: S) h Q := wp_pl rfl rfl rfl
theorem s294_23 : WP 294 0 23 L (vI x :: vA (some a) :: S) h Q ↔ (((hk h a).1 = 4 ∧ 0 ≤ x ∧ x < ((hk h a).2 : Int)) ∧ WP 294 0 24 L (hm h a x.toNat :: S) h Q) := wp_if rfl rfl rfl
theorem s294_24 : WP 294 0 24 L S h Q ↔ WP 294 0 25 L (vL 0 :: S) h Q := wp_pl rfl rfl rfl
theorem s294_25 : WP 294 0 25 L (vL y :: vL x :: S) h Q ↔ WP 294 0 26 L (vI (zlc x y) :: S) h Q := wp_pl rfl rfl rfl
theorem s294_26 : WP 294 0 26 L (vI x :: S) h Q ↔ zif (x = 0) (WP 294 0 29 L S h Q) (WP 294 0 37 L S h Q) := wp_bN zc_eq rfl rfl rfl
theorem s294_32 : WP 294 0 32 L (vA r :: S) h Q ↔ WP 294 0 33 L (vA r :: vA r :: S) h Q := wp_pl rfl rfl rfl
theorem s294_32i : WP 294 0 32 L (vI x :: S) h Q ↔ WP 294 0 33 L (vI x :: vI x :: S) h Q := wp_pl rfl rfl rfl
theorem s294_36 : WP 294 0 36 L (vA (some a) :: S) h Q ↔ ((((120 ≤ (hk h a).1 ∧ (hk h a).1 ≤ 123) ∨ (hk h a).1 = 109)) ∧ Q (.inr a) h) := wp_athrow (fun _ => rfl) rfl
theorem s294_37 : WP 294 0 37 L S h Q ↔ WP 294 0 40 L (vI 1 :: S) h Q := wp_pl rfl rfl rfl
theorem s294_40 : WP 294 0 40 L (vI x :: S) h Q ↔ zif (x = 0) (WP 294 0 43 L S h Q) (WP 294 0 70 L S h Q) := wp_bN zc_eq rfl rfl rfl
theorem s294_43 : WP 294 0 43 [vA r] S h Q ↔ WP 294 0 44 [vA r] (vA r :: S) h Q := wp_aload rfl rfl
theorem s294_44 : WP 294 0 44 L (vA (some a) :: S) h Q ↔ (zhas 93 (hk h a) = true ∧ WP 294 0 47 L (hm h a 93 :: S) h Q) := wp_if rfl rfl rfl
theorem s294_47 : WP 294 0 47 L (vI x :: S) h Q ↔ zif (x < 0) (WP 294 0 62 L S h Q) (WP 294 0 50 L S h Q) := wp_bE zc_lt rfl rfl rfl
theorem s294_50 : WP 294 0 50 [vA r] S h Q ↔ WP 294 0 51 [vA r] (vA r :: S) h Q := wp_aload rfl rfl
theorem s294_51 : WP 294 0 51 L (vA (some a) :: S) h Q ↔ (zhas 93 (hk h a) = true ∧ WP 294 0 54 L (hm h a 93 :: S) h Q) := wp_if rfl rfl rfl
theorem s294_54 : WP 294 0 54 [vA r] S h Q ↔ WP 294 0 55 [vA r] (vA r :: S) h Q := wp_aload rfl rfl
theorem s294_55 : WP 294 0 55 L (vA (some a) :: S) h Q ↔ (zhas 92 (hk h a) = true ∧ WP 294 0 58 L (hm h a 92 :: S) h Q) := wp_if rfl rfl rfl
theorem s294_58 : WP 294 0 58 L (vA (some a) :: S) h Q ↔ ((1 ≤ (hk h a).1 ∧ (hk h a).1 ≤ 7) ∧ WP 294 0 59 L (vI ((hk h a).2 : Int) :: S) h Q) := wp_if rfl rfl rfl
theorem s294_59 : WP 294 0 59 L (vI y :: vI x :: S) h Q ↔ zif (y < x) (WP 294 0 62 L S h Q) (WP 294 0 70 L S h Q) := wp_bN zc_gt rfl rfl rfl
theorem s294_65 : WP 294 0 65 L (vA r :: S) h Q ↔ WP 294 0 66 L (vA r :: vA r :: S) h Q := wp_pl rfl rfl rfl
theorem s294_65i : WP 294 0 65 L (vI x :: S) h Q ↔ WP 294 0 66 L (vI x :: vI x :: S) h Q := wp_pl rfl rfl rfl
theorem s294_69 : WP 294 0 69 L (vA (some a) :: S) h Q ↔ ((((120 ≤ (hk h a).1 ∧ (hk h a).1 ≤ 123) ∨ (hk h a).1 = 109)) ∧ Q (.inr a) h) := wp_athrow (fun _ => rfl) rfl
theorem s294_70 : WP 294 0 70 L S h Q ↔ WP 294 0 73 L (vI 1 :: S) h Q := wp_pl rfl rfl rfl
theorem s294_73 : WP 294 0 73 L (vI x :: S) h Q ↔ zif (x = 0) (WP 294 0 76 L S h Q) (WP 294 0 110 L S h Q) := wp_bN zc_eq rfl rfl rfl
theorem s294_76 : WP 294 0 76 [vA r] S h Q ↔ WP 294 0 77 [vA r] (vA r :: S) h Q := wp_aload rfl rfl
theorem s294_77 : WP 294 0 77 L (vA (some a) :: S) h Q ↔ (zhas 93 (hk h a) = true ∧ WP 294 0 80 L (hm h a 93 :: S) h Q) := wp_if rfl rfl rfl
theorem s294_80 : WP 294 0 80 [vA r] S h Q ↔ WP 294 0 81 [vA r] (vA r :: S) h Q := wp_aload rfl rfl
theorem s294_81 : WP 294 0 81 L (vA (some a) :: S) h Q ↔ (zhas 92 (hk h a) = true ∧ WP 294 0 84 L (hm h a 92 :: S) h Q) := wp_if rfl rfl rfl
theorem s294_84 : WP 294 0 84 L (vA (some a) :: S) h Q ↔ ((1 ≤ (hk h a).1 ∧ (hk h a).1 ≤ 7) ∧ WP 294 0 85 L (vI ((hk h a).2 : Int) :: S) h Q) := wp_if rfl rfl rfl
theorem s294_85 : WP 294 0 85 L (vI y :: vI x :: S) h Q ↔ zif (x = y) (WP 294 0 110 L S h Q) (WP 294 0 88 L S h Q) := wp_bE zc_eq rfl rfl rfl
theorem s294_88 : WP 294 0 88 [vA r] S h Q ↔ WP 294 0 89 [vA r] (vA r :: S) h Q := wp_aload rfl rfl
theorem s294_89 : WP 294 0 89 L (vA (some a) :: S) h Q ↔ (zhas 92 (hk h a) = true ∧ WP 294 0 92 L (hm h a 92 :: S) h Q) := wp_if rfl rfl rfl
theorem s294_92 : WP 294 0 92 [vA r] S h Q ↔ WP 294 0 93 [vA r] (vA r :: S) h Q := wp_aload rfl rfl
theorem s294_93 : WP 294 0 93 L (vA (some a) :: S) h Q ↔ (zhas 93 (hk h a) = true ∧ WP 294 0 96 L (hm h a 93 :: S) h Q) := wp_if rfl rfl rfl
theorem s294_96 : WP 294 0 96 L (vI x :: vA (some a) :: S) h Q ↔ (((hk h a).1 = 4 ∧ 0 ≤ x ∧ x < ((hk h a).2 : Int)) ∧ WP 294 0 97 L (hm h a x.toNat :: S) h Q) := wp_if rfl rfl rfl
theorem s294_97 : WP 294 0 97 L S h Q ↔ WP 294 0 98 L (vL 0 :: S) h Q := wp_pl rfl rfl rfl
theorem s294_98 : WP 294 0 98 L (vL y :: vL x :: S) h Q ↔ WP 294 0 99 L (vI (zlc x y) :: S) h Q := wp_pl rfl rfl rfl
theorem s294_99 : WP 294 0 99 L (vI x :: S) h Q ↔ zif (x = 0) (WP 294 0 110 L S h Q) (WP 294 0 102 L S h Q) := wp_bE zc_eq rfl rfl rfl
theorem s294_105 : WP 294 0 105 L (vA r :: S) h Q ↔ WP 294 0 106 L (vA r :: vA r :: S) h Q := wp_pl rfl rfl rfl
theorem s294_105i : WP 294 0 105 L (vI x :: S) h Q ↔ WP 294 0 106 L (vI x :: vI x :: S) h Q := wp_pl rfl rfl rfl
theorem s294_109 : WP 294 0 109 L (vA (some a) :: S) h Q ↔ ((((120 ≤ (hk h a).1 ∧ (hk h a).1 ≤ 123) ∨ (hk h a).1 = 109)) ∧ Q (.inr a) h) := wp_athrow (fun _ => rfl) rfl
theorem s294_110 : WP 294 0 110 L [] h Q ↔ Q (.inl none) h := wp_ret rfl
/-! java/util/BitSet.ensureCapacity(I)V -/
theorem s295_0 : WP 295 0 0 [vA r, a1, a2] S h Q ↔ WP 295 0 1 [vA r, a1, a2] (vA r :: S) h Q := wp_aload rfl rfl
theorem s295_1 : WP 295 0 1 L (vA (some a) :: S) h Q ↔ (zhas 92 (hk h a) = true ∧ WP 295 0 4 L (hm h a 92 :: S) h Q) := wp_if rfl rfl rfl
theorem s295_4 : WP 295 0 4 L (vA (some a) :: S) h Q ↔ ((1 ≤ (hk h a).1 ∧ (hk h a).1 ≤ 7) ∧ WP 295 0 5 L (vI ((hk h a).2 : Int) :: S) h Q) := wp_if rfl rfl rfl
theorem s295_5 : WP 295 0 5 [a0, vI x, a2] S h Q ↔ WP 295 0 6 [a0, vI x, a2] (vI x :: S) h Q := wp_iload rfl rfl
theorem s295_6 : WP 295 0 6 L (vI y :: vI x :: S) h Q ↔ zif (x < y) (WP 295 0 9 L S h Q) (WP 295 0 38 L S h Q) := wp_bN zc_lt rfl rfl rfl
theorem s295_9 : WP 295 0 9 L S h Q ↔ WP 295 0 10 L (vI 2 :: S) h Q := wp_pl rfl rfl rfl
theorem s295_10 : WP 295 0 10 [vA r, a1, a2] S h Q ↔ WP 295 0 11 [vA r, a1, a2] (vA r :: S) h Q := wp_aload rfl rfl
theorem s295_11 : WP 295 0 11 L (vA (some a) :: S) h Q ↔ (zhas 92 (hk h a) = true ∧ WP 295 0 14 L (hm h a 92 :: S) h Q) := wp_if rfl rfl rfl
theorem s295_14 : WP 295 0 14 L (vA (some a) :: S) h Q ↔ ((1 ≤ (hk h a).1 ∧ (hk h a).1 ≤ 7) ∧ WP 295 0 15 L (vI ((hk h a).2 : Int) :: S) h Q) := wp_if rfl rfl rfl
theorem s295_15 : WP 295 0 15 L (vI y :: vI x :: S) h Q ↔ WP 295 0 16 L (vI (wr (x * y)) :: S) h Q := wp_pl rfl rfl rfl
theorem s295_16 : WP 295 0 16 [a0, vI x, a2] S h Q ↔ WP 295 0 17 [a0, vI x, a2] (vI x :: S) h Q := wp_iload rfl rfl
theorem s295_17 : WP 295 0 17 L (vI x1 :: vI x0 :: S) h Q ↔ (zw S ≤ 8 ∧ WP 383 0 0 [vI x0, vI x1] [] h (zret 295 0 17 20 L S Q)) := wp_S rfl rfl (zcan_of rfl rfl) rfl rfl rfl
theorem s295_20 : WP 295 0 20 [a0, a1, a2] (vI x :: S) h Q ↔ WP 295 0 21 [a0, a1, vI x] S h Q := wp_istore rfl rfl rfl
theorem s295_21 : WP 295 0 21 [vA r, a1, a2] S h Q ↔ WP 295 0 22 [vA r, a1, a2] (vA r :: S) h Q := wp_aload rfl rfl
theorem s295_22 : WP 295 0 22 [vA r, a1, a2] S h Q ↔ WP 295 0 23 [vA r, a1, a2] (vA r :: S) h Q := wp_aload rfl rfl
theorem s295_23 : WP 295 0 23 L (vA (some a) :: S) h Q ↔ (zhas 92 (hk h a) = true ∧ WP 295 0 26 L (hm h a 92 :: S) h Q) := wp_if rfl rfl rfl
theorem s295_26 : WP 295 0 26 [a0, a1, vI x] S h Q ↔ WP 295 0 27 [a0, a1, vI x] (vI x :: S) h Q := wp_iload rfl rfl
theorem s295_27 : WP 295 0 27 L (vI x1 :: vA r0 :: S) h Q ↔ (zw S ≤ 8 ∧ WP 405 0 0 [vA r0, vI x1, vJ] [] h (zret 295 0 27 30 L S Q)) := wp_S rfl rfl (zcan_of rfl rfl) rfl rfl rfl
theorem s295_30 : WP 295 0 30 L (vA r :: vA (some a) :: S) h Q ↔ ((zNC ≤ a ∧ zhas 92 (hk h a) = true) ∧ WP 295 0 33 L S (hput h a 92 (vA r)) Q) := wp_put3 rfl rfl
theorem s295_33 : WP 295 0 33 [vA r, a1, a2] S h Q ↔ WP 295 0 34 [vA r, a1, a2] (vA r :: S) h Q := wp_aload rfl rfl
theorem s295_34 : WP 295 0 34 L S h Q ↔ WP 295 0 35 L (vI 0 :: S) h Q := wp_pl rfl rfl rfl
theorem s295_35 : WP 295 0 35 L (vI x :: vA (some a) :: S) h Q ↔ ((zNC ≤ a ∧ zhas 94 (hk h a) = true ∧ (x = 0 ∨ x = 1)) ∧ WP 295 0 38 L S (hput h a 94 (vI x)) Q) := wp_put1 rfl rfl
theorem s295_38 : WP 295 0 38 L [] h Q ↔ Q (.inl none) h := wp_ret rfl
/-! java/util/BitSet.expandTo(I)V -/
theorem s296_0 : WP 296 0 0 [a0, vI x, a2] S h Q ↔ WP 296 0 1 [a0, vI x, a2] (vI x :: S) h Q := wp_iload rfl rfl
theorem s296_1 : WP 296 0 1 L S h Q ↔ WP 296 0 2 L (vI 1 :: S) h Q := wp_pl rfl rfl rfl
theorem s296_2 : WP 296 0 2 L (vI y :: vI x :: S) h Q ↔ WP 296 0 3 L (vI (wr (x + y)) :: S) h Q := wp_pl rfl rfl rfl
theorem s296_3 : WP 296 0 3 [a0, a1, a2] (vI x :: S) h Q ↔ WP 296 0 4 [a0, a1, vI x] S h Q := wp_istore rfl rfl rfl
theorem s296_4 : WP 296 0 4 [vA r, a1, a2] S h Q ↔ WP 296 0 5 [vA r, a1, a2] (vA r :: S) h Q := wp_aload rfl rfl
theorem s296_5 : WP 296 0 5 L (vA (some a) :: S) h Q ↔ (zhas 93 (hk h a) = true ∧ WP 296 0 8 L (hm h a 93 :: S) h Q) := wp_if rfl rfl rfl
theorem s296_8 : WP 296 0 8 [a0, a1, vI x] S h Q ↔ WP 296 0 9 [a0, a1, vI x] (vI x :: S) h Q := wp_iload rfl rfl
theorem s296_9 : WP 296 0 9 L (vI y :: vI x :: S) h Q ↔ zif (x < y) (WP 296 0 12 L S h Q) (WP 296 0 22 L S h Q) := wp_bN zc_lt rfl rfl rfl
theorem s296_12 : WP 296 0 12 [vA r, a1, a2] S h Q ↔ WP 296 0 13 [vA r, a1, a2] (vA r :: S) h Q := wp_aload rfl rfl
theorem s296_13 : WP 296 0 13 [a0, a1, vI x] S h Q ↔ WP 296 0 14 [a0, a1, vI x] (vI x :: S) h Q := wp_iload rfl rfl
theorem s296_14 : WP 296 0 14 L (vI x0 :: vA (some a) :: S) h Q ↔ ((hk h a).1 = 115 ∧ (zw S ≤ 8 ∧ WP 295 0 0 [vA (some a), vI x0, vJ] [] h (zret 296 0 14 17 L S Q))) := wp_V1 (c := 115) rfl rfl (fun _ => rfl) rfl rfl (zcan_of rfl rfl) rfl rfl rfl
theorem s296_17 : WP 296 0 17 [vA r, a1, a2] S h Q ↔ WP 296 0 18 [vA r, a1, a2] (vA r :: S) h Q := wp_aload rfl rfl
theorem s296_18 : WP 296 0 18 [a0, a1, vI x] S h Q ↔ WP 296 0 19 [a0, a1, vI x] (vI x :: S) h Q := wp_iload rfl rfl
theorem s296_19 : WP 296 0 19 L (vI x :: vA (some a) :: S) h Q ↔ ((zNC ≤ a ∧ zhas 93 (hk h a) = true) ∧ WP 296 0 22 L S (hput h a 93 (vI x)) Q) := wp_put0 rfl rfl
theorem s296_22 : WP 296 0 22 L [] h Q ↔ Q (.inl none) h := wp_ret rfl
/-! java/util/BitSet.get(I)Z -/
theorem s297_0 : WP 297 0 0 [a0, vI x, a2] S h Q ↔ WP 297 0 1 [a0, vI x, a2] (vI x :: S) h Q := wp_iload rfl rfl
theorem s297_1 : WP 297 0 1 L (vI x :: S) h Q ↔ zif (x < 0) (WP 297 0 4 L S h Q) (WP 297 0 31 L S h Q) := wp_bN zc_lt rfl rfl rfl
theorem s297_7 : WP 297 0 7 L (vA r :: S) h Q ↔ WP 297 0 8 L (vA r :: vA r :: S) h Q := wp_pl rfl rfl rfl
theorem s297_7i : WP 297 0 7 L (vI x :: S) h Q ↔ WP 297 0 8 L (vI x :: vI x :: S) h Q := wp_pl rfl rfl rfl
theorem s297_8 : WP 297 0 8 L S h Q ↔ WP 297 0 11 L (vA (some (hn h)) :: S) (hnew h (116, 0) 4 zdf) Q := wp_pl rfl rfl rfl
theorem s297_11 : WP 297 0 11 L (vA r :: S) h Q ↔ WP 297 0 12 L (vA r :: vA r :: S) h Q := wp_pl rfl rfl rfl
theorem s297_11i : WP 297 0 11 L (vI x :: S) h Q ↔ WP 297 0 12 L (vI x :: vI x :: S) h Q := wp_pl rfl rfl rfl
theorem s297_15 : WP 297 0 15 L S h Q ↔ WP 297 0 17 L (vA (some 32) :: S) h Q := wp_pl rfl rfl rfl
theorem s297_20 : WP 297 0 20 [a0, vI x, a2] S h Q ↔ WP 297 0 21 [a0, vI x, a2] (vI x :: S) h Q := wp_iload rfl rfl
theorem s297_30 : WP 297 0 30 L (vA (some a) :: S) h Q ↔ ((((120 ≤ (hk h a).1 ∧ (hk h a).1 ≤ 123) ∨ (hk h a).1 = 109)) ∧ Q (.inr a) h) := wp_athrow (fun _ => rfl) rfl
theorem s297_31 : WP 297 0 31 [vA r, a1, a2] S h Q ↔ WP 297 0 32 [vA r, a1, a2] (vA r :: S) h Q := wp_aload rfl rfl
theorem s297_32 : WP 297 0 32 L (vA (some a) :: S) h Q ↔ ((hk h a).1 = 115 ∧ (zw S ≤ 8 ∧ WP 294 0 0 [vA (some a)] [] h (zret 297 0 32 35 L S Q))) := wp_V1 (c := 115) rfl rfl (fun _ => rfl) rfl rfl (zcan_of rfl rfl) rfl rfl rfl
theorem s297_35 : WP 297 0 35 [a0, vI x, a2] S h Q ↔ WP 297 0 36 [a0, vI x, a2] (vI x :: S) h Q := wp_iload rfl rfl
theorem s297_36 : WP 297 0 36 L (vI x0 :: S) h Q ↔ (zw S ≤ 8 ∧ WP 303 0 0 [vI x0] [] h (zret 297 0 36 39 L S Q)) := wp_S rfl rfl (zcan_of rfl rfl) rfl rfl rfl
theorem s297_39 : WP 297 0 39 [a0, a1, a2] (vI x :: S) h Q ↔ WP 297 0 40 [a0, a1, vI x] S h Q := wp_istore rfl rfl rfl
theorem s297_40 : WP 297 0 40 [a0, a1, vI x] S h Q ↔ WP 297 0 41 [a0, a1, vI x] (vI x :: S) h Q := wp_iload rfl rfl
theorem s297_41 : WP 297 0 41 [vA r, a1, a2] S h Q ↔ WP 297 0 42 [vA r, a1, a2] (vA r :: S) h Q := wp_aload rfl rfl
theorem s297_42 : WP 297 0 42 L (vA (some a) :: S) h Q ↔ (zhas 93 (hk h a) = true ∧ WP 297 0 45 L (hm h a 93 :: S) h Q) := wp_if rfl rfl rfl
theorem s297_45 : WP 297 0 45 L (vI y :: vI x :: S) h Q ↔ zif (x < y) (WP 297 0 48 L S h Q) (WP 297 0 67 L S h Q) := wp_bN zc_lt rfl rfl rfl
theorem s297_48 : WP 297 0 48 [vA r, a1, a2] S h Q ↔ WP 297 0 49 [vA r, a1, a2] (vA r :: S) h Q := wp_aload rfl rfl
theorem s297_49 : WP 297 0 49 L (vA (some a) :: S) h Q ↔ (zhas 92 (hk h a) = true ∧ WP 297 0 52 L (hm h a 92 :: S) h Q) := wp_if rfl rfl rfl
theorem s297_52 : WP 297 0 52 [a0, a1, vI x] S h Q ↔ WP 297 0 53 [a0, a1, vI x] (vI x :: S) h Q := wp_iload rfl rfl
theorem s297_53 : WP 297 0 53 L (vI x :: vA (some a) :: S) h Q ↔ (((hk h a).1 = 4 ∧ 0 ≤ x ∧ x < ((hk h a).2 : Int)) ∧ WP 297 0 54 L (hm h a x.toNat :: S) h Q) := wp_if rfl rfl rfl
theorem s297_54 : WP 297 0 54 L S h Q ↔ WP 297 0 55 L (vL 1 :: S) h Q := wp_pl rfl rfl rfl
theorem s297_55 : WP 297 0 55 [a0, vI x, a2] S h Q ↔ WP 297 0 56 [a0, vI x, a2] (vI x :: S) h Q := wp_iload rfl rfl
theorem s297_56 : WP 297 0 56 L (vI y :: vL x :: S) h Q ↔ WP 297 0 57 L (vL (zlshl x y) :: S) h Q := wp_pl rfl rfl rfl
theorem s297_57 : WP 297 0 57 L (vL y :: vL x :: S) h Q ↔ WP 297 0 58 L (vL (zland x y) :: S) h Q := wp_pl rfl rfl rfl
theorem s297_58 : WP 297 0 58 L S h Q ↔ WP 297 0 59 L (vL 0 :: S) h Q := wp_pl rfl rfl rfl
theorem s297_59 : WP 297 0 59 L (vL y :: vL x :: S) h Q ↔ WP 297 0 60 L (vI (zlc x y) :: S) h Q := wp_pl rfl rfl rfl
theorem s297_60 : WP 297 0 60 L (vI x :: S) h Q ↔ zif (x = 0) (WP 297 0 67 L S h Q) (WP 297 0 63 L S h Q) := wp_bE zc_eq rfl rfl rfl
theorem s297_63 : WP 297 0 63 L S h Q ↔ WP 297 0 64 L (vI 1 :: S) h Q := wp_pl rfl rfl rfl
theorem s297_64 : WP 297 0 64 L S h Q ↔ WP 297 0 68 L S h Q := wp_pl rfl rfl rfl
theorem s297_67 : WP 297 0 67 L S h Q ↔ WP 297 0 68 L (vI 0 :: S) h Q := wp_pl rfl rfl rfl
theorem s297_68 : WP 297 0 68 L [vI x] h Q ↔ ((x = 0 ∨ x = 1) ∧ Q (.inl (some (vI x))) h) := wp_iret rfl rfl
/-! java/util/BitSet.<init>()V -/
theorem s298_0 : WP 298 0 0 [vA r] S h Q ↔ WP 298 0 1 [vA r] (vA r :: S) h Q := wp_aload rfl rfl
theorem s298_1 : WP 298 0 1 L (vA (some a) :: S) h Q ↔ ((zw S ≤ 8 ∧ zNC ≤ a) ∧ WP 298 0 4 L S h Q) := wp_if rfl rfl rfl
theorem s298_4 : WP 298 0 4 [vA r] S h Q ↔ WP 298 0 5 [vA r] (vA r :: S) h Q := wp_aload rfl rfl
theorem s298_5 : WP 298 0 5 L S h Q ↔ WP 298 0 6 L (vI 0 :: S) h Q := wp_pl rfl rfl rfl
theorem s298_6 : WP 298 0 6 L (vI x :: vA (some a) :: S) h Q ↔ ((zNC ≤ a ∧ zhas 93 (hk h a) = true) ∧ WP 298 0 9 L S (hput h a 93 (vI x)) Q) := wp_put0 rfl rfl
theorem s298_9 : WP 298 0 9 [vA r] S h Q ↔ WP 298 0 10 [vA r] (vA r :: S) h Q := wp_aload rfl rfl
theorem s298_10 : WP 298 0 10 L S h Q ↔ WP 298 0 11 L (vI 0 :: S) h Q := wp_pl rfl rfl rfl
theorem s298_11 : WP 298 0 11 L (vI x :: vA (some a) :: S) h Q ↔ ((zNC ≤ a ∧ zhas 94 (hk h a) = true ∧ (x = 0 ∨ x = 1)) ∧ WP 298 0 14 L S (hput h a 94 (vI x)) Q) := wp_put1 rfl rfl
theorem s298_14 : WP 298 0 14 [vA r] S h Q ↔ WP 298 0 15 [vA r] (vA r :: S) h Q := wp_aload rfl rfl
theorem s298_15 : WP 298 0 15 L S h Q ↔ WP 298 0 17 L (vI 64 :: S) h Q := wp_pl rfl rfl rfl
theorem s298_17 : WP 298 0 17 L (vI x0 :: vA (some a) :: S) h Q ↔ ((hk h a).1 = 115 ∧ (zw S ≤ 8 ∧ WP 299 0 0 [vA (some a), vI x0] [] h (zret 298 0 17 20 L S Q))) := wp_V1 (c := 115) rfl rfl (fun _ => rfl) rfl rfl (zcan_of rfl rfl) rfl rfl rfl
theorem s298_20 : WP 298 0 20 [vA r] S h Q ↔ WP 298 0 21 [vA r] (vA r :: S) h Q := wp_aload rfl rfl
theorem s298_21 : WP 298 0 21 L S h Q ↔ WP 298 0 22 L (vI 0 :: S) h Q := wp_pl rfl rfl rfl
theorem s298_22 : WP 298 0 22 L (vI x :: vA (some a) :: S) h Q ↔ ((zNC ≤ a ∧ zhas 94 (hk h a) = true ∧ (x = 0 ∨ x = 1)) ∧ WP 298 0 25 L S (hput h a 94 (vI x)) Q) := wp_put1 rfl rfl
theorem s298_25 : WP 298 0 25 L [] h Q ↔ Q (.inl none) h := wp_ret rfl
/-! java/util/BitSet.initWords(I)V -/
theorem s299_0 : WP 299 0 0 [vA r, a1] S h Q ↔ WP 299 0 1 [vA r, a1] (vA r :: S) h Q := wp_aload rfl rfl
theorem s299_1 : WP 299 0 1 [a0, vI x] S h Q ↔ WP 299 0 2 [a0, vI x] (vI x :: S) h Q := wp_iload rfl rfl
theorem s299_2 : WP 299 0 2 L S h Q ↔ WP 299 0 3 L (vI 1 :: S) h Q := wp_pl rfl rfl rfl
theorem s299_3 : WP 299 0 3 L (vI y :: vI x :: S) h Q ↔ WP 299 0 4 L (vI (wr (x - y)) :: S) h Q := wp_pl rfl rfl rfl
theorem s299_4 : WP 299 0 4 L (vI x0 :: S) h Q ↔ (zw S ≤ 8 ∧ WP 303 0 0 [vI x0] [] h (zret 299 0 4 7 L S Q)) := wp_S rfl rfl (zcan_of rfl rfl) rfl rfl rfl
theorem s299_7 : WP 299 0 7 L S h Q ↔ WP 299 0 8 L (vI 1 :: S) h Q := wp_pl rfl rfl rfl
theorem s299_8 : WP 299 0 8 L (vI y :: vI x :: S) h Q ↔ WP 299 0 9 L (vI (wr (x + y)) :: S) h Q := wp_pl rfl rfl rfl
theorem s299_9 : WP 299 0 9 L (vI x :: S) h Q ↔ ((0 ≤ x ∧ x ≤ 1000000) ∧ WP 299 0 11 L (vA (some (hn h)) :: S) (hnew h (4, x.toNat) x.toNat (fun _ => vL 0)) Q) := wp_if rfl rfl rfl
theorem s299_11 : WP 299 0 11 L (vA r :: vA (some a) :: S) h Q ↔ ((zNC ≤ a ∧ zhas 92 (hk h a) = true) ∧ WP 299 0 14 L S (hput h a 92 (vA r)) Q) := wp_put3 rfl rfl
theorem s299_14 : WP 299 0 14 L [] h Q ↔ Q (.inl none) h := wp_ret rfl
/-! java/util/BitSet.nextClearBit(I)I -/
theorem s300_0 : WP 300 0 0 [a0, vI x, a2, a3, a4] S h Q ↔ WP 300 0 1 [a0, vI x, a2, a3, a4] (vI x :: S) h Q := wp_iload rfl rfl
theorem s300_1 : WP 300 0 1 L (vI x :: S) h Q ↔ zif (x < 0) (WP 300 0 4 L S h Q) (WP 300 0 31 L S h Q) := wp_bN zc_lt rfl rfl rfl
theorem s300_7 : WP 300 0 7 L (vA r :: S) h Q ↔ WP 300 0 8 L (vA r :: vA r :: S) h Q := wp_pl rfl rfl rfl
theorem s300_7i : WP 300 0 7 L (vI x :: S) h Q ↔ WP 300 0 8 L (vI x :: vI x :: S) h Q := wp_pl rfl rfl rfl
theorem s300_8 : WP 300 0 8 L S h Q ↔ WP 300 0 11 L (vA (some (hn h)) :: S) (hnew h (116, 0) 4 zdf) Q := wp_pl rfl rfl rfl
theorem s300_11 : WP 300 0 11 L (vA r :: S) h Q ↔ WP 300 0 12 L (vA r :: vA r :: S) h Q := wp_pl rfl rfl rfl
theorem s300_11i : WP 300 0 11 L (vI x :: S) h Q ↔ WP 300 0 12 L (vI x :: vI x :: S) h Q := wp_pl rfl rfl rfl
theorem s300_15 : WP 300 0 15 L S h Q ↔ WP 300 0 17 L (vA (some 34) :: S) h Q := wp_pl rfl rfl rfl
theorem s300_20 : WP 300 0 20 [a0, vI x, a2, a3, a4] S h Q ↔ WP 300 0 21 [a0, vI x, a2, a3, a4] (vI x :: S) h Q := wp_iload rfl rfl
theorem s300_30 : WP 300 0 30 L (vA (some a) :: S) h Q ↔ ((((120 ≤ (hk h a).1 ∧ (hk h a).1 ≤ 123) ∨ (hk h a).1 = 109)) ∧ Q (.inr a) h) := wp_athrow (fun _ => rfl) rfl
theorem s300_31 : WP 300 0 31 [vA r, a1, a2, a3, a4] S h Q ↔ WP 300 0 32 [vA r, a1, a2, a3, a4] (vA r :: S) h Q := wp_aload rfl rfl
theorem s300_32 : WP 300 0 32 L (vA (some a) :: S) h Q ↔ ((hk h a).1 = 115 ∧ (zw S ≤ 8 ∧ WP 294 0 0 [vA (some a)] [] h (zret 300 0 32 35 L S Q))) := wp_V1 (c := 115) rfl rfl (fun _ => rfl) rfl rfl (zcan_of rfl rfl) rfl rfl rfl
theorem s300_35 : WP 300 0 35 [a0, vI x, a2, a3, a4] S h Q ↔ WP 300 0 36 [a0, vI x, a2, a3, a4] (vI x :: S) h Q := wp_iload rfl rfl
theorem s300_36 : WP 300 0 36 L (vI x0 :: S) h Q ↔ (zw S ≤ 8 ∧ WP 303 0 0 [vI x0] [] h (zret 300 0 36 39 L S Q)) := wp_S rfl rfl (zcan_of rfl rfl) rfl rfl rfl
theorem s300_39 : WP 300 0 39 [a0, a1, a2, a3, a4] (vI x :: S) h Q ↔ WP 300 0 40 [a0, a1, vI x, a3, a4] S h Q := wp_istore rfl rfl rfl
theorem s300_40 : WP 300 0 40 [a0, a1, vI x, a3, a4] S h Q ↔ WP 300 0 41 [a0, a1, vI x, a3, a4] (vI x :: S) h Q := wp_iload rfl rfl
theorem s300_41 : WP 300 0 41 [vA r, a1, a2, a3, a4] S h Q ↔ WP 300 0 42 [vA r, a1, a2, a3, a4] (vA r :: S) h Q := wp_aload rfl rfl
theorem s300_42 : WP 300 0 42 L (vA (some a) :: S) h Q ↔ (zhas 93 (hk h a) = true ∧ WP 300 0 45 L (hm h a 93 :: S) h Q) := wp_if rfl rfl rfl
theorem s300_45 : WP 300 0 45 L (vI y :: vI x :: S) h Q ↔ zif (x < y) (WP 300 0 50 L S h Q) (WP 300 0 48 L S h Q) := wp_bE zc_lt rfl rfl rfl
theorem s300_48 : WP 300 0 48 [a0, vI x, a2, a3, a4] S h Q ↔ WP 300 0 49 [a0, vI x, a2, a3, a4] (vI x :: S) h Q := wp_iload rfl rfl
theorem s300_49 : WP 300 0 49 L [vI x] h Q ↔ Q (.inl (some (vI x))) h := wp_iret0 rfl rfl
theorem s300_50 : WP 300 0 50 [vA r, a1, a2, a3, a4] S h Q ↔ WP 300 0 51 [vA r, a1, a2, a3, a4] (vA r :: S) h Q := wp_aload rfl rfl
theorem s300_51 : WP 300 0 51 L (vA (some a) :: S) h Q ↔ (zhas 92 (hk h a) = true ∧ WP 300 0 54 L (hm h a 92 :: S) h Q) := wp_if rfl rfl rfl
theorem s300_54 : WP 300 0 54 [a0, a1, vI x, a3, a4] S h Q ↔ WP 300 0 55 [a0, a1, vI x, a3, a4] (vI x :: S) h Q := wp_iload rfl rfl
theorem s300_55 : WP 300 0 55 L (vI x :: vA (some a) :: S) h Q ↔ (((hk h a).1 = 4 ∧ 0 ≤ x ∧ x < ((hk h a).2 : Int)) ∧ WP 300 0 56 L (hm h a x.toNat :: S) h Q) := wp_if rfl rfl rfl
theorem s300_56 : WP 300 0 56 L S h Q ↔ WP 300 0 59 L (vL (-1) :: S) h Q := wp_pl rfl rfl rfl
theorem s300_59 : WP 300 0 59 L (vL y :: vL x :: S) h Q ↔ WP 300 0 60 L (vL (zlxor x y) :: S) h Q := wp_pl rfl rfl rfl
theorem s300_60 : WP 300 0 60 L S h Q ↔ WP 300 0 63 L (vL (-1) :: S) h Q := wp_pl rfl rfl rfl
theorem s300_63 : WP 300 0 63 [a0, vI x, a2, a3, a4] S h Q ↔ WP 300 0 64 [a0, vI x, a2, a3, a4] (vI x :: S) h Q := wp_iload rfl rfl
theorem s300_64 : WP 300 0 64 L (vI y :: vL x :: S) h Q ↔ WP 300 0 65 L (vL (zlshl x y) :: S) h Q := wp_pl rfl rfl rfl
theorem s300_65 : WP 300 0 65 L (vL y :: vL x :: S) h Q ↔ WP 300 0 66 L (vL (zland x y) :: S) h Q := wp_pl rfl rfl rfl
theorem s300_66 : WP 300 0 66 [a0, a1, a2, a3, a4] (vL x :: S) h Q ↔ WP 300 0 67 [a0, a1, a2, vL x, vJ] S h Q := wp_lstore rfl rfl rfl
theorem s300_67 : WP 300 0 67 [a0, a1, a2, vL x, vJ] S h Q ↔ WP 300 0 68 [a0, a1, a2, vL x, vJ] (vL x :: S) h Q := wp_lload rfl rfl rfl
theorem s300_68 : WP 300 0 68 L S h Q ↔ WP 300 0 69 L (vL 0 :: S) h Q := wp_pl rfl rfl rfl
theorem s300_69 : WP 300 0 69 L (vL y :: vL x :: S) h Q ↔ WP 300 0 70 L (vI (zlc x y) :: S) h Q := wp_pl rfl rfl rfl
theorem s300_70 : WP 300 0 70 L (vI x :: S) h Q ↔ zif (x = 0) (WP 300 0 83 L S h Q) (WP 300 0 73 L S h Q) := wp_bE zc_eq rfl rfl rfl
theorem s300_73 : WP 300 0 73 [a0, a1, vI x, a3, a4] S h Q ↔ WP 300 0 74 [a0, a1, vI x, a3, a4] (vI x :: S) h Q := wp_iload rfl rfl
theorem s300_74 : WP 300 0 74 L S h Q ↔ WP 300 0 76 L (vI 64 :: S) h Q := wp_pl rfl rfl rfl
theorem s300_76 : WP 300 0 76 L (vI y :: vI x :: S) h Q ↔ WP 300 0 77 L (vI (wr (x * y)) :: S) h Q := wp_pl rfl rfl rfl
theorem s300_77 : WP 300 0 77 [a0, a1, a2, vL x, vJ] S h Q ↔ WP 300 0 78 [a0, a1, a2, vL x, vJ] (vL x :: S) h Q := wp_lload rfl rfl rfl
theorem s300_78 : WP 300 0 78 L (vL x0 :: S) h Q ↔ (zw S ≤ 8 ∧ WP 382 0 0 [vL x0, vJ, vJ] [] h (zret 300 0 78 81 L S Q)) := wp_S rfl rfl (zcan_of rfl rfl) rfl rfl rfl
theorem s300_81 : WP 300 0 81 L (vI y :: vI x :: S) h Q ↔ WP 300 0 82 L (vI (wr (x + y)) :: S) h Q := wp_pl rfl rfl rfl
theorem s300_82 : WP 300 0 82 L [vI x] h Q ↔ Q (.inl (some (vI x))) h := wp_iret0 rfl rfl
theorem s300_83 : WP 300 0 83 [a0, a1, vI x, a3, a4] S h Q ↔ WP 300 0 86 [a0, a1, vI (wr (x + 1)), a3, a4] S h Q := wp_iinc rfl rfl rfl
theorem s300_86 : WP 300 0 86 [a0, a1, vI x, a3, a4] S h Q ↔ WP 300 0 87 [a0, a1, vI x, a3, a4] (vI x :: S) h Q := wp_iload rfl rfl
theorem s300_87 : WP 300 0 87 [vA r, a1, a2, a3, a4] S h Q ↔ WP 300 0 88 [vA r, a1, a2, a3, a4] (vA r :: S) h Q := wp_aload rfl rfl
theorem s300_88 : WP 300 0 88 L (vA (some a) :: S) h Q ↔ (zhas 93 (hk h a) = true ∧ WP 300 0 91 L (hm h a 93 :: S) h Q) := wp_if rfl rfl rfl
theorem s300_91 : WP 300 0 91 L (vI y :: vI x :: S) h Q ↔ zif (x = y) (WP 300 0 94 L S h Q) (WP 300 0 102 L S h Q) := wp_bN zc_eq rfl rfl rfl
theorem s300_94 : WP 300 0 94 [vA r, a1, a2, a3, a4] S h Q ↔ WP 300 0 95 [vA r, a1, a2, a3, a4] (vA r :: S) h Q := wp_aload rfl rfl
theorem s300_95 : WP 300 0 95 L (vA (some a) :: S) h Q ↔ (zhas 93 (hk h a) = true ∧ WP 300 0 98 L (hm h a 93 :: S) h Q) := wp_if rfl rfl rfl
theorem s300_98 : WP 300 0 98 L S h Q ↔ WP 300 0 100 L (vI 64 :: S) h Q := wp_pl rfl rfl rfl
theorem s300_100 : WP 300 0 100 L (vI y :: vI x :: S) h Q ↔ WP 300 0 101 L (vI (wr (x * y)) :: S) h Q := wp_pl rfl rfl rfl
theorem s300_101 : WP 300 0 101 L [vI x] h Q ↔ Q (.inl (some (vI x))) h := wp_iret0 rfl rfl
theorem s300_102 : WP 300 0 102 [vA r, a1, a2, a3, a4] S h Q ↔ WP 300 0 103 [vA r, a1, a2, a3, a4] (vA r :: S) h Q := wp_aload rfl rfl
theorem s300_103 : WP 300 0 103 L (vA (some a) :: S) h Q ↔ (zhas 92 (hk h a) = true ∧ WP 300 0 106 L (hm h a 92 :: S) h Q) := wp_if rfl rfl rfl
theorem s300_106 : WP 300 0 106 [a0, a1, vI x, a3, a4] S h Q ↔ WP 300 0 107 [a0, a1, vI x, a3, a4] (vI x :: S) h Q := wp_iload rfl rfl
theorem s300_107 : WP 300 0 107 L (vI x :: vA (some a) :: S) h Q ↔ (((hk h a).1 = 4 ∧ 0 ≤ x ∧ x < ((hk h a).2 : Int)) ∧ WP 300 0 108 L (hm h a x.toNat :: S) h Q) := wp_if rfl rfl rfl
theorem s300_108 : WP 300 0 108 L S h Q ↔ WP 300 0 111 L (vL (-1) :: S) h Q := wp_pl rfl rfl rfl
theorem s300_111 : WP 300 0 111 L (vL y :: vL x :: S) h Q ↔ WP 300 0 112 L (vL (zlxor x y) :: S) h Q := wp_pl rfl rfl rfl
theorem s300_112 : WP 300 0 112 [a0, a1, a2, a3, a4] (vL x :: S) h Q ↔ WP 300 0 113 [a0, a1, a2, vL x, vJ] S h Q := wp_lstore rfl rfl rfl
theorem s300_113 : WP 300 0 113 L S h Q ↔ WP 300 0 67 L S h Q := wp_pl rfl rfl rfl
/-! java/util/BitSet.nextSetBit(I)I -/
theorem s301_0 : WP 301 0 0 [a0, vI x, a2, a3, a4] S h Q ↔ WP 301 0 1 [a0, vI x, a2, a3, a4] (vI x :: S) h Q := wp_iload rfl rfl
theorem s301_1 : WP 301 0 1 L (vI x :: S) h Q ↔ zif (x < 0) (WP 301 0 4 L S h Q) (WP 301 0 31 L S h Q) := wp_bN zc_lt rfl rfl rfl
theorem s301_7 : WP 301 0 7 L (vA r :: S) h Q ↔ WP 301 0 8 L (vA r :: vA r :: S) h Q := wp_pl rfl rfl rfl
theorem s301_7i : WP 301 0 7 L (vI x :: S) h Q ↔ WP 301 0 8 L (vI x :: vI x :: S) h Q := wp_pl rfl rfl rfl
theorem s301_8 : WP 301 0 8 L S h Q ↔ WP 301 0 11 L (vA (some (hn h)) :: S) (hnew h (116, 0) 4 zdf) Q := wp_pl rfl rfl rfl
theorem s301_11 : WP 301 0 11 L (vA r :: S) h Q ↔ WP 301 0 12 L (vA r :: vA r :: S) h Q := wp_pl rfl rfl rfl
theorem s301_11i : WP 301 0 11 L (vI x :: S) h Q ↔ WP 301 0 12 L (vI x :: vI x :: S) h Q := wp_pl rfl rfl rfl
theorem s301_15 : WP 301 0 15 L S h Q ↔ WP 301 0 17 L (vA (some 34) :: S) h Q := wp_pl rfl rfl rfl
theorem s301_20 : WP 301 0 20 [a0, vI x, a2, a3, a4] S h Q ↔ WP 301 0 21 [a0, vI x, a2, a3, a4] (vI x :: S) h Q := wp_iload rfl rfl
theorem s301_30 : WP 301 0 30 L (vA (some a) :: S) h Q ↔ ((((120 ≤ (hk h a).1 ∧ (hk h a).1 ≤ 123) ∨ (hk h a).1 = 109)) ∧ Q (.inr a) h) := wp_athrow (fun _ => rfl) rfl
theorem s301_31 : WP 301 0 31 [vA r, a1, a2, a3, a4] S h Q ↔ WP 301 0 32 [vA r, a1, a2, a3, a4] (vA r :: S) h Q := wp_aload rfl rfl
theorem s301_32 : WP 301 0 32 L (vA (some a) :: S) h Q ↔ ((hk h a).1 = 115 ∧ (zw S ≤ 8 ∧ WP 294 0 0 [vA (some a)] [] h (zret 301 0 32 35 L S Q))) := wp_V1 (c := 115) rfl rfl (fun _ => rfl) rfl rfl (zcan_of rfl rfl) rfl rfl rfl
theorem s301_35 : WP 301 0 35 [a0, vI x, a2, a3, a4] S h Q ↔ WP 301 0 36 [a0, vI x, a2, a3, a4] (vI x :: S) h Q := wp_iload rfl rfl
theorem s301_36 : WP 301 0 36 L (vI x0 :: S) h Q ↔ (zw S ≤ 8 ∧ WP 303 0 0 [vI x0] [] h (zret 301 0 36 39 L S Q)) := wp_S rfl rfl (zcan_of rfl rfl) rfl rfl rfl
theorem s301_39 : WP 301 0 39 [a0, a1, a2, a3, a4] (vI x :: S) h Q ↔ WP 301 0 40 [a0, a1, vI x, a3, a4] S h Q := wp_istore rfl rfl rfl
theorem s301_40 : WP 301 0 40 [a0, a1, vI x, a3, a4] S h Q ↔ WP 301 0 41 [a0, a1, vI x, a3, a4] (vI x :: S) h Q := wp_iload rfl rfl
theorem s301_41 : WP 301 0 41 [vA r, a1, a2, a3, a4] S h Q ↔ WP 301 0 42 [vA r, a1, a2, a3, a4] (vA r :: S) h Q := wp_aload rfl rfl
theorem s301_42 : WP 301 0 42 L (vA (some a) :: S) h Q ↔ (zhas 93 (hk h a) = true ∧ WP 301 0 45 L (hm h a 93 :: S) h Q) := wp_if rfl rfl rfl
theorem s301_45 : WP 301 0 45 L (vI y :: vI x :: S) h Q ↔ zif (x < y) (WP 301 0 50 L S h Q) (WP 301 0 48 L S h Q) := wp_bE zc_lt rfl rfl rfl
theorem s301_48 : WP 301 0 48 L S h Q ↔ WP 301 0 49 L (vI (-1) :: S) h Q := wp_pl rfl rfl rfl
theorem s301_49 : WP 301 0 49 L [vI x] h Q ↔ Q (.inl (some (vI x))) h := wp_iret0 rfl rfl
theorem s301_50 : WP 301 0 50 [vA r, a1, a2, a3, a4] S h Q ↔ WP 301 0 51 [vA r, a1, a2, a3, a4] (vA r :: S) h Q := wp_aload rfl rfl
theorem s301_51 : WP 301 0 51 L (vA (some a) :: S) h Q ↔ (zhas 92 (hk h a) = true ∧ WP 301 0 54 L (hm h a 92 :: S) h Q) := wp_if rfl rfl rfl
theorem s301_54 : WP 301 0 54 [a0, a1, vI x, a3, a4] S h Q ↔ WP 301 0 55 [a0, a1, vI x, a3, a4] (vI x :: S) h Q := wp_iload rfl rfl
theorem s301_55 : WP 301 0 55 L (vI x :: vA (some a) :: S) h Q ↔ (((hk h a).1 = 4 ∧ 0 ≤ x ∧ x < ((hk h a).2 : Int)) ∧ WP 301 0 56 L (hm h a x.toNat :: S) h Q) := wp_if rfl rfl rfl
theorem s301_56 : WP 301 0 56 L S h Q ↔ WP 301 0 59 L (vL (-1) :: S) h Q := wp_pl rfl rfl rfl
theorem s301_59 : WP 301 0 59 [a0, vI x, a2, a3, a4] S h Q ↔ WP 301 0 60 [a0, vI x, a2, a3, a4] (vI x :: S) h Q := wp_iload rfl rfl
theorem s301_60 : WP 301 0 60 L (vI y :: vL x :: S) h Q ↔ WP 301 0 61 L (vL (zlshl x y) :: S) h Q := wp_pl rfl rfl rfl
theorem s301_61 : WP 301 0 61 L (vL y :: vL x :: S) h Q ↔ WP 301 0 62 L (vL (zland x y) :: S) h Q := wp_pl rfl rfl rfl
theorem s301_62 : WP 301 0 62 [a0, a1, a2, a3, a4] (vL x :: S) h Q ↔ WP 301 0 63 [a0, a1, a2, vL x, vJ] S h Q := wp_lstore rfl rfl rfl
theorem s301_63 : WP 301 0 63 [a0, a1, a2, vL x, vJ] S h Q ↔ WP 301 0 64 [a0, a1, a2, vL x, vJ] (vL x :: S) h Q := wp_lload rfl rfl rfl
theorem s301_64 : WP 301 0 64 L S h Q ↔ WP 301 0 65 L (vL 0 :: S) h Q := wp_pl rfl rfl rfl
theorem s301_65 : WP 301 0 65 L (vL y :: vL x :: S) h Q ↔ WP 301 0 66 L (vI (zlc x y) :: S) h Q := wp_pl rfl rfl rfl
theorem s301_66 : WP 301 0 66 L (vI x :: S) h Q ↔ zif (x = 0) (WP 301 0 79 L S h Q) (WP 301 0 69 L S h Q) := wp_bE zc_eq rfl rfl rfl
theorem s301_69 : WP 301 0 69 [a0, a1, vI x, a3, a4] S h Q ↔ WP 301 0 70 [a0, a1, vI x, a3, a4] (vI x :: S) h Q := wp_iload rfl rfl
theorem s301_70 : WP 301 0 70 L S h Q ↔ WP 301 0 72 L (vI 64 :: S) h Q := wp_pl rfl rfl rfl
theorem s301_72 : WP 301 0 72 L (vI y :: vI x :: S) h Q ↔ WP 301 0 73 L (vI (wr (x * y)) :: S) h Q := wp_pl rfl rfl rfl
theorem s301_73 : WP 301 0 73 [a0, a1, a2, vL x, vJ] S h Q ↔ WP 301 0 74 [a0, a1, a2, vL x, vJ] (vL x :: S) h Q := wp_lload rfl rfl rfl
theorem s301_74 : WP 301 0 74 L (vL x0 :: S) h Q ↔ (zw S ≤ 8 ∧ WP 382 0 0 [vL x0, vJ, vJ] [] h (zret 301 0 74 77 L S Q)) := wp_S rfl rfl (zcan_of rfl rfl) rfl rfl rfl
theorem s301_77 : WP 301 0 77 L (vI y :: vI x :: S) h Q ↔ WP 301 0 78 L (vI (wr (x + y)) :: S) h Q := wp_pl rfl rfl rfl
theorem s301_78 : WP 301 0 78 L [vI x] h Q ↔ Q (.inl (some (vI x))) h := wp_iret0 rfl rfl
theorem s301_79 : WP 301 0 79 [a0, a1, vI x, a3, a4] S h Q ↔ WP 301 0 82 [a0, a1, vI (wr (x + 1)), a3, a4] S h Q := wp_iinc rfl rfl rfl
theorem s301_82 : WP 301 0 82 [a0, a1, vI x, a3, a4] S h Q ↔ WP 301 0 83 [a0, a1, vI x, a3, a4] (vI x :: S) h Q := wp_iload rfl rfl
theorem s301_83 : WP 301 0 83 [vA r, a1, a2, a3, a4] S h Q ↔ WP 301 0 84 [vA r, a1, a2, a3, a4] (vA r :: S) h Q := wp_aload rfl rfl
theorem s301_84 : WP 301 0 84 L (vA (some a) :: S) h Q ↔ (zhas 93 (hk h a) = true ∧ WP 301 0 87 L (hm h a 93 :: S) h Q) := wp_if rfl rfl rfl
theorem s301_87 : WP 301 0 87 L (vI y :: vI x :: S) h Q ↔ zif (x = y) (WP 301 0 90 L S h Q) (WP 301 0 92 L S h Q) := wp_bN zc_eq rfl rfl rfl
theorem s301_90 : WP 301 0 90 L S h Q ↔ WP 301 0 91 L (vI (-1) :: S) h Q := wp_pl rfl rfl rfl
theorem s301_91 : WP 301 0 91 L [vI x] h Q ↔ Q (.inl (some (vI x))) h := wp_iret0 rfl rfl
theorem s301_92 : WP 301 0 92 [vA r, a1, a2, a3, a4] S h Q ↔ WP 301 0 93 [vA r, a1, a2, a3, a4] (vA r :: S) h Q := wp_aload rfl rfl
theorem s301_93 : WP 301 0 93 L (vA (some a) :: S) h Q ↔ (zhas 92 (hk h a) = true ∧ WP 301 0 96 L (hm h a 92 :: S) h Q) := wp_if rfl rfl rfl
theorem s301_96 : WP 301 0 96 [a0, a1, vI x, a3, a4] S h Q ↔ WP 301 0 97 [a0, a1, vI x, a3, a4] (vI x :: S) h Q := wp_iload rfl rfl
theorem s301_97 : WP 301 0 97 L (vI x :: vA (some a) :: S) h Q ↔ (((hk h a).1 = 4 ∧ 0 ≤ x ∧ x < ((hk h a).2 : Int)) ∧ WP 301 0 98 L (hm h a x.toNat :: S) h Q) := wp_if rfl rfl rfl
theorem s301_98 : WP 301 0 98 [a0, a1, a2, a3, a4] (vL x :: S) h Q ↔ WP 301 0 99 [a0, a1, a2, vL x, vJ] S h Q := wp_lstore rfl rfl rfl
theorem s301_99 : WP 301 0 99 L S h Q ↔ WP 301 0 63 L S h Q := wp_pl rfl rfl rfl
/-! java/util/BitSet.set(I)V -/
theorem s302_0 : WP 302 0 0 [a0, vI x, a2] S h Q ↔ WP 302 0 1 [a0, vI x, a2] (vI x :: S) h Q := wp_iload rfl rfl
theorem s302_1 : WP 302 0 1 L (vI x :: S) h Q ↔ zif (x < 0) (WP 302 0 4 L S h Q) (WP 302 0 31 L S h Q) := wp_bN zc_lt rfl rfl rfl
theorem s302_7 : WP 302 0 7 L (vA r :: S) h Q ↔ WP 302 0 8 L (vA r :: vA r :: S) h Q := wp_pl rfl rfl rfl
theorem s302_7i : WP 302 0 7 L (vI x :: S) h Q ↔ WP 302 0 8 L (vI x :: vI x :: S) h Q := wp_pl rfl rfl rfl
theorem s302_8 : WP 302 0 8 L S h Q ↔ WP 302 0 11 L (vA (some (hn h)) :: S) (hnew h (116, 0) 4 zdf) Q := wp_pl rfl rfl rfl
theorem s302_11 : WP 302 0 11 L (vA r :: S) h Q ↔ WP 302 0 12 L (vA r :: vA r :: S) h Q := wp_pl rfl rfl rfl
theorem s302_11i : WP 302 0 11 L (vI x :: S) h Q ↔ WP 302 0 12 L (vI x :: vI x :: S) h Q := wp_pl rfl rfl rfl
theorem s302_15 : WP 302 0 15 L S h Q ↔ WP 302 0 17 L (vA (some 32) :: S) h Q := wp_pl rfl rfl rfl
theorem s302_20 : WP 302 0 20 [a0, vI x, a2] S h Q ↔ WP 302 0 21 [a0, vI x, a2] (vI x :: S) h Q := wp_iload rfl rfl
theorem s302_30 : WP 302 0 30 L (vA (some a) :: S) h Q ↔ ((((120 ≤ (hk h a).1 ∧ (hk h a).1 ≤ 123) ∨ (hk h a).1 = 109)) ∧ Q (.inr a) h) := wp_athrow (fun _ => rfl) rfl
theorem s302_31 : WP 302 0 31 [a0, vI x, a2] S h Q ↔ WP 302 0 32 [a0, vI x, a2] (vI x :: S) h Q := wp_iload rfl rfl
theorem s302_32 : WP 302 0 32 L (vI x0 :: S) h Q ↔ (zw S ≤ 8 ∧ WP 303 0 0 [vI x0] [] h (zret 302 0 32 35 L S Q)) := wp_S rfl rfl (zcan_of rfl rfl) rfl rfl rfl
theorem s302_35 : WP 302 0 35 [a0, a1, a2] (vI x :: S) h Q ↔ WP 302 0 36 [a0, a1, vI x] S h Q := wp_istore rfl rfl rfl
theorem s302_36 : WP 302 0 36 [vA r, a1, a2] S h Q ↔ WP 302 0 37 [vA r, a1, a2] (vA r :: S) h Q := wp_aload rfl rfl
theorem s302_37 : WP 302 0 37 [a0, a1, vI x] S h Q ↔ WP 302 0 38 [a0, a1, vI x] (vI x :: S) h Q := wp_iload rfl rfl
theorem s302_38 : WP 302 0 38 L (vI x0 :: vA (some a) :: S) h Q ↔ ((hk h a).1 = 115 ∧ (zw S ≤ 8 ∧ WP 296 0 0 [vA (some a), vI x0, vJ] [] h (zret 302 0 38 41 L S Q))) := wp_V1 (c := 115) rfl rfl (fun _ => rfl) rfl rfl (zcan_of rfl rfl) rfl rfl rfl
theorem s302_41 : WP 302 0 41 [vA r, a1, a2] S h Q ↔ WP 302 0 42 [vA r, a1, a2] (vA r :: S) h Q := wp_aload rfl rfl
theorem s302_42 : WP 302 0 42 L (vA (some a) :: S) h Q ↔ (zhas 92 (hk h a) = true ∧ WP 302 0 45 L (hm h a 92 :: S) h Q) := wp_if rfl rfl rfl
theorem s302_45 : WP 302 0 45 [a0, a1, vI x] S h Q ↔ WP 302 0 46 [a0, a1, vI x] (vI x :: S) h Q := wp_iload rfl rfl
theorem s302_46 : WP 302 0 46 L (vI y :: vA r :: S) h Q ↔ WP 302 0 47 L (vI y :: vA r :: vI y :: vA r :: S) h Q := wp_pl rfl rfl rfl
theorem s302_46l : WP 302 0 46 L (vL x :: S) h Q ↔ WP 302 0 47 L (vL x :: vL x :: S) h Q := wp_pl rfl rfl rfl
theorem s302_47 : WP 302 0 47 L (vI x :: vA (some a) :: S) h Q ↔ (((hk h a).1 = 4 ∧ 0 ≤ x ∧ x < ((hk h a).2 : Int)) ∧ WP 302 0 48 L (hm h a x.toNat :: S) h Q) := wp_if rfl rfl rfl
theorem s302_48 : WP 302 0 48 L S h Q ↔ WP 302 0 49 L (vL 1 :: S) h Q := wp_pl rfl rfl rfl
theorem s302_49 : WP 302 0 49 [a0, vI x, a2] S h Q ↔ WP 302 0 50 [a0, vI x, a2] (vI x :: S) h Q := wp_iload rfl rfl
theorem s302_50 : WP 302 0 50 L (vI y :: vL x :: S) h Q ↔ WP 302 0 51 L (vL (zlshl x y) :: S) h Q := wp_pl rfl rfl rfl
theorem s302_51 : WP 302 0 51 L (vL y :: vL x :: S) h Q ↔ WP 302 0 52 L (vL (zlor x y) :: S) h Q := wp_pl rfl rfl rfl
theorem s302_52 : WP 302 0 52 L (vL y :: vI x :: vA (some a) :: S) h Q ↔ (((hk h a).1 = 4 ∧ (0 ≤ x ∧ x < ((hk h a).2 : Int)) ∧ zNC ≤ a) ∧ WP 302 0 53 L S (hput h a x.toNat (vL y)) Q) := wp_if rfl rfl rfl
theorem s302_53 : WP 302 0 53 [vA r, a1, a2] S h Q ↔ WP 302 0 54 [vA r, a1, a2] (vA r :: S) h Q := wp_aload rfl rfl
theorem s302_54 : WP 302 0 54 L (vA (some a) :: S) h Q ↔ ((hk h a).1 = 115 ∧ (zw S ≤ 8 ∧ WP 294 0 0 [vA (some a)] [] h (zret 302 0 54 57 L S Q))) := wp_V1 (c := 115) rfl rfl (fun _ => rfl) rfl rfl (zcan_of rfl rfl) rfl rfl rfl
theorem s302_57 : WP 302 0 57 L [] h Q ↔ Q (.inl none) h := wp_ret rfl
/-! java/util/BitSet.wordIndex(I)I -/
theorem s303_0 : WP 303 0 0 [vI x] S h Q ↔ WP 303 0 1 [vI x] (vI x :: S) h Q := wp_iload rfl rfl
theorem s303_1 : WP 303 0 1 L S h Q ↔ WP 303 0 3 L (vI 6 :: S) h Q := wp_pl rfl rfl rfl
theorem s303_3 : WP 303 0 3 L (vI y :: vI x :: S) h Q ↔ WP 303 0 4 L (vI (zshr x y) :: S) h Q := wp_pl rfl rfl rfl
theorem s303_4 : WP 303 0 4 L [vI x] h Q ↔ Q (.inl (some (vI x))) h := wp_iret0 rfl rfl
/-! java/lang/StringBuilder.append(C)Ljava/lang/StringBuilder; -/
theorem s304_0 : WP 304 0 0 [vA r, a1] S h Q ↔ WP 304 0 1 [vA r, a1] (vA r :: S) h Q := wp_aload rfl rfl
theorem s304_1 : WP 304 0 1 [a0, vI x] S h Q ↔ WP 304 0 2 [a0, vI x] (vI x :: S) h Q := wp_iload rfl rfl
theorem s304_2 : WP 304 0 2 L (vI x0 :: vA (some a) :: S) h Q ↔ ((zNC ≤ a ∧ 100 ≤ (hk h a).1) ∧ zw S ≤ 8 ∧ WP 370 0 0 [vA (some a), vI x0] [] h (zret 304 0 2 5 L S Q)) := wp_I rfl rfl rfl (zcan_of rfl rfl) rfl rfl rfl
theorem s304_5 : WP 304 0 5 L (vA r :: S) h Q ↔ WP 304 0 6 L S h Q := wp_pl rfl rfl rfl
theorem s304_5i : WP 304 0 5 L (vI x :: S) h Q ↔ WP 304 0 6 L S h Q := wp_pl rfl rfl rfl
theorem s304_6 : WP 304 0 6 [vA r, a1] S h Q ↔ WP 304 0 7 [vA r, a1] (vA r :: S) h Q := wp_aload rfl rfl
theorem s304_7 : WP 304 0 7 L [vA r] h Q ↔ Q (.inl (some (vA r))) h := wp_aret rfl
/-! java/lang/StringBuilder.append(I)Ljava/lang/StringBuilder; -/
theorem s305_0 : WP 305 0 0 [vA r, a1] S h Q ↔ WP 305 0 1 [vA r, a1] (vA r :: S) h Q := wp_aload rfl rfl
theorem s305_1 : WP 305 0 1 [a0, vI x] S h Q ↔ WP 305 0 2 [a0, vI x] (vI x :: S) h Q := wp_iload rfl rfl
theorem s305_2 : WP 305 0 2 L (vI x0 :: vA (some a) :: S) h Q ↔ ((zNC ≤ a ∧ 100 ≤ (hk h a).1) ∧ zw S ≤ 8 ∧ WP 371 0 0 [vA (some a), vI x0, vJ, vJ] [] h (zret 305 0 2 5 L S Q)) := wp_I rfl rfl rfl (zcan_of rfl rfl) rfl rfl rfl
theorem s305_5 : WP 305 0 5 L (vA r :: S) h Q ↔ WP 305 0 6 L S h Q := wp_pl rfl rfl rfl
theorem s305_5i : WP 305 0 5 L (vI x :: S) h Q ↔ WP 305 0 6 L S h Q := wp_pl rfl rfl rfl
theorem s305_6 : WP 305 0 6 [vA r, a1] S h Q ↔ WP 305 0 7 [vA r, a1] (vA r :: S) h Q := wp_aload rfl rfl
theorem s305_7 : WP 305 0 7 L [vA r] h Q ↔ Q (.inl (some (vA r))) h := wp_aret rfl
/-! java/lang/StringBuilder.append(Ljava/lang/String;)Ljava/lang/StringBuilder; -/
theorem s306_0 : WP 306 0 0 [vA r, a1] S h Q ↔ WP 306 0 1 [vA r, a1] (vA r :: S) h Q := wp_aload rfl rfl
theorem s306_1 : WP 306 0 1 [a0, vA r] S h Q ↔ WP 306 0 2 [a0, vA r] (vA r :: S) h Q := wp_aload rfl rfl
theorem s306_2 : WP 306 0 2 L (vA r0 :: vA (some a) :: S) h Q ↔ ((zNC ≤ a ∧ 100 ≤ (hk h a).1) ∧ zw S ≤ 8 ∧ WP 372 0 0 [vA (some a), vA r0, vJ] [] h (zret 306 0 2 5 L S Q)) := wp_I rfl rfl rfl (zcan_of rfl rfl) rfl rfl rfl
theorem s306_5 : WP 306 0 5 L (vA r :: S) h Q ↔ WP 306 0 6 L S h Q := wp_pl rfl rfl rfl
theorem s306_5i : WP 306 0 5 L (vI x :: S) h Q ↔ WP 306 0 6 L S h Q := wp_pl rfl rfl rfl
theorem s306_6 : WP 306 0 6 [vA r, a1] S h Q ↔ WP 306 0 7 [vA r, a1] (vA r :: S) h Q := wp_aload rfl rfl
theorem s306_7 : WP 306 0 7 L [vA r] h Q ↔ Q (.inl (some (vA r))) h := wp_aret rfl
/-! java/lang/StringBuilder.<init>()V -/
theorem s307_0 : WP 307 0 0 [vA r] S h Q ↔ WP 307 0 1 [vA r] (vA r :: S) h Q := wp_aload rfl rfl
theorem s307_1 : WP 307 0 1 L S h Q ↔ WP 307 0 3 L (vI 16 :: S) h Q := wp_pl rfl rfl rfl
theorem s307_3 : WP 307 0 3 L (vI x0 :: vA (some a) :: S) h Q ↔ ((zNC ≤ a ∧ 100 ≤ (hk h a).1) ∧ zw S ≤ 8 ∧ WP 375 0 0 [vA (some a), vI x0] [] h (zret 307 0 3 6 L S Q)) := wp_I rfl rfl rfl (zcan_of rfl rfl) rfl rfl rfl
theorem s307_6 : WP 307 0 6 L [] h Q ↔ Q (.inl none) h := wp_ret rfl
/-! java/lang/StringBuilder.length()I -/
theorem s308_0 : WP 308 0 0 [vA r] S h Q ↔ WP 308 0 1 [vA r] (vA r :: S) h Q := wp_aload rfl rfl
theorem s308_1 : WP 308 0 1 L (vA (some a) :: S) h Q ↔ ((zNC ≤ a ∧ 100 ≤ (hk h a).1) ∧ zw S ≤ 8 ∧ WP 377 0 0 [vA (some a)] [] h (zret 308 0 1 4 L S Q)) := wp_I rfl rfl rfl (zcan_of rfl rfl) rfl rfl rfl
theorem s308_4 : WP 308 0 4 L [vI x] h Q ↔ Q (.inl (some (vI x))) h := wp_iret0 rfl rfl
/-! java/lang/StringBuilder.toString()Ljava/lang/String; -/
theorem s309_0 : WP 309 0 0 L S h Q ↔ WP 309 0 3 L (vA (some (hn h)) :: S) (hnew h (117, 0) 4 zdf) Q := wp_pl rfl rfl rfl
theorem s309_3 : WP 309 0 3 L (vA r :: S) h Q ↔ WP 309 0 4 L (vA r :: vA r :: S) h Q := wp_pl rfl rfl rfl
theorem s309_3i : WP 309 0 3 L (vI x :: S) h Q ↔ WP 309 0 4 L (vI x :: vI x :: S) h Q := wp_pl rfl rfl rfl
theorem s309_4 : WP 309 0 4 [vA r] S h Q ↔ WP 309 0 5 [vA r] (vA r :: S) h Q := wp_aload rfl rfl
theorem s309_5 : WP 309 0 5 L (vA r0 :: vA (some a) :: S) h Q ↔ ((zNC ≤ a ∧ 100 ≤ (hk h a).1) ∧ zw S ≤ 8 ∧ WP 318 0 0 [vA (some a), vA r0] [] h (zret 309 0 5 8 L S Q)) := wp_I rfl rfl rfl (zcan_of rfl rfl) rfl rfl rfl
theorem s309_8 : WP 309 0 8 L [vA r] h Q ↔ Q (.inl (some (vA r))) h := wp_aret rfl
/-! java/lang/String.charAt(I)C -/
theorem s310_0 : WP 310 0 0 [vA r, a1] S h Q ↔ WP 310 0 1 [vA r, a1] (vA r :: S) h Q := wp_aload rfl rfl
theorem s310_1 : WP 310 0 1 L (vA (some a) :: S) h Q ↔ ((hk h a).1 = 117 ∧ (zw S ≤ 8 ∧ WP 322 0 0 [vA (some a)] [] h (zret 310 0 1 4 L S Q))) := wp_V1 (c := 117) rfl rfl (fun _ => rfl) rfl rfl (zcan_of rfl rfl) rfl rfl rfl
theorem s310_4 : WP 310 0 4 L (vI x :: S) h Q ↔ zif (x = 0) (WP 310 0 16 L S h Q) (WP 310 0 7 L S h Q) := wp_bE zc_eq rfl rfl rfl
theorem s310_7 : WP 310 0 7 [vA r, a1] S h Q ↔ WP 310 0 8 [vA r, a1] (vA r :: S) h Q := wp_aload rfl rfl
theorem s310_8 : WP 310 0 8 L (vA (some a) :: S) h Q ↔ (zhas 99 (hk h a) = true ∧ WP 310 0 11 L (hm h a 99 :: S) h Q) := wp_if rfl rfl rfl
theorem s310_11 : WP 310 0 11 [a0, vI x] S h Q ↔ WP 310 0 12 [a0, vI x] (vI x :: S) h Q := wp_iload rfl rfl
theorem s310_12 : WP 310 0 12 L (vI x1 :: vA r0 :: S) h Q ↔ (zw S ≤ 8 ∧ WP 389 0 0 [vA r0, vI x1] [] h (zret 310 0 12 15 L S Q)) := wp_S rfl rfl (zcan_of rfl rfl) rfl rfl rfl
theorem s310_15 : WP 310 0 15 L [vI x] h Q ↔ ((0 ≤ x ∧ x ≤ 65535) ∧ Q (.inl (some (vI x))) h) := wp_iret rfl rfl
theorem s310_16 : WP 310 0 16 [vA r, a1] S h Q ↔ WP 310 0 17 [vA r, a1] (vA r :: S) h Q := wp_aload rfl rfl
theorem s310_17 : WP 310 0 17 L (vA (some a) :: S) h Q ↔ (zhas 99 (hk h a) = true ∧ WP 310 0 20 L (hm h a 99 :: S) h Q) := wp_if rfl rfl rfl
theorem s310_20 : WP 310 0 20 [a0, vI x] S h Q ↔ WP 310 0 21 [a0, vI x] (vI x :: S) h Q := wp_iload rfl rfl
theorem s310_24 : WP 310 0 24 L [vI x] h Q ↔ ((0 ≤ x ∧ x ≤ 65535) ∧ Q (.inl (some (vI x))) h) := wp_iret rfl rfl
/-! java/lang/String.checkBoundsBeginEnd(III)V -/
theorem s311_0 : WP 311 0 0 [vI x, a1, a2] S h Q ↔ WP 311 0 1 [vI x, a1, a2] (vI x :: S) h Q := wp_iload rfl rfl
theorem s311_1 : WP 311 0 1 [a0, vI x, a2] S h Q ↔ WP 311 0 2 [a0, vI x, a2] (vI x :: S) h Q := wp_iload rfl rfl
theorem s311_2 : WP 311 0 2 [a0, a1, vI x] S h Q ↔ WP 311 0 3 [a0, a1, vI x] (vI x :: S) h Q := wp_iload rfl rfl
theorem s311_3 : WP 311 0 3 L S h Q ↔ WP 311 0 6 L (vA (some 2) :: S) h Q := wp_pl rfl rfl rfl
theorem s311_6 : WP 311 0 6 L (vA r3 :: vI x2 :: vI x1 :: vI x0 :: S) h Q ↔ (zw S ≤ 8 ∧ WP 421 0 0 [vI x0, vI x1, vI x2, vA r3] [] h (zret 311 0 6 9 L S Q)) := wp_S rfl rfl (zcan_of rfl rfl) rfl rfl rfl
theorem s311_9 : WP 311 0 9 L (vA r :: S) h Q ↔ WP 311 0 10 L S h Q := wp_pl rfl rfl rfl
theorem s311_9i : WP 311 0 9 L (vI x :: S) h Q ↔ WP 311 0 10 L S h Q := wp_pl rfl rfl rfl
theorem s311_10 : WP 311 0 10 L [] h Q ↔ Q (.inl none) h := wp_ret rfl
/-! java/lang/String.checkBoundsOffCount(III)I -/
theorem s312_0 : WP 312 0 0 [vI x, a1, a2] S h Q ↔ WP 312 0 1 [vI x, a1, a2] (vI x :: S) h Q := wp_iload rfl rfl
theorem s312_1 : WP 312 0 1 [a0, vI x, a2] S h Q ↔ WP 312 0 2 [a0, vI x, a2] (vI x :: S) h Q := wp_iload rfl rfl
theorem s312_2 : WP 312 0 2 [a0, a1, vI x] S h Q ↔ WP 312 0 3 [a0, a1, vI x] (vI x :: S) h Q := wp_iload rfl rfl
theorem s312_3 : WP 312 0 3 L S h Q ↔ WP 312 0 6 L (vA (some 2) :: S) h Q := wp_pl rfl rfl rfl
theorem s312_6 : WP 312 0 6 L (vA r3 :: vI x2 :: vI x1 :: vI x0 :: S) h Q ↔ (zw S ≤ 8 ∧ WP 420 0 0 [vI x0, vI x1, vI x2, vA r3] [] h (zret 312 0 6 9 L S Q)) := wp_S rfl rfl (zcan_of rfl rfl) rfl rfl rfl
theorem s312_9 : WP 312 0 9 L [vI x] h Q ↔ Q (.inl (some (vI x))) h := wp_iret0 rfl rfl
/-! java/lang/String.checkIndex(II)V -/
theorem s313_0 : WP 313 0 0 [vI x, a1] S h Q ↔ WP 313 0 1 [vI x, a1] (vI x :: S) h Q := wp_iload rfl rfl
theorem s313_1 : WP 313 0 1 [a0, vI x] S h Q ↔ WP 313 0 2 [a0, vI x] (vI x :: S) h Q := wp_iload rfl rfl
theorem s313_2 : WP 313 0 2 L S h Q ↔ WP 313 0 5 L (vA (some 2) :: S) h Q := wp_pl rfl rfl rfl
theorem s313_5 : WP 313 0 5 L (vA r2 :: vI x1 :: vI x0 :: S) h Q ↔ (zw S ≤ 8 ∧ WP 422 0 0 [vI x0, vI x1, vA r2] [] h (zret 313 0 5 8 L S Q)) := wp_S rfl rfl (zcan_of rfl rfl) rfl rfl rfl
theorem s313_8 : WP 313 0 8 L (vA r :: S) h Q ↔ WP 313 0 9 L S h Q := wp_pl rfl rfl rfl
theorem s313_8i : WP 313 0 8 L (vI x :: S) h Q ↔ WP 313 0 9 L S h Q := wp_pl rfl rfl rfl
theorem s313_9 : WP 313 0 9 L [] h Q ↔ Q (.inl none) h := wp_ret rfl
/-! java/lang/String.coder()B -/
theorem s314_0 : WP 314 0 0 L S h Q ↔ WP 314 0 3 L (vI 1 :: S) h Q := wp_pl rfl rfl rfl
theorem s314_3 : WP 314 0 3 L (vI x :: S) h Q ↔ zif (x = 0) (WP 314 0 13 L S h Q) (WP 314 0 6 L S h Q) := wp_bE zc_eq rfl rfl rfl
theorem s314_6 : WP 314 0 6 [vA r] S h Q ↔ WP 314 0 7 [vA r] (vA r :: S) h Q := wp_aload rfl rfl
theorem s314_7 : WP 314 0 7 L (vA (some a) :: S) h Q ↔ (zhas 100 (hk h a) = true ∧ WP 314 0 10 L (hm h a 100 :: S) h Q) := wp_if rfl rfl rfl
theorem s314_10 : WP 314 0 10 L S h Q ↔ WP 314 0 14 L S h Q := wp_pl rfl rfl rfl
theorem s314_13 : WP 314 0 13 L S h Q ↔ WP 314 0 14 L (vI 1 :: S) h Q := wp_pl rfl rfl rfl
theorem s314_14 : WP 314 0 14 L [vI x] h Q ↔ ((-128 ≤ x ∧ x ≤ 127) ∧ Q (.inl (some (vI x))) h) := wp_iret rfl rfl
/-! java/lang/String.equals(Ljava/lang/Object;)Z -/
theorem s315_0 : WP 315 0 0 [vA r, a1, a2] S h Q ↔ WP 315 0 1 [vA r, a1, a2] (vA r :: S) h Q := wp_aload rfl rfl
theorem s315_1 : WP 315 0 1 [a0, vA r, a2] S h Q ↔ WP 315 0 2 [a0, vA r, a2] (vA r :: S) h Q := wp_aload rfl rfl
theorem s315_2 : WP 315 0 2 L (vA q :: vA r :: S) h Q ↔ (zac r q = true ∧ zif (zaq .ne r q = true) (WP 315 0 7 L S h Q) (WP 315 0 5 L S h Q)) := wp_acmp (t := 7) rfl
theorem s315_5 : WP 315 0 5 L S h Q ↔ WP 315 0 6 L (vI 1 :: S) h Q := wp_pl rfl rfl rfl
theorem s315_6 : WP 315 0 6 L [vI x] h Q ↔ ((x = 0 ∨ x = 1) ∧ Q (.inl (some (vI x))) h) := wp_iret rfl rfl
theorem s315_7 : WP 315 0 7 [a0, vA r, a2] S h Q ↔ WP 315 0 8 [a0, vA r, a2] (vA r :: S) h Q := wp_aload rfl rfl
theorem s315_8 : WP 315 0 8 L (vA (some a) :: S) h Q ↔ (zCX 2 (hk h a).1 a = true ∧ WP 315 0 11 L (vI 1 :: S) h Q) := wp_if rfl rfl rfl
theorem s315_11 : WP 315 0 11 L (vI x :: S) h Q ↔ zif (x = 0) (WP 315 0 54 L S h Q) (WP 315 0 14 L S h Q) := wp_bE zc_eq rfl rfl rfl
theorem s315_14 : WP 315 0 14 [a0, vA r, a2] S h Q ↔ WP 315 0 15 [a0, vA r, a2] (vA r :: S) h Q := wp_aload rfl rfl
theorem s315_15n : WP 315 0 15 L (vA none :: S) h Q ↔ WP 315 0 18 L (vA none :: S) h Q := wp_pl rfl rfl rfl
theorem s315_15 : WP 315 0 15 L (vA (some a) :: S) h Q ↔ (zCX 2 (hk h a).1 a = true ∧ WP 315 0 18 L (vA (some a) :: S) h Q) := wp_if rfl rfl rfl
theorem s315_18 : WP 315 0 18 [a0, a1, a2] (vA r :: S) h Q ↔ WP 315 0 19 [a0, a1, vA r] S h Q := wp_astore rfl rfl rfl
theorem s315_19 : WP 315 0 19 L S h Q ↔ WP 315 0 22 L (vI 1 :: S) h Q := wp_pl rfl rfl rfl
theorem s315_22 : WP 315 0 22 L (vI x :: S) h Q ↔ zif (x = 0) (WP 315 0 36 L S h Q) (WP 315 0 25 L S h Q) := wp_bE zc_eq rfl rfl rfl
theorem s315_25 : WP 315 0 25 [vA r, a1, a2] S h Q ↔ WP 315 0 26 [vA r, a1, a2] (vA r :: S) h Q := wp_aload rfl rfl
theorem s315_26 : WP 315 0 26 L (vA (some a) :: S) h Q ↔ (zhas 100 (hk h a) = true ∧ WP 315 0 29 L (hm h a 100 :: S) h Q) := wp_if rfl rfl rfl
theorem s315_29 : WP 315 0 29 [a0, a1, vA r] S h Q ↔ WP 315 0 30 [a0, a1, vA r] (vA r :: S) h Q := wp_aload rfl rfl
theorem s315_30 : WP 315 0 30 L (vA (some a) :: S) h Q ↔ (zhas 100 (hk h a) = true ∧ WP 315 0 33 L (hm h a 100 :: S) h Q) := wp_if rfl rfl rfl
theorem s315_33 : WP 315 0 33 L (vI y :: vI x :: S) h Q ↔ zif (x = y) (WP 315 0 36 L S h Q) (WP 315 0 54 L S h Q) := wp_bN zc_eq rfl rfl rfl
theorem s315_36 : WP 315 0 36 [vA r, a1, a2] S h Q ↔ WP 315 0 37 [vA r, a1, a2] (vA r :: S) h Q := wp_aload rfl rfl
theorem s315_37 : WP 315 0 37 L (vA (some a) :: S) h Q ↔ (zhas 99 (hk h a) = true ∧ WP 315 0 40 L (hm h a 99 :: S) h Q) := wp_if rfl rfl rfl
theorem s315_40 : WP 315 0 40 [a0, a1, vA r] S h Q ↔ WP 315 0 41 [a0, a1, vA r] (vA r :: S) h Q := wp_aload rfl rfl
theorem s315_41 : WP 315 0 41 L (vA (some a) :: S) h Q ↔ (zhas 99 (hk h a) = true ∧ WP 315 0 44 L (hm h a 99 :: S) h Q) := wp_if rfl rfl rfl
theorem s315_44 : WP 315 0 44 L (vA r1 :: vA r0 :: S) h Q ↔ (zw S ≤ 8 ∧ WP 390 0 0 [vA r0, vA r1, vJ] [] h (zret 315 0 44 47 L S Q)) := wp_S rfl rfl (zcan_of rfl rfl) rfl rfl rfl
theorem s315_47 : WP 315 0 47 L (vI x :: S) h Q ↔ zif (x = 0) (WP 315 0 54 L S h Q) (WP 315 0 50 L S h Q) := wp_bE zc_eq rfl rfl rfl
theorem s315_50 : WP 315 0 50 L S h Q ↔ WP 315 0 51 L (vI 1 :: S) h Q := wp_pl rfl rfl rfl
theorem s315_51 : WP 315 0 51 L S h Q ↔ WP 315 0 55 L S h Q := wp_pl rfl rfl rfl
theorem s315_54 : WP 315 0 54 L S h Q ↔ WP 315 0 55 L (vI 0 :: S) h Q := wp_pl rfl rfl rfl
theorem s315_55 : WP 315 0 55 L [vI x] h Q ↔ ((x = 0 ∨ x = 1) ∧ Q (.inl (some (vI x))) h) := wp_iret rfl rfl
/-! java/lang/String.getBytes([BIB)V -/
theorem s316_0 : WP 316 0 0 [vA r, a1, a2, a3] S h Q ↔ WP 316 0 1 [vA r, a1, a2, a3] (vA r :: S) h Q := wp_aload rfl rfl
theorem s316_1 : WP 316 0 1 L (vA (some a) :: S) h Q ↔ ((hk h a).1 = 117 ∧ (zw S ≤ 8 ∧ WP 314 0 0 [vA (some a)] [] h (zret 316 0 1 4 L S Q))) := wp_V1 (c := 117) rfl rfl (fun _ => rfl) rfl rfl (zcan_of rfl rfl) rfl rfl rfl
theorem s316_4 : WP 316 0 4 [a0, a1, a2, vI x] S h Q ↔ WP 316 0 5 [a0, a1, a2, vI x] (vI x :: S) h Q := wp_iload rfl rfl
theorem s316_5 : WP 316 0 5 L (vI y :: vI x :: S) h Q ↔ zif (x = y) (WP 316 0 8 L S h Q) (WP 316 0 28 L S h Q) := wp_bN zc_eq rfl rfl rfl
theorem s316_8 : WP 316 0 8 [vA r, a1, a2, a3] S h Q ↔ WP 316 0 9 [vA r, a1, a2, a3] (vA r :: S) h Q := wp_aload rfl rfl
theorem s316_9 : WP 316 0 9 L (vA (some a) :: S) h Q ↔ (zhas 99 (hk h a) = true ∧ WP 316 0 12 L (hm h a 99 :: S) h Q) := wp_if rfl rfl rfl
theorem s316_12 : WP 316 0 12 L S h Q ↔ WP 316 0 13 L (vI 0 :: S) h Q := wp_pl rfl rfl rfl
theorem s316_13 : WP 316 0 13 [a0, vA r, a2, a3] S h Q ↔ WP 316 0 14 [a0, vA r, a2, a3] (vA r :: S) h Q := wp_aload rfl rfl
theorem s316_14 : WP 316 0 14 [a0, a1, vI x, a3] S h Q ↔ WP 316 0 15 [a0, a1, vI x, a3] (vI x :: S) h Q := wp_iload rfl rfl
theorem s316_15 : WP 316 0 15 [a0, a1, a2, vI x] S h Q ↔ WP 316 0 16 [a0, a1, a2, vI x] (vI x :: S) h Q := wp_iload rfl rfl
theorem s316_16 : WP 316 0 16 L (vI y :: vI x :: S) h Q ↔ WP 316 0 17 L (vI (zshl x y) :: S) h Q := wp_pl rfl rfl rfl
theorem s316_17 : WP 316 0 17 [vA r, a1, a2, a3] S h Q ↔ WP 316 0 18 [vA r, a1, a2, a3] (vA r :: S) h Q := wp_aload rfl rfl
theorem s316_18 : WP 316 0 18 L (vA (some a) :: S) h Q ↔ (zhas 99 (hk h a) = true ∧ WP 316 0 21 L (hm h a 99 :: S) h Q) := wp_if rfl rfl rfl
theorem s316_21 : WP 316 0 21 L (vA (some a) :: S) h Q ↔ ((1 ≤ (hk h a).1 ∧ (hk h a).1 ≤ 7) ∧ WP 316 0 22 L (vI ((hk h a).2 : Int) :: S) h Q) := wp_if rfl rfl rfl
theorem s316_22 : WP 316 0 22 L (vI z :: vI y :: vA (some b) :: vI x :: vA (some a) :: S) h Q ↔ ((((hk h a).1 = (hk h b).1 ∧ ((hk h a).1 = 2 ∨ (hk h a).1 = 4)) ∧ (0 ≤ x ∧ 0 ≤ y ∧ 0 ≤ z ∧ x + z ≤ ((hk h a).2 : Int) ∧ y + z ≤ ((hk h b).2 : Int)) ∧ a ≠ b ∧ zNC ≤ b ∧ zw S ≤ 8) ∧ WP 316 0 25 L S (zcpy h a x.toNat b y.toNat z.toNat) Q) := wp_if rfl rfl rfl
theorem s316_25 : WP 316 0 25 L S h Q ↔ WP 316 0 43 L S h Q := wp_pl rfl rfl rfl
theorem s316_28 : WP 316 0 28 [vA r, a1, a2, a3] S h Q ↔ WP 316 0 29 [vA r, a1, a2, a3] (vA r :: S) h Q := wp_aload rfl rfl
theorem s316_29 : WP 316 0 29 L (vA (some a) :: S) h Q ↔ (zhas 99 (hk h a) = true ∧ WP 316 0 32 L (hm h a 99 :: S) h Q) := wp_if rfl rfl rfl
theorem s316_32 : WP 316 0 32 L S h Q ↔ WP 316 0 33 L (vI 0 :: S) h Q := wp_pl rfl rfl rfl
theorem s316_33 : WP 316 0 33 [a0, vA r, a2, a3] S h Q ↔ WP 316 0 34 [a0, vA r, a2, a3] (vA r :: S) h Q := wp_aload rfl rfl
theorem s316_34 : WP 316 0 34 [a0, a1, vI x, a3] S h Q ↔ WP 316 0 35 [a0, a1, vI x, a3] (vI x :: S) h Q := wp_iload rfl rfl
theorem s316_35 : WP 316 0 35 [vA r, a1, a2, a3] S h Q ↔ WP 316 0 36 [vA r, a1, a2, a3] (vA r :: S) h Q := wp_aload rfl rfl
theorem s316_36 : WP 316 0 36 L (vA (some a) :: S) h Q ↔ (zhas 99 (hk h a) = true ∧ WP 316 0 39 L (hm h a 99 :: S) h Q) := wp_if rfl rfl rfl
theorem s316_39 : WP 316 0 39 L (vA (some a) :: S) h Q ↔ ((1 ≤ (hk h a).1 ∧ (hk h a).1 ≤ 7) ∧ WP 316 0 40 L (vI ((hk h a).2 : Int) :: S) h Q) := wp_if rfl rfl rfl
theorem s316_43 : WP 316 0 43 L [] h Q ↔ Q (.inl none) h := wp_ret rfl
/-! java/lang/String.hashCode()I -/
theorem s317_0 : WP 317 0 0 [vA r, a1] S h Q ↔ WP 317 0 1 [vA r, a1] (vA r :: S) h Q := wp_aload rfl rfl
theorem s317_4 : WP 317 0 4 [a0, a1] (vI x :: S) h Q ↔ WP 317 0 5 [a0, vI x] S h Q := wp_istore rfl rfl rfl
theorem s317_5 : WP 317 0 5 [a0, vI x] S h Q ↔ WP 317 0 6 [a0, vI x] (vI x :: S) h Q := wp_iload rfl rfl
theorem s317_6 : WP 317 0 6 L (vI x :: S) h Q ↔ zif (x = 0) (WP 317 0 9 L S h Q) (WP 317 0 58 L S h Q) := wp_bN zc_eq rfl rfl rfl
theorem s317_9 : WP 317 0 9 [vA r, a1] S h Q ↔ WP 317 0 10 [vA r, a1] (vA r :: S) h Q := wp_aload rfl rfl
theorem s317_13 : WP 317 0 13 L (vI x :: S) h Q ↔ zif (x = 0) (WP 317 0 16 L S h Q) (WP 317 0 58 L S h Q) := wp_bN zc_eq rfl rfl rfl
theorem s317_16 : WP 317 0 16 [vA r, a1] S h Q ↔ WP 317 0 17 [vA r, a1] (vA r :: S) h Q := wp_aload rfl rfl
theorem s317_17 : WP 317 0 17 L (vA (some a) :: S) h Q ↔ ((hk h a).1 = 117 ∧ (zw S ≤ 8 ∧ WP 322 0 0 [vA (some a)] [] h (zret 317 0 17 20 L S Q))) := wp_V1 (c := 117) rfl rfl (fun _ => rfl) rfl rfl (zcan_of rfl rfl) rfl rfl rfl
theorem s317_20 : WP 317 0 20 L (vI x :: S) h Q ↔ zif (x = 0) (WP 317 0 33 L S h Q) (WP 317 0 23 L S h Q) := wp_bE zc_eq rfl rfl rfl
theorem s317_23 : WP 317 0 23 [vA r, a1] S h Q ↔ WP 317 0 24 [vA r, a1] (vA r :: S) h Q := wp_aload rfl rfl
theorem s317_24 : WP 317 0 24 L (vA (some a) :: S) h Q ↔ (zhas 99 (hk h a) = true ∧ WP 317 0 27 L (hm h a 99 :: S) h Q) := wp_if rfl rfl rfl
theorem s317_27 : WP 317 0 27 L (vA r0 :: S) h Q ↔ (zw S ≤ 8 ∧ WP 391 0 0 [vA r0] [] h (zret 317 0 27 30 L S Q)) := wp_S rfl rfl (zcan_of rfl rfl) rfl rfl rfl
theorem s317_30 : WP 317 0 30 L S h Q ↔ WP 317 0 40 L S h Q := wp_pl rfl rfl rfl
theorem s317_33 : WP 317 0 33 [vA r, a1] S h Q ↔ WP 317 0 34 [vA r, a1] (vA r :: S) h Q := wp_aload rfl rfl
theorem s317_34 : WP 317 0 34 L (vA (some a) :: S) h Q ↔ (zhas 99 (hk h a) = true ∧ WP 317 0 37 L (hm h a 99 :: S) h Q) := wp_if rfl rfl rfl
theorem s317_40 : WP 317 0 40 [a0, a1] (vI x :: S) h Q ↔ WP 317 0 41 [a0, vI x] S h Q := wp_istore rfl rfl rfl
theorem s317_41 : WP 317 0 41 [a0, vI x] S h Q ↔ WP 317 0 42 [a0, vI x] (vI x :: S) h Q := wp_iload rfl rfl
theorem s317_42 : WP 317 0 42 L (vI x :: S) h Q ↔ zif (x = 0) (WP 317 0 45 L S h Q) (WP 317 0 53 L S h Q) := wp_bN zc_eq rfl rfl rfl
theorem s317_45 : WP 317 0 45 [vA r, a1] S h Q ↔ WP 317 0 46 [vA r, a1] (vA r :: S) h Q := wp_aload rfl rfl
theorem s317_46 : WP 317 0 46 L S h Q ↔ WP 317 0 47 L (vI 1 :: S) h Q := wp_pl rfl rfl rfl
theorem s317_47 : WP 317 0 47 L (vI x :: vA (some a) :: S) h Q ↔ ((zNC ≤ a ∧ zhas 102 (hk h a) = true ∧ (x = 0 ∨ x = 1)) ∧ WP 317 0 50 L S (hput h a 102 (vI x)) Q) := wp_put1 rfl rfl
theorem s317_50 : WP 317 0 50 L S h Q ↔ WP 317 0 58 L S h Q := wp_pl rfl rfl rfl
theorem s317_53 : WP 317 0 53 [vA r, a1] S h Q ↔ WP 317 0 54 [vA r, a1] (vA r :: S) h Q := wp_aload rfl rfl
theorem s317_54 : WP 317 0 54 [a0, vI x] S h Q ↔ WP 317 0 55 [a0, vI x] (vI x :: S) h Q := wp_iload rfl rfl
theorem s317_55 : WP 317 0 55 L (vI x :: vA (some a) :: S) h Q ↔ ((zNC ≤ a ∧ zhas 101 (hk h a) = true) ∧ WP 317 0 58 L S (hput h a 101 (vI x)) Q) := wp_put0 rfl rfl
theorem s317_58 : WP 317 0 58 [a0, vI x] S h Q ↔ WP 317 0 59 [a0, vI x] (vI x :: S) h Q := wp_iload rfl rfl
theorem s317_59 : WP 317 0 59 L [vI x] h Q ↔ Q (.inl (some (vI x))) h := wp_iret0 rfl rfl
/-! java/lang/String.<init>(Ljava/lang/StringBuilder;)V -/
theorem s318_0 : WP 318 0 0 [vA r, a1] S h Q ↔ WP 318 0 1 [vA r, a1] (vA r :: S) h Q := wp_aload rfl rfl
theorem s318_1 : WP 318 0 1 [a0, vA r] S h Q ↔ WP 318 0 2 [a0, vA r] (vA r :: S) h Q := wp_aload rfl rfl
theorem s318_2 : WP 318 0 2 L S h Q ↔ WP 318 0 3 L (vA none :: S) h Q := wp_pl rfl rfl rfl
theorem s318_3 : WP 318 0 3 L (vA r1 :: vA r0 :: vA (some a) :: S) h Q ↔ ((zNC ≤ a ∧ 100 ≤ (hk h a).1) ∧ zw S ≤ 8 ∧ WP 319 0 0 [vA (some a), vA r0, vA r1, vJ, vJ] [] h (zret 318 0 3 6 L S Q)) := wp_I rfl rfl rfl (zcan_of rfl rfl) rfl rfl rfl
theorem s318_6 : WP 318 0 6 L [] h Q ↔ Q (.inl none) h := wp_ret rfl
/-! java/lang/String.<init>(Ljava/lang/AbstractStringBuilder;Ljava/lang/Void;)V -/
theorem s319_0 : WP 319 0 0 [vA r, a1, a2, a3, a4] S h Q ↔ WP 319 0 1 [vA r, a1, a2, a3, a4] (vA r :: S) h Q := wp_aload rfl rfl
theorem s319_1 : WP 319 0 1 L (vA (some a) :: S) h Q ↔ ((zw S ≤ 8 ∧ zNC ≤ a) ∧ WP 319 0 4 L S h Q) := wp_if rfl rfl rfl
theorem s319_4 : WP 319 0 4 [a0, vA r, a2, a3, a4] S h Q ↔ WP 319 0 5 [a0, vA r, a2, a3, a4] (vA r :: S) h Q := wp_aload rfl rfl
theorem s319_5 : WP 319 0 5 L (vA (some a) :: S) h Q ↔ ((hk h a).1 = 116 ∧ (zw S ≤ 8 ∧ WP 374 0 0 [vA (some a)] [] h (zret 319 0 5 8 L S Q))) := wp_V1 (c := 116) rfl rfl (fun _ => rfl) rfl rfl (zcan_of rfl rfl) rfl rfl rfl
theorem s319_8 : WP 319 0 8 [a0, a1, a2, a3, a4] (vA r :: S) h Q ↔ WP 319 0 9 [a0, a1, a2, vA r, a4] S h Q := wp_astore rfl rfl rfl
theorem s319_9 : WP 319 0 9 [a0, vA r, a2, a3, a4] S h Q ↔ WP 319 0 10 [a0, vA r, a2, a3, a4] (vA r :: S) h Q := wp_aload rfl rfl
theorem s319_10 : WP 319 0 10 L (vA (some a) :: S) h Q ↔ ((hk h a).1 = 116 ∧ (zw S ≤ 8 ∧ WP 308 0 0 [vA (some a)] [] h (zret 319 0 10 13 L S Q))) := wp_V1 (c := 116) rfl rfl (fun _ => rfl) rfl rfl (zcan_of rfl rfl) rfl rfl rfl
theorem s319_13 : WP 319 0 13 [a0, a1, a2, a3, a4] (vI x :: S) h Q ↔ WP 319 0 15 [a0, a1, a2, a3, vI x] S h Q := wp_istore rfl rfl rfl
theorem s319_15 : WP 319 0 15 [a0, vA r, a2, a3, a4] S h Q ↔ WP 319 0 16 [a0, vA r, a2, a3, a4] (vA r :: S) h Q := wp_aload rfl rfl
theorem s319_16 : WP 319 0 16 L (vA (some a) :: S) h Q ↔ ((hk h a).1 = 116 ∧ (zw S ≤ 8 ∧ WP 376 0 0 [vA (some a)] [] h (zret 319 0 16 19 L S Q))) := wp_V1 (c := 116) rfl rfl (fun _ => rfl) rfl rfl (zcan_of rfl rfl) rfl rfl rfl
theorem s319_19 : WP 319 0 19 L (vI x :: S) h Q ↔ zif (x = 0) (WP 319 0 41 L S h Q) (WP 319 0 22 L S h Q) := wp_bE zc_eq rfl rfl rfl
theorem s319_22 : WP 319 0 22 [vA r, a1, a2, a3, a4] S h Q ↔ WP 319 0 23 [vA r, a1, a2, a3, a4] (vA r :: S) h Q := wp_aload rfl rfl
theorem s319_23 : WP 319 0 23 L S h Q ↔ WP 319 0 24 L (vI 0 :: S) h Q := wp_pl rfl rfl rfl
theorem s319_24 : WP 319 0 24 L (vI x :: vA (some a) :: S) h Q ↔ ((zNC ≤ a ∧ zhas 100 (hk h a) = true ∧ (-128 ≤ x ∧ x ≤ 127)) ∧ WP 319 0 27 L S (hput h a 100 (vI x)) Q) := wp_put4 rfl rfl
theorem s319_27 : WP 319 0 27 [vA r, a1, a2, a3, a4] S h Q ↔ WP 319 0 28 [vA r, a1, a2, a3, a4] (vA r :: S) h Q := wp_aload rfl rfl
theorem s319_28 : WP 319 0 28 [a0, a1, a2, vA r, a4] S h Q ↔ WP 319 0 29 [a0, a1, a2, vA r, a4] (vA r :: S) h Q := wp_aload rfl rfl
theorem s319_29 : WP 319 0 29 L S h Q ↔ WP 319 0 30 L (vI 0 :: S) h Q := wp_pl rfl rfl rfl
theorem s319_30 : WP 319 0 30 [a0, a1, a2, a3, vI x] S h Q ↔ WP 319 0 32 [a0, a1, a2, a3, vI x] (vI x :: S) h Q := wp_iload rfl rfl
theorem s319_32 : WP 319 0 32 L (vI x2 :: vI x1 :: vA r0 :: S) h Q ↔ (zw S ≤ 8 ∧ WP 401 0 0 [vA r0, vI x1, vI x2] [] h (zret 319 0 32 35 L S Q)) := wp_S rfl rfl (zcan_of rfl rfl) rfl rfl rfl
theorem s319_35 : WP 319 0 35 L (vA r :: vA (some a) :: S) h Q ↔ ((zNC ≤ a ∧ zhas 99 (hk h a) = true) ∧ WP 319 0 38 L S (hput h a 99 (vA r)) Q) := wp_put3 rfl rfl
theorem s319_38 : WP 319 0 38 L S h Q ↔ WP 319 0 97 L S h Q := wp_pl rfl rfl rfl
theorem s319_41 : WP 319 0 41 L S h Q ↔ WP 319 0 44 L (vI 1 :: S) h Q := wp_pl rfl rfl rfl
theorem s319_44 : WP 319 0 44 L (vI x :: S) h Q ↔ zif (x = 0) (WP 319 0 79 L S h Q) (WP 319 0 47 L S h Q) := wp_bE zc_eq rfl rfl rfl
theorem s319_47 : WP 319 0 47 [a0, vA r, a2, a3, a4] S h Q ↔ WP 319 0 48 [a0, vA r, a2, a3, a4] (vA r :: S) h Q := wp_aload rfl rfl
theorem s319_48 : WP 319 0 48 L (vA (some a) :: S) h Q ↔ (zhas 97 (hk h a) = true ∧ WP 319 0 51 L (hm h a 97 :: S) h Q) := wp_if rfl rfl rfl
theorem s319_51 : WP 319 0 51 L (vI x :: S) h Q ↔ zif (x = 0) (WP 319 0 79 L S h Q) (WP 319 0 54 L S h Q) := wp_bE zc_eq rfl rfl rfl
theorem s319_54 : WP 319 0 54 [vA r, a1, a2, a3, a4] S h Q ↔ WP 319 0 55 [vA r, a1, a2, a3, a4] (vA r :: S) h Q := wp_aload rfl rfl
theorem s319_55 : WP 319 0 55 [a0, a1, a2, vA r, a4] S h Q ↔ WP 319 0 56 [a0, a1, a2, vA r, a4] (vA r :: S) h Q := wp_aload rfl rfl
theorem s319_56 : WP 319 0 56 L S h Q ↔ WP 319 0 57 L (vI 0 :: S) h Q := wp_pl rfl rfl rfl
theorem s319_57 : WP 319 0 57 [a0, a1, a2, a3, vI x] S h Q ↔ WP 319 0 59 [a0, a1, a2, a3, vI x] (vI x :: S) h Q := wp_iload rfl rfl
theorem s319_62 : WP 319 0 62 L (vA r :: vA (some a) :: S) h Q ↔ ((zNC ≤ a ∧ zhas 99 (hk h a) = true) ∧ WP 319 0 65 L S (hput h a 99 (vA r)) Q) := wp_put3 rfl rfl
theorem s319_65 : WP 319 0 65 [vA r, a1, a2, a3, a4] S h Q ↔ WP 319 0 66 [vA r, a1, a2, a3, a4] (vA r :: S) h Q := wp_aload rfl rfl
theorem s319_66 : WP 319 0 66 [vA r, a1, a2, a3, a4] S h Q ↔ WP 319 0 67 [vA r, a1, a2, a3, a4] (vA r :: S) h Q := wp_aload rfl rfl
theorem s319_67 : WP 319 0 67 L (vA (some a) :: S) h Q ↔ (zhas 99 (hk h a) = true ∧ WP 319 0 70 L (hm h a 99 :: S) h Q) := wp_if rfl rfl rfl
theorem s319_70 : WP 319 0 70 [a0, a1, a2, a3, vI x] S h Q ↔ WP 319 0 72 [a0, a1, a2, a3, vI x] (vI x :: S) h Q := wp_iload rfl rfl
theorem s319_75 : WP 319 0 75 L (vI x :: vA (some a) :: S) h Q ↔ ((zNC ≤ a ∧ zhas 100 (hk h a) = true ∧ (-128 ≤ x ∧ x ≤ 127)) ∧ WP 319 0 78 L S (hput h a 100 (vI x)) Q) := wp_put4 rfl rfl
theorem s319_78 : WP 319 0 78 L [] h Q ↔ Q (.inl none) h := wp_ret rfl
theorem s319_79 : WP 319 0 79 [vA r, a1, a2, a3, a4] S h Q ↔ WP 319 0 80 [vA r, a1, a2, a3, a4] (vA r :: S) h Q := wp_aload rfl rfl
theorem s319_80 : WP 319 0 80 L S h Q ↔ WP 319 0 81 L (vI 1 :: S) h Q := wp_pl rfl rfl rfl
theorem s319_81 : WP 319 0 81 L (vI x :: vA (some a) :: S) h Q ↔ ((zNC ≤ a ∧ zhas 100 (hk h a) = true ∧ (-128 ≤ x ∧ x ≤ 127)) ∧ WP 319 0 84 L S (hput h a 100 (vI x)) Q) := wp_put4 rfl rfl
theorem s319_84 : WP 319 0 84 [vA r, a1, a2, a3, a4] S h Q ↔ WP 319 0 85 [vA r, a1, a2, a3, a4] (vA r :: S) h Q := wp_aload rfl rfl
theorem s319_85 : WP 319 0 85 [a0, a1, a2, vA r, a4] S h Q ↔ WP 319 0 86 [a0, a1, a2, vA r, a4] (vA r :: S) h Q := wp_aload rfl rfl
theorem s319_86 : WP 319 0 86 L S h Q ↔ WP 319 0 87 L (vI 0 :: S) h Q := wp_pl rfl rfl rfl
theorem s319_87 : WP 319 0 87 [a0, a1, a2, a3, vI x] S h Q ↔ WP 319 0 89 [a0, a1, a2, a3, vI x] (vI x :: S) h Q := wp_iload rfl rfl
theorem s319_89 : WP 319 0 89 L S h Q ↔ WP 319 0 90 L (vI 1 :: S) h Q := wp_pl rfl rfl rfl
theorem s319_90 : WP 319 0 90 L (vI y :: vI x :: S) h Q ↔ WP 319 0 91 L (vI (zshl x y) :: S) h Q := wp_pl rfl rfl rfl
theorem s319_91 : WP 319 0 91 L (vI x2 :: vI x1 :: vA r0 :: S) h Q ↔ (zw S ≤ 8 ∧ WP 401 0 0 [vA r0, vI x1, vI x2] [] h (zret 319 0 91 94 L S Q)) := wp_S rfl rfl (zcan_of rfl rfl) rfl rfl rfl
theorem s319_94 : WP 319 0 94 L (vA r :: vA (some a) :: S) h Q ↔ ((zNC ≤ a ∧ zhas 99 (hk h a) = true) ∧ WP 319 0 97 L S (hput h a 99 (vA r)) Q) := wp_put3 rfl rfl
theorem s319_97 : WP 319 0 97 L [] h Q ↔ Q (.inl none) h := wp_ret rfl
/-! java/lang/String.<init>([BB)V -/
theorem s320_0 : WP 320 0 0 [vA r, a1, a2] S h Q ↔ WP 320 0 1 [vA r, a1, a2] (vA r :: S) h Q := wp_aload rfl rfl
theorem s320_1 : WP 320 0 1 L (vA (some a) :: S) h Q ↔ ((zw S ≤ 8 ∧ zNC ≤ a) ∧ WP 320 0 4 L S h Q) := wp_if rfl rfl rfl
theorem s320_4 : WP 320 0 4 [vA r, a1, a2] S h Q ↔ WP 320 0 5 [vA r, a1, a2] (vA r :: S) h Q := wp_aload rfl rfl
theorem s320_5 : WP 320 0 5 [a0, vA r, a2] S h Q ↔ WP 320 0 6 [a0, vA r, a2] (vA r :: S) h Q := wp_aload rfl rfl
theorem s320_6 : WP 320 0 6 L (vA r :: vA (some a) :: S) h Q ↔ ((zNC ≤ a ∧ zhas 99 (hk h a) = true) ∧ WP 320 0 9 L S (hput h a 99 (vA r)) Q) := wp_put3 rfl rfl
theorem s320_9 : WP 320 0 9 [vA r, a1, a2] S h Q ↔ WP 320 0 10 [vA r, a1, a2] (vA r :: S) h Q := wp_aload rfl rfl
theorem s320_10 : WP 320 0 10 [a0, a1, vI x] S h Q ↔ WP 320 0 11 [a0, a1, vI x] (vI x :: S) h Q := wp_iload rfl rfl
theorem s320_11 : WP 320 0 11 L (vI x :: vA (some a) :: S) h Q ↔ ((zNC ≤ a ∧ zhas 100 (hk h a) = true ∧ (-128 ≤ x ∧ x ≤ 127)) ∧ WP 320 0 14 L S (hput h a 100 (vI x)) Q) := wp_put4 rfl rfl
theorem s320_14 : WP 320 0 14 L [] h Q ↔ Q (.inl none) h := wp_ret rfl
/-! java/lang/String.isEmpty()Z -/
theorem s321_0 : WP 321 0 0 [vA r] S h Q ↔ WP 321 0 1 [vA r] (vA r :: S) h Q := wp_aload rfl rfl
theorem s321_1 : WP 321 0 1 L (vA (some a) :: S) h Q ↔ (zhas 99 (hk h a) = true ∧ WP 321 0 4 L (hm h a 99 :: S) h Q) := wp_if rfl rfl rfl
theorem s321_4 : WP 321 0 4 L (vA (some a) :: S) h Q ↔ ((1 ≤ (hk h a).1 ∧ (hk h a).1 ≤ 7) ∧ WP 321 0 5 L (vI ((hk h a).2 : Int) :: S) h Q) := wp_if rfl rfl rfl
theorem s321_5 : WP 321 0 5 L (vI x :: S) h Q ↔ zif (x = 0) (WP 321 0 8 L S h Q) (WP 321 0 12 L S h Q) := wp_bN zc_eq rfl rfl rfl
theorem s321_8 : WP 321 0 8 L S h Q ↔ WP 321 0 9 L (vI 1 :: S) h Q := wp_pl rfl rfl rfl
theorem s321_9 : WP 321 0 9 L S h Q ↔ WP 321 0 13 L S h Q := wp_pl rfl rfl rfl
theorem s321_12 : WP 321 0 12 L S h Q ↔ WP 321 0 13 L (vI 0 :: S) h Q := wp_pl rfl rfl rfl
theorem s321_13 : WP 321 0 13 L [vI x] h Q ↔ ((x = 0 ∨ x = 1) ∧ Q (.inl (some (vI x))) h) := wp_iret rfl rfl
/-! java/lang/String.isLatin1()Z -/
theorem s322_0 : WP 322 0 0 L S h Q ↔ WP 322 0 3 L (vI 1 :: S) h Q := wp_pl rfl rfl rfl
theorem s322_3 : WP 322 0 3 L (vI x :: S) h Q ↔ zif (x = 0) (WP 322 0 17 L S h Q) (WP 322 0 6 L S h Q) := wp_bE zc_eq rfl rfl rfl
theorem s322_6 : WP 322 0 6 [vA r] S h Q ↔ WP 322 0 7 [vA r] (vA r :: S) h Q := wp_aload rfl rfl
theorem s322_7 : WP 322 0 7 L (vA (some a) :: S) h Q ↔ (zhas 100 (hk h a) = true ∧ WP 322 0 10 L (hm h a 100 :: S) h Q) := wp_if rfl rfl rfl
theorem s322_10 : WP 322 0 10 L (vI x :: S) h Q ↔ zif (x = 0) (WP 322 0 13 L S h Q) (WP 322 0 17 L S h Q) := wp_bN zc_eq rfl rfl rfl
theorem s322_13 : WP 322 0 13 L S h Q ↔ WP 322 0 14 L (vI 1 :: S) h Q := wp_pl rfl rfl rfl
theorem s322_14 : WP 322 0 14 L S h Q ↔ WP 322 0 18 L S h Q := wp_pl rfl rfl rfl
theorem s322_17 : WP 322 0 17 L S h Q ↔ WP 322 0 18 L (vI 0 :: S) h Q := wp_pl rfl rfl rfl
theorem s322_18 : WP 322 0 18 L [vI x] h Q ↔ ((x = 0 ∨ x = 1) ∧ Q (.inl (some (vI x))) h) := wp_iret rfl rfl
/-! java/lang/String.length()I -/
theorem s323_0 : WP 323 0 0 [vA r] S h Q ↔ WP 323 0 1 [vA r] (vA r :: S) h Q := wp_aload rfl rfl
theorem s323_1 : WP 323 0 1 L (vA (some a) :: S) h Q ↔ (zhas 99 (hk h a) = true ∧ WP 323 0 4 L (hm h a 99 :: S) h Q) := wp_if rfl rfl rfl
theorem s323_4 : WP 323 0 4 L (vA (some a) :: S) h Q ↔ ((1 ≤ (hk h a).1 ∧ (hk h a).1 ≤ 7) ∧ WP 323 0 5 L (vI ((hk h a).2 : Int) :: S) h Q) := wp_if rfl rfl rfl
theorem s323_5 : WP 323 0 5 [vA r] S h Q ↔ WP 323 0 6 [vA r] (vA r :: S) h Q := wp_aload rfl rfl
theorem s323_6 : WP 323 0 6 L (vA (some a) :: S) h Q ↔ ((hk h a).1 = 117 ∧ (zw S ≤ 8 ∧ WP 314 0 0 [vA (some a)] [] h (zret 323 0 6 9 L S Q))) := wp_V1 (c := 117) rfl rfl (fun _ => rfl) rfl rfl (zcan_of rfl rfl) rfl rfl rfl
theorem s323_9 : WP 323 0 9 L (vI y :: vI x :: S) h Q ↔ WP 323 0 10 L (vI (zshr x y) :: S) h Q := wp_pl rfl rfl rfl
theorem s323_10 : WP 323 0 10 L [vI x] h Q ↔ Q (.inl (some (vI x))) h := wp_iret0 rfl rfl
/-! java/lang/String.substring(I)Ljava/lang/String; -/
theorem s324_0 : WP 324 0 0 [vA r, a1] S h Q ↔ WP 324 0 1 [vA r, a1] (vA r :: S) h Q := wp_aload rfl rfl
theorem s324_1 : WP 324 0 1 [a0, vI x] S h Q ↔ WP 324 0 2 [a0, vI x] (vI x :: S) h Q := wp_iload rfl rfl
theorem s324_2 : WP 324 0 2 [vA r, a1] S h Q ↔ WP 324 0 3 [vA r, a1] (vA r :: S) h Q := wp_aload rfl rfl
theorem s324_3 : WP 324 0 3 L (vA (some a) :: S) h Q ↔ ((hk h a).1 = 117 ∧ (zw S ≤ 8 ∧ WP 323 0 0 [vA (some a)] [] h (zret 324 0 3 6 L S Q))) := wp_V1 (c := 117) rfl rfl (fun _ => rfl) rfl rfl (zcan_of rfl rfl) rfl rfl rfl
theorem s324_6 : WP 324 0 6 L (vI x1 :: vI x0 :: vA (some a) :: S) h Q ↔ ((hk h a).1 = 117 ∧ (zw S ≤ 8 ∧ WP 325 0 0 [vA (some a), vI x0, vI x1, vJ, vJ] [] h (zret 324 0 6 9 L S Q))) := wp_V1 (c := 117) rfl rfl (fun _ => rfl) rfl rfl (zcan_of rfl rfl) rfl rfl rfl
theorem s324_9 : WP 324 0 9 L [vA r] h Q ↔ Q (.inl (some (vA r))) h := wp_aret rfl
/-! java/lang/String.substring(II)Ljava/lang/String; -/
theorem s325_0 : WP 325 0 0 [vA r, a1, a2, a3, a4] S h Q ↔ WP 325 0 1 [vA r, a1, a2, a3, a4] (vA r :: S) h Q := wp_aload rfl rfl
theorem s325_1 : WP 325 0 1 L (vA (some a) :: S) h Q ↔ ((hk h a).1 = 117 ∧ (zw S ≤ 8 ∧ WP 323 0 0 [vA (some a)] [] h (zret 325 0 1 4 L S Q))) := wp_V1 (c := 117) rfl rfl (fun _ => rfl) rfl rfl (zcan_of rfl rfl) rfl rfl rfl
theorem s325_4 : WP 325 0 4 [a0, a1, a2, a3, a4] (vI x :: S) h Q ↔ WP 325 0 5 [a0, a1, a2, vI x, a4] S h Q := wp_istore rfl rfl rfl
theorem s325_5 : WP 325 0 5 [a0, vI x, a2, a3, a4] S h Q ↔ WP 325 0 6 [a0, vI x, a2, a3, a4] (vI x :: S) h Q := wp_iload rfl rfl
theorem s325_6 : WP 325 0 6 [a0, a1, vI x, a3, a4] S h Q ↔ WP 325 0 7 [a0, a1, vI x, a3, a4] (vI x :: S) h Q := wp_iload rfl rfl
theorem s325_7 : WP 325 0 7 [a0, a1, a2, vI x, a4] S h Q ↔ WP 325 0 8 [a0, a1, a2, vI x, a4] (vI x :: S) h Q := wp_iload rfl rfl
theorem s325_8 : WP 325 0 8 L (vI x2 :: vI x1 :: vI x0 :: S) h Q ↔ (zw S ≤ 8 ∧ WP 311 0 0 [vI x0, vI x1, vI x2] [] h (zret 325 0 8 11 L S Q)) := wp_S rfl rfl (zcan_of rfl rfl) rfl rfl rfl
theorem s325_11 : WP 325 0 11 [a0, vI x, a2, a3, a4] S h Q ↔ WP 325 0 12 [a0, vI x, a2, a3, a4] (vI x :: S) h Q := wp_iload rfl rfl
theorem s325_12 : WP 325 0 12 L (vI x :: S) h Q ↔ zif (x = 0) (WP 325 0 15 L S h Q) (WP 325 0 22 L S h Q) := wp_bN zc_eq rfl rfl rfl
theorem s325_15 : WP 325 0 15 [a0, a1, vI x, a3, a4] S h Q ↔ WP 325 0 16 [a0, a1, vI x, a3, a4] (vI x :: S) h Q := wp_iload rfl rfl
theorem s325_16 : WP 325 0 16 [a0, a1, a2, vI x, a4] S h Q ↔ WP 325 0 17 [a0, a1, a2, vI x, a4] (vI x :: S) h Q := wp_iload rfl rfl
theorem s325_17 : WP 325 0 17 L (vI y :: vI x :: S) h Q ↔ zif (x = y) (WP 325 0 20 L S h Q) (WP 325 0 22 L S h Q) := wp_bN zc_eq rfl rfl rfl
theorem s325_20 : WP 325 0 20 [vA r, a1, a2, a3, a4] S h Q ↔ WP 325 0 21 [vA r, a1, a2, a3, a4] (vA r :: S) h Q := wp_aload rfl rfl
theorem s325_21 : WP 325 0 21 L [vA r] h Q ↔ Q (.inl (some (vA r))) h := wp_aret rfl
theorem s325_22 : WP 325 0 22 [a0, a1, vI x, a3, a4] S h Q ↔ WP 325 0 23 [a0, a1, vI x, a3, a4] (vI x :: S) h Q := wp_iload rfl rfl
theorem s325_23 : WP 325 0 23 [a0, vI x, a2, a3, a4] S h Q ↔ WP 325 0 24 [a0, vI x, a2, a3, a4] (vI x :: S) h Q := wp_iload rfl rfl
theorem s325_24 : WP 325 0 24 L (vI y :: vI x :: S) h Q ↔ WP 325 0 25 L (vI (wr (x - y)) :: S) h Q := wp_pl rfl rfl rfl
theorem s325_25 : WP 325 0 25 [a0, a1, a2, a3, a4] (vI x :: S) h Q ↔ WP 325 0 27 [a0, a1, a2, a3, vI x] S h Q := wp_istore rfl rfl rfl
theorem s325_27 : WP 325 0 27 [vA r, a1, a2, a3, a4] S h Q ↔ WP 325 0 28 [vA r, a1, a2, a3, a4] (vA r :: S) h Q := wp_aload rfl rfl
theorem s325_28 : WP 325 0 28 L (vA (some a) :: S) h Q ↔ ((hk h a).1 = 117 ∧ (zw S ≤ 8 ∧ WP 322 0 0 [vA (some a)] [] h (zret 325 0 28 31 L S Q))) := wp_V1 (c := 117) rfl rfl (fun _ => rfl) rfl rfl (zcan_of rfl rfl) rfl rfl rfl
theorem s325_31 : WP 325 0 31 L (vI x :: S) h Q ↔ zif (x = 0) (WP 325 0 47 L S h Q) (WP 325 0 34 L S h Q) := wp_bE zc_eq rfl rfl rfl
theorem s325_34 : WP 325 0 34 [vA r, a1, a2, a3, a4] S h Q ↔ WP 325 0 35 [vA r, a1, a2, a3, a4] (vA r :: S) h Q := wp_aload rfl rfl
theorem s325_35 : WP 325 0 35 L (vA (some a) :: S) h Q ↔ (zhas 99 (hk h a) = true ∧ WP 325 0 38 L (hm h a 99 :: S) h Q) := wp_if rfl rfl rfl
theorem s325_38 : WP 325 0 38 [a0, vI x, a2, a3, a4] S h Q ↔ WP 325 0 39 [a0, vI x, a2, a3, a4] (vI x :: S) h Q := wp_iload rfl rfl
theorem s325_39 : WP 325 0 39 [a0, a1, a2, a3, vI x] S h Q ↔ WP 325 0 41 [a0, a1, a2, a3, vI x] (vI x :: S) h Q := wp_iload rfl rfl
theorem s325_41 : WP 325 0 41 L (vI x2 :: vI x1 :: vA r0 :: S) h Q ↔ (zw S ≤ 8 ∧ WP 392 0 0 [vA r0, vI x1, vI x2] [] h (zret 325 0 41 44 L S Q)) := wp_S rfl rfl (zcan_of rfl rfl) rfl rfl rfl
theorem s325_44 : WP 325 0 44 L S h Q ↔ WP 325 0 57 L S h Q := wp_pl rfl rfl rfl
theorem s325_47 : WP 325 0 47 [vA r, a1, a2, a3, a4] S h Q ↔ WP 325 0 48 [vA r, a1, a2, a3, a4] (vA r :: S) h Q := wp_aload rfl rfl
theorem s325_48 : WP 325 0 48 L (vA (some a) :: S) h Q ↔ (zhas 99 (hk h a) = true ∧ WP 325 0 51 L (hm h a 99 :: S) h Q) := wp_if rfl rfl rfl
theorem s325_51 : WP 325 0 51 [a0, vI x, a2, a3, a4] S h Q ↔ WP 325 0 52 [a0, vI x, a2, a3, a4] (vI x :: S) h Q := wp_iload rfl rfl
theorem s325_52 : WP 325 0 52 [a0, a1, a2, a3, vI x] S h Q ↔ WP 325 0 54 [a0, a1, a2, a3, vI x] (vI x :: S) h Q := wp_iload rfl rfl
theorem s325_57 : WP 325 0 57 L [vA r] h Q ↔ Q (.inl (some (vA r))) h := wp_aret rfl
/-! java/lang/Integer.compare(II)I -/
theorem s326_0 : WP 326 0 0 [vI x, a1] S h Q ↔ WP 326 0 1 [vI x, a1] (vI x :: S) h Q := wp_iload rfl rfl
theorem s326_1 : WP 326 0 1 [a0, vI x] S h Q ↔ WP 326 0 2 [a0, vI x] (vI x :: S) h Q := wp_iload rfl rfl
theorem s326_2 : WP 326 0 2 L (vI y :: vI x :: S) h Q ↔ zif (x < y) (WP 326 0 5 L S h Q) (WP 326 0 9 L S h Q) := wp_bN zc_lt rfl rfl rfl
theorem s326_5 : WP 326 0 5 L S h Q ↔ WP 326 0 6 L (vI (-1) :: S) h Q := wp_pl rfl rfl rfl
theorem s326_6 : WP 326 0 6 L S h Q ↔ WP 326 0 19 L S h Q := wp_pl rfl rfl rfl
theorem s326_9 : WP 326 0 9 [vI x, a1] S h Q ↔ WP 326 0 10 [vI x, a1] (vI x :: S) h Q := wp_iload rfl rfl
theorem s326_10 : WP 326 0 10 [a0, vI x] S h Q ↔ WP 326 0 11 [a0, vI x] (vI x :: S) h Q := wp_iload rfl rfl
theorem s326_11 : WP 326 0 11 L (vI y :: vI x :: S) h Q ↔ zif (x = y) (WP 326 0 14 L S h Q) (WP 326 0 18 L S h Q) := wp_bN zc_eq rfl rfl rfl
theorem s326_14 : WP 326 0 14 L S h Q ↔ WP 326 0 15 L (vI 0 :: S) h Q := wp_pl rfl rfl rfl
theorem s326_15 : WP 326 0 15 L S h Q ↔ WP 326 0 19 L S h Q := wp_pl rfl rfl rfl
theorem s326_18 : WP 326 0 18 L S h Q ↔ WP 326 0 19 L (vI 1 :: S) h Q := wp_pl rfl rfl rfl
theorem s326_19 : WP 326 0 19 L [vI x] h Q ↔ Q (.inl (some (vI x))) h := wp_iret0 rfl rfl
/-! java/lang/Integer.equals(Ljava/lang/Object;)Z -/
theorem s327_0 : WP 327 0 0 [a0, vA r] S h Q ↔ WP 327 0 1 [a0, vA r] (vA r :: S) h Q := wp_aload rfl rfl
theorem s327_1 : WP 327 0 1 L (vA (some a) :: S) h Q ↔ (zCX 1 (hk h a).1 a = true ∧ WP 327 0 4 L (vI 1 :: S) h Q) := wp_if rfl rfl rfl
theorem s327_4 : WP 327 0 4 L (vI x :: S) h Q ↔ zif (x = 0) (WP 327 0 27 L S h Q) (WP 327 0 7 L S h Q) := wp_bE zc_eq rfl rfl rfl
theorem s327_7 : WP 327 0 7 [vA r, a1] S h Q ↔ WP 327 0 8 [vA r, a1] (vA r :: S) h Q := wp_aload rfl rfl
theorem s327_8 : WP 327 0 8 L (vA (some a) :: S) h Q ↔ (zhas 103 (hk h a) = true ∧ WP 327 0 11 L (hm h a 103 :: S) h Q) := wp_if rfl rfl rfl
theorem s327_11 : WP 327 0 11 [a0, vA r] S h Q ↔ WP 327 0 12 [a0, vA r] (vA r :: S) h Q := wp_aload rfl rfl
theorem s327_12n : WP 327 0 12 L (vA none :: S) h Q ↔ WP 327 0 15 L (vA none :: S) h Q := wp_pl rfl rfl rfl
theorem s327_12 : WP 327 0 12 L (vA (some a) :: S) h Q ↔ (zCX 1 (hk h a).1 a = true ∧ WP 327 0 15 L (vA (some a) :: S) h Q) := wp_if rfl rfl rfl
theorem s327_15 : WP 327 0 15 L (vA (some a) :: S) h Q ↔ ((hk h a).1 = 118 ∧ (zw S ≤ 8 ∧ WP 329 0 0 [vA (some a)] [] h (zret 327 0 15 18 L S Q))) := wp_V1 (c := 118) rfl rfl (fun _ => rfl) rfl rfl (zcan_of rfl rfl) rfl rfl rfl
theorem s327_18 : WP 327 0 18 L (vI y :: vI x :: S) h Q ↔ zif (x = y) (WP 327 0 21 L S h Q) (WP 327 0 25 L S h Q) := wp_bN zc_eq rfl rfl rfl
theorem s327_21 : WP 327 0 21 L S h Q ↔ WP 327 0 22 L (vI 1 :: S) h Q := wp_pl rfl rfl rfl
theorem s327_22 : WP 327 0 22 L S h Q ↔ WP 327 0 26 L S h Q := wp_pl rfl rfl rfl
theorem s327_25 : WP 327 0 25 L S h Q ↔ WP 327 0 26 L (vI 0 :: S) h Q := wp_pl rfl rfl rfl
theorem s327_26 : WP 327 0 26 L [vI x] h Q ↔ ((x = 0 ∨ x = 1) ∧ Q (.inl (some (vI x))) h) := wp_iret rfl rfl
theorem s327_27 : WP 327 0 27 L S h Q ↔ WP 327 0 28 L (vI 0 :: S) h Q := wp_pl rfl rfl rfl
theorem s327_28 : WP 327 0 28 L [vI x] h Q ↔ ((x = 0 ∨ x = 1) ∧ Q (.inl (some (vI x))) h) := wp_iret rfl rfl
/-! java/lang/Integer.<init>(I)V -/
theorem s328_0 : WP 328 0 0 [vA r, a1] S h Q ↔ WP 328 0 1 [vA r, a1] (vA r :: S) h Q := wp_aload rfl rfl
theorem s328_1 : WP 328 0 1 L (vA (some a) :: S) h Q ↔ ((zNC ≤ a ∧ 100 ≤ (hk h a).1) ∧ zw S ≤ 8 ∧ WP 385 0 0 [vA (some a)] [] h (zret 328 0 1 4 L S Q)) := wp_I rfl rfl rfl (zcan_of rfl rfl) rfl rfl rfl
theorem s328_4 : WP 328 0 4 [vA r, a1] S h Q ↔ WP 328 0 5 [vA r, a1] (vA r :: S) h Q := wp_aload rfl rfl
theorem s328_5 : WP 328 0 5 [a0, vI x] S h Q ↔ WP 328 0 6 [a0, vI x] (vI x :: S) h Q := wp_iload rfl rfl
theorem s328_6 : WP 328 0 6 L (vI x :: vA (some a) :: S) h Q ↔ ((zNC ≤ a ∧ zhas 103 (hk h a) = true) ∧ WP 328 0 9 L S (hput h a 103 (vI x)) Q) := wp_put0 rfl rfl
theorem s328_9 : WP 328 0 9 L [] h Q ↔ Q (.inl none) h := wp_ret rfl
/-! java/lang/Integer.intValue()I -/
theorem s329_0 : WP 329 0 0 [vA r] S h Q ↔ WP 329 0 1 [vA r] (vA r :: S) h Q := wp_aload rfl rfl
theorem s329_1 : WP 329 0 1 L (vA (some a) :: S) h Q ↔ (zhas 103 (hk h a) = true ∧ WP 329 0 4 L (hm h a 103 :: S) h Q) := wp_if rfl rfl rfl
theorem s329_4 : WP 329 0 4 L [vI x] h Q ↔ Q (.inl (some (vI x))) h := wp_iret0 rfl rfl
/-! java/lang/Integer.numberOfTrailingZeros(I)I -/
theorem s330_0 : WP 330 0 0 [vI x, a1] S h Q ↔ WP 330 0 1 [vI x, a1] (vI x :: S) h Q := wp_iload rfl rfl
theorem s330_1 : WP 330 0 1 L S h Q ↔ WP 330 0 2 L (vI (-1) :: S) h Q := wp_pl rfl rfl rfl
theorem s330_2 : WP 330 0 2 L (vI y :: vI x :: S) h Q ↔ WP 330 0 3 L (vI (zxor x y) :: S) h Q := wp_pl rfl rfl rfl
theorem s330_3 : WP 330 0 3 [vI x, a1] S h Q ↔ WP 330 0 4 [vI x, a1] (vI x :: S) h Q := wp_iload rfl rfl
theorem s330_4 : WP 330 0 4 L S h Q ↔ WP 330 0 5 L (vI 1 :: S) h Q := wp_pl rfl rfl rfl
theorem s330_5 : WP 330 0 5 L (vI y :: vI x :: S) h Q ↔ WP 330 0 6 L (vI (wr (x - y)) :: S) h Q := wp_pl rfl rfl rfl
theorem s330_6 : WP 330 0 6 L (vI y :: vI x :: S) h Q ↔ WP 330 0 7 L (vI (zand x y) :: S) h Q := wp_pl rfl rfl rfl
theorem s330_7 : WP 330 0 7 [a0, a1] (vI x :: S) h Q ↔ WP 330 0 8 [vI x, a1] S h Q := wp_istore rfl rfl rfl
theorem s330_8 : WP 330 0 8 [vI x, a1] S h Q ↔ WP 330 0 9 [vI x, a1] (vI x :: S) h Q := wp_iload rfl rfl
theorem s330_9 : WP 330 0 9 L (vI x :: S) h Q ↔ zif (0 < x) (WP 330 0 17 L S h Q) (WP 330 0 12 L S h Q) := wp_bE zc_gt rfl rfl rfl
theorem s330_12 : WP 330 0 12 [vI x, a1] S h Q ↔ WP 330 0 13 [vI x, a1] (vI x :: S) h Q := wp_iload rfl rfl
theorem s330_13 : WP 330 0 13 L S h Q ↔ WP 330 0 15 L (vI 32 :: S) h Q := wp_pl rfl rfl rfl
theorem s330_15 : WP 330 0 15 L (vI y :: vI x :: S) h Q ↔ WP 330 0 16 L (vI (zand x y) :: S) h Q := wp_pl rfl rfl rfl
theorem s330_16 : WP 330 0 16 L [vI x] h Q ↔ Q (.inl (some (vI x))) h := wp_iret0 rfl rfl
theorem s330_17 : WP 330 0 17 L S h Q ↔ WP 330 0 18 L (vI 1 :: S) h Q := wp_pl rfl rfl rfl
theorem s330_18 : WP 330 0 18 [a0, a1] (vI x :: S) h Q ↔ WP 330 0 19 [a0, vI x] S h Q := wp_istore rfl rfl rfl
theorem s330_19 : WP 330 0 19 [vI x, a1] S h Q ↔ WP 330 0 20 [vI x, a1] (vI x :: S) h Q := wp_iload rfl rfl
theorem s330_20 : WP 330 0 20 L S h Q ↔ WP 330 0 23 L (vI (65536) :: S) h Q := wp_pl rfl rfl rfl
theorem s330_23 : WP 330 0 23 L (vI y :: vI x :: S) h Q ↔ zif (y < x) (WP 330 0 26 L S h Q) (WP 330 0 34 L S h Q) := wp_bN zc_gt rfl rfl rfl
theorem s330_26 : WP 330 0 26 [a0, vI x] S h Q ↔ WP 330 0 29 [a0, vI (wr (x + 16))] S h Q := wp_iinc rfl rfl rfl
theorem s330_29 : WP 330 0 29 [vI x, a1] S h Q ↔ WP 330 0 30 [vI x, a1] (vI x :: S) h Q := wp_iload rfl rfl
theorem s330_30 : WP 330 0 30 L S h Q ↔ WP 330 0 32 L (vI 16 :: S) h Q := wp_pl rfl rfl rfl
theorem s330_32 : WP 330 0 32 L (vI y :: vI x :: S) h Q ↔ WP 330 0 33 L (vI (zushr x y) :: S) h Q := wp_pl rfl rfl rfl
theorem s330_33 : WP 330 0 33 [a0, a1] (vI x :: S) h Q ↔ WP 330 0 34 [vI x, a1] S h Q := wp_istore rfl rfl rfl
theorem s330_34 : WP 330 0 34 [vI x, a1] S h Q ↔ WP 330 0 35 [vI x, a1] (vI x :: S) h Q := wp_iload rfl rfl
theorem s330_35 : WP 330 0 35 L S h Q ↔ WP 330 0 38 L (vI 256 :: S) h Q := wp_pl rfl rfl rfl
theorem s330_38 : WP 330 0 38 L (vI y :: vI x :: S) h Q ↔ zif (y < x) (WP 330 0 41 L S h Q) (WP 330 0 49 L S h Q) := wp_bN zc_gt rfl rfl rfl
theorem s330_41 : WP 330 0 41 [a0, vI x] S h Q ↔ WP 330 0 44 [a0, vI (wr (x + 8))] S h Q := wp_iinc rfl rfl rfl
theorem s330_44 : WP 330 0 44 [vI x, a1] S h Q ↔ WP 330 0 45 [vI x, a1] (vI x :: S) h Q := wp_iload rfl rfl
theorem s330_45 : WP 330 0 45 L S h Q ↔ WP 330 0 47 L (vI 8 :: S) h Q := wp_pl rfl rfl rfl
theorem s330_47 : WP 330 0 47 L (vI y :: vI x :: S) h Q ↔ WP 330 0 48 L (vI (zushr x y) :: S) h Q := wp_pl rfl rfl rfl
theorem s330_48 : WP 330 0 48 [a0, a1] (vI x :: S) h Q ↔ WP 330 0 49 [vI x, a1] S h Q := wp_istore rfl rfl rfl
theorem s330_49 : WP 330 0 49 [vI x, a1] S h Q ↔ WP 330 0 50 [vI x, a1] (vI x :: S) h Q := wp_iload rfl rfl
theorem s330_50 : WP 330 0 50 L S h Q ↔ WP 330 0 52 L (vI 16 :: S) h Q := wp_pl rfl rfl rfl
theorem s330_52 : WP 330 0 52 L (vI y :: vI x :: S) h Q ↔ zif (y < x) (WP 330 0 55 L S h Q) (WP 330 0 62 L S h Q) := wp_bN zc_gt rfl rfl rfl
theorem s330_55 : WP 330 0 55 [a0, vI x] S h Q ↔ WP 330 0 58 [a0, vI (wr (x + 4))] S h Q := wp_iinc rfl rfl rfl
theorem s330_58 : WP 330 0 58 [vI x, a1] S h Q ↔ WP 330 0 59 [vI x, a1] (vI x :: S) h Q := wp_iload rfl rfl
theorem s330_59 : WP 330 0 59 L S h Q ↔ WP 330 0 60 L (vI 4 :: S) h Q := wp_pl rfl rfl rfl
theorem s330_60 : WP 330 0 60 L (vI y :: vI x :: S) h Q ↔ WP 330 0 61 L (vI (zushr x y) :: S) h Q := wp_pl rfl rfl rfl
theorem s330_61 : WP 330 0 61 [a0, a1] (vI x :: S) h Q ↔ WP 330 0 62 [vI x, a1] S h Q := wp_istore rfl rfl rfl
theorem s330_62 : WP 330 0 62 [vI x, a1] S h Q ↔ WP 330 0 63 [vI x, a1] (vI x :: S) h Q := wp_iload rfl rfl
theorem s330_63 : WP 330 0 63 L S h Q ↔ WP 330 0 64 L (vI 4 :: S) h Q := wp_pl rfl rfl rfl
theorem s330_64 : WP 330 0 64 L (vI y :: vI x :: S) h Q ↔ zif (y < x) (WP 330 0 67 L S h Q) (WP 330 0 74 L S h Q) := wp_bN zc_gt rfl rfl rfl
theorem s330_67 : WP 330 0 67 [a0, vI x] S h Q ↔ WP 330 0 70 [a0, vI (wr (x + 2))] S h Q := wp_iinc rfl rfl rfl
theorem s330_70 : WP 330 0 70 [vI x, a1] S h Q ↔ WP 330 0 71 [vI x, a1] (vI x :: S) h Q := wp_iload rfl rfl
theorem s330_71 : WP 330 0 71 L S h Q ↔ WP 330 0 72 L (vI 2 :: S) h Q := wp_pl rfl rfl rfl
theorem s330_72 : WP 330 0 72 L (vI y :: vI x :: S) h Q ↔ WP 330 0 73 L (vI (zushr x y) :: S) h Q := wp_pl rfl rfl rfl
theorem s330_73 : WP 330 0 73 [a0, a1] (vI x :: S) h Q ↔ WP 330 0 74 [vI x, a1] S h Q := wp_istore rfl rfl rfl
theorem s330_74 : WP 330 0 74 [a0, vI x] S h Q ↔ WP 330 0 75 [a0, vI x] (vI x :: S) h Q := wp_iload rfl rfl
theorem s330_75 : WP 330 0 75 [vI x, a1] S h Q ↔ WP 330 0 76 [vI x, a1] (vI x :: S) h Q := wp_iload rfl rfl
theorem s330_76 : WP 330 0 76 L S h Q ↔ WP 330 0 77 L (vI 1 :: S) h Q := wp_pl rfl rfl rfl
theorem s330_77 : WP 330 0 77 L (vI y :: vI x :: S) h Q ↔ WP 330 0 78 L (vI (zushr x y) :: S) h Q := wp_pl rfl rfl rfl
theorem s330_78 : WP 330 0 78 L (vI y :: vI x :: S) h Q ↔ WP 330 0 79 L (vI (wr (x + y)) :: S) h Q := wp_pl rfl rfl rfl
theorem s330_79 : WP 330 0 79 L [vI x] h Q ↔ Q (.inl (some (vI x))) h := wp_iret0 rfl rfl
/-! java/lang/Integer.valueOf(I)Ljava/lang/Integer; -/
theorem s331_0 : WP 331 0 0 [vI x] S h Q ↔ WP 331 0 1 [vI x] (vI x :: S) h Q := wp_iload rfl rfl
theorem s331_1 : WP 331 0 1 L S h Q ↔ WP 331 0 3 L (vI (-128) :: S) h Q := wp_pl rfl rfl rfl
theorem s331_3 : WP 331 0 3 L (vI y :: vI x :: S) h Q ↔ zif (x < y) (WP 331 0 23 L S h Q) (WP 331 0 6 L S h Q) := wp_bE zc_lt rfl rfl rfl
theorem s331_6 : WP 331 0 6 [vI x] S h Q ↔ WP 331 0 7 [vI x] (vI x :: S) h Q := wp_iload rfl rfl
theorem s331_7 : WP 331 0 7 L S h Q ↔ WP 331 0 10 L (vI 127 :: S) h Q := wp_pl rfl rfl rfl
theorem s331_10 : WP 331 0 10 L (vI y :: vI x :: S) h Q ↔ zif (y < x) (WP 331 0 23 L S h Q) (WP 331 0 13 L S h Q) := wp_bE zc_gt rfl rfl rfl
theorem s331_13 : WP 331 0 13 L S h Q ↔ WP 331 0 16 L (vA (some 3) :: S) h Q := wp_pl rfl rfl rfl
theorem s331_16 : WP 331 0 16 [vI x] S h Q ↔ WP 331 0 17 [vI x] (vI x :: S) h Q := wp_iload rfl rfl
theorem s331_17 : WP 331 0 17 L S h Q ↔ WP 331 0 20 L (vI 128 :: S) h Q := wp_pl rfl rfl rfl
theorem s331_20 : WP 331 0 20 L (vI y :: vI x :: S) h Q ↔ WP 331 0 21 L (vI (wr (x + y)) :: S) h Q := wp_pl rfl rfl rfl
theorem s331_21 : WP 331 0 21 L (vI x :: vA (some a) :: S) h Q ↔ ((((5 ≤ (hk h a).1 ∧ (hk h a).1 ≤ 7) ∧ 0 ≤ x ∧ x < ((hk h a).2 : Int)) ∨ ((hk h a).1 = 8 ∧ 128 ≤ x ∧ x < 144)) ∧ WP 331 0 22 L (hm h a x.toNat :: S) h Q) := wp_if rfl rfl rfl
theorem s331_22 : WP 331 0 22 L [vA r] h Q ↔ Q (.inl (some (vA r))) h := wp_aret rfl
theorem s331_23 : WP 331 0 23 L S h Q ↔ WP 331 0 26 L (vA (some (hn h)) :: S) (hnew h (118, 0) 1 zdf) Q := wp_pl rfl rfl rfl
theorem s331_26 : WP 331 0 26 L (vA r :: S) h Q ↔ WP 331 0 27 L (vA r :: vA r :: S) h Q := wp_pl rfl rfl rfl
theorem s331_26i : WP 331 0 26 L (vI x :: S) h Q ↔ WP 331 0 27 L (vI x :: vI x :: S) h Q := wp_pl rfl rfl rfl
theorem s331_27 : WP 331 0 27 [vI x] S h Q ↔ WP 331 0 28 [vI x] (vI x :: S) h Q := wp_iload rfl rfl
theorem s331_28 : WP 331 0 28 L (vI x0 :: vA (some a) :: S) h Q ↔ ((zNC ≤ a ∧ 100 ≤ (hk h a).1) ∧ zw S ≤ 8 ∧ WP 328 0 0 [vA (some a), vI x0] [] h (zret 331 0 28 31 L S Q)) := wp_I rfl rfl rfl (zcan_of rfl rfl) rfl rfl rfl
theorem s331_31 : WP 331 0 31 L [vA r] h Q ↔ Q (.inl (some (vA r))) h := wp_aret rfl
/-! java/util/ImmutableCollections$ListN.indexOf(Ljava/lang/Object;)I -/
theorem s332_0 : WP 332 0 0 [vA r, a1, a2, a3] S h Q ↔ WP 332 0 1 [vA r, a1, a2, a3] (vA r :: S) h Q := wp_aload rfl rfl
theorem s332_1 : WP 332 0 1 L (vA (some a) :: S) h Q ↔ (zhas 105 (hk h a) = true ∧ WP 332 0 4 L (hm h a 105 :: S) h Q) := wp_if rfl rfl rfl
theorem s332_4 : WP 332 0 4 L (vI x :: S) h Q ↔ zif (x = 0) (WP 332 0 7 L S h Q) (WP 332 0 19 L S h Q) := wp_bN zc_eq rfl rfl rfl
theorem s332_7 : WP 332 0 7 [a0, vA r, a2, a3] S h Q ↔ WP 332 0 8 [a0, vA r, a2, a3] (vA r :: S) h Q := wp_aload rfl rfl
theorem s332_8n : WP 332 0 8 L (vA none :: S) h Q ↔ WP 332 0 11 L S h Q := wp_pl rfl rfl rfl
theorem s332_8 : WP 332 0 8 L (vA (some a) :: S) h Q ↔ (3 ≤ a ∧ WP 332 0 19 L S h Q) := wp_if rfl rfl rfl
theorem s332_14 : WP 332 0 14 L (vA r :: S) h Q ↔ WP 332 0 15 L (vA r :: vA r :: S) h Q := wp_pl rfl rfl rfl
theorem s332_14i : WP 332 0 14 L (vI x :: S) h Q ↔ WP 332 0 15 L (vI x :: vI x :: S) h Q := wp_pl rfl rfl rfl
theorem s332_18 : WP 332 0 18 L (vA (some a) :: S) h Q ↔ ((((120 ≤ (hk h a).1 ∧ (hk h a).1 ≤ 123) ∨ (hk h a).1 = 109)) ∧ Q (.inr a) h) := wp_athrow (fun _ => rfl) rfl
theorem s332_19 : WP 332 0 19 [vA r, a1, a2, a3] S h Q ↔ WP 332 0 20 [vA r, a1, a2, a3] (vA r :: S) h Q := wp_aload rfl rfl
theorem s332_20 : WP 332 0 20 L (vA (some a) :: S) h Q ↔ (zhas 104 (hk h a) = true ∧ WP 332 0 23 L (hm h a 104 :: S) h Q) := wp_if rfl rfl rfl
theorem s332_23 : WP 332 0 23 [a0, a1, a2, a3] (vA r :: S) h Q ↔ WP 332 0 24 [a0, a1, vA r, a3] S h Q := wp_astore rfl rfl rfl
theorem s332_24 : WP 332 0 24 L S h Q ↔ WP 332 0 25 L (vI 0 :: S) h Q := wp_pl rfl rfl rfl
theorem s332_25 : WP 332 0 25 [a0, a1, a2, a3] (vI x :: S) h Q ↔ WP 332 0 26 [a0, a1, a2, vI x] S h Q := wp_istore rfl rfl rfl
theorem s332_26 : WP 332 0 26 [a0, a1, a2, vI x] S h Q ↔ WP 332 0 27 [a0, a1, a2, vI x] (vI x :: S) h Q := wp_iload rfl rfl
theorem s332_27 : WP 332 0 27 [a0, a1, vA r, a3] S h Q ↔ WP 332 0 28 [a0, a1, vA r, a3] (vA r :: S) h Q := wp_aload rfl rfl
theorem s332_28 : WP 332 0 28 L (vA (some a) :: S) h Q ↔ ((1 ≤ (hk h a).1 ∧ (hk h a).1 ≤ 7) ∧ WP 332 0 29 L (vI ((hk h a).2 : Int) :: S) h Q) := wp_if rfl rfl rfl
theorem s332_29 : WP 332 0 29 L (vI y :: vI x :: S) h Q ↔ zif (x < y) (WP 332 0 32 L S h Q) (WP 332 0 50 L S h Q) := wp_bN zc_lt rfl rfl rfl
theorem s332_32 : WP 332 0 32 [a0, vA r, a2, a3] S h Q ↔ WP 332 0 33 [a0, vA r, a2, a3] (vA r :: S) h Q := wp_aload rfl rfl
theorem s332_33 : WP 332 0 33 [a0, a1, vA r, a3] S h Q ↔ WP 332 0 34 [a0, a1, vA r, a3] (vA r :: S) h Q := wp_aload rfl rfl
theorem s332_34 : WP 332 0 34 [a0, a1, a2, vI x] S h Q ↔ WP 332 0 35 [a0, a1, a2, vI x] (vI x :: S) h Q := wp_iload rfl rfl
theorem s332_35 : WP 332 0 35 L (vI x :: vA (some a) :: S) h Q ↔ ((((5 ≤ (hk h a).1 ∧ (hk h a).1 ≤ 7) ∧ 0 ≤ x ∧ x < ((hk h a).2 : Int)) ∨ ((hk h a).1 = 8 ∧ 128 ≤ x ∧ x < 144)) ∧ WP 332 0 36 L (hm h a x.toNat :: S) h Q) := wp_if rfl rfl rfl
theorem s332_36 : WP 332 0 36 L (vA r1 :: vA r0 :: S) h Q ↔ (zw S ≤ 8 ∧ WP 411 0 0 [vA r0, vA r1] [] h (zret 332 0 36 39 L S Q)) := wp_S rfl rfl (zcan_of rfl rfl) rfl rfl rfl
theorem s332_39 : WP 332 0 39 L (vI x :: S) h Q ↔ zif (x = 0) (WP 332 0 44 L S h Q) (WP 332 0 42 L S h Q) := wp_bE zc_eq rfl rfl rfl
theorem s332_42 : WP 332 0 42 [a0, a1, a2, vI x] S h Q ↔ WP 332 0 43 [a0, a1, a2, vI x] (vI x :: S) h Q := wp_iload rfl rfl
theorem s332_43 : WP 332 0 43 L [vI x] h Q ↔ Q (.inl (some (vI x))) h := wp_iret0 rfl rfl
theorem s332_44 : WP 332 0 44 [a0, a1, a2, vI x] S h Q ↔ WP 332 0 47 [a0, a1, a2, vI (wr (x + 1))] S h Q := wp_iinc rfl rfl rfl
theorem s332_47 : WP 332 0 47 L S h Q ↔ WP 332 0 26 L S h Q := wp_pl rfl rfl rfl
theorem s332_50 : WP 332 0 50 L S h Q ↔ WP 332 0 51 L (vI (-1) :: S) h Q := wp_pl rfl rfl rfl
theorem s332_51 : WP 332 0 51 L [vI x] h Q ↔ Q (.inl (some (vI x))) h := wp_iret0 rfl rfl
/-! java/util/ImmutableCollections$ListN.<init>([Ljava/lang/Object;Z)V -/
theorem s333_0 : WP 333 0 0 [vA r, a1, a2] S h Q ↔ WP 333 0 1 [vA r, a1, a2] (vA r :: S) h Q := wp_aload rfl rfl
theorem s333_1 : WP 333 0 1 L (vA (some a) :: S) h Q ↔ ((zNC ≤ a ∧ 100 ≤ (hk h a).1) ∧ zw S ≤ 8 ∧ WP 409 0 0 [vA (some a)] [] h (zret 333 0 1 4 L S Q)) := wp_I rfl rfl rfl (zcan_of rfl rfl) rfl rfl rfl
theorem s333_4 : WP 333 0 4 [vA r, a1, a2] S h Q ↔ WP 333 0 5 [vA r, a1, a2] (vA r :: S) h Q := wp_aload rfl rfl
theorem s333_5 : WP 333 0 5 [a0, vA r, a2] S h Q ↔ WP 333 0 6 [a0, vA r, a2] (vA r :: S) h Q := wp_aload rfl rfl
theorem s333_6 : WP 333 0 6 L (vA r :: vA (some a) :: S) h Q ↔ ((zNC ≤ a ∧ zhas 104 (hk h a) = true) ∧ WP 333 0 9 L S (hput h a 104 (vA r)) Q) := wp_put3 rfl rfl
theorem s333_9 : WP 333 0 9 [vA r, a1, a2] S h Q ↔ WP 333 0 10 [vA r, a1, a2] (vA r :: S) h Q := wp_aload rfl rfl
theorem s333_10 : WP 333 0 10 [a0, a1, vI x] S h Q ↔ WP 333 0 11 [a0, a1, vI x] (vI x :: S) h Q := wp_iload rfl rfl
theorem s333_11 : WP 333 0 11 L (vI x :: vA (some a) :: S) h Q ↔ ((zNC ≤ a ∧ zhas 105 (hk h a) = true ∧ (x = 0 ∨ x = 1)) ∧ WP 333 0 14 L S (hput h a 105 (vI x)) Q) := wp_put1 rfl rfl
theorem s333_14 : WP 333 0 14 L [] h Q ↔ Q (.inl none) h := wp_ret rfl
/-! java/lang/AbstractStringBuilder.append(C)Ljava/lang/AbstractStringBuilder; -/
theorem s370_0 : WP 370 0 0 [vA r, a1] S h Q ↔ WP 370 0 1 [vA r, a1] (vA r :: S) h Q := wp_aload rfl rfl
theorem s370_1 : WP 370 0 1 [vA r, a1] S h Q ↔ WP 370 0 2 [vA r, a1] (vA r :: S) h Q := wp_aload rfl rfl
theorem s370_2 : WP 370 0 2 L (vA (some a) :: S) h Q ↔ (zhas 98 (hk h a) = true ∧ WP 370 0 5 L (hm h a 98 :: S) h Q) := wp_if rfl rfl rfl
theorem s370_5 : WP 370 0 5 L S h Q ↔ WP 370 0 6 L (vI 1 :: S) h Q := wp_pl rfl rfl rfl
theorem s370_6 : WP 370 0 6 L (vI y :: vI x :: S) h Q ↔ WP 370 0 7 L (vI (wr (x + y)) :: S) h Q := wp_pl rfl rfl rfl
theorem s370_7 : WP 370 0 7 L (vI x0 :: vA (some a) :: S) h Q ↔ ((hk h a).1 = 116 ∧ (zw S ≤ 8 ∧ WP 373 0 0 [vA (some a), vI x0, vJ] [] h (zret 370 0 7 10 L S Q))) := wp_V1 (c := 116) rfl rfl (fun _ => rfl) rfl rfl (zcan_of rfl rfl) rfl rfl rfl
theorem s370_10 : WP 370 0 10 [vA r, a1] S h Q ↔ WP 370 0 11 [vA r, a1] (vA r :: S) h Q := wp_aload rfl rfl
theorem s370_11 : WP 370 0 11 L (vA (some a) :: S) h Q ↔ ((hk h a).1 = 116 ∧ (zw S ≤ 8 ∧ WP 376 0 0 [vA (some a)] [] h (zret 370 0 11 14 L S Q))) := wp_V1 (c := 116) rfl rfl (fun _ => rfl) rfl rfl (zcan_of rfl rfl) rfl rfl rfl
theorem s370_14 : WP 370 0 14 L (vI x :: S) h Q ↔ zif (x = 0) (WP 370 0 45 L S h Q) (WP 370 0 17 L S h Q) := wp_bE zc_eq rfl rfl rfl
theorem s370_17 : WP 370 0 17 [a0, vI x] S h Q ↔ WP 370 0 18 [a0, vI x] (vI x :: S) h Q := wp_iload rfl rfl
theorem s370_18 : WP 370 0 18 L (vI x0 :: S) h Q ↔ (zw S ≤ 8 ∧ WP 388 0 0 [vI x0] [] h (zret 370 0 18 21 L S Q)) := wp_S rfl rfl (zcan_of rfl rfl) rfl rfl rfl
theorem s370_21 : WP 370 0 21 L (vI x :: S) h Q ↔ zif (x = 0) (WP 370 0 45 L S h Q) (WP 370 0 24 L S h Q) := wp_bE zc_eq rfl rfl rfl
theorem s370_24 : WP 370 0 24 [vA r, a1] S h Q ↔ WP 370 0 25 [vA r, a1] (vA r :: S) h Q := wp_aload rfl rfl
theorem s370_25 : WP 370 0 25 L (vA (some a) :: S) h Q ↔ (zhas 95 (hk h a) = true ∧ WP 370 0 28 L (hm h a 95 :: S) h Q) := wp_if rfl rfl rfl
theorem s370_28 : WP 370 0 28 [vA r, a1] S h Q ↔ WP 370 0 29 [vA r, a1] (vA r :: S) h Q := wp_aload rfl rfl
theorem s370_29 : WP 370 0 29 L (vA r :: S) h Q ↔ WP 370 0 30 L (vA r :: vA r :: S) h Q := wp_pl rfl rfl rfl
theorem s370_29i : WP 370 0 29 L (vI x :: S) h Q ↔ WP 370 0 30 L (vI x :: vI x :: S) h Q := wp_pl rfl rfl rfl
theorem s370_30 : WP 370 0 30 L (vA (some a) :: S) h Q ↔ (zhas 98 (hk h a) = true ∧ WP 370 0 33 L (hm h a 98 :: S) h Q) := wp_if rfl rfl rfl
theorem s370_33 : WP 370 0 33 L (vI y :: vA r :: S) h Q ↔ WP 370 0 34 L (vI y :: vA r :: vI y :: S) h Q := wp_pl rfl rfl rfl
theorem s370_33a : WP 370 0 33 L (vA q :: vA r :: S) h Q ↔ WP 370 0 34 L (vA q :: vA r :: vA q :: S) h Q := wp_pl rfl rfl rfl
theorem s370_34 : WP 370 0 34 L S h Q ↔ WP 370 0 35 L (vI 1 :: S) h Q := wp_pl rfl rfl rfl
theorem s370_35 : WP 370 0 35 L (vI y :: vI x :: S) h Q ↔ WP 370 0 36 L (vI (wr (x + y)) :: S) h Q := wp_pl rfl rfl rfl
theorem s370_36 : WP 370 0 36 L (vI x :: vA (some a) :: S) h Q ↔ ((zNC ≤ a ∧ zhas 98 (hk h a) = true) ∧ WP 370 0 39 L S (hput h a 98 (vI x)) Q) := wp_put0 rfl rfl
theorem s370_39 : WP 370 0 39 [a0, vI x] S h Q ↔ WP 370 0 40 [a0, vI x] (vI x :: S) h Q := wp_iload rfl rfl
theorem s370_40 : WP 370 0 40 L (vI x :: S) h Q ↔ WP 370 0 41 L (vI (wb x) :: S) h Q := wp_pl rfl rfl rfl
theorem s370_41 : WP 370 0 41 L (vI y :: vI x :: vA (some a) :: S) h Q ↔ ((((hk h a).1 = 2 ∨ (hk h a).1 = 3) ∧ (0 ≤ x ∧ x < ((hk h a).2 : Int)) ∧ zNC ≤ a ∧ ((hk h a).1 = 3 → y = 0 ∨ y = 1)) ∧ WP 370 0 42 L S (hput h a x.toNat (vI (if (hk h a).1 = 2 then wb y else y))) Q) := wp_if rfl rfl rfl
theorem s370_42 : WP 370 0 42 L S h Q ↔ WP 370 0 75 L S h Q := wp_pl rfl rfl rfl
theorem s370_45 : WP 370 0 45 [vA r, a1] S h Q ↔ WP 370 0 46 [vA r, a1] (vA r :: S) h Q := wp_aload rfl rfl
theorem s370_46 : WP 370 0 46 L (vA (some a) :: S) h Q ↔ ((hk h a).1 = 116 ∧ (zw S ≤ 8 ∧ WP 376 0 0 [vA (some a)] [] h (zret 370 0 46 49 L S Q))) := wp_V1 (c := 116) rfl rfl (fun _ => rfl) rfl rfl (zcan_of rfl rfl) rfl rfl rfl
theorem s370_49 : WP 370 0 49 L (vI x :: S) h Q ↔ zif (x = 0) (WP 370 0 56 L S h Q) (WP 370 0 52 L S h Q) := wp_bE zc_eq rfl rfl rfl
theorem s370_52 : WP 370 0 52 [vA r, a1] S h Q ↔ WP 370 0 53 [vA r, a1] (vA r :: S) h Q := wp_aload rfl rfl
theorem s370_56 : WP 370 0 56 [vA r, a1] S h Q ↔ WP 370 0 57 [vA r, a1] (vA r :: S) h Q := wp_aload rfl rfl
theorem s370_57 : WP 370 0 57 L (vA (some a) :: S) h Q ↔ (zhas 95 (hk h a) = true ∧ WP 370 0 60 L (hm h a 95 :: S) h Q) := wp_if rfl rfl rfl
theorem s370_60 : WP 370 0 60 [vA r, a1] S h Q ↔ WP 370 0 61 [vA r, a1] (vA r :: S) h Q := wp_aload rfl rfl
theorem s370_61 : WP 370 0 61 L (vA r :: S) h Q ↔ WP 370 0 62 L (vA r :: vA r :: S) h Q := wp_pl rfl rfl rfl
theorem s370_61i : WP 370 0 61 L (vI x :: S) h Q ↔ WP 370 0 62 L (vI x :: vI x :: S) h Q := wp_pl rfl rfl rfl
theorem s370_62 : WP 370 0 62 L (vA (some a) :: S) h Q ↔ (zhas 98 (hk h a) = true ∧ WP 370 0 65 L (hm h a 98 :: S) h Q) := wp_if rfl rfl rfl
theorem s370_65 : WP 370 0 65 L (vI y :: vA r :: S) h Q ↔ WP 370 0 66 L (vI y :: vA r :: vI y :: S) h Q := wp_pl rfl rfl rfl
theorem s370_65a : WP 370 0 65 L (vA q :: vA r :: S) h Q ↔ WP 370 0 66 L (vA q :: vA r :: vA q :: S) h Q := wp_pl rfl rfl rfl
theorem s370_66 : WP 370 0 66 L S h Q ↔ WP 370 0 67 L (vI 1 :: S) h Q := wp_pl rfl rfl rfl
theorem s370_67 : WP 370 0 67 L (vI y :: vI x :: S) h Q ↔ WP 370 0 68 L (vI (wr (x + y)) :: S) h Q := wp_pl rfl rfl rfl
theorem s370_68 : WP 370 0 68 L (vI x :: vA (some a) :: S) h Q ↔ ((zNC ≤ a ∧ zhas 98 (hk h a) = true) ∧ WP 370 0 71 L S (hput h a 98 (vI x)) Q) := wp_put0 rfl rfl
theorem s370_71 : WP 370 0 71 [a0, vI x] S h Q ↔ WP 370 0 72 [a0, vI x] (vI x :: S) h Q := wp_iload rfl rfl
theorem s370_75 : WP 370 0 75 [vA r, a1] S h Q ↔ WP 370 0 76 [vA r, a1] (vA r :: S) h Q := wp_aload rfl rfl
theorem s370_76 : WP 370 0 76 L [vA r] h Q ↔ Q (.inl (some (vA r))) h := wp_aret rfl
/-! java/lang/AbstractStringBuilder.append(I)Ljava/lang/AbstractStringBuilder; -/
theorem s371_0 : WP 371 0 0 [vA r, a1, a2, a3] S h Q ↔ WP 371 0 1 [vA r, a1, a2, a3] (vA r :: S) h Q := wp_aload rfl rfl
theorem s371_1 : WP 371 0 1 L (vA (some a) :: S) h Q ↔ (zhas 98 (hk h a) = true ∧ WP 371 0 4 L (hm h a 98 :: S) h Q) := wp_if rfl rfl rfl
theorem s371_4 : WP 371 0 4 [a0, a1, a2, a3] (vI x :: S) h Q ↔ WP 371 0 5 [a0, a1, vI x, a3] S h Q := wp_istore rfl rfl rfl
theorem s371_5 : WP 371 0 5 [a0, a1, vI x, a3] S h Q ↔ WP 371 0 6 [a0, a1, vI x, a3] (vI x :: S) h Q := wp_iload rfl rfl
theorem s371_6 : WP 371 0 6 [a0, vI x, a2, a3] S h Q ↔ WP 371 0 7 [a0, vI x, a2, a3] (vI x :: S) h Q := wp_iload rfl rfl
theorem s371_10 : WP 371 0 10 L (vI y :: vI x :: S) h Q ↔ WP 371 0 11 L (vI (wr (x + y)) :: S) h Q := wp_pl rfl rfl rfl
theorem s371_11 : WP 371 0 11 [a0, a1, a2, a3] (vI x :: S) h Q ↔ WP 371 0 12 [a0, a1, a2, vI x] S h Q := wp_istore rfl rfl rfl
theorem s371_12 : WP 371 0 12 [vA r, a1, a2, a3] S h Q ↔ WP 371 0 13 [vA r, a1, a2, a3] (vA r :: S) h Q := wp_aload rfl rfl
theorem s371_13 : WP 371 0 13 [a0, a1, a2, vI x] S h Q ↔ WP 371 0 14 [a0, a1, a2, vI x] (vI x :: S) h Q := wp_iload rfl rfl
theorem s371_14 : WP 371 0 14 L (vI x0 :: vA (some a) :: S) h Q ↔ ((hk h a).1 = 116 ∧ (zw S ≤ 8 ∧ WP 373 0 0 [vA (some a), vI x0, vJ] [] h (zret 371 0 14 17 L S Q))) := wp_V1 (c := 116) rfl rfl (fun _ => rfl) rfl rfl (zcan_of rfl rfl) rfl rfl rfl
theorem s371_17 : WP 371 0 17 [vA r, a1, a2, a3] S h Q ↔ WP 371 0 18 [vA r, a1, a2, a3] (vA r :: S) h Q := wp_aload rfl rfl
theorem s371_18 : WP 371 0 18 L (vA (some a) :: S) h Q ↔ ((hk h a).1 = 116 ∧ (zw S ≤ 8 ∧ WP 376 0 0 [vA (some a)] [] h (zret 371 0 18 21 L S Q))) := wp_V1 (c := 116) rfl rfl (fun _ => rfl) rfl rfl (zcan_of rfl rfl) rfl rfl rfl
theorem s371_21 : WP 371 0 21 L (vI x :: S) h Q ↔ zif (x = 0) (WP 371 0 37 L S h Q) (WP 371 0 24 L S h Q) := wp_bE zc_eq rfl rfl rfl
theorem s371_24 : WP 371 0 24 [a0, vI x, a2, a3] S h Q ↔ WP 371 0 25 [a0, vI x, a2, a3] (vI x :: S) h Q := wp_iload rfl rfl
theorem s371_25 : WP 371 0 25 [a0, a1, a2, vI x] S h Q ↔ WP 371 0 26 [a0, a1, a2, vI x] (vI x :: S) h Q := wp_iload rfl rfl
theorem s371_26 : WP 371 0 26 [vA r, a1, a2, a3] S h Q ↔ WP 371 0 27 [vA r, a1, a2, a3] (vA r :: S) h Q := wp_aload rfl rfl
theorem s371_27 : WP 371 0 27 L (vA (some a) :: S) h Q ↔ (zhas 95 (hk h a) = true ∧ WP 371 0 30 L (hm h a 95 :: S) h Q) := wp_if rfl rfl rfl
theorem s371_33 : WP 371 0 33 L (vA r :: S) h Q ↔ WP 371 0 34 L S h Q := wp_pl rfl rfl rfl
theorem s371_33i : WP 371 0 33 L (vI x :: S) h Q ↔ WP 371 0 34 L S h Q := wp_pl rfl rfl rfl
theorem s371_34 : WP 371 0 34 L S h Q ↔ WP 371 0 48 L S h Q := wp_pl rfl rfl rfl
theorem s371_37 : WP 371 0 37 [a0, vI x, a2, a3] S h Q ↔ WP 371 0 38 [a0, vI x, a2, a3] (vI x :: S) h Q := wp_iload rfl rfl
theorem s371_38 : WP 371 0 38 [a0, a1, vI x, a3] S h Q ↔ WP 371 0 39 [a0, a1, vI x, a3] (vI x :: S) h Q := wp_iload rfl rfl
theorem s371_39 : WP 371 0 39 [a0, a1, a2, vI x] S h Q ↔ WP 371 0 40 [a0, a1, a2, vI x] (vI x :: S) h Q := wp_iload rfl rfl
theorem s371_40 : WP 371 0 40 [vA r, a1, a2, a3] S h Q ↔ WP 371 0 41 [vA r, a1, a2, a3] (vA r :: S) h Q := wp_aload rfl rfl
theorem s371_41 : WP 371 0 41 L (vA (some a) :: S) h Q ↔ (zhas 95 (hk h a) = true ∧ WP 371 0 44 L (hm h a 95 :: S) h Q) := wp_if rfl rfl rfl
theorem s371_47 : WP 371 0 47 L (vA r :: S) h Q ↔ WP 371 0 48 L S h Q := wp_pl rfl rfl rfl
theorem s371_47i : WP 371 0 47 L (vI x :: S) h Q ↔ WP 371 0 48 L S h Q := wp_pl rfl rfl rfl
theorem s371_48 : WP 371 0 48 [vA r, a1, a2, a3] S h Q ↔ WP 371 0 49 [vA r, a1, a2, a3] (vA r :: S) h Q := wp_aload rfl rfl
theorem s371_49 : WP 371 0 49 [a0, a1, a2, vI x] S h Q ↔ WP 371 0 50 [a0, a1, a2, vI x] (vI x :: S) h Q := wp_iload rfl rfl
theorem s371_50 : WP 371 0 50 L (vI x :: vA (some a) :: S) h Q ↔ ((zNC ≤ a ∧ zhas 98 (hk h a) = true) ∧ WP 371 0 53 L S (hput h a 98 (vI x)) Q) := wp_put0 rfl rfl
theorem s371_53 : WP 371 0 53 [vA r, a1, a2, a3] S h Q ↔ WP 371 0 54 [vA r, a1, a2, a3] (vA r :: S) h Q := wp_aload rfl rfl
theorem s371_54 : WP 371 0 54 L [vA r] h Q ↔ Q (.inl (some (vA r))) h := wp_aret rfl
/-! java/lang/AbstractStringBuilder.append(Ljava/lang/String;)Ljava/lang/AbstractStringBuilder; -/
theorem s372_0 : WP 372 0 0 [a0, vA r, a2] S h Q ↔ WP 372 0 1 [a0, vA r, a2] (vA r :: S) h Q := wp_aload rfl rfl
theorem s372_1n : WP 372 0 1 L (vA none :: S) h Q ↔ WP 372 0 4 L S h Q := wp_pl rfl rfl rfl
theorem s372_1 : WP 372 0 1 L (vA (some a) :: S) h Q ↔ (3 ≤ a ∧ WP 372 0 9 L S h Q) := wp_if rfl rfl rfl
theorem s372_4 : WP 372 0 4 [vA r, a1, a2] S h Q ↔ WP 372 0 5 [vA r, a1, a2] (vA r :: S) h Q := wp_aload rfl rfl
theorem s372_8 : WP 372 0 8 L [vA r] h Q ↔ Q (.inl (some (vA r))) h := wp_aret rfl
theorem s372_9 : WP 372 0 9 [a0, vA r, a2] S h Q ↔ WP 372 0 10 [a0, vA r, a2] (vA r :: S) h Q := wp_aload rfl rfl
theorem s372_10 : WP 372 0 10 L (vA (some a) :: S) h Q ↔ ((hk h a).1 = 117 ∧ (zw S ≤ 8 ∧ WP 323 0 0 [vA (some a)] [] h (zret 372 0 10 13 L S Q))) := wp_V1 (c := 117) rfl rfl (fun _ => rfl) rfl rfl (zcan_of rfl rfl) rfl rfl rfl
theorem s372_13 : WP 372 0 13 [a0, a1, a2] (vI x :: S) h Q ↔ WP 372 0 14 [a0, a1, vI x] S h Q := wp_istore rfl rfl rfl
theorem s372_14 : WP 372 0 14 [vA r, a1, a2] S h Q ↔ WP 372 0 15 [vA r, a1, a2] (vA r :: S) h Q := wp_aload rfl rfl
theorem s372_15 : WP 372 0 15 [vA r, a1, a2] S h Q ↔ WP 372 0 16 [vA r, a1, a2] (vA r :: S) h Q := wp_aload rfl rfl
theorem s372_16 : WP 372 0 16 L (vA (some a) :: S) h Q ↔ (zhas 98 (hk h a) = true ∧ WP 372 0 19 L (hm h a 98 :: S) h Q) := wp_if rfl rfl rfl
theorem s372_19 : WP 372 0 19 [a0, a1, vI x] S h Q ↔ WP 372 0 20 [a0, a1, vI x] (vI x :: S) h Q := wp_iload rfl rfl
theorem s372_20 : WP 372 0 20 L (vI y :: vI x :: S) h Q ↔ WP 372 0 21 L (vI (wr (x + y)) :: S) h Q := wp_pl rfl rfl rfl
theorem s372_21 : WP 372 0 21 L (vI x0 :: vA (some a) :: S) h Q ↔ ((hk h a).1 = 116 ∧ (zw S ≤ 8 ∧ WP 373 0 0 [vA (some a), vI x0, vJ] [] h (zret 372 0 21 24 L S Q))) := wp_V1 (c := 116) rfl rfl (fun _ => rfl) rfl rfl (zcan_of rfl rfl) rfl rfl rfl
theorem s372_24 : WP 372 0 24 [vA r, a1, a2] S h Q ↔ WP 372 0 25 [vA r, a1, a2] (vA r :: S) h Q := wp_aload rfl rfl
theorem s372_25 : WP 372 0 25 [vA r, a1, a2] S h Q ↔ WP 372 0 26 [vA r, a1, a2] (vA r :: S) h Q := wp_aload rfl rfl
theorem s372_26 : WP 372 0 26 L (vA (some a) :: S) h Q ↔ (zhas 98 (hk h a) = true ∧ WP 372 0 29 L (hm h a 98 :: S) h Q) := wp_if rfl rfl rfl
theorem s372_29 : WP 372 0 29 [a0, vA r, a2] S h Q ↔ WP 372 0 30 [a0, vA r, a2] (vA r :: S) h Q := wp_aload rfl rfl
theorem s372_30 : WP 372 0 30 L (vA r1 :: vI x0 :: vA (some a) :: S) h Q ↔ ((hk h a).1 = 116 ∧ (zw S ≤ 8 ∧ WP 379 0 0 [vA (some a), vI x0, vA r1] [] h (zret 372 0 30 33 L S Q))) := wp_V1 (c := 116) rfl rfl (fun _ => rfl) rfl rfl (zcan_of rfl rfl) rfl rfl rfl
theorem s372_33 : WP 372 0 33 [vA r, a1, a2] S h Q ↔ WP 372 0 34 [vA r, a1, a2] (vA r :: S) h Q := wp_aload rfl rfl
theorem s372_34 : WP 372 0 34 L (vA r :: S) h Q ↔ WP 372 0 35 L (vA r :: vA r :: S) h Q := wp_pl rfl rfl rfl
theorem s372_34i : WP 372 0 34 L (vI x :: S) h Q ↔ WP 372 0 35 L (vI x :: vI x :: S) h Q := wp_pl rfl rfl rfl
theorem s372_35 : WP 372 0 35 L (vA (some a) :: S) h Q ↔ (zhas 98 (hk h a) = true ∧ WP 372 0 38 L (hm h a 98 :: S) h Q) := wp_if rfl rfl rfl
theorem s372_38 : WP 372 0 38 [a0, a1, vI x] S h Q ↔ WP 372 0 39 [a0, a1, vI x] (vI x :: S) h Q := wp_iload rfl rfl
theorem s372_39 : WP 372 0 39 L (vI y :: vI x :: S) h Q ↔ WP 372 0 40 L (vI (wr (x + y)) :: S) h Q := wp_pl rfl rfl rfl
theorem s372_40 : WP 372 0 40 L (vI x :: vA (some a) :: S) h Q ↔ ((zNC ≤ a ∧ zhas 98 (hk h a) = true) ∧ WP 372 0 43 L S (hput h a 98 (vI x)) Q) := wp_put0 rfl rfl
theorem s372_43 : WP 372 0 43 [vA r, a1, a2] S h Q ↔ WP 372 0 44 [vA r, a1, a2] (vA r :: S) h Q := wp_aload rfl rfl
theorem s372_44 : WP 372 0 44 L [vA r] h Q ↔ Q (.inl (some (vA r))) h := wp_aret rfl
/-! java/lang/AbstractStringBuilder.ensureCapacityInternal(I)V -/
theorem s373_0 : WP 373 0 0 [vA r, a1, a2] S h Q ↔ WP 373 0 1 [vA r, a1, a2] (vA r :: S) h Q := wp_aload rfl rfl
theorem s373_1 : WP 373 0 1 L (vA (some a) :: S) h Q ↔ (zhas 95 (hk h a) = true ∧ WP 373 0 4 L (hm h a 95 :: S) h Q) := wp_if rfl rfl rfl
theorem s373_4 : WP 373 0 4 L (vA (some a) :: S) h Q ↔ ((1 ≤ (hk h a).1 ∧ (hk h a).1 ≤ 7) ∧ WP 373 0 5 L (vI ((hk h a).2 : Int) :: S) h Q) := wp_if rfl rfl rfl
theorem s373_5 : WP 373 0 5 [vA r, a1, a2] S h Q ↔ WP 373 0 6 [vA r, a1, a2] (vA r :: S) h Q := wp_aload rfl rfl
theorem s373_6 : WP 373 0 6 L (vA (some a) :: S) h Q ↔ (zhas 96 (hk h a) = true ∧ WP 373 0 9 L (hm h a 96 :: S) h Q) := wp_if rfl rfl rfl
theorem s373_9 : WP 373 0 9 L (vI y :: vI x :: S) h Q ↔ WP 373 0 10 L (vI (zshr x y) :: S) h Q := wp_pl rfl rfl rfl
theorem s373_10 : WP 373 0 10 [a0, a1, a2] (vI x :: S) h Q ↔ WP 373 0 11 [a0, a1, vI x] S h Q := wp_istore rfl rfl rfl
theorem s373_11 : WP 373 0 11 [a0, vI x, a2] S h Q ↔ WP 373 0 12 [a0, vI x, a2] (vI x :: S) h Q := wp_iload rfl rfl
theorem s373_12 : WP 373 0 12 [a0, a1, vI x] S h Q ↔ WP 373 0 13 [a0, a1, vI x] (vI x :: S) h Q := wp_iload rfl rfl
theorem s373_13 : WP 373 0 13 L (vI y :: vI x :: S) h Q ↔ WP 373 0 14 L (vI (wr (x - y)) :: S) h Q := wp_pl rfl rfl rfl
theorem s373_14 : WP 373 0 14 L (vI x :: S) h Q ↔ zif (0 < x) (WP 373 0 17 L S h Q) (WP 373 0 38 L S h Q) := wp_bN zc_gt rfl rfl rfl
theorem s373_17 : WP 373 0 17 [vA r, a1, a2] S h Q ↔ WP 373 0 18 [vA r, a1, a2] (vA r :: S) h Q := wp_aload rfl rfl
theorem s373_18 : WP 373 0 18 [vA r, a1, a2] S h Q ↔ WP 373 0 19 [vA r, a1, a2] (vA r :: S) h Q := wp_aload rfl rfl
theorem s373_19 : WP 373 0 19 L (vA (some a) :: S) h Q ↔ (zhas 95 (hk h a) = true ∧ WP 373 0 22 L (hm h a 95 :: S) h Q) := wp_if rfl rfl rfl
theorem s373_22 : WP 373 0 22 [vA r, a1, a2] S h Q ↔ WP 373 0 23 [vA r, a1, a2] (vA r :: S) h Q := wp_aload rfl rfl
theorem s373_23 : WP 373 0 23 [a0, vI x, a2] S h Q ↔ WP 373 0 24 [a0, vI x, a2] (vI x :: S) h Q := wp_iload rfl rfl
theorem s373_24 : WP 373 0 24 L (vI x0 :: vA (some a) :: S) h Q ↔ ((hk h a).1 = 116 ∧ (zw S ≤ 8 ∧ WP 378 0 0 [vA (some a), vI x0, vJ, vJ, vJ, vJ] [] h (zret 373 0 24 27 L S Q))) := wp_V1 (c := 116) rfl rfl (fun _ => rfl) rfl rfl (zcan_of rfl rfl) rfl rfl rfl
theorem s373_27 : WP 373 0 27 [vA r, a1, a2] S h Q ↔ WP 373 0 28 [vA r, a1, a2] (vA r :: S) h Q := wp_aload rfl rfl
theorem s373_28 : WP 373 0 28 L (vA (some a) :: S) h Q ↔ (zhas 96 (hk h a) = true ∧ WP 373 0 31 L (hm h a 96 :: S) h Q) := wp_if rfl rfl rfl
theorem s373_31 : WP 373 0 31 L (vI y :: vI x :: S) h Q ↔ WP 373 0 32 L (vI (zshl x y) :: S) h Q := wp_pl rfl rfl rfl
theorem s373_32 : WP 373 0 32 L (vI x1 :: vA r0 :: S) h Q ↔ (zw S ≤ 8 ∧ WP 400 0 0 [vA r0, vI x1, vJ] [] h (zret 373 0 32 35 L S Q)) := wp_S rfl rfl (zcan_of rfl rfl) rfl rfl rfl
theorem s373_35 : WP 373 0 35 L (vA r :: vA (some a) :: S) h Q ↔ ((zNC ≤ a ∧ zhas 95 (hk h a) = true) ∧ WP 373 0 38 L S (hput h a 95 (vA r)) Q) := wp_put3 rfl rfl
theorem s373_38 : WP 373 0 38 L [] h Q ↔ Q (.inl none) h := wp_ret rfl
/-! java/lang/AbstractStringBuilder.getValue()[B -/
theorem s374_0 : WP 374 0 0 [vA r] S h Q ↔ WP 374 0 1 [vA r] (vA r :: S) h Q := wp_aload rfl rfl
theorem s374_1 : WP 374 0 1 L (vA (some a) :: S) h Q ↔ (zhas 95 (hk h a) = true ∧ WP 374 0 4 L (hm h a 95 :: S) h Q) := wp_if rfl rfl rfl
theorem s374_4 : WP 374 0 4 L [vA r] h Q ↔ Q (.inl (some (vA r))) h := wp_aret rfl
/-! java/lang/AbstractStringBuilder.<init>(I)V -/
theorem s375_0 : WP 375 0 0 [vA r, a1] S h Q ↔ WP 375 0 1 [vA r, a1] (vA r :: S) h Q := wp_aload rfl rfl
theorem s375_1 : WP 375 0 1 L (vA (some a) :: S) h Q ↔ ((zw S ≤ 8 ∧ zNC ≤ a) ∧ WP 375 0 4 L S h Q) := wp_if rfl rfl rfl
theorem s375_4 : WP 375 0 4 L S h Q ↔ WP 375 0 7 L (vI 1 :: S) h Q := wp_pl rfl rfl rfl
theorem s375_7 : WP 375 0 7 L (vI x :: S) h Q ↔ zif (x = 0) (WP 375 0 25 L S h Q) (WP 375 0 10 L S h Q) := wp_bE zc_eq rfl rfl rfl
theorem s375_10 : WP 375 0 10 [vA r, a1] S h Q ↔ WP 375 0 11 [vA r, a1] (vA r :: S) h Q := wp_aload rfl rfl
theorem s375_11 : WP 375 0 11 [a0, vI x] S h Q ↔ WP 375 0 12 [a0, vI x] (vI x :: S) h Q := wp_iload rfl rfl
theorem s375_12 : WP 375 0 12 L (vI x :: S) h Q ↔ ((0 ≤ x ∧ x ≤ 1000000) ∧ WP 375 0 14 L (vA (some (hn h)) :: S) (hnew h (2, x.toNat) x.toNat (fun _ => vI 0)) Q) := wp_if rfl rfl rfl
theorem s375_14 : WP 375 0 14 L (vA r :: vA (some a) :: S) h Q ↔ ((zNC ≤ a ∧ zhas 95 (hk h a) = true) ∧ WP 375 0 17 L S (hput h a 95 (vA r)) Q) := wp_put3 rfl rfl
theorem s375_17 : WP 375 0 17 [vA r, a1] S h Q ↔ WP 375 0 18 [vA r, a1] (vA r :: S) h Q := wp_aload rfl rfl
theorem s375_18 : WP 375 0 18 L S h Q ↔ WP 375 0 19 L (vI 0 :: S) h Q := wp_pl rfl rfl rfl
theorem s375_19 : WP 375 0 19 L (vI x :: vA (some a) :: S) h Q ↔ ((zNC ≤ a ∧ zhas 96 (hk h a) = true ∧ (-128 ≤ x ∧ x ≤ 127)) ∧ WP 375 0 22 L S (hput h a 96 (vI x)) Q) := wp_put4 rfl rfl
theorem s375_22 : WP 375 0 22 L S h Q ↔ WP 375 0 38 L S h Q := wp_pl rfl rfl rfl
theorem s375_25 : WP 375 0 25 [vA r, a1] S h Q ↔ WP 375 0 26 [vA r, a1] (vA r :: S) h Q := wp_aload rfl rfl
theorem s375_26 : WP 375 0 26 [a0, vI x] S h Q ↔ WP 375 0 27 [a0, vI x] (vI x :: S) h Q := wp_iload rfl rfl
theorem s375_30 : WP 375 0 30 L (vA r :: vA (some a) :: S) h Q ↔ ((zNC ≤ a ∧ zhas 95 (hk h a) = true) ∧ WP 375 0 33 L S (hput h a 95 (vA r)) Q) := wp_put3 rfl rfl
theorem s375_33 : WP 375 0 33 [vA r, a1] S h Q ↔ WP 375 0 34 [vA r, a1] (vA r :: S) h Q := wp_aload rfl rfl
theorem s375_34 : WP 375 0 34 L S h Q ↔ WP 375 0 35 L (vI 1 :: S) h Q := wp_pl rfl rfl rfl
theorem s375_35 : WP 375 0 35 L (vI x :: vA (some a) :: S) h Q ↔ ((zNC ≤ a ∧ zhas 96 (hk h a) = true ∧ (-128 ≤ x ∧ x ≤ 127)) ∧ WP 375 0 38 L S (hput h a 96 (vI x)) Q) := wp_put4 rfl rfl
theorem s375_38 : WP 375 0 38 L [] h Q ↔ Q (.inl none) h := wp_ret rfl
/-! java/lang/AbstractStringBuilder.isLatin1()Z -/
theorem s376_0 : WP 376 0 0 L S h Q ↔ WP 376 0 3 L (vI 1 :: S) h Q := wp_pl rfl rfl rfl
theorem s376_3 : WP 376 0 3 L (vI x :: S) h Q ↔ zif (x = 0) (WP 376 0 17 L S h Q) (WP 376 0 6 L S h Q) := wp_bE zc_eq rfl rfl rfl
theorem s376_6 : WP 376 0 6 [vA r] S h Q ↔ WP 376 0 7 [vA r] (vA r :: S) h Q := wp_aload rfl rfl
theorem s376_7 : WP 376 0 7 L (vA (some a) :: S) h Q ↔ (zhas 96 (hk h a) = true ∧ WP 376 0 10 L (hm h a 96 :: S) h Q) := wp_if rfl rfl rfl
theorem s376_10 : WP 376 0 10 L (vI x :: S) h Q ↔ zif (x = 0) (WP 376 0 13 L S h Q) (WP 376 0 17 L S h Q) := wp_bN zc_eq rfl rfl rfl
theorem s376_13 : WP 376 0 13 L S h Q ↔ WP 376 0 14 L (vI 1 :: S) h Q := wp_pl rfl rfl rfl
theorem s376_14 : WP 376 0 14 L S h Q ↔ WP 376 0 18 L S h Q := wp_pl rfl rfl rfl
theorem s376_17 : WP 376 0 17 L S h Q ↔ WP 376 0 18 L (vI 0 :: S) h Q := wp_pl rfl rfl rfl
theorem s376_18 : WP 376 0 18 L [vI x] h Q ↔ ((x = 0 ∨ x = 1) ∧ Q (.inl (some (vI x))) h) := wp_iret rfl rfl
/-! java/lang/AbstractStringBuilder.length()I -/
theorem s377_0 : WP 377 0 0 [vA r] S h Q ↔ WP 377 0 1 [vA r] (vA r :: S) h Q := wp_aload rfl rfl
theorem s377_1 : WP 377 0 1 L (vA (some a) :: S) h Q ↔ (zhas 98 (hk h a) = true ∧ WP 377 0 4 L (hm h a 98 :: S) h Q) := wp_if rfl rfl rfl
theorem s377_4 : WP 377 0 4 L [vI x] h Q ↔ Q (.inl (some (vI x))) h := wp_iret0 rfl rfl
/-! java/lang/AbstractStringBuilder.newCapacity(I)I -/
theorem s378_0 : WP 378 0 0 [vA r, a1, a2, a3, a4, a5] S h Q ↔ WP 378 0 1 [vA r, a1, a2, a3, a4, a5] (vA r :: S) h Q := wp_aload rfl rfl
theorem s378_1 : WP 378 0 1 L (vA (some a) :: S) h Q ↔ (zhas 95 (hk h a) = true ∧ WP 378 0 4 L (hm h a 95 :: S) h Q) := wp_if rfl rfl rfl
theorem s378_4 : WP 378 0 4 L (vA (some a) :: S) h Q ↔ ((1 ≤ (hk h a).1 ∧ (hk h a).1 ≤ 7) ∧ WP 378 0 5 L (vI ((hk h a).2 : Int) :: S) h Q) := wp_if rfl rfl rfl
theorem s378_5 : WP 378 0 5 [a0, a1, a2, a3, a4, a5] (vI x :: S) h Q ↔ WP 378 0 6 [a0, a1, vI x, a3, a4, a5] S h Q := wp_istore rfl rfl rfl
theorem s378_6 : WP 378 0 6 [a0, vI x, a2, a3, a4, a5] S h Q ↔ WP 378 0 7 [a0, vI x, a2, a3, a4, a5] (vI x :: S) h Q := wp_iload rfl rfl
theorem s378_7 : WP 378 0 7 [vA r, a1, a2, a3, a4, a5] S h Q ↔ WP 378 0 8 [vA r, a1, a2, a3, a4, a5] (vA r :: S) h Q := wp_aload rfl rfl
theorem s378_8 : WP 378 0 8 L (vA (some a) :: S) h Q ↔ (zhas 96 (hk h a) = true ∧ WP 378 0 11 L (hm h a 96 :: S) h Q) := wp_if rfl rfl rfl
theorem s378_11 : WP 378 0 11 L (vI y :: vI x :: S) h Q ↔ WP 378 0 12 L (vI (zshl x y) :: S) h Q := wp_pl rfl rfl rfl
theorem s378_12 : WP 378 0 12 [a0, a1, a2, a3, a4, a5] (vI x :: S) h Q ↔ WP 378 0 13 [a0, a1, a2, vI x, a4, a5] S h Q := wp_istore rfl rfl rfl
theorem s378_13 : WP 378 0 13 [a0, a1, a2, vI x, a4, a5] S h Q ↔ WP 378 0 14 [a0, a1, a2, vI x, a4, a5] (vI x :: S) h Q := wp_iload rfl rfl
theorem s378_14 : WP 378 0 14 [a0, a1, vI x, a3, a4, a5] S h Q ↔ WP 378 0 15 [a0, a1, vI x, a3, a4, a5] (vI x :: S) h Q := wp_iload rfl rfl
theorem s378_15 : WP 378 0 15 L (vI y :: vI x :: S) h Q ↔ WP 378 0 16 L (vI (wr (x - y)) :: S) h Q := wp_pl rfl rfl rfl
theorem s378_16 : WP 378 0 16 [a0, a1, a2, a3, a4, a5] (vI x :: S) h Q ↔ WP 378 0 18 [a0, a1, a2, a3, vI x, a5] S h Q := wp_istore rfl rfl rfl
theorem s378_18 : WP 378 0 18 [a0, a1, vI x, a3, a4, a5] S h Q ↔ WP 378 0 19 [a0, a1, vI x, a3, a4, a5] (vI x :: S) h Q := wp_iload rfl rfl
theorem s378_19 : WP 378 0 19 [a0, a1, a2, a3, vI x, a5] S h Q ↔ WP 378 0 21 [a0, a1, a2, a3, vI x, a5] (vI x :: S) h Q := wp_iload rfl rfl
theorem s378_21 : WP 378 0 21 [a0, a1, vI x, a3, a4, a5] S h Q ↔ WP 378 0 22 [a0, a1, vI x, a3, a4, a5] (vI x :: S) h Q := wp_iload rfl rfl
theorem s378_22 : WP 378 0 22 L S h Q ↔ WP 378 0 23 L (vI 2 :: S) h Q := wp_pl rfl rfl rfl
theorem s378_23 : WP 378 0 23 [vA r, a1, a2, a3, a4, a5] S h Q ↔ WP 378 0 24 [vA r, a1, a2, a3, a4, a5] (vA r :: S) h Q := wp_aload rfl rfl
theorem s378_24 : WP 378 0 24 L (vA (some a) :: S) h Q ↔ (zhas 96 (hk h a) = true ∧ WP 378 0 27 L (hm h a 96 :: S) h Q) := wp_if rfl rfl rfl
theorem s378_27 : WP 378 0 27 L (vI y :: vI x :: S) h Q ↔ WP 378 0 28 L (vI (zshl x y) :: S) h Q := wp_pl rfl rfl rfl
theorem s378_28 : WP 378 0 28 L (vI y :: vI x :: S) h Q ↔ WP 378 0 29 L (vI (wr (x + y)) :: S) h Q := wp_pl rfl rfl rfl
theorem s378_29 : WP 378 0 29 L (vI x2 :: vI x1 :: vI x0 :: S) h Q ↔ (zw S ≤ 8 ∧ WP 417 0 0 [vI x0, vI x1, vI x2, vJ] [] h (zret 378 0 29 32 L S Q)) := wp_S rfl rfl (zcan_of rfl rfl) rfl rfl rfl
theorem s378_32 : WP 378 0 32 [a0, a1, a2, a3, a4, a5] (vI x :: S) h Q ↔ WP 378 0 34 [a0, a1, a2, a3, a4, vI x] S h Q := wp_istore rfl rfl rfl
theorem s378_34 : WP 378 0 34 [a0, a1, a2, a3, a4, vI x] S h Q ↔ WP 378 0 36 [a0, a1, a2, a3, a4, vI x] (vI x :: S) h Q := wp_iload rfl rfl
theorem s378_36 : WP 378 0 36 L S h Q ↔ WP 378 0 38 L (vI (2147483647) :: S) h Q := wp_pl rfl rfl rfl
theorem s378_38 : WP 378 0 38 L (vI y :: vI x :: S) h Q ↔ zif (x = y) (WP 378 0 41 L S h Q) (WP 378 0 51 L S h Q) := wp_bN zc_eq rfl rfl rfl
theorem s378_44 : WP 378 0 44 L (vA r :: S) h Q ↔ WP 378 0 45 L (vA r :: vA r :: S) h Q := wp_pl rfl rfl rfl
theorem s378_44i : WP 378 0 44 L (vI x :: S) h Q ↔ WP 378 0 45 L (vI x :: vI x :: S) h Q := wp_pl rfl rfl rfl
theorem s378_50 : WP 378 0 50 L (vA (some a) :: S) h Q ↔ ((((120 ≤ (hk h a).1 ∧ (hk h a).1 ≤ 123) ∨ (hk h a).1 = 109)) ∧ Q (.inr a) h) := wp_athrow (fun _ => rfl) rfl
theorem s378_51 : WP 378 0 51 [a0, a1, a2, a3, a4, vI x] S h Q ↔ WP 378 0 53 [a0, a1, a2, a3, a4, vI x] (vI x :: S) h Q := wp_iload rfl rfl
theorem s378_53 : WP 378 0 53 [vA r, a1, a2, a3, a4, a5] S h Q ↔ WP 378 0 54 [vA r, a1, a2, a3, a4, a5] (vA r :: S) h Q := wp_aload rfl rfl
theorem s378_54 : WP 378 0 54 L (vA (some a) :: S) h Q ↔ (zhas 96 (hk h a) = true ∧ WP 378 0 57 L (hm h a 96 :: S) h Q) := wp_if rfl rfl rfl
theorem s378_57 : WP 378 0 57 L (vI y :: vI x :: S) h Q ↔ WP 378 0 58 L (vI (zshr x y) :: S) h Q := wp_pl rfl rfl rfl
theorem s378_58 : WP 378 0 58 L [vI x] h Q ↔ Q (.inl (some (vI x))) h := wp_iret0 rfl rfl
/-! java/lang/AbstractStringBuilder.putStringAt(ILjava/lang/String;)V -/
theorem s379_0 : WP 379 0 0 [vA r, a1, a2] S h Q ↔ WP 379 0 1 [vA r, a1, a2] (vA r :: S) h Q := wp_aload rfl rfl
theorem s379_1 : WP 379 0 1 [a0, a1, vA r] S h Q ↔ WP 379 0 2 [a0, a1, vA r] (vA r :: S) h Q := wp_aload rfl rfl
theorem s379_5 : WP 379 0 5 [a0, a1, vA r] S h Q ↔ WP 379 0 6 [a0, a1, vA r] (vA r :: S) h Q := wp_aload rfl rfl
theorem s379_6 : WP 379 0 6 [vA r, a1, a2] S h Q ↔ WP 379 0 7 [vA r, a1, a2] (vA r :: S) h Q := wp_aload rfl rfl
theorem s379_7 : WP 379 0 7 L (vA (some a) :: S) h Q ↔ (zhas 95 (hk h a) = true ∧ WP 379 0 10 L (hm h a 95 :: S) h Q) := wp_if rfl rfl rfl
theorem s379_10 : WP 379 0 10 [a0, vI x, a2] S h Q ↔ WP 379 0 11 [a0, vI x, a2] (vI x :: S) h Q := wp_iload rfl rfl
theorem s379_11 : WP 379 0 11 [vA r, a1, a2] S h Q ↔ WP 379 0 12 [vA r, a1, a2] (vA r :: S) h Q := wp_aload rfl rfl
theorem s379_12 : WP 379 0 12 L (vA (some a) :: S) h Q ↔ (zhas 96 (hk h a) = true ∧ WP 379 0 15 L (hm h a 96 :: S) h Q) := wp_if rfl rfl rfl
theorem s379_15 : WP 379 0 15 L (vI x2 :: vI x1 :: vA r0 :: vA (some a) :: S) h Q ↔ ((hk h a).1 = 117 ∧ (zw S ≤ 8 ∧ WP 316 0 0 [vA (some a), vA r0, vI x1, vI x2] [] h (zret 379 0 15 18 L S Q))) := wp_V1 (c := 117) rfl rfl (fun _ => rfl) rfl rfl (zcan_of rfl rfl) rfl rfl rfl
theorem s379_18 : WP 379 0 18 L [] h Q ↔ Q (.inl none) h := wp_ret rfl
/-! java/lang/Exception.<init>(Ljava/lang/String;Ljava/lang/Throwable;ZZ)V -/
theorem s380_0 : WP 380 0 0 [vA r, a1, a2, a3, a4] S h Q ↔ WP 380 0 1 [vA r, a1, a2, a3, a4] (vA r :: S) h Q := wp_aload rfl rfl
theorem s380_1 : WP 380 0 1 [a0, vA r, a2, a3, a4] S h Q ↔ WP 380 0 2 [a0, vA r, a2, a3, a4] (vA r :: S) h Q := wp_aload rfl rfl
theorem s380_2 : WP 380 0 2 [a0, a1, vA r, a3, a4] S h Q ↔ WP 380 0 3 [a0, a1, vA r, a3, a4] (vA r :: S) h Q := wp_aload rfl rfl
theorem s380_3 : WP 380 0 3 [a0, a1, a2, vI x, a4] S h Q ↔ WP 380 0 4 [a0, a1, a2, vI x, a4] (vI x :: S) h Q := wp_iload rfl rfl
theorem s380_4 : WP 380 0 4 [a0, a1, a2, a3, vI x] S h Q ↔ WP 380 0 6 [a0, a1, a2, a3, vI x] (vI x :: S) h Q := wp_iload rfl rfl
theorem s380_6 : WP 380 0 6 L (vI x3 :: vI x2 :: vA r1 :: vA r0 :: vA (some a) :: S) h Q ↔ ((zNC ≤ a ∧ 100 ≤ (hk h a).1) ∧ zw S ≤ 8 ∧ WP 393 0 0 [vA (some a), vA r0, vA r1, vI x2, vI x3] [] h (zret 380 0 6 9 L S Q)) := wp_I rfl rfl rfl (zcan_of rfl rfl) rfl rfl rfl
theorem s380_9 : WP 380 0 9 L [] h Q ↔ Q (.inl none) h := wp_ret rfl
/-! java/lang/Long.bitCount(J)I -/
theorem s381_0 : WP 381 0 0 [vL x, vJ] S h Q ↔ WP 381 0 1 [vL x, vJ] (vL x :: S) h Q := wp_lload rfl rfl rfl
theorem s381_1 : WP 381 0 1 [vL x, vJ] S h Q ↔ WP 381 0 2 [vL x, vJ] (vL x :: S) h Q := wp_lload rfl rfl rfl
theorem s381_2 : WP 381 0 2 L S h Q ↔ WP 381 0 3 L (vI 1 :: S) h Q := wp_pl rfl rfl rfl
theorem s381_3 : WP 381 0 3 L (vI y :: vL x :: S) h Q ↔ WP 381 0 4 L (vL (zlushr x y) :: S) h Q := wp_pl rfl rfl rfl
theorem s381_4 : WP 381 0 4 L S h Q ↔ WP 381 0 7 L (vL (6148914691236517205) :: S) h Q := wp_pl rfl rfl rfl
theorem s381_7 : WP 381 0 7 L (vL y :: vL x :: S) h Q ↔ WP 381 0 8 L (vL (zland x y) :: S) h Q := wp_pl rfl rfl rfl
theorem s381_8 : WP 381 0 8 L (vL y :: vL x :: S) h Q ↔ WP 381 0 9 L (vL (wl (x - y)) :: S) h Q := wp_pl rfl rfl rfl
theorem s381_9 : WP 381 0 9 [a0, a1] (vL x :: S) h Q ↔ WP 381 0 10 [vL x, vJ] S h Q := wp_lstore rfl rfl rfl
theorem s381_10 : WP 381 0 10 [vL x, vJ] S h Q ↔ WP 381 0 11 [vL x, vJ] (vL x :: S) h Q := wp_lload rfl rfl rfl
theorem s381_11 : WP 381 0 11 L S h Q ↔ WP 381 0 14 L (vL (3689348814741910323) :: S) h Q := wp_pl rfl rfl rfl
theorem s381_14 : WP 381 0 14 L (vL y :: vL x :: S) h Q ↔ WP 381 0 15 L (vL (zland x y) :: S) h Q := wp_pl rfl rfl rfl
theorem s381_15 : WP 381 0 15 [vL x, vJ] S h Q ↔ WP 381 0 16 [vL x, vJ] (vL x :: S) h Q := wp_lload rfl rfl rfl
theorem s381_16 : WP 381 0 16 L S h Q ↔ WP 381 0 17 L (vI 2 :: S) h Q := wp_pl rfl rfl rfl
theorem s381_17 : WP 381 0 17 L (vI y :: vL x :: S) h Q ↔ WP 381 0 18 L (vL (zlushr x y) :: S) h Q := wp_pl rfl rfl rfl
theorem s381_18 : WP 381 0 18 L S h Q ↔ WP 381 0 21 L (vL (3689348814741910323) :: S) h Q := wp_pl rfl rfl rfl
theorem s381_21 : WP 381 0 21 L (vL y :: vL x :: S) h Q ↔ WP 381 0 22 L (vL (zland x y) :: S) h Q := wp_pl rfl rfl rfl
theorem s381_22 : WP 381 0 22 L (vL y :: vL x :: S) h Q ↔ WP 381 0 23 L (vL (wl (x + y)) :: S) h Q := wp_pl rfl rfl rfl
theorem s381_23 : WP 381 0 23 [a0, a1] (vL x :: S) h Q ↔ WP 381 0 24 [vL x, vJ] S h Q := wp_lstore rfl rfl rfl
theorem s381_24 : WP 381 0 24 [vL x, vJ] S h Q ↔ WP 381 0 25 [vL x, vJ] (vL x :: S) h Q := wp_lload rfl rfl rfl
theorem s381_25 : WP 381 0 25 [vL x, vJ] S h Q ↔ WP 381 0 26 [vL x, vJ] (vL x :: S) h Q := wp_lload rfl rfl rfl
theorem s381_26 : WP 381 0 26 L S h Q ↔ WP 381 0 27 L (vI 4 :: S) h Q := wp_pl rfl rfl rfl
theorem s381_27 : WP 381 0 27 L (vI y :: vL x :: S) h Q ↔ WP 381 0 28 L (vL (zlushr x y) :: S) h Q := wp_pl rfl rfl rfl
theorem s381_28 : WP 381 0 28 L (vL y :: vL x :: S) h Q ↔ WP 381 0 29 L (vL (wl (x + y)) :: S) h Q := wp_pl rfl rfl rfl
theorem s381_29 : WP 381 0 29 L S h Q ↔ WP 381 0 32 L (vL (1085102592571150095) :: S) h Q := wp_pl rfl rfl rfl
theorem s381_32 : WP 381 0 32 L (vL y :: vL x :: S) h Q ↔ WP 381 0 33 L (vL (zland x y) :: S) h Q := wp_pl rfl rfl rfl
theorem s381_33 : WP 381 0 33 [a0, a1] (vL x :: S) h Q ↔ WP 381 0 34 [vL x, vJ] S h Q := wp_lstore rfl rfl rfl
theorem s381_34 : WP 381 0 34 [vL x, vJ] S h Q ↔ WP 381 0 35 [vL x, vJ] (vL x :: S) h Q := wp_lload rfl rfl rfl
theorem s381_35 : WP 381 0 35 [vL x, vJ] S h Q ↔ WP 381 0 36 [vL x, vJ] (vL x :: S) h Q := wp_lload rfl rfl rfl
theorem s381_36 : WP 381 0 36 L S h Q ↔ WP 381 0 38 L (vI 8 :: S) h Q := wp_pl rfl rfl rfl
theorem s381_38 : WP 381 0 38 L (vI y :: vL x :: S) h Q ↔ WP 381 0 39 L (vL (zlushr x y) :: S) h Q := wp_pl rfl rfl rfl
theorem s381_39 : WP 381 0 39 L (vL y :: vL x :: S) h Q ↔ WP 381 0 40 L (vL (wl (x + y)) :: S) h Q := wp_pl rfl rfl rfl
theorem s381_40 : WP 381 0 40 [a0, a1] (vL x :: S) h Q ↔ WP 381 0 41 [vL x, vJ] S h Q := wp_lstore rfl rfl rfl
theorem s381_41 : WP 381 0 41 [vL x, vJ] S h Q ↔ WP 381 0 42 [vL x, vJ] (vL x :: S) h Q := wp_lload rfl rfl rfl
theorem s381_42 : WP 381 0 42 [vL x, vJ] S h Q ↔ WP 381 0 43 [vL x, vJ] (vL x :: S) h Q := wp_lload rfl rfl rfl
theorem s381_43 : WP 381 0 43 L S h Q ↔ WP 381 0 45 L (vI 16 :: S) h Q := wp_pl rfl rfl rfl
theorem s381_45 : WP 381 0 45 L (vI y :: vL x :: S) h Q ↔ WP 381 0 46 L (vL (zlushr x y) :: S) h Q := wp_pl rfl rfl rfl
theorem s381_46 : WP 381 0 46 L (vL y :: vL x :: S) h Q ↔ WP 381 0 47 L (vL (wl (x + y)) :: S) h Q := wp_pl rfl rfl rfl
theorem s381_47 : WP 381 0 47 [a0, a1] (vL x :: S) h Q ↔ WP 381 0 48 [vL x, vJ] S h Q := wp_lstore rfl rfl rfl
theorem s381_48 : WP 381 0 48 [vL x, vJ] S h Q ↔ WP 381 0 49 [vL x, vJ] (vL x :: S) h Q := wp_lload rfl rfl rfl
theorem s381_49 : WP 381 0 49 [vL x, vJ] S h Q ↔ WP 381 0 50 [vL x, vJ] (vL x :: S) h Q := wp_lload rfl rfl rfl
theorem s381_50 : WP 381 0 50 L S h Q ↔ WP 381 0 52 L (vI 32 :: S) h Q := wp_pl rfl rfl rfl
theorem s381_52 : WP 381 0 52 L (vI y :: vL x :: S) h Q ↔ WP 381 0 53 L (vL (zlushr x y) :: S) h Q := wp_pl rfl rfl rfl
theorem s381_53 : WP 381 0 53 L (vL y :: vL x :: S) h Q ↔ WP 381 0 54 L (vL (wl (x + y)) :: S) h Q := wp_pl rfl rfl rfl
theorem s381_54 : WP 381 0 54 [a0, a1] (vL x :: S) h Q ↔ WP 381 0 55 [vL x, vJ] S h Q := wp_lstore rfl rfl rfl
theorem s381_55 : WP 381 0 55 [vL x, vJ] S h Q ↔ WP 381 0 56 [vL x, vJ] (vL x :: S) h Q := wp_lload rfl rfl rfl
theorem s381_56 : WP 381 0 56 L (vL x :: S) h Q ↔ WP 381 0 57 L (vI (wr x) :: S) h Q := wp_pl rfl rfl rfl
theorem s381_57 : WP 381 0 57 L S h Q ↔ WP 381 0 59 L (vI 127 :: S) h Q := wp_pl rfl rfl rfl
theorem s381_59 : WP 381 0 59 L (vI y :: vI x :: S) h Q ↔ WP 381 0 60 L (vI (zand x y) :: S) h Q := wp_pl rfl rfl rfl
theorem s381_60 : WP 381 0 60 L [vI x] h Q ↔ Q (.inl (some (vI x))) h := wp_iret0 rfl rfl
/-! java/lang/Long.numberOfTrailingZeros(J)I -/
theorem s382_0 : WP 382 0 0 [vL x, vJ, a2] S h Q ↔ WP 382 0 1 [vL x, vJ, a2] (vL x :: S) h Q := wp_lload rfl rfl rfl
theorem s382_1 : WP 382 0 1 L (vL x :: S) h Q ↔ WP 382 0 2 L (vI (wr x) :: S) h Q := wp_pl rfl rfl rfl
theorem s382_2 : WP 382 0 2 [a0, a1, a2] (vI x :: S) h Q ↔ WP 382 0 3 [a0, a1, vI x] S h Q := wp_istore rfl rfl rfl
theorem s382_3 : WP 382 0 3 [a0, a1, vI x] S h Q ↔ WP 382 0 4 [a0, a1, vI x] (vI x :: S) h Q := wp_iload rfl rfl
theorem s382_4 : WP 382 0 4 L (vI x :: S) h Q ↔ zif (x = 0) (WP 382 0 7 L S h Q) (WP 382 0 21 L S h Q) := wp_bN zc_eq rfl rfl rfl
theorem s382_7 : WP 382 0 7 L S h Q ↔ WP 382 0 9 L (vI 32 :: S) h Q := wp_pl rfl rfl rfl
theorem s382_9 : WP 382 0 9 [vL x, vJ, a2] S h Q ↔ WP 382 0 10 [vL x, vJ, a2] (vL x :: S) h Q := wp_lload rfl rfl rfl
theorem s382_10 : WP 382 0 10 L S h Q ↔ WP 382 0 12 L (vI 32 :: S) h Q := wp_pl rfl rfl rfl
theorem s382_12 : WP 382 0 12 L (vI y :: vL x :: S) h Q ↔ WP 382 0 13 L (vL (zlushr x y) :: S) h Q := wp_pl rfl rfl rfl
theorem s382_13 : WP 382 0 13 L (vL x :: S) h Q ↔ WP 382 0 14 L (vI (wr x) :: S) h Q := wp_pl rfl rfl rfl
theorem s382_14 : WP 382 0 14 L (vI x0 :: S) h Q ↔ (zw S ≤ 8 ∧ WP 330 0 0 [vI x0, vJ] [] h (zret 382 0 14 17 L S Q)) := wp_S rfl rfl (zcan_of rfl rfl) rfl rfl rfl
theorem s382_17 : WP 382 0 17 L (vI y :: vI x :: S) h Q ↔ WP 382 0 18 L (vI (wr (x + y)) :: S) h Q := wp_pl rfl rfl rfl
theorem s382_18 : WP 382 0 18 L S h Q ↔ WP 382 0 25 L S h Q := wp_pl rfl rfl rfl
theorem s382_21 : WP 382 0 21 [a0, a1, vI x] S h Q ↔ WP 382 0 22 [a0, a1, vI x] (vI x :: S) h Q := wp_iload rfl rfl
theorem s382_22 : WP 382 0 22 L (vI x0 :: S) h Q ↔ (zw S ≤ 8 ∧ WP 330 0 0 [vI x0, vJ] [] h (zret 382 0 22 25 L S Q)) := wp_S rfl rfl (zcan_of rfl rfl) rfl rfl rfl
theorem s382_25 : WP 382 0 25 L [vI x] h Q ↔ Q (.inl (some (vI x))) h := wp_iret0 rfl rfl
/-! java/lang/Math.max(II)I -/
theorem s383_0 : WP 383 0 0 [vI x, a1] S h Q ↔ WP 383 0 1 [vI x, a1] (vI x :: S) h Q := wp_iload rfl rfl
theorem s383_1 : WP 383 0 1 [a0, vI x] S h Q ↔ WP 383 0 2 [a0, vI x] (vI x :: S) h Q := wp_iload rfl rfl
theorem s383_2 : WP 383 0 2 L (vI y :: vI x :: S) h Q ↔ zif (x < y) (WP 383 0 9 L S h Q) (WP 383 0 5 L S h Q) := wp_bE zc_lt rfl rfl rfl
theorem s383_5 : WP 383 0 5 [vI x, a1] S h Q ↔ WP 383 0 6 [vI x, a1] (vI x :: S) h Q := wp_iload rfl rfl
theorem s383_6 : WP 383 0 6 L S h Q ↔ WP 383 0 10 L S h Q := wp_pl rfl rfl rfl
theorem s383_9 : WP 383 0 9 [a0, vI x] S h Q ↔ WP 383 0 10 [a0, vI x] (vI x :: S) h Q := wp_iload rfl rfl
theorem s383_10 : WP 383 0 10 L [vI x] h Q ↔ Q (.inl (some (vI x))) h := wp_iret0 rfl rfl
/-! java/lang/Math.min(II)I -/
theorem s384_0 : WP 384 0 0 [vI x, a1] S h Q ↔ WP 384 0 1 [vI x, a1] (vI x :: S) h Q := wp_iload rfl rfl
theorem s384_1 : WP 384 0 1 [a0, vI x] S h Q ↔ WP 384 0 2 [a0, vI x] (vI x :: S) h Q := wp_iload rfl rfl
theorem s384_2 : WP 384 0 2 L (vI y :: vI x :: S) h Q ↔ zif (y < x) (WP 384 0 9 L S h Q) (WP 384 0 5 L S h Q) := wp_bE zc_gt rfl rfl rfl
theorem s384_5 : WP 384 0 5 [vI x, a1] S h Q ↔ WP 384 0 6 [vI x, a1] (vI x :: S) h Q := wp_iload rfl rfl
theorem s384_6 : WP 384 0 6 L S h Q ↔ WP 384 0 10 L S h Q := wp_pl rfl rfl rfl
theorem s384_9 : WP 384 0 9 [a0, vI x] S h Q ↔ WP 384 0 10 [a0, vI x] (vI x :: S) h Q := wp_iload rfl rfl
theorem s384_10 : WP 384 0 10 L [vI x] h Q ↔ Q (.inl (some (vI x))) h := wp_iret0 rfl rfl
/-! java/lang/Number.<init>()V -/
theorem s385_0 : WP 385 0 0 [vA r] S h Q ↔ WP 385 0 1 [vA r] (vA r :: S) h Q := wp_aload rfl rfl
theorem s385_1 : WP 385 0 1 L (vA (some a) :: S) h Q ↔ ((zw S ≤ 8 ∧ zNC ≤ a) ∧ WP 385 0 4 L S h Q) := wp_if rfl rfl rfl
theorem s385_4 : WP 385 0 4 L [] h Q ↔ Q (.inl none) h := wp_ret rfl
/-! java/lang/Object.equals(Ljava/lang/Object;)Z -/
theorem s386_0 : WP 386 0 0 [vA r, a1] S h Q ↔ WP 386 0 1 [vA r, a1] (vA r :: S) h Q := wp_aload rfl rfl
theorem s386_1 : WP 386 0 1 [a0, vA r] S h Q ↔ WP 386 0 2 [a0, vA r] (vA r :: S) h Q := wp_aload rfl rfl
theorem s386_2 : WP 386 0 2 L (vA q :: vA r :: S) h Q ↔ (zac r q = true ∧ zif (zaq .ne r q = true) (WP 386 0 9 L S h Q) (WP 386 0 5 L S h Q)) := wp_acmp (t := 9) rfl
theorem s386_5 : WP 386 0 5 L S h Q ↔ WP 386 0 6 L (vI 1 :: S) h Q := wp_pl rfl rfl rfl
theorem s386_6 : WP 386 0 6 L S h Q ↔ WP 386 0 10 L S h Q := wp_pl rfl rfl rfl
theorem s386_9 : WP 386 0 9 L S h Q ↔ WP 386 0 10 L (vI 0 :: S) h Q := wp_pl rfl rfl rfl
theorem s386_10 : WP 386 0 10 L [vI x] h Q ↔ ((x = 0 ∨ x = 1) ∧ Q (.inl (some (vI x))) h) := wp_iret rfl rfl
/-! java/lang/Object.<init>()V -/
theorem s387_0 : WP 387 0 0 L [] h Q ↔ Q (.inl none) h := wp_ret rfl
/-! java/lang/StringLatin1.canEncode(C)Z -/
theorem s388_0 : WP 388 0 0 [vI x] S h Q ↔ WP 388 0 1 [vI x] (vI x :: S) h Q := wp_iload rfl rfl
theorem s388_1 : WP 388 0 1 L S h Q ↔ WP 388 0 4 L (vI 255 :: S) h Q := wp_pl rfl rfl rfl
theorem s388_4 : WP 388 0 4 L (vI y :: vI x :: S) h Q ↔ zif (y < x) (WP 388 0 11 L S h Q) (WP 388 0 7 L S h Q) := wp_bE zc_gt rfl rfl rfl
theorem s388_7 : WP 388 0 7 L S h Q ↔ WP 388 0 8 L (vI 1 :: S) h Q := wp_pl rfl rfl rfl
theorem s388_8 : WP 388 0 8 L S h Q ↔ WP 388 0 12 L S h Q := wp_pl rfl rfl rfl
theorem s388_11 : WP 388 0 11 L S h Q ↔ WP 388 0 12 L (vI 0 :: S) h Q := wp_pl rfl rfl rfl
theorem s388_12 : WP 388 0 12 L [vI x] h Q ↔ ((x = 0 ∨ x = 1) ∧ Q (.inl (some (vI x))) h) := wp_iret rfl rfl
/-! java/lang/StringLatin1.charAt([BI)C -/
theorem s389_0 : WP 389 0 0 [a0, vI x] S h Q ↔ WP 389 0 1 [a0, vI x] (vI x :: S) h Q := wp_iload rfl rfl
theorem s389_1 : WP 389 0 1 [vA r, a1] S h Q ↔ WP 389 0 2 [vA r, a1] (vA r :: S) h Q := wp_aload rfl rfl
theorem s389_2 : WP 389 0 2 L (vA (some a) :: S) h Q ↔ ((1 ≤ (hk h a).1 ∧ (hk h a).1 ≤ 7) ∧ WP 389 0 3 L (vI ((hk h a).2 : Int) :: S) h Q) := wp_if rfl rfl rfl
theorem s389_3 : WP 389 0 3 L (vI x1 :: vI x0 :: S) h Q ↔ (zw S ≤ 8 ∧ WP 313 0 0 [vI x0, vI x1] [] h (zret 389 0 3 6 L S Q)) := wp_S rfl rfl (zcan_of rfl rfl) rfl rfl rfl
theorem s389_6 : WP 389 0 6 [vA r, a1] S h Q ↔ WP 389 0 7 [vA r, a1] (vA r :: S) h Q := wp_aload rfl rfl
theorem s389_7 : WP 389 0 7 [a0, vI x] S h Q ↔ WP 389 0 8 [a0, vI x] (vI x :: S) h Q := wp_iload rfl rfl
theorem s389_8 : WP 389 0 8 L (vI x :: vA (some a) :: S) h Q ↔ ((((hk h a).1 = 2 ∨ (hk h a).1 = 3) ∧ 0 ≤ x ∧ x < ((hk h a).2 : Int)) ∧ WP 389 0 9 L (hm h a x.toNat :: S) h Q) := wp_if rfl rfl rfl
theorem s389_9 : WP 389 0 9 L S h Q ↔ WP 389 0 12 L (vI 255 :: S) h Q := wp_pl rfl rfl rfl
theorem s389_12 : WP 389 0 12 L (vI y :: vI x :: S) h Q ↔ WP 389 0 13 L (vI (zand x y) :: S) h Q := wp_pl rfl rfl rfl
theorem s389_13 : WP 389 0 13 L (vI x :: S) h Q ↔ WP 389 0 14 L (vI (wc x) :: S) h Q := wp_pl rfl rfl rfl
theorem s389_14 : WP 389 0 14 L [vI x] h Q ↔ ((0 ≤ x ∧ x ≤ 65535) ∧ Q (.inl (some (vI x))) h) := wp_iret rfl rfl
/-! java/lang/StringLatin1.equals([B[B)Z -/
theorem s390_0 : WP 390 0 0 [vA r, a1, a2] S h Q ↔ WP 390 0 1 [vA r, a1, a2] (vA r :: S) h Q := wp_aload rfl rfl
theorem s390_1 : WP 390 0 1 L (vA (some a) :: S) h Q ↔ ((1 ≤ (hk h a).1 ∧ (hk h a).1 ≤ 7) ∧ WP 390 0 2 L (vI ((hk h a).2 : Int) :: S) h Q) := wp_if rfl rfl rfl
theorem s390_2 : WP 390 0 2 [a0, vA r, a2] S h Q ↔ WP 390 0 3 [a0, vA r, a2] (vA r :: S) h Q := wp_aload rfl rfl
theorem s390_3 : WP 390 0 3 L (vA (some a) :: S) h Q ↔ ((1 ≤ (hk h a).1 ∧ (hk h a).1 ≤ 7) ∧ WP 390 0 4 L (vI ((hk h a).2 : Int) :: S) h Q) := wp_if rfl rfl rfl
theorem s390_4 : WP 390 0 4 L (vI y :: vI x :: S) h Q ↔ zif (x = y) (WP 390 0 7 L S h Q) (WP 390 0 34 L S h Q) := wp_bN zc_eq rfl rfl rfl
theorem s390_7 : WP 390 0 7 L S h Q ↔ WP 390 0 8 L (vI 0 :: S) h Q := wp_pl rfl rfl rfl
theorem s390_8 : WP 390 0 8 [a0, a1, a2] (vI x :: S) h Q ↔ WP 390 0 9 [a0, a1, vI x] S h Q := wp_istore rfl rfl rfl
theorem s390_9 : WP 390 0 9 [a0, a1, vI x] S h Q ↔ WP 390 0 10 [a0, a1, vI x] (vI x :: S) h Q := wp_iload rfl rfl
theorem s390_10 : WP 390 0 10 [vA r, a1, a2] S h Q ↔ WP 390 0 11 [vA r, a1, a2] (vA r :: S) h Q := wp_aload rfl rfl
theorem s390_11 : WP 390 0 11 L (vA (some a) :: S) h Q ↔ ((1 ≤ (hk h a).1 ∧ (hk h a).1 ≤ 7) ∧ WP 390 0 12 L (vI ((hk h a).2 : Int) :: S) h Q) := wp_if rfl rfl rfl
theorem s390_12 : WP 390 0 12 L (vI y :: vI x :: S) h Q ↔ zif (x < y) (WP 390 0 15 L S h Q) (WP 390 0 32 L S h Q) := wp_bN zc_lt rfl rfl rfl
theorem s390_15 : WP 390 0 15 [vA r, a1, a2] S h Q ↔ WP 390 0 16 [vA r, a1, a2] (vA r :: S) h Q := wp_aload rfl rfl
theorem s390_16 : WP 390 0 16 [a0, a1, vI x] S h Q ↔ WP 390 0 17 [a0, a1, vI x] (vI x :: S) h Q := wp_iload rfl rfl
theorem s390_17 : WP 390 0 17 L (vI x :: vA (some a) :: S) h Q ↔ ((((hk h a).1 = 2 ∨ (hk h a).1 = 3) ∧ 0 ≤ x ∧ x < ((hk h a).2 : Int)) ∧ WP 390 0 18 L (hm h a x.toNat :: S) h Q) := wp_if rfl rfl rfl
theorem s390_18 : WP 390 0 18 [a0, vA r, a2] S h Q ↔ WP 390 0 19 [a0, vA r, a2] (vA r :: S) h Q := wp_aload rfl rfl
theorem s390_19 : WP 390 0 19 [a0, a1, vI x] S h Q ↔ WP 390 0 20 [a0, a1, vI x] (vI x :: S) h Q := wp_iload rfl rfl
theorem s390_20 : WP 390 0 20 L (vI x :: vA (some a) :: S) h Q ↔ ((((hk h a).1 = 2 ∨ (hk h a).1 = 3) ∧ 0 ≤ x ∧ x < ((hk h a).2 : Int)) ∧ WP 390 0 21 L (hm h a x.toNat :: S) h Q) := wp_if rfl rfl rfl
theorem s390_21 : WP 390 0 21 L (vI y :: vI x :: S) h Q ↔ zif (x = y) (WP 390 0 26 L S h Q) (WP 390 0 24 L S h Q) := wp_bE zc_eq rfl rfl rfl
theorem s390_24 : WP 390 0 24 L S h Q ↔ WP 390 0 25 L (vI 0 :: S) h Q := wp_pl rfl rfl rfl
theorem s390_25 : WP 390 0 25 L [vI x] h Q ↔ ((x = 0 ∨ x = 1) ∧ Q (.inl (some (vI x))) h) := wp_iret rfl rfl
theorem s390_26 : WP 390 0 26 [a0, a1, vI x] S h Q ↔ WP 390 0 29 [a0, a1, vI (wr (x + 1))] S h Q := wp_iinc rfl rfl rfl
theorem s390_29 : WP 390 0 29 L S h Q ↔ WP 390 0 9 L S h Q := wp_pl rfl rfl rfl
theorem s390_32 : WP 390 0 32 L S h Q ↔ WP 390 0 33 L (vI 1 :: S) h Q := wp_pl rfl rfl rfl
theorem s390_33 : WP 390 0 33 L [vI x] h Q ↔ ((x = 0 ∨ x = 1) ∧ Q (.inl (some (vI x))) h) := wp_iret rfl rfl
theorem s390_34 : WP 390 0 34 L S h Q ↔ WP 390 0 35 L (vI 0 :: S) h Q := wp_pl rfl rfl rfl
theorem s390_35 : WP 390 0 35 L [vI x] h Q ↔ ((x = 0 ∨ x = 1) ∧ Q (.inl (some (vI x))) h) := wp_iret rfl rfl
/-! java/lang/StringLatin1.hashCode([B)I -/
theorem s391_0 : WP 391 0 0 [vA r] S h Q ↔ WP 391 0 1 [vA r] (vA r :: S) h Q := wp_aload rfl rfl
theorem s391_1 : WP 391 0 1 L (vA (some a) :: S) h Q ↔ ((1 ≤ (hk h a).1 ∧ (hk h a).1 ≤ 7) ∧ WP 391 0 2 L (vI ((hk h a).2 : Int) :: S) h Q) := wp_if rfl rfl rfl
theorem s391_2 : WP 391 0 2 L (vI x :: S) h Q ↔ WP 391 0 (zlsw x 42 [(0, 28), (1, 32)]) L S h Q := wp_pl rfl rfl rfl
theorem s391_28 : WP 391 0 28 L S h Q ↔ WP 391 0 29 L (vI 0 :: S) h Q := wp_pl rfl rfl rfl
theorem s391_29 : WP 391 0 29 L S h Q ↔ WP 391 0 51 L S h Q := wp_pl rfl rfl rfl
theorem s391_32 : WP 391 0 32 [vA r] S h Q ↔ WP 391 0 33 [vA r] (vA r :: S) h Q := wp_aload rfl rfl
theorem s391_33 : WP 391 0 33 L S h Q ↔ WP 391 0 34 L (vI 0 :: S) h Q := wp_pl rfl rfl rfl
theorem s391_34 : WP 391 0 34 L (vI x :: vA (some a) :: S) h Q ↔ ((((hk h a).1 = 2 ∨ (hk h a).1 = 3) ∧ 0 ≤ x ∧ x < ((hk h a).2 : Int)) ∧ WP 391 0 35 L (hm h a x.toNat :: S) h Q) := wp_if rfl rfl rfl
theorem s391_35 : WP 391 0 35 L S h Q ↔ WP 391 0 38 L (vI 255 :: S) h Q := wp_pl rfl rfl rfl
theorem s391_38 : WP 391 0 38 L (vI y :: vI x :: S) h Q ↔ WP 391 0 39 L (vI (zand x y) :: S) h Q := wp_pl rfl rfl rfl
theorem s391_39 : WP 391 0 39 L S h Q ↔ WP 391 0 51 L S h Q := wp_pl rfl rfl rfl
theorem s391_42 : WP 391 0 42 [vA r] S h Q ↔ WP 391 0 43 [vA r] (vA r :: S) h Q := wp_aload rfl rfl
theorem s391_43 : WP 391 0 43 L S h Q ↔ WP 391 0 44 L (vI 0 :: S) h Q := wp_pl rfl rfl rfl
theorem s391_44 : WP 391 0 44 [vA r] S h Q ↔ WP 391 0 45 [vA r] (vA r :: S) h Q := wp_aload rfl rfl
theorem s391_45 : WP 391 0 45 L (vA (some a) :: S) h Q ↔ ((1 ≤ (hk h a).1 ∧ (hk h a).1 ≤ 7) ∧ WP 391 0 46 L (vI ((hk h a).2 : Int) :: S) h Q) := wp_if rfl rfl rfl
theorem s391_46 : WP 391 0 46 L S h Q ↔ WP 391 0 47 L (vI 0 :: S) h Q := wp_pl rfl rfl rfl
theorem s391_47 : WP 391 0 47 L S h Q ↔ WP 391 0 48 L (vI 4 :: S) h Q := wp_pl rfl rfl rfl
theorem s391_48 : WP 391 0 48 L (vI x4 :: vI x3 :: vI x2 :: vI x1 :: vA r0 :: S) h Q ↔ (zw S ≤ 8 ∧ WP 419 0 0 [vA r0, vI x1, vI x2, vI x3, vI x4] [] h (zret 391 0 48 51 L S Q)) := wp_S rfl rfl (zcan_of rfl rfl) rfl rfl rfl
theorem s391_51 : WP 391 0 51 L [vI x] h Q ↔ Q (.inl (some (vI x))) h := wp_iret0 rfl rfl
/-! java/lang/StringLatin1.newString([BII)Ljava/lang/String; -/
theorem s392_0 : WP 392 0 0 [a0, a1, vI x] S h Q ↔ WP 392 0 1 [a0, a1, vI x] (vI x :: S) h Q := wp_iload rfl rfl
theorem s392_1 : WP 392 0 1 L (vI x :: S) h Q ↔ zif (x = 0) (WP 392 0 4 L S h Q) (WP 392 0 7 L S h Q) := wp_bN zc_eq rfl rfl rfl
theorem s392_4 : WP 392 0 4 L S h Q ↔ WP 392 0 6 L (vA (some 36) :: S) h Q := wp_pl rfl rfl rfl
theorem s392_6 : WP 392 0 6 L [vA r] h Q ↔ Q (.inl (some (vA r))) h := wp_aret rfl
theorem s392_7 : WP 392 0 7 L S h Q ↔ WP 392 0 10 L (vA (some (hn h)) :: S) (hnew h (117, 0) 4 zdf) Q := wp_pl rfl rfl rfl
theorem s392_10 : WP 392 0 10 L (vA r :: S) h Q ↔ WP 392 0 11 L (vA r :: vA r :: S) h Q := wp_pl rfl rfl rfl
theorem s392_10i : WP 392 0 10 L (vI x :: S) h Q ↔ WP 392 0 11 L (vI x :: vI x :: S) h Q := wp_pl rfl rfl rfl
theorem s392_11 : WP 392 0 11 [vA r, a1, a2] S h Q ↔ WP 392 0 12 [vA r, a1, a2] (vA r :: S) h Q := wp_aload rfl rfl
theorem s392_12 : WP 392 0 12 [a0, vI x, a2] S h Q ↔ WP 392 0 13 [a0, vI x, a2] (vI x :: S) h Q := wp_iload rfl rfl
theorem s392_13 : WP 392 0 13 [a0, vI x, a2] S h Q ↔ WP 392 0 14 [a0, vI x, a2] (vI x :: S) h Q := wp_iload rfl rfl
theorem s392_14 : WP 392 0 14 [a0, a1, vI x] S h Q ↔ WP 392 0 15 [a0, a1, vI x] (vI x :: S) h Q := wp_iload rfl rfl
theorem s392_15 : WP 392 0 15 L (vI y :: vI x :: S) h Q ↔ WP 392 0 16 L (vI (wr (x + y)) :: S) h Q := wp_pl rfl rfl rfl
theorem s392_16 : WP 392 0 16 L (vI x2 :: vI x1 :: vA r0 :: S) h Q ↔ (zw S ≤ 8 ∧ WP 401 0 0 [vA r0, vI x1, vI x2] [] h (zret 392 0 16 19 L S Q)) := wp_S rfl rfl (zcan_of rfl rfl) rfl rfl rfl
theorem s392_19 : WP 392 0 19 L S h Q ↔ WP 392 0 20 L (vI 0 :: S) h Q := wp_pl rfl rfl rfl
theorem s392_20 : WP 392 0 20 L (vI x1 :: vA r0 :: vA (some a) :: S) h Q ↔ ((zNC ≤ a ∧ 100 ≤ (hk h a).1) ∧ zw S ≤ 8 ∧ WP 320 0 0 [vA (some a), vA r0, vI x1] [] h (zret 392 0 20 23 L S Q)) := wp_I rfl rfl rfl (zcan_of rfl rfl) rfl rfl rfl
theorem s392_23 : WP 392 0 23 L [vA r] h Q ↔ Q (.inl (some (vA r))) h := wp_aret rfl
/-! java/lang/Throwable.<init>(Ljava/lang/String;Ljava/lang/Throwable;ZZ)V -/
theorem s393_0 : WP 393 0 0 [vA r, a1, a2, a3, a4] S h Q ↔ WP 393 0 1 [vA r, a1, a2, a3, a4] (vA r :: S) h Q := wp_aload rfl rfl
theorem s393_1 : WP 393 0 1 L (vA (some a) :: S) h Q ↔ ((zw S ≤ 8 ∧ zNC ≤ a) ∧ WP 393 0 4 L S h Q) := wp_if rfl rfl rfl
theorem s393_4 : WP 393 0 4 [vA r, a1, a2, a3, a4] S h Q ↔ WP 393 0 5 [vA r, a1, a2, a3, a4] (vA r :: S) h Q := wp_aload rfl rfl
theorem s393_5 : WP 393 0 5 [vA r, a1, a2, a3, a4] S h Q ↔ WP 393 0 6 [vA r, a1, a2, a3, a4] (vA r :: S) h Q := wp_aload rfl rfl
theorem s393_6 : WP 393 0 6 L (vA r :: vA (some a) :: S) h Q ↔ ((zNC ≤ a ∧ zhas 38 (hk h a) = true) ∧ WP 393 0 9 L S (hput h a 38 (vA r)) Q) := wp_put3 rfl rfl
theorem s393_9 : WP 393 0 9 [vA r, a1, a2, a3, a4] S h Q ↔ WP 393 0 10 [vA r, a1, a2, a3, a4] (vA r :: S) h Q := wp_aload rfl rfl
theorem s393_10 : WP 393 0 10 L S h Q ↔ WP 393 0 13 L (vA (some 0) :: S) h Q := wp_pl rfl rfl rfl
theorem s393_13 : WP 393 0 13 L (vA r :: vA (some a) :: S) h Q ↔ ((zNC ≤ a ∧ zhas 39 (hk h a) = true) ∧ WP 393 0 16 L S (hput h a 39 (vA r)) Q) := wp_put3 rfl rfl
theorem s393_16 : WP 393 0 16 [vA r, a1, a2, a3, a4] S h Q ↔ WP 393 0 17 [vA r, a1, a2, a3, a4] (vA r :: S) h Q := wp_aload rfl rfl
theorem s393_17 : WP 393 0 17 L S h Q ↔ WP 393 0 20 L (vA (some 1) :: S) h Q := wp_pl rfl rfl rfl
theorem s393_20 : WP 393 0 20 L (vA r :: vA (some a) :: S) h Q ↔ ((zNC ≤ a ∧ zhas 40 (hk h a) = true) ∧ WP 393 0 23 L S (hput h a 40 (vA r)) Q) := wp_put3 rfl rfl
theorem s393_23 : WP 393 0 23 [a0, a1, a2, a3, vI x] S h Q ↔ WP 393 0 25 [a0, a1, a2, a3, vI x] (vI x :: S) h Q := wp_iload rfl rfl
theorem s393_25 : WP 393 0 25 L (vI x :: S) h Q ↔ zif (x = 0) (WP 393 0 36 L S h Q) (WP 393 0 28 L S h Q) := wp_bE zc_eq rfl rfl rfl
theorem s393_28 : WP 393 0 28 [vA r, a1, a2, a3, a4] S h Q ↔ WP 393 0 29 [vA r, a1, a2, a3, a4] (vA r :: S) h Q := wp_aload rfl rfl
theorem s393_32 : WP 393 0 32 L (vA r :: S) h Q ↔ WP 393 0 33 L S h Q := wp_pl rfl rfl rfl
theorem s393_32i : WP 393 0 32 L (vI x :: S) h Q ↔ WP 393 0 33 L S h Q := wp_pl rfl rfl rfl
theorem s393_33 : WP 393 0 33 L S h Q ↔ WP 393 0 41 L S h Q := wp_pl rfl rfl rfl
theorem s393_36 : WP 393 0 36 [vA r, a1, a2, a3, a4] S h Q ↔ WP 393 0 37 [vA r, a1, a2, a3, a4] (vA r :: S) h Q := wp_aload rfl rfl
theorem s393_37 : WP 393 0 37 L S h Q ↔ WP 393 0 38 L (vA none :: S) h Q := wp_pl rfl rfl rfl
theorem s393_38 : WP 393 0 38 L (vA r :: vA (some a) :: S) h Q ↔ ((zNC ≤ a ∧ zhas 39 (hk h a) = true) ∧ WP 393 0 41 L S (hput h a 39 (vA r)) Q) := wp_put3 rfl rfl
theorem s393_41 : WP 393 0 41 [vA r, a1, a2, a3, a4] S h Q ↔ WP 393 0 42 [vA r, a1, a2, a3, a4] (vA r :: S) h Q := wp_aload rfl rfl
theorem s393_42 : WP 393 0 42 [a0, vA r, a2, a3, a4] S h Q ↔ WP 393 0 43 [a0, vA r, a2, a3, a4] (vA r :: S) h Q := wp_aload rfl rfl
theorem s393_43 : WP 393 0 43 L (vA r :: vA (some a) :: S) h Q ↔ ((zNC ≤ a ∧ zhas 41 (hk h a) = true) ∧ WP 393 0 46 L S (hput h a 41 (vA r)) Q) := wp_put3 rfl rfl
theorem s393_46 : WP 393 0 46 [vA r, a1, a2, a3, a4] S h Q ↔ WP 393 0 47 [vA r, a1, a2, a3, a4] (vA r :: S) h Q := wp_aload rfl rfl
theorem s393_47 : WP 393 0 47 [a0, a1, vA r, a3, a4] S h Q ↔ WP 393 0 48 [a0, a1, vA r, a3, a4] (vA r :: S) h Q := wp_aload rfl rfl
theorem s393_48 : WP 393 0 48 L (vA r :: vA (some a) :: S) h Q ↔ ((zNC ≤ a ∧ zhas 38 (hk h a) = true) ∧ WP 393 0 51 L S (hput h a 38 (vA r)) Q) := wp_put3 rfl rfl
theorem s393_51 : WP 393 0 51 [a0, a1, a2, vI x, a4] S h Q ↔ WP 393 0 52 [a0, a1, a2, vI x, a4] (vI x :: S) h Q := wp_iload rfl rfl
theorem s393_52 : WP 393 0 52 L (vI x :: S) h Q ↔ zif (x = 0) (WP 393 0 55 L S h Q) (WP 393 0 60 L S h Q) := wp_bN zc_eq rfl rfl rfl
theorem s393_55 : WP 393 0 55 [vA r, a1, a2, a3, a4] S h Q ↔ WP 393 0 56 [vA r, a1, a2, a3, a4] (vA r :: S) h Q := wp_aload rfl rfl
theorem s393_56 : WP 393 0 56 L S h Q ↔ WP 393 0 57 L (vA none :: S) h Q := wp_pl rfl rfl rfl
theorem s393_57 : WP 393 0 57 L (vA r :: vA (some a) :: S) h Q ↔ ((zNC ≤ a ∧ zhas 40 (hk h a) = true) ∧ WP 393 0 60 L S (hput h a 40 (vA r)) Q) := wp_put3 rfl rfl
theorem s393_60 : WP 393 0 60 L [] h Q ↔ Q (.inl none) h := wp_ret rfl
/-! java/util/AbstractCollection.<init>()V -/
theorem s394_0 : WP 394 0 0 [vA r] S h Q ↔ WP 394 0 1 [vA r] (vA r :: S) h Q := wp_aload rfl rfl
theorem s394_1 : WP 394 0 1 L (vA (some a) :: S) h Q ↔ ((zw S ≤ 8 ∧ zNC ≤ a) ∧ WP 394 0 4 L S h Q) := wp_if rfl rfl rfl
theorem s394_4 : WP 394 0 4 L [] h Q ↔ Q (.inl none) h := wp_ret rfl
/-! java/util/AbstractList.<init>()V -/
theorem s395_0 : WP 395 0 0 [vA r] S h Q ↔ WP 395 0 1 [vA r] (vA r :: S) h Q := wp_aload rfl rfl
theorem s395_1 : WP 395 0 1 L (vA (some a) :: S) h Q ↔ ((zNC ≤ a ∧ 100 ≤ (hk h a).1) ∧ zw S ≤ 8 ∧ WP 394 0 0 [vA (some a)] [] h (zret 395 0 1 4 L S Q)) := wp_I rfl rfl rfl (zcan_of rfl rfl) rfl rfl rfl
theorem s395_4 : WP 395 0 4 [vA r] S h Q ↔ WP 395 0 5 [vA r] (vA r :: S) h Q := wp_aload rfl rfl
theorem s395_5 : WP 395 0 5 L S h Q ↔ WP 395 0 6 L (vI 0 :: S) h Q := wp_pl rfl rfl rfl
theorem s395_6 : WP 395 0 6 L (vI x :: vA (some a) :: S) h Q ↔ ((zNC ≤ a ∧ zhas 77 (hk h a) = true) ∧ WP 395 0 9 L S (hput h a 77 (vI x)) Q) := wp_put0 rfl rfl
theorem s395_9 : WP 395 0 9 L [] h Q ↔ Q (.inl none) h := wp_ret rfl
/-! java/util/AbstractList.listIterator()Ljava/util/ListIterator; -/
theorem s396_0 : WP 396 0 0 [vA r] S h Q ↔ WP 396 0 1 [vA r] (vA r :: S) h Q := wp_aload rfl rfl
theorem s396_1 : WP 396 0 1 L S h Q ↔ WP 396 0 2 L (vI 0 :: S) h Q := wp_pl rfl rfl rfl
theorem s396_2 : WP 396 0 2 L (vI x0 :: vA (some a) :: S) h Q ↔ ((hk h a).1 = 111 ∧ (zw S ≤ 8 ∧ WP 267 0 0 [vA (some a), vI x0] [] h (zret 396 0 2 5 L S Q))) := wp_V1 (c := 111) rfl rfl (fun _ => rfl) rfl rfl (zcan_of rfl rfl) rfl rfl rfl
theorem s396_5 : WP 396 0 5 L [vA r] h Q ↔ Q (.inl (some (vA r))) h := wp_aret rfl
/-! java/util/AbstractSequentialList.<init>()V -/
theorem s397_0 : WP 397 0 0 [vA r] S h Q ↔ WP 397 0 1 [vA r] (vA r :: S) h Q := wp_aload rfl rfl
theorem s397_1 : WP 397 0 1 L (vA (some a) :: S) h Q ↔ ((zNC ≤ a ∧ 100 ≤ (hk h a).1) ∧ zw S ≤ 8 ∧ WP 395 0 0 [vA (some a)] [] h (zret 397 0 1 4 L S Q)) := wp_I rfl rfl rfl (zcan_of rfl rfl) rfl rfl rfl
theorem s397_4 : WP 397 0 4 L [] h Q ↔ Q (.inl none) h := wp_ret rfl
/-! java/util/AbstractSequentialList.iterator()Ljava/util/Iterator; -/
theorem s398_0 : WP 398 0 0 [vA r] S h Q ↔ WP 398 0 1 [vA r] (vA r :: S) h Q := wp_aload rfl rfl
theorem s398_1 : WP 398 0 1 L (vA (some a) :: S) h Q ↔ ((hk h a).1 = 111 ∧ (zw S ≤ 8 ∧ WP 396 0 0 [vA (some a)] [] h (zret 398 0 1 4 L S Q))) := wp_V1 (c := 111) rfl rfl (fun _ => rfl) rfl rfl (zcan_of rfl rfl) rfl rfl rfl
theorem s398_4 : WP 398 0 4 L [vA r] h Q ↔ Q (.inl (some (vA r))) h := wp_aret rfl
/-! java/util/Arrays.checkLength(II)V -/
theorem s399_0 : WP 399 0 0 [a0, vI x] S h Q ↔ WP 399 0 1 [a0, vI x] (vI x :: S) h Q := wp_iload rfl rfl
theorem s399_1 : WP 399 0 1 [vI x, a1] S h Q ↔ WP 399 0 2 [vI x, a1] (vI x :: S) h Q := wp_iload rfl rfl
theorem s399_2 : WP 399 0 2 L (vI y :: vI x :: S) h Q ↔ zif (x < y) (WP 399 0 5 L S h Q) (WP 399 0 37 L S h Q) := wp_bN zc_lt rfl rfl rfl
theorem s399_8 : WP 399 0 8 L (vA r :: S) h Q ↔ WP 399 0 9 L (vA r :: vA r :: S) h Q := wp_pl rfl rfl rfl
theorem s399_8i : WP 399 0 8 L (vI x :: S) h Q ↔ WP 399 0 9 L (vI x :: vI x :: S) h Q := wp_pl rfl rfl rfl
theorem s399_9 : WP 399 0 9 L S h Q ↔ WP 399 0 12 L (vA (some (hn h)) :: S) (hnew h (116, 0) 4 zdf) Q := wp_pl rfl rfl rfl
theorem s399_12 : WP 399 0 12 L (vA r :: S) h Q ↔ WP 399 0 13 L (vA r :: vA r :: S) h Q := wp_pl rfl rfl rfl
theorem s399_12i : WP 399 0 12 L (vI x :: S) h Q ↔ WP 399 0 13 L (vI x :: vI x :: S) h Q := wp_pl rfl rfl rfl
theorem s399_16 : WP 399 0 16 [vI x, a1] S h Q ↔ WP 399 0 17 [vI x, a1] (vI x :: S) h Q := wp_iload rfl rfl
theorem s399_20 : WP 399 0 20 L S h Q ↔ WP 399 0 23 L (vA (some 20) :: S) h Q := wp_pl rfl rfl rfl
theorem s399_26 : WP 399 0 26 [a0, vI x] S h Q ↔ WP 399 0 27 [a0, vI x] (vI x :: S) h Q := wp_iload rfl rfl
theorem s399_36 : WP 399 0 36 L (vA (some a) :: S) h Q ↔ ((((120 ≤ (hk h a).1 ∧ (hk h a).1 ≤ 123) ∨ (hk h a).1 = 109)) ∧ Q (.inr a) h) := wp_athrow (fun _ => rfl) rfl
theorem s399_37 : WP 399 0 37 L [] h Q ↔ Q (.inl none) h := wp_ret rfl
/-! java/util/Arrays.copyOf([BI)[B -/
theorem s400_0 : WP 400 0 0 [a0, vI x, a2] S h Q ↔ WP 400 0 1 [a0, vI x, a2] (vI x :: S) h Q := wp_iload rfl rfl
theorem s400_1 : WP 400 0 1 [vA r, a1, a2] S h Q ↔ WP 400 0 2 [vA r, a1, a2] (vA r :: S) h Q := wp_aload rfl rfl
theorem s400_2 : WP 400 0 2 L (vA (some a) :: S) h Q ↔ ((1 ≤ (hk h a).1 ∧ (hk h a).1 ≤ 7) ∧ WP 400 0 3 L (vI ((hk h a).2 : Int) :: S) h Q) := wp_if rfl rfl rfl
theorem s400_3 : WP 400 0 3 L (vI y :: vI x :: S) h Q ↔ zif (x = y) (WP 400 0 6 L S h Q) (WP 400 0 14 L S h Q) := wp_bN zc_eq rfl rfl rfl
theorem s400_6 : WP 400 0 6 [vA r, a1, a2] S h Q ↔ WP 400 0 7 [vA r, a1, a2] (vA r :: S) h Q := wp_aload rfl rfl
theorem s400_7 : WP 400 0 7 L (vA (some a) :: S) h Q ↔ (((hk h a).1 = 2 ∧ zNC ≤ a ∧ zw S ≤ 8) ∧ WP 400 0 10 L (vA (some (hn h)) :: S) (hnew h (hk h a) (hk h a).2 (hm h a)) Q) := wp_if rfl rfl rfl
theorem s400_10n : WP 400 0 10 L (vA none :: S) h Q ↔ WP 400 0 13 L (vA none :: S) h Q := wp_pl rfl rfl rfl
theorem s400_10 : WP 400 0 10 L (vA (some a) :: S) h Q ↔ (zCX 8 (hk h a).1 a = true ∧ WP 400 0 13 L (vA (some a) :: S) h Q) := wp_if rfl rfl rfl
theorem s400_13 : WP 400 0 13 L [vA r] h Q ↔ Q (.inl (some (vA r))) h := wp_aret rfl
theorem s400_14 : WP 400 0 14 [a0, vI x, a2] S h Q ↔ WP 400 0 15 [a0, vI x, a2] (vI x :: S) h Q := wp_iload rfl rfl
theorem s400_15 : WP 400 0 15 L (vI x :: S) h Q ↔ ((0 ≤ x ∧ x ≤ 1000000) ∧ WP 400 0 17 L (vA (some (hn h)) :: S) (hnew h (2, x.toNat) x.toNat (fun _ => vI 0)) Q) := wp_if rfl rfl rfl
theorem s400_17 : WP 400 0 17 [a0, a1, a2] (vA r :: S) h Q ↔ WP 400 0 18 [a0, a1, vA r] S h Q := wp_astore rfl rfl rfl
theorem s400_18 : WP 400 0 18 [vA r, a1, a2] S h Q ↔ WP 400 0 19 [vA r, a1, a2] (vA r :: S) h Q := wp_aload rfl rfl
theorem s400_19 : WP 400 0 19 L S h Q ↔ WP 400 0 20 L (vI 0 :: S) h Q := wp_pl rfl rfl rfl
theorem s400_20 : WP 400 0 20 [a0, a1, vA r] S h Q ↔ WP 400 0 21 [a0, a1, vA r] (vA r :: S) h Q := wp_aload rfl rfl
theorem s400_21 : WP 400 0 21 L S h Q ↔ WP 400 0 22 L (vI 0 :: S) h Q := wp_pl rfl rfl rfl
theorem s400_22 : WP 400 0 22 [vA r, a1, a2] S h Q ↔ WP 400 0 23 [vA r, a1, a2] (vA r :: S) h Q := wp_aload rfl rfl
theorem s400_23 : WP 400 0 23 L (vA (some a) :: S) h Q ↔ ((1 ≤ (hk h a).1 ∧ (hk h a).1 ≤ 7) ∧ WP 400 0 24 L (vI ((hk h a).2 : Int) :: S) h Q) := wp_if rfl rfl rfl
theorem s400_24 : WP 400 0 24 [a0, vI x, a2] S h Q ↔ WP 400 0 25 [a0, vI x, a2] (vI x :: S) h Q := wp_iload rfl rfl
theorem s400_25 : WP 400 0 25 L (vI x1 :: vI x0 :: S) h Q ↔ (zw S ≤ 8 ∧ WP 384 0 0 [vI x0, vI x1] [] h (zret 400 0 25 28 L S Q)) := wp_S rfl rfl (zcan_of rfl rfl) rfl rfl rfl
theorem s400_28 : WP 400 0 28 L (vI z :: vI y :: vA (some b) :: vI x :: vA (some a) :: S) h Q ↔ ((((hk h a).1 = (hk h b).1 ∧ ((hk h a).1 = 2 ∨ (hk h a).1 = 4)) ∧ (0 ≤ x ∧ 0 ≤ y ∧ 0 ≤ z ∧ x + z ≤ ((hk h a).2 : Int) ∧ y + z ≤ ((hk h b).2 : Int)) ∧ a ≠ b ∧ zNC ≤ b ∧ zw S ≤ 8) ∧ WP 400 0 31 L S (zcpy h a x.toNat b y.toNat z.toNat) Q) := wp_if rfl rfl rfl
theorem s400_31 : WP 400 0 31 [a0, a1, vA r] S h Q ↔ WP 400 0 32 [a0, a1, vA r] (vA r :: S) h Q := wp_aload rfl rfl
theorem s400_32 : WP 400 0 32 L [vA r] h Q ↔ Q (.inl (some (vA r))) h := wp_aret rfl
/-! java/util/Arrays.copyOfRange([BII)[B -/
theorem s401_0 : WP 401 0 0 [a0, vI x, a2] S h Q ↔ WP 401 0 1 [a0, vI x, a2] (vI x :: S) h Q := wp_iload rfl rfl
theorem s401_1 : WP 401 0 1 L (vI x :: S) h Q ↔ zif (x = 0) (WP 401 0 4 L S h Q) (WP 401 0 10 L S h Q) := wp_bN zc_eq rfl rfl rfl
theorem s401_4 : WP 401 0 4 [a0, a1, vI x] S h Q ↔ WP 401 0 5 [a0, a1, vI x] (vI x :: S) h Q := wp_iload rfl rfl
theorem s401_5 : WP 401 0 5 [vA r, a1, a2] S h Q ↔ WP 401 0 6 [vA r, a1, a2] (vA r :: S) h Q := wp_aload rfl rfl
theorem s401_6 : WP 401 0 6 L (vA (some a) :: S) h Q ↔ ((1 ≤ (hk h a).1 ∧ (hk h a).1 ≤ 7) ∧ WP 401 0 7 L (vI ((hk h a).2 : Int) :: S) h Q) := wp_if rfl rfl rfl
theorem s401_7 : WP 401 0 7 L (vI y :: vI x :: S) h Q ↔ zif (x = y) (WP 401 0 17 L S h Q) (WP 401 0 10 L S h Q) := wp_bE zc_eq rfl rfl rfl
theorem s401_10 : WP 401 0 10 [vA r, a1, a2] S h Q ↔ WP 401 0 11 [vA r, a1, a2] (vA r :: S) h Q := wp_aload rfl rfl
theorem s401_11 : WP 401 0 11 [a0, vI x, a2] S h Q ↔ WP 401 0 12 [a0, vI x, a2] (vI x :: S) h Q := wp_iload rfl rfl
theorem s401_12 : WP 401 0 12 [a0, a1, vI x] S h Q ↔ WP 401 0 13 [a0, a1, vI x] (vI x :: S) h Q := wp_iload rfl rfl
theorem s401_13 : WP 401 0 13 L (vI x2 :: vI x1 :: vA r0 :: S) h Q ↔ (zw S ≤ 8 ∧ WP 402 0 0 [vA r0, vI x1, vI x2, vJ, vJ] [] h (zret 401 0 13 16 L S Q)) := wp_S rfl rfl (zcan_of rfl rfl) rfl rfl rfl
theorem s401_16 : WP 401 0 16 L [vA r] h Q ↔ Q (.inl (some (vA r))) h := wp_aret rfl
theorem s401_17 : WP 401 0 17 [vA r, a1, a2] S h Q ↔ WP 401 0 18 [vA r, a1, a2] (vA r :: S) h Q := wp_aload rfl rfl
theorem s401_18 : WP 401 0 18 L (vA (some a) :: S) h Q ↔ (((hk h a).1 = 2 ∧ zNC ≤ a ∧ zw S ≤ 8) ∧ WP 401 0 21 L (vA (some (hn h)) :: S) (hnew h (hk h a) (hk h a).2 (hm h a)) Q) := wp_if rfl rfl rfl
theorem s401_21n : WP 401 0 21 L (vA none :: S) h Q ↔ WP 401 0 24 L (vA none :: S) h Q := wp_pl rfl rfl rfl
theorem s401_21 : WP 401 0 21 L (vA (some a) :: S) h Q ↔ (zCX 8 (hk h a).1 a = true ∧ WP 401 0 24 L (vA (some a) :: S) h Q) := wp_if rfl rfl rfl
theorem s401_24 : WP 401 0 24 L [vA r] h Q ↔ Q (.inl (some (vA r))) h := wp_aret rfl
/-! java/util/Arrays.copyOfRangeByte([BII)[B -/
theorem s402_0 : WP 402 0 0 [a0, vI x, a2, a3, a4] S h Q ↔ WP 402 0 1 [a0, vI x, a2, a3, a4] (vI x :: S) h Q := wp_iload rfl rfl
theorem s402_1 : WP 402 0 1 [a0, a1, vI x, a3, a4] S h Q ↔ WP 402 0 2 [a0, a1, vI x, a3, a4] (vI x :: S) h Q := wp_iload rfl rfl
theorem s402_2 : WP 402 0 2 L (vI x1 :: vI x0 :: S) h Q ↔ (zw S ≤ 8 ∧ WP 399 0 0 [vI x0, vI x1] [] h (zret 402 0 2 5 L S Q)) := wp_S rfl rfl (zcan_of rfl rfl) rfl rfl rfl
theorem s402_5 : WP 402 0 5 [a0, a1, vI x, a3, a4] S h Q ↔ WP 402 0 6 [a0, a1, vI x, a3, a4] (vI x :: S) h Q := wp_iload rfl rfl
theorem s402_6 : WP 402 0 6 [a0, vI x, a2, a3, a4] S h Q ↔ WP 402 0 7 [a0, vI x, a2, a3, a4] (vI x :: S) h Q := wp_iload rfl rfl
theorem s402_7 : WP 402 0 7 L (vI y :: vI x :: S) h Q ↔ WP 402 0 8 L (vI (wr (x - y)) :: S) h Q := wp_pl rfl rfl rfl
theorem s402_8 : WP 402 0 8 [a0, a1, a2, a3, a4] (vI x :: S) h Q ↔ WP 402 0 9 [a0, a1, a2, vI x, a4] S h Q := wp_istore rfl rfl rfl
theorem s402_9 : WP 402 0 9 [a0, a1, a2, vI x, a4] S h Q ↔ WP 402 0 10 [a0, a1, a2, vI x, a4] (vI x :: S) h Q := wp_iload rfl rfl
theorem s402_10 : WP 402 0 10 L (vI x :: S) h Q ↔ ((0 ≤ x ∧ x ≤ 1000000) ∧ WP 402 0 12 L (vA (some (hn h)) :: S) (hnew h (2, x.toNat) x.toNat (fun _ => vI 0)) Q) := wp_if rfl rfl rfl
theorem s402_12 : WP 402 0 12 [a0, a1, a2, a3, a4] (vA r :: S) h Q ↔ WP 402 0 14 [a0, a1, a2, a3, vA r] S h Q := wp_astore rfl rfl rfl
theorem s402_14 : WP 402 0 14 [vA r, a1, a2, a3, a4] S h Q ↔ WP 402 0 15 [vA r, a1, a2, a3, a4] (vA r :: S) h Q := wp_aload rfl rfl
theorem s402_15 : WP 402 0 15 [a0, vI x, a2, a3, a4] S h Q ↔ WP 402 0 16 [a0, vI x, a2, a3, a4] (vI x :: S) h Q := wp_iload rfl rfl
theorem s402_16 : WP 402 0 16 [a0, a1, a2, a3, vA r] S h Q ↔ WP 402 0 18 [a0, a1, a2, a3, vA r] (vA r :: S) h Q := wp_aload rfl rfl
theorem s402_18 : WP 402 0 18 L S h Q ↔ WP 402 0 19 L (vI 0 :: S) h Q := wp_pl rfl rfl rfl
theorem s402_19 : WP 402 0 19 [vA r, a1, a2, a3, a4] S h Q ↔ WP 402 0 20 [vA r, a1, a2, a3, a4] (vA r :: S) h Q := wp_aload rfl rfl
theorem s402_20 : WP 402 0 20 L (vA (some a) :: S) h Q ↔ ((1 ≤ (hk h a).1 ∧ (hk h a).1 ≤ 7) ∧ WP 402 0 21 L (vI ((hk h a).2 : Int) :: S) h Q) := wp_if rfl rfl rfl
theorem s402_21 : WP 402 0 21 [a0, vI x, a2, a3, a4] S h Q ↔ WP 402 0 22 [a0, vI x, a2, a3, a4] (vI x :: S) h Q := wp_iload rfl rfl
theorem s402_22 : WP 402 0 22 L (vI y :: vI x :: S) h Q ↔ WP 402 0 23 L (vI (wr (x - y)) :: S) h Q := wp_pl rfl rfl rfl
theorem s402_23 : WP 402 0 23 [a0, a1, a2, vI x, a4] S h Q ↔ WP 402 0 24 [a0, a1, a2, vI x, a4] (vI x :: S) h Q := wp_iload rfl rfl
theorem s402_24 : WP 402 0 24 L (vI x1 :: vI x0 :: S) h Q ↔ (zw S ≤ 8 ∧ WP 384 0 0 [vI x0, vI x1] [] h (zret 402 0 24 27 L S Q)) := wp_S rfl rfl (zcan_of rfl rfl) rfl rfl rfl
theorem s402_27 : WP 402 0 27 L (vI z :: vI y :: vA (some b) :: vI x :: vA (some a) :: S) h Q ↔ ((((hk h a).1 = (hk h b).1 ∧ ((hk h a).1 = 2 ∨ (hk h a).1 = 4)) ∧ (0 ≤ x ∧ 0 ≤ y ∧ 0 ≤ z ∧ x + z ≤ ((hk h a).2 : Int) ∧ y + z ≤ ((hk h b).2 : Int)) ∧ a ≠ b ∧ zNC ≤ b ∧ zw S ≤ 8) ∧ WP 402 0 30 L S (zcpy h a x.toNat b y.toNat z.toNat) Q) := wp_if rfl rfl rfl
theorem s402_30 : WP 402 0 30 [a0, a1, a2, a3, vA r] S h Q ↔ WP 402 0 32 [a0, a1, a2, a3, vA r] (vA r :: S) h Q := wp_aload rfl rfl
theorem s402_32 : WP 402 0 32 L [vA r] h Q ↔ Q (.inl (some (vA r))) h := wp_aret rfl
/-! java/util/Arrays.copyOf([Ljava/lang/Object;I)[Ljava/lang/Object; -/
theorem s403_0 : WP 403 0 0 [vA r, a1] S h Q ↔ WP 403 0 1 [vA r, a1] (vA r :: S) h Q := wp_aload rfl rfl
theorem s403_1 : WP 403 0 1 [a0, vI x] S h Q ↔ WP 403 0 2 [a0, vI x] (vI x :: S) h Q := wp_iload rfl rfl
theorem s403_2 : WP 403 0 2 [vA r, a1] S h Q ↔ WP 403 0 3 [vA r, a1] (vA r :: S) h Q := wp_aload rfl rfl
theorem s403_6 : WP 403 0 6 L (vA r2 :: vI x1 :: vA r0 :: S) h Q ↔ (zw S ≤ 8 ∧ WP 404 0 0 [vA r0, vI x1, vA r2, vJ] [] h (zret 403 0 6 9 L S Q)) := wp_S rfl rfl (zcan_of rfl rfl) rfl rfl rfl
theorem s403_9 : WP 403 0 9 L [vA r] h Q ↔ Q (.inl (some (vA r))) h := wp_aret rfl
/-! java/util/Arrays.copyOf([Ljava/lang/Object;ILjava/lang/Class;)[Ljava/lang/Object; -/
theorem s404_0 : WP 404 0 0 [a0, a1, vA r, a3] S h Q ↔ WP 404 0 1 [a0, a1, vA r, a3] (vA r :: S) h Q := wp_aload rfl rfl
theorem s404_3 : WP 404 0 3 L (vA q :: vA r :: S) h Q ↔ (zac r q = true ∧ zif (zaq .ne r q = true) (WP 404 0 13 L S h Q) (WP 404 0 6 L S h Q)) := wp_acmp (t := 13) rfl
theorem s404_6 : WP 404 0 6 [a0, vI x, a2, a3] S h Q ↔ WP 404 0 7 [a0, vI x, a2, a3] (vI x :: S) h Q := wp_iload rfl rfl
theorem s404_7 : WP 404 0 7 L (vI x :: S) h Q ↔ ((0 ≤ x ∧ x ≤ 1000000) ∧ WP 404 0 10 L (vA (some (hn h)) :: S) (hnew h (5, x.toNat) x.toNat (fun _ => vA none)) Q) := wp_anew rfl rfl rfl
theorem s404_10 : WP 404 0 10 L S h Q ↔ WP 404 0 24 L S h Q := wp_pl rfl rfl rfl
theorem s404_13 : WP 404 0 13 [a0, a1, vA r, a3] S h Q ↔ WP 404 0 14 [a0, a1, vA r, a3] (vA r :: S) h Q := wp_aload rfl rfl
theorem s404_17 : WP 404 0 17 [a0, vI x, a2, a3] S h Q ↔ WP 404 0 18 [a0, vI x, a2, a3] (vI x :: S) h Q := wp_iload rfl rfl
theorem s404_21n : WP 404 0 21 L (vA none :: S) h Q ↔ WP 404 0 24 L (vA none :: S) h Q := wp_pl rfl rfl rfl
theorem s404_21 : WP 404 0 21 L (vA (some a) :: S) h Q ↔ (zCX 9 (hk h a).1 a = true ∧ WP 404 0 24 L (vA (some a) :: S) h Q) := wp_if rfl rfl rfl
theorem s404_24 : WP 404 0 24 [a0, a1, a2, a3] (vA r :: S) h Q ↔ WP 404 0 25 [a0, a1, a2, vA r] S h Q := wp_astore rfl rfl rfl
theorem s404_25 : WP 404 0 25 [vA r, a1, a2, a3] S h Q ↔ WP 404 0 26 [vA r, a1, a2, a3] (vA r :: S) h Q := wp_aload rfl rfl
theorem s404_26 : WP 404 0 26 L S h Q ↔ WP 404 0 27 L (vI 0 :: S) h Q := wp_pl rfl rfl rfl
theorem s404_27 : WP 404 0 27 [a0, a1, a2, vA r] S h Q ↔ WP 404 0 28 [a0, a1, a2, vA r] (vA r :: S) h Q := wp_aload rfl rfl
theorem s404_28 : WP 404 0 28 L S h Q ↔ WP 404 0 29 L (vI 0 :: S) h Q := wp_pl rfl rfl rfl
theorem s404_29 : WP 404 0 29 [vA r, a1, a2, a3] S h Q ↔ WP 404 0 30 [vA r, a1, a2, a3] (vA r :: S) h Q := wp_aload rfl rfl
theorem s404_30 : WP 404 0 30 L (vA (some a) :: S) h Q ↔ ((1 ≤ (hk h a).1 ∧ (hk h a).1 ≤ 7) ∧ WP 404 0 31 L (vI ((hk h a).2 : Int) :: S) h Q) := wp_if rfl rfl rfl
theorem s404_31 : WP 404 0 31 [a0, vI x, a2, a3] S h Q ↔ WP 404 0 32 [a0, vI x, a2, a3] (vI x :: S) h Q := wp_iload rfl rfl
theorem s404_32 : WP 404 0 32 L (vI x1 :: vI x0 :: S) h Q ↔ (zw S ≤ 8 ∧ WP 384 0 0 [vI x0, vI x1] [] h (zret 404 0 32 35 L S Q)) := wp_S rfl rfl (zcan_of rfl rfl) rfl rfl rfl
theorem s404_35 : WP 404 0 35 L (vI z :: vI y :: vA (some b) :: vI x :: vA (some a) :: S) h Q ↔ ((((hk h a).1 = (hk h b).1 ∧ ((hk h a).1 = 2 ∨ (hk h a).1 = 4)) ∧ (0 ≤ x ∧ 0 ≤ y ∧ 0 ≤ z ∧ x + z ≤ ((hk h a).2 : Int) ∧ y + z ≤ ((hk h b).2 : Int)) ∧ a ≠ b ∧ zNC ≤ b ∧ zw S ≤ 8) ∧ WP 404 0 38 L S (zcpy h a x.toNat b y.toNat z.toNat) Q) := wp_if rfl rfl rfl
theorem s404_38 : WP 404 0 38 [a0, a1, a2, vA r] S h Q ↔ WP 404 0 39 [a0, a1, a2, vA r] (vA r :: S) h Q := wp_aload rfl rfl
theorem s404_39 : WP 404 0 39 L [vA r] h Q ↔ Q (.inl (some (vA r))) h := wp_aret rfl
/-! java/util/Arrays.copyOf([JI)[J -/
theorem s405_0 : WP 405 0 0 [a0, vI x, a2] S h Q ↔ WP 405 0 1 [a0, vI x, a2] (vI x :: S) h Q := wp_iload rfl rfl
theorem s405_1 : WP 405 0 1 [vA r, a1, a2] S h Q ↔ WP 405 0 2 [vA r, a1, a2] (vA r :: S) h Q := wp_aload rfl rfl
theorem s405_2 : WP 405 0 2 L (vA (some a) :: S) h Q ↔ ((1 ≤ (hk h a).1 ∧ (hk h a).1 ≤ 7) ∧ WP 405 0 3 L (vI ((hk h a).2 : Int) :: S) h Q) := wp_if rfl rfl rfl
theorem s405_3 : WP 405 0 3 L (vI y :: vI x :: S) h Q ↔ zif (x = y) (WP 405 0 6 L S h Q) (WP 405 0 14 L S h Q) := wp_bN zc_eq rfl rfl rfl
theorem s405_6 : WP 405 0 6 [vA r, a1, a2] S h Q ↔ WP 405 0 7 [vA r, a1, a2] (vA r :: S) h Q := wp_aload rfl rfl
theorem s405_7 : WP 405 0 7 L (vA (some a) :: S) h Q ↔ (((hk h a).1 = 4 ∧ zNC ≤ a ∧ zw S ≤ 8) ∧ WP 405 0 10 L (vA (some (hn h)) :: S) (hnew h (hk h a) (hk h a).2 (hm h a)) Q) := wp_if rfl rfl rfl
theorem s405_10n : WP 405 0 10 L (vA none :: S) h Q ↔ WP 405 0 13 L (vA none :: S) h Q := wp_pl rfl rfl rfl
theorem s405_10 : WP 405 0 10 L (vA (some a) :: S) h Q ↔ (zCX 10 (hk h a).1 a = true ∧ WP 405 0 13 L (vA (some a) :: S) h Q) := wp_if rfl rfl rfl
theorem s405_13 : WP 405 0 13 L [vA r] h Q ↔ Q (.inl (some (vA r))) h := wp_aret rfl
theorem s405_14 : WP 405 0 14 [a0, vI x, a2] S h Q ↔ WP 405 0 15 [a0, vI x, a2] (vI x :: S) h Q := wp_iload rfl rfl
theorem s405_15 : WP 405 0 15 L (vI x :: S) h Q ↔ ((0 ≤ x ∧ x ≤ 1000000) ∧ WP 405 0 17 L (vA (some (hn h)) :: S) (hnew h (4, x.toNat) x.toNat (fun _ => vL 0)) Q) := wp_if rfl rfl rfl
theorem s405_17 : WP 405 0 17 [a0, a1, a2] (vA r :: S) h Q ↔ WP 405 0 18 [a0, a1, vA r] S h Q := wp_astore rfl rfl rfl
theorem s405_18 : WP 405 0 18 [vA r, a1, a2] S h Q ↔ WP 405 0 19 [vA r, a1, a2] (vA r :: S) h Q := wp_aload rfl rfl
theorem s405_19 : WP 405 0 19 L S h Q ↔ WP 405 0 20 L (vI 0 :: S) h Q := wp_pl rfl rfl rfl
theorem s405_20 : WP 405 0 20 [a0, a1, vA r] S h Q ↔ WP 405 0 21 [a0, a1, vA r] (vA r :: S) h Q := wp_aload rfl rfl
theorem s405_21 : WP 405 0 21 L S h Q ↔ WP 405 0 22 L (vI 0 :: S) h Q := wp_pl rfl rfl rfl
theorem s405_22 : WP 405 0 22 [vA r, a1, a2] S h Q ↔ WP 405 0 23 [vA r, a1, a2] (vA r :: S) h Q := wp_aload rfl rfl
theorem s405_23 : WP 405 0 23 L (vA (some a) :: S) h Q ↔ ((1 ≤ (hk h a).1 ∧ (hk h a).1 ≤ 7) ∧ WP 405 0 24 L (vI ((hk h a).2 : Int) :: S) h Q) := wp_if rfl rfl rfl
theorem s405_24 : WP 405 0 24 [a0, vI x, a2] S h Q ↔ WP 405 0 25 [a0, vI x, a2] (vI x :: S) h Q := wp_iload rfl rfl
theorem s405_25 : WP 405 0 25 L (vI x1 :: vI x0 :: S) h Q ↔ (zw S ≤ 8 ∧ WP 384 0 0 [vI x0, vI x1] [] h (zret 405 0 25 28 L S Q)) := wp_S rfl rfl (zcan_of rfl rfl) rfl rfl rfl
theorem s405_28 : WP 405 0 28 L (vI z :: vI y :: vA (some b) :: vI x :: vA (some a) :: S) h Q ↔ ((((hk h a).1 = (hk h b).1 ∧ ((hk h a).1 = 2 ∨ (hk h a).1 = 4)) ∧ (0 ≤ x ∧ 0 ≤ y ∧ 0 ≤ z ∧ x + z ≤ ((hk h a).2 : Int) ∧ y + z ≤ ((hk h b).2 : Int)) ∧ a ≠ b ∧ zNC ≤ b ∧ zw S ≤ 8) ∧ WP 405 0 31 L S (zcpy h a x.toNat b y.toNat z.toNat) Q) := wp_if rfl rfl rfl
theorem s405_31 : WP 405 0 31 [a0, a1, vA r] S h Q ↔ WP 405 0 32 [a0, a1, vA r] (vA r :: S) h Q := wp_aload rfl rfl
theorem s405_32 : WP 405 0 32 L [vA r] h Q ↔ Q (.inl (some (vA r))) h := wp_aret rfl
/-! java/util/ImmutableCollections.listFromTrustedArray([Ljava/lang/Object;)Ljava/util/List; -/
theorem s406_0 : WP 406 0 0 L S h Q ↔ WP 406 0 3 L (vI 1 :: S) h Q := wp_pl rfl rfl rfl
theorem s406_3 : WP 406 0 3 L (vI x :: S) h Q ↔ zif (x = 0) (WP 406 0 6 L S h Q) (WP 406 0 23 L S h Q) := wp_bN zc_eq rfl rfl rfl
theorem s406_6 : WP 406 0 6 [vA r, a1, a2, a3, a4] S h Q ↔ WP 406 0 7 [vA r, a1, a2, a3, a4] (vA r :: S) h Q := wp_aload rfl rfl
theorem s406_12 : WP 406 0 12 L (vA q :: vA r :: S) h Q ↔ (zac r q = true ∧ zif (zaq .eq r q = true) (WP 406 0 23 L S h Q) (WP 406 0 15 L S h Q)) := wp_acmp (t := 23) rfl
theorem s406_18 : WP 406 0 18 L (vA r :: S) h Q ↔ WP 406 0 19 L (vA r :: vA r :: S) h Q := wp_pl rfl rfl rfl
theorem s406_18i : WP 406 0 18 L (vI x :: S) h Q ↔ WP 406 0 19 L (vI x :: vI x :: S) h Q := wp_pl rfl rfl rfl
theorem s406_22 : WP 406 0 22 L (vA (some a) :: S) h Q ↔ ((((120 ≤ (hk h a).1 ∧ (hk h a).1 ≤ 123) ∨ (hk h a).1 = 109)) ∧ Q (.inr a) h) := wp_athrow (fun _ => rfl) rfl
theorem s406_23 : WP 406 0 23 [vA r, a1, a2, a3, a4] S h Q ↔ WP 406 0 24 [vA r, a1, a2, a3, a4] (vA r :: S) h Q := wp_aload rfl rfl
theorem s406_24 : WP 406 0 24 [a0, a1, a2, a3, a4] (vA r :: S) h Q ↔ WP 406 0 25 [a0, vA r, a2, a3, a4] S h Q := wp_astore rfl rfl rfl
theorem s406_25 : WP 406 0 25 [a0, vA r, a2, a3, a4] S h Q ↔ WP 406 0 26 [a0, vA r, a2, a3, a4] (vA r :: S) h Q := wp_aload rfl rfl
theorem s406_26 : WP 406 0 26 L (vA (some a) :: S) h Q ↔ ((1 ≤ (hk h a).1 ∧ (hk h a).1 ≤ 7) ∧ WP 406 0 27 L (vI ((hk h a).2 : Int) :: S) h Q) := wp_if rfl rfl rfl
theorem s406_27 : WP 406 0 27 [a0, a1, a2, a3, a4] (vI x :: S) h Q ↔ WP 406 0 28 [a0, a1, vI x, a3, a4] S h Q := wp_istore rfl rfl rfl
theorem s406_28 : WP 406 0 28 L S h Q ↔ WP 406 0 29 L (vI 0 :: S) h Q := wp_pl rfl rfl rfl
theorem s406_29 : WP 406 0 29 [a0, a1, a2, a3, a4] (vI x :: S) h Q ↔ WP 406 0 30 [a0, a1, a2, vI x, a4] S h Q := wp_istore rfl rfl rfl
theorem s406_30 : WP 406 0 30 [a0, a1, a2, vI x, a4] S h Q ↔ WP 406 0 31 [a0, a1, a2, vI x, a4] (vI x :: S) h Q := wp_iload rfl rfl
theorem s406_31 : WP 406 0 31 [a0, a1, vI x, a3, a4] S h Q ↔ WP 406 0 32 [a0, a1, vI x, a3, a4] (vI x :: S) h Q := wp_iload rfl rfl
theorem s406_32 : WP 406 0 32 L (vI y :: vI x :: S) h Q ↔ zif (x < y) (WP 406 0 35 L S h Q) (WP 406 0 52 L S h Q) := wp_bN zc_lt rfl rfl rfl
theorem s406_35 : WP 406 0 35 [a0, vA r, a2, a3, a4] S h Q ↔ WP 406 0 36 [a0, vA r, a2, a3, a4] (vA r :: S) h Q := wp_aload rfl rfl
theorem s406_36 : WP 406 0 36 [a0, a1, a2, vI x, a4] S h Q ↔ WP 406 0 37 [a0, a1, a2, vI x, a4] (vI x :: S) h Q := wp_iload rfl rfl
theorem s406_37 : WP 406 0 37 L (vI x :: vA (some a) :: S) h Q ↔ ((((5 ≤ (hk h a).1 ∧ (hk h a).1 ≤ 7) ∧ 0 ≤ x ∧ x < ((hk h a).2 : Int)) ∨ ((hk h a).1 = 8 ∧ 128 ≤ x ∧ x < 144)) ∧ WP 406 0 38 L (hm h a x.toNat :: S) h Q) := wp_if rfl rfl rfl
theorem s406_38 : WP 406 0 38 [a0, a1, a2, a3, a4] (vA r :: S) h Q ↔ WP 406 0 40 [a0, a1, a2, a3, vA r] S h Q := wp_astore rfl rfl rfl
theorem s406_40 : WP 406 0 40 [a0, a1, a2, a3, vA r] S h Q ↔ WP 406 0 42 [a0, a1, a2, a3, vA r] (vA r :: S) h Q := wp_aload rfl rfl
theorem s406_42 : WP 406 0 42 L (vA r0 :: S) h Q ↔ (zw S ≤ 8 ∧ WP 412 0 0 [vA r0] [] h (zret 406 0 42 45 L S Q)) := wp_S rfl rfl (zcan_of rfl rfl) rfl rfl rfl
theorem s406_45 : WP 406 0 45 L (vA r :: S) h Q ↔ WP 406 0 46 L S h Q := wp_pl rfl rfl rfl
theorem s406_45i : WP 406 0 45 L (vI x :: S) h Q ↔ WP 406 0 46 L S h Q := wp_pl rfl rfl rfl
theorem s406_46 : WP 406 0 46 [a0, a1, a2, vI x, a4] S h Q ↔ WP 406 0 49 [a0, a1, a2, vI (wr (x + 1)), a4] S h Q := wp_iinc rfl rfl rfl
theorem s406_49 : WP 406 0 49 L S h Q ↔ WP 406 0 30 L S h Q := wp_pl rfl rfl rfl
theorem s406_52 : WP 406 0 52 [vA r, a1, a2, a3, a4] S h Q ↔ WP 406 0 53 [vA r, a1, a2, a3, a4] (vA r :: S) h Q := wp_aload rfl rfl
theorem s406_53 : WP 406 0 53 L (vA (some a) :: S) h Q ↔ ((1 ≤ (hk h a).1 ∧ (hk h a).1 ≤ 7) ∧ WP 406 0 54 L (vI ((hk h a).2 : Int) :: S) h Q) := wp_if rfl rfl rfl
theorem s406_54 : WP 406 0 54 L (vI x :: S) h Q ↔ WP 406 0 (if 2 < x then 115 else zsw x 0 115 [80, 86, 99]) L S h Q := wp_pl rfl rfl rfl
theorem s406_83 : WP 406 0 83 L S h Q ↔ WP 406 0 124 L S h Q := wp_pl rfl rfl rfl
theorem s406_89 : WP 406 0 89 L (vA r :: S) h Q ↔ WP 406 0 90 L (vA r :: vA r :: S) h Q := wp_pl rfl rfl rfl
theorem s406_89i : WP 406 0 89 L (vI x :: S) h Q ↔ WP 406 0 90 L (vI x :: vI x :: S) h Q := wp_pl rfl rfl rfl
theorem s406_90 : WP 406 0 90 [vA r, a1, a2, a3, a4] S h Q ↔ WP 406 0 91 [vA r, a1, a2, a3, a4] (vA r :: S) h Q := wp_aload rfl rfl
theorem s406_91 : WP 406 0 91 L S h Q ↔ WP 406 0 92 L (vI 0 :: S) h Q := wp_pl rfl rfl rfl
theorem s406_92 : WP 406 0 92 L (vI x :: vA (some a) :: S) h Q ↔ ((((5 ≤ (hk h a).1 ∧ (hk h a).1 ≤ 7) ∧ 0 ≤ x ∧ x < ((hk h a).2 : Int)) ∨ ((hk h a).1 = 8 ∧ 128 ≤ x ∧ x < 144)) ∧ WP 406 0 93 L (hm h a x.toNat :: S) h Q) := wp_if rfl rfl rfl
theorem s406_96 : WP 406 0 96 L S h Q ↔ WP 406 0 124 L S h Q := wp_pl rfl rfl rfl
theorem s406_102 : WP 406 0 102 L (vA r :: S) h Q ↔ WP 406 0 103 L (vA r :: vA r :: S) h Q := wp_pl rfl rfl rfl
theorem s406_102i : WP 406 0 102 L (vI x :: S) h Q ↔ WP 406 0 103 L (vI x :: vI x :: S) h Q := wp_pl rfl rfl rfl
theorem s406_103 : WP 406 0 103 [vA r, a1, a2, a3, a4] S h Q ↔ WP 406 0 104 [vA r, a1, a2, a3, a4] (vA r :: S) h Q := wp_aload rfl rfl
theorem s406_104 : WP 406 0 104 L S h Q ↔ WP 406 0 105 L (vI 0 :: S) h Q := wp_pl rfl rfl rfl
theorem s406_105 : WP 406 0 105 L (vI x :: vA (some a) :: S) h Q ↔ ((((5 ≤ (hk h a).1 ∧ (hk h a).1 ≤ 7) ∧ 0 ≤ x ∧ x < ((hk h a).2 : Int)) ∨ ((hk h a).1 = 8 ∧ 128 ≤ x ∧ x < 144)) ∧ WP 406 0 106 L (hm h a x.toNat :: S) h Q) := wp_if rfl rfl rfl
theorem s406_106 : WP 406 0 106 [vA r, a1, a2, a3, a4] S h Q ↔ WP 406 0 107 [vA r, a1, a2, a3, a4] (vA r :: S) h Q := wp_aload rfl rfl
theorem s406_107 : WP 406 0 107 L S h Q ↔ WP 406 0 108 L (vI 1 :: S) h Q := wp_pl rfl rfl rfl
theorem s406_108 : WP 406 0 108 L (vI x :: vA (some a) :: S) h Q ↔ ((((5 ≤ (hk h a).1 ∧ (hk h a).1 ≤ 7) ∧ 0 ≤ x ∧ x < ((hk h a).2 : Int)) ∨ ((hk h a).1 = 8 ∧ 128 ≤ x ∧ x < 144)) ∧ WP 406 0 109 L (hm h a x.toNat :: S) h Q) := wp_if rfl rfl rfl
theorem s406_112 : WP 406 0 112 L S h Q ↔ WP 406 0 124 L S h Q := wp_pl rfl rfl rfl
theorem s406_115 : WP 406 0 115 L S h Q ↔ WP 406 0 118 L (vA (some (hn h)) :: S) (hnew h (119, 0) 2 zdf) Q := wp_pl rfl rfl rfl
theorem s406_118 : WP 406 0 118 L (vA r :: S) h Q ↔ WP 406 0 119 L (vA r :: vA r :: S) h Q := wp_pl rfl rfl rfl
theorem s406_118i : WP 406 0 118 L (vI x :: S) h Q ↔ WP 406 0 119 L (vI x :: vI x :: S) h Q := wp_pl rfl rfl rfl
theorem s406_119 : WP 406 0 119 [vA r, a1, a2, a3, a4] S h Q ↔ WP 406 0 120 [vA r, a1, a2, a3, a4] (vA r :: S) h Q := wp_aload rfl rfl
theorem s406_120 : WP 406 0 120 L S h Q ↔ WP 406 0 121 L (vI 0 :: S) h Q := wp_pl rfl rfl rfl
theorem s406_121 : WP 406 0 121 L (vI x1 :: vA r0 :: vA (some a) :: S) h Q ↔ ((zNC ≤ a ∧ 100 ≤ (hk h a).1) ∧ zw S ≤ 8 ∧ WP 333 0 0 [vA (some a), vA r0, vI x1] [] h (zret 406 0 121 124 L S Q)) := wp_I rfl rfl rfl (zcan_of rfl rfl) rfl rfl rfl
theorem s406_124 : WP 406 0 124 L [vA r] h Q ↔ Q (.inl (some (vA r))) h := wp_aret rfl
/-! java/util/ImmutableCollections$AbstractImmutableCollection.<init>()V -/
theorem s407_0 : WP 407 0 0 [vA r] S h Q ↔ WP 407 0 1 [vA r] (vA r :: S) h Q := wp_aload rfl rfl
theorem s407_1 : WP 407 0 1 L (vA (some a) :: S) h Q ↔ ((zNC ≤ a ∧ 100 ≤ (hk h a).1) ∧ zw S ≤ 8 ∧ WP 394 0 0 [vA (some a)] [] h (zret 407 0 1 4 L S Q)) := wp_I rfl rfl rfl (zcan_of rfl rfl) rfl rfl rfl
theorem s407_4 : WP 407 0 4 L [] h Q ↔ Q (.inl none) h := wp_ret rfl
/-! java/util/ImmutableCollections$AbstractImmutableList.contains(Ljava/lang/Object;)Z -/
theorem s408_0 : WP 408 0 0 [vA r, a1] S h Q ↔ WP 408 0 1 [vA r, a1] (vA r :: S) h Q := wp_aload rfl rfl
theorem s408_1 : WP 408 0 1 [a0, vA r] S h Q ↔ WP 408 0 2 [a0, vA r] (vA r :: S) h Q := wp_aload rfl rfl
theorem s408_2 : WP 408 0 2 L (vA r0 :: vA (some a) :: S) h Q ↔ ((hk h a).1 = 119 ∧ (zw S ≤ 8 ∧ WP 332 0 0 [vA (some a), vA r0, vJ, vJ] [] h (zret 408 0 2 5 L S Q))) := wp_V1 (c := 119) rfl rfl (fun _ => rfl) rfl rfl (zcan_of rfl rfl) rfl rfl rfl
theorem s408_5 : WP 408 0 5 L (vI x :: S) h Q ↔ zif (x < 0) (WP 408 0 12 L S h Q) (WP 408 0 8 L S h Q) := wp_bE zc_lt rfl rfl rfl
theorem s408_8 : WP 408 0 8 L S h Q ↔ WP 408 0 9 L (vI 1 :: S) h Q := wp_pl rfl rfl rfl
theorem s408_9 : WP 408 0 9 L S h Q ↔ WP 408 0 13 L S h Q := wp_pl rfl rfl rfl
theorem s408_12 : WP 408 0 12 L S h Q ↔ WP 408 0 13 L (vI 0 :: S) h Q := wp_pl rfl rfl rfl
theorem s408_13 : WP 408 0 13 L [vI x] h Q ↔ ((x = 0 ∨ x = 1) ∧ Q (.inl (some (vI x))) h) := wp_iret rfl rfl
/-! java/util/ImmutableCollections$AbstractImmutableList.<init>()V -/
theorem s409_0 : WP 409 0 0 [vA r] S h Q ↔ WP 409 0 1 [vA r] (vA r :: S) h Q := wp_aload rfl rfl
theorem s409_1 : WP 409 0 1 L (vA (some a) :: S) h Q ↔ ((zNC ≤ a ∧ 100 ≤ (hk h a).1) ∧ zw S ≤ 8 ∧ WP 407 0 0 [vA (some a)] [] h (zret 409 0 1 4 L S Q)) := wp_I rfl rfl rfl (zcan_of rfl rfl) rfl rfl rfl
theorem s409_4 : WP 409 0 4 L [] h Q ↔ Q (.inl none) h := wp_ret rfl
/-! java/util/List.of(Ljava/lang/Object;Ljava/lang/Object;Ljava/lang/Object;Ljava/lang/Object;Ljava/lang/Object;Ljava/lang/Object;Ljava/lang/Object;Ljava/lang/Object;)Ljava/util/List; -/
theorem s410_0 : WP 410 0 0 L S h Q ↔ WP 410 0 2 L (vI 8 :: S) h Q := wp_pl rfl rfl rfl
theorem s410_2 : WP 410 0 2 L (vI x :: S) h Q ↔ ((0 ≤ x ∧ x ≤ 1000000) ∧ WP 410 0 5 L (vA (some (hn h)) :: S) (hnew h (5, x.toNat) x.toNat (fun _ => vA none)) Q) := wp_anew rfl rfl rfl
theorem s410_5 : WP 410 0 5 L (vA r :: S) h Q ↔ WP 410 0 6 L (vA r :: vA r :: S) h Q := wp_pl rfl rfl rfl
theorem s410_5i : WP 410 0 5 L (vI x :: S) h Q ↔ WP 410 0 6 L (vI x :: vI x :: S) h Q := wp_pl rfl rfl rfl
theorem s410_6 : WP 410 0 6 L S h Q ↔ WP 410 0 7 L (vI 0 :: S) h Q := wp_pl rfl rfl rfl
theorem s410_7 : WP 410 0 7 [vA r, a1, a2, a3, a4, a5, a6, a7] S h Q ↔ WP 410 0 8 [vA r, a1, a2, a3, a4, a5, a6, a7] (vA r :: S) h Q := wp_aload rfl rfl
theorem s410_8 : WP 410 0 8 L (vA r :: vI x :: vA (some a) :: S) h Q ↔ (((5 ≤ (hk h a).1 ∧ (hk h a).1 ≤ 7) ∧ (0 ≤ x ∧ x < ((hk h a).2 : Int)) ∧ zNC ≤ a ∧ zref h a r) ∧ WP 410 0 9 L S (hput h a x.toNat (vA r)) Q) := wp_aast rfl
theorem s410_9 : WP 410 0 9 L (vA r :: S) h Q ↔ WP 410 0 10 L (vA r :: vA r :: S) h Q := wp_pl rfl rfl rfl
theorem s410_9i : WP 410 0 9 L (vI x :: S) h Q ↔ WP 410 0 10 L (vI x :: vI x :: S) h Q := wp_pl rfl rfl rfl
theorem s410_10 : WP 410 0 10 L S h Q ↔ WP 410 0 11 L (vI 1 :: S) h Q := wp_pl rfl rfl rfl
theorem s410_11 : WP 410 0 11 [a0, vA r, a2, a3, a4, a5, a6, a7] S h Q ↔ WP 410 0 12 [a0, vA r, a2, a3, a4, a5, a6, a7] (vA r :: S) h Q := wp_aload rfl rfl
theorem s410_12 : WP 410 0 12 L (vA r :: vI x :: vA (some a) :: S) h Q ↔ (((5 ≤ (hk h a).1 ∧ (hk h a).1 ≤ 7) ∧ (0 ≤ x ∧ x < ((hk h a).2 : Int)) ∧ zNC ≤ a ∧ zref h a r) ∧ WP 410 0 13 L S (hput h a x.toNat (vA r)) Q) := wp_aast rfl
theorem s410_13 : WP 410 0 13 L (vA r :: S) h Q ↔ WP 410 0 14 L (vA r :: vA r :: S) h Q := wp_pl rfl rfl rfl
theorem s410_13i : WP 410 0 13 L (vI x :: S) h Q ↔ WP 410 0 14 L (vI x :: vI x :: S) h Q := wp_pl rfl rfl rfl
theorem s410_14 : WP 410 0 14 L S h Q ↔ WP 410 0 15 L (vI 2 :: S) h Q := wp_pl rfl rfl rfl
theorem s410_15 : WP 410 0 15 [a0, a1, vA r, a3, a4, a5, a6, a7] S h Q ↔ WP 410 0 16 [a0, a1, vA r, a3, a4, a5, a6, a7] (vA r :: S) h Q := wp_aload rfl rfl
theorem s410_16 : WP 410 0 16 L (vA r :: vI x :: vA (some a) :: S) h Q ↔ (((5 ≤ (hk h a).1 ∧ (hk h a).1 ≤ 7) ∧ (0 ≤ x ∧ x < ((hk h a).2 : Int)) ∧ zNC ≤ a ∧ zref h a r) ∧ WP 410 0 17 L S (hput h a x.toNat (vA r)) Q) := wp_aast rfl
theorem s410_17 : WP 410 0 17 L (vA r :: S) h Q ↔ WP 410 0 18 L (vA r :: vA r :: S) h Q := wp_pl rfl rfl rfl
theorem s410_17i : WP 410 0 17 L (vI x :: S) h Q ↔ WP 410 0 18 L (vI x :: vI x :: S) h Q := wp_pl rfl rfl rfl
theorem s410_18 : WP 410 0 18 L S h Q ↔ WP 410 0 19 L (vI 3 :: S) h Q := wp_pl rfl rfl rfl
theorem s410_19 : WP 410 0 19 [a0, a1, a2, vA r, a4, a5, a6, a7] S h Q ↔ WP 410 0 20 [a0, a1, a2, vA r, a4, a5, a6, a7] (vA r :: S) h Q := wp_aload rfl rfl
theorem s410_20 : WP 410 0 20 L (vA r :: vI x :: vA (some a) :: S) h Q ↔ (((5 ≤ (hk h a).1 ∧ (hk h a).1 ≤ 7) ∧ (0 ≤ x ∧ x < ((hk h a).2 : Int)) ∧ zNC ≤ a ∧ zref h a r) ∧ WP 410 0 21 L S (hput h a x.toNat (vA r)) Q) := wp_aast rfl
theorem s410_21 : WP 410 0 21 L (vA r :: S) h Q ↔ WP 410 0 22 L (vA r :: vA r :: S) h Q := wp_pl rfl rfl rfl
theorem s410_21i : WP 410 0 21 L (vI x :: S) h Q ↔ WP 410 0 22 L (vI x :: vI x :: S) h Q := wp_pl rfl rfl rfl
theorem s410_22 : WP 410 0 22 L S h Q ↔ WP 410 0 23 L (vI 4 :: S) h Q := wp_pl rfl rfl rfl
theorem s410_23 : WP 410 0 23 [a0, a1, a2, a3, vA r, a5, a6, a7] S h Q ↔ WP 410 0 25 [a0, a1, a2, a3, vA r, a5, a6, a7] (vA r :: S) h Q := wp_aload rfl rfl
theorem s410_25 : WP 410 0 25 L (vA r :: vI x :: vA (some a) :: S) h Q ↔ (((5 ≤ (hk h a).1 ∧ (hk h a).1 ≤ 7) ∧ (0 ≤ x ∧ x < ((hk h a).2 : Int)) ∧ zNC ≤ a ∧ zref h a r) ∧ WP 410 0 26 L S (hput h a x.toNat (vA r)) Q) := wp_aast rfl
theorem s410_26 : WP 410 0 26 L (vA r :: S) h Q ↔ WP 410 0 27 L (vA r :: vA r :: S) h Q := wp_pl rfl rfl rfl
theorem s410_26i : WP 410 0 26 L (vI x :: S) h Q ↔ WP 410 0 27 L (vI x :: vI x :: S) h Q := wp_pl rfl rfl rfl
theorem s410_27 : WP 410 0 27 L S h Q ↔ WP 410 0 28 L (vI 5 :: S) h Q := wp_pl rfl rfl rfl
theorem s410_28 : WP 410 0 28 [a0, a1, a2, a3, a4, vA r, a6, a7] S h Q ↔ WP 410 0 30 [a0, a1, a2, a3, a4, vA r, a6, a7] (vA r :: S) h Q := wp_aload rfl rfl
theorem s410_30 : WP 410 0 30 L (vA r :: vI x :: vA (some a) :: S) h Q ↔ (((5 ≤ (hk h a).1 ∧ (hk h a).1 ≤ 7) ∧ (0 ≤ x ∧ x < ((hk h a).2 : Int)) ∧ zNC ≤ a ∧ zref h a r) ∧ WP 410 0 31 L S (hput h a x.toNat (vA r)) Q) := wp_aast rfl
theorem s410_31 : WP 410 0 31 L (vA r :: S) h Q ↔ WP 410 0 32 L (vA r :: vA r :: S) h Q := wp_pl rfl rfl rfl
theorem s410_31i : WP 410 0 31 L (vI x :: S) h Q ↔ WP 410 0 32 L (vI x :: vI x :: S) h Q := wp_pl rfl rfl rfl
theorem s410_32 : WP 410 0 32 L S h Q ↔ WP 410 0 34 L (vI 6 :: S) h Q := wp_pl rfl rfl rfl
theorem s410_34 : WP 410 0 34 [a0, a1, a2, a3, a4, a5, vA r, a7] S h Q ↔ WP 410 0 36 [a0, a1, a2, a3, a4, a5, vA r, a7] (vA r :: S) h Q := wp_aload rfl rfl
theorem s410_36 : WP 410 0 36 L (vA r :: vI x :: vA (some a) :: S) h Q ↔ (((5 ≤ (hk h a).1 ∧ (hk h a).1 ≤ 7) ∧ (0 ≤ x ∧ x < ((hk h a).2 : Int)) ∧ zNC ≤ a ∧ zref h a r) ∧ WP 410 0 37 L S (hput h a x.toNat (vA r)) Q) := wp_aast rfl
theorem s410_37 : WP 410 0 37 L (vA r :: S) h Q ↔ WP 410 0 38 L (vA r :: vA r :: S) h Q := wp_pl rfl rfl rfl
theorem s410_37i : WP 410 0 37 L (vI x :: S) h Q ↔ WP 410 0 38 L (vI x :: vI x :: S) h Q := wp_pl rfl rfl rfl
theorem s410_38 : WP 410 0 38 L S h Q ↔ WP 410 0 40 L (vI 7 :: S) h Q := wp_pl rfl rfl rfl
theorem s410_40 : WP 410 0 40 [a0, a1, a2, a3, a4, a5, a6, vA r] S h Q ↔ WP 410 0 42 [a0, a1, a2, a3, a4, a5, a6, vA r] (vA r :: S) h Q := wp_aload rfl rfl
theorem s410_42 : WP 410 0 42 L (vA r :: vI x :: vA (some a) :: S) h Q ↔ (((5 ≤ (hk h a).1 ∧ (hk h a).1 ≤ 7) ∧ (0 ≤ x ∧ x < ((hk h a).2 : Int)) ∧ zNC ≤ a ∧ zref h a r) ∧ WP 410 0 43 L S (hput h a x.toNat (vA r)) Q) := wp_aast rfl
theorem s410_43 : WP 410 0 43 L (vA r0 :: S) h Q ↔ (zw S ≤ 8 ∧ WP 406 0 0 [vA r0, vJ, vJ, vJ, vJ] [] h (zret 410 0 43 46 L S Q)) := wp_S rfl rfl (zcan_of rfl rfl) rfl rfl rfl
theorem s410_46 : WP 410 0 46 L [vA r] h Q ↔ Q (.inl (some (vA r))) h := wp_aret rfl
/-! java/util/Objects.equals(Ljava/lang/Object;Ljava/lang/Object;)Z -/
theorem s411_0 : WP 411 0 0 [vA r, a1] S h Q ↔ WP 411 0 1 [vA r, a1] (vA r :: S) h Q := wp_aload rfl rfl
theorem s411_1 : WP 411 0 1 [a0, vA r] S h Q ↔ WP 411 0 2 [a0, vA r] (vA r :: S) h Q := wp_aload rfl rfl
theorem s411_2 : WP 411 0 2 L (vA q :: vA r :: S) h Q ↔ (zac r q = true ∧ zif (zaq .eq r q = true) (WP 411 0 17 L S h Q) (WP 411 0 5 L S h Q)) := wp_acmp (t := 17) rfl
theorem s411_5 : WP 411 0 5 [vA r, a1] S h Q ↔ WP 411 0 6 [vA r, a1] (vA r :: S) h Q := wp_aload rfl rfl
theorem s411_6n : WP 411 0 6 L (vA none :: S) h Q ↔ WP 411 0 21 L S h Q := wp_pl rfl rfl rfl
theorem s411_6 : WP 411 0 6 L (vA (some a) :: S) h Q ↔ (3 ≤ a ∧ WP 411 0 9 L S h Q) := wp_if rfl rfl rfl
theorem s411_9 : WP 411 0 9 [vA r, a1] S h Q ↔ WP 411 0 10 [vA r, a1] (vA r :: S) h Q := wp_aload rfl rfl
theorem s411_10 : WP 411 0 10 [a0, vA r] S h Q ↔ WP 411 0 11 [a0, vA r] (vA r :: S) h Q := wp_aload rfl rfl
theorem s411_11_100 (hk0 : (hk h a).1 = 100) : WP 411 0 11 L (vA r0 :: vA (some a) :: S) h Q ↔ (zw S ≤ 8 ∧ WP 386 0 0 [vA (some a), vA r0] [] h (zret 411 0 11 14 L S Q)) := wp_V rfl rfl rfl rfl rfl (zcan_of rfl rfl) rfl rfl rfl hk0
theorem s411_11_101 (hk0 : (hk h a).1 = 101) : WP 411 0 11 L (vA r0 :: vA (some a) :: S) h Q ↔ (zw S ≤ 8 ∧ WP 386 0 0 [vA (some a), vA r0] [] h (zret 411 0 11 14 L S Q)) := wp_V rfl rfl rfl rfl rfl (zcan_of rfl rfl) rfl rfl rfl hk0
theorem s411_11_102 (hk0 : (hk h a).1 = 102) : WP 411 0 11 L (vA r0 :: vA (some a) :: S) h Q ↔ (zw S ≤ 8 ∧ WP 386 0 0 [vA (some a), vA r0] [] h (zret 411 0 11 14 L S Q)) := wp_V rfl rfl rfl rfl rfl (zcan_of rfl rfl) rfl rfl rfl hk0
theorem s411_11_103 (hk0 : (hk h a).1 = 103) : WP 411 0 11 L (vA r0 :: vA (some a) :: S) h Q ↔ (zw S ≤ 8 ∧ WP 386 0 0 [vA (some a), vA r0] [] h (zret 411 0 11 14 L S Q)) := wp_V rfl rfl rfl rfl rfl (zcan_of rfl rfl) rfl rfl rfl hk0
theorem s411_11_104 (hk0 : (hk h a).1 = 104) : WP 411 0 11 L (vA r0 :: vA (some a) :: S) h Q ↔ (zw S ≤ 8 ∧ WP 386 0 0 [vA (some a), vA r0] [] h (zret 411 0 11 14 L S Q)) := wp_V rfl rfl rfl rfl rfl (zcan_of rfl rfl) rfl rfl rfl hk0
theorem s411_11_105 (hk0 : (hk h a).1 = 105) : WP 411 0 11 L (vA r0 :: vA (some a) :: S) h Q ↔ (zw S ≤ 8 ∧ WP 386 0 0 [vA (some a), vA r0] [] h (zret 411 0 11 14 L S Q)) := wp_V rfl rfl rfl rfl rfl (zcan_of rfl rfl) rfl rfl rfl hk0
theorem s411_11_106 (hk0 : (hk h a).1 = 106) : WP 411 0 11 L (vA r0 :: vA (some a) :: S) h Q ↔ (zw S ≤ 8 ∧ WP 386 0 0 [vA (some a), vA r0] [] h (zret 411 0 11 14 L S Q)) := wp_V rfl rfl rfl rfl rfl (zcan_of rfl rfl) rfl rfl rfl hk0
theorem s411_11_107 (hk0 : (hk h a).1 = 107) : WP 411 0 11 L (vA r0 :: vA (some a) :: S) h Q ↔ (zw S ≤ 8 ∧ WP 386 0 0 [vA (some a), vA r0] [] h (zret 411 0 11 14 L S Q)) := wp_V rfl rfl rfl rfl rfl (zcan_of rfl rfl) rfl rfl rfl hk0
theorem s411_11_108 (hk0 : (hk h a).1 = 108) : WP 411 0 11 L (vA r0 :: vA (some a) :: S) h Q ↔ (zw S ≤ 8 ∧ WP 386 0 0 [vA (some a), vA r0] [] h (zret 411 0 11 14 L S Q)) := wp_V rfl rfl rfl rfl rfl (zcan_of rfl rfl) rfl rfl rfl hk0
theorem s411_11_109 (hk0 : (hk h a).1 = 109) : WP 411 0 11 L (vA r0 :: vA (some a) :: S) h Q ↔ (zw S ≤ 8 ∧ WP 386 0 0 [vA (some a), vA r0] [] h (zret 411 0 11 14 L S Q)) := wp_V rfl rfl rfl rfl rfl (zcan_of rfl rfl) rfl rfl rfl hk0
theorem s411_11_110 (hk0 : (hk h a).1 = 110) : WP 411 0 11 L (vA r0 :: vA (some a) :: S) h Q ↔ (zw S ≤ 8 ∧ WP 386 0 0 [vA (some a), vA r0] [] h (zret 411 0 11 14 L S Q)) := wp_V rfl rfl rfl rfl rfl (zcan_of rfl rfl) rfl rfl rfl hk0
theorem s411_11_116 (hk0 : (hk h a).1 = 116) : WP 411 0 11 L (vA r0 :: vA (some a) :: S) h Q ↔ (zw S ≤ 8 ∧ WP 386 0 0 [vA (some a), vA r0] [] h (zret 411 0 11 14 L S Q)) := wp_V rfl rfl rfl rfl rfl (zcan_of rfl rfl) rfl rfl rfl hk0
theorem s411_11_117 (hk0 : (hk h a).1 = 117) : WP 411 0 11 L (vA r0 :: vA (some a) :: S) h Q ↔ (zw S ≤ 8 ∧ WP 315 0 0 [vA (some a), vA r0, vJ] [] h (zret 411 0 11 14 L S Q)) := wp_V rfl rfl rfl rfl rfl (zcan_of rfl rfl) rfl rfl rfl hk0
theorem s411_11_118 (hk0 : (hk h a).1 = 118) : WP 411 0 11 L (vA r0 :: vA (some a) :: S) h Q ↔ (zw S ≤ 8 ∧ WP 327 0 0 [vA (some a), vA r0] [] h (zret 411 0 11 14 L S Q)) := wp_V rfl rfl rfl rfl rfl (zcan_of rfl rfl) rfl rfl rfl hk0
theorem s411_11_120 (hk0 : (hk h a).1 = 120) : WP 411 0 11 L (vA r0 :: vA (some a) :: S) h Q ↔ (zw S ≤ 8 ∧ WP 386 0 0 [vA (some a), vA r0] [] h (zret 411 0 11 14 L S Q)) := wp_V rfl rfl rfl rfl rfl (zcan_of rfl rfl) rfl rfl rfl hk0
theorem s411_11_121 (hk0 : (hk h a).1 = 121) : WP 411 0 11 L (vA r0 :: vA (some a) :: S) h Q ↔ (zw S ≤ 8 ∧ WP 386 0 0 [vA (some a), vA r0] [] h (zret 411 0 11 14 L S Q)) := wp_V rfl rfl rfl rfl rfl (zcan_of rfl rfl) rfl rfl rfl hk0
theorem s411_11_122 (hk0 : (hk h a).1 = 122) : WP 411 0 11 L (vA r0 :: vA (some a) :: S) h Q ↔ (zw S ≤ 8 ∧ WP 386 0 0 [vA (some a), vA r0] [] h (zret 411 0 11 14 L S Q)) := wp_V rfl rfl rfl rfl rfl (zcan_of rfl rfl) rfl rfl rfl hk0
theorem s411_14 : WP 411 0 14 L (vI x :: S) h Q ↔ zif (x = 0) (WP 411 0 21 L S h Q) (WP 411 0 17 L S h Q) := wp_bE zc_eq rfl rfl rfl
theorem s411_17 : WP 411 0 17 L S h Q ↔ WP 411 0 18 L (vI 1 :: S) h Q := wp_pl rfl rfl rfl
theorem s411_18 : WP 411 0 18 L S h Q ↔ WP 411 0 22 L S h Q := wp_pl rfl rfl rfl
theorem s411_21 : WP 411 0 21 L S h Q ↔ WP 411 0 22 L (vI 0 :: S) h Q := wp_pl rfl rfl rfl
theorem s411_22 : WP 411 0 22 L [vI x] h Q ↔ ((x = 0 ∨ x = 1) ∧ Q (.inl (some (vI x))) h) := wp_iret rfl rfl
/-! java/util/Objects.requireNonNull(Ljava/lang/Object;)Ljava/lang/Object; -/
theorem s412_0 : WP 412 0 0 [vA r] S h Q ↔ WP 412 0 1 [vA r] (vA r :: S) h Q := wp_aload rfl rfl
theorem s412_1n : WP 412 0 1 L (vA none :: S) h Q ↔ WP 412 0 4 L S h Q := wp_pl rfl rfl rfl
theorem s412_1 : WP 412 0 1 L (vA (some a) :: S) h Q ↔ (3 ≤ a ∧ WP 412 0 12 L S h Q) := wp_if rfl rfl rfl
theorem s412_7 : WP 412 0 7 L (vA r :: S) h Q ↔ WP 412 0 8 L (vA r :: vA r :: S) h Q := wp_pl rfl rfl rfl
theorem s412_7i : WP 412 0 7 L (vI x :: S) h Q ↔ WP 412 0 8 L (vI x :: vI x :: S) h Q := wp_pl rfl rfl rfl
theorem s412_11 : WP 412 0 11 L (vA (some a) :: S) h Q ↔ ((((120 ≤ (hk h a).1 ∧ (hk h a).1 ≤ 123) ∨ (hk h a).1 = 109)) ∧ Q (.inr a) h) := wp_athrow (fun _ => rfl) rfl
theorem s412_12 : WP 412 0 12 [vA r] S h Q ↔ WP 412 0 13 [vA r] (vA r :: S) h Q := wp_aload rfl rfl
theorem s412_13 : WP 412 0 13 L [vA r] h Q ↔ Q (.inl (some (vA r))) h := wp_aret rfl
/-! jdk/internal/util/ArraysSupport.hashCode(I[CII)I -/
theorem s413_0 : WP 413 0 0 [a0, a1, vI x, a3, a4, a5] S h Q ↔ WP 413 0 1 [a0, a1, vI x, a3, a4, a5] (vI x :: S) h Q := wp_iload rfl rfl
theorem s413_1 : WP 413 0 1 [a0, a1, a2, vI x, a4, a5] S h Q ↔ WP 413 0 2 [a0, a1, a2, vI x, a4, a5] (vI x :: S) h Q := wp_iload rfl rfl
theorem s413_2 : WP 413 0 2 L (vI y :: vI x :: S) h Q ↔ WP 413 0 3 L (vI (wr (x + y)) :: S) h Q := wp_pl rfl rfl rfl
theorem s413_3 : WP 413 0 3 [a0, a1, a2, a3, a4, a5] (vI x :: S) h Q ↔ WP 413 0 5 [a0, a1, a2, a3, vI x, a5] S h Q := wp_istore rfl rfl rfl
theorem s413_5 : WP 413 0 5 [a0, a1, vI x, a3, a4, a5] S h Q ↔ WP 413 0 6 [a0, a1, vI x, a3, a4, a5] (vI x :: S) h Q := wp_iload rfl rfl
theorem s413_6 : WP 413 0 6 [a0, a1, a2, a3, a4, a5] (vI x :: S) h Q ↔ WP 413 0 8 [a0, a1, a2, a3, a4, vI x] S h Q := wp_istore rfl rfl rfl
theorem s413_8 : WP 413 0 8 [a0, a1, a2, a3, a4, vI x] S h Q ↔ WP 413 0 10 [a0, a1, a2, a3, a4, vI x] (vI x :: S) h Q := wp_iload rfl rfl
theorem s413_10 : WP 413 0 10 [a0, a1, a2, a3, vI x, a5] S h Q ↔ WP 413 0 12 [a0, a1, a2, a3, vI x, a5] (vI x :: S) h Q := wp_iload rfl rfl
theorem s413_12 : WP 413 0 12 L (vI y :: vI x :: S) h Q ↔ zif (x < y) (WP 413 0 15 L S h Q) (WP 413 0 31 L S h Q) := wp_bN zc_lt rfl rfl rfl
theorem s413_15 : WP 413 0 15 L S h Q ↔ WP 413 0 17 L (vI 31 :: S) h Q := wp_pl rfl rfl rfl
theorem s413_17 : WP 413 0 17 [vI x, a1, a2, a3, a4, a5] S h Q ↔ WP 413 0 18 [vI x, a1, a2, a3, a4, a5] (vI x :: S) h Q := wp_iload rfl rfl
theorem s413_18 : WP 413 0 18 L (vI y :: vI x :: S) h Q ↔ WP 413 0 19 L (vI (wr (x * y)) :: S) h Q := wp_pl rfl rfl rfl
theorem s413_19 : WP 413 0 19 [a0, vA r, a2, a3, a4, a5] S h Q ↔ WP 413 0 20 [a0, vA r, a2, a3, a4, a5] (vA r :: S) h Q := wp_aload rfl rfl
theorem s413_20 : WP 413 0 20 [a0, a1, a2, a3, a4, vI x] S h Q ↔ WP 413 0 22 [a0, a1, a2, a3, a4, vI x] (vI x :: S) h Q := wp_iload rfl rfl
theorem s413_23 : WP 413 0 23 L (vI y :: vI x :: S) h Q ↔ WP 413 0 24 L (vI (wr (x + y)) :: S) h Q := wp_pl rfl rfl rfl
theorem s413_24 : WP 413 0 24 [a0, a1, a2, a3, a4, a5] (vI x :: S) h Q ↔ WP 413 0 25 [vI x, a1, a2, a3, a4, a5] S h Q := wp_istore rfl rfl rfl
theorem s413_25 : WP 413 0 25 [a0, a1, a2, a3, a4, vI x] S h Q ↔ WP 413 0 28 [a0, a1, a2, a3, a4, vI (wr (x + 1))] S h Q := wp_iinc rfl rfl rfl
theorem s413_28 : WP 413 0 28 L S h Q ↔ WP 413 0 8 L S h Q := wp_pl rfl rfl rfl
theorem s413_31 : WP 413 0 31 [vI x, a1, a2, a3, a4, a5] S h Q ↔ WP 413 0 32 [vI x, a1, a2, a3, a4, a5] (vI x :: S) h Q := wp_iload rfl rfl
theorem s413_32 : WP 413 0 32 L [vI x] h Q ↔ Q (.inl (some (vI x))) h := wp_iret0 rfl rfl
/-! jdk/internal/util/ArraysSupport.hashCode(I[BII)I -/
theorem s414_0 : WP 414 0 0 [a0, a1, vI x, a3, a4, a5] S h Q ↔ WP 414 0 1 [a0, a1, vI x, a3, a4, a5] (vI x :: S) h Q := wp_iload rfl rfl
theorem s414_1 : WP 414 0 1 [a0, a1, a2, vI x, a4, a5] S h Q ↔ WP 414 0 2 [a0, a1, a2, vI x, a4, a5] (vI x :: S) h Q := wp_iload rfl rfl
theorem s414_2 : WP 414 0 2 L (vI y :: vI x :: S) h Q ↔ WP 414 0 3 L (vI (wr (x + y)) :: S) h Q := wp_pl rfl rfl rfl
theorem s414_3 : WP 414 0 3 [a0, a1, a2, a3, a4, a5] (vI x :: S) h Q ↔ WP 414 0 5 [a0, a1, a2, a3, vI x, a5] S h Q := wp_istore rfl rfl rfl
theorem s414_5 : WP 414 0 5 [a0, a1, vI x, a3, a4, a5] S h Q ↔ WP 414 0 6 [a0, a1, vI x, a3, a4, a5] (vI x :: S) h Q := wp_iload rfl rfl
theorem s414_6 : WP 414 0 6 [a0, a1, a2, a3, a4, a5] (vI x :: S) h Q ↔ WP 414 0 8 [a0, a1, a2, a3, a4, vI x] S h Q := wp_istore rfl rfl rfl
theorem s414_8 : WP 414 0 8 [a0, a1, a2, a3, a4, vI x] S h Q ↔ WP 414 0 10 [a0, a1, a2, a3, a4, vI x] (vI x :: S) h Q := wp_iload rfl rfl
theorem s414_10 : WP 414 0 10 [a0, a1, a2, a3, vI x, a5] S h Q ↔ WP 414 0 12 [a0, a1, a2, a3, vI x, a5] (vI x :: S) h Q := wp_iload rfl rfl
theorem s414_12 : WP 414 0 12 L (vI y :: vI x :: S) h Q ↔ zif (x < y) (WP 414 0 15 L S h Q) (WP 414 0 31 L S h Q) := wp_bN zc_lt rfl rfl rfl
theorem s414_15 : WP 414 0 15 L S h Q ↔ WP 414 0 17 L (vI 31 :: S) h Q := wp_pl rfl rfl rfl
theorem s414_17 : WP 414 0 17 [vI x, a1, a2, a3, a4, a5] S h Q ↔ WP 414 0 18 [vI x, a1, a2, a3, a4, a5] (vI x :: S) h Q := wp_iload rfl rfl
theorem s414_18 : WP 414 0 18 L (vI y :: vI x :: S) h Q ↔ WP 414 0 19 L (vI (wr (x * y)) :: S) h Q := wp_pl rfl rfl rfl
theorem s414_19 : WP 414 0 19 [a0, vA r, a2, a3, a4, a5] S h Q ↔ WP 414 0 20 [a0, vA r, a2, a3, a4, a5] (vA r :: S) h Q := wp_aload rfl rfl
theorem s414_20 : WP 414 0 20 [a0, a1, a2, a3, a4, vI x] S h Q ↔ WP 414 0 22 [a0, a1, a2, a3, a4, vI x] (vI x :: S) h Q := wp_iload rfl rfl
theorem s414_22 : WP 414 0 22 L (vI x :: vA (some a) :: S) h Q ↔ ((((hk h a).1 = 2 ∨ (hk h a).1 = 3) ∧ 0 ≤ x ∧ x < ((hk h a).2 : Int)) ∧ WP 414 0 23 L (hm h a x.toNat :: S) h Q) := wp_if rfl rfl rfl
theorem s414_23 : WP 414 0 23 L (vI y :: vI x :: S) h Q ↔ WP 414 0 24 L (vI (wr (x + y)) :: S) h Q := wp_pl rfl rfl rfl
theorem s414_24 : WP 414 0 24 [a0, a1, a2, a3, a4, a5] (vI x :: S) h Q ↔ WP 414 0 25 [vI x, a1, a2, a3, a4, a5] S h Q := wp_istore rfl rfl rfl
theorem s414_25 : WP 414 0 25 [a0, a1, a2, a3, a4, vI x] S h Q ↔ WP 414 0 28 [a0, a1, a2, a3, a4, vI (wr (x + 1))] S h Q := wp_iinc rfl rfl rfl
theorem s414_28 : WP 414 0 28 L S h Q ↔ WP 414 0 8 L S h Q := wp_pl rfl rfl rfl
theorem s414_31 : WP 414 0 31 [vI x, a1, a2, a3, a4, a5] S h Q ↔ WP 414 0 32 [vI x, a1, a2, a3, a4, a5] (vI x :: S) h Q := wp_iload rfl rfl
theorem s414_32 : WP 414 0 32 L [vI x] h Q ↔ Q (.inl (some (vI x))) h := wp_iret0 rfl rfl
/-! jdk/internal/util/ArraysSupport.hashCode(I[SII)I -/
theorem s415_0 : WP 415 0 0 [a0, a1, vI x, a3, a4, a5] S h Q ↔ WP 415 0 1 [a0, a1, vI x, a3, a4, a5] (vI x :: S) h Q := wp_iload rfl rfl
theorem s415_1 : WP 415 0 1 [a0, a1, a2, vI x, a4, a5] S h Q ↔ WP 415 0 2 [a0, a1, a2, vI x, a4, a5] (vI x :: S) h Q := wp_iload rfl rfl
theorem s415_2 : WP 415 0 2 L (vI y :: vI x :: S) h Q ↔ WP 415 0 3 L (vI (wr (x + y)) :: S) h Q := wp_pl rfl rfl rfl
theorem s415_3 : WP 415 0 3 [a0, a1, a2, a3, a4, a5] (vI x :: S) h Q ↔ WP 415 0 5 [a0, a1, a2, a3, vI x, a5] S h Q := wp_istore rfl rfl rfl
theorem s415_5 : WP 415 0 5 [a0, a1, vI x, a3, a4, a5] S h Q ↔ WP 415 0 6 [a0, a1, vI x, a3, a4, a5] (vI x :: S) h Q := wp_iload rfl rfl
theorem s415_6 : WP 415 0 6 [a0, a1, a2, a3, a4, a5] (vI x :: S) h Q ↔ WP 415 0 8 [a0, a1, a2, a3, a4, vI x] S h Q := wp_istore rfl rfl rfl
theorem s415_8 : WP 415 0 8 [a0, a1, a2, a3, a4, vI x] S h Q ↔ WP 415 0 10 [a0, a1, a2, a3, a4, vI x] (vI x :: S) h Q := wp_iload rfl rfl
theorem s415_10 : WP 415 0 10 [a0, a1, a2, a3, vI x, a5] S h Q ↔ WP 415 0 12 [a0, a1, a2, a3, vI x, a5] (vI x :: S) h Q := wp_iload rfl rfl
theorem s415_12 : WP 415 0 12 L (vI y :: vI x :: S) h Q ↔ zif (x < y) (WP 415 0 15 L S h Q) (WP 415 0 31 L S h Q) := wp_bN zc_lt rfl rfl rfl
theorem s415_15 : WP 415 0 15 L S h Q ↔ WP 415 0 17 L (vI 31 :: S) h Q := wp_pl rfl rfl rfl
theorem s415_17 : WP 415 0 17 [vI x, a1, a2, a3, a4, a5] S h Q ↔ WP 415 0 18 [vI x, a1, a2, a3, a4, a5] (vI x :: S) h Q := wp_iload rfl rfl
theorem s415_18 : WP 415 0 18 L (vI y :: vI x :: S) h Q ↔ WP 415 0 19 L (vI (wr (x * y)) :: S) h Q := wp_pl rfl rfl rfl
theorem s415_19 : WP 415 0 19 [a0, vA r, a2, a3, a4, a5] S h Q ↔ WP 415 0 20 [a0, vA r, a2, a3, a4, a5] (vA r :: S) h Q := wp_aload rfl rfl
theorem s415_20 : WP 415 0 20 [a0, a1, a2, a3, a4, vI x] S h Q ↔ WP 415 0 22 [a0, a1, a2, a3, a4, vI x] (vI x :: S) h Q := wp_iload rfl rfl
theorem s415_23 : WP 415 0 23 L (vI y :: vI x :: S) h Q ↔ WP 415 0 24 L (vI (wr (x + y)) :: S) h Q := wp_pl rfl rfl rfl
theorem s415_24 : WP 415 0 24 [a0, a1, a2, a3, a4, a5] (vI x :: S) h Q ↔ WP 415 0 25 [vI x, a1, a2, a3, a4, a5] S h Q := wp_istore rfl rfl rfl
theorem s415_25 : WP 415 0 25 [a0, a1, a2, a3, a4, vI x] S h Q ↔ WP 415 0 28 [a0, a1, a2, a3, a4, vI (wr (x + 1))] S h Q := wp_iinc rfl rfl rfl
theorem s415_28 : WP 415 0 28 L S h Q ↔ WP 415 0 8 L S h Q := wp_pl rfl rfl rfl
theorem s415_31 : WP 415 0 31 [vI x, a1, a2, a3, a4, a5] S h Q ↔ WP 415 0 32 [vI x, a1, a2, a3, a4, a5] (vI x :: S) h Q := wp_iload rfl rfl
theorem s415_32 : WP 415 0 32 L [vI x] h Q ↔ Q (.inl (some (vI x))) h := wp_iret0 rfl rfl
/-! jdk/internal/util/ArraysSupport.hashCode(I[III)I -/
theorem s416_0 : WP 416 0 0 [a0, a1, vI x, a3, a4, a5] S h Q ↔ WP 416 0 1 [a0, a1, vI x, a3, a4, a5] (vI x :: S) h Q := wp_iload rfl rfl
theorem s416_1 : WP 416 0 1 [a0, a1, a2, vI x, a4, a5] S h Q ↔ WP 416 0 2 [a0, a1, a2, vI x, a4, a5] (vI x :: S) h Q := wp_iload rfl rfl
theorem s416_2 : WP 416 0 2 L (vI y :: vI x :: S) h Q ↔ WP 416 0 3 L (vI (wr (x + y)) :: S) h Q := wp_pl rfl rfl rfl
theorem s416_3 : WP 416 0 3 [a0, a1, a2, a3, a4, a5] (vI x :: S) h Q ↔ WP 416 0 5 [a0, a1, a2, a3, vI x, a5] S h Q := wp_istore rfl rfl rfl
theorem s416_5 : WP 416 0 5 [a0, a1, vI x, a3, a4, a5] S h Q ↔ WP 416 0 6 [a0, a1, vI x, a3, a4, a5] (vI x :: S) h Q := wp_iload rfl rfl
theorem s416_6 : WP 416 0 6 [a0, a1, a2, a3, a4, a5] (vI x :: S) h Q ↔ WP 416 0 8 [a0, a1, a2, a3, a4, vI x] S h Q := wp_istore rfl rfl rfl
theorem s416_8 : WP 416 0 8 [a0, a1, a2, a3, a4, vI x] S h Q ↔ WP 416 0 10 [a0, a1, a2, a3, a4, vI x] (vI x :: S) h Q := wp_iload rfl rfl
theorem s416_10 : WP 416 0 10 [a0, a1, a2, a3, vI x, a5] S h Q ↔ WP 416 0 12 [a0, a1, a2, a3, vI x, a5] (vI x :: S) h Q := wp_iload rfl rfl
theorem s416_12 : WP 416 0 12 L (vI y :: vI x :: S) h Q ↔ zif (x < y) (WP 416 0 15 L S h Q) (WP 416 0 31 L S h Q) := wp_bN zc_lt rfl rfl rfl
theorem s416_15 : WP 416 0 15 L S h Q ↔ WP 416 0 17 L (vI 31 :: S) h Q := wp_pl rfl rfl rfl
theorem s416_17 : WP 416 0 17 [vI x, a1, a2, a3, a4, a5] S h Q ↔ WP 416 0 18 [vI x, a1, a2, a3, a4, a5] (vI x :: S) h Q := wp_iload rfl rfl
theorem s416_18 : WP 416 0 18 L (vI y :: vI x :: S) h Q ↔ WP 416 0 19 L (vI (wr (x * y)) :: S) h Q := wp_pl rfl rfl rfl
theorem s416_19 : WP 416 0 19 [a0, vA r, a2, a3, a4, a5] S h Q ↔ WP 416 0 20 [a0, vA r, a2, a3, a4, a5] (vA r :: S) h Q := wp_aload rfl rfl
theorem s416_20 : WP 416 0 20 [a0, a1, a2, a3, a4, vI x] S h Q ↔ WP 416 0 22 [a0, a1, a2, a3, a4, vI x] (vI x :: S) h Q := wp_iload rfl rfl
theorem s416_22 : WP 416 0 22 L (vI x :: vA (some a) :: S) h Q ↔ (((hk h a).1 = 1 ∧ 0 ≤ x ∧ x < ((hk h a).2 : Int)) ∧ WP 416 0 23 L (hm h a x.toNat :: S) h Q) := wp_if rfl rfl rfl
theorem s416_23 : WP 416 0 23 L (vI y :: vI x :: S) h Q ↔ WP 416 0 24 L (vI (wr (x + y)) :: S) h Q := wp_pl rfl rfl rfl
theorem s416_24 : WP 416 0 24 [a0, a1, a2, a3, a4, a5] (vI x :: S) h Q ↔ WP 416 0 25 [vI x, a1, a2, a3, a4, a5] S h Q := wp_istore rfl rfl rfl
theorem s416_25 : WP 416 0 25 [a0, a1, a2, a3, a4, vI x] S h Q ↔ WP 416 0 28 [a0, a1, a2, a3, a4, vI (wr (x + 1))] S h Q := wp_iinc rfl rfl rfl
theorem s416_28 : WP 416 0 28 L S h Q ↔ WP 416 0 8 L S h Q := wp_pl rfl rfl rfl
theorem s416_31 : WP 416 0 31 [vI x, a1, a2, a3, a4, a5] S h Q ↔ WP 416 0 32 [vI x, a1, a2, a3, a4, a5] (vI x :: S) h Q := wp_iload rfl rfl
theorem s416_32 : WP 416 0 32 L [vI x] h Q ↔ Q (.inl (some (vI x))) h := wp_iret0 rfl rfl
/-! jdk/internal/util/ArraysSupport.newLength(III)I -/
theorem s417_0 : WP 417 0 0 [vI x, a1, a2, a3] S h Q ↔ WP 417 0 1 [vI x, a1, a2, a3] (vI x :: S) h Q := wp_iload rfl rfl
theorem s417_1 : WP 417 0 1 [a0, vI x, a2, a3] S h Q ↔ WP 417 0 2 [a0, vI x, a2, a3] (vI x :: S) h Q := wp_iload rfl rfl
theorem s417_2 : WP 417 0 2 [a0, a1, vI x, a3] S h Q ↔ WP 417 0 3 [a0, a1, vI x, a3] (vI x :: S) h Q := wp_iload rfl rfl
theorem s417_3 : WP 417 0 3 L (vI x1 :: vI x0 :: S) h Q ↔ (zw S ≤ 8 ∧ WP 383 0 0 [vI x0, vI x1] [] h (zret 417 0 3 6 L S Q)) := wp_S rfl rfl (zcan_of rfl rfl) rfl rfl rfl
theorem s417_6 : WP 417 0 6 L (vI y :: vI x :: S) h Q ↔ WP 417 0 7 L (vI (wr (x + y)) :: S) h Q := wp_pl rfl rfl rfl
theorem s417_7 : WP 417 0 7 [a0, a1, a2, a3] (vI x :: S) h Q ↔ WP 417 0 8 [a0, a1, a2, vI x] S h Q := wp_istore rfl rfl rfl
theorem s417_8 : WP 417 0 8 L S h Q ↔ WP 417 0 9 L (vI 0 :: S) h Q := wp_pl rfl rfl rfl
theorem s417_9 : WP 417 0 9 [a0, a1, a2, vI x] S h Q ↔ WP 417 0 10 [a0, a1, a2, vI x] (vI x :: S) h Q := wp_iload rfl rfl
theorem s417_10 : WP 417 0 10 L (vI y :: vI x :: S) h Q ↔ zif (x < y) (WP 417 0 13 L S h Q) (WP 417 0 21 L S h Q) := wp_bN zc_lt rfl rfl rfl
theorem s417_13 : WP 417 0 13 [a0, a1, a2, vI x] S h Q ↔ WP 417 0 14 [a0, a1, a2, vI x] (vI x :: S) h Q := wp_iload rfl rfl
theorem s417_14 : WP 417 0 14 L S h Q ↔ WP 417 0 16 L (vI (2147483639) :: S) h Q := wp_pl rfl rfl rfl
theorem s417_16 : WP 417 0 16 L (vI y :: vI x :: S) h Q ↔ zif (y < x) (WP 417 0 21 L S h Q) (WP 417 0 19 L S h Q) := wp_bE zc_gt rfl rfl rfl
theorem s417_19 : WP 417 0 19 [a0, a1, a2, vI x] S h Q ↔ WP 417 0 20 [a0, a1, a2, vI x] (vI x :: S) h Q := wp_iload rfl rfl
theorem s417_20 : WP 417 0 20 L [vI x] h Q ↔ Q (.inl (some (vI x))) h := wp_iret0 rfl rfl
theorem s417_21 : WP 417 0 21 [vI x, a1, a2, a3] S h Q ↔ WP 417 0 22 [vI x, a1, a2, a3] (vI x :: S) h Q := wp_iload rfl rfl
theorem s417_22 : WP 417 0 22 [a0, vI x, a2, a3] S h Q ↔ WP 417 0 23 [a0, vI x, a2, a3] (vI x :: S) h Q := wp_iload rfl rfl
theorem s417_26 : WP 417 0 26 L [vI x] h Q ↔ Q (.inl (some (vI x))) h := wp_iret0 rfl rfl
/-! jdk/internal/util/ArraysSupport.signedHashCode(I[BII)I -/
theorem s418_0 : WP 418 0 0 [a0, a1, vI x, a3, a4, a5] S h Q ↔ WP 418 0 1 [a0, a1, vI x, a3, a4, a5] (vI x :: S) h Q := wp_iload rfl rfl
theorem s418_1 : WP 418 0 1 [a0, a1, a2, vI x, a4, a5] S h Q ↔ WP 418 0 2 [a0, a1, a2, vI x, a4, a5] (vI x :: S) h Q := wp_iload rfl rfl
theorem s418_2 : WP 418 0 2 L (vI y :: vI x :: S) h Q ↔ WP 418 0 3 L (vI (wr (x + y)) :: S) h Q := wp_pl rfl rfl rfl
theorem s418_3 : WP 418 0 3 [a0, a1, a2, a3, a4, a5] (vI x :: S) h Q ↔ WP 418 0 5 [a0, a1, a2, a3, vI x, a5] S h Q := wp_istore rfl rfl rfl
theorem s418_5 : WP 418 0 5 [a0, a1, vI x, a3, a4, a5] S h Q ↔ WP 418 0 6 [a0, a1, vI x, a3, a4, a5] (vI x :: S) h Q := wp_iload rfl rfl
theorem s418_6 : WP 418 0 6 [a0, a1, a2, a3, a4, a5] (vI x :: S) h Q ↔ WP 418 0 8 [a0, a1, a2, a3, a4, vI x] S h Q := wp_istore rfl rfl rfl
theorem s418_8 : WP 418 0 8 [a0, a1, a2, a3, a4, vI x] S h Q ↔ WP 418 0 10 [a0, a1, a2, a3, a4, vI x] (vI x :: S) h Q := wp_iload rfl rfl
theorem s418_10 : WP 418 0 10 [a0, a1, a2, a3, vI x, a5] S h Q ↔ WP 418 0 12 [a0, a1, a2, a3, vI x, a5] (vI x :: S) h Q := wp_iload rfl rfl
theorem s418_12 : WP 418 0 12 L (vI y :: vI x :: S) h Q ↔ zif (x < y) (WP 418 0 15 L S h Q) (WP 418 0 35 L S h Q) := wp_bN zc_lt rfl rfl rfl
theorem s418_15 : WP 418 0 15 L S h Q ↔ WP 418 0 17 L (vI 31 :: S) h Q := wp_pl rfl rfl rfl
theorem s418_17 : WP 418 0 17 [vI x, a1, a2, a3, a4, a5] S h Q ↔ WP 418 0 18 [vI x, a1, a2, a3, a4, a5] (vI x :: S) h Q := wp_iload rfl rfl
theorem s418_18 : WP 418 0 18 L (vI y :: vI x :: S) h Q ↔ WP 418 0 19 L (vI (wr (x * y)) :: S) h Q := wp_pl rfl rfl rfl
theorem s418_19 : WP 418 0 19 [a0, vA r, a2, a3, a4, a5] S h Q ↔ WP 418 0 20 [a0, vA r, a2, a3, a4, a5] (vA r :: S) h Q := wp_aload rfl rfl
theorem s418_20 : WP 418 0 20 [a0, a1, a2, a3, a4, vI x] S h Q ↔ WP 418 0 22 [a0, a1, a2, a3, a4, vI x] (vI x :: S) h Q := wp_iload rfl rfl
theorem s418_22 : WP 418 0 22 L (vI x :: vA (some a) :: S) h Q ↔ ((((hk h a).1 = 2 ∨ (hk h a).1 = 3) ∧ 0 ≤ x ∧ x < ((hk h a).2 : Int)) ∧ WP 418 0 23 L (hm h a x.toNat :: S) h Q) := wp_if rfl rfl rfl
theorem s418_23 : WP 418 0 23 L S h Q ↔ WP 418 0 26 L (vI 255 :: S) h Q := wp_pl rfl rfl rfl
theorem s418_26 : WP 418 0 26 L (vI y :: vI x :: S) h Q ↔ WP 418 0 27 L (vI (zand x y) :: S) h Q := wp_pl rfl rfl rfl
theorem s418_27 : WP 418 0 27 L (vI y :: vI x :: S) h Q ↔ WP 418 0 28 L (vI (wr (x + y)) :: S) h Q := wp_pl rfl rfl rfl
theorem s418_28 : WP 418 0 28 [a0, a1, a2, a3, a4, a5] (vI x :: S) h Q ↔ WP 418 0 29 [vI x, a1, a2, a3, a4, a5] S h Q := wp_istore rfl rfl rfl
theorem s418_29 : WP 418 0 29 [a0, a1, a2, a3, a4, vI x] S h Q ↔ WP 418 0 32 [a0, a1, a2, a3, a4, vI (wr (x + 1))] S h Q := wp_iinc rfl rfl rfl
theorem s418_32 : WP 418 0 32 L S h Q ↔ WP 418 0 8 L S h Q := wp_pl rfl rfl rfl
theorem s418_35 : WP 418 0 35 [vI x, a1, a2, a3, a4, a5] S h Q ↔ WP 418 0 36 [vI x, a1, a2, a3, a4, a5] (vI x :: S) h Q := wp_iload rfl rfl
theorem s418_36 : WP 418 0 36 L [vI x] h Q ↔ Q (.inl (some (vI x))) h := wp_iret0 rfl rfl
/-! jdk/internal/util/ArraysSupport.vectorizedHashCode(Ljava/lang/Object;IIII)I -/
theorem s419_0 : WP 419 0 0 [a0, a1, a2, a3, vI x] S h Q ↔ WP 419 0 2 [a0, a1, a2, a3, vI x] (vI x :: S) h Q := wp_iload rfl rfl
theorem s419_2 : WP 419 0 2 L (vI x :: S) h Q ↔ WP 419 0 (if 10 < x then 129 else zsw x 4 129 [44, 57, 129, 129, 90, 103, 116]) L S h Q := wp_pl rfl rfl rfl
theorem s419_44 : WP 419 0 44 [a0, a1, a2, vI x, a4] S h Q ↔ WP 419 0 45 [a0, a1, a2, vI x, a4] (vI x :: S) h Q := wp_iload rfl rfl
theorem s419_45 : WP 419 0 45 [vA r, a1, a2, a3, a4] S h Q ↔ WP 419 0 46 [vA r, a1, a2, a3, a4] (vA r :: S) h Q := wp_aload rfl rfl
theorem s419_46n : WP 419 0 46 L (vA none :: S) h Q ↔ WP 419 0 49 L (vA none :: S) h Q := wp_pl rfl rfl rfl
theorem s419_46 : WP 419 0 46 L (vA (some a) :: S) h Q ↔ (zCX 8 (hk h a).1 a = true ∧ WP 419 0 49 L (vA (some a) :: S) h Q) := wp_if rfl rfl rfl
theorem s419_49 : WP 419 0 49 [a0, vI x, a2, a3, a4] S h Q ↔ WP 419 0 50 [a0, vI x, a2, a3, a4] (vI x :: S) h Q := wp_iload rfl rfl
theorem s419_50 : WP 419 0 50 [a0, a1, vI x, a3, a4] S h Q ↔ WP 419 0 51 [a0, a1, vI x, a3, a4] (vI x :: S) h Q := wp_iload rfl rfl
theorem s419_51 : WP 419 0 51 L (vI x3 :: vI x2 :: vA r1 :: vI x0 :: S) h Q ↔ (zw S ≤ 8 ∧ WP 418 0 0 [vI x0, vA r1, vI x2, vI x3, vJ, vJ] [] h (zret 419 0 51 54 L S Q)) := wp_S rfl rfl (zcan_of rfl rfl) rfl rfl rfl
theorem s419_54 : WP 419 0 54 L S h Q ↔ WP 419 0 157 L S h Q := wp_pl rfl rfl rfl
theorem s419_57 : WP 419 0 57 [vA r, a1, a2, a3, a4] S h Q ↔ WP 419 0 58 [vA r, a1, a2, a3, a4] (vA r :: S) h Q := wp_aload rfl rfl
theorem s419_58 : WP 419 0 58 L (vA (some a) :: S) h Q ↔ (zCX 8 (hk h a).1 a = true ∧ WP 419 0 61 L (vI 1 :: S) h Q) := wp_if rfl rfl rfl
theorem s419_61 : WP 419 0 61 L (vI x :: S) h Q ↔ zif (x = 0) (WP 419 0 77 L S h Q) (WP 419 0 64 L S h Q) := wp_bE zc_eq rfl rfl rfl
theorem s419_64 : WP 419 0 64 [a0, a1, a2, vI x, a4] S h Q ↔ WP 419 0 65 [a0, a1, a2, vI x, a4] (vI x :: S) h Q := wp_iload rfl rfl
theorem s419_65 : WP 419 0 65 [vA r, a1, a2, a3, a4] S h Q ↔ WP 419 0 66 [vA r, a1, a2, a3, a4] (vA r :: S) h Q := wp_aload rfl rfl
theorem s419_66n : WP 419 0 66 L (vA none :: S) h Q ↔ WP 419 0 69 L (vA none :: S) h Q := wp_pl rfl rfl rfl
theorem s419_66 : WP 419 0 66 L (vA (some a) :: S) h Q ↔ (zCX 8 (hk h a).1 a = true ∧ WP 419 0 69 L (vA (some a) :: S) h Q) := wp_if rfl rfl rfl
theorem s419_69 : WP 419 0 69 [a0, vI x, a2, a3, a4] S h Q ↔ WP 419 0 70 [a0, vI x, a2, a3, a4] (vI x :: S) h Q := wp_iload rfl rfl
theorem s419_70 : WP 419 0 70 [a0, a1, vI x, a3, a4] S h Q ↔ WP 419 0 71 [a0, a1, vI x, a3, a4] (vI x :: S) h Q := wp_iload rfl rfl
theorem s419_74 : WP 419 0 74 L S h Q ↔ WP 419 0 157 L S h Q := wp_pl rfl rfl rfl
theorem s419_77 : WP 419 0 77 [a0, a1, a2, vI x, a4] S h Q ↔ WP 419 0 78 [a0, a1, a2, vI x, a4] (vI x :: S) h Q := wp_iload rfl rfl
theorem s419_78 : WP 419 0 78 [vA r, a1, a2, a3, a4] S h Q ↔ WP 419 0 79 [vA r, a1, a2, a3, a4] (vA r :: S) h Q := wp_aload rfl rfl
theorem s419_82 : WP 419 0 82 [a0, vI x, a2, a3, a4] S h Q ↔ WP 419 0 83 [a0, vI x, a2, a3, a4] (vI x :: S) h Q := wp_iload rfl rfl
theorem s419_83 : WP 419 0 83 [a0, a1, vI x, a3, a4] S h Q ↔ WP 419 0 84 [a0, a1, vI x, a3, a4] (vI x :: S) h Q := wp_iload rfl rfl
theorem s419_84 : WP 419 0 84 L (vI x3 :: vI x2 :: vA r1 :: vI x0 :: S) h Q ↔ (zw S ≤ 8 ∧ WP 413 0 0 [vI x0, vA r1, vI x2, vI x3, vJ, vJ] [] h (zret 419 0 84 87 L S Q)) := wp_S rfl rfl (zcan_of rfl rfl) rfl rfl rfl
theorem s419_87 : WP 419 0 87 L S h Q ↔ WP 419 0 157 L S h Q := wp_pl rfl rfl rfl
theorem s419_90 : WP 419 0 90 [a0, a1, a2, vI x, a4] S h Q ↔ WP 419 0 91 [a0, a1, a2, vI x, a4] (vI x :: S) h Q := wp_iload rfl rfl
theorem s419_91 : WP 419 0 91 [vA r, a1, a2, a3, a4] S h Q ↔ WP 419 0 92 [vA r, a1, a2, a3, a4] (vA r :: S) h Q := wp_aload rfl rfl
theorem s419_92n : WP 419 0 92 L (vA none :: S) h Q ↔ WP 419 0 95 L (vA none :: S) h Q := wp_pl rfl rfl rfl
theorem s419_92 : WP 419 0 92 L (vA (some a) :: S) h Q ↔ (zCX 8 (hk h a).1 a = true ∧ WP 419 0 95 L (vA (some a) :: S) h Q) := wp_if rfl rfl rfl
theorem s419_95 : WP 419 0 95 [a0, vI x, a2, a3, a4] S h Q ↔ WP 419 0 96 [a0, vI x, a2, a3, a4] (vI x :: S) h Q := wp_iload rfl rfl
theorem s419_96 : WP 419 0 96 [a0, a1, vI x, a3, a4] S h Q ↔ WP 419 0 97 [a0, a1, vI x, a3, a4] (vI x :: S) h Q := wp_iload rfl rfl
theorem s419_97 : WP 419 0 97 L (vI x3 :: vI x2 :: vA r1 :: vI x0 :: S) h Q ↔ (zw S ≤ 8 ∧ WP 414 0 0 [vI x0, vA r1, vI x2, vI x3, vJ, vJ] [] h (zret 419 0 97 100 L S Q)) := wp_S rfl rfl (zcan_of rfl rfl) rfl rfl rfl
theorem s419_100 : WP 419 0 100 L S h Q ↔ WP 419 0 157 L S h Q := wp_pl rfl rfl rfl
theorem s419_103 : WP 419 0 103 [a0, a1, a2, vI x, a4] S h Q ↔ WP 419 0 104 [a0, a1, a2, vI x, a4] (vI x :: S) h Q := wp_iload rfl rfl
theorem s419_104 : WP 419 0 104 [vA r, a1, a2, a3, a4] S h Q ↔ WP 419 0 105 [vA r, a1, a2, a3, a4] (vA r :: S) h Q := wp_aload rfl rfl
theorem s419_108 : WP 419 0 108 [a0, vI x, a2, a3, a4] S h Q ↔ WP 419 0 109 [a0, vI x, a2, a3, a4] (vI x :: S) h Q := wp_iload rfl rfl
theorem s419_109 : WP 419 0 109 [a0, a1, vI x, a3, a4] S h Q ↔ WP 419 0 110 [a0, a1, vI x, a3, a4] (vI x :: S) h Q := wp_iload rfl rfl
theorem s419_110 : WP 419 0 110 L (vI x3 :: vI x2 :: vA r1 :: vI x0 :: S) h Q ↔ (zw S ≤ 8 ∧ WP 415 0 0 [vI x0, vA r1, vI x2, vI x3, vJ, vJ] [] h (zret 419 0 110 113 L S Q)) := wp_S rfl rfl (zcan_of rfl rfl) rfl rfl rfl
theorem s419_113 : WP 419 0 113 L S h Q ↔ WP 419 0 157 L S h Q := wp_pl rfl rfl rfl
theorem s419_116 : WP 419 0 116 [a0, a1, a2, vI x, a4] S h Q ↔ WP 419 0 117 [a0, a1, a2, vI x, a4] (vI x :: S) h Q := wp_iload rfl rfl
theorem s419_117 : WP 419 0 117 [vA r, a1, a2, a3, a4] S h Q ↔ WP 419 0 118 [vA r, a1, a2, a3, a4] (vA r :: S) h Q := wp_aload rfl rfl
theorem s419_118n : WP 419 0 118 L (vA none :: S) h Q ↔ WP 419 0 121 L (vA none :: S) h Q := wp_pl rfl rfl rfl
theorem s419_118 : WP 419 0 118 L (vA (some a) :: S) h Q ↔ (zCX 11 (hk h a).1 a = true ∧ WP 419 0 121 L (vA (some a) :: S) h Q) := wp_if rfl rfl rfl
theorem s419_121 : WP 419 0 121 [a0, vI x, a2, a3, a4] S h Q ↔ WP 419 0 122 [a0, vI x, a2, a3, a4] (vI x :: S) h Q := wp_iload rfl rfl
theorem s419_122 : WP 419 0 122 [a0, a1, vI x, a3, a4] S h Q ↔ WP 419 0 123 [a0, a1, vI x, a3, a4] (vI x :: S) h Q := wp_iload rfl rfl
theorem s419_123 : WP 419 0 123 L (vI x3 :: vI x2 :: vA r1 :: vI x0 :: S) h Q ↔ (zw S ≤ 8 ∧ WP 416 0 0 [vI x0, vA r1, vI x2, vI x3, vJ, vJ] [] h (zret 419 0 123 126 L S Q)) := wp_S rfl rfl (zcan_of rfl rfl) rfl rfl rfl
theorem s419_126 : WP 419 0 126 L S h Q ↔ WP 419 0 157 L S h Q := wp_pl rfl rfl rfl
theorem s419_132 : WP 419 0 132 L (vA r :: S) h Q ↔ WP 419 0 133 L (vA r :: vA r :: S) h Q := wp_pl rfl rfl rfl
theorem s419_132i : WP 419 0 132 L (vI x :: S) h Q ↔ WP 419 0 133 L (vI x :: vI x :: S) h Q := wp_pl rfl rfl rfl
theorem s419_133 : WP 419 0 133 L S h Q ↔ WP 419 0 136 L (vA (some (hn h)) :: S) (hnew h (116, 0) 4 zdf) Q := wp_pl rfl rfl rfl
theorem s419_136 : WP 419 0 136 L (vA r :: S) h Q ↔ WP 419 0 137 L (vA r :: vA r :: S) h Q := wp_pl rfl rfl rfl
theorem s419_136i : WP 419 0 136 L (vI x :: S) h Q ↔ WP 419 0 137 L (vI x :: vI x :: S) h Q := wp_pl rfl rfl rfl
theorem s419_140 : WP 419 0 140 L S h Q ↔ WP 419 0 142 L (vA (some 22) :: S) h Q := wp_pl rfl rfl rfl
theorem s419_145 : WP 419 0 145 [a0, a1, a2, a3, vI x] S h Q ↔ WP 419 0 147 [a0, a1, a2, a3, vI x] (vI x :: S) h Q := wp_iload rfl rfl
theorem s419_156 : WP 419 0 156 L (vA (some a) :: S) h Q ↔ ((((120 ≤ (hk h a).1 ∧ (hk h a).1 ≤ 123) ∨ (hk h a).1 = 109)) ∧ Q (.inr a) h) := wp_athrow (fun _ => rfl) rfl
theorem s419_157 : WP 419 0 157 L [vI x] h Q ↔ Q (.inl (some (vI x))) h := wp_iret0 rfl rfl
/-! jdk/internal/util/Preconditions.checkFromIndexSize(IIILjava/util/function/BiFunction;)I -/
theorem s420_0 : WP 420 0 0 [a0, a1, vI x, a3] S h Q ↔ WP 420 0 1 [a0, a1, vI x, a3] (vI x :: S) h Q := wp_iload rfl rfl
theorem s420_1 : WP 420 0 1 [vI x, a1, a2, a3] S h Q ↔ WP 420 0 2 [vI x, a1, a2, a3] (vI x :: S) h Q := wp_iload rfl rfl
theorem s420_2 : WP 420 0 2 L (vI y :: vI x :: S) h Q ↔ WP 420 0 3 L (vI (zor x y) :: S) h Q := wp_pl rfl rfl rfl
theorem s420_3 : WP 420 0 3 [a0, vI x, a2, a3] S h Q ↔ WP 420 0 4 [a0, vI x, a2, a3] (vI x :: S) h Q := wp_iload rfl rfl
theorem s420_4 : WP 420 0 4 L (vI y :: vI x :: S) h Q ↔ WP 420 0 5 L (vI (zor x y) :: S) h Q := wp_pl rfl rfl rfl
theorem s420_5 : WP 420 0 5 L (vI x :: S) h Q ↔ zif (x < 0) (WP 420 0 15 L S h Q) (WP 420 0 8 L S h Q) := wp_bE zc_lt rfl rfl rfl
theorem s420_8 : WP 420 0 8 [a0, vI x, a2, a3] S h Q ↔ WP 420 0 9 [a0, vI x, a2, a3] (vI x :: S) h Q := wp_iload rfl rfl
theorem s420_9 : WP 420 0 9 [a0, a1, vI x, a3] S h Q ↔ WP 420 0 10 [a0, a1, vI x, a3] (vI x :: S) h Q := wp_iload rfl rfl
theorem s420_10 : WP 420 0 10 [vI x, a1, a2, a3] S h Q ↔ WP 420 0 11 [vI x, a1, a2, a3] (vI x :: S) h Q := wp_iload rfl rfl
theorem s420_11 : WP 420 0 11 L (vI y :: vI x :: S) h Q ↔ WP 420 0 12 L (vI (wr (x - y)) :: S) h Q := wp_pl rfl rfl rfl
theorem s420_12 : WP 420 0 12 L (vI y :: vI x :: S) h Q ↔ zif (y < x) (WP 420 0 15 L S h Q) (WP 420 0 23 L S h Q) := wp_bN zc_gt rfl rfl rfl
theorem s420_15 : WP 420 0 15 [a0, a1, a2, vA r] S h Q ↔ WP 420 0 16 [a0, a1, a2, vA r] (vA r :: S) h Q := wp_aload rfl rfl
theorem s420_16 : WP 420 0 16 [vI x, a1, a2, a3] S h Q ↔ WP 420 0 17 [vI x, a1, a2, a3] (vI x :: S) h Q := wp_iload rfl rfl
theorem s420_17 : WP 420 0 17 [a0, vI x, a2, a3] S h Q ↔ WP 420 0 18 [a0, vI x, a2, a3] (vI x :: S) h Q := wp_iload rfl rfl
theorem s420_18 : WP 420 0 18 [a0, a1, vI x, a3] S h Q ↔ WP 420 0 19 [a0, a1, vI x, a3] (vI x :: S) h Q := wp_iload rfl rfl
theorem s420_22 : WP 420 0 22 L (vA (some a) :: S) h Q ↔ ((((120 ≤ (hk h a).1 ∧ (hk h a).1 ≤ 123) ∨ (hk h a).1 = 109)) ∧ Q (.inr a) h) := wp_athrow (fun _ => rfl) rfl
theorem s420_23 : WP 420 0 23 [vI x, a1, a2, a3] S h Q ↔ WP 420 0 24 [vI x, a1, a2, a3] (vI x :: S) h Q := wp_iload rfl rfl
theorem s420_24 : WP 420 0 24 L [vI x] h Q ↔ Q (.inl (some (vI x))) h := wp_iret0 rfl rfl
/-! jdk/internal/util/Preconditions.checkFromToIndex(IIILjava/util/function/BiFunction;)I -/
theorem s421_0 : WP 421 0 0 [vI x, a1, a2, a3] S h Q ↔ WP 421 0 1 [vI x, a1, a2, a3] (vI x :: S) h Q := wp_iload rfl rfl
theorem s421_1 : WP 421 0 1 L (vI x :: S) h Q ↔ zif (x < 0) (WP 421 0 14 L S h Q) (WP 421 0 4 L S h Q) := wp_bE zc_lt rfl rfl rfl
theorem s421_4 : WP 421 0 4 [vI x, a1, a2, a3] S h Q ↔ WP 421 0 5 [vI x, a1, a2, a3] (vI x :: S) h Q := wp_iload rfl rfl
theorem s421_5 : WP 421 0 5 [a0, vI x, a2, a3] S h Q ↔ WP 421 0 6 [a0, vI x, a2, a3] (vI x :: S) h Q := wp_iload rfl rfl
theorem s421_6 : WP 421 0 6 L (vI y :: vI x :: S) h Q ↔ zif (y < x) (WP 421 0 14 L S h Q) (WP 421 0 9 L S h Q) := wp_bE zc_gt rfl rfl rfl
theorem s421_9 : WP 421 0 9 [a0, vI x, a2, a3] S h Q ↔ WP 421 0 10 [a0, vI x, a2, a3] (vI x :: S) h Q := wp_iload rfl rfl
theorem s421_10 : WP 421 0 10 [a0, a1, vI x, a3] S h Q ↔ WP 421 0 11 [a0, a1, vI x, a3] (vI x :: S) h Q := wp_iload rfl rfl
theorem s421_11 : WP 421 0 11 L (vI y :: vI x :: S) h Q ↔ zif (y < x) (WP 421 0 14 L S h Q) (WP 421 0 22 L S h Q) := wp_bN zc_gt rfl rfl rfl
theorem s421_14 : WP 421 0 14 [a0, a1, a2, vA r] S h Q ↔ WP 421 0 15 [a0, a1, a2, vA r] (vA r :: S) h Q := wp_aload rfl rfl
theorem s421_15 : WP 421 0 15 [vI x, a1, a2, a3] S h Q ↔ WP 421 0 16 [vI x, a1, a2, a3] (vI x :: S) h Q := wp_iload rfl rfl
theorem s421_16 : WP 421 0 16 [a0, vI x, a2, a3] S h Q ↔ WP 421 0 17 [a0, vI x, a2, a3] (vI x :: S) h Q := wp_iload rfl rfl
theorem s421_17 : WP 421 0 17 [a0, a1, vI x, a3] S h Q ↔ WP 421 0 18 [a0, a1, vI x, a3] (vI x :: S) h Q := wp_iload rfl rfl
theorem s421_21 : WP 421 0 21 L (vA (some a) :: S) h Q ↔ ((((120 ≤ (hk h a).1 ∧ (hk h a).1 ≤ 123) ∨ (hk h a).1 = 109)) ∧ Q (.inr a) h) := wp_athrow (fun _ => rfl) rfl
theorem s421_22 : WP 421 0 22 [vI x, a1, a2, a3] S h Q ↔ WP 421 0 23 [vI x, a1, a2, a3] (vI x :: S) h Q := wp_iload rfl rfl
theorem s421_23 : WP 421 0 23 L [vI x] h Q ↔ Q (.inl (some (vI x))) h := wp_iret0 rfl rfl
/-! jdk/internal/util/Preconditions.checkIndex(IILjava/util/function/BiFunction;)I -/
theorem s422_0 : WP 422 0 0 [vI x, a1, a2] S h Q ↔ WP 422 0 1 [vI x, a1, a2] (vI x :: S) h Q := wp_iload rfl rfl
theorem s422_1 : WP 422 0 1 L (vI x :: S) h Q ↔ zif (x < 0) (WP 422 0 9 L S h Q) (WP 422 0 4 L S h Q) := wp_bE zc_lt rfl rfl rfl
theorem s422_4 : WP 422 0 4 [vI x, a1, a2] S h Q ↔ WP 422 0 5 [vI x, a1, a2] (vI x :: S) h Q := wp_iload rfl rfl
theorem s422_5 : WP 422 0 5 [a0, vI x, a2] S h Q ↔ WP 422 0 6 [a0, vI x, a2] (vI x :: S) h Q := wp_iload rfl rfl
theorem s422_6 : WP 422 0 6 L (vI y :: vI x :: S) h Q ↔ zif (x < y) (WP 422 0 16 L S h Q) (WP 422 0 9 L S h Q) := wp_bE zc_lt rfl rfl rfl
theorem s422_9 : WP 422 0 9 [a0, a1, vA r] S h Q ↔ WP 422 0 10 [a0, a1, vA r] (vA r :: S) h Q := wp_aload rfl rfl
theorem s422_10 : WP 422 0 10 [vI x, a1, a2] S h Q ↔ WP 422 0 11 [vI x, a1, a2] (vI x :: S) h Q := wp_iload rfl rfl
theorem s422_11 : WP 422 0 11 [a0, vI x, a2] S h Q ↔ WP 422 0 12 [a0, vI x, a2] (vI x :: S) h Q := wp_iload rfl rfl
theorem s422_15 : WP 422 0 15 L (vA (some a) :: S) h Q ↔ ((((120 ≤ (hk h a).1 ∧ (hk h a).1 ≤ 123) ∨ (hk h a).1 = 109)) ∧ Q (.inr a) h) := wp_athrow (fun _ => rfl) rfl
theorem s422_16 : WP 422 0 16 [vI x, a1, a2] S h Q ↔ WP 422 0 17 [vI x, a1, a2] (vI x :: S) h Q := wp_iload rfl rfl
theorem s422_17 : WP 422 0 17 L [vI x] h Q ↔ Q (.inl (some (vI x))) h := wp_iret0 rfl rfl
end
